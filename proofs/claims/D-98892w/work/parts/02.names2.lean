/-! DECODE ROWS BY BYTES: one lemma an opcode; a method's code is cut into short pieces once, and a row reads its own piece alone. -/
set_option maxRecDepth 100000
/-- the code has just these bytes from pc on -/
def DkAt (code : ByteArray) (pc : Nat) (bs : List UInt8) : Prop := ∀ (j : Nat) (b : UInt8), bs[j]? = some b → code.data.toList[pc + j]? = some b
/-- the piece W has the bytes bs from its place j on -/
def dkIn (W : List UInt8) (j : Nat) (bs : List UInt8) : Bool := decide ((W.drop j).take bs.length = bs)
theorem dk_seg {l W T : List UInt8} {o o2 : Nat} (h : l.drop o = W ++ T) (n : Nat) (hn : W.length = n) (ho : o + n = o2) : l.drop o2 = T := by
  subst ho
  rw [← List.drop_drop, h, List.drop_left' hn]
theorem dk_at {code : ByteArray} {W T bs : List UInt8} {o pc : Nat} (h : code.data.toList.drop o = W ++ T) (j : Nat) (hp : o + j = pc) (hw : dkIn W j bs = true) : DkAt code pc bs := by
  subst hp
  intro i b e
  have h1 := of_decide_eq_true hw
  have h2 : i < bs.length := (List.getElem?_eq_some_iff.mp e).1
  have h3 : W[j + i]? = some b := by
    rw [← h1, List.getElem?_take, if_pos h2, List.getElem?_drop] at e
    exact e
  have h4 : j + i < W.length := (List.getElem?_eq_some_iff.mp h3).1
  have h5 : (code.data.toList.drop o)[j + i]? = some b := by
    rw [h, List.getElem?_append_left h4]
    exact h3
  rw [List.getElem?_drop, ← Nat.add_assoc] at h5
  exact h5
theorem dk_u1 {A : ByteArray} {p : Nat} {b : UInt8} (h : A.data.toList[p]? = some b) : (Reader.u1 : Reader DecodeError Nat) A p = .ok (b.toNat, p + 1) := by
  obtain ⟨h1, h2⟩ := List.getElem?_eq_some_iff.mp h
  have h3 : p < A.size := by simpa using h1
  have h4 : A[p]'h3 = b := h2
  have e : (Reader.u1 : Reader DecodeError Nat) A p = (if h : p < A.size then .ok (A[p].toNat, p + 1) else .error (HasTruncated.truncated p)) := by
    show (do if h : p < A.size then do set (p + 1); Pure.pure A[p].toNat else MonadExcept.throw (HasTruncated.truncated p) : Reader DecodeError Nat) A p = _
    by_cases hi : p < A.size
    · rw [dif_pos hi, dif_pos hi]; rfl
    · rw [dif_neg hi, dif_neg hi]; rfl
  rw [e, dif_pos h3, h4]
theorem dk_bind {α β : Type} {r : Reader DecodeError α} {f : α → Reader DecodeError β} {A : ByteArray} {p s : Nat} {a : α} (h : r A p = .ok (a, s)) : (r >>= f) A p = f a A s := by
  show (do let (a, s) ← r A p; f a A s : Except DecodeError (β × Nat)) = _
  rw [h]
  rfl
theorem dk_map {α β : Type} {r : Reader DecodeError α} {g : α → β} {A : ByteArray} {p s : Nat} {a : α} (h : r A p = .ok (a, s)) : (g <$> r) A p = .ok (g a, s) := by
  show (do let (a, s) ← r A p; .ok (g a, s) : Except DecodeError (β × Nat)) = _
  rw [h]
  rfl
theorem dk_u2 {A : ByteArray} {p : Nat} {a b : UInt8} (h : A.data.toList[p]? = some a) (h2 : A.data.toList[p + 1]? = some b) : (Reader.u2 : Reader DecodeError Nat) A p = .ok (a.toNat * 256 + b.toNat, p + 2) := by
  show (Reader.u1 >>= fun hi => Reader.u1 >>= fun lo => Pure.pure (hi * 256 + lo) : Reader DecodeError Nat) A p = _
  rw [dk_bind (dk_u1 h), dk_bind (dk_u1 h2)]
  rfl
theorem dk_of {code : ByteArray} {pc n : Nat} {i : Instr} (h : Decoder.instr pc code pc = .ok (i, pc + n)) : decode code pc = .ok (i, n) := by
  have e : decode code pc = (match Decoder.instr pc code pc with | .error x => .error x | .ok (j, s) => .ok (j, s - pc)) := by
    show (do let (j, s) ← Decoder.instr pc code pc; Pure.pure (j, s - pc) : Except DecodeError (Instr × Nat)) = _
    cases Decoder.instr pc code pc <;> rfl
  rw [e, h]
  show Except.ok (i, pc + n - pc) = _
  rw [Nat.add_sub_cancel_left]
theorem dk_1 {code : ByteArray} {pc : Nat} (h : DkAt code pc [1]) : decode code pc = .ok (.aconst_null, 1) := dk_of ((dk_bind (dk_u1 (h 0 _ rfl))).trans rfl)
theorem dk_2 {code : ByteArray} {pc : Nat} (h : DkAt code pc [2]) : decode code pc = .ok (.iconst (-1), 1) := dk_of ((dk_bind (dk_u1 (h 0 _ rfl))).trans rfl)
theorem dk_3 {code : ByteArray} {pc : Nat} (h : DkAt code pc [3]) : decode code pc = .ok (.iconst 0, 1) := dk_of ((dk_bind (dk_u1 (h 0 _ rfl))).trans rfl)
theorem dk_4 {code : ByteArray} {pc : Nat} (h : DkAt code pc [4]) : decode code pc = .ok (.iconst 1, 1) := dk_of ((dk_bind (dk_u1 (h 0 _ rfl))).trans rfl)
theorem dk_5 {code : ByteArray} {pc : Nat} (h : DkAt code pc [5]) : decode code pc = .ok (.iconst 2, 1) := dk_of ((dk_bind (dk_u1 (h 0 _ rfl))).trans rfl)
theorem dk_6 {code : ByteArray} {pc : Nat} (h : DkAt code pc [6]) : decode code pc = .ok (.iconst 3, 1) := dk_of ((dk_bind (dk_u1 (h 0 _ rfl))).trans rfl)
theorem dk_7 {code : ByteArray} {pc : Nat} (h : DkAt code pc [7]) : decode code pc = .ok (.iconst 4, 1) := dk_of ((dk_bind (dk_u1 (h 0 _ rfl))).trans rfl)
theorem dk_8 {code : ByteArray} {pc : Nat} (h : DkAt code pc [8]) : decode code pc = .ok (.iconst 5, 1) := dk_of ((dk_bind (dk_u1 (h 0 _ rfl))).trans rfl)
theorem dk_9 {code : ByteArray} {pc : Nat} (h : DkAt code pc [9]) : decode code pc = .ok (.lconst 0, 1) := dk_of ((dk_bind (dk_u1 (h 0 _ rfl))).trans rfl)
theorem dk_10 {code : ByteArray} {pc : Nat} (h : DkAt code pc [10]) : decode code pc = .ok (.lconst 1, 1) := dk_of ((dk_bind (dk_u1 (h 0 _ rfl))).trans rfl)
theorem dk_16 {code : ByteArray} {pc : Nat} (a : UInt8) (h : DkAt code pc [16, a]) : decode code pc = .ok (.bipush (Reader.signed 8 a.toNat), 2) := dk_of ((dk_bind (dk_u1 (h 0 _ rfl))).trans ((dk_bind (dk_map (dk_u1 (h 1 _ rfl)))).trans rfl))
theorem dk_17 {code : ByteArray} {pc : Nat} (a b : UInt8) (h : DkAt code pc [17, a, b]) : decode code pc = .ok (.sipush (Reader.signed 16 (a.toNat * 256 + b.toNat)), 3) := dk_of ((dk_bind (dk_u1 (h 0 _ rfl))).trans ((dk_bind (dk_map (dk_u2 (h 1 _ rfl) (h 2 _ rfl)))).trans rfl))
theorem dk_18 {code : ByteArray} {pc : Nat} (a : UInt8) (h : DkAt code pc [18, a]) : decode code pc = .ok (.ldc a.toNat, 2) := dk_of ((dk_bind (dk_u1 (h 0 _ rfl))).trans ((dk_bind (dk_u1 (h 1 _ rfl))).trans rfl))
theorem dk_19 {code : ByteArray} {pc : Nat} (a b : UInt8) (h : DkAt code pc [19, a, b]) : decode code pc = .ok (.ldc_w (a.toNat * 256 + b.toNat), 3) := dk_of ((dk_bind (dk_u1 (h 0 _ rfl))).trans ((dk_bind (dk_u2 (h 1 _ rfl) (h 2 _ rfl))).trans rfl))
theorem dk_20 {code : ByteArray} {pc : Nat} (a b : UInt8) (h : DkAt code pc [20, a, b]) : decode code pc = .ok (.ldc2_w (a.toNat * 256 + b.toNat), 3) := dk_of ((dk_bind (dk_u1 (h 0 _ rfl))).trans ((dk_bind (dk_u2 (h 1 _ rfl) (h 2 _ rfl))).trans rfl))
theorem dk_21 {code : ByteArray} {pc : Nat} (a : UInt8) (h : DkAt code pc [21, a]) : decode code pc = .ok (.iload a.toNat, 2) := dk_of ((dk_bind (dk_u1 (h 0 _ rfl))).trans ((dk_bind (dk_u1 (h 1 _ rfl))).trans rfl))
theorem dk_22 {code : ByteArray} {pc : Nat} (a : UInt8) (h : DkAt code pc [22, a]) : decode code pc = .ok (.lload a.toNat, 2) := dk_of ((dk_bind (dk_u1 (h 0 _ rfl))).trans ((dk_bind (dk_u1 (h 1 _ rfl))).trans rfl))
theorem dk_25 {code : ByteArray} {pc : Nat} (a : UInt8) (h : DkAt code pc [25, a]) : decode code pc = .ok (.aload a.toNat, 2) := dk_of ((dk_bind (dk_u1 (h 0 _ rfl))).trans ((dk_bind (dk_u1 (h 1 _ rfl))).trans rfl))
theorem dk_26 {code : ByteArray} {pc : Nat} (h : DkAt code pc [26]) : decode code pc = .ok (.iload_n 0, 1) := dk_of ((dk_bind (dk_u1 (h 0 _ rfl))).trans rfl)
theorem dk_27 {code : ByteArray} {pc : Nat} (h : DkAt code pc [27]) : decode code pc = .ok (.iload_n 1, 1) := dk_of ((dk_bind (dk_u1 (h 0 _ rfl))).trans rfl)
theorem dk_28 {code : ByteArray} {pc : Nat} (h : DkAt code pc [28]) : decode code pc = .ok (.iload_n 2, 1) := dk_of ((dk_bind (dk_u1 (h 0 _ rfl))).trans rfl)
theorem dk_29 {code : ByteArray} {pc : Nat} (h : DkAt code pc [29]) : decode code pc = .ok (.iload_n 3, 1) := dk_of ((dk_bind (dk_u1 (h 0 _ rfl))).trans rfl)
theorem dk_30 {code : ByteArray} {pc : Nat} (h : DkAt code pc [30]) : decode code pc = .ok (.lload_n 0, 1) := dk_of ((dk_bind (dk_u1 (h 0 _ rfl))).trans rfl)
theorem dk_31 {code : ByteArray} {pc : Nat} (h : DkAt code pc [31]) : decode code pc = .ok (.lload_n 1, 1) := dk_of ((dk_bind (dk_u1 (h 0 _ rfl))).trans rfl)
theorem dk_32 {code : ByteArray} {pc : Nat} (h : DkAt code pc [32]) : decode code pc = .ok (.lload_n 2, 1) := dk_of ((dk_bind (dk_u1 (h 0 _ rfl))).trans rfl)
theorem dk_33 {code : ByteArray} {pc : Nat} (h : DkAt code pc [33]) : decode code pc = .ok (.lload_n 3, 1) := dk_of ((dk_bind (dk_u1 (h 0 _ rfl))).trans rfl)
theorem dk_42 {code : ByteArray} {pc : Nat} (h : DkAt code pc [42]) : decode code pc = .ok (.aload_n 0, 1) := dk_of ((dk_bind (dk_u1 (h 0 _ rfl))).trans rfl)
theorem dk_43 {code : ByteArray} {pc : Nat} (h : DkAt code pc [43]) : decode code pc = .ok (.aload_n 1, 1) := dk_of ((dk_bind (dk_u1 (h 0 _ rfl))).trans rfl)
theorem dk_44 {code : ByteArray} {pc : Nat} (h : DkAt code pc [44]) : decode code pc = .ok (.aload_n 2, 1) := dk_of ((dk_bind (dk_u1 (h 0 _ rfl))).trans rfl)
theorem dk_45 {code : ByteArray} {pc : Nat} (h : DkAt code pc [45]) : decode code pc = .ok (.aload_n 3, 1) := dk_of ((dk_bind (dk_u1 (h 0 _ rfl))).trans rfl)
theorem dk_46 {code : ByteArray} {pc : Nat} (h : DkAt code pc [46]) : decode code pc = .ok (.iaload, 1) := dk_of ((dk_bind (dk_u1 (h 0 _ rfl))).trans rfl)
theorem dk_47 {code : ByteArray} {pc : Nat} (h : DkAt code pc [47]) : decode code pc = .ok (.laload, 1) := dk_of ((dk_bind (dk_u1 (h 0 _ rfl))).trans rfl)
theorem dk_50 {code : ByteArray} {pc : Nat} (h : DkAt code pc [50]) : decode code pc = .ok (.aaload, 1) := dk_of ((dk_bind (dk_u1 (h 0 _ rfl))).trans rfl)
theorem dk_51 {code : ByteArray} {pc : Nat} (h : DkAt code pc [51]) : decode code pc = .ok (.baload, 1) := dk_of ((dk_bind (dk_u1 (h 0 _ rfl))).trans rfl)
theorem dk_54 {code : ByteArray} {pc : Nat} (a : UInt8) (h : DkAt code pc [54, a]) : decode code pc = .ok (.istore a.toNat, 2) := dk_of ((dk_bind (dk_u1 (h 0 _ rfl))).trans ((dk_bind (dk_u1 (h 1 _ rfl))).trans rfl))
theorem dk_55 {code : ByteArray} {pc : Nat} (a : UInt8) (h : DkAt code pc [55, a]) : decode code pc = .ok (.lstore a.toNat, 2) := dk_of ((dk_bind (dk_u1 (h 0 _ rfl))).trans ((dk_bind (dk_u1 (h 1 _ rfl))).trans rfl))
theorem dk_58 {code : ByteArray} {pc : Nat} (a : UInt8) (h : DkAt code pc [58, a]) : decode code pc = .ok (.astore a.toNat, 2) := dk_of ((dk_bind (dk_u1 (h 0 _ rfl))).trans ((dk_bind (dk_u1 (h 1 _ rfl))).trans rfl))
theorem dk_59 {code : ByteArray} {pc : Nat} (h : DkAt code pc [59]) : decode code pc = .ok (.istore_n 0, 1) := dk_of ((dk_bind (dk_u1 (h 0 _ rfl))).trans rfl)
theorem dk_60 {code : ByteArray} {pc : Nat} (h : DkAt code pc [60]) : decode code pc = .ok (.istore_n 1, 1) := dk_of ((dk_bind (dk_u1 (h 0 _ rfl))).trans rfl)
theorem dk_61 {code : ByteArray} {pc : Nat} (h : DkAt code pc [61]) : decode code pc = .ok (.istore_n 2, 1) := dk_of ((dk_bind (dk_u1 (h 0 _ rfl))).trans rfl)
theorem dk_62 {code : ByteArray} {pc : Nat} (h : DkAt code pc [62]) : decode code pc = .ok (.istore_n 3, 1) := dk_of ((dk_bind (dk_u1 (h 0 _ rfl))).trans rfl)
theorem dk_64 {code : ByteArray} {pc : Nat} (h : DkAt code pc [64]) : decode code pc = .ok (.lstore_n 1, 1) := dk_of ((dk_bind (dk_u1 (h 0 _ rfl))).trans rfl)
theorem dk_65 {code : ByteArray} {pc : Nat} (h : DkAt code pc [65]) : decode code pc = .ok (.lstore_n 2, 1) := dk_of ((dk_bind (dk_u1 (h 0 _ rfl))).trans rfl)
theorem dk_76 {code : ByteArray} {pc : Nat} (h : DkAt code pc [76]) : decode code pc = .ok (.astore_n 1, 1) := dk_of ((dk_bind (dk_u1 (h 0 _ rfl))).trans rfl)
theorem dk_77 {code : ByteArray} {pc : Nat} (h : DkAt code pc [77]) : decode code pc = .ok (.astore_n 2, 1) := dk_of ((dk_bind (dk_u1 (h 0 _ rfl))).trans rfl)
theorem dk_78 {code : ByteArray} {pc : Nat} (h : DkAt code pc [78]) : decode code pc = .ok (.astore_n 3, 1) := dk_of ((dk_bind (dk_u1 (h 0 _ rfl))).trans rfl)
theorem dk_79 {code : ByteArray} {pc : Nat} (h : DkAt code pc [79]) : decode code pc = .ok (.iastore, 1) := dk_of ((dk_bind (dk_u1 (h 0 _ rfl))).trans rfl)
theorem dk_80 {code : ByteArray} {pc : Nat} (h : DkAt code pc [80]) : decode code pc = .ok (.lastore, 1) := dk_of ((dk_bind (dk_u1 (h 0 _ rfl))).trans rfl)
theorem dk_83 {code : ByteArray} {pc : Nat} (h : DkAt code pc [83]) : decode code pc = .ok (.aastore, 1) := dk_of ((dk_bind (dk_u1 (h 0 _ rfl))).trans rfl)
theorem dk_84 {code : ByteArray} {pc : Nat} (h : DkAt code pc [84]) : decode code pc = .ok (.bastore, 1) := dk_of ((dk_bind (dk_u1 (h 0 _ rfl))).trans rfl)
theorem dk_87 {code : ByteArray} {pc : Nat} (h : DkAt code pc [87]) : decode code pc = .ok (.pop, 1) := dk_of ((dk_bind (dk_u1 (h 0 _ rfl))).trans rfl)
theorem dk_89 {code : ByteArray} {pc : Nat} (h : DkAt code pc [89]) : decode code pc = .ok (.dup, 1) := dk_of ((dk_bind (dk_u1 (h 0 _ rfl))).trans rfl)
theorem dk_90 {code : ByteArray} {pc : Nat} (h : DkAt code pc [90]) : decode code pc = .ok (.dup_x1, 1) := dk_of ((dk_bind (dk_u1 (h 0 _ rfl))).trans rfl)
theorem dk_92 {code : ByteArray} {pc : Nat} (h : DkAt code pc [92]) : decode code pc = .ok (.dup2, 1) := dk_of ((dk_bind (dk_u1 (h 0 _ rfl))).trans rfl)
theorem dk_96 {code : ByteArray} {pc : Nat} (h : DkAt code pc [96]) : decode code pc = .ok (.iadd, 1) := dk_of ((dk_bind (dk_u1 (h 0 _ rfl))).trans rfl)
theorem dk_97 {code : ByteArray} {pc : Nat} (h : DkAt code pc [97]) : decode code pc = .ok (.ladd, 1) := dk_of ((dk_bind (dk_u1 (h 0 _ rfl))).trans rfl)
theorem dk_100 {code : ByteArray} {pc : Nat} (h : DkAt code pc [100]) : decode code pc = .ok (.isub, 1) := dk_of ((dk_bind (dk_u1 (h 0 _ rfl))).trans rfl)
theorem dk_101 {code : ByteArray} {pc : Nat} (h : DkAt code pc [101]) : decode code pc = .ok (.lsub, 1) := dk_of ((dk_bind (dk_u1 (h 0 _ rfl))).trans rfl)
theorem dk_104 {code : ByteArray} {pc : Nat} (h : DkAt code pc [104]) : decode code pc = .ok (.imul, 1) := dk_of ((dk_bind (dk_u1 (h 0 _ rfl))).trans rfl)
theorem dk_105 {code : ByteArray} {pc : Nat} (h : DkAt code pc [105]) : decode code pc = .ok (.lmul, 1) := dk_of ((dk_bind (dk_u1 (h 0 _ rfl))).trans rfl)
theorem dk_108 {code : ByteArray} {pc : Nat} (h : DkAt code pc [108]) : decode code pc = .ok (.idiv, 1) := dk_of ((dk_bind (dk_u1 (h 0 _ rfl))).trans rfl)
theorem dk_109 {code : ByteArray} {pc : Nat} (h : DkAt code pc [109]) : decode code pc = .ok (.ldiv, 1) := dk_of ((dk_bind (dk_u1 (h 0 _ rfl))).trans rfl)
theorem dk_112 {code : ByteArray} {pc : Nat} (h : DkAt code pc [112]) : decode code pc = .ok (.irem, 1) := dk_of ((dk_bind (dk_u1 (h 0 _ rfl))).trans rfl)
theorem dk_113 {code : ByteArray} {pc : Nat} (h : DkAt code pc [113]) : decode code pc = .ok (.lrem, 1) := dk_of ((dk_bind (dk_u1 (h 0 _ rfl))).trans rfl)
theorem dk_117 {code : ByteArray} {pc : Nat} (h : DkAt code pc [117]) : decode code pc = .ok (.lneg, 1) := dk_of ((dk_bind (dk_u1 (h 0 _ rfl))).trans rfl)
theorem dk_120 {code : ByteArray} {pc : Nat} (h : DkAt code pc [120]) : decode code pc = .ok (.ishl, 1) := dk_of ((dk_bind (dk_u1 (h 0 _ rfl))).trans rfl)
theorem dk_121 {code : ByteArray} {pc : Nat} (h : DkAt code pc [121]) : decode code pc = .ok (.lshl, 1) := dk_of ((dk_bind (dk_u1 (h 0 _ rfl))).trans rfl)
theorem dk_122 {code : ByteArray} {pc : Nat} (h : DkAt code pc [122]) : decode code pc = .ok (.ishr, 1) := dk_of ((dk_bind (dk_u1 (h 0 _ rfl))).trans rfl)
theorem dk_123 {code : ByteArray} {pc : Nat} (h : DkAt code pc [123]) : decode code pc = .ok (.lshr, 1) := dk_of ((dk_bind (dk_u1 (h 0 _ rfl))).trans rfl)
theorem dk_124 {code : ByteArray} {pc : Nat} (h : DkAt code pc [124]) : decode code pc = .ok (.iushr, 1) := dk_of ((dk_bind (dk_u1 (h 0 _ rfl))).trans rfl)
theorem dk_126 {code : ByteArray} {pc : Nat} (h : DkAt code pc [126]) : decode code pc = .ok (.iand, 1) := dk_of ((dk_bind (dk_u1 (h 0 _ rfl))).trans rfl)
theorem dk_127 {code : ByteArray} {pc : Nat} (h : DkAt code pc [127]) : decode code pc = .ok (.land, 1) := dk_of ((dk_bind (dk_u1 (h 0 _ rfl))).trans rfl)
theorem dk_128 {code : ByteArray} {pc : Nat} (h : DkAt code pc [128]) : decode code pc = .ok (.ior, 1) := dk_of ((dk_bind (dk_u1 (h 0 _ rfl))).trans rfl)
theorem dk_129 {code : ByteArray} {pc : Nat} (h : DkAt code pc [129]) : decode code pc = .ok (.lor, 1) := dk_of ((dk_bind (dk_u1 (h 0 _ rfl))).trans rfl)
theorem dk_130 {code : ByteArray} {pc : Nat} (h : DkAt code pc [130]) : decode code pc = .ok (.ixor, 1) := dk_of ((dk_bind (dk_u1 (h 0 _ rfl))).trans rfl)
theorem dk_132 {code : ByteArray} {pc : Nat} (a b : UInt8) (h : DkAt code pc [132, a, b]) : decode code pc = .ok (.iinc a.toNat (Reader.signed 8 b.toNat), 3) := dk_of ((dk_bind (dk_u1 (h 0 _ rfl))).trans ((dk_bind (dk_u1 (h 1 _ rfl))).trans ((dk_bind (dk_map (dk_u1 (h 2 _ rfl)))).trans rfl)))
theorem dk_133 {code : ByteArray} {pc : Nat} (h : DkAt code pc [133]) : decode code pc = .ok (.i2l, 1) := dk_of ((dk_bind (dk_u1 (h 0 _ rfl))).trans rfl)
theorem dk_136 {code : ByteArray} {pc : Nat} (h : DkAt code pc [136]) : decode code pc = .ok (.l2i, 1) := dk_of ((dk_bind (dk_u1 (h 0 _ rfl))).trans rfl)
theorem dk_145 {code : ByteArray} {pc : Nat} (h : DkAt code pc [145]) : decode code pc = .ok (.i2b, 1) := dk_of ((dk_bind (dk_u1 (h 0 _ rfl))).trans rfl)
theorem dk_146 {code : ByteArray} {pc : Nat} (h : DkAt code pc [146]) : decode code pc = .ok (.i2c, 1) := dk_of ((dk_bind (dk_u1 (h 0 _ rfl))).trans rfl)
theorem dk_148 {code : ByteArray} {pc : Nat} (h : DkAt code pc [148]) : decode code pc = .ok (.lcmp, 1) := dk_of ((dk_bind (dk_u1 (h 0 _ rfl))).trans rfl)
theorem dk_153 {code : ByteArray} {pc : Nat} (a b : UInt8) (h : DkAt code pc [153, a, b]) : decode code pc = .ok (.ifCond .eq (Reader.signed 16 (a.toNat * 256 + b.toNat)), 3) := dk_of ((dk_bind (dk_u1 (h 0 _ rfl))).trans ((dk_bind (dk_map (dk_u2 (h 1 _ rfl) (h 2 _ rfl)))).trans rfl))
theorem dk_154 {code : ByteArray} {pc : Nat} (a b : UInt8) (h : DkAt code pc [154, a, b]) : decode code pc = .ok (.ifCond .ne (Reader.signed 16 (a.toNat * 256 + b.toNat)), 3) := dk_of ((dk_bind (dk_u1 (h 0 _ rfl))).trans ((dk_bind (dk_map (dk_u2 (h 1 _ rfl) (h 2 _ rfl)))).trans rfl))
theorem dk_155 {code : ByteArray} {pc : Nat} (a b : UInt8) (h : DkAt code pc [155, a, b]) : decode code pc = .ok (.ifCond .lt (Reader.signed 16 (a.toNat * 256 + b.toNat)), 3) := dk_of ((dk_bind (dk_u1 (h 0 _ rfl))).trans ((dk_bind (dk_map (dk_u2 (h 1 _ rfl) (h 2 _ rfl)))).trans rfl))
theorem dk_156 {code : ByteArray} {pc : Nat} (a b : UInt8) (h : DkAt code pc [156, a, b]) : decode code pc = .ok (.ifCond .ge (Reader.signed 16 (a.toNat * 256 + b.toNat)), 3) := dk_of ((dk_bind (dk_u1 (h 0 _ rfl))).trans ((dk_bind (dk_map (dk_u2 (h 1 _ rfl) (h 2 _ rfl)))).trans rfl))
theorem dk_157 {code : ByteArray} {pc : Nat} (a b : UInt8) (h : DkAt code pc [157, a, b]) : decode code pc = .ok (.ifCond .gt (Reader.signed 16 (a.toNat * 256 + b.toNat)), 3) := dk_of ((dk_bind (dk_u1 (h 0 _ rfl))).trans ((dk_bind (dk_map (dk_u2 (h 1 _ rfl) (h 2 _ rfl)))).trans rfl))
theorem dk_158 {code : ByteArray} {pc : Nat} (a b : UInt8) (h : DkAt code pc [158, a, b]) : decode code pc = .ok (.ifCond .le (Reader.signed 16 (a.toNat * 256 + b.toNat)), 3) := dk_of ((dk_bind (dk_u1 (h 0 _ rfl))).trans ((dk_bind (dk_map (dk_u2 (h 1 _ rfl) (h 2 _ rfl)))).trans rfl))
theorem dk_159 {code : ByteArray} {pc : Nat} (a b : UInt8) (h : DkAt code pc [159, a, b]) : decode code pc = .ok (.if_icmp .eq (Reader.signed 16 (a.toNat * 256 + b.toNat)), 3) := dk_of ((dk_bind (dk_u1 (h 0 _ rfl))).trans ((dk_bind (dk_map (dk_u2 (h 1 _ rfl) (h 2 _ rfl)))).trans rfl))
theorem dk_160 {code : ByteArray} {pc : Nat} (a b : UInt8) (h : DkAt code pc [160, a, b]) : decode code pc = .ok (.if_icmp .ne (Reader.signed 16 (a.toNat * 256 + b.toNat)), 3) := dk_of ((dk_bind (dk_u1 (h 0 _ rfl))).trans ((dk_bind (dk_map (dk_u2 (h 1 _ rfl) (h 2 _ rfl)))).trans rfl))
theorem dk_161 {code : ByteArray} {pc : Nat} (a b : UInt8) (h : DkAt code pc [161, a, b]) : decode code pc = .ok (.if_icmp .lt (Reader.signed 16 (a.toNat * 256 + b.toNat)), 3) := dk_of ((dk_bind (dk_u1 (h 0 _ rfl))).trans ((dk_bind (dk_map (dk_u2 (h 1 _ rfl) (h 2 _ rfl)))).trans rfl))
theorem dk_162 {code : ByteArray} {pc : Nat} (a b : UInt8) (h : DkAt code pc [162, a, b]) : decode code pc = .ok (.if_icmp .ge (Reader.signed 16 (a.toNat * 256 + b.toNat)), 3) := dk_of ((dk_bind (dk_u1 (h 0 _ rfl))).trans ((dk_bind (dk_map (dk_u2 (h 1 _ rfl) (h 2 _ rfl)))).trans rfl))
theorem dk_163 {code : ByteArray} {pc : Nat} (a b : UInt8) (h : DkAt code pc [163, a, b]) : decode code pc = .ok (.if_icmp .gt (Reader.signed 16 (a.toNat * 256 + b.toNat)), 3) := dk_of ((dk_bind (dk_u1 (h 0 _ rfl))).trans ((dk_bind (dk_map (dk_u2 (h 1 _ rfl) (h 2 _ rfl)))).trans rfl))
theorem dk_164 {code : ByteArray} {pc : Nat} (a b : UInt8) (h : DkAt code pc [164, a, b]) : decode code pc = .ok (.if_icmp .le (Reader.signed 16 (a.toNat * 256 + b.toNat)), 3) := dk_of ((dk_bind (dk_u1 (h 0 _ rfl))).trans ((dk_bind (dk_map (dk_u2 (h 1 _ rfl) (h 2 _ rfl)))).trans rfl))
theorem dk_165 {code : ByteArray} {pc : Nat} (a b : UInt8) (h : DkAt code pc [165, a, b]) : decode code pc = .ok (.if_acmp .eq (Reader.signed 16 (a.toNat * 256 + b.toNat)), 3) := dk_of ((dk_bind (dk_u1 (h 0 _ rfl))).trans ((dk_bind (dk_map (dk_u2 (h 1 _ rfl) (h 2 _ rfl)))).trans rfl))
theorem dk_166 {code : ByteArray} {pc : Nat} (a b : UInt8) (h : DkAt code pc [166, a, b]) : decode code pc = .ok (.if_acmp .ne (Reader.signed 16 (a.toNat * 256 + b.toNat)), 3) := dk_of ((dk_bind (dk_u1 (h 0 _ rfl))).trans ((dk_bind (dk_map (dk_u2 (h 1 _ rfl) (h 2 _ rfl)))).trans rfl))
theorem dk_167 {code : ByteArray} {pc : Nat} (a b : UInt8) (h : DkAt code pc [167, a, b]) : decode code pc = .ok (.goto (Reader.signed 16 (a.toNat * 256 + b.toNat)), 3) := dk_of ((dk_bind (dk_u1 (h 0 _ rfl))).trans ((dk_bind (dk_map (dk_u2 (h 1 _ rfl) (h 2 _ rfl)))).trans rfl))
theorem dk_172 {code : ByteArray} {pc : Nat} (h : DkAt code pc [172]) : decode code pc = .ok (.ireturn, 1) := dk_of ((dk_bind (dk_u1 (h 0 _ rfl))).trans rfl)
theorem dk_173 {code : ByteArray} {pc : Nat} (h : DkAt code pc [173]) : decode code pc = .ok (.lreturn, 1) := dk_of ((dk_bind (dk_u1 (h 0 _ rfl))).trans rfl)
theorem dk_176 {code : ByteArray} {pc : Nat} (h : DkAt code pc [176]) : decode code pc = .ok (.areturn, 1) := dk_of ((dk_bind (dk_u1 (h 0 _ rfl))).trans rfl)
theorem dk_177 {code : ByteArray} {pc : Nat} (h : DkAt code pc [177]) : decode code pc = .ok (.return_, 1) := dk_of ((dk_bind (dk_u1 (h 0 _ rfl))).trans rfl)
theorem dk_178 {code : ByteArray} {pc : Nat} (a b : UInt8) (h : DkAt code pc [178, a, b]) : decode code pc = .ok (.getstatic (a.toNat * 256 + b.toNat), 3) := dk_of ((dk_bind (dk_u1 (h 0 _ rfl))).trans ((dk_bind (dk_u2 (h 1 _ rfl) (h 2 _ rfl))).trans rfl))
theorem dk_180 {code : ByteArray} {pc : Nat} (a b : UInt8) (h : DkAt code pc [180, a, b]) : decode code pc = .ok (.getfield (a.toNat * 256 + b.toNat), 3) := dk_of ((dk_bind (dk_u1 (h 0 _ rfl))).trans ((dk_bind (dk_u2 (h 1 _ rfl) (h 2 _ rfl))).trans rfl))
theorem dk_181 {code : ByteArray} {pc : Nat} (a b : UInt8) (h : DkAt code pc [181, a, b]) : decode code pc = .ok (.putfield (a.toNat * 256 + b.toNat), 3) := dk_of ((dk_bind (dk_u1 (h 0 _ rfl))).trans ((dk_bind (dk_u2 (h 1 _ rfl) (h 2 _ rfl))).trans rfl))
theorem dk_182 {code : ByteArray} {pc : Nat} (a b : UInt8) (h : DkAt code pc [182, a, b]) : decode code pc = .ok (.invokevirtual (a.toNat * 256 + b.toNat), 3) := dk_of ((dk_bind (dk_u1 (h 0 _ rfl))).trans ((dk_bind (dk_u2 (h 1 _ rfl) (h 2 _ rfl))).trans rfl))
theorem dk_183 {code : ByteArray} {pc : Nat} (a b : UInt8) (h : DkAt code pc [183, a, b]) : decode code pc = .ok (.invokespecial (a.toNat * 256 + b.toNat), 3) := dk_of ((dk_bind (dk_u1 (h 0 _ rfl))).trans ((dk_bind (dk_u2 (h 1 _ rfl) (h 2 _ rfl))).trans rfl))
theorem dk_184 {code : ByteArray} {pc : Nat} (a b : UInt8) (h : DkAt code pc [184, a, b]) : decode code pc = .ok (.invokestatic (a.toNat * 256 + b.toNat), 3) := dk_of ((dk_bind (dk_u1 (h 0 _ rfl))).trans ((dk_bind (dk_u2 (h 1 _ rfl) (h 2 _ rfl))).trans rfl))
theorem dk_187 {code : ByteArray} {pc : Nat} (a b : UInt8) (h : DkAt code pc [187, a, b]) : decode code pc = .ok (.new (a.toNat * 256 + b.toNat), 3) := dk_of ((dk_bind (dk_u1 (h 0 _ rfl))).trans ((dk_bind (dk_u2 (h 1 _ rfl) (h 2 _ rfl))).trans rfl))
theorem dk_188_4 {code : ByteArray} {pc : Nat} (h : DkAt code pc [188, 4]) : decode code pc = .ok (.newarray .boolean, 2) := dk_of ((dk_bind (dk_u1 (h 0 _ rfl))).trans ((dk_bind (dk_u1 (h 1 _ rfl))).trans rfl))
theorem dk_188_8 {code : ByteArray} {pc : Nat} (h : DkAt code pc [188, 8]) : decode code pc = .ok (.newarray .byte, 2) := dk_of ((dk_bind (dk_u1 (h 0 _ rfl))).trans ((dk_bind (dk_u1 (h 1 _ rfl))).trans rfl))
theorem dk_188_10 {code : ByteArray} {pc : Nat} (h : DkAt code pc [188, 10]) : decode code pc = .ok (.newarray .int, 2) := dk_of ((dk_bind (dk_u1 (h 0 _ rfl))).trans ((dk_bind (dk_u1 (h 1 _ rfl))).trans rfl))
theorem dk_188_11 {code : ByteArray} {pc : Nat} (h : DkAt code pc [188, 11]) : decode code pc = .ok (.newarray .long, 2) := dk_of ((dk_bind (dk_u1 (h 0 _ rfl))).trans ((dk_bind (dk_u1 (h 1 _ rfl))).trans rfl))
theorem dk_189 {code : ByteArray} {pc : Nat} (a b : UInt8) (h : DkAt code pc [189, a, b]) : decode code pc = .ok (.anewarray (a.toNat * 256 + b.toNat), 3) := dk_of ((dk_bind (dk_u1 (h 0 _ rfl))).trans ((dk_bind (dk_u2 (h 1 _ rfl) (h 2 _ rfl))).trans rfl))
theorem dk_190 {code : ByteArray} {pc : Nat} (h : DkAt code pc [190]) : decode code pc = .ok (.arraylength, 1) := dk_of ((dk_bind (dk_u1 (h 0 _ rfl))).trans rfl)
theorem dk_191 {code : ByteArray} {pc : Nat} (h : DkAt code pc [191]) : decode code pc = .ok (.athrow, 1) := dk_of ((dk_bind (dk_u1 (h 0 _ rfl))).trans rfl)
theorem dk_192 {code : ByteArray} {pc : Nat} (a b : UInt8) (h : DkAt code pc [192, a, b]) : decode code pc = .ok (.checkcast (a.toNat * 256 + b.toNat), 3) := dk_of ((dk_bind (dk_u1 (h 0 _ rfl))).trans ((dk_bind (dk_u2 (h 1 _ rfl) (h 2 _ rfl))).trans rfl))
theorem dk_198 {code : ByteArray} {pc : Nat} (a b : UInt8) (h : DkAt code pc [198, a, b]) : decode code pc = .ok (.ifnull (Reader.signed 16 (a.toNat * 256 + b.toNat)), 3) := dk_of ((dk_bind (dk_u1 (h 0 _ rfl))).trans ((dk_bind (dk_map (dk_u2 (h 1 _ rfl) (h 2 _ rfl)))).trans rfl))
theorem dk_199 {code : ByteArray} {pc : Nat} (a b : UInt8) (h : DkAt code pc [199, a, b]) : decode code pc = .ok (.ifnonnull (Reader.signed 16 (a.toNat * 256 + b.toNat)), 3) := dk_of ((dk_bind (dk_u1 (h 0 _ rfl))).trans ((dk_bind (dk_map (dk_u2 (h 1 _ rfl) (h 2 _ rfl)))).trans rfl))

/-! ShaveOfAnotherModel -/
set_option maxRecDepth 100000
def RX2 : String := "ShaveOfAnotherModel"
def TX2 : u_T := fun k => match k with
  | 0 => ("ShaveOfAnotherModel", "a", "[I", true)
  | 1 => ("ShaveOfAnotherModel", "image", "[I", true)
  | 2 => ("ShaveOfAnotherModel", "texts", "[I", true)
  | 3 => ("ShaveOfAnotherModel", "tape", "[I", true)
  | 4 => ("ShaveOfAnotherModel", "taped", "I", false)
  | 5 => ("ShaveOfAnotherModel", "fault", "I", false)
  | 6 => ("ShaveOfAnotherModel", "faultPlace", "I", false)
  | 7 => ("ShaveOfAnotherModel", "at", "I", false)
  | 8 => ("ShaveOfAnotherModel", "place", "I", false)
  | 9 => ("ShaveOfAnotherModel", "token", "I", false)
  | 10 => ("ShaveOfAnotherModel", "number", "I", false)
  | 11 => ("ShaveOfAnotherModel", "word", "J", false)
  | 12 => ("ShaveOfAnotherModel", "text0", "I", false)
  | 13 => ("ShaveOfAnotherModel", "written", "I", false)
  | 14 => ("ShaveOfAnotherModel", "sort0", "I", false)
  | 15 => ("ShaveOfAnotherModel", "pile", "[I", true)
  | 16 => ("ShaveOfAnotherModel", "piled", "I", false)
  | 17 => ("ShaveOfAnotherModel", "opens", "I", false)
  | 18 => ("ShaveOfAnotherModel", "isWhole", "Z", false)
  | 19 => ("ShaveOfAnotherModel", "once", "I", false)
  | 20 => ("ShaveOfAnotherModel", "named", "[I", true)
  | 21 => ("ShaveOfAnotherModel", "values", "[J", true)
  | 22 => ("ShaveOfAnotherModel", "truth", "[Z", true)
  | 23 => ("ShaveOfAnotherModel", "isWritten", "Z", false)
  | 24 => ("ShaveOfAnotherModel", "aside", "[I", true)
  | 25 => ("ShaveOfAnotherModel", "turn", "[I", true)
  | 26 => ("ShaveOfAnotherModel", "sittings", "[I", true)
  | 27 => ("ShaveOfAnotherModel", "ways", "I", false)
  | 28 => ("ShaveOfAnotherModel", "can", "[I", true)
  | 29 => ("ShaveOfAnotherModel", "least", "[I", true)
  | 30 => ("ShaveOfAnotherModel", "gets", "[I", true)
  | _ => ("ShaveOfAnotherModel", "slipped", "[J", true)
def tyX2 : Nat → FieldType := fun k => match k with
  | 0 => .array .int
  | 1 => .array .int
  | 2 => .array .int
  | 3 => .array .int
  | 4 => .int
  | 5 => .int
  | 6 => .int
  | 7 => .int
  | 8 => .int
  | 9 => .int
  | 10 => .int
  | 11 => .long
  | 12 => .int
  | 13 => .int
  | 14 => .int
  | 15 => .array .int
  | 16 => .int
  | 17 => .int
  | 18 => .boolean
  | 19 => .int
  | 20 => .array .int
  | 21 => .array .long
  | 22 => .array .boolean
  | 23 => .boolean
  | 24 => .array .int
  | 25 => .array .int
  | 26 => .array .int
  | 27 => .int
  | 28 => .array .int
  | 29 => .array .int
  | 30 => .array .int
  | _ => .array .long
abbrev wsX20 : List Cond := u_ws RX2 TX2 32
set_option maxRecDepth 100000 in
theorem nmX2 : ∀ a, a < 32 → ∀ b, b < 32 → a ≠ b → (TX2 a).2.1 ≠ (TX2 b).2.1 := by decide +kernel
set_option maxRecDepth 100000 in
theorem tyX2_ok : ∀ k, k < 32 → parseFieldDescriptor (TX2 k).2.2.1 = some (tyX2 k) := by decide +kernel
abbrev cX2_init : ByteArray := prog_19_method_1_code
def yX2_init : MethodName := ⟨RX2, "<init>", "()V"⟩
def dkwX2_init_10 : List UInt8 := [184, 0, 69, 177]
abbrev dktX2_init_10 : List UInt8 := dkwX2_init_10 ++ []
def dkwX2_init_9 : List UInt8 := [180, 0, 7, 16, 78, 27, 96, 16, 10, 79, 132, 1, 1, 167, 255, 236, 42, 180, 0, 7, 42, 180, 0, 13]
abbrev dktX2_init_9 : List UInt8 := dkwX2_init_9 ++ dktX2_init_10
def dkwX2_init_8 : List UInt8 := [17, 0, 206, 27, 96, 4, 79, 132, 1, 1, 167, 255, 224, 3, 60, 27, 16, 64, 162, 0, 20, 42]
abbrev dktX2_init_8 : List UInt8 := dkwX2_init_8 ++ dktX2_init_9
def dkwX2_init_7 : List UInt8 := [27, 16, 8, 162, 0, 32, 42, 180, 0, 7, 16, 50, 27, 96, 27, 4, 130, 79, 42, 180, 0, 7]
abbrev dktX2_init_7 : List UInt8 := dkwX2_init_7 ++ dktX2_init_8
def dkwX2_init_6 : List UInt8 := [188, 11, 181, 0, 66, 42, 180, 0, 7, 16, 8, 17, 0, 223, 79, 42, 180, 0, 7, 5, 2, 79, 3, 60]
abbrev dktX2_init_6 : List UInt8 := dkwX2_init_6 ++ dktX2_init_7
def dkwX2_init_5 : List UInt8 := [181, 0, 57, 42, 17, 1, 0, 188, 10, 181, 0, 60, 42, 16, 8, 188, 10, 181, 0, 63, 42, 16, 9]
abbrev dktX2_init_5 : List UInt8 := dkwX2_init_5 ++ dktX2_init_6
def dkwX2_init_4 : List UInt8 := [181, 0, 47, 42, 16, 8, 188, 10, 181, 0, 50, 42, 18, 53, 188, 10, 181, 0, 54, 42, 8, 188, 10]
abbrev dktX2_init_4 : List UInt8 := dkwX2_init_4 ++ dktX2_init_5
def dkwX2_init_3 : List UInt8 := [188, 11, 181, 0, 35, 42, 17, 1, 74, 188, 4, 181, 0, 39, 42, 4, 181, 0, 43, 42, 16, 50, 188, 10]
abbrev dktX2_init_3 : List UInt8 := dkwX2_init_3 ++ dktX2_init_4
def dkwX2_init_2 : List UInt8 := [181, 0, 26, 42, 17, 0, 160, 188, 10, 181, 0, 29, 42, 16, 7, 188, 10, 181, 0, 32, 42, 17, 1, 74]
abbrev dktX2_init_2 : List UInt8 := dkwX2_init_2 ++ dktX2_init_3
def dkwX2_init_1 : List UInt8 := [17, 10, 164, 188, 10, 181, 0, 16, 42, 17, 1, 44, 188, 10, 181, 0, 19, 42, 2, 181, 0, 22, 42, 2]
abbrev dktX2_init_1 : List UInt8 := dkwX2_init_1 ++ dktX2_init_2
def dkwX2_init_0 : List UInt8 := [42, 183, 0, 1, 42, 17, 7, 238, 188, 10, 181, 0, 7, 42, 17, 7, 238, 188, 10, 181, 0, 13, 42]
abbrev dktX2_init_0 : List UInt8 := dkwX2_init_0 ++ dktX2_init_1
theorem dksX2_init_0 : cX2_init.data.toList.drop 0 = dktX2_init_0 := by decide +kernel
theorem dksX2_init_1 : cX2_init.data.toList.drop 23 = dktX2_init_1 := dk_seg dksX2_init_0 23 rfl rfl
theorem dksX2_init_2 : cX2_init.data.toList.drop 47 = dktX2_init_2 := dk_seg dksX2_init_1 24 rfl rfl
theorem dksX2_init_3 : cX2_init.data.toList.drop 71 = dktX2_init_3 := dk_seg dksX2_init_2 24 rfl rfl
theorem dksX2_init_4 : cX2_init.data.toList.drop 95 = dktX2_init_4 := dk_seg dksX2_init_3 24 rfl rfl
theorem dksX2_init_5 : cX2_init.data.toList.drop 118 = dktX2_init_5 := dk_seg dksX2_init_4 23 rfl rfl
theorem dksX2_init_6 : cX2_init.data.toList.drop 141 = dktX2_init_6 := dk_seg dksX2_init_5 23 rfl rfl
theorem dksX2_init_7 : cX2_init.data.toList.drop 165 = dktX2_init_7 := dk_seg dksX2_init_6 24 rfl rfl
theorem dksX2_init_8 : cX2_init.data.toList.drop 187 = dktX2_init_8 := dk_seg dksX2_init_7 22 rfl rfl
theorem dksX2_init_9 : cX2_init.data.toList.drop 209 = dktX2_init_9 := dk_seg dksX2_init_8 22 rfl rfl
theorem dksX2_init_10 : cX2_init.data.toList.drop 233 = dktX2_init_10 := dk_seg dksX2_init_9 24 rfl rfl
theorem dX2_init_0 : decode cX2_init 0 = .ok (.aload_n 0, 1) := dk_42 (dk_at dksX2_init_0 0 rfl rfl)
theorem dX2_init_1 : decode cX2_init 1 = .ok (.invokespecial 1, 3) := dk_183 0 1 (dk_at dksX2_init_0 1 rfl rfl)
theorem dX2_init_4 : decode cX2_init 4 = .ok (.aload_n 0, 1) := dk_42 (dk_at dksX2_init_0 4 rfl rfl)
theorem dX2_init_5 : decode cX2_init 5 = .ok (.sipush 2030, 3) := dk_17 7 238 (dk_at dksX2_init_0 5 rfl rfl)
theorem dX2_init_8 : decode cX2_init 8 = .ok (.newarray .int, 2) := dk_188_10 (dk_at dksX2_init_0 8 rfl rfl)
theorem dX2_init_10 : decode cX2_init 10 = .ok (.putfield 7, 3) := dk_181 0 7 (dk_at dksX2_init_0 10 rfl rfl)
theorem dX2_init_13 : decode cX2_init 13 = .ok (.aload_n 0, 1) := dk_42 (dk_at dksX2_init_0 13 rfl rfl)
theorem dX2_init_14 : decode cX2_init 14 = .ok (.sipush 2030, 3) := dk_17 7 238 (dk_at dksX2_init_0 14 rfl rfl)
theorem dX2_init_17 : decode cX2_init 17 = .ok (.newarray .int, 2) := dk_188_10 (dk_at dksX2_init_0 17 rfl rfl)
theorem dX2_init_19 : decode cX2_init 19 = .ok (.putfield 13, 3) := dk_181 0 13 (dk_at dksX2_init_0 19 rfl rfl)
theorem dX2_init_22 : decode cX2_init 22 = .ok (.aload_n 0, 1) := dk_42 (dk_at dksX2_init_0 22 rfl rfl)
theorem dX2_init_23 : decode cX2_init 23 = .ok (.sipush 2724, 3) := dk_17 10 164 (dk_at dksX2_init_1 0 rfl rfl)
theorem dX2_init_26 : decode cX2_init 26 = .ok (.newarray .int, 2) := dk_188_10 (dk_at dksX2_init_1 3 rfl rfl)
theorem dX2_init_28 : decode cX2_init 28 = .ok (.putfield 16, 3) := dk_181 0 16 (dk_at dksX2_init_1 5 rfl rfl)
theorem dX2_init_31 : decode cX2_init 31 = .ok (.aload_n 0, 1) := dk_42 (dk_at dksX2_init_1 8 rfl rfl)
theorem dX2_init_32 : decode cX2_init 32 = .ok (.sipush 300, 3) := dk_17 1 44 (dk_at dksX2_init_1 9 rfl rfl)
theorem dX2_init_35 : decode cX2_init 35 = .ok (.newarray .int, 2) := dk_188_10 (dk_at dksX2_init_1 12 rfl rfl)
theorem dX2_init_37 : decode cX2_init 37 = .ok (.putfield 19, 3) := dk_181 0 19 (dk_at dksX2_init_1 14 rfl rfl)
theorem dX2_init_40 : decode cX2_init 40 = .ok (.aload_n 0, 1) := dk_42 (dk_at dksX2_init_1 17 rfl rfl)
theorem dX2_init_41 : decode cX2_init 41 = .ok (.iconst (-1), 1) := dk_2 (dk_at dksX2_init_1 18 rfl rfl)
theorem dX2_init_42 : decode cX2_init 42 = .ok (.putfield 22, 3) := dk_181 0 22 (dk_at dksX2_init_1 19 rfl rfl)
theorem dX2_init_45 : decode cX2_init 45 = .ok (.aload_n 0, 1) := dk_42 (dk_at dksX2_init_1 22 rfl rfl)
theorem dX2_init_46 : decode cX2_init 46 = .ok (.iconst (-1), 1) := dk_2 (dk_at dksX2_init_1 23 rfl rfl)
theorem dX2_init_47 : decode cX2_init 47 = .ok (.putfield 26, 3) := dk_181 0 26 (dk_at dksX2_init_2 0 rfl rfl)
theorem dX2_init_50 : decode cX2_init 50 = .ok (.aload_n 0, 1) := dk_42 (dk_at dksX2_init_2 3 rfl rfl)
theorem dX2_init_51 : decode cX2_init 51 = .ok (.sipush 160, 3) := dk_17 0 160 (dk_at dksX2_init_2 4 rfl rfl)
theorem dX2_init_54 : decode cX2_init 54 = .ok (.newarray .int, 2) := dk_188_10 (dk_at dksX2_init_2 7 rfl rfl)
theorem dX2_init_56 : decode cX2_init 56 = .ok (.putfield 29, 3) := dk_181 0 29 (dk_at dksX2_init_2 9 rfl rfl)
theorem dX2_init_59 : decode cX2_init 59 = .ok (.aload_n 0, 1) := dk_42 (dk_at dksX2_init_2 12 rfl rfl)
theorem dX2_init_60 : decode cX2_init 60 = .ok (.bipush 7, 2) := dk_16 7 (dk_at dksX2_init_2 13 rfl rfl)
theorem dX2_init_62 : decode cX2_init 62 = .ok (.newarray .int, 2) := dk_188_10 (dk_at dksX2_init_2 15 rfl rfl)
theorem dX2_init_64 : decode cX2_init 64 = .ok (.putfield 32, 3) := dk_181 0 32 (dk_at dksX2_init_2 17 rfl rfl)
theorem dX2_init_67 : decode cX2_init 67 = .ok (.aload_n 0, 1) := dk_42 (dk_at dksX2_init_2 20 rfl rfl)
theorem dX2_init_68 : decode cX2_init 68 = .ok (.sipush 330, 3) := dk_17 1 74 (dk_at dksX2_init_2 21 rfl rfl)
theorem dX2_init_71 : decode cX2_init 71 = .ok (.newarray .long, 2) := dk_188_11 (dk_at dksX2_init_3 0 rfl rfl)
theorem dX2_init_73 : decode cX2_init 73 = .ok (.putfield 35, 3) := dk_181 0 35 (dk_at dksX2_init_3 2 rfl rfl)
theorem dX2_init_76 : decode cX2_init 76 = .ok (.aload_n 0, 1) := dk_42 (dk_at dksX2_init_3 5 rfl rfl)
theorem dX2_init_77 : decode cX2_init 77 = .ok (.sipush 330, 3) := dk_17 1 74 (dk_at dksX2_init_3 6 rfl rfl)
theorem dX2_init_80 : decode cX2_init 80 = .ok (.newarray .boolean, 2) := dk_188_4 (dk_at dksX2_init_3 9 rfl rfl)
theorem dX2_init_82 : decode cX2_init 82 = .ok (.putfield 39, 3) := dk_181 0 39 (dk_at dksX2_init_3 11 rfl rfl)
theorem dX2_init_85 : decode cX2_init 85 = .ok (.aload_n 0, 1) := dk_42 (dk_at dksX2_init_3 14 rfl rfl)
theorem dX2_init_86 : decode cX2_init 86 = .ok (.iconst 1, 1) := dk_4 (dk_at dksX2_init_3 15 rfl rfl)
theorem dX2_init_87 : decode cX2_init 87 = .ok (.putfield 43, 3) := dk_181 0 43 (dk_at dksX2_init_3 16 rfl rfl)
theorem dX2_init_90 : decode cX2_init 90 = .ok (.aload_n 0, 1) := dk_42 (dk_at dksX2_init_3 19 rfl rfl)
theorem dX2_init_91 : decode cX2_init 91 = .ok (.bipush 50, 2) := dk_16 50 (dk_at dksX2_init_3 20 rfl rfl)
theorem dX2_init_93 : decode cX2_init 93 = .ok (.newarray .int, 2) := dk_188_10 (dk_at dksX2_init_3 22 rfl rfl)
theorem dX2_init_95 : decode cX2_init 95 = .ok (.putfield 47, 3) := dk_181 0 47 (dk_at dksX2_init_4 0 rfl rfl)
theorem dX2_init_98 : decode cX2_init 98 = .ok (.aload_n 0, 1) := dk_42 (dk_at dksX2_init_4 3 rfl rfl)
theorem dX2_init_99 : decode cX2_init 99 = .ok (.bipush 8, 2) := dk_16 8 (dk_at dksX2_init_4 4 rfl rfl)
theorem dX2_init_101 : decode cX2_init 101 = .ok (.newarray .int, 2) := dk_188_10 (dk_at dksX2_init_4 6 rfl rfl)
theorem dX2_init_103 : decode cX2_init 103 = .ok (.putfield 50, 3) := dk_181 0 50 (dk_at dksX2_init_4 8 rfl rfl)
theorem dX2_init_106 : decode cX2_init 106 = .ok (.aload_n 0, 1) := dk_42 (dk_at dksX2_init_4 11 rfl rfl)
theorem dX2_init_107 : decode cX2_init 107 = .ok (.ldc 53, 2) := dk_18 53 (dk_at dksX2_init_4 12 rfl rfl)
theorem dX2_init_109 : decode cX2_init 109 = .ok (.newarray .int, 2) := dk_188_10 (dk_at dksX2_init_4 14 rfl rfl)
theorem dX2_init_111 : decode cX2_init 111 = .ok (.putfield 54, 3) := dk_181 0 54 (dk_at dksX2_init_4 16 rfl rfl)
theorem dX2_init_114 : decode cX2_init 114 = .ok (.aload_n 0, 1) := dk_42 (dk_at dksX2_init_4 19 rfl rfl)
theorem dX2_init_115 : decode cX2_init 115 = .ok (.iconst 5, 1) := dk_8 (dk_at dksX2_init_4 20 rfl rfl)
theorem dX2_init_116 : decode cX2_init 116 = .ok (.newarray .int, 2) := dk_188_10 (dk_at dksX2_init_4 21 rfl rfl)
theorem dX2_init_118 : decode cX2_init 118 = .ok (.putfield 57, 3) := dk_181 0 57 (dk_at dksX2_init_5 0 rfl rfl)
theorem dX2_init_121 : decode cX2_init 121 = .ok (.aload_n 0, 1) := dk_42 (dk_at dksX2_init_5 3 rfl rfl)
theorem dX2_init_122 : decode cX2_init 122 = .ok (.sipush 256, 3) := dk_17 1 0 (dk_at dksX2_init_5 4 rfl rfl)
theorem dX2_init_125 : decode cX2_init 125 = .ok (.newarray .int, 2) := dk_188_10 (dk_at dksX2_init_5 7 rfl rfl)
theorem dX2_init_127 : decode cX2_init 127 = .ok (.putfield 60, 3) := dk_181 0 60 (dk_at dksX2_init_5 9 rfl rfl)
theorem dX2_init_130 : decode cX2_init 130 = .ok (.aload_n 0, 1) := dk_42 (dk_at dksX2_init_5 12 rfl rfl)
theorem dX2_init_131 : decode cX2_init 131 = .ok (.bipush 8, 2) := dk_16 8 (dk_at dksX2_init_5 13 rfl rfl)
theorem dX2_init_133 : decode cX2_init 133 = .ok (.newarray .int, 2) := dk_188_10 (dk_at dksX2_init_5 15 rfl rfl)
theorem dX2_init_135 : decode cX2_init 135 = .ok (.putfield 63, 3) := dk_181 0 63 (dk_at dksX2_init_5 17 rfl rfl)
theorem dX2_init_138 : decode cX2_init 138 = .ok (.aload_n 0, 1) := dk_42 (dk_at dksX2_init_5 20 rfl rfl)
theorem dX2_init_139 : decode cX2_init 139 = .ok (.bipush 9, 2) := dk_16 9 (dk_at dksX2_init_5 21 rfl rfl)
theorem dX2_init_141 : decode cX2_init 141 = .ok (.newarray .long, 2) := dk_188_11 (dk_at dksX2_init_6 0 rfl rfl)
theorem dX2_init_143 : decode cX2_init 143 = .ok (.putfield 66, 3) := dk_181 0 66 (dk_at dksX2_init_6 2 rfl rfl)
theorem dX2_init_146 : decode cX2_init 146 = .ok (.aload_n 0, 1) := dk_42 (dk_at dksX2_init_6 5 rfl rfl)
theorem dX2_init_147 : decode cX2_init 147 = .ok (.getfield 7, 3) := dk_180 0 7 (dk_at dksX2_init_6 6 rfl rfl)
theorem dX2_init_150 : decode cX2_init 150 = .ok (.bipush 8, 2) := dk_16 8 (dk_at dksX2_init_6 9 rfl rfl)
theorem dX2_init_152 : decode cX2_init 152 = .ok (.sipush 223, 3) := dk_17 0 223 (dk_at dksX2_init_6 11 rfl rfl)
theorem dX2_init_155 : decode cX2_init 155 = .ok (.iastore, 1) := dk_79 (dk_at dksX2_init_6 14 rfl rfl)
theorem dX2_init_156 : decode cX2_init 156 = .ok (.aload_n 0, 1) := dk_42 (dk_at dksX2_init_6 15 rfl rfl)
theorem dX2_init_157 : decode cX2_init 157 = .ok (.getfield 7, 3) := dk_180 0 7 (dk_at dksX2_init_6 16 rfl rfl)
theorem dX2_init_160 : decode cX2_init 160 = .ok (.iconst 2, 1) := dk_5 (dk_at dksX2_init_6 19 rfl rfl)
theorem dX2_init_161 : decode cX2_init 161 = .ok (.iconst (-1), 1) := dk_2 (dk_at dksX2_init_6 20 rfl rfl)
theorem dX2_init_162 : decode cX2_init 162 = .ok (.iastore, 1) := dk_79 (dk_at dksX2_init_6 21 rfl rfl)
theorem dX2_init_163 : decode cX2_init 163 = .ok (.iconst 0, 1) := dk_3 (dk_at dksX2_init_6 22 rfl rfl)
theorem dX2_init_164 : decode cX2_init 164 = .ok (.istore_n 1, 1) := dk_60 (dk_at dksX2_init_6 23 rfl rfl)
theorem dX2_init_165 : decode cX2_init 165 = .ok (.iload_n 1, 1) := dk_27 (dk_at dksX2_init_7 0 rfl rfl)
theorem dX2_init_166 : decode cX2_init 166 = .ok (.bipush 8, 2) := dk_16 8 (dk_at dksX2_init_7 1 rfl rfl)
theorem dX2_init_168 : decode cX2_init 168 = .ok (.if_icmp .ge 32, 3) := dk_162 0 32 (dk_at dksX2_init_7 3 rfl rfl)
theorem dX2_init_171 : decode cX2_init 171 = .ok (.aload_n 0, 1) := dk_42 (dk_at dksX2_init_7 6 rfl rfl)
theorem dX2_init_172 : decode cX2_init 172 = .ok (.getfield 7, 3) := dk_180 0 7 (dk_at dksX2_init_7 7 rfl rfl)
theorem dX2_init_175 : decode cX2_init 175 = .ok (.bipush 50, 2) := dk_16 50 (dk_at dksX2_init_7 10 rfl rfl)
theorem dX2_init_177 : decode cX2_init 177 = .ok (.iload_n 1, 1) := dk_27 (dk_at dksX2_init_7 12 rfl rfl)
theorem dX2_init_178 : decode cX2_init 178 = .ok (.iadd, 1) := dk_96 (dk_at dksX2_init_7 13 rfl rfl)
theorem dX2_init_179 : decode cX2_init 179 = .ok (.iload_n 1, 1) := dk_27 (dk_at dksX2_init_7 14 rfl rfl)
theorem dX2_init_180 : decode cX2_init 180 = .ok (.iconst 1, 1) := dk_4 (dk_at dksX2_init_7 15 rfl rfl)
theorem dX2_init_181 : decode cX2_init 181 = .ok (.ixor, 1) := dk_130 (dk_at dksX2_init_7 16 rfl rfl)
theorem dX2_init_182 : decode cX2_init 182 = .ok (.iastore, 1) := dk_79 (dk_at dksX2_init_7 17 rfl rfl)
theorem dX2_init_183 : decode cX2_init 183 = .ok (.aload_n 0, 1) := dk_42 (dk_at dksX2_init_7 18 rfl rfl)
theorem dX2_init_184 : decode cX2_init 184 = .ok (.getfield 7, 3) := dk_180 0 7 (dk_at dksX2_init_7 19 rfl rfl)
theorem dX2_init_187 : decode cX2_init 187 = .ok (.sipush 206, 3) := dk_17 0 206 (dk_at dksX2_init_8 0 rfl rfl)
theorem dX2_init_190 : decode cX2_init 190 = .ok (.iload_n 1, 1) := dk_27 (dk_at dksX2_init_8 3 rfl rfl)
theorem dX2_init_191 : decode cX2_init 191 = .ok (.iadd, 1) := dk_96 (dk_at dksX2_init_8 4 rfl rfl)
theorem dX2_init_192 : decode cX2_init 192 = .ok (.iconst 1, 1) := dk_4 (dk_at dksX2_init_8 5 rfl rfl)
theorem dX2_init_193 : decode cX2_init 193 = .ok (.iastore, 1) := dk_79 (dk_at dksX2_init_8 6 rfl rfl)
theorem dX2_init_194 : decode cX2_init 194 = .ok (.iinc 1 1, 3) := dk_132 1 1 (dk_at dksX2_init_8 7 rfl rfl)
theorem dX2_init_197 : decode cX2_init 197 = .ok (.goto (-32), 3) := dk_167 255 224 (dk_at dksX2_init_8 10 rfl rfl)
theorem dX2_init_200 : decode cX2_init 200 = .ok (.iconst 0, 1) := dk_3 (dk_at dksX2_init_8 13 rfl rfl)
theorem dX2_init_201 : decode cX2_init 201 = .ok (.istore_n 1, 1) := dk_60 (dk_at dksX2_init_8 14 rfl rfl)
theorem dX2_init_202 : decode cX2_init 202 = .ok (.iload_n 1, 1) := dk_27 (dk_at dksX2_init_8 15 rfl rfl)
theorem dX2_init_203 : decode cX2_init 203 = .ok (.bipush 64, 2) := dk_16 64 (dk_at dksX2_init_8 16 rfl rfl)
theorem dX2_init_205 : decode cX2_init 205 = .ok (.if_icmp .ge 20, 3) := dk_162 0 20 (dk_at dksX2_init_8 18 rfl rfl)
theorem dX2_init_208 : decode cX2_init 208 = .ok (.aload_n 0, 1) := dk_42 (dk_at dksX2_init_8 21 rfl rfl)
theorem dX2_init_209 : decode cX2_init 209 = .ok (.getfield 7, 3) := dk_180 0 7 (dk_at dksX2_init_9 0 rfl rfl)
theorem dX2_init_212 : decode cX2_init 212 = .ok (.bipush 78, 2) := dk_16 78 (dk_at dksX2_init_9 3 rfl rfl)
theorem dX2_init_214 : decode cX2_init 214 = .ok (.iload_n 1, 1) := dk_27 (dk_at dksX2_init_9 5 rfl rfl)
theorem dX2_init_215 : decode cX2_init 215 = .ok (.iadd, 1) := dk_96 (dk_at dksX2_init_9 6 rfl rfl)
theorem dX2_init_216 : decode cX2_init 216 = .ok (.bipush 10, 2) := dk_16 10 (dk_at dksX2_init_9 7 rfl rfl)
theorem dX2_init_218 : decode cX2_init 218 = .ok (.iastore, 1) := dk_79 (dk_at dksX2_init_9 9 rfl rfl)
theorem dX2_init_219 : decode cX2_init 219 = .ok (.iinc 1 1, 3) := dk_132 1 1 (dk_at dksX2_init_9 10 rfl rfl)
theorem dX2_init_222 : decode cX2_init 222 = .ok (.goto (-20), 3) := dk_167 255 236 (dk_at dksX2_init_9 13 rfl rfl)
theorem dX2_init_225 : decode cX2_init 225 = .ok (.aload_n 0, 1) := dk_42 (dk_at dksX2_init_9 16 rfl rfl)
theorem dX2_init_226 : decode cX2_init 226 = .ok (.getfield 7, 3) := dk_180 0 7 (dk_at dksX2_init_9 17 rfl rfl)
theorem dX2_init_229 : decode cX2_init 229 = .ok (.aload_n 0, 1) := dk_42 (dk_at dksX2_init_9 20 rfl rfl)
theorem dX2_init_230 : decode cX2_init 230 = .ok (.getfield 13, 3) := dk_180 0 13 (dk_at dksX2_init_9 21 rfl rfl)
theorem dX2_init_233 : decode cX2_init 233 = .ok (.invokestatic 69, 3) := dk_184 0 69 (dk_at dksX2_init_10 0 rfl rfl)
theorem dX2_init_236 : decode cX2_init 236 = .ok (.return_, 1) := dk_177 (dk_at dksX2_init_10 3 rfl rfl)
abbrev cX2_copy : ByteArray := prog_19_method_2_code
def yX2_copy : MethodName := ⟨RX2, "copy", "([I[I)V"⟩
def dkwX2_copy_0 : List UInt8 := [3, 61, 28, 17, 7, 238, 162, 0, 15, 43, 28, 42, 28, 46, 79, 132, 2, 1, 167, 255, 240, 177]
abbrev dktX2_copy_0 : List UInt8 := dkwX2_copy_0 ++ []
theorem dksX2_copy_0 : cX2_copy.data.toList.drop 0 = dktX2_copy_0 := by decide +kernel
theorem dX2_copy_0 : decode cX2_copy 0 = .ok (.iconst 0, 1) := dk_3 (dk_at dksX2_copy_0 0 rfl rfl)
theorem dX2_copy_1 : decode cX2_copy 1 = .ok (.istore_n 2, 1) := dk_61 (dk_at dksX2_copy_0 1 rfl rfl)
theorem dX2_copy_2 : decode cX2_copy 2 = .ok (.iload_n 2, 1) := dk_28 (dk_at dksX2_copy_0 2 rfl rfl)
theorem dX2_copy_3 : decode cX2_copy 3 = .ok (.sipush 2030, 3) := dk_17 7 238 (dk_at dksX2_copy_0 3 rfl rfl)
theorem dX2_copy_6 : decode cX2_copy 6 = .ok (.if_icmp .ge 15, 3) := dk_162 0 15 (dk_at dksX2_copy_0 6 rfl rfl)
theorem dX2_copy_9 : decode cX2_copy 9 = .ok (.aload_n 1, 1) := dk_43 (dk_at dksX2_copy_0 9 rfl rfl)
theorem dX2_copy_10 : decode cX2_copy 10 = .ok (.iload_n 2, 1) := dk_28 (dk_at dksX2_copy_0 10 rfl rfl)
theorem dX2_copy_11 : decode cX2_copy 11 = .ok (.aload_n 0, 1) := dk_42 (dk_at dksX2_copy_0 11 rfl rfl)
theorem dX2_copy_12 : decode cX2_copy 12 = .ok (.iload_n 2, 1) := dk_28 (dk_at dksX2_copy_0 12 rfl rfl)
theorem dX2_copy_13 : decode cX2_copy 13 = .ok (.iaload, 1) := dk_46 (dk_at dksX2_copy_0 13 rfl rfl)
theorem dX2_copy_14 : decode cX2_copy 14 = .ok (.iastore, 1) := dk_79 (dk_at dksX2_copy_0 14 rfl rfl)
theorem dX2_copy_15 : decode cX2_copy 15 = .ok (.iinc 2 1, 3) := dk_132 2 1 (dk_at dksX2_copy_0 15 rfl rfl)
theorem dX2_copy_18 : decode cX2_copy 18 = .ok (.goto (-16), 3) := dk_167 255 240 (dk_at dksX2_copy_0 18 rfl rfl)
theorem dX2_copy_21 : decode cX2_copy 21 = .ok (.return_, 1) := dk_177 (dk_at dksX2_copy_0 21 rfl rfl)
abbrev cX2_person : ByteArray := prog_19_method_14_code
def yX2_person : MethodName := ⟨RX2, "person", "(II)I"⟩
def dkwX2_person_2 : List UInt8 := [29, 7, 28, 182, 0, 84, 42, 29, 182, 0, 88, 42, 180, 0, 7, 3, 92, 46, 4, 96, 79, 29, 172]
abbrev dktX2_person_2 : List UInt8 := dkwX2_person_2 ++ []
def dkwX2_person_1 : List UInt8 := [3, 46, 16, 8, 160, 0, 5, 2, 172, 42, 180, 0, 7, 3, 46, 62, 42, 29, 6, 27, 182, 0, 84, 42]
abbrev dktX2_person_1 : List UInt8 := dkwX2_person_1 ++ dktX2_person_2
def dkwX2_person_0 : List UInt8 := [27, 3, 16, 99, 184, 0, 73, 153, 0, 24, 28, 3, 16, 9, 184, 0, 73, 153, 0, 14, 42, 180, 0, 7]
abbrev dktX2_person_0 : List UInt8 := dkwX2_person_0 ++ dktX2_person_1
theorem dksX2_person_0 : cX2_person.data.toList.drop 0 = dktX2_person_0 := by decide +kernel
theorem dksX2_person_1 : cX2_person.data.toList.drop 24 = dktX2_person_1 := dk_seg dksX2_person_0 24 rfl rfl
theorem dksX2_person_2 : cX2_person.data.toList.drop 48 = dktX2_person_2 := dk_seg dksX2_person_1 24 rfl rfl
theorem dX2_person_0 : decode cX2_person 0 = .ok (.iload_n 1, 1) := dk_27 (dk_at dksX2_person_0 0 rfl rfl)
theorem dX2_person_1 : decode cX2_person 1 = .ok (.iconst 0, 1) := dk_3 (dk_at dksX2_person_0 1 rfl rfl)
theorem dX2_person_2 : decode cX2_person 2 = .ok (.bipush 99, 2) := dk_16 99 (dk_at dksX2_person_0 2 rfl rfl)
theorem dX2_person_4 : decode cX2_person 4 = .ok (.invokestatic 73, 3) := dk_184 0 73 (dk_at dksX2_person_0 4 rfl rfl)
theorem dX2_person_7 : decode cX2_person 7 = .ok (.ifCond .eq 24, 3) := dk_153 0 24 (dk_at dksX2_person_0 7 rfl rfl)
theorem dX2_person_10 : decode cX2_person 10 = .ok (.iload_n 2, 1) := dk_28 (dk_at dksX2_person_0 10 rfl rfl)
theorem dX2_person_11 : decode cX2_person 11 = .ok (.iconst 0, 1) := dk_3 (dk_at dksX2_person_0 11 rfl rfl)
theorem dX2_person_12 : decode cX2_person 12 = .ok (.bipush 9, 2) := dk_16 9 (dk_at dksX2_person_0 12 rfl rfl)
theorem dX2_person_14 : decode cX2_person 14 = .ok (.invokestatic 73, 3) := dk_184 0 73 (dk_at dksX2_person_0 14 rfl rfl)
theorem dX2_person_17 : decode cX2_person 17 = .ok (.ifCond .eq 14, 3) := dk_153 0 14 (dk_at dksX2_person_0 17 rfl rfl)
theorem dX2_person_20 : decode cX2_person 20 = .ok (.aload_n 0, 1) := dk_42 (dk_at dksX2_person_0 20 rfl rfl)
theorem dX2_person_21 : decode cX2_person 21 = .ok (.getfield 7, 3) := dk_180 0 7 (dk_at dksX2_person_0 21 rfl rfl)
theorem dX2_person_24 : decode cX2_person 24 = .ok (.iconst 0, 1) := dk_3 (dk_at dksX2_person_1 0 rfl rfl)
theorem dX2_person_25 : decode cX2_person 25 = .ok (.iaload, 1) := dk_46 (dk_at dksX2_person_1 1 rfl rfl)
theorem dX2_person_26 : decode cX2_person 26 = .ok (.bipush 8, 2) := dk_16 8 (dk_at dksX2_person_1 2 rfl rfl)
theorem dX2_person_28 : decode cX2_person 28 = .ok (.if_icmp .ne 5, 3) := dk_160 0 5 (dk_at dksX2_person_1 4 rfl rfl)
theorem dX2_person_31 : decode cX2_person 31 = .ok (.iconst (-1), 1) := dk_2 (dk_at dksX2_person_1 7 rfl rfl)
theorem dX2_person_32 : decode cX2_person 32 = .ok (.ireturn, 1) := dk_172 (dk_at dksX2_person_1 8 rfl rfl)
theorem dX2_person_33 : decode cX2_person 33 = .ok (.aload_n 0, 1) := dk_42 (dk_at dksX2_person_1 9 rfl rfl)
theorem dX2_person_34 : decode cX2_person 34 = .ok (.getfield 7, 3) := dk_180 0 7 (dk_at dksX2_person_1 10 rfl rfl)
theorem dX2_person_37 : decode cX2_person 37 = .ok (.iconst 0, 1) := dk_3 (dk_at dksX2_person_1 13 rfl rfl)
theorem dX2_person_38 : decode cX2_person 38 = .ok (.iaload, 1) := dk_46 (dk_at dksX2_person_1 14 rfl rfl)
theorem dX2_person_39 : decode cX2_person 39 = .ok (.istore_n 3, 1) := dk_62 (dk_at dksX2_person_1 15 rfl rfl)
theorem dX2_person_40 : decode cX2_person 40 = .ok (.aload_n 0, 1) := dk_42 (dk_at dksX2_person_1 16 rfl rfl)
theorem dX2_person_41 : decode cX2_person 41 = .ok (.iload_n 3, 1) := dk_29 (dk_at dksX2_person_1 17 rfl rfl)
theorem dX2_person_42 : decode cX2_person 42 = .ok (.iconst 3, 1) := dk_6 (dk_at dksX2_person_1 18 rfl rfl)
theorem dX2_person_43 : decode cX2_person 43 = .ok (.iload_n 1, 1) := dk_27 (dk_at dksX2_person_1 19 rfl rfl)
theorem dX2_person_44 : decode cX2_person 44 = .ok (.invokevirtual 84, 3) := dk_182 0 84 (dk_at dksX2_person_1 20 rfl rfl)
theorem dX2_person_47 : decode cX2_person 47 = .ok (.aload_n 0, 1) := dk_42 (dk_at dksX2_person_1 23 rfl rfl)
theorem dX2_person_48 : decode cX2_person 48 = .ok (.iload_n 3, 1) := dk_29 (dk_at dksX2_person_2 0 rfl rfl)
theorem dX2_person_49 : decode cX2_person 49 = .ok (.iconst 4, 1) := dk_7 (dk_at dksX2_person_2 1 rfl rfl)
theorem dX2_person_50 : decode cX2_person 50 = .ok (.iload_n 2, 1) := dk_28 (dk_at dksX2_person_2 2 rfl rfl)
theorem dX2_person_51 : decode cX2_person 51 = .ok (.invokevirtual 84, 3) := dk_182 0 84 (dk_at dksX2_person_2 3 rfl rfl)
theorem dX2_person_54 : decode cX2_person 54 = .ok (.aload_n 0, 1) := dk_42 (dk_at dksX2_person_2 6 rfl rfl)
theorem dX2_person_55 : decode cX2_person 55 = .ok (.iload_n 3, 1) := dk_29 (dk_at dksX2_person_2 7 rfl rfl)
theorem dX2_person_56 : decode cX2_person 56 = .ok (.invokevirtual 88, 3) := dk_182 0 88 (dk_at dksX2_person_2 8 rfl rfl)
theorem dX2_person_59 : decode cX2_person 59 = .ok (.aload_n 0, 1) := dk_42 (dk_at dksX2_person_2 11 rfl rfl)
theorem dX2_person_60 : decode cX2_person 60 = .ok (.getfield 7, 3) := dk_180 0 7 (dk_at dksX2_person_2 12 rfl rfl)
theorem dX2_person_63 : decode cX2_person 63 = .ok (.iconst 0, 1) := dk_3 (dk_at dksX2_person_2 15 rfl rfl)
theorem dX2_person_64 : decode cX2_person 64 = .ok (.dup2, 1) := dk_92 (dk_at dksX2_person_2 16 rfl rfl)
theorem dX2_person_65 : decode cX2_person 65 = .ok (.iaload, 1) := dk_46 (dk_at dksX2_person_2 17 rfl rfl)
theorem dX2_person_66 : decode cX2_person 66 = .ok (.iconst 1, 1) := dk_4 (dk_at dksX2_person_2 18 rfl rfl)
theorem dX2_person_67 : decode cX2_person 67 = .ok (.iadd, 1) := dk_96 (dk_at dksX2_person_2 19 rfl rfl)
theorem dX2_person_68 : decode cX2_person 68 = .ok (.iastore, 1) := dk_79 (dk_at dksX2_person_2 20 rfl rfl)
theorem dX2_person_69 : decode cX2_person 69 = .ok (.iload_n 3, 1) := dk_29 (dk_at dksX2_person_2 21 rfl rfl)
theorem dX2_person_70 : decode cX2_person 70 = .ok (.ireturn, 1) := dk_172 (dk_at dksX2_person_2 22 rfl rfl)
abbrev cX2_isIn : ByteArray := prog_19_method_3_code
def yX2_isIn : MethodName := ⟨RX2, "isIn", "(III)Z"⟩
def dkwX2_isIn_0 : List UInt8 := [26, 27, 161, 0, 12, 26, 28, 163, 0, 7, 4, 167, 0, 4, 3, 172]
abbrev dktX2_isIn_0 : List UInt8 := dkwX2_isIn_0 ++ []
theorem dksX2_isIn_0 : cX2_isIn.data.toList.drop 0 = dktX2_isIn_0 := by decide +kernel
theorem dX2_isIn_0 : decode cX2_isIn 0 = .ok (.iload_n 0, 1) := dk_26 (dk_at dksX2_isIn_0 0 rfl rfl)
theorem dX2_isIn_1 : decode cX2_isIn 1 = .ok (.iload_n 1, 1) := dk_27 (dk_at dksX2_isIn_0 1 rfl rfl)
theorem dX2_isIn_2 : decode cX2_isIn 2 = .ok (.if_icmp .lt 12, 3) := dk_161 0 12 (dk_at dksX2_isIn_0 2 rfl rfl)
theorem dX2_isIn_5 : decode cX2_isIn 5 = .ok (.iload_n 0, 1) := dk_26 (dk_at dksX2_isIn_0 5 rfl rfl)
theorem dX2_isIn_6 : decode cX2_isIn 6 = .ok (.iload_n 2, 1) := dk_28 (dk_at dksX2_isIn_0 6 rfl rfl)
theorem dX2_isIn_7 : decode cX2_isIn 7 = .ok (.if_icmp .gt 7, 3) := dk_163 0 7 (dk_at dksX2_isIn_0 7 rfl rfl)
theorem dX2_isIn_10 : decode cX2_isIn 10 = .ok (.iconst 1, 1) := dk_4 (dk_at dksX2_isIn_0 10 rfl rfl)
theorem dX2_isIn_11 : decode cX2_isIn 11 = .ok (.goto 4, 3) := dk_167 0 4 (dk_at dksX2_isIn_0 11 rfl rfl)
theorem dX2_isIn_14 : decode cX2_isIn 14 = .ok (.iconst 0, 1) := dk_3 (dk_at dksX2_isIn_0 14 rfl rfl)
theorem dX2_isIn_15 : decode cX2_isIn 15 = .ok (.ireturn, 1) := dk_172 (dk_at dksX2_isIn_0 15 rfl rfl)
abbrev cX2_put : ByteArray := prog_19_method_10_code
def yX2_put : MethodName := ⟨RX2, "put", "(III)V"⟩
def dkwX2_put_0 : List UInt8 := [42, 180, 0, 7, 16, 10, 8, 27, 104, 96, 28, 96, 29, 79, 177]
abbrev dktX2_put_0 : List UInt8 := dkwX2_put_0 ++ []
theorem dksX2_put_0 : cX2_put.data.toList.drop 0 = dktX2_put_0 := by decide +kernel
theorem dX2_put_0 : decode cX2_put 0 = .ok (.aload_n 0, 1) := dk_42 (dk_at dksX2_put_0 0 rfl rfl)
theorem dX2_put_1 : decode cX2_put 1 = .ok (.getfield 7, 3) := dk_180 0 7 (dk_at dksX2_put_0 1 rfl rfl)
theorem dX2_put_4 : decode cX2_put 4 = .ok (.bipush 10, 2) := dk_16 10 (dk_at dksX2_put_0 4 rfl rfl)
theorem dX2_put_6 : decode cX2_put 6 = .ok (.iconst 5, 1) := dk_8 (dk_at dksX2_put_0 6 rfl rfl)
theorem dX2_put_7 : decode cX2_put 7 = .ok (.iload_n 1, 1) := dk_27 (dk_at dksX2_put_0 7 rfl rfl)
theorem dX2_put_8 : decode cX2_put 8 = .ok (.imul, 1) := dk_104 (dk_at dksX2_put_0 8 rfl rfl)
theorem dX2_put_9 : decode cX2_put 9 = .ok (.iadd, 1) := dk_96 (dk_at dksX2_put_0 9 rfl rfl)
theorem dX2_put_10 : decode cX2_put 10 = .ok (.iload_n 2, 1) := dk_28 (dk_at dksX2_put_0 10 rfl rfl)
theorem dX2_put_11 : decode cX2_put 11 = .ok (.iadd, 1) := dk_96 (dk_at dksX2_put_0 11 rfl rfl)
theorem dX2_put_12 : decode cX2_put 12 = .ok (.iload_n 3, 1) := dk_29 (dk_at dksX2_put_0 12 rfl rfl)
theorem dX2_put_13 : decode cX2_put 13 = .ok (.iastore, 1) := dk_79 (dk_at dksX2_put_0 13 rfl rfl)
theorem dX2_put_14 : decode cX2_put 14 = .ok (.return_, 1) := dk_177 (dk_at dksX2_put_0 14 rfl rfl)
abbrev cX2_begin : ByteArray := prog_19_method_15_code
def yX2_begin : MethodName := ⟨RX2, "begin", "(I)V"⟩
def dkwX2_begin_1 : List UInt8 := [42, 27, 5, 3, 182, 0, 84, 177]
abbrev dktX2_begin_1 : List UInt8 := dkwX2_begin_1 ++ []
def dkwX2_begin_0 : List UInt8 := [42, 27, 3, 42, 27, 6, 182, 0, 92, 182, 0, 84, 42, 27, 4, 42, 27, 7, 182, 0, 92, 182, 0, 84]
abbrev dktX2_begin_0 : List UInt8 := dkwX2_begin_0 ++ dktX2_begin_1
theorem dksX2_begin_0 : cX2_begin.data.toList.drop 0 = dktX2_begin_0 := by decide +kernel
theorem dksX2_begin_1 : cX2_begin.data.toList.drop 24 = dktX2_begin_1 := dk_seg dksX2_begin_0 24 rfl rfl
theorem dX2_begin_0 : decode cX2_begin 0 = .ok (.aload_n 0, 1) := dk_42 (dk_at dksX2_begin_0 0 rfl rfl)
theorem dX2_begin_1 : decode cX2_begin 1 = .ok (.iload_n 1, 1) := dk_27 (dk_at dksX2_begin_0 1 rfl rfl)
theorem dX2_begin_2 : decode cX2_begin 2 = .ok (.iconst 0, 1) := dk_3 (dk_at dksX2_begin_0 2 rfl rfl)
theorem dX2_begin_3 : decode cX2_begin 3 = .ok (.aload_n 0, 1) := dk_42 (dk_at dksX2_begin_0 3 rfl rfl)
theorem dX2_begin_4 : decode cX2_begin 4 = .ok (.iload_n 1, 1) := dk_27 (dk_at dksX2_begin_0 4 rfl rfl)
theorem dX2_begin_5 : decode cX2_begin 5 = .ok (.iconst 3, 1) := dk_6 (dk_at dksX2_begin_0 5 rfl rfl)
theorem dX2_begin_6 : decode cX2_begin 6 = .ok (.invokevirtual 92, 3) := dk_182 0 92 (dk_at dksX2_begin_0 6 rfl rfl)
theorem dX2_begin_9 : decode cX2_begin 9 = .ok (.invokevirtual 84, 3) := dk_182 0 84 (dk_at dksX2_begin_0 9 rfl rfl)
theorem dX2_begin_12 : decode cX2_begin 12 = .ok (.aload_n 0, 1) := dk_42 (dk_at dksX2_begin_0 12 rfl rfl)
theorem dX2_begin_13 : decode cX2_begin 13 = .ok (.iload_n 1, 1) := dk_27 (dk_at dksX2_begin_0 13 rfl rfl)
theorem dX2_begin_14 : decode cX2_begin 14 = .ok (.iconst 1, 1) := dk_4 (dk_at dksX2_begin_0 14 rfl rfl)
theorem dX2_begin_15 : decode cX2_begin 15 = .ok (.aload_n 0, 1) := dk_42 (dk_at dksX2_begin_0 15 rfl rfl)
theorem dX2_begin_16 : decode cX2_begin 16 = .ok (.iload_n 1, 1) := dk_27 (dk_at dksX2_begin_0 16 rfl rfl)
theorem dX2_begin_17 : decode cX2_begin 17 = .ok (.iconst 4, 1) := dk_7 (dk_at dksX2_begin_0 17 rfl rfl)
theorem dX2_begin_18 : decode cX2_begin 18 = .ok (.invokevirtual 92, 3) := dk_182 0 92 (dk_at dksX2_begin_0 18 rfl rfl)
theorem dX2_begin_21 : decode cX2_begin 21 = .ok (.invokevirtual 84, 3) := dk_182 0 84 (dk_at dksX2_begin_0 21 rfl rfl)
theorem dX2_begin_24 : decode cX2_begin 24 = .ok (.aload_n 0, 1) := dk_42 (dk_at dksX2_begin_1 0 rfl rfl)
theorem dX2_begin_25 : decode cX2_begin 25 = .ok (.iload_n 1, 1) := dk_27 (dk_at dksX2_begin_1 1 rfl rfl)
theorem dX2_begin_26 : decode cX2_begin 26 = .ok (.iconst 2, 1) := dk_5 (dk_at dksX2_begin_1 2 rfl rfl)
theorem dX2_begin_27 : decode cX2_begin 27 = .ok (.iconst 0, 1) := dk_3 (dk_at dksX2_begin_1 3 rfl rfl)
theorem dX2_begin_28 : decode cX2_begin 28 = .ok (.invokevirtual 84, 3) := dk_182 0 84 (dk_at dksX2_begin_1 4 rfl rfl)
theorem dX2_begin_31 : decode cX2_begin 31 = .ok (.return_, 1) := dk_177 (dk_at dksX2_begin_1 7 rfl rfl)
abbrev cX2_get : ByteArray := prog_19_method_9_code
def yX2_get : MethodName := ⟨RX2, "get", "(II)I"⟩
def dkwX2_get_0 : List UInt8 := [42, 180, 0, 7, 16, 10, 8, 27, 104, 96, 28, 96, 46, 172]
abbrev dktX2_get_0 : List UInt8 := dkwX2_get_0 ++ []
theorem dksX2_get_0 : cX2_get.data.toList.drop 0 = dktX2_get_0 := by decide +kernel
theorem dX2_get_0 : decode cX2_get 0 = .ok (.aload_n 0, 1) := dk_42 (dk_at dksX2_get_0 0 rfl rfl)
theorem dX2_get_1 : decode cX2_get 1 = .ok (.getfield 7, 3) := dk_180 0 7 (dk_at dksX2_get_0 1 rfl rfl)
theorem dX2_get_4 : decode cX2_get 4 = .ok (.bipush 10, 2) := dk_16 10 (dk_at dksX2_get_0 4 rfl rfl)
theorem dX2_get_6 : decode cX2_get 6 = .ok (.iconst 5, 1) := dk_8 (dk_at dksX2_get_0 6 rfl rfl)
theorem dX2_get_7 : decode cX2_get 7 = .ok (.iload_n 1, 1) := dk_27 (dk_at dksX2_get_0 7 rfl rfl)
theorem dX2_get_8 : decode cX2_get 8 = .ok (.imul, 1) := dk_104 (dk_at dksX2_get_0 8 rfl rfl)
theorem dX2_get_9 : decode cX2_get 9 = .ok (.iadd, 1) := dk_96 (dk_at dksX2_get_0 9 rfl rfl)
theorem dX2_get_10 : decode cX2_get 10 = .ok (.iload_n 2, 1) := dk_28 (dk_at dksX2_get_0 10 rfl rfl)
theorem dX2_get_11 : decode cX2_get 11 = .ok (.iadd, 1) := dk_96 (dk_at dksX2_get_0 11 rfl rfl)
theorem dX2_get_12 : decode cX2_get 12 = .ok (.iaload, 1) := dk_46 (dk_at dksX2_get_0 12 rfl rfl)
theorem dX2_get_13 : decode cX2_get 13 = .ok (.ireturn, 1) := dk_172 (dk_at dksX2_get_0 13 rfl rfl)
abbrev cX2_other : ByteArray := prog_19_method_16_code
def yX2_other : MethodName := ⟨RX2, "other", "(II)Z"⟩
def dkwX2_other_1 : List UInt8 := [28, 79, 4, 172]
abbrev dktX2_other_1 : List UInt8 := dkwX2_other_1 ++ []
def dkwX2_other_0 : List UInt8 := [27, 184, 0, 96, 153, 0, 10, 28, 184, 0, 96, 154, 0, 5, 3, 172, 42, 180, 0, 7, 16, 50, 27, 96]
abbrev dktX2_other_0 : List UInt8 := dkwX2_other_0 ++ dktX2_other_1
theorem dksX2_other_0 : cX2_other.data.toList.drop 0 = dktX2_other_0 := by decide +kernel
theorem dksX2_other_1 : cX2_other.data.toList.drop 24 = dktX2_other_1 := dk_seg dksX2_other_0 24 rfl rfl
theorem dX2_other_0 : decode cX2_other 0 = .ok (.iload_n 1, 1) := dk_27 (dk_at dksX2_other_0 0 rfl rfl)
theorem dX2_other_1 : decode cX2_other 1 = .ok (.invokestatic 96, 3) := dk_184 0 96 (dk_at dksX2_other_0 1 rfl rfl)
theorem dX2_other_4 : decode cX2_other 4 = .ok (.ifCond .eq 10, 3) := dk_153 0 10 (dk_at dksX2_other_0 4 rfl rfl)
theorem dX2_other_7 : decode cX2_other 7 = .ok (.iload_n 2, 1) := dk_28 (dk_at dksX2_other_0 7 rfl rfl)
theorem dX2_other_8 : decode cX2_other 8 = .ok (.invokestatic 96, 3) := dk_184 0 96 (dk_at dksX2_other_0 8 rfl rfl)
theorem dX2_other_11 : decode cX2_other 11 = .ok (.ifCond .ne 5, 3) := dk_154 0 5 (dk_at dksX2_other_0 11 rfl rfl)
theorem dX2_other_14 : decode cX2_other 14 = .ok (.iconst 0, 1) := dk_3 (dk_at dksX2_other_0 14 rfl rfl)
theorem dX2_other_15 : decode cX2_other 15 = .ok (.ireturn, 1) := dk_172 (dk_at dksX2_other_0 15 rfl rfl)
theorem dX2_other_16 : decode cX2_other 16 = .ok (.aload_n 0, 1) := dk_42 (dk_at dksX2_other_0 16 rfl rfl)
theorem dX2_other_17 : decode cX2_other 17 = .ok (.getfield 7, 3) := dk_180 0 7 (dk_at dksX2_other_0 17 rfl rfl)
theorem dX2_other_20 : decode cX2_other 20 = .ok (.bipush 50, 2) := dk_16 50 (dk_at dksX2_other_0 20 rfl rfl)
theorem dX2_other_22 : decode cX2_other 22 = .ok (.iload_n 1, 1) := dk_27 (dk_at dksX2_other_0 22 rfl rfl)
theorem dX2_other_23 : decode cX2_other 23 = .ok (.iadd, 1) := dk_96 (dk_at dksX2_other_0 23 rfl rfl)
theorem dX2_other_24 : decode cX2_other 24 = .ok (.iload_n 2, 1) := dk_28 (dk_at dksX2_other_1 0 rfl rfl)
theorem dX2_other_25 : decode cX2_other 25 = .ok (.iastore, 1) := dk_79 (dk_at dksX2_other_1 1 rfl rfl)
theorem dX2_other_26 : decode cX2_other 26 = .ok (.iconst 1, 1) := dk_4 (dk_at dksX2_other_1 2 rfl rfl)
theorem dX2_other_27 : decode cX2_other 27 = .ok (.ireturn, 1) := dk_172 (dk_at dksX2_other_1 3 rfl rfl)
abbrev cX2_isChair : ByteArray := prog_19_method_7_code
def yX2_isChair : MethodName := ⟨RX2, "isChair", "(I)Z"⟩
def dkwX2_isChair_0 : List UInt8 := [26, 3, 16, 7, 184, 0, 73, 172]
abbrev dktX2_isChair_0 : List UInt8 := dkwX2_isChair_0 ++ []
theorem dksX2_isChair_0 : cX2_isChair.data.toList.drop 0 = dktX2_isChair_0 := by decide +kernel
theorem dX2_isChair_0 : decode cX2_isChair 0 = .ok (.iload_n 0, 1) := dk_26 (dk_at dksX2_isChair_0 0 rfl rfl)
theorem dX2_isChair_1 : decode cX2_isChair 1 = .ok (.iconst 0, 1) := dk_3 (dk_at dksX2_isChair_0 1 rfl rfl)
theorem dX2_isChair_2 : decode cX2_isChair 2 = .ok (.bipush 7, 2) := dk_16 7 (dk_at dksX2_isChair_0 2 rfl rfl)
theorem dX2_isChair_4 : decode cX2_isChair 4 = .ok (.invokestatic 73, 3) := dk_184 0 73 (dk_at dksX2_isChair_0 4 rfl rfl)
theorem dX2_isChair_7 : decode cX2_isChair 7 = .ok (.ireturn, 1) := dk_172 (dk_at dksX2_isChair_0 7 rfl rfl)
abbrev cX2_feed : ByteArray := prog_19_method_18_code
def yX2_feed : MethodName := ⟨RX2, "feed", "(IIIII)I"⟩
def dkwX2_feed_2 : List UInt8 := [172]
abbrev dktX2_feed_2 : List UInt8 := dkwX2_feed_2 ++ []
def dkwX2_feed_1 : List UInt8 := [182, 0, 103, 42, 29, 182, 0, 103, 42, 21, 4, 182, 0, 103, 42, 21, 5, 182, 0, 103, 42, 180, 0, 100]
abbrev dktX2_feed_1 : List UInt8 := dkwX2_feed_1 ++ dktX2_feed_2
def dkwX2_feed_0 : List UInt8 := [42, 180, 0, 100, 16, 20, 96, 17, 1, 44, 164, 0, 5, 2, 172, 42, 27, 182, 0, 103, 42, 28]
abbrev dktX2_feed_0 : List UInt8 := dkwX2_feed_0 ++ dktX2_feed_1
theorem dksX2_feed_0 : cX2_feed.data.toList.drop 0 = dktX2_feed_0 := by decide +kernel
theorem dksX2_feed_1 : cX2_feed.data.toList.drop 22 = dktX2_feed_1 := dk_seg dksX2_feed_0 22 rfl rfl
theorem dksX2_feed_2 : cX2_feed.data.toList.drop 46 = dktX2_feed_2 := dk_seg dksX2_feed_1 24 rfl rfl
theorem dX2_feed_0 : decode cX2_feed 0 = .ok (.aload_n 0, 1) := dk_42 (dk_at dksX2_feed_0 0 rfl rfl)
theorem dX2_feed_1 : decode cX2_feed 1 = .ok (.getfield 100, 3) := dk_180 0 100 (dk_at dksX2_feed_0 1 rfl rfl)
theorem dX2_feed_4 : decode cX2_feed 4 = .ok (.bipush 20, 2) := dk_16 20 (dk_at dksX2_feed_0 4 rfl rfl)
theorem dX2_feed_6 : decode cX2_feed 6 = .ok (.iadd, 1) := dk_96 (dk_at dksX2_feed_0 6 rfl rfl)
theorem dX2_feed_7 : decode cX2_feed 7 = .ok (.sipush 300, 3) := dk_17 1 44 (dk_at dksX2_feed_0 7 rfl rfl)
theorem dX2_feed_10 : decode cX2_feed 10 = .ok (.if_icmp .le 5, 3) := dk_164 0 5 (dk_at dksX2_feed_0 10 rfl rfl)
theorem dX2_feed_13 : decode cX2_feed 13 = .ok (.iconst (-1), 1) := dk_2 (dk_at dksX2_feed_0 13 rfl rfl)
theorem dX2_feed_14 : decode cX2_feed 14 = .ok (.ireturn, 1) := dk_172 (dk_at dksX2_feed_0 14 rfl rfl)
theorem dX2_feed_15 : decode cX2_feed 15 = .ok (.aload_n 0, 1) := dk_42 (dk_at dksX2_feed_0 15 rfl rfl)
theorem dX2_feed_16 : decode cX2_feed 16 = .ok (.iload_n 1, 1) := dk_27 (dk_at dksX2_feed_0 16 rfl rfl)
theorem dX2_feed_17 : decode cX2_feed 17 = .ok (.invokevirtual 103, 3) := dk_182 0 103 (dk_at dksX2_feed_0 17 rfl rfl)
theorem dX2_feed_20 : decode cX2_feed 20 = .ok (.aload_n 0, 1) := dk_42 (dk_at dksX2_feed_0 20 rfl rfl)
theorem dX2_feed_21 : decode cX2_feed 21 = .ok (.iload_n 2, 1) := dk_28 (dk_at dksX2_feed_0 21 rfl rfl)
theorem dX2_feed_22 : decode cX2_feed 22 = .ok (.invokevirtual 103, 3) := dk_182 0 103 (dk_at dksX2_feed_1 0 rfl rfl)
theorem dX2_feed_25 : decode cX2_feed 25 = .ok (.aload_n 0, 1) := dk_42 (dk_at dksX2_feed_1 3 rfl rfl)
theorem dX2_feed_26 : decode cX2_feed 26 = .ok (.iload_n 3, 1) := dk_29 (dk_at dksX2_feed_1 4 rfl rfl)
theorem dX2_feed_27 : decode cX2_feed 27 = .ok (.invokevirtual 103, 3) := dk_182 0 103 (dk_at dksX2_feed_1 5 rfl rfl)
theorem dX2_feed_30 : decode cX2_feed 30 = .ok (.aload_n 0, 1) := dk_42 (dk_at dksX2_feed_1 8 rfl rfl)
theorem dX2_feed_31 : decode cX2_feed 31 = .ok (.iload 4, 2) := dk_21 4 (dk_at dksX2_feed_1 9 rfl rfl)
theorem dX2_feed_33 : decode cX2_feed 33 = .ok (.invokevirtual 103, 3) := dk_182 0 103 (dk_at dksX2_feed_1 11 rfl rfl)
theorem dX2_feed_36 : decode cX2_feed 36 = .ok (.aload_n 0, 1) := dk_42 (dk_at dksX2_feed_1 14 rfl rfl)
theorem dX2_feed_37 : decode cX2_feed 37 = .ok (.iload 5, 2) := dk_21 5 (dk_at dksX2_feed_1 15 rfl rfl)
theorem dX2_feed_39 : decode cX2_feed 39 = .ok (.invokevirtual 103, 3) := dk_182 0 103 (dk_at dksX2_feed_1 17 rfl rfl)
theorem dX2_feed_42 : decode cX2_feed 42 = .ok (.aload_n 0, 1) := dk_42 (dk_at dksX2_feed_1 20 rfl rfl)
theorem dX2_feed_43 : decode cX2_feed 43 = .ok (.getfield 100, 3) := dk_180 0 100 (dk_at dksX2_feed_1 21 rfl rfl)
theorem dX2_feed_46 : decode cX2_feed 46 = .ok (.ireturn, 1) := dk_172 (dk_at dksX2_feed_2 0 rfl rfl)
abbrev cX2_four : ByteArray := prog_19_method_17_code
def yX2_four : MethodName := ⟨RX2, "four", "(I)V"⟩
def dkwX2_four_1 : List UInt8 := [89, 180, 0, 100, 4, 96, 181, 0, 100, 132, 2, 248, 167, 255, 223, 177]
abbrev dktX2_four_1 : List UInt8 := dkwX2_four_1 ++ []
def dkwX2_four_0 : List UInt8 := [16, 24, 61, 28, 155, 0, 35, 42, 180, 0, 19, 42, 180, 0, 100, 27, 28, 122, 17, 0, 255, 126, 79, 42]
abbrev dktX2_four_0 : List UInt8 := dkwX2_four_0 ++ dktX2_four_1
theorem dksX2_four_0 : cX2_four.data.toList.drop 0 = dktX2_four_0 := by decide +kernel
theorem dksX2_four_1 : cX2_four.data.toList.drop 24 = dktX2_four_1 := dk_seg dksX2_four_0 24 rfl rfl
theorem dX2_four_0 : decode cX2_four 0 = .ok (.bipush 24, 2) := dk_16 24 (dk_at dksX2_four_0 0 rfl rfl)
theorem dX2_four_2 : decode cX2_four 2 = .ok (.istore_n 2, 1) := dk_61 (dk_at dksX2_four_0 2 rfl rfl)
theorem dX2_four_3 : decode cX2_four 3 = .ok (.iload_n 2, 1) := dk_28 (dk_at dksX2_four_0 3 rfl rfl)
theorem dX2_four_4 : decode cX2_four 4 = .ok (.ifCond .lt 35, 3) := dk_155 0 35 (dk_at dksX2_four_0 4 rfl rfl)
theorem dX2_four_7 : decode cX2_four 7 = .ok (.aload_n 0, 1) := dk_42 (dk_at dksX2_four_0 7 rfl rfl)
theorem dX2_four_8 : decode cX2_four 8 = .ok (.getfield 19, 3) := dk_180 0 19 (dk_at dksX2_four_0 8 rfl rfl)
theorem dX2_four_11 : decode cX2_four 11 = .ok (.aload_n 0, 1) := dk_42 (dk_at dksX2_four_0 11 rfl rfl)
theorem dX2_four_12 : decode cX2_four 12 = .ok (.getfield 100, 3) := dk_180 0 100 (dk_at dksX2_four_0 12 rfl rfl)
theorem dX2_four_15 : decode cX2_four 15 = .ok (.iload_n 1, 1) := dk_27 (dk_at dksX2_four_0 15 rfl rfl)
theorem dX2_four_16 : decode cX2_four 16 = .ok (.iload_n 2, 1) := dk_28 (dk_at dksX2_four_0 16 rfl rfl)
theorem dX2_four_17 : decode cX2_four 17 = .ok (.ishr, 1) := dk_122 (dk_at dksX2_four_0 17 rfl rfl)
theorem dX2_four_18 : decode cX2_four 18 = .ok (.sipush 255, 3) := dk_17 0 255 (dk_at dksX2_four_0 18 rfl rfl)
theorem dX2_four_21 : decode cX2_four 21 = .ok (.iand, 1) := dk_126 (dk_at dksX2_four_0 21 rfl rfl)
theorem dX2_four_22 : decode cX2_four 22 = .ok (.iastore, 1) := dk_79 (dk_at dksX2_four_0 22 rfl rfl)
theorem dX2_four_23 : decode cX2_four 23 = .ok (.aload_n 0, 1) := dk_42 (dk_at dksX2_four_0 23 rfl rfl)
theorem dX2_four_24 : decode cX2_four 24 = .ok (.dup, 1) := dk_89 (dk_at dksX2_four_1 0 rfl rfl)
theorem dX2_four_25 : decode cX2_four 25 = .ok (.getfield 100, 3) := dk_180 0 100 (dk_at dksX2_four_1 1 rfl rfl)
theorem dX2_four_28 : decode cX2_four 28 = .ok (.iconst 1, 1) := dk_4 (dk_at dksX2_four_1 4 rfl rfl)
theorem dX2_four_29 : decode cX2_four 29 = .ok (.iadd, 1) := dk_96 (dk_at dksX2_four_1 5 rfl rfl)
theorem dX2_four_30 : decode cX2_four 30 = .ok (.putfield 100, 3) := dk_181 0 100 (dk_at dksX2_four_1 6 rfl rfl)
theorem dX2_four_33 : decode cX2_four 33 = .ok (.iinc 2 (-8), 3) := dk_132 2 248 (dk_at dksX2_four_1 9 rfl rfl)
theorem dX2_four_36 : decode cX2_four 36 = .ok (.goto (-33), 3) := dk_167 255 223 (dk_at dksX2_four_1 12 rfl rfl)
theorem dX2_four_39 : decode cX2_four 39 = .ok (.return_, 1) := dk_177 (dk_at dksX2_four_1 15 rfl rfl)
abbrev cX2_end : ByteArray := prog_19_method_19_code
def yX2_end : MethodName := ⟨RX2, "end", "(I)I"⟩
def dkwX2_end_0 : List UInt8 := [27, 3, 42, 180, 0, 100, 184, 0, 73, 154, 0, 5, 2, 172, 42, 27, 181, 0, 100, 27, 172]
abbrev dktX2_end_0 : List UInt8 := dkwX2_end_0 ++ []
theorem dksX2_end_0 : cX2_end.data.toList.drop 0 = dktX2_end_0 := by decide +kernel
theorem dX2_end_0 : decode cX2_end 0 = .ok (.iload_n 1, 1) := dk_27 (dk_at dksX2_end_0 0 rfl rfl)
theorem dX2_end_1 : decode cX2_end 1 = .ok (.iconst 0, 1) := dk_3 (dk_at dksX2_end_0 1 rfl rfl)
theorem dX2_end_2 : decode cX2_end 2 = .ok (.aload_n 0, 1) := dk_42 (dk_at dksX2_end_0 2 rfl rfl)
theorem dX2_end_3 : decode cX2_end 3 = .ok (.getfield 100, 3) := dk_180 0 100 (dk_at dksX2_end_0 3 rfl rfl)
theorem dX2_end_6 : decode cX2_end 6 = .ok (.invokestatic 73, 3) := dk_184 0 73 (dk_at dksX2_end_0 6 rfl rfl)
theorem dX2_end_9 : decode cX2_end 9 = .ok (.ifCond .ne 5, 3) := dk_154 0 5 (dk_at dksX2_end_0 9 rfl rfl)
theorem dX2_end_12 : decode cX2_end 12 = .ok (.iconst (-1), 1) := dk_2 (dk_at dksX2_end_0 12 rfl rfl)
theorem dX2_end_13 : decode cX2_end 13 = .ok (.ireturn, 1) := dk_172 (dk_at dksX2_end_0 13 rfl rfl)
theorem dX2_end_14 : decode cX2_end 14 = .ok (.aload_n 0, 1) := dk_42 (dk_at dksX2_end_0 14 rfl rfl)
theorem dX2_end_15 : decode cX2_end 15 = .ok (.iload_n 1, 1) := dk_27 (dk_at dksX2_end_0 15 rfl rfl)
theorem dX2_end_16 : decode cX2_end 16 = .ok (.putfield 100, 3) := dk_181 0 100 (dk_at dksX2_end_0 16 rfl rfl)
theorem dX2_end_19 : decode cX2_end 19 = .ok (.iload_n 1, 1) := dk_27 (dk_at dksX2_end_0 19 rfl rfl)
theorem dX2_end_20 : decode cX2_end 20 = .ok (.ireturn, 1) := dk_172 (dk_at dksX2_end_0 20 rfl rfl)
abbrev cX2_text : ByteArray := prog_19_method_56_code
def yX2_text : MethodName := ⟨RX2, "text", "()I"⟩
def dkwX2_text_3 : List UInt8 := [4, 100, 172]
abbrev dktX2_text_3 : List UInt8 := dkwX2_text_3 ++ []
def dkwX2_text_2 : List UInt8 := [180, 0, 22, 153, 0, 5, 2, 172, 42, 180, 0, 7, 4, 92, 46, 4, 96, 79, 42, 180, 0, 7, 4, 46]
abbrev dktX2_text_2 : List UInt8 := dkwX2_text_2 ++ dktX2_text_3
def dkwX2_text_1 : List UInt8 := [180, 0, 22, 154, 0, 7, 2, 167, 0, 7, 42, 180, 0, 112, 181, 0, 26, 42, 3, 181, 0, 100, 42]
abbrev dktX2_text_1 : List UInt8 := dkwX2_text_1 ++ dktX2_text_2
def dkwX2_text_0 : List UInt8 := [42, 180, 0, 7, 4, 46, 7, 160, 0, 5, 2, 172, 42, 42, 182, 1, 10, 181, 0, 22, 42, 42]
abbrev dktX2_text_0 : List UInt8 := dkwX2_text_0 ++ dktX2_text_1
theorem dksX2_text_0 : cX2_text.data.toList.drop 0 = dktX2_text_0 := by decide +kernel
theorem dksX2_text_1 : cX2_text.data.toList.drop 22 = dktX2_text_1 := dk_seg dksX2_text_0 22 rfl rfl
theorem dksX2_text_2 : cX2_text.data.toList.drop 45 = dktX2_text_2 := dk_seg dksX2_text_1 23 rfl rfl
theorem dksX2_text_3 : cX2_text.data.toList.drop 69 = dktX2_text_3 := dk_seg dksX2_text_2 24 rfl rfl
theorem dX2_text_0 : decode cX2_text 0 = .ok (.aload_n 0, 1) := dk_42 (dk_at dksX2_text_0 0 rfl rfl)
theorem dX2_text_1 : decode cX2_text 1 = .ok (.getfield 7, 3) := dk_180 0 7 (dk_at dksX2_text_0 1 rfl rfl)
theorem dX2_text_4 : decode cX2_text 4 = .ok (.iconst 1, 1) := dk_4 (dk_at dksX2_text_0 4 rfl rfl)
theorem dX2_text_5 : decode cX2_text 5 = .ok (.iaload, 1) := dk_46 (dk_at dksX2_text_0 5 rfl rfl)
theorem dX2_text_6 : decode cX2_text 6 = .ok (.iconst 4, 1) := dk_7 (dk_at dksX2_text_0 6 rfl rfl)
theorem dX2_text_7 : decode cX2_text 7 = .ok (.if_icmp .ne 5, 3) := dk_160 0 5 (dk_at dksX2_text_0 7 rfl rfl)
theorem dX2_text_10 : decode cX2_text 10 = .ok (.iconst (-1), 1) := dk_2 (dk_at dksX2_text_0 10 rfl rfl)
theorem dX2_text_11 : decode cX2_text 11 = .ok (.ireturn, 1) := dk_172 (dk_at dksX2_text_0 11 rfl rfl)
theorem dX2_text_12 : decode cX2_text 12 = .ok (.aload_n 0, 1) := dk_42 (dk_at dksX2_text_0 12 rfl rfl)
theorem dX2_text_13 : decode cX2_text 13 = .ok (.aload_n 0, 1) := dk_42 (dk_at dksX2_text_0 13 rfl rfl)
theorem dX2_text_14 : decode cX2_text 14 = .ok (.invokevirtual 266, 3) := dk_182 1 10 (dk_at dksX2_text_0 14 rfl rfl)
theorem dX2_text_17 : decode cX2_text 17 = .ok (.putfield 22, 3) := dk_181 0 22 (dk_at dksX2_text_0 17 rfl rfl)
theorem dX2_text_20 : decode cX2_text 20 = .ok (.aload_n 0, 1) := dk_42 (dk_at dksX2_text_0 20 rfl rfl)
theorem dX2_text_21 : decode cX2_text 21 = .ok (.aload_n 0, 1) := dk_42 (dk_at dksX2_text_0 21 rfl rfl)
theorem dX2_text_22 : decode cX2_text 22 = .ok (.getfield 22, 3) := dk_180 0 22 (dk_at dksX2_text_1 0 rfl rfl)
theorem dX2_text_25 : decode cX2_text 25 = .ok (.ifCond .ne 7, 3) := dk_154 0 7 (dk_at dksX2_text_1 3 rfl rfl)
theorem dX2_text_28 : decode cX2_text 28 = .ok (.iconst (-1), 1) := dk_2 (dk_at dksX2_text_1 6 rfl rfl)
theorem dX2_text_29 : decode cX2_text 29 = .ok (.goto 7, 3) := dk_167 0 7 (dk_at dksX2_text_1 7 rfl rfl)
theorem dX2_text_32 : decode cX2_text 32 = .ok (.aload_n 0, 1) := dk_42 (dk_at dksX2_text_1 10 rfl rfl)
theorem dX2_text_33 : decode cX2_text 33 = .ok (.getfield 112, 3) := dk_180 0 112 (dk_at dksX2_text_1 11 rfl rfl)
theorem dX2_text_36 : decode cX2_text 36 = .ok (.putfield 26, 3) := dk_181 0 26 (dk_at dksX2_text_1 14 rfl rfl)
theorem dX2_text_39 : decode cX2_text 39 = .ok (.aload_n 0, 1) := dk_42 (dk_at dksX2_text_1 17 rfl rfl)
theorem dX2_text_40 : decode cX2_text 40 = .ok (.iconst 0, 1) := dk_3 (dk_at dksX2_text_1 18 rfl rfl)
theorem dX2_text_41 : decode cX2_text 41 = .ok (.putfield 100, 3) := dk_181 0 100 (dk_at dksX2_text_1 19 rfl rfl)
theorem dX2_text_44 : decode cX2_text 44 = .ok (.aload_n 0, 1) := dk_42 (dk_at dksX2_text_1 22 rfl rfl)
theorem dX2_text_45 : decode cX2_text 45 = .ok (.getfield 22, 3) := dk_180 0 22 (dk_at dksX2_text_2 0 rfl rfl)
theorem dX2_text_48 : decode cX2_text 48 = .ok (.ifCond .eq 5, 3) := dk_153 0 5 (dk_at dksX2_text_2 3 rfl rfl)
theorem dX2_text_51 : decode cX2_text 51 = .ok (.iconst (-1), 1) := dk_2 (dk_at dksX2_text_2 6 rfl rfl)
theorem dX2_text_52 : decode cX2_text 52 = .ok (.ireturn, 1) := dk_172 (dk_at dksX2_text_2 7 rfl rfl)
theorem dX2_text_53 : decode cX2_text 53 = .ok (.aload_n 0, 1) := dk_42 (dk_at dksX2_text_2 8 rfl rfl)
theorem dX2_text_54 : decode cX2_text 54 = .ok (.getfield 7, 3) := dk_180 0 7 (dk_at dksX2_text_2 9 rfl rfl)
theorem dX2_text_57 : decode cX2_text 57 = .ok (.iconst 1, 1) := dk_4 (dk_at dksX2_text_2 12 rfl rfl)
theorem dX2_text_58 : decode cX2_text 58 = .ok (.dup2, 1) := dk_92 (dk_at dksX2_text_2 13 rfl rfl)
theorem dX2_text_59 : decode cX2_text 59 = .ok (.iaload, 1) := dk_46 (dk_at dksX2_text_2 14 rfl rfl)
theorem dX2_text_60 : decode cX2_text 60 = .ok (.iconst 1, 1) := dk_4 (dk_at dksX2_text_2 15 rfl rfl)
theorem dX2_text_61 : decode cX2_text 61 = .ok (.iadd, 1) := dk_96 (dk_at dksX2_text_2 16 rfl rfl)
theorem dX2_text_62 : decode cX2_text 62 = .ok (.iastore, 1) := dk_79 (dk_at dksX2_text_2 17 rfl rfl)
theorem dX2_text_63 : decode cX2_text 63 = .ok (.aload_n 0, 1) := dk_42 (dk_at dksX2_text_2 18 rfl rfl)
theorem dX2_text_64 : decode cX2_text 64 = .ok (.getfield 7, 3) := dk_180 0 7 (dk_at dksX2_text_2 19 rfl rfl)
theorem dX2_text_67 : decode cX2_text 67 = .ok (.iconst 1, 1) := dk_4 (dk_at dksX2_text_2 22 rfl rfl)
theorem dX2_text_68 : decode cX2_text 68 = .ok (.iaload, 1) := dk_46 (dk_at dksX2_text_2 23 rfl rfl)
theorem dX2_text_69 : decode cX2_text 69 = .ok (.iconst 1, 1) := dk_4 (dk_at dksX2_text_3 0 rfl rfl)
theorem dX2_text_70 : decode cX2_text 70 = .ok (.isub, 1) := dk_100 (dk_at dksX2_text_3 1 rfl rfl)
theorem dX2_text_71 : decode cX2_text 71 = .ok (.ireturn, 1) := dk_172 (dk_at dksX2_text_3 2 rfl rfl)
abbrev cX2_readText : ByteArray := prog_19_method_55_code
def yX2_readText : MethodName := ⟨RX2, "readText", "()I"⟩
def dkwX2_readText_2 : List UInt8 := [153, 0, 17, 42, 182, 1, 7, 60, 27, 153, 0, 5, 27, 172, 167, 255, 238, 3, 172]
abbrev dktX2_readText_2 : List UInt8 := dkwX2_readText_2 ++ []
def dkwX2_readText_1 : List UInt8 := [42, 3, 181, 0, 156, 42, 3, 181, 0, 253, 42, 3, 181, 0, 106, 42, 182, 0, 186, 42, 180, 0, 115]
abbrev dktX2_readText_1 : List UInt8 := dkwX2_readText_1 ++ dktX2_readText_2
def dkwX2_readText_0 : List UInt8 := [42, 17, 2, 169, 42, 180, 0, 7, 4, 46, 104, 181, 0, 153, 42, 180, 0, 16, 42, 180, 0, 153, 3, 79]
abbrev dktX2_readText_0 : List UInt8 := dkwX2_readText_0 ++ dktX2_readText_1
theorem dksX2_readText_0 : cX2_readText.data.toList.drop 0 = dktX2_readText_0 := by decide +kernel
theorem dksX2_readText_1 : cX2_readText.data.toList.drop 24 = dktX2_readText_1 := dk_seg dksX2_readText_0 24 rfl rfl
theorem dksX2_readText_2 : cX2_readText.data.toList.drop 47 = dktX2_readText_2 := dk_seg dksX2_readText_1 23 rfl rfl
theorem dX2_readText_0 : decode cX2_readText 0 = .ok (.aload_n 0, 1) := dk_42 (dk_at dksX2_readText_0 0 rfl rfl)
theorem dX2_readText_1 : decode cX2_readText 1 = .ok (.sipush 681, 3) := dk_17 2 169 (dk_at dksX2_readText_0 1 rfl rfl)
theorem dX2_readText_4 : decode cX2_readText 4 = .ok (.aload_n 0, 1) := dk_42 (dk_at dksX2_readText_0 4 rfl rfl)
theorem dX2_readText_5 : decode cX2_readText 5 = .ok (.getfield 7, 3) := dk_180 0 7 (dk_at dksX2_readText_0 5 rfl rfl)
theorem dX2_readText_8 : decode cX2_readText 8 = .ok (.iconst 1, 1) := dk_4 (dk_at dksX2_readText_0 8 rfl rfl)
theorem dX2_readText_9 : decode cX2_readText 9 = .ok (.iaload, 1) := dk_46 (dk_at dksX2_readText_0 9 rfl rfl)
theorem dX2_readText_10 : decode cX2_readText 10 = .ok (.imul, 1) := dk_104 (dk_at dksX2_readText_0 10 rfl rfl)
theorem dX2_readText_11 : decode cX2_readText 11 = .ok (.putfield 153, 3) := dk_181 0 153 (dk_at dksX2_readText_0 11 rfl rfl)
theorem dX2_readText_14 : decode cX2_readText 14 = .ok (.aload_n 0, 1) := dk_42 (dk_at dksX2_readText_0 14 rfl rfl)
theorem dX2_readText_15 : decode cX2_readText 15 = .ok (.getfield 16, 3) := dk_180 0 16 (dk_at dksX2_readText_0 15 rfl rfl)
theorem dX2_readText_18 : decode cX2_readText 18 = .ok (.aload_n 0, 1) := dk_42 (dk_at dksX2_readText_0 18 rfl rfl)
theorem dX2_readText_19 : decode cX2_readText 19 = .ok (.getfield 153, 3) := dk_180 0 153 (dk_at dksX2_readText_0 19 rfl rfl)
theorem dX2_readText_22 : decode cX2_readText 22 = .ok (.iconst 0, 1) := dk_3 (dk_at dksX2_readText_0 22 rfl rfl)
theorem dX2_readText_23 : decode cX2_readText 23 = .ok (.iastore, 1) := dk_79 (dk_at dksX2_readText_0 23 rfl rfl)
theorem dX2_readText_24 : decode cX2_readText 24 = .ok (.aload_n 0, 1) := dk_42 (dk_at dksX2_readText_1 0 rfl rfl)
theorem dX2_readText_25 : decode cX2_readText 25 = .ok (.iconst 0, 1) := dk_3 (dk_at dksX2_readText_1 1 rfl rfl)
theorem dX2_readText_26 : decode cX2_readText 26 = .ok (.putfield 156, 3) := dk_181 0 156 (dk_at dksX2_readText_1 2 rfl rfl)
theorem dX2_readText_29 : decode cX2_readText 29 = .ok (.aload_n 0, 1) := dk_42 (dk_at dksX2_readText_1 5 rfl rfl)
theorem dX2_readText_30 : decode cX2_readText 30 = .ok (.iconst 0, 1) := dk_3 (dk_at dksX2_readText_1 6 rfl rfl)
theorem dX2_readText_31 : decode cX2_readText 31 = .ok (.putfield 253, 3) := dk_181 0 253 (dk_at dksX2_readText_1 7 rfl rfl)
theorem dX2_readText_34 : decode cX2_readText 34 = .ok (.aload_n 0, 1) := dk_42 (dk_at dksX2_readText_1 10 rfl rfl)
theorem dX2_readText_35 : decode cX2_readText 35 = .ok (.iconst 0, 1) := dk_3 (dk_at dksX2_readText_1 11 rfl rfl)
theorem dX2_readText_36 : decode cX2_readText 36 = .ok (.putfield 106, 3) := dk_181 0 106 (dk_at dksX2_readText_1 12 rfl rfl)
theorem dX2_readText_39 : decode cX2_readText 39 = .ok (.aload_n 0, 1) := dk_42 (dk_at dksX2_readText_1 15 rfl rfl)
theorem dX2_readText_40 : decode cX2_readText 40 = .ok (.invokevirtual 186, 3) := dk_182 0 186 (dk_at dksX2_readText_1 16 rfl rfl)
theorem dX2_readText_43 : decode cX2_readText 43 = .ok (.aload_n 0, 1) := dk_42 (dk_at dksX2_readText_1 19 rfl rfl)
theorem dX2_readText_44 : decode cX2_readText 44 = .ok (.getfield 115, 3) := dk_180 0 115 (dk_at dksX2_readText_1 20 rfl rfl)
theorem dX2_readText_47 : decode cX2_readText 47 = .ok (.ifCond .eq 17, 3) := dk_153 0 17 (dk_at dksX2_readText_2 0 rfl rfl)
theorem dX2_readText_50 : decode cX2_readText 50 = .ok (.aload_n 0, 1) := dk_42 (dk_at dksX2_readText_2 3 rfl rfl)
theorem dX2_readText_51 : decode cX2_readText 51 = .ok (.invokevirtual 263, 3) := dk_182 1 7 (dk_at dksX2_readText_2 4 rfl rfl)
theorem dX2_readText_54 : decode cX2_readText 54 = .ok (.istore_n 1, 1) := dk_60 (dk_at dksX2_readText_2 7 rfl rfl)
theorem dX2_readText_55 : decode cX2_readText 55 = .ok (.iload_n 1, 1) := dk_27 (dk_at dksX2_readText_2 8 rfl rfl)
theorem dX2_readText_56 : decode cX2_readText 56 = .ok (.ifCond .eq 5, 3) := dk_153 0 5 (dk_at dksX2_readText_2 9 rfl rfl)
theorem dX2_readText_59 : decode cX2_readText 59 = .ok (.iload_n 1, 1) := dk_27 (dk_at dksX2_readText_2 12 rfl rfl)
theorem dX2_readText_60 : decode cX2_readText 60 = .ok (.ireturn, 1) := dk_172 (dk_at dksX2_readText_2 13 rfl rfl)
theorem dX2_readText_61 : decode cX2_readText 61 = .ok (.goto (-18), 3) := dk_167 255 238 (dk_at dksX2_readText_2 14 rfl rfl)
theorem dX2_readText_64 : decode cX2_readText 64 = .ok (.iconst 0, 1) := dk_3 (dk_at dksX2_readText_2 17 rfl rfl)
theorem dX2_readText_65 : decode cX2_readText 65 = .ok (.ireturn, 1) := dk_172 (dk_at dksX2_readText_2 18 rfl rfl)
abbrev cX2_nextToken : ByteArray := prog_19_method_24_code
def yX2_nextToken : MethodName := ⟨RX2, "nextToken", "()V"⟩
def dkwX2_nextToken_13 : List UInt8 := [180, 0, 106, 4, 96, 181, 0, 106, 177]
abbrev dktX2_nextToken_13 : List UInt8 := dkwX2_nextToken_13 ++ []
def dkwX2_nextToken_12 : List UInt8 := [16, 61, 160, 0, 28, 42, 27, 16, 60, 160, 0, 7, 7, 167, 0, 4, 8, 181, 0, 115, 42, 89]
abbrev dktX2_nextToken_12 : List UInt8 := dkwX2_nextToken_12 ++ dktX2_nextToken_13
def dkwX2_nextToken_11 : List UInt8 := [181, 0, 106, 27, 16, 60, 159, 0, 9, 27, 16, 62, 160, 0, 41, 42, 42, 180, 0, 106, 182, 0, 109]
abbrev dktX2_nextToken_11 : List UInt8 := dkwX2_nextToken_11 ++ dktX2_nextToken_12
def dkwX2_nextToken_10 : List UInt8 := [42, 27, 184, 0, 134, 153, 0, 7, 27, 167, 0, 4, 6, 181, 0, 115, 42, 89, 180, 0, 106, 4, 96]
abbrev dktX2_nextToken_10 : List UInt8 := dkwX2_nextToken_10 ++ dktX2_nextToken_11
def dkwX2_nextToken_9 : List UInt8 := [180, 0, 106, 182, 0, 109, 133, 129, 181, 0, 128, 42, 89, 180, 0, 106, 4, 96, 181, 0, 106, 167, 255, 193]
abbrev dktX2_nextToken_9 : List UInt8 := dkwX2_nextToken_9 ++ dktX2_nextToken_10
def dkwX2_nextToken_8 : List UInt8 := [16, 48, 123, 9, 148, 153, 0, 9, 20, 0, 132, 167, 0, 20, 42, 180, 0, 128, 16, 8, 121, 42, 42]
abbrev dktX2_nextToken_8 : List UInt8 := dkwX2_nextToken_8 ++ dktX2_nextToken_9
def dkwX2_nextToken_7 : List UInt8 := [9, 181, 0, 128, 42, 42, 180, 0, 106, 182, 0, 109, 184, 0, 125, 153, 0, 131, 42, 42, 180, 0, 128]
abbrev dktX2_nextToken_7 : List UInt8 := dkwX2_nextToken_7 ++ dktX2_nextToken_8
def dkwX2_nextToken_6 : List UInt8 := [180, 0, 106, 4, 96, 181, 0, 106, 167, 255, 193, 27, 184, 0, 125, 153, 0, 79, 42, 5, 181, 0, 115, 42]
abbrev dktX2_nextToken_6 : List UInt8 := dkwX2_nextToken_6 ++ dktX2_nextToken_7
def dkwX2_nextToken_5 : List UInt8 := [16, 10, 42, 180, 0, 121, 104, 42, 42, 180, 0, 106, 182, 0, 109, 96, 16, 48, 100, 181, 0, 121, 42, 89]
abbrev dktX2_nextToken_5 : List UInt8 := dkwX2_nextToken_5 ++ dktX2_nextToken_6
def dkwX2_nextToken_4 : List UInt8 := [184, 0, 118, 153, 0, 214, 42, 42, 180, 0, 121, 18, 124, 164, 0, 10, 42, 180, 0, 121, 167, 0, 22]
abbrev dktX2_nextToken_4 : List UInt8 := dkwX2_nextToken_4 ++ dktX2_nextToken_5
def dkwX2_nextToken_3 : List UInt8 := [184, 0, 118, 153, 0, 79, 42, 4, 181, 0, 115, 42, 3, 181, 0, 121, 42, 42, 180, 0, 106, 182, 0, 109]
abbrev dktX2_nextToken_3 : List UInt8 := dkwX2_nextToken_3 ++ dktX2_nextToken_4
def dkwX2_nextToken_2 : List UInt8 := [42, 42, 180, 0, 106, 182, 0, 109, 60, 27, 156, 0, 11, 42, 3, 181, 0, 115, 167, 0, 245, 27]
abbrev dktX2_nextToken_2 : List UInt8 := dkwX2_nextToken_2 ++ dktX2_nextToken_3
def dkwX2_nextToken_1 : List UInt8 := [160, 0, 16, 42, 89, 180, 0, 106, 4, 96, 181, 0, 106, 167, 255, 220, 42, 42, 180, 0, 106, 181, 0, 112]
abbrev dktX2_nextToken_1 : List UInt8 := dkwX2_nextToken_1 ++ dktX2_nextToken_2
def dkwX2_nextToken_0 : List UInt8 := [42, 42, 180, 0, 106, 182, 0, 109, 16, 32, 159, 0, 16, 42, 42, 180, 0, 106, 182, 0, 109, 16, 10]
abbrev dktX2_nextToken_0 : List UInt8 := dkwX2_nextToken_0 ++ dktX2_nextToken_1
theorem dksX2_nextToken_0 : cX2_nextToken.data.toList.drop 0 = dktX2_nextToken_0 := by decide +kernel
theorem dksX2_nextToken_1 : cX2_nextToken.data.toList.drop 23 = dktX2_nextToken_1 := dk_seg dksX2_nextToken_0 23 rfl rfl
theorem dksX2_nextToken_2 : cX2_nextToken.data.toList.drop 47 = dktX2_nextToken_2 := dk_seg dksX2_nextToken_1 24 rfl rfl
theorem dksX2_nextToken_3 : cX2_nextToken.data.toList.drop 69 = dktX2_nextToken_3 := dk_seg dksX2_nextToken_2 22 rfl rfl
theorem dksX2_nextToken_4 : cX2_nextToken.data.toList.drop 93 = dktX2_nextToken_4 := dk_seg dksX2_nextToken_3 24 rfl rfl
theorem dksX2_nextToken_5 : cX2_nextToken.data.toList.drop 116 = dktX2_nextToken_5 := dk_seg dksX2_nextToken_4 23 rfl rfl
theorem dksX2_nextToken_6 : cX2_nextToken.data.toList.drop 140 = dktX2_nextToken_6 := dk_seg dksX2_nextToken_5 24 rfl rfl
theorem dksX2_nextToken_7 : cX2_nextToken.data.toList.drop 164 = dktX2_nextToken_7 := dk_seg dksX2_nextToken_6 24 rfl rfl
theorem dksX2_nextToken_8 : cX2_nextToken.data.toList.drop 187 = dktX2_nextToken_8 := dk_seg dksX2_nextToken_7 23 rfl rfl
theorem dksX2_nextToken_9 : cX2_nextToken.data.toList.drop 210 = dktX2_nextToken_9 := dk_seg dksX2_nextToken_8 23 rfl rfl
theorem dksX2_nextToken_10 : cX2_nextToken.data.toList.drop 234 = dktX2_nextToken_10 := dk_seg dksX2_nextToken_9 24 rfl rfl
theorem dksX2_nextToken_11 : cX2_nextToken.data.toList.drop 257 = dktX2_nextToken_11 := dk_seg dksX2_nextToken_10 23 rfl rfl
theorem dksX2_nextToken_12 : cX2_nextToken.data.toList.drop 280 = dktX2_nextToken_12 := dk_seg dksX2_nextToken_11 23 rfl rfl
theorem dksX2_nextToken_13 : cX2_nextToken.data.toList.drop 302 = dktX2_nextToken_13 := dk_seg dksX2_nextToken_12 22 rfl rfl
theorem dX2_nextToken_0 : decode cX2_nextToken 0 = .ok (.aload_n 0, 1) := dk_42 (dk_at dksX2_nextToken_0 0 rfl rfl)
theorem dX2_nextToken_1 : decode cX2_nextToken 1 = .ok (.aload_n 0, 1) := dk_42 (dk_at dksX2_nextToken_0 1 rfl rfl)
theorem dX2_nextToken_2 : decode cX2_nextToken 2 = .ok (.getfield 106, 3) := dk_180 0 106 (dk_at dksX2_nextToken_0 2 rfl rfl)
theorem dX2_nextToken_5 : decode cX2_nextToken 5 = .ok (.invokevirtual 109, 3) := dk_182 0 109 (dk_at dksX2_nextToken_0 5 rfl rfl)
theorem dX2_nextToken_8 : decode cX2_nextToken 8 = .ok (.bipush 32, 2) := dk_16 32 (dk_at dksX2_nextToken_0 8 rfl rfl)
theorem dX2_nextToken_10 : decode cX2_nextToken 10 = .ok (.if_icmp .eq 16, 3) := dk_159 0 16 (dk_at dksX2_nextToken_0 10 rfl rfl)
theorem dX2_nextToken_13 : decode cX2_nextToken 13 = .ok (.aload_n 0, 1) := dk_42 (dk_at dksX2_nextToken_0 13 rfl rfl)
theorem dX2_nextToken_14 : decode cX2_nextToken 14 = .ok (.aload_n 0, 1) := dk_42 (dk_at dksX2_nextToken_0 14 rfl rfl)
theorem dX2_nextToken_15 : decode cX2_nextToken 15 = .ok (.getfield 106, 3) := dk_180 0 106 (dk_at dksX2_nextToken_0 15 rfl rfl)
theorem dX2_nextToken_18 : decode cX2_nextToken 18 = .ok (.invokevirtual 109, 3) := dk_182 0 109 (dk_at dksX2_nextToken_0 18 rfl rfl)
theorem dX2_nextToken_21 : decode cX2_nextToken 21 = .ok (.bipush 10, 2) := dk_16 10 (dk_at dksX2_nextToken_0 21 rfl rfl)
theorem dX2_nextToken_23 : decode cX2_nextToken 23 = .ok (.if_icmp .ne 16, 3) := dk_160 0 16 (dk_at dksX2_nextToken_1 0 rfl rfl)
theorem dX2_nextToken_26 : decode cX2_nextToken 26 = .ok (.aload_n 0, 1) := dk_42 (dk_at dksX2_nextToken_1 3 rfl rfl)
theorem dX2_nextToken_27 : decode cX2_nextToken 27 = .ok (.dup, 1) := dk_89 (dk_at dksX2_nextToken_1 4 rfl rfl)
theorem dX2_nextToken_28 : decode cX2_nextToken 28 = .ok (.getfield 106, 3) := dk_180 0 106 (dk_at dksX2_nextToken_1 5 rfl rfl)
theorem dX2_nextToken_31 : decode cX2_nextToken 31 = .ok (.iconst 1, 1) := dk_4 (dk_at dksX2_nextToken_1 8 rfl rfl)
theorem dX2_nextToken_32 : decode cX2_nextToken 32 = .ok (.iadd, 1) := dk_96 (dk_at dksX2_nextToken_1 9 rfl rfl)
theorem dX2_nextToken_33 : decode cX2_nextToken 33 = .ok (.putfield 106, 3) := dk_181 0 106 (dk_at dksX2_nextToken_1 10 rfl rfl)
theorem dX2_nextToken_36 : decode cX2_nextToken 36 = .ok (.goto (-36), 3) := dk_167 255 220 (dk_at dksX2_nextToken_1 13 rfl rfl)
theorem dX2_nextToken_39 : decode cX2_nextToken 39 = .ok (.aload_n 0, 1) := dk_42 (dk_at dksX2_nextToken_1 16 rfl rfl)
theorem dX2_nextToken_40 : decode cX2_nextToken 40 = .ok (.aload_n 0, 1) := dk_42 (dk_at dksX2_nextToken_1 17 rfl rfl)
theorem dX2_nextToken_41 : decode cX2_nextToken 41 = .ok (.getfield 106, 3) := dk_180 0 106 (dk_at dksX2_nextToken_1 18 rfl rfl)
theorem dX2_nextToken_44 : decode cX2_nextToken 44 = .ok (.putfield 112, 3) := dk_181 0 112 (dk_at dksX2_nextToken_1 21 rfl rfl)
theorem dX2_nextToken_47 : decode cX2_nextToken 47 = .ok (.aload_n 0, 1) := dk_42 (dk_at dksX2_nextToken_2 0 rfl rfl)
theorem dX2_nextToken_48 : decode cX2_nextToken 48 = .ok (.aload_n 0, 1) := dk_42 (dk_at dksX2_nextToken_2 1 rfl rfl)
theorem dX2_nextToken_49 : decode cX2_nextToken 49 = .ok (.getfield 106, 3) := dk_180 0 106 (dk_at dksX2_nextToken_2 2 rfl rfl)
theorem dX2_nextToken_52 : decode cX2_nextToken 52 = .ok (.invokevirtual 109, 3) := dk_182 0 109 (dk_at dksX2_nextToken_2 5 rfl rfl)
theorem dX2_nextToken_55 : decode cX2_nextToken 55 = .ok (.istore_n 1, 1) := dk_60 (dk_at dksX2_nextToken_2 8 rfl rfl)
theorem dX2_nextToken_56 : decode cX2_nextToken 56 = .ok (.iload_n 1, 1) := dk_27 (dk_at dksX2_nextToken_2 9 rfl rfl)
theorem dX2_nextToken_57 : decode cX2_nextToken 57 = .ok (.ifCond .ge 11, 3) := dk_156 0 11 (dk_at dksX2_nextToken_2 10 rfl rfl)
theorem dX2_nextToken_60 : decode cX2_nextToken 60 = .ok (.aload_n 0, 1) := dk_42 (dk_at dksX2_nextToken_2 13 rfl rfl)
theorem dX2_nextToken_61 : decode cX2_nextToken 61 = .ok (.iconst 0, 1) := dk_3 (dk_at dksX2_nextToken_2 14 rfl rfl)
theorem dX2_nextToken_62 : decode cX2_nextToken 62 = .ok (.putfield 115, 3) := dk_181 0 115 (dk_at dksX2_nextToken_2 15 rfl rfl)
theorem dX2_nextToken_65 : decode cX2_nextToken 65 = .ok (.goto 245, 3) := dk_167 0 245 (dk_at dksX2_nextToken_2 18 rfl rfl)
theorem dX2_nextToken_68 : decode cX2_nextToken 68 = .ok (.iload_n 1, 1) := dk_27 (dk_at dksX2_nextToken_2 21 rfl rfl)
theorem dX2_nextToken_69 : decode cX2_nextToken 69 = .ok (.invokestatic 118, 3) := dk_184 0 118 (dk_at dksX2_nextToken_3 0 rfl rfl)
theorem dX2_nextToken_72 : decode cX2_nextToken 72 = .ok (.ifCond .eq 79, 3) := dk_153 0 79 (dk_at dksX2_nextToken_3 3 rfl rfl)
theorem dX2_nextToken_75 : decode cX2_nextToken 75 = .ok (.aload_n 0, 1) := dk_42 (dk_at dksX2_nextToken_3 6 rfl rfl)
theorem dX2_nextToken_76 : decode cX2_nextToken 76 = .ok (.iconst 1, 1) := dk_4 (dk_at dksX2_nextToken_3 7 rfl rfl)
theorem dX2_nextToken_77 : decode cX2_nextToken 77 = .ok (.putfield 115, 3) := dk_181 0 115 (dk_at dksX2_nextToken_3 8 rfl rfl)
theorem dX2_nextToken_80 : decode cX2_nextToken 80 = .ok (.aload_n 0, 1) := dk_42 (dk_at dksX2_nextToken_3 11 rfl rfl)
theorem dX2_nextToken_81 : decode cX2_nextToken 81 = .ok (.iconst 0, 1) := dk_3 (dk_at dksX2_nextToken_3 12 rfl rfl)
theorem dX2_nextToken_82 : decode cX2_nextToken 82 = .ok (.putfield 121, 3) := dk_181 0 121 (dk_at dksX2_nextToken_3 13 rfl rfl)
theorem dX2_nextToken_85 : decode cX2_nextToken 85 = .ok (.aload_n 0, 1) := dk_42 (dk_at dksX2_nextToken_3 16 rfl rfl)
theorem dX2_nextToken_86 : decode cX2_nextToken 86 = .ok (.aload_n 0, 1) := dk_42 (dk_at dksX2_nextToken_3 17 rfl rfl)
theorem dX2_nextToken_87 : decode cX2_nextToken 87 = .ok (.getfield 106, 3) := dk_180 0 106 (dk_at dksX2_nextToken_3 18 rfl rfl)
theorem dX2_nextToken_90 : decode cX2_nextToken 90 = .ok (.invokevirtual 109, 3) := dk_182 0 109 (dk_at dksX2_nextToken_3 21 rfl rfl)
theorem dX2_nextToken_93 : decode cX2_nextToken 93 = .ok (.invokestatic 118, 3) := dk_184 0 118 (dk_at dksX2_nextToken_4 0 rfl rfl)
theorem dX2_nextToken_96 : decode cX2_nextToken 96 = .ok (.ifCond .eq 214, 3) := dk_153 0 214 (dk_at dksX2_nextToken_4 3 rfl rfl)
theorem dX2_nextToken_99 : decode cX2_nextToken 99 = .ok (.aload_n 0, 1) := dk_42 (dk_at dksX2_nextToken_4 6 rfl rfl)
theorem dX2_nextToken_100 : decode cX2_nextToken 100 = .ok (.aload_n 0, 1) := dk_42 (dk_at dksX2_nextToken_4 7 rfl rfl)
theorem dX2_nextToken_101 : decode cX2_nextToken 101 = .ok (.getfield 121, 3) := dk_180 0 121 (dk_at dksX2_nextToken_4 8 rfl rfl)
theorem dX2_nextToken_104 : decode cX2_nextToken 104 = .ok (.ldc 124, 2) := dk_18 124 (dk_at dksX2_nextToken_4 11 rfl rfl)
theorem dX2_nextToken_106 : decode cX2_nextToken 106 = .ok (.if_icmp .le 10, 3) := dk_164 0 10 (dk_at dksX2_nextToken_4 13 rfl rfl)
theorem dX2_nextToken_109 : decode cX2_nextToken 109 = .ok (.aload_n 0, 1) := dk_42 (dk_at dksX2_nextToken_4 16 rfl rfl)
theorem dX2_nextToken_110 : decode cX2_nextToken 110 = .ok (.getfield 121, 3) := dk_180 0 121 (dk_at dksX2_nextToken_4 17 rfl rfl)
theorem dX2_nextToken_113 : decode cX2_nextToken 113 = .ok (.goto 22, 3) := dk_167 0 22 (dk_at dksX2_nextToken_4 20 rfl rfl)
theorem dX2_nextToken_116 : decode cX2_nextToken 116 = .ok (.bipush 10, 2) := dk_16 10 (dk_at dksX2_nextToken_5 0 rfl rfl)
theorem dX2_nextToken_118 : decode cX2_nextToken 118 = .ok (.aload_n 0, 1) := dk_42 (dk_at dksX2_nextToken_5 2 rfl rfl)
theorem dX2_nextToken_119 : decode cX2_nextToken 119 = .ok (.getfield 121, 3) := dk_180 0 121 (dk_at dksX2_nextToken_5 3 rfl rfl)
theorem dX2_nextToken_122 : decode cX2_nextToken 122 = .ok (.imul, 1) := dk_104 (dk_at dksX2_nextToken_5 6 rfl rfl)
theorem dX2_nextToken_123 : decode cX2_nextToken 123 = .ok (.aload_n 0, 1) := dk_42 (dk_at dksX2_nextToken_5 7 rfl rfl)
theorem dX2_nextToken_124 : decode cX2_nextToken 124 = .ok (.aload_n 0, 1) := dk_42 (dk_at dksX2_nextToken_5 8 rfl rfl)
theorem dX2_nextToken_125 : decode cX2_nextToken 125 = .ok (.getfield 106, 3) := dk_180 0 106 (dk_at dksX2_nextToken_5 9 rfl rfl)
theorem dX2_nextToken_128 : decode cX2_nextToken 128 = .ok (.invokevirtual 109, 3) := dk_182 0 109 (dk_at dksX2_nextToken_5 12 rfl rfl)
theorem dX2_nextToken_131 : decode cX2_nextToken 131 = .ok (.iadd, 1) := dk_96 (dk_at dksX2_nextToken_5 15 rfl rfl)
theorem dX2_nextToken_132 : decode cX2_nextToken 132 = .ok (.bipush 48, 2) := dk_16 48 (dk_at dksX2_nextToken_5 16 rfl rfl)
theorem dX2_nextToken_134 : decode cX2_nextToken 134 = .ok (.isub, 1) := dk_100 (dk_at dksX2_nextToken_5 18 rfl rfl)
theorem dX2_nextToken_135 : decode cX2_nextToken 135 = .ok (.putfield 121, 3) := dk_181 0 121 (dk_at dksX2_nextToken_5 19 rfl rfl)
theorem dX2_nextToken_138 : decode cX2_nextToken 138 = .ok (.aload_n 0, 1) := dk_42 (dk_at dksX2_nextToken_5 22 rfl rfl)
theorem dX2_nextToken_139 : decode cX2_nextToken 139 = .ok (.dup, 1) := dk_89 (dk_at dksX2_nextToken_5 23 rfl rfl)
theorem dX2_nextToken_140 : decode cX2_nextToken 140 = .ok (.getfield 106, 3) := dk_180 0 106 (dk_at dksX2_nextToken_6 0 rfl rfl)
theorem dX2_nextToken_143 : decode cX2_nextToken 143 = .ok (.iconst 1, 1) := dk_4 (dk_at dksX2_nextToken_6 3 rfl rfl)
theorem dX2_nextToken_144 : decode cX2_nextToken 144 = .ok (.iadd, 1) := dk_96 (dk_at dksX2_nextToken_6 4 rfl rfl)
theorem dX2_nextToken_145 : decode cX2_nextToken 145 = .ok (.putfield 106, 3) := dk_181 0 106 (dk_at dksX2_nextToken_6 5 rfl rfl)
theorem dX2_nextToken_148 : decode cX2_nextToken 148 = .ok (.goto (-63), 3) := dk_167 255 193 (dk_at dksX2_nextToken_6 8 rfl rfl)
theorem dX2_nextToken_151 : decode cX2_nextToken 151 = .ok (.iload_n 1, 1) := dk_27 (dk_at dksX2_nextToken_6 11 rfl rfl)
theorem dX2_nextToken_152 : decode cX2_nextToken 152 = .ok (.invokestatic 125, 3) := dk_184 0 125 (dk_at dksX2_nextToken_6 12 rfl rfl)
theorem dX2_nextToken_155 : decode cX2_nextToken 155 = .ok (.ifCond .eq 79, 3) := dk_153 0 79 (dk_at dksX2_nextToken_6 15 rfl rfl)
theorem dX2_nextToken_158 : decode cX2_nextToken 158 = .ok (.aload_n 0, 1) := dk_42 (dk_at dksX2_nextToken_6 18 rfl rfl)
theorem dX2_nextToken_159 : decode cX2_nextToken 159 = .ok (.iconst 2, 1) := dk_5 (dk_at dksX2_nextToken_6 19 rfl rfl)
theorem dX2_nextToken_160 : decode cX2_nextToken 160 = .ok (.putfield 115, 3) := dk_181 0 115 (dk_at dksX2_nextToken_6 20 rfl rfl)
theorem dX2_nextToken_163 : decode cX2_nextToken 163 = .ok (.aload_n 0, 1) := dk_42 (dk_at dksX2_nextToken_6 23 rfl rfl)
theorem dX2_nextToken_164 : decode cX2_nextToken 164 = .ok (.lconst 0, 1) := dk_9 (dk_at dksX2_nextToken_7 0 rfl rfl)
theorem dX2_nextToken_165 : decode cX2_nextToken 165 = .ok (.putfield 128, 3) := dk_181 0 128 (dk_at dksX2_nextToken_7 1 rfl rfl)
theorem dX2_nextToken_168 : decode cX2_nextToken 168 = .ok (.aload_n 0, 1) := dk_42 (dk_at dksX2_nextToken_7 4 rfl rfl)
theorem dX2_nextToken_169 : decode cX2_nextToken 169 = .ok (.aload_n 0, 1) := dk_42 (dk_at dksX2_nextToken_7 5 rfl rfl)
theorem dX2_nextToken_170 : decode cX2_nextToken 170 = .ok (.getfield 106, 3) := dk_180 0 106 (dk_at dksX2_nextToken_7 6 rfl rfl)
theorem dX2_nextToken_173 : decode cX2_nextToken 173 = .ok (.invokevirtual 109, 3) := dk_182 0 109 (dk_at dksX2_nextToken_7 9 rfl rfl)
theorem dX2_nextToken_176 : decode cX2_nextToken 176 = .ok (.invokestatic 125, 3) := dk_184 0 125 (dk_at dksX2_nextToken_7 12 rfl rfl)
theorem dX2_nextToken_179 : decode cX2_nextToken 179 = .ok (.ifCond .eq 131, 3) := dk_153 0 131 (dk_at dksX2_nextToken_7 15 rfl rfl)
theorem dX2_nextToken_182 : decode cX2_nextToken 182 = .ok (.aload_n 0, 1) := dk_42 (dk_at dksX2_nextToken_7 18 rfl rfl)
theorem dX2_nextToken_183 : decode cX2_nextToken 183 = .ok (.aload_n 0, 1) := dk_42 (dk_at dksX2_nextToken_7 19 rfl rfl)
theorem dX2_nextToken_184 : decode cX2_nextToken 184 = .ok (.getfield 128, 3) := dk_180 0 128 (dk_at dksX2_nextToken_7 20 rfl rfl)
theorem dX2_nextToken_187 : decode cX2_nextToken 187 = .ok (.bipush 48, 2) := dk_16 48 (dk_at dksX2_nextToken_8 0 rfl rfl)
theorem dX2_nextToken_189 : decode cX2_nextToken 189 = .ok (.lshr, 1) := dk_123 (dk_at dksX2_nextToken_8 2 rfl rfl)
theorem dX2_nextToken_190 : decode cX2_nextToken 190 = .ok (.lconst 0, 1) := dk_9 (dk_at dksX2_nextToken_8 3 rfl rfl)
theorem dX2_nextToken_191 : decode cX2_nextToken 191 = .ok (.lcmp, 1) := dk_148 (dk_at dksX2_nextToken_8 4 rfl rfl)
theorem dX2_nextToken_192 : decode cX2_nextToken 192 = .ok (.ifCond .eq 9, 3) := dk_153 0 9 (dk_at dksX2_nextToken_8 5 rfl rfl)
theorem dX2_nextToken_195 : decode cX2_nextToken 195 = .ok (.ldc2_w 132, 3) := dk_20 0 132 (dk_at dksX2_nextToken_8 8 rfl rfl)
theorem dX2_nextToken_198 : decode cX2_nextToken 198 = .ok (.goto 20, 3) := dk_167 0 20 (dk_at dksX2_nextToken_8 11 rfl rfl)
theorem dX2_nextToken_201 : decode cX2_nextToken 201 = .ok (.aload_n 0, 1) := dk_42 (dk_at dksX2_nextToken_8 14 rfl rfl)
theorem dX2_nextToken_202 : decode cX2_nextToken 202 = .ok (.getfield 128, 3) := dk_180 0 128 (dk_at dksX2_nextToken_8 15 rfl rfl)
theorem dX2_nextToken_205 : decode cX2_nextToken 205 = .ok (.bipush 8, 2) := dk_16 8 (dk_at dksX2_nextToken_8 18 rfl rfl)
theorem dX2_nextToken_207 : decode cX2_nextToken 207 = .ok (.lshl, 1) := dk_121 (dk_at dksX2_nextToken_8 20 rfl rfl)
theorem dX2_nextToken_208 : decode cX2_nextToken 208 = .ok (.aload_n 0, 1) := dk_42 (dk_at dksX2_nextToken_8 21 rfl rfl)
theorem dX2_nextToken_209 : decode cX2_nextToken 209 = .ok (.aload_n 0, 1) := dk_42 (dk_at dksX2_nextToken_8 22 rfl rfl)
theorem dX2_nextToken_210 : decode cX2_nextToken 210 = .ok (.getfield 106, 3) := dk_180 0 106 (dk_at dksX2_nextToken_9 0 rfl rfl)
theorem dX2_nextToken_213 : decode cX2_nextToken 213 = .ok (.invokevirtual 109, 3) := dk_182 0 109 (dk_at dksX2_nextToken_9 3 rfl rfl)
theorem dX2_nextToken_216 : decode cX2_nextToken 216 = .ok (.i2l, 1) := dk_133 (dk_at dksX2_nextToken_9 6 rfl rfl)
theorem dX2_nextToken_217 : decode cX2_nextToken 217 = .ok (.lor, 1) := dk_129 (dk_at dksX2_nextToken_9 7 rfl rfl)
theorem dX2_nextToken_218 : decode cX2_nextToken 218 = .ok (.putfield 128, 3) := dk_181 0 128 (dk_at dksX2_nextToken_9 8 rfl rfl)
theorem dX2_nextToken_221 : decode cX2_nextToken 221 = .ok (.aload_n 0, 1) := dk_42 (dk_at dksX2_nextToken_9 11 rfl rfl)
theorem dX2_nextToken_222 : decode cX2_nextToken 222 = .ok (.dup, 1) := dk_89 (dk_at dksX2_nextToken_9 12 rfl rfl)
theorem dX2_nextToken_223 : decode cX2_nextToken 223 = .ok (.getfield 106, 3) := dk_180 0 106 (dk_at dksX2_nextToken_9 13 rfl rfl)
theorem dX2_nextToken_226 : decode cX2_nextToken 226 = .ok (.iconst 1, 1) := dk_4 (dk_at dksX2_nextToken_9 16 rfl rfl)
theorem dX2_nextToken_227 : decode cX2_nextToken 227 = .ok (.iadd, 1) := dk_96 (dk_at dksX2_nextToken_9 17 rfl rfl)
theorem dX2_nextToken_228 : decode cX2_nextToken 228 = .ok (.putfield 106, 3) := dk_181 0 106 (dk_at dksX2_nextToken_9 18 rfl rfl)
theorem dX2_nextToken_231 : decode cX2_nextToken 231 = .ok (.goto (-63), 3) := dk_167 255 193 (dk_at dksX2_nextToken_9 21 rfl rfl)
theorem dX2_nextToken_234 : decode cX2_nextToken 234 = .ok (.aload_n 0, 1) := dk_42 (dk_at dksX2_nextToken_10 0 rfl rfl)
theorem dX2_nextToken_235 : decode cX2_nextToken 235 = .ok (.iload_n 1, 1) := dk_27 (dk_at dksX2_nextToken_10 1 rfl rfl)
theorem dX2_nextToken_236 : decode cX2_nextToken 236 = .ok (.invokestatic 134, 3) := dk_184 0 134 (dk_at dksX2_nextToken_10 2 rfl rfl)
theorem dX2_nextToken_239 : decode cX2_nextToken 239 = .ok (.ifCond .eq 7, 3) := dk_153 0 7 (dk_at dksX2_nextToken_10 5 rfl rfl)
theorem dX2_nextToken_242 : decode cX2_nextToken 242 = .ok (.iload_n 1, 1) := dk_27 (dk_at dksX2_nextToken_10 8 rfl rfl)
theorem dX2_nextToken_243 : decode cX2_nextToken 243 = .ok (.goto 4, 3) := dk_167 0 4 (dk_at dksX2_nextToken_10 9 rfl rfl)
theorem dX2_nextToken_246 : decode cX2_nextToken 246 = .ok (.iconst 3, 1) := dk_6 (dk_at dksX2_nextToken_10 12 rfl rfl)
theorem dX2_nextToken_247 : decode cX2_nextToken 247 = .ok (.putfield 115, 3) := dk_181 0 115 (dk_at dksX2_nextToken_10 13 rfl rfl)
theorem dX2_nextToken_250 : decode cX2_nextToken 250 = .ok (.aload_n 0, 1) := dk_42 (dk_at dksX2_nextToken_10 16 rfl rfl)
theorem dX2_nextToken_251 : decode cX2_nextToken 251 = .ok (.dup, 1) := dk_89 (dk_at dksX2_nextToken_10 17 rfl rfl)
theorem dX2_nextToken_252 : decode cX2_nextToken 252 = .ok (.getfield 106, 3) := dk_180 0 106 (dk_at dksX2_nextToken_10 18 rfl rfl)
theorem dX2_nextToken_255 : decode cX2_nextToken 255 = .ok (.iconst 1, 1) := dk_4 (dk_at dksX2_nextToken_10 21 rfl rfl)
theorem dX2_nextToken_256 : decode cX2_nextToken 256 = .ok (.iadd, 1) := dk_96 (dk_at dksX2_nextToken_10 22 rfl rfl)
theorem dX2_nextToken_257 : decode cX2_nextToken 257 = .ok (.putfield 106, 3) := dk_181 0 106 (dk_at dksX2_nextToken_11 0 rfl rfl)
theorem dX2_nextToken_260 : decode cX2_nextToken 260 = .ok (.iload_n 1, 1) := dk_27 (dk_at dksX2_nextToken_11 3 rfl rfl)
theorem dX2_nextToken_261 : decode cX2_nextToken 261 = .ok (.bipush 60, 2) := dk_16 60 (dk_at dksX2_nextToken_11 4 rfl rfl)
theorem dX2_nextToken_263 : decode cX2_nextToken 263 = .ok (.if_icmp .eq 9, 3) := dk_159 0 9 (dk_at dksX2_nextToken_11 6 rfl rfl)
theorem dX2_nextToken_266 : decode cX2_nextToken 266 = .ok (.iload_n 1, 1) := dk_27 (dk_at dksX2_nextToken_11 9 rfl rfl)
theorem dX2_nextToken_267 : decode cX2_nextToken 267 = .ok (.bipush 62, 2) := dk_16 62 (dk_at dksX2_nextToken_11 10 rfl rfl)
theorem dX2_nextToken_269 : decode cX2_nextToken 269 = .ok (.if_icmp .ne 41, 3) := dk_160 0 41 (dk_at dksX2_nextToken_11 12 rfl rfl)
theorem dX2_nextToken_272 : decode cX2_nextToken 272 = .ok (.aload_n 0, 1) := dk_42 (dk_at dksX2_nextToken_11 15 rfl rfl)
theorem dX2_nextToken_273 : decode cX2_nextToken 273 = .ok (.aload_n 0, 1) := dk_42 (dk_at dksX2_nextToken_11 16 rfl rfl)
theorem dX2_nextToken_274 : decode cX2_nextToken 274 = .ok (.getfield 106, 3) := dk_180 0 106 (dk_at dksX2_nextToken_11 17 rfl rfl)
theorem dX2_nextToken_277 : decode cX2_nextToken 277 = .ok (.invokevirtual 109, 3) := dk_182 0 109 (dk_at dksX2_nextToken_11 20 rfl rfl)
theorem dX2_nextToken_280 : decode cX2_nextToken 280 = .ok (.bipush 61, 2) := dk_16 61 (dk_at dksX2_nextToken_12 0 rfl rfl)
theorem dX2_nextToken_282 : decode cX2_nextToken 282 = .ok (.if_icmp .ne 28, 3) := dk_160 0 28 (dk_at dksX2_nextToken_12 2 rfl rfl)
theorem dX2_nextToken_285 : decode cX2_nextToken 285 = .ok (.aload_n 0, 1) := dk_42 (dk_at dksX2_nextToken_12 5 rfl rfl)
theorem dX2_nextToken_286 : decode cX2_nextToken 286 = .ok (.iload_n 1, 1) := dk_27 (dk_at dksX2_nextToken_12 6 rfl rfl)
theorem dX2_nextToken_287 : decode cX2_nextToken 287 = .ok (.bipush 60, 2) := dk_16 60 (dk_at dksX2_nextToken_12 7 rfl rfl)
theorem dX2_nextToken_289 : decode cX2_nextToken 289 = .ok (.if_icmp .ne 7, 3) := dk_160 0 7 (dk_at dksX2_nextToken_12 9 rfl rfl)
theorem dX2_nextToken_292 : decode cX2_nextToken 292 = .ok (.iconst 4, 1) := dk_7 (dk_at dksX2_nextToken_12 12 rfl rfl)
theorem dX2_nextToken_293 : decode cX2_nextToken 293 = .ok (.goto 4, 3) := dk_167 0 4 (dk_at dksX2_nextToken_12 13 rfl rfl)
theorem dX2_nextToken_296 : decode cX2_nextToken 296 = .ok (.iconst 5, 1) := dk_8 (dk_at dksX2_nextToken_12 16 rfl rfl)
theorem dX2_nextToken_297 : decode cX2_nextToken 297 = .ok (.putfield 115, 3) := dk_181 0 115 (dk_at dksX2_nextToken_12 17 rfl rfl)
theorem dX2_nextToken_300 : decode cX2_nextToken 300 = .ok (.aload_n 0, 1) := dk_42 (dk_at dksX2_nextToken_12 20 rfl rfl)
theorem dX2_nextToken_301 : decode cX2_nextToken 301 = .ok (.dup, 1) := dk_89 (dk_at dksX2_nextToken_12 21 rfl rfl)
theorem dX2_nextToken_302 : decode cX2_nextToken 302 = .ok (.getfield 106, 3) := dk_180 0 106 (dk_at dksX2_nextToken_13 0 rfl rfl)
theorem dX2_nextToken_305 : decode cX2_nextToken 305 = .ok (.iconst 1, 1) := dk_4 (dk_at dksX2_nextToken_13 3 rfl rfl)
theorem dX2_nextToken_306 : decode cX2_nextToken 306 = .ok (.iadd, 1) := dk_96 (dk_at dksX2_nextToken_13 4 rfl rfl)
theorem dX2_nextToken_307 : decode cX2_nextToken 307 = .ok (.putfield 106, 3) := dk_181 0 106 (dk_at dksX2_nextToken_13 5 rfl rfl)
theorem dX2_nextToken_310 : decode cX2_nextToken 310 = .ok (.return_, 1) := dk_177 (dk_at dksX2_nextToken_13 8 rfl rfl)
abbrev cX2_byteAt : ByteArray := prog_19_method_20_code
def yX2_byteAt : MethodName := ⟨RX2, "byteAt", "(I)I"⟩
def dkwX2_byteAt_0 : List UInt8 := [27, 42, 180, 0, 100, 162, 0, 12, 42, 180, 0, 19, 27, 46, 167, 0, 4, 2, 172]
abbrev dktX2_byteAt_0 : List UInt8 := dkwX2_byteAt_0 ++ []
theorem dksX2_byteAt_0 : cX2_byteAt.data.toList.drop 0 = dktX2_byteAt_0 := by decide +kernel
theorem dX2_byteAt_0 : decode cX2_byteAt 0 = .ok (.iload_n 1, 1) := dk_27 (dk_at dksX2_byteAt_0 0 rfl rfl)
theorem dX2_byteAt_1 : decode cX2_byteAt 1 = .ok (.aload_n 0, 1) := dk_42 (dk_at dksX2_byteAt_0 1 rfl rfl)
theorem dX2_byteAt_2 : decode cX2_byteAt 2 = .ok (.getfield 100, 3) := dk_180 0 100 (dk_at dksX2_byteAt_0 2 rfl rfl)
theorem dX2_byteAt_5 : decode cX2_byteAt 5 = .ok (.if_icmp .ge 12, 3) := dk_162 0 12 (dk_at dksX2_byteAt_0 5 rfl rfl)
theorem dX2_byteAt_8 : decode cX2_byteAt 8 = .ok (.aload_n 0, 1) := dk_42 (dk_at dksX2_byteAt_0 8 rfl rfl)
theorem dX2_byteAt_9 : decode cX2_byteAt 9 = .ok (.getfield 19, 3) := dk_180 0 19 (dk_at dksX2_byteAt_0 9 rfl rfl)
theorem dX2_byteAt_12 : decode cX2_byteAt 12 = .ok (.iload_n 1, 1) := dk_27 (dk_at dksX2_byteAt_0 12 rfl rfl)
theorem dX2_byteAt_13 : decode cX2_byteAt 13 = .ok (.iaload, 1) := dk_46 (dk_at dksX2_byteAt_0 13 rfl rfl)
theorem dX2_byteAt_14 : decode cX2_byteAt 14 = .ok (.goto 4, 3) := dk_167 0 4 (dk_at dksX2_byteAt_0 14 rfl rfl)
theorem dX2_byteAt_17 : decode cX2_byteAt 17 = .ok (.iconst (-1), 1) := dk_2 (dk_at dksX2_byteAt_0 17 rfl rfl)
theorem dX2_byteAt_18 : decode cX2_byteAt 18 = .ok (.ireturn, 1) := dk_172 (dk_at dksX2_byteAt_0 18 rfl rfl)
abbrev cX2_isFigure : ByteArray := prog_19_method_22_code
def yX2_isFigure : MethodName := ⟨RX2, "isFigure", "(I)Z"⟩
def dkwX2_isFigure_0 : List UInt8 := [26, 16, 48, 161, 0, 13, 26, 16, 57, 163, 0, 7, 4, 167, 0, 4, 3, 172]
abbrev dktX2_isFigure_0 : List UInt8 := dkwX2_isFigure_0 ++ []
theorem dksX2_isFigure_0 : cX2_isFigure.data.toList.drop 0 = dktX2_isFigure_0 := by decide +kernel
theorem dX2_isFigure_0 : decode cX2_isFigure 0 = .ok (.iload_n 0, 1) := dk_26 (dk_at dksX2_isFigure_0 0 rfl rfl)
theorem dX2_isFigure_1 : decode cX2_isFigure 1 = .ok (.bipush 48, 2) := dk_16 48 (dk_at dksX2_isFigure_0 1 rfl rfl)
theorem dX2_isFigure_3 : decode cX2_isFigure 3 = .ok (.if_icmp .lt 13, 3) := dk_161 0 13 (dk_at dksX2_isFigure_0 3 rfl rfl)
theorem dX2_isFigure_6 : decode cX2_isFigure 6 = .ok (.iload_n 0, 1) := dk_26 (dk_at dksX2_isFigure_0 6 rfl rfl)
theorem dX2_isFigure_7 : decode cX2_isFigure 7 = .ok (.bipush 57, 2) := dk_16 57 (dk_at dksX2_isFigure_0 7 rfl rfl)
theorem dX2_isFigure_9 : decode cX2_isFigure 9 = .ok (.if_icmp .gt 7, 3) := dk_163 0 7 (dk_at dksX2_isFigure_0 9 rfl rfl)
theorem dX2_isFigure_12 : decode cX2_isFigure 12 = .ok (.iconst 1, 1) := dk_4 (dk_at dksX2_isFigure_0 12 rfl rfl)
theorem dX2_isFigure_13 : decode cX2_isFigure 13 = .ok (.goto 4, 3) := dk_167 0 4 (dk_at dksX2_isFigure_0 13 rfl rfl)
theorem dX2_isFigure_16 : decode cX2_isFigure 16 = .ok (.iconst 0, 1) := dk_3 (dk_at dksX2_isFigure_0 16 rfl rfl)
theorem dX2_isFigure_17 : decode cX2_isFigure 17 = .ok (.ireturn, 1) := dk_172 (dk_at dksX2_isFigure_0 17 rfl rfl)
abbrev cX2_isLetterByte : ByteArray := prog_19_method_21_code
def yX2_isLetterByte : MethodName := ⟨RX2, "isLetterByte", "(I)Z"⟩
def dkwX2_isLetterByte_1 : List UInt8 := [4, 167, 0, 4, 3, 172]
abbrev dktX2_isLetterByte_1 : List UInt8 := dkwX2_isLetterByte_1 ++ []
def dkwX2_isLetterByte_0 : List UInt8 := [26, 16, 97, 161, 0, 9, 26, 16, 122, 164, 0, 15, 26, 16, 65, 161, 0, 13, 26, 16, 90, 163, 0, 7]
abbrev dktX2_isLetterByte_0 : List UInt8 := dkwX2_isLetterByte_0 ++ dktX2_isLetterByte_1
theorem dksX2_isLetterByte_0 : cX2_isLetterByte.data.toList.drop 0 = dktX2_isLetterByte_0 := by decide +kernel
theorem dksX2_isLetterByte_1 : cX2_isLetterByte.data.toList.drop 24 = dktX2_isLetterByte_1 := dk_seg dksX2_isLetterByte_0 24 rfl rfl
theorem dX2_isLetterByte_0 : decode cX2_isLetterByte 0 = .ok (.iload_n 0, 1) := dk_26 (dk_at dksX2_isLetterByte_0 0 rfl rfl)
theorem dX2_isLetterByte_1 : decode cX2_isLetterByte 1 = .ok (.bipush 97, 2) := dk_16 97 (dk_at dksX2_isLetterByte_0 1 rfl rfl)
theorem dX2_isLetterByte_3 : decode cX2_isLetterByte 3 = .ok (.if_icmp .lt 9, 3) := dk_161 0 9 (dk_at dksX2_isLetterByte_0 3 rfl rfl)
theorem dX2_isLetterByte_6 : decode cX2_isLetterByte 6 = .ok (.iload_n 0, 1) := dk_26 (dk_at dksX2_isLetterByte_0 6 rfl rfl)
theorem dX2_isLetterByte_7 : decode cX2_isLetterByte 7 = .ok (.bipush 122, 2) := dk_16 122 (dk_at dksX2_isLetterByte_0 7 rfl rfl)
theorem dX2_isLetterByte_9 : decode cX2_isLetterByte 9 = .ok (.if_icmp .le 15, 3) := dk_164 0 15 (dk_at dksX2_isLetterByte_0 9 rfl rfl)
theorem dX2_isLetterByte_12 : decode cX2_isLetterByte 12 = .ok (.iload_n 0, 1) := dk_26 (dk_at dksX2_isLetterByte_0 12 rfl rfl)
theorem dX2_isLetterByte_13 : decode cX2_isLetterByte 13 = .ok (.bipush 65, 2) := dk_16 65 (dk_at dksX2_isLetterByte_0 13 rfl rfl)
theorem dX2_isLetterByte_15 : decode cX2_isLetterByte 15 = .ok (.if_icmp .lt 13, 3) := dk_161 0 13 (dk_at dksX2_isLetterByte_0 15 rfl rfl)
theorem dX2_isLetterByte_18 : decode cX2_isLetterByte 18 = .ok (.iload_n 0, 1) := dk_26 (dk_at dksX2_isLetterByte_0 18 rfl rfl)
theorem dX2_isLetterByte_19 : decode cX2_isLetterByte 19 = .ok (.bipush 90, 2) := dk_16 90 (dk_at dksX2_isLetterByte_0 19 rfl rfl)
theorem dX2_isLetterByte_21 : decode cX2_isLetterByte 21 = .ok (.if_icmp .gt 7, 3) := dk_163 0 7 (dk_at dksX2_isLetterByte_0 21 rfl rfl)
theorem dX2_isLetterByte_24 : decode cX2_isLetterByte 24 = .ok (.iconst 1, 1) := dk_4 (dk_at dksX2_isLetterByte_1 0 rfl rfl)
theorem dX2_isLetterByte_25 : decode cX2_isLetterByte 25 = .ok (.goto 4, 3) := dk_167 0 4 (dk_at dksX2_isLetterByte_1 1 rfl rfl)
theorem dX2_isLetterByte_28 : decode cX2_isLetterByte 28 = .ok (.iconst 0, 1) := dk_3 (dk_at dksX2_isLetterByte_1 4 rfl rfl)
theorem dX2_isLetterByte_29 : decode cX2_isLetterByte 29 = .ok (.ireturn, 1) := dk_172 (dk_at dksX2_isLetterByte_1 5 rfl rfl)
abbrev cX2_isSign : ByteArray := prog_19_method_23_code
def yX2_isSign : MethodName := ⟨RX2, "isSign", "(I)Z"⟩
def dkwX2_isSign_2 : List UInt8 := [4, 172, 3, 172]
abbrev dktX2_isSign_2 : List UInt8 := dkwX2_isSign_2 ++ []
def dkwX2_isSign_1 : List UInt8 := [171, 0, 0, 0, 0, 0, 117, 0, 0, 0, 13, 0, 0, 0, 35, 0, 0, 0, 115, 0, 0, 0, 40, 0, 0, 0, 115, 0, 0, 0, 41, 0, 0, 0, 115, 0, 0, 0, 42, 0, 0, 0, 115, 0, 0, 0, 43, 0, 0, 0, 115, 0, 0, 0, 45, 0, 0, 0, 115, 0, 0, 0, 47, 0, 0, 0, 115, 0, 0, 0, 58, 0, 0, 0, 115, 0, 0, 0, 59, 0, 0, 0, 115, 0, 0, 0, 60, 0, 0, 0, 115, 0, 0, 0, 61, 0, 0, 0, 115, 0, 0, 0, 62, 0, 0, 0, 115, 0, 0, 0, 94, 0, 0, 0, 115]
abbrev dktX2_isSign_1 : List UInt8 := dkwX2_isSign_1 ++ dktX2_isSign_2
def dkwX2_isSign_0 : List UInt8 := [26]
abbrev dktX2_isSign_0 : List UInt8 := dkwX2_isSign_0 ++ dktX2_isSign_1
theorem dksX2_isSign_0 : cX2_isSign.data.toList.drop 0 = dktX2_isSign_0 := by decide +kernel
theorem dksX2_isSign_1 : cX2_isSign.data.toList.drop 1 = dktX2_isSign_1 := dk_seg dksX2_isSign_0 1 rfl rfl
theorem dksX2_isSign_2 : cX2_isSign.data.toList.drop 116 = dktX2_isSign_2 := dk_seg dksX2_isSign_1 115 rfl rfl
theorem dX2_isSign_0 : decode cX2_isSign 0 = .ok (.iload_n 0, 1) := dk_26 (dk_at dksX2_isSign_0 0 rfl rfl)
theorem dX2_isSign_1 : decode cX2_isSign 1 = .ok (.lookupswitch 117 #[(35, 115), (40, 115), (41, 115), (42, 115), (43, 115), (45, 115), (47, 115), (58, 115), (59, 115), (60, 115), (61, 115), (62, 115), (94, 115)], 115) := by decide +kernel
theorem dX2_isSign_116 : decode cX2_isSign 116 = .ok (.iconst 1, 1) := dk_4 (dk_at dksX2_isSign_2 0 rfl rfl)
theorem dX2_isSign_117 : decode cX2_isSign 117 = .ok (.ireturn, 1) := dk_172 (dk_at dksX2_isSign_2 1 rfl rfl)
theorem dX2_isSign_118 : decode cX2_isSign 118 = .ok (.iconst 0, 1) := dk_3 (dk_at dksX2_isSign_2 2 rfl rfl)
theorem dX2_isSign_119 : decode cX2_isSign 119 = .ok (.ireturn, 1) := dk_172 (dk_at dksX2_isSign_2 3 rfl rfl)
abbrev cX2_clause : ByteArray := prog_19_method_54_code
def yX2_clause : MethodName := ⟨RX2, "clause", "()I"⟩
def dkwX2_clause_5 : List UInt8 := [96, 79, 42, 180, 0, 115, 16, 59, 159, 0, 5, 4, 172, 42, 182, 0, 186, 3, 172]
abbrev dktX2_clause_5 : List UInt8 := dkwX2_clause_5 ++ []
def dkwX2_clause_4 : List UInt8 := [182, 1, 4, 54, 4, 21, 4, 153, 0, 6, 21, 4, 172, 42, 180, 0, 16, 42, 180, 0, 153, 92, 46, 4]
abbrev dktX2_clause_4 : List UInt8 := dkwX2_clause_4 ++ dktX2_clause_5
def dkwX2_clause_3 : List UInt8 := [182, 0, 186, 42, 180, 0, 153, 4, 96, 6, 28, 104, 96, 62, 42, 180, 0, 16, 29, 27, 79, 42, 27, 29]
abbrev dktX2_clause_3 : List UInt8 := dkwX2_clause_3 ++ dktX2_clause_4
def dkwX2_clause_2 : List UInt8 := [27, 5, 163, 0, 15, 42, 89, 180, 0, 253, 4, 27, 120, 128, 181, 0, 253, 42, 27, 181, 0, 163, 42]
abbrev dktX2_clause_2 : List UInt8 := dkwX2_clause_2 ++ dktX2_clause_3
def dkwX2_clause_1 : List UInt8 := [153, 0, 5, 7, 172, 42, 180, 0, 16, 42, 180, 0, 153, 46, 61, 28, 16, 24, 160, 0, 6, 16, 6, 172]
abbrev dktX2_clause_1 : List UInt8 := dkwX2_clause_1 ++ dktX2_clause_2
def dkwX2_clause_0 : List UInt8 := [42, 182, 0, 250, 60, 27, 156, 0, 5, 4, 172, 27, 5, 163, 0, 16, 42, 180, 0, 253, 27, 184, 1, 0]
abbrev dktX2_clause_0 : List UInt8 := dkwX2_clause_0 ++ dktX2_clause_1
theorem dksX2_clause_0 : cX2_clause.data.toList.drop 0 = dktX2_clause_0 := by decide +kernel
theorem dksX2_clause_1 : cX2_clause.data.toList.drop 24 = dktX2_clause_1 := dk_seg dksX2_clause_0 24 rfl rfl
theorem dksX2_clause_2 : cX2_clause.data.toList.drop 48 = dktX2_clause_2 := dk_seg dksX2_clause_1 24 rfl rfl
theorem dksX2_clause_3 : cX2_clause.data.toList.drop 71 = dktX2_clause_3 := dk_seg dksX2_clause_2 23 rfl rfl
theorem dksX2_clause_4 : cX2_clause.data.toList.drop 95 = dktX2_clause_4 := dk_seg dksX2_clause_3 24 rfl rfl
theorem dksX2_clause_5 : cX2_clause.data.toList.drop 119 = dktX2_clause_5 := dk_seg dksX2_clause_4 24 rfl rfl
theorem dX2_clause_0 : decode cX2_clause 0 = .ok (.aload_n 0, 1) := dk_42 (dk_at dksX2_clause_0 0 rfl rfl)
theorem dX2_clause_1 : decode cX2_clause 1 = .ok (.invokevirtual 250, 3) := dk_182 0 250 (dk_at dksX2_clause_0 1 rfl rfl)
theorem dX2_clause_4 : decode cX2_clause 4 = .ok (.istore_n 1, 1) := dk_60 (dk_at dksX2_clause_0 4 rfl rfl)
theorem dX2_clause_5 : decode cX2_clause 5 = .ok (.iload_n 1, 1) := dk_27 (dk_at dksX2_clause_0 5 rfl rfl)
theorem dX2_clause_6 : decode cX2_clause 6 = .ok (.ifCond .ge 5, 3) := dk_156 0 5 (dk_at dksX2_clause_0 6 rfl rfl)
theorem dX2_clause_9 : decode cX2_clause 9 = .ok (.iconst 1, 1) := dk_4 (dk_at dksX2_clause_0 9 rfl rfl)
theorem dX2_clause_10 : decode cX2_clause 10 = .ok (.ireturn, 1) := dk_172 (dk_at dksX2_clause_0 10 rfl rfl)
theorem dX2_clause_11 : decode cX2_clause 11 = .ok (.iload_n 1, 1) := dk_27 (dk_at dksX2_clause_0 11 rfl rfl)
theorem dX2_clause_12 : decode cX2_clause 12 = .ok (.iconst 2, 1) := dk_5 (dk_at dksX2_clause_0 12 rfl rfl)
theorem dX2_clause_13 : decode cX2_clause 13 = .ok (.if_icmp .gt 16, 3) := dk_163 0 16 (dk_at dksX2_clause_0 13 rfl rfl)
theorem dX2_clause_16 : decode cX2_clause 16 = .ok (.aload_n 0, 1) := dk_42 (dk_at dksX2_clause_0 16 rfl rfl)
theorem dX2_clause_17 : decode cX2_clause 17 = .ok (.getfield 253, 3) := dk_180 0 253 (dk_at dksX2_clause_0 17 rfl rfl)
theorem dX2_clause_20 : decode cX2_clause 20 = .ok (.iload_n 1, 1) := dk_27 (dk_at dksX2_clause_0 20 rfl rfl)
theorem dX2_clause_21 : decode cX2_clause 21 = .ok (.invokestatic 256, 3) := dk_184 1 0 (dk_at dksX2_clause_0 21 rfl rfl)
theorem dX2_clause_24 : decode cX2_clause 24 = .ok (.ifCond .eq 5, 3) := dk_153 0 5 (dk_at dksX2_clause_1 0 rfl rfl)
theorem dX2_clause_27 : decode cX2_clause 27 = .ok (.iconst 4, 1) := dk_7 (dk_at dksX2_clause_1 3 rfl rfl)
theorem dX2_clause_28 : decode cX2_clause 28 = .ok (.ireturn, 1) := dk_172 (dk_at dksX2_clause_1 4 rfl rfl)
theorem dX2_clause_29 : decode cX2_clause 29 = .ok (.aload_n 0, 1) := dk_42 (dk_at dksX2_clause_1 5 rfl rfl)
theorem dX2_clause_30 : decode cX2_clause 30 = .ok (.getfield 16, 3) := dk_180 0 16 (dk_at dksX2_clause_1 6 rfl rfl)
theorem dX2_clause_33 : decode cX2_clause 33 = .ok (.aload_n 0, 1) := dk_42 (dk_at dksX2_clause_1 9 rfl rfl)
theorem dX2_clause_34 : decode cX2_clause 34 = .ok (.getfield 153, 3) := dk_180 0 153 (dk_at dksX2_clause_1 10 rfl rfl)
theorem dX2_clause_37 : decode cX2_clause 37 = .ok (.iaload, 1) := dk_46 (dk_at dksX2_clause_1 13 rfl rfl)
theorem dX2_clause_38 : decode cX2_clause 38 = .ok (.istore_n 2, 1) := dk_61 (dk_at dksX2_clause_1 14 rfl rfl)
theorem dX2_clause_39 : decode cX2_clause 39 = .ok (.iload_n 2, 1) := dk_28 (dk_at dksX2_clause_1 15 rfl rfl)
theorem dX2_clause_40 : decode cX2_clause 40 = .ok (.bipush 24, 2) := dk_16 24 (dk_at dksX2_clause_1 16 rfl rfl)
theorem dX2_clause_42 : decode cX2_clause 42 = .ok (.if_icmp .ne 6, 3) := dk_160 0 6 (dk_at dksX2_clause_1 18 rfl rfl)
theorem dX2_clause_45 : decode cX2_clause 45 = .ok (.bipush 6, 2) := dk_16 6 (dk_at dksX2_clause_1 21 rfl rfl)
theorem dX2_clause_47 : decode cX2_clause 47 = .ok (.ireturn, 1) := dk_172 (dk_at dksX2_clause_1 23 rfl rfl)
theorem dX2_clause_48 : decode cX2_clause 48 = .ok (.iload_n 1, 1) := dk_27 (dk_at dksX2_clause_2 0 rfl rfl)
theorem dX2_clause_49 : decode cX2_clause 49 = .ok (.iconst 2, 1) := dk_5 (dk_at dksX2_clause_2 1 rfl rfl)
theorem dX2_clause_50 : decode cX2_clause 50 = .ok (.if_icmp .gt 15, 3) := dk_163 0 15 (dk_at dksX2_clause_2 2 rfl rfl)
theorem dX2_clause_53 : decode cX2_clause 53 = .ok (.aload_n 0, 1) := dk_42 (dk_at dksX2_clause_2 5 rfl rfl)
theorem dX2_clause_54 : decode cX2_clause 54 = .ok (.dup, 1) := dk_89 (dk_at dksX2_clause_2 6 rfl rfl)
theorem dX2_clause_55 : decode cX2_clause 55 = .ok (.getfield 253, 3) := dk_180 0 253 (dk_at dksX2_clause_2 7 rfl rfl)
theorem dX2_clause_58 : decode cX2_clause 58 = .ok (.iconst 1, 1) := dk_4 (dk_at dksX2_clause_2 10 rfl rfl)
theorem dX2_clause_59 : decode cX2_clause 59 = .ok (.iload_n 1, 1) := dk_27 (dk_at dksX2_clause_2 11 rfl rfl)
theorem dX2_clause_60 : decode cX2_clause 60 = .ok (.ishl, 1) := dk_120 (dk_at dksX2_clause_2 12 rfl rfl)
theorem dX2_clause_61 : decode cX2_clause 61 = .ok (.ior, 1) := dk_128 (dk_at dksX2_clause_2 13 rfl rfl)
theorem dX2_clause_62 : decode cX2_clause 62 = .ok (.putfield 253, 3) := dk_181 0 253 (dk_at dksX2_clause_2 14 rfl rfl)
theorem dX2_clause_65 : decode cX2_clause 65 = .ok (.aload_n 0, 1) := dk_42 (dk_at dksX2_clause_2 17 rfl rfl)
theorem dX2_clause_66 : decode cX2_clause 66 = .ok (.iload_n 1, 1) := dk_27 (dk_at dksX2_clause_2 18 rfl rfl)
theorem dX2_clause_67 : decode cX2_clause 67 = .ok (.putfield 163, 3) := dk_181 0 163 (dk_at dksX2_clause_2 19 rfl rfl)
theorem dX2_clause_70 : decode cX2_clause 70 = .ok (.aload_n 0, 1) := dk_42 (dk_at dksX2_clause_2 22 rfl rfl)
theorem dX2_clause_71 : decode cX2_clause 71 = .ok (.invokevirtual 186, 3) := dk_182 0 186 (dk_at dksX2_clause_3 0 rfl rfl)
theorem dX2_clause_74 : decode cX2_clause 74 = .ok (.aload_n 0, 1) := dk_42 (dk_at dksX2_clause_3 3 rfl rfl)
theorem dX2_clause_75 : decode cX2_clause 75 = .ok (.getfield 153, 3) := dk_180 0 153 (dk_at dksX2_clause_3 4 rfl rfl)
theorem dX2_clause_78 : decode cX2_clause 78 = .ok (.iconst 1, 1) := dk_4 (dk_at dksX2_clause_3 7 rfl rfl)
theorem dX2_clause_79 : decode cX2_clause 79 = .ok (.iadd, 1) := dk_96 (dk_at dksX2_clause_3 8 rfl rfl)
theorem dX2_clause_80 : decode cX2_clause 80 = .ok (.iconst 3, 1) := dk_6 (dk_at dksX2_clause_3 9 rfl rfl)
theorem dX2_clause_81 : decode cX2_clause 81 = .ok (.iload_n 2, 1) := dk_28 (dk_at dksX2_clause_3 10 rfl rfl)
theorem dX2_clause_82 : decode cX2_clause 82 = .ok (.imul, 1) := dk_104 (dk_at dksX2_clause_3 11 rfl rfl)
theorem dX2_clause_83 : decode cX2_clause 83 = .ok (.iadd, 1) := dk_96 (dk_at dksX2_clause_3 12 rfl rfl)
theorem dX2_clause_84 : decode cX2_clause 84 = .ok (.istore_n 3, 1) := dk_62 (dk_at dksX2_clause_3 13 rfl rfl)
theorem dX2_clause_85 : decode cX2_clause 85 = .ok (.aload_n 0, 1) := dk_42 (dk_at dksX2_clause_3 14 rfl rfl)
theorem dX2_clause_86 : decode cX2_clause 86 = .ok (.getfield 16, 3) := dk_180 0 16 (dk_at dksX2_clause_3 15 rfl rfl)
theorem dX2_clause_89 : decode cX2_clause 89 = .ok (.iload_n 3, 1) := dk_29 (dk_at dksX2_clause_3 18 rfl rfl)
theorem dX2_clause_90 : decode cX2_clause 90 = .ok (.iload_n 1, 1) := dk_27 (dk_at dksX2_clause_3 19 rfl rfl)
theorem dX2_clause_91 : decode cX2_clause 91 = .ok (.iastore, 1) := dk_79 (dk_at dksX2_clause_3 20 rfl rfl)
theorem dX2_clause_92 : decode cX2_clause 92 = .ok (.aload_n 0, 1) := dk_42 (dk_at dksX2_clause_3 21 rfl rfl)
theorem dX2_clause_93 : decode cX2_clause 93 = .ok (.iload_n 1, 1) := dk_27 (dk_at dksX2_clause_3 22 rfl rfl)
theorem dX2_clause_94 : decode cX2_clause 94 = .ok (.iload_n 3, 1) := dk_29 (dk_at dksX2_clause_3 23 rfl rfl)
theorem dX2_clause_95 : decode cX2_clause 95 = .ok (.invokevirtual 260, 3) := dk_182 1 4 (dk_at dksX2_clause_4 0 rfl rfl)
theorem dX2_clause_98 : decode cX2_clause 98 = .ok (.istore 4, 2) := dk_54 4 (dk_at dksX2_clause_4 3 rfl rfl)
theorem dX2_clause_100 : decode cX2_clause 100 = .ok (.iload 4, 2) := dk_21 4 (dk_at dksX2_clause_4 5 rfl rfl)
theorem dX2_clause_102 : decode cX2_clause 102 = .ok (.ifCond .eq 6, 3) := dk_153 0 6 (dk_at dksX2_clause_4 7 rfl rfl)
theorem dX2_clause_105 : decode cX2_clause 105 = .ok (.iload 4, 2) := dk_21 4 (dk_at dksX2_clause_4 10 rfl rfl)
theorem dX2_clause_107 : decode cX2_clause 107 = .ok (.ireturn, 1) := dk_172 (dk_at dksX2_clause_4 12 rfl rfl)
theorem dX2_clause_108 : decode cX2_clause 108 = .ok (.aload_n 0, 1) := dk_42 (dk_at dksX2_clause_4 13 rfl rfl)
theorem dX2_clause_109 : decode cX2_clause 109 = .ok (.getfield 16, 3) := dk_180 0 16 (dk_at dksX2_clause_4 14 rfl rfl)
theorem dX2_clause_112 : decode cX2_clause 112 = .ok (.aload_n 0, 1) := dk_42 (dk_at dksX2_clause_4 17 rfl rfl)
theorem dX2_clause_113 : decode cX2_clause 113 = .ok (.getfield 153, 3) := dk_180 0 153 (dk_at dksX2_clause_4 18 rfl rfl)
theorem dX2_clause_116 : decode cX2_clause 116 = .ok (.dup2, 1) := dk_92 (dk_at dksX2_clause_4 21 rfl rfl)
theorem dX2_clause_117 : decode cX2_clause 117 = .ok (.iaload, 1) := dk_46 (dk_at dksX2_clause_4 22 rfl rfl)
theorem dX2_clause_118 : decode cX2_clause 118 = .ok (.iconst 1, 1) := dk_4 (dk_at dksX2_clause_4 23 rfl rfl)
theorem dX2_clause_119 : decode cX2_clause 119 = .ok (.iadd, 1) := dk_96 (dk_at dksX2_clause_5 0 rfl rfl)
theorem dX2_clause_120 : decode cX2_clause 120 = .ok (.iastore, 1) := dk_79 (dk_at dksX2_clause_5 1 rfl rfl)
theorem dX2_clause_121 : decode cX2_clause 121 = .ok (.aload_n 0, 1) := dk_42 (dk_at dksX2_clause_5 2 rfl rfl)
theorem dX2_clause_122 : decode cX2_clause 122 = .ok (.getfield 115, 3) := dk_180 0 115 (dk_at dksX2_clause_5 3 rfl rfl)
theorem dX2_clause_125 : decode cX2_clause 125 = .ok (.bipush 59, 2) := dk_16 59 (dk_at dksX2_clause_5 6 rfl rfl)
theorem dX2_clause_127 : decode cX2_clause 127 = .ok (.if_icmp .eq 5, 3) := dk_159 0 5 (dk_at dksX2_clause_5 8 rfl rfl)
theorem dX2_clause_130 : decode cX2_clause 130 = .ok (.iconst 1, 1) := dk_4 (dk_at dksX2_clause_5 11 rfl rfl)
theorem dX2_clause_131 : decode cX2_clause 131 = .ok (.ireturn, 1) := dk_172 (dk_at dksX2_clause_5 12 rfl rfl)
theorem dX2_clause_132 : decode cX2_clause 132 = .ok (.aload_n 0, 1) := dk_42 (dk_at dksX2_clause_5 13 rfl rfl)
theorem dX2_clause_133 : decode cX2_clause 133 = .ok (.invokevirtual 186, 3) := dk_182 0 186 (dk_at dksX2_clause_5 14 rfl rfl)
theorem dX2_clause_136 : decode cX2_clause 136 = .ok (.iconst 0, 1) := dk_3 (dk_at dksX2_clause_5 17 rfl rfl)
theorem dX2_clause_137 : decode cX2_clause 137 = .ok (.ireturn, 1) := dk_172 (dk_at dksX2_clause_5 18 rfl rfl)
abbrev cX2_sortOf : ByteArray := prog_19_method_53_code
def yX2_sortOf : MethodName := ⟨RX2, "sortOf", "()I"⟩
def dkwX2_sortOf_7 : List UInt8 := [182, 0, 201, 153, 0, 8, 16, 7, 167, 0, 4, 2, 172]
abbrev dktX2_sortOf_7 : List UInt8 := dkwX2_sortOf_7 ++ []
def dkwX2_sortOf_6 : List UInt8 := [184, 0, 145, 182, 0, 201, 153, 0, 8, 16, 6, 167, 0, 25, 42, 16, 100, 16, 97, 16, 121, 184, 0, 141]
abbrev dktX2_sortOf_6 : List UInt8 := dkwX2_sortOf_6 ++ dktX2_sortOf_7
def dkwX2_sortOf_5 : List UInt8 := [16, 118, 16, 101, 184, 0, 149, 182, 0, 201, 153, 0, 5, 8, 172, 42, 16, 99, 16, 97, 16, 108, 16, 109]
abbrev dktX2_sortOf_5 : List UInt8 := dkwX2_sortOf_5 ++ dktX2_sortOf_6
def dkwX2_sortOf_4 : List UInt8 := [16, 104, 16, 101, 16, 114, 184, 0, 149, 182, 0, 201, 153, 0, 5, 7, 172, 42, 16, 115, 16, 104, 16, 97]
abbrev dktX2_sortOf_4 : List UInt8 := dkwX2_sortOf_4 ++ dktX2_sortOf_5
def dkwX2_sortOf_3 : List UInt8 := [16, 114, 16, 115, 16, 111, 16, 110, 184, 0, 246, 182, 0, 201, 153, 0, 5, 6, 172, 42, 16, 111, 16, 116]
abbrev dktX2_sortOf_3 : List UInt8 := dkwX2_sortOf_3 ++ dktX2_sortOf_4
def dkwX2_sortOf_2 : List UInt8 := [16, 97, 16, 116, 16, 101, 16, 115, 184, 0, 149, 182, 0, 201, 153, 0, 5, 5, 172, 42, 16, 112, 16, 101]
abbrev dktX2_sortOf_2 : List UInt8 := dkwX2_sortOf_2 ++ dktX2_sortOf_3
def dkwX2_sortOf_1 : List UInt8 := [16, 115, 16, 108, 16, 105, 16, 112, 16, 115, 184, 0, 149, 182, 0, 201, 153, 0, 5, 4, 172, 42, 16, 114]
abbrev dktX2_sortOf_1 : List UInt8 := dkwX2_sortOf_1 ++ dktX2_sortOf_2
def dkwX2_sortOf_0 : List UInt8 := [42, 16, 114, 16, 97, 16, 122, 16, 101, 16, 115, 184, 0, 149, 182, 0, 201, 153, 0, 5, 3, 172, 42]
abbrev dktX2_sortOf_0 : List UInt8 := dkwX2_sortOf_0 ++ dktX2_sortOf_1
theorem dksX2_sortOf_0 : cX2_sortOf.data.toList.drop 0 = dktX2_sortOf_0 := by decide +kernel
theorem dksX2_sortOf_1 : cX2_sortOf.data.toList.drop 23 = dktX2_sortOf_1 := dk_seg dksX2_sortOf_0 23 rfl rfl
theorem dksX2_sortOf_2 : cX2_sortOf.data.toList.drop 47 = dktX2_sortOf_2 := dk_seg dksX2_sortOf_1 24 rfl rfl
theorem dksX2_sortOf_3 : cX2_sortOf.data.toList.drop 71 = dktX2_sortOf_3 := dk_seg dksX2_sortOf_2 24 rfl rfl
theorem dksX2_sortOf_4 : cX2_sortOf.data.toList.drop 95 = dktX2_sortOf_4 := dk_seg dksX2_sortOf_3 24 rfl rfl
theorem dksX2_sortOf_5 : cX2_sortOf.data.toList.drop 119 = dktX2_sortOf_5 := dk_seg dksX2_sortOf_4 24 rfl rfl
theorem dksX2_sortOf_6 : cX2_sortOf.data.toList.drop 143 = dktX2_sortOf_6 := dk_seg dksX2_sortOf_5 24 rfl rfl
theorem dksX2_sortOf_7 : cX2_sortOf.data.toList.drop 167 = dktX2_sortOf_7 := dk_seg dksX2_sortOf_6 24 rfl rfl
theorem dX2_sortOf_0 : decode cX2_sortOf 0 = .ok (.aload_n 0, 1) := dk_42 (dk_at dksX2_sortOf_0 0 rfl rfl)
theorem dX2_sortOf_1 : decode cX2_sortOf 1 = .ok (.bipush 114, 2) := dk_16 114 (dk_at dksX2_sortOf_0 1 rfl rfl)
theorem dX2_sortOf_3 : decode cX2_sortOf 3 = .ok (.bipush 97, 2) := dk_16 97 (dk_at dksX2_sortOf_0 3 rfl rfl)
theorem dX2_sortOf_5 : decode cX2_sortOf 5 = .ok (.bipush 122, 2) := dk_16 122 (dk_at dksX2_sortOf_0 5 rfl rfl)
theorem dX2_sortOf_7 : decode cX2_sortOf 7 = .ok (.bipush 101, 2) := dk_16 101 (dk_at dksX2_sortOf_0 7 rfl rfl)
theorem dX2_sortOf_9 : decode cX2_sortOf 9 = .ok (.bipush 115, 2) := dk_16 115 (dk_at dksX2_sortOf_0 9 rfl rfl)
theorem dX2_sortOf_11 : decode cX2_sortOf 11 = .ok (.invokestatic 149, 3) := dk_184 0 149 (dk_at dksX2_sortOf_0 11 rfl rfl)
theorem dX2_sortOf_14 : decode cX2_sortOf 14 = .ok (.invokevirtual 201, 3) := dk_182 0 201 (dk_at dksX2_sortOf_0 14 rfl rfl)
theorem dX2_sortOf_17 : decode cX2_sortOf 17 = .ok (.ifCond .eq 5, 3) := dk_153 0 5 (dk_at dksX2_sortOf_0 17 rfl rfl)
theorem dX2_sortOf_20 : decode cX2_sortOf 20 = .ok (.iconst 0, 1) := dk_3 (dk_at dksX2_sortOf_0 20 rfl rfl)
theorem dX2_sortOf_21 : decode cX2_sortOf 21 = .ok (.ireturn, 1) := dk_172 (dk_at dksX2_sortOf_0 21 rfl rfl)
theorem dX2_sortOf_22 : decode cX2_sortOf 22 = .ok (.aload_n 0, 1) := dk_42 (dk_at dksX2_sortOf_0 22 rfl rfl)
theorem dX2_sortOf_23 : decode cX2_sortOf 23 = .ok (.bipush 115, 2) := dk_16 115 (dk_at dksX2_sortOf_1 0 rfl rfl)
theorem dX2_sortOf_25 : decode cX2_sortOf 25 = .ok (.bipush 108, 2) := dk_16 108 (dk_at dksX2_sortOf_1 2 rfl rfl)
theorem dX2_sortOf_27 : decode cX2_sortOf 27 = .ok (.bipush 105, 2) := dk_16 105 (dk_at dksX2_sortOf_1 4 rfl rfl)
theorem dX2_sortOf_29 : decode cX2_sortOf 29 = .ok (.bipush 112, 2) := dk_16 112 (dk_at dksX2_sortOf_1 6 rfl rfl)
theorem dX2_sortOf_31 : decode cX2_sortOf 31 = .ok (.bipush 115, 2) := dk_16 115 (dk_at dksX2_sortOf_1 8 rfl rfl)
theorem dX2_sortOf_33 : decode cX2_sortOf 33 = .ok (.invokestatic 149, 3) := dk_184 0 149 (dk_at dksX2_sortOf_1 10 rfl rfl)
theorem dX2_sortOf_36 : decode cX2_sortOf 36 = .ok (.invokevirtual 201, 3) := dk_182 0 201 (dk_at dksX2_sortOf_1 13 rfl rfl)
theorem dX2_sortOf_39 : decode cX2_sortOf 39 = .ok (.ifCond .eq 5, 3) := dk_153 0 5 (dk_at dksX2_sortOf_1 16 rfl rfl)
theorem dX2_sortOf_42 : decode cX2_sortOf 42 = .ok (.iconst 1, 1) := dk_4 (dk_at dksX2_sortOf_1 19 rfl rfl)
theorem dX2_sortOf_43 : decode cX2_sortOf 43 = .ok (.ireturn, 1) := dk_172 (dk_at dksX2_sortOf_1 20 rfl rfl)
theorem dX2_sortOf_44 : decode cX2_sortOf 44 = .ok (.aload_n 0, 1) := dk_42 (dk_at dksX2_sortOf_1 21 rfl rfl)
theorem dX2_sortOf_45 : decode cX2_sortOf 45 = .ok (.bipush 114, 2) := dk_16 114 (dk_at dksX2_sortOf_1 22 rfl rfl)
theorem dX2_sortOf_47 : decode cX2_sortOf 47 = .ok (.bipush 97, 2) := dk_16 97 (dk_at dksX2_sortOf_2 0 rfl rfl)
theorem dX2_sortOf_49 : decode cX2_sortOf 49 = .ok (.bipush 116, 2) := dk_16 116 (dk_at dksX2_sortOf_2 2 rfl rfl)
theorem dX2_sortOf_51 : decode cX2_sortOf 51 = .ok (.bipush 101, 2) := dk_16 101 (dk_at dksX2_sortOf_2 4 rfl rfl)
theorem dX2_sortOf_53 : decode cX2_sortOf 53 = .ok (.bipush 115, 2) := dk_16 115 (dk_at dksX2_sortOf_2 6 rfl rfl)
theorem dX2_sortOf_55 : decode cX2_sortOf 55 = .ok (.invokestatic 149, 3) := dk_184 0 149 (dk_at dksX2_sortOf_2 8 rfl rfl)
theorem dX2_sortOf_58 : decode cX2_sortOf 58 = .ok (.invokevirtual 201, 3) := dk_182 0 201 (dk_at dksX2_sortOf_2 11 rfl rfl)
theorem dX2_sortOf_61 : decode cX2_sortOf 61 = .ok (.ifCond .eq 5, 3) := dk_153 0 5 (dk_at dksX2_sortOf_2 14 rfl rfl)
theorem dX2_sortOf_64 : decode cX2_sortOf 64 = .ok (.iconst 2, 1) := dk_5 (dk_at dksX2_sortOf_2 17 rfl rfl)
theorem dX2_sortOf_65 : decode cX2_sortOf 65 = .ok (.ireturn, 1) := dk_172 (dk_at dksX2_sortOf_2 18 rfl rfl)
theorem dX2_sortOf_66 : decode cX2_sortOf 66 = .ok (.aload_n 0, 1) := dk_42 (dk_at dksX2_sortOf_2 19 rfl rfl)
theorem dX2_sortOf_67 : decode cX2_sortOf 67 = .ok (.bipush 112, 2) := dk_16 112 (dk_at dksX2_sortOf_2 20 rfl rfl)
theorem dX2_sortOf_69 : decode cX2_sortOf 69 = .ok (.bipush 101, 2) := dk_16 101 (dk_at dksX2_sortOf_2 22 rfl rfl)
theorem dX2_sortOf_71 : decode cX2_sortOf 71 = .ok (.bipush 114, 2) := dk_16 114 (dk_at dksX2_sortOf_3 0 rfl rfl)
theorem dX2_sortOf_73 : decode cX2_sortOf 73 = .ok (.bipush 115, 2) := dk_16 115 (dk_at dksX2_sortOf_3 2 rfl rfl)
theorem dX2_sortOf_75 : decode cX2_sortOf 75 = .ok (.bipush 111, 2) := dk_16 111 (dk_at dksX2_sortOf_3 4 rfl rfl)
theorem dX2_sortOf_77 : decode cX2_sortOf 77 = .ok (.bipush 110, 2) := dk_16 110 (dk_at dksX2_sortOf_3 6 rfl rfl)
theorem dX2_sortOf_79 : decode cX2_sortOf 79 = .ok (.invokestatic 246, 3) := dk_184 0 246 (dk_at dksX2_sortOf_3 8 rfl rfl)
theorem dX2_sortOf_82 : decode cX2_sortOf 82 = .ok (.invokevirtual 201, 3) := dk_182 0 201 (dk_at dksX2_sortOf_3 11 rfl rfl)
theorem dX2_sortOf_85 : decode cX2_sortOf 85 = .ok (.ifCond .eq 5, 3) := dk_153 0 5 (dk_at dksX2_sortOf_3 14 rfl rfl)
theorem dX2_sortOf_88 : decode cX2_sortOf 88 = .ok (.iconst 3, 1) := dk_6 (dk_at dksX2_sortOf_3 17 rfl rfl)
theorem dX2_sortOf_89 : decode cX2_sortOf 89 = .ok (.ireturn, 1) := dk_172 (dk_at dksX2_sortOf_3 18 rfl rfl)
theorem dX2_sortOf_90 : decode cX2_sortOf 90 = .ok (.aload_n 0, 1) := dk_42 (dk_at dksX2_sortOf_3 19 rfl rfl)
theorem dX2_sortOf_91 : decode cX2_sortOf 91 = .ok (.bipush 111, 2) := dk_16 111 (dk_at dksX2_sortOf_3 20 rfl rfl)
theorem dX2_sortOf_93 : decode cX2_sortOf 93 = .ok (.bipush 116, 2) := dk_16 116 (dk_at dksX2_sortOf_3 22 rfl rfl)
theorem dX2_sortOf_95 : decode cX2_sortOf 95 = .ok (.bipush 104, 2) := dk_16 104 (dk_at dksX2_sortOf_4 0 rfl rfl)
theorem dX2_sortOf_97 : decode cX2_sortOf 97 = .ok (.bipush 101, 2) := dk_16 101 (dk_at dksX2_sortOf_4 2 rfl rfl)
theorem dX2_sortOf_99 : decode cX2_sortOf 99 = .ok (.bipush 114, 2) := dk_16 114 (dk_at dksX2_sortOf_4 4 rfl rfl)
theorem dX2_sortOf_101 : decode cX2_sortOf 101 = .ok (.invokestatic 149, 3) := dk_184 0 149 (dk_at dksX2_sortOf_4 6 rfl rfl)
theorem dX2_sortOf_104 : decode cX2_sortOf 104 = .ok (.invokevirtual 201, 3) := dk_182 0 201 (dk_at dksX2_sortOf_4 9 rfl rfl)
theorem dX2_sortOf_107 : decode cX2_sortOf 107 = .ok (.ifCond .eq 5, 3) := dk_153 0 5 (dk_at dksX2_sortOf_4 12 rfl rfl)
theorem dX2_sortOf_110 : decode cX2_sortOf 110 = .ok (.iconst 4, 1) := dk_7 (dk_at dksX2_sortOf_4 15 rfl rfl)
theorem dX2_sortOf_111 : decode cX2_sortOf 111 = .ok (.ireturn, 1) := dk_172 (dk_at dksX2_sortOf_4 16 rfl rfl)
theorem dX2_sortOf_112 : decode cX2_sortOf 112 = .ok (.aload_n 0, 1) := dk_42 (dk_at dksX2_sortOf_4 17 rfl rfl)
theorem dX2_sortOf_113 : decode cX2_sortOf 113 = .ok (.bipush 115, 2) := dk_16 115 (dk_at dksX2_sortOf_4 18 rfl rfl)
theorem dX2_sortOf_115 : decode cX2_sortOf 115 = .ok (.bipush 104, 2) := dk_16 104 (dk_at dksX2_sortOf_4 20 rfl rfl)
theorem dX2_sortOf_117 : decode cX2_sortOf 117 = .ok (.bipush 97, 2) := dk_16 97 (dk_at dksX2_sortOf_4 22 rfl rfl)
theorem dX2_sortOf_119 : decode cX2_sortOf 119 = .ok (.bipush 118, 2) := dk_16 118 (dk_at dksX2_sortOf_5 0 rfl rfl)
theorem dX2_sortOf_121 : decode cX2_sortOf 121 = .ok (.bipush 101, 2) := dk_16 101 (dk_at dksX2_sortOf_5 2 rfl rfl)
theorem dX2_sortOf_123 : decode cX2_sortOf 123 = .ok (.invokestatic 149, 3) := dk_184 0 149 (dk_at dksX2_sortOf_5 4 rfl rfl)
theorem dX2_sortOf_126 : decode cX2_sortOf 126 = .ok (.invokevirtual 201, 3) := dk_182 0 201 (dk_at dksX2_sortOf_5 7 rfl rfl)
theorem dX2_sortOf_129 : decode cX2_sortOf 129 = .ok (.ifCond .eq 5, 3) := dk_153 0 5 (dk_at dksX2_sortOf_5 10 rfl rfl)
theorem dX2_sortOf_132 : decode cX2_sortOf 132 = .ok (.iconst 5, 1) := dk_8 (dk_at dksX2_sortOf_5 13 rfl rfl)
theorem dX2_sortOf_133 : decode cX2_sortOf 133 = .ok (.ireturn, 1) := dk_172 (dk_at dksX2_sortOf_5 14 rfl rfl)
theorem dX2_sortOf_134 : decode cX2_sortOf 134 = .ok (.aload_n 0, 1) := dk_42 (dk_at dksX2_sortOf_5 15 rfl rfl)
theorem dX2_sortOf_135 : decode cX2_sortOf 135 = .ok (.bipush 99, 2) := dk_16 99 (dk_at dksX2_sortOf_5 16 rfl rfl)
theorem dX2_sortOf_137 : decode cX2_sortOf 137 = .ok (.bipush 97, 2) := dk_16 97 (dk_at dksX2_sortOf_5 18 rfl rfl)
theorem dX2_sortOf_139 : decode cX2_sortOf 139 = .ok (.bipush 108, 2) := dk_16 108 (dk_at dksX2_sortOf_5 20 rfl rfl)
theorem dX2_sortOf_141 : decode cX2_sortOf 141 = .ok (.bipush 109, 2) := dk_16 109 (dk_at dksX2_sortOf_5 22 rfl rfl)
theorem dX2_sortOf_143 : decode cX2_sortOf 143 = .ok (.invokestatic 145, 3) := dk_184 0 145 (dk_at dksX2_sortOf_6 0 rfl rfl)
theorem dX2_sortOf_146 : decode cX2_sortOf 146 = .ok (.invokevirtual 201, 3) := dk_182 0 201 (dk_at dksX2_sortOf_6 3 rfl rfl)
theorem dX2_sortOf_149 : decode cX2_sortOf 149 = .ok (.ifCond .eq 8, 3) := dk_153 0 8 (dk_at dksX2_sortOf_6 6 rfl rfl)
theorem dX2_sortOf_152 : decode cX2_sortOf 152 = .ok (.bipush 6, 2) := dk_16 6 (dk_at dksX2_sortOf_6 9 rfl rfl)
theorem dX2_sortOf_154 : decode cX2_sortOf 154 = .ok (.goto 25, 3) := dk_167 0 25 (dk_at dksX2_sortOf_6 11 rfl rfl)
theorem dX2_sortOf_157 : decode cX2_sortOf 157 = .ok (.aload_n 0, 1) := dk_42 (dk_at dksX2_sortOf_6 14 rfl rfl)
theorem dX2_sortOf_158 : decode cX2_sortOf 158 = .ok (.bipush 100, 2) := dk_16 100 (dk_at dksX2_sortOf_6 15 rfl rfl)
theorem dX2_sortOf_160 : decode cX2_sortOf 160 = .ok (.bipush 97, 2) := dk_16 97 (dk_at dksX2_sortOf_6 17 rfl rfl)
theorem dX2_sortOf_162 : decode cX2_sortOf 162 = .ok (.bipush 121, 2) := dk_16 121 (dk_at dksX2_sortOf_6 19 rfl rfl)
theorem dX2_sortOf_164 : decode cX2_sortOf 164 = .ok (.invokestatic 141, 3) := dk_184 0 141 (dk_at dksX2_sortOf_6 21 rfl rfl)
theorem dX2_sortOf_167 : decode cX2_sortOf 167 = .ok (.invokevirtual 201, 3) := dk_182 0 201 (dk_at dksX2_sortOf_7 0 rfl rfl)
theorem dX2_sortOf_170 : decode cX2_sortOf 170 = .ok (.ifCond .eq 8, 3) := dk_153 0 8 (dk_at dksX2_sortOf_7 3 rfl rfl)
theorem dX2_sortOf_173 : decode cX2_sortOf 173 = .ok (.bipush 7, 2) := dk_16 7 (dk_at dksX2_sortOf_7 6 rfl rfl)
theorem dX2_sortOf_175 : decode cX2_sortOf 175 = .ok (.goto 4, 3) := dk_167 0 4 (dk_at dksX2_sortOf_7 8 rfl rfl)
theorem dX2_sortOf_178 : decode cX2_sortOf 178 = .ok (.iconst (-1), 1) := dk_2 (dk_at dksX2_sortOf_7 11 rfl rfl)
theorem dX2_sortOf_179 : decode cX2_sortOf 179 = .ok (.ireturn, 1) := dk_172 (dk_at dksX2_sortOf_7 12 rfl rfl)
abbrev cX2_w5 : ByteArray := prog_19_method_28_code
def yX2_w5 : MethodName := ⟨RX2, "w5", "(IIIII)J"⟩
def dkwX2_w5_0 : List UInt8 := [26, 27, 28, 29, 184, 0, 145, 16, 8, 121, 21, 4, 133, 129, 173]
abbrev dktX2_w5_0 : List UInt8 := dkwX2_w5_0 ++ []
theorem dksX2_w5_0 : cX2_w5.data.toList.drop 0 = dktX2_w5_0 := by decide +kernel
theorem dX2_w5_0 : decode cX2_w5 0 = .ok (.iload_n 0, 1) := dk_26 (dk_at dksX2_w5_0 0 rfl rfl)
theorem dX2_w5_1 : decode cX2_w5 1 = .ok (.iload_n 1, 1) := dk_27 (dk_at dksX2_w5_0 1 rfl rfl)
theorem dX2_w5_2 : decode cX2_w5 2 = .ok (.iload_n 2, 1) := dk_28 (dk_at dksX2_w5_0 2 rfl rfl)
theorem dX2_w5_3 : decode cX2_w5 3 = .ok (.iload_n 3, 1) := dk_29 (dk_at dksX2_w5_0 3 rfl rfl)
theorem dX2_w5_4 : decode cX2_w5 4 = .ok (.invokestatic 145, 3) := dk_184 0 145 (dk_at dksX2_w5_0 4 rfl rfl)
theorem dX2_w5_7 : decode cX2_w5 7 = .ok (.bipush 8, 2) := dk_16 8 (dk_at dksX2_w5_0 7 rfl rfl)
theorem dX2_w5_9 : decode cX2_w5 9 = .ok (.lshl, 1) := dk_121 (dk_at dksX2_w5_0 9 rfl rfl)
theorem dX2_w5_10 : decode cX2_w5 10 = .ok (.iload 4, 2) := dk_21 4 (dk_at dksX2_w5_0 10 rfl rfl)
theorem dX2_w5_12 : decode cX2_w5 12 = .ok (.i2l, 1) := dk_133 (dk_at dksX2_w5_0 12 rfl rfl)
theorem dX2_w5_13 : decode cX2_w5 13 = .ok (.lor, 1) := dk_129 (dk_at dksX2_w5_0 13 rfl rfl)
theorem dX2_w5_14 : decode cX2_w5 14 = .ok (.lreturn, 1) := dk_173 (dk_at dksX2_w5_0 14 rfl rfl)
abbrev cX2_w4 : ByteArray := prog_19_method_27_code
def yX2_w4 : MethodName := ⟨RX2, "w4", "(IIII)J"⟩
def dkwX2_w4_0 : List UInt8 := [26, 27, 28, 184, 0, 141, 16, 8, 121, 29, 133, 129, 173]
abbrev dktX2_w4_0 : List UInt8 := dkwX2_w4_0 ++ []
theorem dksX2_w4_0 : cX2_w4.data.toList.drop 0 = dktX2_w4_0 := by decide +kernel
theorem dX2_w4_0 : decode cX2_w4 0 = .ok (.iload_n 0, 1) := dk_26 (dk_at dksX2_w4_0 0 rfl rfl)
theorem dX2_w4_1 : decode cX2_w4 1 = .ok (.iload_n 1, 1) := dk_27 (dk_at dksX2_w4_0 1 rfl rfl)
theorem dX2_w4_2 : decode cX2_w4 2 = .ok (.iload_n 2, 1) := dk_28 (dk_at dksX2_w4_0 2 rfl rfl)
theorem dX2_w4_3 : decode cX2_w4 3 = .ok (.invokestatic 141, 3) := dk_184 0 141 (dk_at dksX2_w4_0 3 rfl rfl)
theorem dX2_w4_6 : decode cX2_w4 6 = .ok (.bipush 8, 2) := dk_16 8 (dk_at dksX2_w4_0 6 rfl rfl)
theorem dX2_w4_8 : decode cX2_w4 8 = .ok (.lshl, 1) := dk_121 (dk_at dksX2_w4_0 8 rfl rfl)
theorem dX2_w4_9 : decode cX2_w4 9 = .ok (.iload_n 3, 1) := dk_29 (dk_at dksX2_w4_0 9 rfl rfl)
theorem dX2_w4_10 : decode cX2_w4 10 = .ok (.i2l, 1) := dk_133 (dk_at dksX2_w4_0 10 rfl rfl)
theorem dX2_w4_11 : decode cX2_w4 11 = .ok (.lor, 1) := dk_129 (dk_at dksX2_w4_0 11 rfl rfl)
theorem dX2_w4_12 : decode cX2_w4 12 = .ok (.lreturn, 1) := dk_173 (dk_at dksX2_w4_0 12 rfl rfl)
abbrev cX2_w3 : ByteArray := prog_19_method_26_code
def yX2_w3 : MethodName := ⟨RX2, "w3", "(III)J"⟩
def dkwX2_w3_0 : List UInt8 := [26, 27, 184, 0, 137, 16, 8, 121, 28, 133, 129, 173]
abbrev dktX2_w3_0 : List UInt8 := dkwX2_w3_0 ++ []
theorem dksX2_w3_0 : cX2_w3.data.toList.drop 0 = dktX2_w3_0 := by decide +kernel
theorem dX2_w3_0 : decode cX2_w3 0 = .ok (.iload_n 0, 1) := dk_26 (dk_at dksX2_w3_0 0 rfl rfl)
theorem dX2_w3_1 : decode cX2_w3 1 = .ok (.iload_n 1, 1) := dk_27 (dk_at dksX2_w3_0 1 rfl rfl)
theorem dX2_w3_2 : decode cX2_w3 2 = .ok (.invokestatic 137, 3) := dk_184 0 137 (dk_at dksX2_w3_0 2 rfl rfl)
theorem dX2_w3_5 : decode cX2_w3 5 = .ok (.bipush 8, 2) := dk_16 8 (dk_at dksX2_w3_0 5 rfl rfl)
theorem dX2_w3_7 : decode cX2_w3 7 = .ok (.lshl, 1) := dk_121 (dk_at dksX2_w3_0 7 rfl rfl)
theorem dX2_w3_8 : decode cX2_w3 8 = .ok (.iload_n 2, 1) := dk_28 (dk_at dksX2_w3_0 8 rfl rfl)
theorem dX2_w3_9 : decode cX2_w3 9 = .ok (.i2l, 1) := dk_133 (dk_at dksX2_w3_0 9 rfl rfl)
theorem dX2_w3_10 : decode cX2_w3 10 = .ok (.lor, 1) := dk_129 (dk_at dksX2_w3_0 10 rfl rfl)
theorem dX2_w3_11 : decode cX2_w3 11 = .ok (.lreturn, 1) := dk_173 (dk_at dksX2_w3_0 11 rfl rfl)
abbrev cX2_w2 : ByteArray := prog_19_method_25_code
def yX2_w2 : MethodName := ⟨RX2, "w2", "(II)J"⟩
def dkwX2_w2_0 : List UInt8 := [26, 133, 16, 8, 121, 27, 133, 129, 173]
abbrev dktX2_w2_0 : List UInt8 := dkwX2_w2_0 ++ []
theorem dksX2_w2_0 : cX2_w2.data.toList.drop 0 = dktX2_w2_0 := by decide +kernel
theorem dX2_w2_0 : decode cX2_w2 0 = .ok (.iload_n 0, 1) := dk_26 (dk_at dksX2_w2_0 0 rfl rfl)
theorem dX2_w2_1 : decode cX2_w2 1 = .ok (.i2l, 1) := dk_133 (dk_at dksX2_w2_0 1 rfl rfl)
theorem dX2_w2_2 : decode cX2_w2 2 = .ok (.bipush 8, 2) := dk_16 8 (dk_at dksX2_w2_0 2 rfl rfl)
theorem dX2_w2_4 : decode cX2_w2 4 = .ok (.lshl, 1) := dk_121 (dk_at dksX2_w2_0 4 rfl rfl)
theorem dX2_w2_5 : decode cX2_w2 5 = .ok (.iload_n 1, 1) := dk_27 (dk_at dksX2_w2_0 5 rfl rfl)
theorem dX2_w2_6 : decode cX2_w2 6 = .ok (.i2l, 1) := dk_133 (dk_at dksX2_w2_0 6 rfl rfl)
theorem dX2_w2_7 : decode cX2_w2 7 = .ok (.lor, 1) := dk_129 (dk_at dksX2_w2_0 7 rfl rfl)
theorem dX2_w2_8 : decode cX2_w2 8 = .ok (.lreturn, 1) := dk_173 (dk_at dksX2_w2_0 8 rfl rfl)
abbrev cX2_isWord : ByteArray := prog_19_method_30_code
def yX2_isWord : MethodName := ⟨RX2, "isWord", "(J)Z"⟩
def dkwX2_isWord_0 : List UInt8 := [42, 180, 0, 115, 5, 160, 0, 16, 42, 180, 0, 128, 31, 148, 154, 0, 7, 4, 167, 0, 4, 3, 172]
abbrev dktX2_isWord_0 : List UInt8 := dkwX2_isWord_0 ++ []
theorem dksX2_isWord_0 : cX2_isWord.data.toList.drop 0 = dktX2_isWord_0 := by decide +kernel
theorem dX2_isWord_0 : decode cX2_isWord 0 = .ok (.aload_n 0, 1) := dk_42 (dk_at dksX2_isWord_0 0 rfl rfl)
theorem dX2_isWord_1 : decode cX2_isWord 1 = .ok (.getfield 115, 3) := dk_180 0 115 (dk_at dksX2_isWord_0 1 rfl rfl)
theorem dX2_isWord_4 : decode cX2_isWord 4 = .ok (.iconst 2, 1) := dk_5 (dk_at dksX2_isWord_0 4 rfl rfl)
theorem dX2_isWord_5 : decode cX2_isWord 5 = .ok (.if_icmp .ne 16, 3) := dk_160 0 16 (dk_at dksX2_isWord_0 5 rfl rfl)
theorem dX2_isWord_8 : decode cX2_isWord 8 = .ok (.aload_n 0, 1) := dk_42 (dk_at dksX2_isWord_0 8 rfl rfl)
theorem dX2_isWord_9 : decode cX2_isWord 9 = .ok (.getfield 128, 3) := dk_180 0 128 (dk_at dksX2_isWord_0 9 rfl rfl)
theorem dX2_isWord_12 : decode cX2_isWord 12 = .ok (.lload_n 1, 1) := dk_31 (dk_at dksX2_isWord_0 12 rfl rfl)
theorem dX2_isWord_13 : decode cX2_isWord 13 = .ok (.lcmp, 1) := dk_148 (dk_at dksX2_isWord_0 13 rfl rfl)
theorem dX2_isWord_14 : decode cX2_isWord 14 = .ok (.ifCond .ne 7, 3) := dk_154 0 7 (dk_at dksX2_isWord_0 14 rfl rfl)
theorem dX2_isWord_17 : decode cX2_isWord 17 = .ok (.iconst 1, 1) := dk_4 (dk_at dksX2_isWord_0 17 rfl rfl)
theorem dX2_isWord_18 : decode cX2_isWord 18 = .ok (.goto 4, 3) := dk_167 0 4 (dk_at dksX2_isWord_0 18 rfl rfl)
theorem dX2_isWord_21 : decode cX2_isWord 21 = .ok (.iconst 0, 1) := dk_3 (dk_at dksX2_isWord_0 21 rfl rfl)
theorem dX2_isWord_22 : decode cX2_isWord 22 = .ok (.ireturn, 1) := dk_172 (dk_at dksX2_isWord_0 22 rfl rfl)
abbrev cX2_w6 : ByteArray := prog_19_method_29_code
def yX2_w6 : MethodName := ⟨RX2, "w6", "(IIIIII)J"⟩
def dkwX2_w6_0 : List UInt8 := [26, 27, 28, 29, 21, 4, 184, 0, 149, 16, 8, 121, 21, 5, 133, 129, 173]
abbrev dktX2_w6_0 : List UInt8 := dkwX2_w6_0 ++ []
theorem dksX2_w6_0 : cX2_w6.data.toList.drop 0 = dktX2_w6_0 := by decide +kernel
theorem dX2_w6_0 : decode cX2_w6 0 = .ok (.iload_n 0, 1) := dk_26 (dk_at dksX2_w6_0 0 rfl rfl)
theorem dX2_w6_1 : decode cX2_w6 1 = .ok (.iload_n 1, 1) := dk_27 (dk_at dksX2_w6_0 1 rfl rfl)
theorem dX2_w6_2 : decode cX2_w6 2 = .ok (.iload_n 2, 1) := dk_28 (dk_at dksX2_w6_0 2 rfl rfl)
theorem dX2_w6_3 : decode cX2_w6 3 = .ok (.iload_n 3, 1) := dk_29 (dk_at dksX2_w6_0 3 rfl rfl)
theorem dX2_w6_4 : decode cX2_w6 4 = .ok (.iload 4, 2) := dk_21 4 (dk_at dksX2_w6_0 4 rfl rfl)
theorem dX2_w6_6 : decode cX2_w6 6 = .ok (.invokestatic 149, 3) := dk_184 0 149 (dk_at dksX2_w6_0 6 rfl rfl)
theorem dX2_w6_9 : decode cX2_w6 9 = .ok (.bipush 8, 2) := dk_16 8 (dk_at dksX2_w6_0 9 rfl rfl)
theorem dX2_w6_11 : decode cX2_w6 11 = .ok (.lshl, 1) := dk_121 (dk_at dksX2_w6_0 11 rfl rfl)
theorem dX2_w6_12 : decode cX2_w6 12 = .ok (.iload 5, 2) := dk_21 5 (dk_at dksX2_w6_0 12 rfl rfl)
theorem dX2_w6_14 : decode cX2_w6 14 = .ok (.i2l, 1) := dk_133 (dk_at dksX2_w6_0 14 rfl rfl)
theorem dX2_w6_15 : decode cX2_w6 15 = .ok (.lor, 1) := dk_129 (dk_at dksX2_w6_0 15 rfl rfl)
theorem dX2_w6_16 : decode cX2_w6 16 = .ok (.lreturn, 1) := dk_173 (dk_at dksX2_w6_0 16 rfl rfl)
abbrev cX2_has : ByteArray := prog_19_method_5_code
def yX2_has : MethodName := ⟨RX2, "has", "(II)Z"⟩
def dkwX2_has_0 : List UInt8 := [26, 27, 122, 4, 126, 4, 160, 0, 7, 4, 167, 0, 4, 3, 172]
abbrev dktX2_has_0 : List UInt8 := dkwX2_has_0 ++ []
theorem dksX2_has_0 : cX2_has.data.toList.drop 0 = dktX2_has_0 := by decide +kernel
theorem dX2_has_0 : decode cX2_has 0 = .ok (.iload_n 0, 1) := dk_26 (dk_at dksX2_has_0 0 rfl rfl)
theorem dX2_has_1 : decode cX2_has 1 = .ok (.iload_n 1, 1) := dk_27 (dk_at dksX2_has_0 1 rfl rfl)
theorem dX2_has_2 : decode cX2_has 2 = .ok (.ishr, 1) := dk_122 (dk_at dksX2_has_0 2 rfl rfl)
theorem dX2_has_3 : decode cX2_has 3 = .ok (.iconst 1, 1) := dk_4 (dk_at dksX2_has_0 3 rfl rfl)
theorem dX2_has_4 : decode cX2_has 4 = .ok (.iand, 1) := dk_126 (dk_at dksX2_has_0 4 rfl rfl)
theorem dX2_has_5 : decode cX2_has 5 = .ok (.iconst 1, 1) := dk_4 (dk_at dksX2_has_0 5 rfl rfl)
theorem dX2_has_6 : decode cX2_has 6 = .ok (.if_icmp .ne 7, 3) := dk_160 0 7 (dk_at dksX2_has_0 6 rfl rfl)
theorem dX2_has_9 : decode cX2_has 9 = .ok (.iconst 1, 1) := dk_4 (dk_at dksX2_has_0 9 rfl rfl)
theorem dX2_has_10 : decode cX2_has 10 = .ok (.goto 4, 3) := dk_167 0 4 (dk_at dksX2_has_0 10 rfl rfl)
theorem dX2_has_13 : decode cX2_has 13 = .ok (.iconst 0, 1) := dk_3 (dk_at dksX2_has_0 13 rfl rfl)
theorem dX2_has_14 : decode cX2_has 14 = .ok (.ireturn, 1) := dk_172 (dk_at dksX2_has_0 14 rfl rfl)
abbrev cX2_body : ByteArray := prog_19_method_52_code
def yX2_body : MethodName := ⟨RX2, "body", "(II)I"⟩
def dkwX2_body_5 : List UInt8 := [182, 0, 232, 172, 42, 28, 182, 0, 243, 172]
abbrev dktX2_body_5 : List UInt8 := dkwX2_body_5 ++ []
def dkwX2_body_4 : List UInt8 := [182, 0, 232, 172, 42, 28, 4, 96, 3, 16, 7, 182, 0, 232, 172, 42, 28, 4, 96, 4, 16, 60]
abbrev dktX2_body_4 : List UInt8 := dkwX2_body_4 ++ dktX2_body_5
def dkwX2_body_3 : List UInt8 := [28, 16, 7, 16, 116, 16, 111, 184, 0, 137, 16, 7, 182, 0, 239, 172, 42, 28, 4, 96, 3, 16, 7]
abbrev dktX2_body_3 : List UInt8 := dkwX2_body_3 ++ dktX2_body_4
def dkwX2_body_2 : List UInt8 := [42, 28, 16, 99, 16, 110, 16, 101, 16, 114, 16, 118, 16, 101, 184, 0, 149, 16, 9, 182, 0, 239, 172, 42]
abbrev dktX2_body_2 : List UInt8 := dkwX2_body_2 ++ dktX2_body_3
def dkwX2_body_1 : List UInt8 := [170, 0, 0, 0, 0, 0, 108, 0, 0, 0, 3, 0, 0, 0, 7, 0, 0, 0, 35, 0, 0, 0, 58, 0, 0, 0, 75, 0, 0, 0, 86, 0, 0, 0, 97]
abbrev dktX2_body_1 : List UInt8 := dkwX2_body_1 ++ dktX2_body_2
def dkwX2_body_0 : List UInt8 := [27]
abbrev dktX2_body_0 : List UInt8 := dkwX2_body_0 ++ dktX2_body_1
theorem dksX2_body_0 : cX2_body.data.toList.drop 0 = dktX2_body_0 := by decide +kernel
theorem dksX2_body_1 : cX2_body.data.toList.drop 1 = dktX2_body_1 := dk_seg dksX2_body_0 1 rfl rfl
theorem dksX2_body_2 : cX2_body.data.toList.drop 36 = dktX2_body_2 := dk_seg dksX2_body_1 35 rfl rfl
theorem dksX2_body_3 : cX2_body.data.toList.drop 60 = dktX2_body_3 := dk_seg dksX2_body_2 24 rfl rfl
theorem dksX2_body_4 : cX2_body.data.toList.drop 83 = dktX2_body_4 := dk_seg dksX2_body_3 23 rfl rfl
theorem dksX2_body_5 : cX2_body.data.toList.drop 105 = dktX2_body_5 := dk_seg dksX2_body_4 22 rfl rfl
theorem dX2_body_0 : decode cX2_body 0 = .ok (.iload_n 1, 1) := dk_27 (dk_at dksX2_body_0 0 rfl rfl)
theorem dX2_body_1 : decode cX2_body 1 = .ok (.tableswitch 108 3 7 #[35, 58, 75, 86, 97], 35) := by decide +kernel
theorem dX2_body_36 : decode cX2_body 36 = .ok (.aload_n 0, 1) := dk_42 (dk_at dksX2_body_2 0 rfl rfl)
theorem dX2_body_37 : decode cX2_body 37 = .ok (.iload_n 2, 1) := dk_28 (dk_at dksX2_body_2 1 rfl rfl)
theorem dX2_body_38 : decode cX2_body 38 = .ok (.bipush 99, 2) := dk_16 99 (dk_at dksX2_body_2 2 rfl rfl)
theorem dX2_body_40 : decode cX2_body 40 = .ok (.bipush 110, 2) := dk_16 110 (dk_at dksX2_body_2 4 rfl rfl)
theorem dX2_body_42 : decode cX2_body 42 = .ok (.bipush 101, 2) := dk_16 101 (dk_at dksX2_body_2 6 rfl rfl)
theorem dX2_body_44 : decode cX2_body 44 = .ok (.bipush 114, 2) := dk_16 114 (dk_at dksX2_body_2 8 rfl rfl)
theorem dX2_body_46 : decode cX2_body 46 = .ok (.bipush 118, 2) := dk_16 118 (dk_at dksX2_body_2 10 rfl rfl)
theorem dX2_body_48 : decode cX2_body 48 = .ok (.bipush 101, 2) := dk_16 101 (dk_at dksX2_body_2 12 rfl rfl)
theorem dX2_body_50 : decode cX2_body 50 = .ok (.invokestatic 149, 3) := dk_184 0 149 (dk_at dksX2_body_2 14 rfl rfl)
theorem dX2_body_53 : decode cX2_body 53 = .ok (.bipush 9, 2) := dk_16 9 (dk_at dksX2_body_2 17 rfl rfl)
theorem dX2_body_55 : decode cX2_body 55 = .ok (.invokevirtual 239, 3) := dk_182 0 239 (dk_at dksX2_body_2 19 rfl rfl)
theorem dX2_body_58 : decode cX2_body 58 = .ok (.ireturn, 1) := dk_172 (dk_at dksX2_body_2 22 rfl rfl)
theorem dX2_body_59 : decode cX2_body 59 = .ok (.aload_n 0, 1) := dk_42 (dk_at dksX2_body_2 23 rfl rfl)
theorem dX2_body_60 : decode cX2_body 60 = .ok (.iload_n 2, 1) := dk_28 (dk_at dksX2_body_3 0 rfl rfl)
theorem dX2_body_61 : decode cX2_body 61 = .ok (.bipush 7, 2) := dk_16 7 (dk_at dksX2_body_3 1 rfl rfl)
theorem dX2_body_63 : decode cX2_body 63 = .ok (.bipush 116, 2) := dk_16 116 (dk_at dksX2_body_3 3 rfl rfl)
theorem dX2_body_65 : decode cX2_body 65 = .ok (.bipush 111, 2) := dk_16 111 (dk_at dksX2_body_3 5 rfl rfl)
theorem dX2_body_67 : decode cX2_body 67 = .ok (.invokestatic 137, 3) := dk_184 0 137 (dk_at dksX2_body_3 7 rfl rfl)
theorem dX2_body_70 : decode cX2_body 70 = .ok (.bipush 7, 2) := dk_16 7 (dk_at dksX2_body_3 10 rfl rfl)
theorem dX2_body_72 : decode cX2_body 72 = .ok (.invokevirtual 239, 3) := dk_182 0 239 (dk_at dksX2_body_3 12 rfl rfl)
theorem dX2_body_75 : decode cX2_body 75 = .ok (.ireturn, 1) := dk_172 (dk_at dksX2_body_3 15 rfl rfl)
theorem dX2_body_76 : decode cX2_body 76 = .ok (.aload_n 0, 1) := dk_42 (dk_at dksX2_body_3 16 rfl rfl)
theorem dX2_body_77 : decode cX2_body 77 = .ok (.iload_n 2, 1) := dk_28 (dk_at dksX2_body_3 17 rfl rfl)
theorem dX2_body_78 : decode cX2_body 78 = .ok (.iconst 1, 1) := dk_4 (dk_at dksX2_body_3 18 rfl rfl)
theorem dX2_body_79 : decode cX2_body 79 = .ok (.iadd, 1) := dk_96 (dk_at dksX2_body_3 19 rfl rfl)
theorem dX2_body_80 : decode cX2_body 80 = .ok (.iconst 0, 1) := dk_3 (dk_at dksX2_body_3 20 rfl rfl)
theorem dX2_body_81 : decode cX2_body 81 = .ok (.bipush 7, 2) := dk_16 7 (dk_at dksX2_body_3 21 rfl rfl)
theorem dX2_body_83 : decode cX2_body 83 = .ok (.invokevirtual 232, 3) := dk_182 0 232 (dk_at dksX2_body_4 0 rfl rfl)
theorem dX2_body_86 : decode cX2_body 86 = .ok (.ireturn, 1) := dk_172 (dk_at dksX2_body_4 3 rfl rfl)
theorem dX2_body_87 : decode cX2_body 87 = .ok (.aload_n 0, 1) := dk_42 (dk_at dksX2_body_4 4 rfl rfl)
theorem dX2_body_88 : decode cX2_body 88 = .ok (.iload_n 2, 1) := dk_28 (dk_at dksX2_body_4 5 rfl rfl)
theorem dX2_body_89 : decode cX2_body 89 = .ok (.iconst 1, 1) := dk_4 (dk_at dksX2_body_4 6 rfl rfl)
theorem dX2_body_90 : decode cX2_body 90 = .ok (.iadd, 1) := dk_96 (dk_at dksX2_body_4 7 rfl rfl)
theorem dX2_body_91 : decode cX2_body 91 = .ok (.iconst 0, 1) := dk_3 (dk_at dksX2_body_4 8 rfl rfl)
theorem dX2_body_92 : decode cX2_body 92 = .ok (.bipush 7, 2) := dk_16 7 (dk_at dksX2_body_4 9 rfl rfl)
theorem dX2_body_94 : decode cX2_body 94 = .ok (.invokevirtual 232, 3) := dk_182 0 232 (dk_at dksX2_body_4 11 rfl rfl)
theorem dX2_body_97 : decode cX2_body 97 = .ok (.ireturn, 1) := dk_172 (dk_at dksX2_body_4 14 rfl rfl)
theorem dX2_body_98 : decode cX2_body 98 = .ok (.aload_n 0, 1) := dk_42 (dk_at dksX2_body_4 15 rfl rfl)
theorem dX2_body_99 : decode cX2_body 99 = .ok (.iload_n 2, 1) := dk_28 (dk_at dksX2_body_4 16 rfl rfl)
theorem dX2_body_100 : decode cX2_body 100 = .ok (.iconst 1, 1) := dk_4 (dk_at dksX2_body_4 17 rfl rfl)
theorem dX2_body_101 : decode cX2_body 101 = .ok (.iadd, 1) := dk_96 (dk_at dksX2_body_4 18 rfl rfl)
theorem dX2_body_102 : decode cX2_body 102 = .ok (.iconst 1, 1) := dk_4 (dk_at dksX2_body_4 19 rfl rfl)
theorem dX2_body_103 : decode cX2_body 103 = .ok (.bipush 60, 2) := dk_16 60 (dk_at dksX2_body_4 20 rfl rfl)
theorem dX2_body_105 : decode cX2_body 105 = .ok (.invokevirtual 232, 3) := dk_182 0 232 (dk_at dksX2_body_5 0 rfl rfl)
theorem dX2_body_108 : decode cX2_body 108 = .ok (.ireturn, 1) := dk_172 (dk_at dksX2_body_5 3 rfl rfl)
theorem dX2_body_109 : decode cX2_body 109 = .ok (.aload_n 0, 1) := dk_42 (dk_at dksX2_body_5 4 rfl rfl)
theorem dX2_body_110 : decode cX2_body 110 = .ok (.iload_n 2, 1) := dk_28 (dk_at dksX2_body_5 5 rfl rfl)
theorem dX2_body_111 : decode cX2_body 111 = .ok (.invokevirtual 243, 3) := dk_182 0 243 (dk_at dksX2_body_5 6 rfl rfl)
theorem dX2_body_114 : decode cX2_body 114 = .ok (.ireturn, 1) := dk_172 (dk_at dksX2_body_5 9 rfl rfl)
abbrev cX2_pair : ByteArray := prog_19_method_50_code
def yX2_pair : MethodName := ⟨RX2, "pair", "(IIJI)I"⟩
def dkwX2_pair_1 : List UInt8 := [154, 0, 5, 4, 172, 42, 182, 0, 186, 42, 27, 5, 96, 3, 21, 5, 182, 0, 232, 172]
abbrev dktX2_pair_1 : List UInt8 := dkwX2_pair_1 ++ []
def dkwX2_pair_0 : List UInt8 := [42, 27, 4, 96, 3, 28, 182, 0, 232, 54, 6, 21, 6, 153, 0, 6, 21, 6, 172, 42, 33, 182, 0, 201]
abbrev dktX2_pair_0 : List UInt8 := dkwX2_pair_0 ++ dktX2_pair_1
theorem dksX2_pair_0 : cX2_pair.data.toList.drop 0 = dktX2_pair_0 := by decide +kernel
theorem dksX2_pair_1 : cX2_pair.data.toList.drop 24 = dktX2_pair_1 := dk_seg dksX2_pair_0 24 rfl rfl
theorem dX2_pair_0 : decode cX2_pair 0 = .ok (.aload_n 0, 1) := dk_42 (dk_at dksX2_pair_0 0 rfl rfl)
theorem dX2_pair_1 : decode cX2_pair 1 = .ok (.iload_n 1, 1) := dk_27 (dk_at dksX2_pair_0 1 rfl rfl)
theorem dX2_pair_2 : decode cX2_pair 2 = .ok (.iconst 1, 1) := dk_4 (dk_at dksX2_pair_0 2 rfl rfl)
theorem dX2_pair_3 : decode cX2_pair 3 = .ok (.iadd, 1) := dk_96 (dk_at dksX2_pair_0 3 rfl rfl)
theorem dX2_pair_4 : decode cX2_pair 4 = .ok (.iconst 0, 1) := dk_3 (dk_at dksX2_pair_0 4 rfl rfl)
theorem dX2_pair_5 : decode cX2_pair 5 = .ok (.iload_n 2, 1) := dk_28 (dk_at dksX2_pair_0 5 rfl rfl)
theorem dX2_pair_6 : decode cX2_pair 6 = .ok (.invokevirtual 232, 3) := dk_182 0 232 (dk_at dksX2_pair_0 6 rfl rfl)
theorem dX2_pair_9 : decode cX2_pair 9 = .ok (.istore 6, 2) := dk_54 6 (dk_at dksX2_pair_0 9 rfl rfl)
theorem dX2_pair_11 : decode cX2_pair 11 = .ok (.iload 6, 2) := dk_21 6 (dk_at dksX2_pair_0 11 rfl rfl)
theorem dX2_pair_13 : decode cX2_pair 13 = .ok (.ifCond .eq 6, 3) := dk_153 0 6 (dk_at dksX2_pair_0 13 rfl rfl)
theorem dX2_pair_16 : decode cX2_pair 16 = .ok (.iload 6, 2) := dk_21 6 (dk_at dksX2_pair_0 16 rfl rfl)
theorem dX2_pair_18 : decode cX2_pair 18 = .ok (.ireturn, 1) := dk_172 (dk_at dksX2_pair_0 18 rfl rfl)
theorem dX2_pair_19 : decode cX2_pair 19 = .ok (.aload_n 0, 1) := dk_42 (dk_at dksX2_pair_0 19 rfl rfl)
theorem dX2_pair_20 : decode cX2_pair 20 = .ok (.lload_n 3, 1) := dk_33 (dk_at dksX2_pair_0 20 rfl rfl)
theorem dX2_pair_21 : decode cX2_pair 21 = .ok (.invokevirtual 201, 3) := dk_182 0 201 (dk_at dksX2_pair_0 21 rfl rfl)
theorem dX2_pair_24 : decode cX2_pair 24 = .ok (.ifCond .ne 5, 3) := dk_154 0 5 (dk_at dksX2_pair_1 0 rfl rfl)
theorem dX2_pair_27 : decode cX2_pair 27 = .ok (.iconst 1, 1) := dk_4 (dk_at dksX2_pair_1 3 rfl rfl)
theorem dX2_pair_28 : decode cX2_pair 28 = .ok (.ireturn, 1) := dk_172 (dk_at dksX2_pair_1 4 rfl rfl)
theorem dX2_pair_29 : decode cX2_pair 29 = .ok (.aload_n 0, 1) := dk_42 (dk_at dksX2_pair_1 5 rfl rfl)
theorem dX2_pair_30 : decode cX2_pair 30 = .ok (.invokevirtual 186, 3) := dk_182 0 186 (dk_at dksX2_pair_1 6 rfl rfl)
theorem dX2_pair_33 : decode cX2_pair 33 = .ok (.aload_n 0, 1) := dk_42 (dk_at dksX2_pair_1 9 rfl rfl)
theorem dX2_pair_34 : decode cX2_pair 34 = .ok (.iload_n 1, 1) := dk_27 (dk_at dksX2_pair_1 10 rfl rfl)
theorem dX2_pair_35 : decode cX2_pair 35 = .ok (.iconst 2, 1) := dk_5 (dk_at dksX2_pair_1 11 rfl rfl)
theorem dX2_pair_36 : decode cX2_pair 36 = .ok (.iadd, 1) := dk_96 (dk_at dksX2_pair_1 12 rfl rfl)
theorem dX2_pair_37 : decode cX2_pair 37 = .ok (.iconst 0, 1) := dk_3 (dk_at dksX2_pair_1 13 rfl rfl)
theorem dX2_pair_38 : decode cX2_pair 38 = .ok (.iload 5, 2) := dk_21 5 (dk_at dksX2_pair_1 14 rfl rfl)
theorem dX2_pair_40 : decode cX2_pair 40 = .ok (.invokevirtual 232, 3) := dk_182 0 232 (dk_at dksX2_pair_1 16 rfl rfl)
theorem dX2_pair_43 : decode cX2_pair 43 = .ok (.ireturn, 1) := dk_172 (dk_at dksX2_pair_1 19 rfl rfl)
abbrev cX2_figure : ByteArray := prog_19_method_49_code
def yX2_figure : MethodName := ⟨RX2, "figure", "(III)I"⟩
def dkwX2_figure_1 : List UInt8 := [42, 180, 0, 16, 27, 42, 180, 0, 121, 79, 42, 182, 0, 186, 3, 172]
abbrev dktX2_figure_1 : List UInt8 := dkwX2_figure_1 ++ []
def dkwX2_figure_0 : List UInt8 := [42, 180, 0, 115, 4, 159, 0, 5, 4, 172, 42, 180, 0, 121, 28, 29, 184, 0, 73, 154, 0, 5, 5, 172]
abbrev dktX2_figure_0 : List UInt8 := dkwX2_figure_0 ++ dktX2_figure_1
theorem dksX2_figure_0 : cX2_figure.data.toList.drop 0 = dktX2_figure_0 := by decide +kernel
theorem dksX2_figure_1 : cX2_figure.data.toList.drop 24 = dktX2_figure_1 := dk_seg dksX2_figure_0 24 rfl rfl
theorem dX2_figure_0 : decode cX2_figure 0 = .ok (.aload_n 0, 1) := dk_42 (dk_at dksX2_figure_0 0 rfl rfl)
theorem dX2_figure_1 : decode cX2_figure 1 = .ok (.getfield 115, 3) := dk_180 0 115 (dk_at dksX2_figure_0 1 rfl rfl)
theorem dX2_figure_4 : decode cX2_figure 4 = .ok (.iconst 1, 1) := dk_4 (dk_at dksX2_figure_0 4 rfl rfl)
theorem dX2_figure_5 : decode cX2_figure 5 = .ok (.if_icmp .eq 5, 3) := dk_159 0 5 (dk_at dksX2_figure_0 5 rfl rfl)
theorem dX2_figure_8 : decode cX2_figure 8 = .ok (.iconst 1, 1) := dk_4 (dk_at dksX2_figure_0 8 rfl rfl)
theorem dX2_figure_9 : decode cX2_figure 9 = .ok (.ireturn, 1) := dk_172 (dk_at dksX2_figure_0 9 rfl rfl)
theorem dX2_figure_10 : decode cX2_figure 10 = .ok (.aload_n 0, 1) := dk_42 (dk_at dksX2_figure_0 10 rfl rfl)
theorem dX2_figure_11 : decode cX2_figure 11 = .ok (.getfield 121, 3) := dk_180 0 121 (dk_at dksX2_figure_0 11 rfl rfl)
theorem dX2_figure_14 : decode cX2_figure 14 = .ok (.iload_n 2, 1) := dk_28 (dk_at dksX2_figure_0 14 rfl rfl)
theorem dX2_figure_15 : decode cX2_figure 15 = .ok (.iload_n 3, 1) := dk_29 (dk_at dksX2_figure_0 15 rfl rfl)
theorem dX2_figure_16 : decode cX2_figure 16 = .ok (.invokestatic 73, 3) := dk_184 0 73 (dk_at dksX2_figure_0 16 rfl rfl)
theorem dX2_figure_19 : decode cX2_figure 19 = .ok (.ifCond .ne 5, 3) := dk_154 0 5 (dk_at dksX2_figure_0 19 rfl rfl)
theorem dX2_figure_22 : decode cX2_figure 22 = .ok (.iconst 2, 1) := dk_5 (dk_at dksX2_figure_0 22 rfl rfl)
theorem dX2_figure_23 : decode cX2_figure 23 = .ok (.ireturn, 1) := dk_172 (dk_at dksX2_figure_0 23 rfl rfl)
theorem dX2_figure_24 : decode cX2_figure 24 = .ok (.aload_n 0, 1) := dk_42 (dk_at dksX2_figure_1 0 rfl rfl)
theorem dX2_figure_25 : decode cX2_figure 25 = .ok (.getfield 16, 3) := dk_180 0 16 (dk_at dksX2_figure_1 1 rfl rfl)
theorem dX2_figure_28 : decode cX2_figure 28 = .ok (.iload_n 1, 1) := dk_27 (dk_at dksX2_figure_1 4 rfl rfl)
theorem dX2_figure_29 : decode cX2_figure 29 = .ok (.aload_n 0, 1) := dk_42 (dk_at dksX2_figure_1 5 rfl rfl)
theorem dX2_figure_30 : decode cX2_figure 30 = .ok (.getfield 121, 3) := dk_180 0 121 (dk_at dksX2_figure_1 6 rfl rfl)
theorem dX2_figure_33 : decode cX2_figure 33 = .ok (.iastore, 1) := dk_79 (dk_at dksX2_figure_1 9 rfl rfl)
theorem dX2_figure_34 : decode cX2_figure 34 = .ok (.aload_n 0, 1) := dk_42 (dk_at dksX2_figure_1 10 rfl rfl)
theorem dX2_figure_35 : decode cX2_figure 35 = .ok (.invokevirtual 186, 3) := dk_182 0 186 (dk_at dksX2_figure_1 11 rfl rfl)
theorem dX2_figure_38 : decode cX2_figure 38 = .ok (.iconst 0, 1) := dk_3 (dk_at dksX2_figure_1 14 rfl rfl)
theorem dX2_figure_39 : decode cX2_figure 39 = .ok (.ireturn, 1) := dk_172 (dk_at dksX2_figure_1 15 rfl rfl)
abbrev cX2_lawClause : ByteArray := prog_19_method_51_code
def yX2_lawClause : MethodName := ⟨RX2, "lawClause", "(I)I"⟩
def dkwX2_lawClause_1 : List UInt8 := [42, 180, 0, 156, 79, 28, 172]
abbrev dktX2_lawClause_1 : List UInt8 := dkwX2_lawClause_1 ++ []
def dkwX2_lawClause_0 : List UInt8 := [42, 180, 0, 16, 27, 4, 96, 42, 180, 0, 156, 79, 42, 182, 0, 236, 61, 42, 180, 0, 16, 27, 5, 96]
abbrev dktX2_lawClause_0 : List UInt8 := dkwX2_lawClause_0 ++ dktX2_lawClause_1
theorem dksX2_lawClause_0 : cX2_lawClause.data.toList.drop 0 = dktX2_lawClause_0 := by decide +kernel
theorem dksX2_lawClause_1 : cX2_lawClause.data.toList.drop 24 = dktX2_lawClause_1 := dk_seg dksX2_lawClause_0 24 rfl rfl
theorem dX2_lawClause_0 : decode cX2_lawClause 0 = .ok (.aload_n 0, 1) := dk_42 (dk_at dksX2_lawClause_0 0 rfl rfl)
theorem dX2_lawClause_1 : decode cX2_lawClause 1 = .ok (.getfield 16, 3) := dk_180 0 16 (dk_at dksX2_lawClause_0 1 rfl rfl)
theorem dX2_lawClause_4 : decode cX2_lawClause 4 = .ok (.iload_n 1, 1) := dk_27 (dk_at dksX2_lawClause_0 4 rfl rfl)
theorem dX2_lawClause_5 : decode cX2_lawClause 5 = .ok (.iconst 1, 1) := dk_4 (dk_at dksX2_lawClause_0 5 rfl rfl)
theorem dX2_lawClause_6 : decode cX2_lawClause 6 = .ok (.iadd, 1) := dk_96 (dk_at dksX2_lawClause_0 6 rfl rfl)
theorem dX2_lawClause_7 : decode cX2_lawClause 7 = .ok (.aload_n 0, 1) := dk_42 (dk_at dksX2_lawClause_0 7 rfl rfl)
theorem dX2_lawClause_8 : decode cX2_lawClause 8 = .ok (.getfield 156, 3) := dk_180 0 156 (dk_at dksX2_lawClause_0 8 rfl rfl)
theorem dX2_lawClause_11 : decode cX2_lawClause 11 = .ok (.iastore, 1) := dk_79 (dk_at dksX2_lawClause_0 11 rfl rfl)
theorem dX2_lawClause_12 : decode cX2_lawClause 12 = .ok (.aload_n 0, 1) := dk_42 (dk_at dksX2_lawClause_0 12 rfl rfl)
theorem dX2_lawClause_13 : decode cX2_lawClause 13 = .ok (.invokevirtual 236, 3) := dk_182 0 236 (dk_at dksX2_lawClause_0 13 rfl rfl)
theorem dX2_lawClause_16 : decode cX2_lawClause 16 = .ok (.istore_n 2, 1) := dk_61 (dk_at dksX2_lawClause_0 16 rfl rfl)
theorem dX2_lawClause_17 : decode cX2_lawClause 17 = .ok (.aload_n 0, 1) := dk_42 (dk_at dksX2_lawClause_0 17 rfl rfl)
theorem dX2_lawClause_18 : decode cX2_lawClause 18 = .ok (.getfield 16, 3) := dk_180 0 16 (dk_at dksX2_lawClause_0 18 rfl rfl)
theorem dX2_lawClause_21 : decode cX2_lawClause 21 = .ok (.iload_n 1, 1) := dk_27 (dk_at dksX2_lawClause_0 21 rfl rfl)
theorem dX2_lawClause_22 : decode cX2_lawClause 22 = .ok (.iconst 2, 1) := dk_5 (dk_at dksX2_lawClause_0 22 rfl rfl)
theorem dX2_lawClause_23 : decode cX2_lawClause 23 = .ok (.iadd, 1) := dk_96 (dk_at dksX2_lawClause_0 23 rfl rfl)
theorem dX2_lawClause_24 : decode cX2_lawClause 24 = .ok (.aload_n 0, 1) := dk_42 (dk_at dksX2_lawClause_1 0 rfl rfl)
theorem dX2_lawClause_25 : decode cX2_lawClause 25 = .ok (.getfield 156, 3) := dk_180 0 156 (dk_at dksX2_lawClause_1 1 rfl rfl)
theorem dX2_lawClause_28 : decode cX2_lawClause 28 = .ok (.iastore, 1) := dk_79 (dk_at dksX2_lawClause_1 4 rfl rfl)
theorem dX2_lawClause_29 : decode cX2_lawClause 29 = .ok (.iload_n 2, 1) := dk_28 (dk_at dksX2_lawClause_1 5 rfl rfl)
theorem dX2_lawClause_30 : decode cX2_lawClause 30 = .ok (.ireturn, 1) := dk_172 (dk_at dksX2_lawClause_1 6 rfl rfl)
abbrev cX2_summed : ByteArray := prog_19_method_48_code
def yX2_summed : MethodName := ⟨RX2, "summed", "()I"⟩
def dkwX2_summed_2 : List UInt8 := [42, 182, 0, 183, 155, 0, 5, 4, 172, 42, 4, 182, 0, 208, 3, 172]
abbrev dktX2_summed_2 : List UInt8 := dkwX2_summed_2 ++ []
def dkwX2_summed_1 : List UInt8 := [182, 0, 226, 167, 0, 7, 42, 182, 0, 229, 60, 27, 158, 0, 5, 27, 172, 27, 154, 0, 6, 167, 255, 227]
abbrev dktX2_summed_1 : List UInt8 := dkwX2_summed_1 ++ dktX2_summed_2
def dkwX2_summed_0 : List UInt8 := [42, 3, 181, 0, 166, 42, 3, 181, 0, 176, 42, 3, 181, 0, 211, 42, 180, 0, 211, 153, 0, 10, 42]
abbrev dktX2_summed_0 : List UInt8 := dkwX2_summed_0 ++ dktX2_summed_1
theorem dksX2_summed_0 : cX2_summed.data.toList.drop 0 = dktX2_summed_0 := by decide +kernel
theorem dksX2_summed_1 : cX2_summed.data.toList.drop 23 = dktX2_summed_1 := dk_seg dksX2_summed_0 23 rfl rfl
theorem dksX2_summed_2 : cX2_summed.data.toList.drop 47 = dktX2_summed_2 := dk_seg dksX2_summed_1 24 rfl rfl
theorem dX2_summed_0 : decode cX2_summed 0 = .ok (.aload_n 0, 1) := dk_42 (dk_at dksX2_summed_0 0 rfl rfl)
theorem dX2_summed_1 : decode cX2_summed 1 = .ok (.iconst 0, 1) := dk_3 (dk_at dksX2_summed_0 1 rfl rfl)
theorem dX2_summed_2 : decode cX2_summed 2 = .ok (.putfield 166, 3) := dk_181 0 166 (dk_at dksX2_summed_0 2 rfl rfl)
theorem dX2_summed_5 : decode cX2_summed 5 = .ok (.aload_n 0, 1) := dk_42 (dk_at dksX2_summed_0 5 rfl rfl)
theorem dX2_summed_6 : decode cX2_summed 6 = .ok (.iconst 0, 1) := dk_3 (dk_at dksX2_summed_0 6 rfl rfl)
theorem dX2_summed_7 : decode cX2_summed 7 = .ok (.putfield 176, 3) := dk_181 0 176 (dk_at dksX2_summed_0 7 rfl rfl)
theorem dX2_summed_10 : decode cX2_summed 10 = .ok (.aload_n 0, 1) := dk_42 (dk_at dksX2_summed_0 10 rfl rfl)
theorem dX2_summed_11 : decode cX2_summed 11 = .ok (.iconst 0, 1) := dk_3 (dk_at dksX2_summed_0 11 rfl rfl)
theorem dX2_summed_12 : decode cX2_summed 12 = .ok (.putfield 211, 3) := dk_181 0 211 (dk_at dksX2_summed_0 12 rfl rfl)
theorem dX2_summed_15 : decode cX2_summed 15 = .ok (.aload_n 0, 1) := dk_42 (dk_at dksX2_summed_0 15 rfl rfl)
theorem dX2_summed_16 : decode cX2_summed 16 = .ok (.getfield 211, 3) := dk_180 0 211 (dk_at dksX2_summed_0 16 rfl rfl)
theorem dX2_summed_19 : decode cX2_summed 19 = .ok (.ifCond .eq 10, 3) := dk_153 0 10 (dk_at dksX2_summed_0 19 rfl rfl)
theorem dX2_summed_22 : decode cX2_summed 22 = .ok (.aload_n 0, 1) := dk_42 (dk_at dksX2_summed_0 22 rfl rfl)
theorem dX2_summed_23 : decode cX2_summed 23 = .ok (.invokevirtual 226, 3) := dk_182 0 226 (dk_at dksX2_summed_1 0 rfl rfl)
theorem dX2_summed_26 : decode cX2_summed 26 = .ok (.goto 7, 3) := dk_167 0 7 (dk_at dksX2_summed_1 3 rfl rfl)
theorem dX2_summed_29 : decode cX2_summed 29 = .ok (.aload_n 0, 1) := dk_42 (dk_at dksX2_summed_1 6 rfl rfl)
theorem dX2_summed_30 : decode cX2_summed 30 = .ok (.invokevirtual 229, 3) := dk_182 0 229 (dk_at dksX2_summed_1 7 rfl rfl)
theorem dX2_summed_33 : decode cX2_summed 33 = .ok (.istore_n 1, 1) := dk_60 (dk_at dksX2_summed_1 10 rfl rfl)
theorem dX2_summed_34 : decode cX2_summed 34 = .ok (.iload_n 1, 1) := dk_27 (dk_at dksX2_summed_1 11 rfl rfl)
theorem dX2_summed_35 : decode cX2_summed 35 = .ok (.ifCond .le 5, 3) := dk_158 0 5 (dk_at dksX2_summed_1 12 rfl rfl)
theorem dX2_summed_38 : decode cX2_summed 38 = .ok (.iload_n 1, 1) := dk_27 (dk_at dksX2_summed_1 15 rfl rfl)
theorem dX2_summed_39 : decode cX2_summed 39 = .ok (.ireturn, 1) := dk_172 (dk_at dksX2_summed_1 16 rfl rfl)
theorem dX2_summed_40 : decode cX2_summed 40 = .ok (.iload_n 1, 1) := dk_27 (dk_at dksX2_summed_1 17 rfl rfl)
theorem dX2_summed_41 : decode cX2_summed 41 = .ok (.ifCond .ne 6, 3) := dk_154 0 6 (dk_at dksX2_summed_1 18 rfl rfl)
theorem dX2_summed_44 : decode cX2_summed 44 = .ok (.goto (-29), 3) := dk_167 255 227 (dk_at dksX2_summed_1 21 rfl rfl)
theorem dX2_summed_47 : decode cX2_summed 47 = .ok (.aload_n 0, 1) := dk_42 (dk_at dksX2_summed_2 0 rfl rfl)
theorem dX2_summed_48 : decode cX2_summed 48 = .ok (.invokevirtual 183, 3) := dk_182 0 183 (dk_at dksX2_summed_2 1 rfl rfl)
theorem dX2_summed_51 : decode cX2_summed 51 = .ok (.ifCond .lt 5, 3) := dk_155 0 5 (dk_at dksX2_summed_2 4 rfl rfl)
theorem dX2_summed_54 : decode cX2_summed 54 = .ok (.iconst 1, 1) := dk_4 (dk_at dksX2_summed_2 7 rfl rfl)
theorem dX2_summed_55 : decode cX2_summed 55 = .ok (.ireturn, 1) := dk_172 (dk_at dksX2_summed_2 8 rfl rfl)
theorem dX2_summed_56 : decode cX2_summed 56 = .ok (.aload_n 0, 1) := dk_42 (dk_at dksX2_summed_2 9 rfl rfl)
theorem dX2_summed_57 : decode cX2_summed 57 = .ok (.iconst 1, 1) := dk_4 (dk_at dksX2_summed_2 10 rfl rfl)
theorem dX2_summed_58 : decode cX2_summed 58 = .ok (.invokevirtual 208, 3) := dk_182 0 208 (dk_at dksX2_summed_2 11 rfl rfl)
theorem dX2_summed_61 : decode cX2_summed 61 = .ok (.iconst 0, 1) := dk_3 (dk_at dksX2_summed_2 14 rfl rfl)
theorem dX2_summed_62 : decode cX2_summed 62 = .ok (.ireturn, 1) := dk_172 (dk_at dksX2_summed_2 15 rfl rfl)
abbrev cX2_behindOne : ByteArray := prog_19_method_47_code
def yX2_behindOne : MethodName := ⟨RX2, "behindOne", "()I"⟩
def dkwX2_behindOne_6 : List UInt8 := [181, 0, 211, 3, 172]
abbrev dktX2_behindOne_6 : List UInt8 := dkwX2_behindOne_6 ++ []
def dkwX2_behindOne_5 : List UInt8 := [42, 5, 3, 182, 0, 172, 42, 182, 0, 195, 172, 42, 180, 0, 29, 42, 182, 0, 179, 29, 79, 42, 3]
abbrev dktX2_behindOne_5 : List UInt8 := dkwX2_behindOne_5 ++ dktX2_behindOne_6
def dkwX2_behindOne_4 : List UInt8 := [180, 0, 176, 4, 100, 181, 0, 176, 42, 89, 180, 0, 166, 4, 100, 181, 0, 166, 28, 16, 44, 160, 0, 9]
abbrev dktX2_behindOne_4 : List UInt8 := dkwX2_behindOne_4 ++ dktX2_behindOne_5
def dkwX2_behindOne_3 : List UInt8 := [62, 29, 156, 0, 5, 2, 172, 42, 4, 182, 0, 208, 42, 182, 0, 186, 29, 154, 0, 40, 42, 89]
abbrev dktX2_behindOne_3 : List UInt8 := dkwX2_behindOne_3 ++ dktX2_behindOne_4
def dkwX2_behindOne_2 : List UInt8 := [181, 0, 166, 42, 3, 181, 0, 211, 42, 182, 0, 186, 3, 172, 42, 182, 0, 183, 61, 42, 28, 182, 0, 223]
abbrev dktX2_behindOne_2 : List UInt8 := dkwX2_behindOne_2 ++ dktX2_behindOne_3
def dkwX2_behindOne_1 : List UInt8 := [184, 0, 169, 182, 0, 208, 42, 180, 0, 29, 42, 180, 0, 166, 27, 79, 42, 89, 180, 0, 166, 4, 96]
abbrev dktX2_behindOne_1 : List UInt8 := dkwX2_behindOne_1 ++ dktX2_behindOne_2
def dkwX2_behindOne_0 : List UInt8 := [42, 182, 0, 220, 60, 27, 155, 0, 54, 42, 27, 184, 0, 169, 7, 160, 0, 7, 8, 167, 0, 7, 27]
abbrev dktX2_behindOne_0 : List UInt8 := dkwX2_behindOne_0 ++ dktX2_behindOne_1
theorem dksX2_behindOne_0 : cX2_behindOne.data.toList.drop 0 = dktX2_behindOne_0 := by decide +kernel
theorem dksX2_behindOne_1 : cX2_behindOne.data.toList.drop 23 = dktX2_behindOne_1 := dk_seg dksX2_behindOne_0 23 rfl rfl
theorem dksX2_behindOne_2 : cX2_behindOne.data.toList.drop 46 = dktX2_behindOne_2 := dk_seg dksX2_behindOne_1 23 rfl rfl
theorem dksX2_behindOne_3 : cX2_behindOne.data.toList.drop 70 = dktX2_behindOne_3 := dk_seg dksX2_behindOne_2 24 rfl rfl
theorem dksX2_behindOne_4 : cX2_behindOne.data.toList.drop 92 = dktX2_behindOne_4 := dk_seg dksX2_behindOne_3 22 rfl rfl
theorem dksX2_behindOne_5 : cX2_behindOne.data.toList.drop 116 = dktX2_behindOne_5 := dk_seg dksX2_behindOne_4 24 rfl rfl
theorem dksX2_behindOne_6 : cX2_behindOne.data.toList.drop 139 = dktX2_behindOne_6 := dk_seg dksX2_behindOne_5 23 rfl rfl
theorem dX2_behindOne_0 : decode cX2_behindOne 0 = .ok (.aload_n 0, 1) := dk_42 (dk_at dksX2_behindOne_0 0 rfl rfl)
theorem dX2_behindOne_1 : decode cX2_behindOne 1 = .ok (.invokevirtual 220, 3) := dk_182 0 220 (dk_at dksX2_behindOne_0 1 rfl rfl)
theorem dX2_behindOne_4 : decode cX2_behindOne 4 = .ok (.istore_n 1, 1) := dk_60 (dk_at dksX2_behindOne_0 4 rfl rfl)
theorem dX2_behindOne_5 : decode cX2_behindOne 5 = .ok (.iload_n 1, 1) := dk_27 (dk_at dksX2_behindOne_0 5 rfl rfl)
theorem dX2_behindOne_6 : decode cX2_behindOne 6 = .ok (.ifCond .lt 54, 3) := dk_155 0 54 (dk_at dksX2_behindOne_0 6 rfl rfl)
theorem dX2_behindOne_9 : decode cX2_behindOne 9 = .ok (.aload_n 0, 1) := dk_42 (dk_at dksX2_behindOne_0 9 rfl rfl)
theorem dX2_behindOne_10 : decode cX2_behindOne 10 = .ok (.iload_n 1, 1) := dk_27 (dk_at dksX2_behindOne_0 10 rfl rfl)
theorem dX2_behindOne_11 : decode cX2_behindOne 11 = .ok (.invokestatic 169, 3) := dk_184 0 169 (dk_at dksX2_behindOne_0 11 rfl rfl)
theorem dX2_behindOne_14 : decode cX2_behindOne 14 = .ok (.iconst 4, 1) := dk_7 (dk_at dksX2_behindOne_0 14 rfl rfl)
theorem dX2_behindOne_15 : decode cX2_behindOne 15 = .ok (.if_icmp .ne 7, 3) := dk_160 0 7 (dk_at dksX2_behindOne_0 15 rfl rfl)
theorem dX2_behindOne_18 : decode cX2_behindOne 18 = .ok (.iconst 5, 1) := dk_8 (dk_at dksX2_behindOne_0 18 rfl rfl)
theorem dX2_behindOne_19 : decode cX2_behindOne 19 = .ok (.goto 7, 3) := dk_167 0 7 (dk_at dksX2_behindOne_0 19 rfl rfl)
theorem dX2_behindOne_22 : decode cX2_behindOne 22 = .ok (.iload_n 1, 1) := dk_27 (dk_at dksX2_behindOne_0 22 rfl rfl)
theorem dX2_behindOne_23 : decode cX2_behindOne 23 = .ok (.invokestatic 169, 3) := dk_184 0 169 (dk_at dksX2_behindOne_1 0 rfl rfl)
theorem dX2_behindOne_26 : decode cX2_behindOne 26 = .ok (.invokevirtual 208, 3) := dk_182 0 208 (dk_at dksX2_behindOne_1 3 rfl rfl)
theorem dX2_behindOne_29 : decode cX2_behindOne 29 = .ok (.aload_n 0, 1) := dk_42 (dk_at dksX2_behindOne_1 6 rfl rfl)
theorem dX2_behindOne_30 : decode cX2_behindOne 30 = .ok (.getfield 29, 3) := dk_180 0 29 (dk_at dksX2_behindOne_1 7 rfl rfl)
theorem dX2_behindOne_33 : decode cX2_behindOne 33 = .ok (.aload_n 0, 1) := dk_42 (dk_at dksX2_behindOne_1 10 rfl rfl)
theorem dX2_behindOne_34 : decode cX2_behindOne 34 = .ok (.getfield 166, 3) := dk_180 0 166 (dk_at dksX2_behindOne_1 11 rfl rfl)
theorem dX2_behindOne_37 : decode cX2_behindOne 37 = .ok (.iload_n 1, 1) := dk_27 (dk_at dksX2_behindOne_1 14 rfl rfl)
theorem dX2_behindOne_38 : decode cX2_behindOne 38 = .ok (.iastore, 1) := dk_79 (dk_at dksX2_behindOne_1 15 rfl rfl)
theorem dX2_behindOne_39 : decode cX2_behindOne 39 = .ok (.aload_n 0, 1) := dk_42 (dk_at dksX2_behindOne_1 16 rfl rfl)
theorem dX2_behindOne_40 : decode cX2_behindOne 40 = .ok (.dup, 1) := dk_89 (dk_at dksX2_behindOne_1 17 rfl rfl)
theorem dX2_behindOne_41 : decode cX2_behindOne 41 = .ok (.getfield 166, 3) := dk_180 0 166 (dk_at dksX2_behindOne_1 18 rfl rfl)
theorem dX2_behindOne_44 : decode cX2_behindOne 44 = .ok (.iconst 1, 1) := dk_4 (dk_at dksX2_behindOne_1 21 rfl rfl)
theorem dX2_behindOne_45 : decode cX2_behindOne 45 = .ok (.iadd, 1) := dk_96 (dk_at dksX2_behindOne_1 22 rfl rfl)
theorem dX2_behindOne_46 : decode cX2_behindOne 46 = .ok (.putfield 166, 3) := dk_181 0 166 (dk_at dksX2_behindOne_2 0 rfl rfl)
theorem dX2_behindOne_49 : decode cX2_behindOne 49 = .ok (.aload_n 0, 1) := dk_42 (dk_at dksX2_behindOne_2 3 rfl rfl)
theorem dX2_behindOne_50 : decode cX2_behindOne 50 = .ok (.iconst 0, 1) := dk_3 (dk_at dksX2_behindOne_2 4 rfl rfl)
theorem dX2_behindOne_51 : decode cX2_behindOne 51 = .ok (.putfield 211, 3) := dk_181 0 211 (dk_at dksX2_behindOne_2 5 rfl rfl)
theorem dX2_behindOne_54 : decode cX2_behindOne 54 = .ok (.aload_n 0, 1) := dk_42 (dk_at dksX2_behindOne_2 8 rfl rfl)
theorem dX2_behindOne_55 : decode cX2_behindOne 55 = .ok (.invokevirtual 186, 3) := dk_182 0 186 (dk_at dksX2_behindOne_2 9 rfl rfl)
theorem dX2_behindOne_58 : decode cX2_behindOne 58 = .ok (.iconst 0, 1) := dk_3 (dk_at dksX2_behindOne_2 12 rfl rfl)
theorem dX2_behindOne_59 : decode cX2_behindOne 59 = .ok (.ireturn, 1) := dk_172 (dk_at dksX2_behindOne_2 13 rfl rfl)
theorem dX2_behindOne_60 : decode cX2_behindOne 60 = .ok (.aload_n 0, 1) := dk_42 (dk_at dksX2_behindOne_2 14 rfl rfl)
theorem dX2_behindOne_61 : decode cX2_behindOne 61 = .ok (.invokevirtual 183, 3) := dk_182 0 183 (dk_at dksX2_behindOne_2 15 rfl rfl)
theorem dX2_behindOne_64 : decode cX2_behindOne 64 = .ok (.istore_n 2, 1) := dk_61 (dk_at dksX2_behindOne_2 18 rfl rfl)
theorem dX2_behindOne_65 : decode cX2_behindOne 65 = .ok (.aload_n 0, 1) := dk_42 (dk_at dksX2_behindOne_2 19 rfl rfl)
theorem dX2_behindOne_66 : decode cX2_behindOne 66 = .ok (.iload_n 2, 1) := dk_28 (dk_at dksX2_behindOne_2 20 rfl rfl)
theorem dX2_behindOne_67 : decode cX2_behindOne 67 = .ok (.invokevirtual 223, 3) := dk_182 0 223 (dk_at dksX2_behindOne_2 21 rfl rfl)
theorem dX2_behindOne_70 : decode cX2_behindOne 70 = .ok (.istore_n 3, 1) := dk_62 (dk_at dksX2_behindOne_3 0 rfl rfl)
theorem dX2_behindOne_71 : decode cX2_behindOne 71 = .ok (.iload_n 3, 1) := dk_29 (dk_at dksX2_behindOne_3 1 rfl rfl)
theorem dX2_behindOne_72 : decode cX2_behindOne 72 = .ok (.ifCond .ge 5, 3) := dk_156 0 5 (dk_at dksX2_behindOne_3 2 rfl rfl)
theorem dX2_behindOne_75 : decode cX2_behindOne 75 = .ok (.iconst (-1), 1) := dk_2 (dk_at dksX2_behindOne_3 5 rfl rfl)
theorem dX2_behindOne_76 : decode cX2_behindOne 76 = .ok (.ireturn, 1) := dk_172 (dk_at dksX2_behindOne_3 6 rfl rfl)
theorem dX2_behindOne_77 : decode cX2_behindOne 77 = .ok (.aload_n 0, 1) := dk_42 (dk_at dksX2_behindOne_3 7 rfl rfl)
theorem dX2_behindOne_78 : decode cX2_behindOne 78 = .ok (.iconst 1, 1) := dk_4 (dk_at dksX2_behindOne_3 8 rfl rfl)
theorem dX2_behindOne_79 : decode cX2_behindOne 79 = .ok (.invokevirtual 208, 3) := dk_182 0 208 (dk_at dksX2_behindOne_3 9 rfl rfl)
theorem dX2_behindOne_82 : decode cX2_behindOne 82 = .ok (.aload_n 0, 1) := dk_42 (dk_at dksX2_behindOne_3 12 rfl rfl)
theorem dX2_behindOne_83 : decode cX2_behindOne 83 = .ok (.invokevirtual 186, 3) := dk_182 0 186 (dk_at dksX2_behindOne_3 13 rfl rfl)
theorem dX2_behindOne_86 : decode cX2_behindOne 86 = .ok (.iload_n 3, 1) := dk_29 (dk_at dksX2_behindOne_3 16 rfl rfl)
theorem dX2_behindOne_87 : decode cX2_behindOne 87 = .ok (.ifCond .ne 40, 3) := dk_154 0 40 (dk_at dksX2_behindOne_3 17 rfl rfl)
theorem dX2_behindOne_90 : decode cX2_behindOne 90 = .ok (.aload_n 0, 1) := dk_42 (dk_at dksX2_behindOne_3 20 rfl rfl)
theorem dX2_behindOne_91 : decode cX2_behindOne 91 = .ok (.dup, 1) := dk_89 (dk_at dksX2_behindOne_3 21 rfl rfl)
theorem dX2_behindOne_92 : decode cX2_behindOne 92 = .ok (.getfield 176, 3) := dk_180 0 176 (dk_at dksX2_behindOne_4 0 rfl rfl)
theorem dX2_behindOne_95 : decode cX2_behindOne 95 = .ok (.iconst 1, 1) := dk_4 (dk_at dksX2_behindOne_4 3 rfl rfl)
theorem dX2_behindOne_96 : decode cX2_behindOne 96 = .ok (.isub, 1) := dk_100 (dk_at dksX2_behindOne_4 4 rfl rfl)
theorem dX2_behindOne_97 : decode cX2_behindOne 97 = .ok (.putfield 176, 3) := dk_181 0 176 (dk_at dksX2_behindOne_4 5 rfl rfl)
theorem dX2_behindOne_100 : decode cX2_behindOne 100 = .ok (.aload_n 0, 1) := dk_42 (dk_at dksX2_behindOne_4 8 rfl rfl)
theorem dX2_behindOne_101 : decode cX2_behindOne 101 = .ok (.dup, 1) := dk_89 (dk_at dksX2_behindOne_4 9 rfl rfl)
theorem dX2_behindOne_102 : decode cX2_behindOne 102 = .ok (.getfield 166, 3) := dk_180 0 166 (dk_at dksX2_behindOne_4 10 rfl rfl)
theorem dX2_behindOne_105 : decode cX2_behindOne 105 = .ok (.iconst 1, 1) := dk_4 (dk_at dksX2_behindOne_4 13 rfl rfl)
theorem dX2_behindOne_106 : decode cX2_behindOne 106 = .ok (.isub, 1) := dk_100 (dk_at dksX2_behindOne_4 14 rfl rfl)
theorem dX2_behindOne_107 : decode cX2_behindOne 107 = .ok (.putfield 166, 3) := dk_181 0 166 (dk_at dksX2_behindOne_4 15 rfl rfl)
theorem dX2_behindOne_110 : decode cX2_behindOne 110 = .ok (.iload_n 2, 1) := dk_28 (dk_at dksX2_behindOne_4 18 rfl rfl)
theorem dX2_behindOne_111 : decode cX2_behindOne 111 = .ok (.bipush 44, 2) := dk_16 44 (dk_at dksX2_behindOne_4 19 rfl rfl)
theorem dX2_behindOne_113 : decode cX2_behindOne 113 = .ok (.if_icmp .ne 9, 3) := dk_160 0 9 (dk_at dksX2_behindOne_4 21 rfl rfl)
theorem dX2_behindOne_116 : decode cX2_behindOne 116 = .ok (.aload_n 0, 1) := dk_42 (dk_at dksX2_behindOne_5 0 rfl rfl)
theorem dX2_behindOne_117 : decode cX2_behindOne 117 = .ok (.iconst 2, 1) := dk_5 (dk_at dksX2_behindOne_5 1 rfl rfl)
theorem dX2_behindOne_118 : decode cX2_behindOne 118 = .ok (.iconst 0, 1) := dk_3 (dk_at dksX2_behindOne_5 2 rfl rfl)
theorem dX2_behindOne_119 : decode cX2_behindOne 119 = .ok (.invokevirtual 172, 3) := dk_182 0 172 (dk_at dksX2_behindOne_5 3 rfl rfl)
theorem dX2_behindOne_122 : decode cX2_behindOne 122 = .ok (.aload_n 0, 1) := dk_42 (dk_at dksX2_behindOne_5 6 rfl rfl)
theorem dX2_behindOne_123 : decode cX2_behindOne 123 = .ok (.invokevirtual 195, 3) := dk_182 0 195 (dk_at dksX2_behindOne_5 7 rfl rfl)
theorem dX2_behindOne_126 : decode cX2_behindOne 126 = .ok (.ireturn, 1) := dk_172 (dk_at dksX2_behindOne_5 10 rfl rfl)
theorem dX2_behindOne_127 : decode cX2_behindOne 127 = .ok (.aload_n 0, 1) := dk_42 (dk_at dksX2_behindOne_5 11 rfl rfl)
theorem dX2_behindOne_128 : decode cX2_behindOne 128 = .ok (.getfield 29, 3) := dk_180 0 29 (dk_at dksX2_behindOne_5 12 rfl rfl)
theorem dX2_behindOne_131 : decode cX2_behindOne 131 = .ok (.aload_n 0, 1) := dk_42 (dk_at dksX2_behindOne_5 15 rfl rfl)
theorem dX2_behindOne_132 : decode cX2_behindOne 132 = .ok (.invokevirtual 179, 3) := dk_182 0 179 (dk_at dksX2_behindOne_5 16 rfl rfl)
theorem dX2_behindOne_135 : decode cX2_behindOne 135 = .ok (.iload_n 3, 1) := dk_29 (dk_at dksX2_behindOne_5 19 rfl rfl)
theorem dX2_behindOne_136 : decode cX2_behindOne 136 = .ok (.iastore, 1) := dk_79 (dk_at dksX2_behindOne_5 20 rfl rfl)
theorem dX2_behindOne_137 : decode cX2_behindOne 137 = .ok (.aload_n 0, 1) := dk_42 (dk_at dksX2_behindOne_5 21 rfl rfl)
theorem dX2_behindOne_138 : decode cX2_behindOne 138 = .ok (.iconst 0, 1) := dk_3 (dk_at dksX2_behindOne_5 22 rfl rfl)
theorem dX2_behindOne_139 : decode cX2_behindOne 139 = .ok (.putfield 211, 3) := dk_181 0 211 (dk_at dksX2_behindOne_6 0 rfl rfl)
theorem dX2_behindOne_142 : decode cX2_behindOne 142 = .ok (.iconst 0, 1) := dk_3 (dk_at dksX2_behindOne_6 3 rfl rfl)
theorem dX2_behindOne_143 : decode cX2_behindOne 143 = .ok (.ireturn, 1) := dk_172 (dk_at dksX2_behindOne_6 4 rfl rfl)
abbrev cX2_betweenOf : ByteArray := prog_19_method_45_code
def yX2_betweenOf : MethodName := ⟨RX2, "betweenOf", "()I"⟩
def dkwX2_betweenOf_5 : List UInt8 := [167, 0, 4, 2, 172]
abbrev dktX2_betweenOf_5 : List UInt8 := dkwX2_betweenOf_5 ++ []
def dkwX2_betweenOf_4 : List UInt8 := [153, 0, 8, 16, 21, 167, 0, 23, 42, 16, 111, 16, 114, 184, 0, 137, 182, 0, 201, 153, 0, 8, 16, 22]
abbrev dktX2_betweenOf_4 : List UInt8 := dkwX2_betweenOf_4 ++ dktX2_betweenOf_5
def dkwX2_betweenOf_3 : List UInt8 := [182, 0, 214, 154, 0, 8, 42, 182, 0, 217, 172, 42, 16, 97, 16, 110, 16, 100, 184, 0, 141, 182, 0, 201]
abbrev dktX2_betweenOf_3 : List UInt8 := dkwX2_betweenOf_3 ++ dktX2_betweenOf_4
def dkwX2_betweenOf_2 : List UInt8 := [180, 0, 115, 16, 94, 160, 0, 6, 16, 9, 172, 42, 182, 0, 183, 16, 42, 159, 0, 5, 2, 172, 42]
abbrev dktX2_betweenOf_2 : List UInt8 := dkwX2_betweenOf_2 ++ dktX2_betweenOf_3
def dkwX2_betweenOf_1 : List UInt8 := [180, 0, 115, 16, 42, 160, 0, 6, 16, 7, 172, 42, 180, 0, 115, 16, 47, 160, 0, 6, 16, 8, 172, 42]
abbrev dktX2_betweenOf_1 : List UInt8 := dkwX2_betweenOf_1 ++ dktX2_betweenOf_2
def dkwX2_betweenOf_0 : List UInt8 := [42, 180, 0, 115, 16, 43, 160, 0, 5, 8, 172, 42, 180, 0, 115, 16, 45, 160, 0, 6, 16, 6, 172, 42]
abbrev dktX2_betweenOf_0 : List UInt8 := dkwX2_betweenOf_0 ++ dktX2_betweenOf_1
theorem dksX2_betweenOf_0 : cX2_betweenOf.data.toList.drop 0 = dktX2_betweenOf_0 := by decide +kernel
theorem dksX2_betweenOf_1 : cX2_betweenOf.data.toList.drop 24 = dktX2_betweenOf_1 := dk_seg dksX2_betweenOf_0 24 rfl rfl
theorem dksX2_betweenOf_2 : cX2_betweenOf.data.toList.drop 48 = dktX2_betweenOf_2 := dk_seg dksX2_betweenOf_1 24 rfl rfl
theorem dksX2_betweenOf_3 : cX2_betweenOf.data.toList.drop 71 = dktX2_betweenOf_3 := dk_seg dksX2_betweenOf_2 23 rfl rfl
theorem dksX2_betweenOf_4 : cX2_betweenOf.data.toList.drop 95 = dktX2_betweenOf_4 := dk_seg dksX2_betweenOf_3 24 rfl rfl
theorem dksX2_betweenOf_5 : cX2_betweenOf.data.toList.drop 119 = dktX2_betweenOf_5 := dk_seg dksX2_betweenOf_4 24 rfl rfl
theorem dX2_betweenOf_0 : decode cX2_betweenOf 0 = .ok (.aload_n 0, 1) := dk_42 (dk_at dksX2_betweenOf_0 0 rfl rfl)
theorem dX2_betweenOf_1 : decode cX2_betweenOf 1 = .ok (.getfield 115, 3) := dk_180 0 115 (dk_at dksX2_betweenOf_0 1 rfl rfl)
theorem dX2_betweenOf_4 : decode cX2_betweenOf 4 = .ok (.bipush 43, 2) := dk_16 43 (dk_at dksX2_betweenOf_0 4 rfl rfl)
theorem dX2_betweenOf_6 : decode cX2_betweenOf 6 = .ok (.if_icmp .ne 5, 3) := dk_160 0 5 (dk_at dksX2_betweenOf_0 6 rfl rfl)
theorem dX2_betweenOf_9 : decode cX2_betweenOf 9 = .ok (.iconst 5, 1) := dk_8 (dk_at dksX2_betweenOf_0 9 rfl rfl)
theorem dX2_betweenOf_10 : decode cX2_betweenOf 10 = .ok (.ireturn, 1) := dk_172 (dk_at dksX2_betweenOf_0 10 rfl rfl)
theorem dX2_betweenOf_11 : decode cX2_betweenOf 11 = .ok (.aload_n 0, 1) := dk_42 (dk_at dksX2_betweenOf_0 11 rfl rfl)
theorem dX2_betweenOf_12 : decode cX2_betweenOf 12 = .ok (.getfield 115, 3) := dk_180 0 115 (dk_at dksX2_betweenOf_0 12 rfl rfl)
theorem dX2_betweenOf_15 : decode cX2_betweenOf 15 = .ok (.bipush 45, 2) := dk_16 45 (dk_at dksX2_betweenOf_0 15 rfl rfl)
theorem dX2_betweenOf_17 : decode cX2_betweenOf 17 = .ok (.if_icmp .ne 6, 3) := dk_160 0 6 (dk_at dksX2_betweenOf_0 17 rfl rfl)
theorem dX2_betweenOf_20 : decode cX2_betweenOf 20 = .ok (.bipush 6, 2) := dk_16 6 (dk_at dksX2_betweenOf_0 20 rfl rfl)
theorem dX2_betweenOf_22 : decode cX2_betweenOf 22 = .ok (.ireturn, 1) := dk_172 (dk_at dksX2_betweenOf_0 22 rfl rfl)
theorem dX2_betweenOf_23 : decode cX2_betweenOf 23 = .ok (.aload_n 0, 1) := dk_42 (dk_at dksX2_betweenOf_0 23 rfl rfl)
theorem dX2_betweenOf_24 : decode cX2_betweenOf 24 = .ok (.getfield 115, 3) := dk_180 0 115 (dk_at dksX2_betweenOf_1 0 rfl rfl)
theorem dX2_betweenOf_27 : decode cX2_betweenOf 27 = .ok (.bipush 42, 2) := dk_16 42 (dk_at dksX2_betweenOf_1 3 rfl rfl)
theorem dX2_betweenOf_29 : decode cX2_betweenOf 29 = .ok (.if_icmp .ne 6, 3) := dk_160 0 6 (dk_at dksX2_betweenOf_1 5 rfl rfl)
theorem dX2_betweenOf_32 : decode cX2_betweenOf 32 = .ok (.bipush 7, 2) := dk_16 7 (dk_at dksX2_betweenOf_1 8 rfl rfl)
theorem dX2_betweenOf_34 : decode cX2_betweenOf 34 = .ok (.ireturn, 1) := dk_172 (dk_at dksX2_betweenOf_1 10 rfl rfl)
theorem dX2_betweenOf_35 : decode cX2_betweenOf 35 = .ok (.aload_n 0, 1) := dk_42 (dk_at dksX2_betweenOf_1 11 rfl rfl)
theorem dX2_betweenOf_36 : decode cX2_betweenOf 36 = .ok (.getfield 115, 3) := dk_180 0 115 (dk_at dksX2_betweenOf_1 12 rfl rfl)
theorem dX2_betweenOf_39 : decode cX2_betweenOf 39 = .ok (.bipush 47, 2) := dk_16 47 (dk_at dksX2_betweenOf_1 15 rfl rfl)
theorem dX2_betweenOf_41 : decode cX2_betweenOf 41 = .ok (.if_icmp .ne 6, 3) := dk_160 0 6 (dk_at dksX2_betweenOf_1 17 rfl rfl)
theorem dX2_betweenOf_44 : decode cX2_betweenOf 44 = .ok (.bipush 8, 2) := dk_16 8 (dk_at dksX2_betweenOf_1 20 rfl rfl)
theorem dX2_betweenOf_46 : decode cX2_betweenOf 46 = .ok (.ireturn, 1) := dk_172 (dk_at dksX2_betweenOf_1 22 rfl rfl)
theorem dX2_betweenOf_47 : decode cX2_betweenOf 47 = .ok (.aload_n 0, 1) := dk_42 (dk_at dksX2_betweenOf_1 23 rfl rfl)
theorem dX2_betweenOf_48 : decode cX2_betweenOf 48 = .ok (.getfield 115, 3) := dk_180 0 115 (dk_at dksX2_betweenOf_2 0 rfl rfl)
theorem dX2_betweenOf_51 : decode cX2_betweenOf 51 = .ok (.bipush 94, 2) := dk_16 94 (dk_at dksX2_betweenOf_2 3 rfl rfl)
theorem dX2_betweenOf_53 : decode cX2_betweenOf 53 = .ok (.if_icmp .ne 6, 3) := dk_160 0 6 (dk_at dksX2_betweenOf_2 5 rfl rfl)
theorem dX2_betweenOf_56 : decode cX2_betweenOf 56 = .ok (.bipush 9, 2) := dk_16 9 (dk_at dksX2_betweenOf_2 8 rfl rfl)
theorem dX2_betweenOf_58 : decode cX2_betweenOf 58 = .ok (.ireturn, 1) := dk_172 (dk_at dksX2_betweenOf_2 10 rfl rfl)
theorem dX2_betweenOf_59 : decode cX2_betweenOf 59 = .ok (.aload_n 0, 1) := dk_42 (dk_at dksX2_betweenOf_2 11 rfl rfl)
theorem dX2_betweenOf_60 : decode cX2_betweenOf 60 = .ok (.invokevirtual 183, 3) := dk_182 0 183 (dk_at dksX2_betweenOf_2 12 rfl rfl)
theorem dX2_betweenOf_63 : decode cX2_betweenOf 63 = .ok (.bipush 42, 2) := dk_16 42 (dk_at dksX2_betweenOf_2 15 rfl rfl)
theorem dX2_betweenOf_65 : decode cX2_betweenOf 65 = .ok (.if_icmp .eq 5, 3) := dk_159 0 5 (dk_at dksX2_betweenOf_2 17 rfl rfl)
theorem dX2_betweenOf_68 : decode cX2_betweenOf 68 = .ok (.iconst (-1), 1) := dk_2 (dk_at dksX2_betweenOf_2 20 rfl rfl)
theorem dX2_betweenOf_69 : decode cX2_betweenOf 69 = .ok (.ireturn, 1) := dk_172 (dk_at dksX2_betweenOf_2 21 rfl rfl)
theorem dX2_betweenOf_70 : decode cX2_betweenOf 70 = .ok (.aload_n 0, 1) := dk_42 (dk_at dksX2_betweenOf_2 22 rfl rfl)
theorem dX2_betweenOf_71 : decode cX2_betweenOf 71 = .ok (.invokevirtual 214, 3) := dk_182 0 214 (dk_at dksX2_betweenOf_3 0 rfl rfl)
theorem dX2_betweenOf_74 : decode cX2_betweenOf 74 = .ok (.ifCond .ne 8, 3) := dk_154 0 8 (dk_at dksX2_betweenOf_3 3 rfl rfl)
theorem dX2_betweenOf_77 : decode cX2_betweenOf 77 = .ok (.aload_n 0, 1) := dk_42 (dk_at dksX2_betweenOf_3 6 rfl rfl)
theorem dX2_betweenOf_78 : decode cX2_betweenOf 78 = .ok (.invokevirtual 217, 3) := dk_182 0 217 (dk_at dksX2_betweenOf_3 7 rfl rfl)
theorem dX2_betweenOf_81 : decode cX2_betweenOf 81 = .ok (.ireturn, 1) := dk_172 (dk_at dksX2_betweenOf_3 10 rfl rfl)
theorem dX2_betweenOf_82 : decode cX2_betweenOf 82 = .ok (.aload_n 0, 1) := dk_42 (dk_at dksX2_betweenOf_3 11 rfl rfl)
theorem dX2_betweenOf_83 : decode cX2_betweenOf 83 = .ok (.bipush 97, 2) := dk_16 97 (dk_at dksX2_betweenOf_3 12 rfl rfl)
theorem dX2_betweenOf_85 : decode cX2_betweenOf 85 = .ok (.bipush 110, 2) := dk_16 110 (dk_at dksX2_betweenOf_3 14 rfl rfl)
theorem dX2_betweenOf_87 : decode cX2_betweenOf 87 = .ok (.bipush 100, 2) := dk_16 100 (dk_at dksX2_betweenOf_3 16 rfl rfl)
theorem dX2_betweenOf_89 : decode cX2_betweenOf 89 = .ok (.invokestatic 141, 3) := dk_184 0 141 (dk_at dksX2_betweenOf_3 18 rfl rfl)
theorem dX2_betweenOf_92 : decode cX2_betweenOf 92 = .ok (.invokevirtual 201, 3) := dk_182 0 201 (dk_at dksX2_betweenOf_3 21 rfl rfl)
theorem dX2_betweenOf_95 : decode cX2_betweenOf 95 = .ok (.ifCond .eq 8, 3) := dk_153 0 8 (dk_at dksX2_betweenOf_4 0 rfl rfl)
theorem dX2_betweenOf_98 : decode cX2_betweenOf 98 = .ok (.bipush 21, 2) := dk_16 21 (dk_at dksX2_betweenOf_4 3 rfl rfl)
theorem dX2_betweenOf_100 : decode cX2_betweenOf 100 = .ok (.goto 23, 3) := dk_167 0 23 (dk_at dksX2_betweenOf_4 5 rfl rfl)
theorem dX2_betweenOf_103 : decode cX2_betweenOf 103 = .ok (.aload_n 0, 1) := dk_42 (dk_at dksX2_betweenOf_4 8 rfl rfl)
theorem dX2_betweenOf_104 : decode cX2_betweenOf 104 = .ok (.bipush 111, 2) := dk_16 111 (dk_at dksX2_betweenOf_4 9 rfl rfl)
theorem dX2_betweenOf_106 : decode cX2_betweenOf 106 = .ok (.bipush 114, 2) := dk_16 114 (dk_at dksX2_betweenOf_4 11 rfl rfl)
theorem dX2_betweenOf_108 : decode cX2_betweenOf 108 = .ok (.invokestatic 137, 3) := dk_184 0 137 (dk_at dksX2_betweenOf_4 13 rfl rfl)
theorem dX2_betweenOf_111 : decode cX2_betweenOf 111 = .ok (.invokevirtual 201, 3) := dk_182 0 201 (dk_at dksX2_betweenOf_4 16 rfl rfl)
theorem dX2_betweenOf_114 : decode cX2_betweenOf 114 = .ok (.ifCond .eq 8, 3) := dk_153 0 8 (dk_at dksX2_betweenOf_4 19 rfl rfl)
theorem dX2_betweenOf_117 : decode cX2_betweenOf 117 = .ok (.bipush 22, 2) := dk_16 22 (dk_at dksX2_betweenOf_4 22 rfl rfl)
theorem dX2_betweenOf_119 : decode cX2_betweenOf 119 = .ok (.goto 4, 3) := dk_167 0 4 (dk_at dksX2_betweenOf_5 0 rfl rfl)
theorem dX2_betweenOf_122 : decode cX2_betweenOf 122 = .ok (.iconst (-1), 1) := dk_2 (dk_at dksX2_betweenOf_5 3 rfl rfl)
theorem dX2_betweenOf_123 : decode cX2_betweenOf 123 = .ok (.ireturn, 1) := dk_172 (dk_at dksX2_betweenOf_5 4 rfl rfl)
abbrev cX2_openNow : ByteArray := prog_19_method_38_code
def yX2_openNow : MethodName := ⟨RX2, "openNow", "()I"⟩
def dkwX2_openNow_0 : List UInt8 := [42, 182, 0, 179, 156, 0, 7, 2, 167, 0, 12, 42, 180, 0, 29, 42, 182, 0, 179, 46, 172]
abbrev dktX2_openNow_0 : List UInt8 := dkwX2_openNow_0 ++ []
theorem dksX2_openNow_0 : cX2_openNow.data.toList.drop 0 = dktX2_openNow_0 := by decide +kernel
theorem dX2_openNow_0 : decode cX2_openNow 0 = .ok (.aload_n 0, 1) := dk_42 (dk_at dksX2_openNow_0 0 rfl rfl)
theorem dX2_openNow_1 : decode cX2_openNow 1 = .ok (.invokevirtual 179, 3) := dk_182 0 179 (dk_at dksX2_openNow_0 1 rfl rfl)
theorem dX2_openNow_4 : decode cX2_openNow 4 = .ok (.ifCond .ge 7, 3) := dk_156 0 7 (dk_at dksX2_openNow_0 4 rfl rfl)
theorem dX2_openNow_7 : decode cX2_openNow 7 = .ok (.iconst (-1), 1) := dk_2 (dk_at dksX2_openNow_0 7 rfl rfl)
theorem dX2_openNow_8 : decode cX2_openNow 8 = .ok (.goto 12, 3) := dk_167 0 12 (dk_at dksX2_openNow_0 8 rfl rfl)
theorem dX2_openNow_11 : decode cX2_openNow 11 = .ok (.aload_n 0, 1) := dk_42 (dk_at dksX2_openNow_0 11 rfl rfl)
theorem dX2_openNow_12 : decode cX2_openNow 12 = .ok (.getfield 29, 3) := dk_180 0 29 (dk_at dksX2_openNow_0 12 rfl rfl)
theorem dX2_openNow_15 : decode cX2_openNow 15 = .ok (.aload_n 0, 1) := dk_42 (dk_at dksX2_openNow_0 15 rfl rfl)
theorem dX2_openNow_16 : decode cX2_openNow 16 = .ok (.invokevirtual 179, 3) := dk_182 0 179 (dk_at dksX2_openNow_0 16 rfl rfl)
theorem dX2_openNow_19 : decode cX2_openNow 19 = .ok (.iaload, 1) := dk_46 (dk_at dksX2_openNow_0 19 rfl rfl)
theorem dX2_openNow_20 : decode cX2_openNow 20 = .ok (.ireturn, 1) := dk_172 (dk_at dksX2_openNow_0 20 rfl rfl)
abbrev cX2_openAt : ByteArray := prog_19_method_37_code
def yX2_openAt : MethodName := ⟨RX2, "openAt", "()I"⟩
def dkwX2_openAt_1 : List UInt8 := [132, 1, 255, 167, 255, 238, 27, 172]
abbrev dktX2_openAt_1 : List UInt8 := dkwX2_openAt_1 ++ []
def dkwX2_openAt_0 : List UInt8 := [42, 180, 0, 166, 4, 100, 60, 27, 155, 0, 20, 42, 180, 0, 29, 27, 46, 16, 40, 162, 0, 9]
abbrev dktX2_openAt_0 : List UInt8 := dkwX2_openAt_0 ++ dktX2_openAt_1
theorem dksX2_openAt_0 : cX2_openAt.data.toList.drop 0 = dktX2_openAt_0 := by decide +kernel
theorem dksX2_openAt_1 : cX2_openAt.data.toList.drop 22 = dktX2_openAt_1 := dk_seg dksX2_openAt_0 22 rfl rfl
theorem dX2_openAt_0 : decode cX2_openAt 0 = .ok (.aload_n 0, 1) := dk_42 (dk_at dksX2_openAt_0 0 rfl rfl)
theorem dX2_openAt_1 : decode cX2_openAt 1 = .ok (.getfield 166, 3) := dk_180 0 166 (dk_at dksX2_openAt_0 1 rfl rfl)
theorem dX2_openAt_4 : decode cX2_openAt 4 = .ok (.iconst 1, 1) := dk_4 (dk_at dksX2_openAt_0 4 rfl rfl)
theorem dX2_openAt_5 : decode cX2_openAt 5 = .ok (.isub, 1) := dk_100 (dk_at dksX2_openAt_0 5 rfl rfl)
theorem dX2_openAt_6 : decode cX2_openAt 6 = .ok (.istore_n 1, 1) := dk_60 (dk_at dksX2_openAt_0 6 rfl rfl)
theorem dX2_openAt_7 : decode cX2_openAt 7 = .ok (.iload_n 1, 1) := dk_27 (dk_at dksX2_openAt_0 7 rfl rfl)
theorem dX2_openAt_8 : decode cX2_openAt 8 = .ok (.ifCond .lt 20, 3) := dk_155 0 20 (dk_at dksX2_openAt_0 8 rfl rfl)
theorem dX2_openAt_11 : decode cX2_openAt 11 = .ok (.aload_n 0, 1) := dk_42 (dk_at dksX2_openAt_0 11 rfl rfl)
theorem dX2_openAt_12 : decode cX2_openAt 12 = .ok (.getfield 29, 3) := dk_180 0 29 (dk_at dksX2_openAt_0 12 rfl rfl)
theorem dX2_openAt_15 : decode cX2_openAt 15 = .ok (.iload_n 1, 1) := dk_27 (dk_at dksX2_openAt_0 15 rfl rfl)
theorem dX2_openAt_16 : decode cX2_openAt 16 = .ok (.iaload, 1) := dk_46 (dk_at dksX2_openAt_0 16 rfl rfl)
theorem dX2_openAt_17 : decode cX2_openAt 17 = .ok (.bipush 40, 2) := dk_16 40 (dk_at dksX2_openAt_0 17 rfl rfl)
theorem dX2_openAt_19 : decode cX2_openAt 19 = .ok (.if_icmp .ge 9, 3) := dk_162 0 9 (dk_at dksX2_openAt_0 19 rfl rfl)
theorem dX2_openAt_22 : decode cX2_openAt 22 = .ok (.iinc 1 (-1), 3) := dk_132 1 255 (dk_at dksX2_openAt_1 0 rfl rfl)
theorem dX2_openAt_25 : decode cX2_openAt 25 = .ok (.goto (-18), 3) := dk_167 255 238 (dk_at dksX2_openAt_1 3 rfl rfl)
theorem dX2_openAt_28 : decode cX2_openAt 28 = .ok (.iload_n 1, 1) := dk_27 (dk_at dksX2_openAt_1 6 rfl rfl)
theorem dX2_openAt_29 : decode cX2_openAt 29 = .ok (.ireturn, 1) := dk_172 (dk_at dksX2_openAt_1 7 rfl rfl)
abbrev cX2_isCompared : ByteArray := prog_19_method_39_code
def yX2_isCompared : MethodName := ⟨RX2, "isCompared", "()Z"⟩
def dkwX2_isCompared_2 : List UInt8 := [167, 0, 4, 3, 172]
abbrev dktX2_isCompared_2 : List UInt8 := dkwX2_isCompared_2 ++ []
def dkwX2_isCompared_1 : List UInt8 := [132, 1, 255, 167, 255, 236, 27, 155, 0, 20, 42, 180, 0, 29, 27, 46, 184, 0, 169, 7, 160, 0, 7, 4]
abbrev dktX2_isCompared_1 : List UInt8 := dkwX2_isCompared_1 ++ dktX2_isCompared_2
def dkwX2_isCompared_0 : List UInt8 := [42, 180, 0, 166, 4, 100, 60, 27, 155, 0, 22, 42, 180, 0, 29, 27, 46, 184, 0, 169, 7, 164, 0, 9]
abbrev dktX2_isCompared_0 : List UInt8 := dkwX2_isCompared_0 ++ dktX2_isCompared_1
theorem dksX2_isCompared_0 : cX2_isCompared.data.toList.drop 0 = dktX2_isCompared_0 := by decide +kernel
theorem dksX2_isCompared_1 : cX2_isCompared.data.toList.drop 24 = dktX2_isCompared_1 := dk_seg dksX2_isCompared_0 24 rfl rfl
theorem dksX2_isCompared_2 : cX2_isCompared.data.toList.drop 48 = dktX2_isCompared_2 := dk_seg dksX2_isCompared_1 24 rfl rfl
theorem dX2_isCompared_0 : decode cX2_isCompared 0 = .ok (.aload_n 0, 1) := dk_42 (dk_at dksX2_isCompared_0 0 rfl rfl)
theorem dX2_isCompared_1 : decode cX2_isCompared 1 = .ok (.getfield 166, 3) := dk_180 0 166 (dk_at dksX2_isCompared_0 1 rfl rfl)
theorem dX2_isCompared_4 : decode cX2_isCompared 4 = .ok (.iconst 1, 1) := dk_4 (dk_at dksX2_isCompared_0 4 rfl rfl)
theorem dX2_isCompared_5 : decode cX2_isCompared 5 = .ok (.isub, 1) := dk_100 (dk_at dksX2_isCompared_0 5 rfl rfl)
theorem dX2_isCompared_6 : decode cX2_isCompared 6 = .ok (.istore_n 1, 1) := dk_60 (dk_at dksX2_isCompared_0 6 rfl rfl)
theorem dX2_isCompared_7 : decode cX2_isCompared 7 = .ok (.iload_n 1, 1) := dk_27 (dk_at dksX2_isCompared_0 7 rfl rfl)
theorem dX2_isCompared_8 : decode cX2_isCompared 8 = .ok (.ifCond .lt 22, 3) := dk_155 0 22 (dk_at dksX2_isCompared_0 8 rfl rfl)
theorem dX2_isCompared_11 : decode cX2_isCompared 11 = .ok (.aload_n 0, 1) := dk_42 (dk_at dksX2_isCompared_0 11 rfl rfl)
theorem dX2_isCompared_12 : decode cX2_isCompared 12 = .ok (.getfield 29, 3) := dk_180 0 29 (dk_at dksX2_isCompared_0 12 rfl rfl)
theorem dX2_isCompared_15 : decode cX2_isCompared 15 = .ok (.iload_n 1, 1) := dk_27 (dk_at dksX2_isCompared_0 15 rfl rfl)
theorem dX2_isCompared_16 : decode cX2_isCompared 16 = .ok (.iaload, 1) := dk_46 (dk_at dksX2_isCompared_0 16 rfl rfl)
theorem dX2_isCompared_17 : decode cX2_isCompared 17 = .ok (.invokestatic 169, 3) := dk_184 0 169 (dk_at dksX2_isCompared_0 17 rfl rfl)
theorem dX2_isCompared_20 : decode cX2_isCompared 20 = .ok (.iconst 4, 1) := dk_7 (dk_at dksX2_isCompared_0 20 rfl rfl)
theorem dX2_isCompared_21 : decode cX2_isCompared 21 = .ok (.if_icmp .le 9, 3) := dk_164 0 9 (dk_at dksX2_isCompared_0 21 rfl rfl)
theorem dX2_isCompared_24 : decode cX2_isCompared 24 = .ok (.iinc 1 (-1), 3) := dk_132 1 255 (dk_at dksX2_isCompared_1 0 rfl rfl)
theorem dX2_isCompared_27 : decode cX2_isCompared 27 = .ok (.goto (-20), 3) := dk_167 255 236 (dk_at dksX2_isCompared_1 3 rfl rfl)
theorem dX2_isCompared_30 : decode cX2_isCompared 30 = .ok (.iload_n 1, 1) := dk_27 (dk_at dksX2_isCompared_1 6 rfl rfl)
theorem dX2_isCompared_31 : decode cX2_isCompared 31 = .ok (.ifCond .lt 20, 3) := dk_155 0 20 (dk_at dksX2_isCompared_1 7 rfl rfl)
theorem dX2_isCompared_34 : decode cX2_isCompared 34 = .ok (.aload_n 0, 1) := dk_42 (dk_at dksX2_isCompared_1 10 rfl rfl)
theorem dX2_isCompared_35 : decode cX2_isCompared 35 = .ok (.getfield 29, 3) := dk_180 0 29 (dk_at dksX2_isCompared_1 11 rfl rfl)
theorem dX2_isCompared_38 : decode cX2_isCompared 38 = .ok (.iload_n 1, 1) := dk_27 (dk_at dksX2_isCompared_1 14 rfl rfl)
theorem dX2_isCompared_39 : decode cX2_isCompared 39 = .ok (.iaload, 1) := dk_46 (dk_at dksX2_isCompared_1 15 rfl rfl)
theorem dX2_isCompared_40 : decode cX2_isCompared 40 = .ok (.invokestatic 169, 3) := dk_184 0 169 (dk_at dksX2_isCompared_1 16 rfl rfl)
theorem dX2_isCompared_43 : decode cX2_isCompared 43 = .ok (.iconst 4, 1) := dk_7 (dk_at dksX2_isCompared_1 19 rfl rfl)
theorem dX2_isCompared_44 : decode cX2_isCompared 44 = .ok (.if_icmp .ne 7, 3) := dk_160 0 7 (dk_at dksX2_isCompared_1 20 rfl rfl)
theorem dX2_isCompared_47 : decode cX2_isCompared 47 = .ok (.iconst 1, 1) := dk_4 (dk_at dksX2_isCompared_1 23 rfl rfl)
theorem dX2_isCompared_48 : decode cX2_isCompared 48 = .ok (.goto 4, 3) := dk_167 0 4 (dk_at dksX2_isCompared_2 0 rfl rfl)
theorem dX2_isCompared_51 : decode cX2_isCompared 51 = .ok (.iconst 0, 1) := dk_3 (dk_at dksX2_isCompared_2 3 rfl rfl)
theorem dX2_isCompared_52 : decode cX2_isCompared 52 = .ok (.ireturn, 1) := dk_172 (dk_at dksX2_isCompared_2 4 rfl rfl)
abbrev cX2_rank : ByteArray := prog_19_method_35_code
def yX2_rank : MethodName := ⟨RX2, "rank", "(I)I"⟩
def dkwX2_rank_3 : List UInt8 := [8, 167, 0, 5, 16, 8, 172]
abbrev dktX2_rank_3 : List UInt8 := dkwX2_rank_3 ++ []
def dkwX2_rank_2 : List UInt8 := [160, 0, 8, 16, 7, 167, 0, 25, 26, 16, 7, 161, 0, 8, 16, 6, 167, 0, 14, 26, 8, 161, 0, 7]
abbrev dktX2_rank_2 : List UInt8 := dkwX2_rank_2 ++ dktX2_rank_3
def dkwX2_rank_1 : List UInt8 := [26, 16, 21, 160, 0, 7, 5, 167, 0, 4, 6, 172, 26, 16, 10, 161, 0, 5, 7, 172, 26, 16, 9]
abbrev dktX2_rank_1 : List UInt8 := dkwX2_rank_1 ++ dktX2_rank_2
def dkwX2_rank_0 : List UInt8 := [26, 16, 40, 161, 0, 5, 3, 172, 26, 16, 20, 161, 0, 25, 26, 16, 22, 160, 0, 7, 4, 167, 0, 14]
abbrev dktX2_rank_0 : List UInt8 := dkwX2_rank_0 ++ dktX2_rank_1
theorem dksX2_rank_0 : cX2_rank.data.toList.drop 0 = dktX2_rank_0 := by decide +kernel
theorem dksX2_rank_1 : cX2_rank.data.toList.drop 24 = dktX2_rank_1 := dk_seg dksX2_rank_0 24 rfl rfl
theorem dksX2_rank_2 : cX2_rank.data.toList.drop 47 = dktX2_rank_2 := dk_seg dksX2_rank_1 23 rfl rfl
theorem dksX2_rank_3 : cX2_rank.data.toList.drop 71 = dktX2_rank_3 := dk_seg dksX2_rank_2 24 rfl rfl
theorem dX2_rank_0 : decode cX2_rank 0 = .ok (.iload_n 0, 1) := dk_26 (dk_at dksX2_rank_0 0 rfl rfl)
theorem dX2_rank_1 : decode cX2_rank 1 = .ok (.bipush 40, 2) := dk_16 40 (dk_at dksX2_rank_0 1 rfl rfl)
theorem dX2_rank_3 : decode cX2_rank 3 = .ok (.if_icmp .lt 5, 3) := dk_161 0 5 (dk_at dksX2_rank_0 3 rfl rfl)
theorem dX2_rank_6 : decode cX2_rank 6 = .ok (.iconst 0, 1) := dk_3 (dk_at dksX2_rank_0 6 rfl rfl)
theorem dX2_rank_7 : decode cX2_rank 7 = .ok (.ireturn, 1) := dk_172 (dk_at dksX2_rank_0 7 rfl rfl)
theorem dX2_rank_8 : decode cX2_rank 8 = .ok (.iload_n 0, 1) := dk_26 (dk_at dksX2_rank_0 8 rfl rfl)
theorem dX2_rank_9 : decode cX2_rank 9 = .ok (.bipush 20, 2) := dk_16 20 (dk_at dksX2_rank_0 9 rfl rfl)
theorem dX2_rank_11 : decode cX2_rank 11 = .ok (.if_icmp .lt 25, 3) := dk_161 0 25 (dk_at dksX2_rank_0 11 rfl rfl)
theorem dX2_rank_14 : decode cX2_rank 14 = .ok (.iload_n 0, 1) := dk_26 (dk_at dksX2_rank_0 14 rfl rfl)
theorem dX2_rank_15 : decode cX2_rank 15 = .ok (.bipush 22, 2) := dk_16 22 (dk_at dksX2_rank_0 15 rfl rfl)
theorem dX2_rank_17 : decode cX2_rank 17 = .ok (.if_icmp .ne 7, 3) := dk_160 0 7 (dk_at dksX2_rank_0 17 rfl rfl)
theorem dX2_rank_20 : decode cX2_rank 20 = .ok (.iconst 1, 1) := dk_4 (dk_at dksX2_rank_0 20 rfl rfl)
theorem dX2_rank_21 : decode cX2_rank 21 = .ok (.goto 14, 3) := dk_167 0 14 (dk_at dksX2_rank_0 21 rfl rfl)
theorem dX2_rank_24 : decode cX2_rank 24 = .ok (.iload_n 0, 1) := dk_26 (dk_at dksX2_rank_1 0 rfl rfl)
theorem dX2_rank_25 : decode cX2_rank 25 = .ok (.bipush 21, 2) := dk_16 21 (dk_at dksX2_rank_1 1 rfl rfl)
theorem dX2_rank_27 : decode cX2_rank 27 = .ok (.if_icmp .ne 7, 3) := dk_160 0 7 (dk_at dksX2_rank_1 3 rfl rfl)
theorem dX2_rank_30 : decode cX2_rank 30 = .ok (.iconst 2, 1) := dk_5 (dk_at dksX2_rank_1 6 rfl rfl)
theorem dX2_rank_31 : decode cX2_rank 31 = .ok (.goto 4, 3) := dk_167 0 4 (dk_at dksX2_rank_1 7 rfl rfl)
theorem dX2_rank_34 : decode cX2_rank 34 = .ok (.iconst 3, 1) := dk_6 (dk_at dksX2_rank_1 10 rfl rfl)
theorem dX2_rank_35 : decode cX2_rank 35 = .ok (.ireturn, 1) := dk_172 (dk_at dksX2_rank_1 11 rfl rfl)
theorem dX2_rank_36 : decode cX2_rank 36 = .ok (.iload_n 0, 1) := dk_26 (dk_at dksX2_rank_1 12 rfl rfl)
theorem dX2_rank_37 : decode cX2_rank 37 = .ok (.bipush 10, 2) := dk_16 10 (dk_at dksX2_rank_1 13 rfl rfl)
theorem dX2_rank_39 : decode cX2_rank 39 = .ok (.if_icmp .lt 5, 3) := dk_161 0 5 (dk_at dksX2_rank_1 15 rfl rfl)
theorem dX2_rank_42 : decode cX2_rank 42 = .ok (.iconst 4, 1) := dk_7 (dk_at dksX2_rank_1 18 rfl rfl)
theorem dX2_rank_43 : decode cX2_rank 43 = .ok (.ireturn, 1) := dk_172 (dk_at dksX2_rank_1 19 rfl rfl)
theorem dX2_rank_44 : decode cX2_rank 44 = .ok (.iload_n 0, 1) := dk_26 (dk_at dksX2_rank_1 20 rfl rfl)
theorem dX2_rank_45 : decode cX2_rank 45 = .ok (.bipush 9, 2) := dk_16 9 (dk_at dksX2_rank_1 21 rfl rfl)
theorem dX2_rank_47 : decode cX2_rank 47 = .ok (.if_icmp .ne 8, 3) := dk_160 0 8 (dk_at dksX2_rank_2 0 rfl rfl)
theorem dX2_rank_50 : decode cX2_rank 50 = .ok (.bipush 7, 2) := dk_16 7 (dk_at dksX2_rank_2 3 rfl rfl)
theorem dX2_rank_52 : decode cX2_rank 52 = .ok (.goto 25, 3) := dk_167 0 25 (dk_at dksX2_rank_2 5 rfl rfl)
theorem dX2_rank_55 : decode cX2_rank 55 = .ok (.iload_n 0, 1) := dk_26 (dk_at dksX2_rank_2 8 rfl rfl)
theorem dX2_rank_56 : decode cX2_rank 56 = .ok (.bipush 7, 2) := dk_16 7 (dk_at dksX2_rank_2 9 rfl rfl)
theorem dX2_rank_58 : decode cX2_rank 58 = .ok (.if_icmp .lt 8, 3) := dk_161 0 8 (dk_at dksX2_rank_2 11 rfl rfl)
theorem dX2_rank_61 : decode cX2_rank 61 = .ok (.bipush 6, 2) := dk_16 6 (dk_at dksX2_rank_2 14 rfl rfl)
theorem dX2_rank_63 : decode cX2_rank 63 = .ok (.goto 14, 3) := dk_167 0 14 (dk_at dksX2_rank_2 16 rfl rfl)
theorem dX2_rank_66 : decode cX2_rank 66 = .ok (.iload_n 0, 1) := dk_26 (dk_at dksX2_rank_2 19 rfl rfl)
theorem dX2_rank_67 : decode cX2_rank 67 = .ok (.iconst 5, 1) := dk_8 (dk_at dksX2_rank_2 20 rfl rfl)
theorem dX2_rank_68 : decode cX2_rank 68 = .ok (.if_icmp .lt 7, 3) := dk_161 0 7 (dk_at dksX2_rank_2 21 rfl rfl)
theorem dX2_rank_71 : decode cX2_rank 71 = .ok (.iconst 5, 1) := dk_8 (dk_at dksX2_rank_3 0 rfl rfl)
theorem dX2_rank_72 : decode cX2_rank 72 = .ok (.goto 5, 3) := dk_167 0 5 (dk_at dksX2_rank_3 1 rfl rfl)
theorem dX2_rank_75 : decode cX2_rank 75 = .ok (.bipush 8, 2) := dk_16 8 (dk_at dksX2_rank_3 4 rfl rfl)
theorem dX2_rank_77 : decode cX2_rank 77 = .ok (.ireturn, 1) := dk_172 (dk_at dksX2_rank_3 6 rfl rfl)
abbrev cX2_compareOf : ByteArray := prog_19_method_44_code
def yX2_compareOf : MethodName := ⟨RX2, "compareOf", "()I"⟩
def dkwX2_compareOf_3 : List UInt8 := [180, 0, 115, 16, 35, 160, 0, 8, 16, 15, 167, 0, 4, 2, 172]
abbrev dktX2_compareOf_3 : List UInt8 := dkwX2_compareOf_3 ++ []
def dkwX2_compareOf_2 : List UInt8 := [160, 0, 8, 16, 13, 167, 0, 32, 42, 180, 0, 115, 16, 61, 160, 0, 8, 16, 14, 167, 0, 18, 42]
abbrev dktX2_compareOf_2 : List UInt8 := dkwX2_compareOf_2 ++ dktX2_compareOf_3
def dkwX2_compareOf_1 : List UInt8 := [167, 0, 59, 42, 180, 0, 115, 16, 62, 160, 0, 8, 16, 12, 167, 0, 45, 42, 180, 0, 115, 8]
abbrev dktX2_compareOf_1 : List UInt8 := dkwX2_compareOf_1 ++ dktX2_compareOf_2
def dkwX2_compareOf_0 : List UInt8 := [42, 180, 0, 115, 16, 60, 160, 0, 8, 16, 10, 167, 0, 72, 42, 180, 0, 115, 7, 160, 0, 8, 16, 11]
abbrev dktX2_compareOf_0 : List UInt8 := dkwX2_compareOf_0 ++ dktX2_compareOf_1
theorem dksX2_compareOf_0 : cX2_compareOf.data.toList.drop 0 = dktX2_compareOf_0 := by decide +kernel
theorem dksX2_compareOf_1 : cX2_compareOf.data.toList.drop 24 = dktX2_compareOf_1 := dk_seg dksX2_compareOf_0 24 rfl rfl
theorem dksX2_compareOf_2 : cX2_compareOf.data.toList.drop 46 = dktX2_compareOf_2 := dk_seg dksX2_compareOf_1 22 rfl rfl
theorem dksX2_compareOf_3 : cX2_compareOf.data.toList.drop 69 = dktX2_compareOf_3 := dk_seg dksX2_compareOf_2 23 rfl rfl
theorem dX2_compareOf_0 : decode cX2_compareOf 0 = .ok (.aload_n 0, 1) := dk_42 (dk_at dksX2_compareOf_0 0 rfl rfl)
theorem dX2_compareOf_1 : decode cX2_compareOf 1 = .ok (.getfield 115, 3) := dk_180 0 115 (dk_at dksX2_compareOf_0 1 rfl rfl)
theorem dX2_compareOf_4 : decode cX2_compareOf 4 = .ok (.bipush 60, 2) := dk_16 60 (dk_at dksX2_compareOf_0 4 rfl rfl)
theorem dX2_compareOf_6 : decode cX2_compareOf 6 = .ok (.if_icmp .ne 8, 3) := dk_160 0 8 (dk_at dksX2_compareOf_0 6 rfl rfl)
theorem dX2_compareOf_9 : decode cX2_compareOf 9 = .ok (.bipush 10, 2) := dk_16 10 (dk_at dksX2_compareOf_0 9 rfl rfl)
theorem dX2_compareOf_11 : decode cX2_compareOf 11 = .ok (.goto 72, 3) := dk_167 0 72 (dk_at dksX2_compareOf_0 11 rfl rfl)
theorem dX2_compareOf_14 : decode cX2_compareOf 14 = .ok (.aload_n 0, 1) := dk_42 (dk_at dksX2_compareOf_0 14 rfl rfl)
theorem dX2_compareOf_15 : decode cX2_compareOf 15 = .ok (.getfield 115, 3) := dk_180 0 115 (dk_at dksX2_compareOf_0 15 rfl rfl)
theorem dX2_compareOf_18 : decode cX2_compareOf 18 = .ok (.iconst 4, 1) := dk_7 (dk_at dksX2_compareOf_0 18 rfl rfl)
theorem dX2_compareOf_19 : decode cX2_compareOf 19 = .ok (.if_icmp .ne 8, 3) := dk_160 0 8 (dk_at dksX2_compareOf_0 19 rfl rfl)
theorem dX2_compareOf_22 : decode cX2_compareOf 22 = .ok (.bipush 11, 2) := dk_16 11 (dk_at dksX2_compareOf_0 22 rfl rfl)
theorem dX2_compareOf_24 : decode cX2_compareOf 24 = .ok (.goto 59, 3) := dk_167 0 59 (dk_at dksX2_compareOf_1 0 rfl rfl)
theorem dX2_compareOf_27 : decode cX2_compareOf 27 = .ok (.aload_n 0, 1) := dk_42 (dk_at dksX2_compareOf_1 3 rfl rfl)
theorem dX2_compareOf_28 : decode cX2_compareOf 28 = .ok (.getfield 115, 3) := dk_180 0 115 (dk_at dksX2_compareOf_1 4 rfl rfl)
theorem dX2_compareOf_31 : decode cX2_compareOf 31 = .ok (.bipush 62, 2) := dk_16 62 (dk_at dksX2_compareOf_1 7 rfl rfl)
theorem dX2_compareOf_33 : decode cX2_compareOf 33 = .ok (.if_icmp .ne 8, 3) := dk_160 0 8 (dk_at dksX2_compareOf_1 9 rfl rfl)
theorem dX2_compareOf_36 : decode cX2_compareOf 36 = .ok (.bipush 12, 2) := dk_16 12 (dk_at dksX2_compareOf_1 12 rfl rfl)
theorem dX2_compareOf_38 : decode cX2_compareOf 38 = .ok (.goto 45, 3) := dk_167 0 45 (dk_at dksX2_compareOf_1 14 rfl rfl)
theorem dX2_compareOf_41 : decode cX2_compareOf 41 = .ok (.aload_n 0, 1) := dk_42 (dk_at dksX2_compareOf_1 17 rfl rfl)
theorem dX2_compareOf_42 : decode cX2_compareOf 42 = .ok (.getfield 115, 3) := dk_180 0 115 (dk_at dksX2_compareOf_1 18 rfl rfl)
theorem dX2_compareOf_45 : decode cX2_compareOf 45 = .ok (.iconst 5, 1) := dk_8 (dk_at dksX2_compareOf_1 21 rfl rfl)
theorem dX2_compareOf_46 : decode cX2_compareOf 46 = .ok (.if_icmp .ne 8, 3) := dk_160 0 8 (dk_at dksX2_compareOf_2 0 rfl rfl)
theorem dX2_compareOf_49 : decode cX2_compareOf 49 = .ok (.bipush 13, 2) := dk_16 13 (dk_at dksX2_compareOf_2 3 rfl rfl)
theorem dX2_compareOf_51 : decode cX2_compareOf 51 = .ok (.goto 32, 3) := dk_167 0 32 (dk_at dksX2_compareOf_2 5 rfl rfl)
theorem dX2_compareOf_54 : decode cX2_compareOf 54 = .ok (.aload_n 0, 1) := dk_42 (dk_at dksX2_compareOf_2 8 rfl rfl)
theorem dX2_compareOf_55 : decode cX2_compareOf 55 = .ok (.getfield 115, 3) := dk_180 0 115 (dk_at dksX2_compareOf_2 9 rfl rfl)
theorem dX2_compareOf_58 : decode cX2_compareOf 58 = .ok (.bipush 61, 2) := dk_16 61 (dk_at dksX2_compareOf_2 12 rfl rfl)
theorem dX2_compareOf_60 : decode cX2_compareOf 60 = .ok (.if_icmp .ne 8, 3) := dk_160 0 8 (dk_at dksX2_compareOf_2 14 rfl rfl)
theorem dX2_compareOf_63 : decode cX2_compareOf 63 = .ok (.bipush 14, 2) := dk_16 14 (dk_at dksX2_compareOf_2 17 rfl rfl)
theorem dX2_compareOf_65 : decode cX2_compareOf 65 = .ok (.goto 18, 3) := dk_167 0 18 (dk_at dksX2_compareOf_2 19 rfl rfl)
theorem dX2_compareOf_68 : decode cX2_compareOf 68 = .ok (.aload_n 0, 1) := dk_42 (dk_at dksX2_compareOf_2 22 rfl rfl)
theorem dX2_compareOf_69 : decode cX2_compareOf 69 = .ok (.getfield 115, 3) := dk_180 0 115 (dk_at dksX2_compareOf_3 0 rfl rfl)
theorem dX2_compareOf_72 : decode cX2_compareOf 72 = .ok (.bipush 35, 2) := dk_16 35 (dk_at dksX2_compareOf_3 3 rfl rfl)
theorem dX2_compareOf_74 : decode cX2_compareOf 74 = .ok (.if_icmp .ne 8, 3) := dk_160 0 8 (dk_at dksX2_compareOf_3 5 rfl rfl)
theorem dX2_compareOf_77 : decode cX2_compareOf 77 = .ok (.bipush 15, 2) := dk_16 15 (dk_at dksX2_compareOf_3 8 rfl rfl)
theorem dX2_compareOf_79 : decode cX2_compareOf 79 = .ok (.goto 4, 3) := dk_167 0 4 (dk_at dksX2_compareOf_3 10 rfl rfl)
theorem dX2_compareOf_82 : decode cX2_compareOf 82 = .ok (.iconst (-1), 1) := dk_2 (dk_at dksX2_compareOf_3 13 rfl rfl)
theorem dX2_compareOf_83 : decode cX2_compareOf 83 = .ok (.ireturn, 1) := dk_172 (dk_at dksX2_compareOf_3 14 rfl rfl)
abbrev cX2_settle : ByteArray := prog_19_method_36_code
def yX2_settle : MethodName := ⟨RX2, "settle", "(I)V"⟩
def dkwX2_settle_3 : List UInt8 := [42, 180, 0, 166, 46, 16, 20, 160, 255, 179, 42, 89, 180, 0, 176, 4, 100, 181, 0, 176, 167, 255, 166, 177]
abbrev dktX2_settle_3 : List UInt8 := dkwX2_settle_3 ++ []
def dkwX2_settle_2 : List UInt8 := [182, 0, 172, 42, 180, 0, 29, 42, 180, 0, 166, 46, 184, 0, 169, 16, 8, 159, 0, 17, 42, 180, 0, 29]
abbrev dktX2_settle_2 : List UInt8 := dkwX2_settle_2 ++ dktX2_settle_3
def dkwX2_settle_1 : List UInt8 := [161, 0, 71, 42, 89, 180, 0, 166, 4, 100, 181, 0, 166, 42, 42, 180, 0, 29, 42, 180, 0, 166, 46, 3]
abbrev dktX2_settle_1 : List UInt8 := dkwX2_settle_1 ++ dktX2_settle_2
def dkwX2_settle_0 : List UInt8 := [42, 180, 0, 166, 158, 0, 89, 42, 180, 0, 29, 42, 180, 0, 166, 4, 100, 46, 184, 0, 169, 27]
abbrev dktX2_settle_0 : List UInt8 := dkwX2_settle_0 ++ dktX2_settle_1
theorem dksX2_settle_0 : cX2_settle.data.toList.drop 0 = dktX2_settle_0 := by decide +kernel
theorem dksX2_settle_1 : cX2_settle.data.toList.drop 22 = dktX2_settle_1 := dk_seg dksX2_settle_0 22 rfl rfl
theorem dksX2_settle_2 : cX2_settle.data.toList.drop 46 = dktX2_settle_2 := dk_seg dksX2_settle_1 24 rfl rfl
theorem dksX2_settle_3 : cX2_settle.data.toList.drop 70 = dktX2_settle_3 := dk_seg dksX2_settle_2 24 rfl rfl
theorem dX2_settle_0 : decode cX2_settle 0 = .ok (.aload_n 0, 1) := dk_42 (dk_at dksX2_settle_0 0 rfl rfl)
theorem dX2_settle_1 : decode cX2_settle 1 = .ok (.getfield 166, 3) := dk_180 0 166 (dk_at dksX2_settle_0 1 rfl rfl)
theorem dX2_settle_4 : decode cX2_settle 4 = .ok (.ifCond .le 89, 3) := dk_158 0 89 (dk_at dksX2_settle_0 4 rfl rfl)
theorem dX2_settle_7 : decode cX2_settle 7 = .ok (.aload_n 0, 1) := dk_42 (dk_at dksX2_settle_0 7 rfl rfl)
theorem dX2_settle_8 : decode cX2_settle 8 = .ok (.getfield 29, 3) := dk_180 0 29 (dk_at dksX2_settle_0 8 rfl rfl)
theorem dX2_settle_11 : decode cX2_settle 11 = .ok (.aload_n 0, 1) := dk_42 (dk_at dksX2_settle_0 11 rfl rfl)
theorem dX2_settle_12 : decode cX2_settle 12 = .ok (.getfield 166, 3) := dk_180 0 166 (dk_at dksX2_settle_0 12 rfl rfl)
theorem dX2_settle_15 : decode cX2_settle 15 = .ok (.iconst 1, 1) := dk_4 (dk_at dksX2_settle_0 15 rfl rfl)
theorem dX2_settle_16 : decode cX2_settle 16 = .ok (.isub, 1) := dk_100 (dk_at dksX2_settle_0 16 rfl rfl)
theorem dX2_settle_17 : decode cX2_settle 17 = .ok (.iaload, 1) := dk_46 (dk_at dksX2_settle_0 17 rfl rfl)
theorem dX2_settle_18 : decode cX2_settle 18 = .ok (.invokestatic 169, 3) := dk_184 0 169 (dk_at dksX2_settle_0 18 rfl rfl)
theorem dX2_settle_21 : decode cX2_settle 21 = .ok (.iload_n 1, 1) := dk_27 (dk_at dksX2_settle_0 21 rfl rfl)
theorem dX2_settle_22 : decode cX2_settle 22 = .ok (.if_icmp .lt 71, 3) := dk_161 0 71 (dk_at dksX2_settle_1 0 rfl rfl)
theorem dX2_settle_25 : decode cX2_settle 25 = .ok (.aload_n 0, 1) := dk_42 (dk_at dksX2_settle_1 3 rfl rfl)
theorem dX2_settle_26 : decode cX2_settle 26 = .ok (.dup, 1) := dk_89 (dk_at dksX2_settle_1 4 rfl rfl)
theorem dX2_settle_27 : decode cX2_settle 27 = .ok (.getfield 166, 3) := dk_180 0 166 (dk_at dksX2_settle_1 5 rfl rfl)
theorem dX2_settle_30 : decode cX2_settle 30 = .ok (.iconst 1, 1) := dk_4 (dk_at dksX2_settle_1 8 rfl rfl)
theorem dX2_settle_31 : decode cX2_settle 31 = .ok (.isub, 1) := dk_100 (dk_at dksX2_settle_1 9 rfl rfl)
theorem dX2_settle_32 : decode cX2_settle 32 = .ok (.putfield 166, 3) := dk_181 0 166 (dk_at dksX2_settle_1 10 rfl rfl)
theorem dX2_settle_35 : decode cX2_settle 35 = .ok (.aload_n 0, 1) := dk_42 (dk_at dksX2_settle_1 13 rfl rfl)
theorem dX2_settle_36 : decode cX2_settle 36 = .ok (.aload_n 0, 1) := dk_42 (dk_at dksX2_settle_1 14 rfl rfl)
theorem dX2_settle_37 : decode cX2_settle 37 = .ok (.getfield 29, 3) := dk_180 0 29 (dk_at dksX2_settle_1 15 rfl rfl)
theorem dX2_settle_40 : decode cX2_settle 40 = .ok (.aload_n 0, 1) := dk_42 (dk_at dksX2_settle_1 18 rfl rfl)
theorem dX2_settle_41 : decode cX2_settle 41 = .ok (.getfield 166, 3) := dk_180 0 166 (dk_at dksX2_settle_1 19 rfl rfl)
theorem dX2_settle_44 : decode cX2_settle 44 = .ok (.iaload, 1) := dk_46 (dk_at dksX2_settle_1 22 rfl rfl)
theorem dX2_settle_45 : decode cX2_settle 45 = .ok (.iconst 0, 1) := dk_3 (dk_at dksX2_settle_1 23 rfl rfl)
theorem dX2_settle_46 : decode cX2_settle 46 = .ok (.invokevirtual 172, 3) := dk_182 0 172 (dk_at dksX2_settle_2 0 rfl rfl)
theorem dX2_settle_49 : decode cX2_settle 49 = .ok (.aload_n 0, 1) := dk_42 (dk_at dksX2_settle_2 3 rfl rfl)
theorem dX2_settle_50 : decode cX2_settle 50 = .ok (.getfield 29, 3) := dk_180 0 29 (dk_at dksX2_settle_2 4 rfl rfl)
theorem dX2_settle_53 : decode cX2_settle 53 = .ok (.aload_n 0, 1) := dk_42 (dk_at dksX2_settle_2 7 rfl rfl)
theorem dX2_settle_54 : decode cX2_settle 54 = .ok (.getfield 166, 3) := dk_180 0 166 (dk_at dksX2_settle_2 8 rfl rfl)
theorem dX2_settle_57 : decode cX2_settle 57 = .ok (.iaload, 1) := dk_46 (dk_at dksX2_settle_2 11 rfl rfl)
theorem dX2_settle_58 : decode cX2_settle 58 = .ok (.invokestatic 169, 3) := dk_184 0 169 (dk_at dksX2_settle_2 12 rfl rfl)
theorem dX2_settle_61 : decode cX2_settle 61 = .ok (.bipush 8, 2) := dk_16 8 (dk_at dksX2_settle_2 15 rfl rfl)
theorem dX2_settle_63 : decode cX2_settle 63 = .ok (.if_icmp .eq 17, 3) := dk_159 0 17 (dk_at dksX2_settle_2 17 rfl rfl)
theorem dX2_settle_66 : decode cX2_settle 66 = .ok (.aload_n 0, 1) := dk_42 (dk_at dksX2_settle_2 20 rfl rfl)
theorem dX2_settle_67 : decode cX2_settle 67 = .ok (.getfield 29, 3) := dk_180 0 29 (dk_at dksX2_settle_2 21 rfl rfl)
theorem dX2_settle_70 : decode cX2_settle 70 = .ok (.aload_n 0, 1) := dk_42 (dk_at dksX2_settle_3 0 rfl rfl)
theorem dX2_settle_71 : decode cX2_settle 71 = .ok (.getfield 166, 3) := dk_180 0 166 (dk_at dksX2_settle_3 1 rfl rfl)
theorem dX2_settle_74 : decode cX2_settle 74 = .ok (.iaload, 1) := dk_46 (dk_at dksX2_settle_3 4 rfl rfl)
theorem dX2_settle_75 : decode cX2_settle 75 = .ok (.bipush 20, 2) := dk_16 20 (dk_at dksX2_settle_3 5 rfl rfl)
theorem dX2_settle_77 : decode cX2_settle 77 = .ok (.if_icmp .ne (-77), 3) := dk_160 255 179 (dk_at dksX2_settle_3 7 rfl rfl)
theorem dX2_settle_80 : decode cX2_settle 80 = .ok (.aload_n 0, 1) := dk_42 (dk_at dksX2_settle_3 10 rfl rfl)
theorem dX2_settle_81 : decode cX2_settle 81 = .ok (.dup, 1) := dk_89 (dk_at dksX2_settle_3 11 rfl rfl)
theorem dX2_settle_82 : decode cX2_settle 82 = .ok (.getfield 176, 3) := dk_180 0 176 (dk_at dksX2_settle_3 12 rfl rfl)
theorem dX2_settle_85 : decode cX2_settle 85 = .ok (.iconst 1, 1) := dk_4 (dk_at dksX2_settle_3 15 rfl rfl)
theorem dX2_settle_86 : decode cX2_settle 86 = .ok (.isub, 1) := dk_100 (dk_at dksX2_settle_3 16 rfl rfl)
theorem dX2_settle_87 : decode cX2_settle 87 = .ok (.putfield 176, 3) := dk_181 0 176 (dk_at dksX2_settle_3 17 rfl rfl)
theorem dX2_settle_90 : decode cX2_settle 90 = .ok (.goto (-90), 3) := dk_167 255 166 (dk_at dksX2_settle_3 20 rfl rfl)
theorem dX2_settle_93 : decode cX2_settle 93 = .ok (.return_, 1) := dk_177 (dk_at dksX2_settle_3 23 rfl rfl)
abbrev cX2_emit : ByteArray := prog_19_method_31_code
def yX2_emit : MethodName := ⟨RX2, "emit", "(II)V"⟩
def dkwX2_emit_2 : List UInt8 := [96, 181, 0, 156, 177]
abbrev dktX2_emit_2 : List UInt8 := dkwX2_emit_2 ++ []
def dkwX2_emit_1 : List UInt8 := [42, 180, 0, 153, 16, 73, 96, 5, 42, 180, 0, 156, 104, 96, 4, 96, 28, 79, 42, 89, 180, 0, 156, 4]
abbrev dktX2_emit_1 : List UInt8 := dkwX2_emit_1 ++ dktX2_emit_2
def dkwX2_emit_0 : List UInt8 := [42, 180, 0, 16, 42, 180, 0, 153, 16, 73, 96, 5, 42, 180, 0, 156, 104, 96, 27, 79, 42, 180, 0, 16]
abbrev dktX2_emit_0 : List UInt8 := dkwX2_emit_0 ++ dktX2_emit_1
theorem dksX2_emit_0 : cX2_emit.data.toList.drop 0 = dktX2_emit_0 := by decide +kernel
theorem dksX2_emit_1 : cX2_emit.data.toList.drop 24 = dktX2_emit_1 := dk_seg dksX2_emit_0 24 rfl rfl
theorem dksX2_emit_2 : cX2_emit.data.toList.drop 48 = dktX2_emit_2 := dk_seg dksX2_emit_1 24 rfl rfl
theorem dX2_emit_0 : decode cX2_emit 0 = .ok (.aload_n 0, 1) := dk_42 (dk_at dksX2_emit_0 0 rfl rfl)
theorem dX2_emit_1 : decode cX2_emit 1 = .ok (.getfield 16, 3) := dk_180 0 16 (dk_at dksX2_emit_0 1 rfl rfl)
theorem dX2_emit_4 : decode cX2_emit 4 = .ok (.aload_n 0, 1) := dk_42 (dk_at dksX2_emit_0 4 rfl rfl)
theorem dX2_emit_5 : decode cX2_emit 5 = .ok (.getfield 153, 3) := dk_180 0 153 (dk_at dksX2_emit_0 5 rfl rfl)
theorem dX2_emit_8 : decode cX2_emit 8 = .ok (.bipush 73, 2) := dk_16 73 (dk_at dksX2_emit_0 8 rfl rfl)
theorem dX2_emit_10 : decode cX2_emit 10 = .ok (.iadd, 1) := dk_96 (dk_at dksX2_emit_0 10 rfl rfl)
theorem dX2_emit_11 : decode cX2_emit 11 = .ok (.iconst 2, 1) := dk_5 (dk_at dksX2_emit_0 11 rfl rfl)
theorem dX2_emit_12 : decode cX2_emit 12 = .ok (.aload_n 0, 1) := dk_42 (dk_at dksX2_emit_0 12 rfl rfl)
theorem dX2_emit_13 : decode cX2_emit 13 = .ok (.getfield 156, 3) := dk_180 0 156 (dk_at dksX2_emit_0 13 rfl rfl)
theorem dX2_emit_16 : decode cX2_emit 16 = .ok (.imul, 1) := dk_104 (dk_at dksX2_emit_0 16 rfl rfl)
theorem dX2_emit_17 : decode cX2_emit 17 = .ok (.iadd, 1) := dk_96 (dk_at dksX2_emit_0 17 rfl rfl)
theorem dX2_emit_18 : decode cX2_emit 18 = .ok (.iload_n 1, 1) := dk_27 (dk_at dksX2_emit_0 18 rfl rfl)
theorem dX2_emit_19 : decode cX2_emit 19 = .ok (.iastore, 1) := dk_79 (dk_at dksX2_emit_0 19 rfl rfl)
theorem dX2_emit_20 : decode cX2_emit 20 = .ok (.aload_n 0, 1) := dk_42 (dk_at dksX2_emit_0 20 rfl rfl)
theorem dX2_emit_21 : decode cX2_emit 21 = .ok (.getfield 16, 3) := dk_180 0 16 (dk_at dksX2_emit_0 21 rfl rfl)
theorem dX2_emit_24 : decode cX2_emit 24 = .ok (.aload_n 0, 1) := dk_42 (dk_at dksX2_emit_1 0 rfl rfl)
theorem dX2_emit_25 : decode cX2_emit 25 = .ok (.getfield 153, 3) := dk_180 0 153 (dk_at dksX2_emit_1 1 rfl rfl)
theorem dX2_emit_28 : decode cX2_emit 28 = .ok (.bipush 73, 2) := dk_16 73 (dk_at dksX2_emit_1 4 rfl rfl)
theorem dX2_emit_30 : decode cX2_emit 30 = .ok (.iadd, 1) := dk_96 (dk_at dksX2_emit_1 6 rfl rfl)
theorem dX2_emit_31 : decode cX2_emit 31 = .ok (.iconst 2, 1) := dk_5 (dk_at dksX2_emit_1 7 rfl rfl)
theorem dX2_emit_32 : decode cX2_emit 32 = .ok (.aload_n 0, 1) := dk_42 (dk_at dksX2_emit_1 8 rfl rfl)
theorem dX2_emit_33 : decode cX2_emit 33 = .ok (.getfield 156, 3) := dk_180 0 156 (dk_at dksX2_emit_1 9 rfl rfl)
theorem dX2_emit_36 : decode cX2_emit 36 = .ok (.imul, 1) := dk_104 (dk_at dksX2_emit_1 12 rfl rfl)
theorem dX2_emit_37 : decode cX2_emit 37 = .ok (.iadd, 1) := dk_96 (dk_at dksX2_emit_1 13 rfl rfl)
theorem dX2_emit_38 : decode cX2_emit 38 = .ok (.iconst 1, 1) := dk_4 (dk_at dksX2_emit_1 14 rfl rfl)
theorem dX2_emit_39 : decode cX2_emit 39 = .ok (.iadd, 1) := dk_96 (dk_at dksX2_emit_1 15 rfl rfl)
theorem dX2_emit_40 : decode cX2_emit 40 = .ok (.iload_n 2, 1) := dk_28 (dk_at dksX2_emit_1 16 rfl rfl)
theorem dX2_emit_41 : decode cX2_emit 41 = .ok (.iastore, 1) := dk_79 (dk_at dksX2_emit_1 17 rfl rfl)
theorem dX2_emit_42 : decode cX2_emit 42 = .ok (.aload_n 0, 1) := dk_42 (dk_at dksX2_emit_1 18 rfl rfl)
theorem dX2_emit_43 : decode cX2_emit 43 = .ok (.dup, 1) := dk_89 (dk_at dksX2_emit_1 19 rfl rfl)
theorem dX2_emit_44 : decode cX2_emit 44 = .ok (.getfield 156, 3) := dk_180 0 156 (dk_at dksX2_emit_1 20 rfl rfl)
theorem dX2_emit_47 : decode cX2_emit 47 = .ok (.iconst 1, 1) := dk_4 (dk_at dksX2_emit_1 23 rfl rfl)
theorem dX2_emit_48 : decode cX2_emit 48 = .ok (.iadd, 1) := dk_96 (dk_at dksX2_emit_2 0 rfl rfl)
theorem dX2_emit_49 : decode cX2_emit 49 = .ok (.putfield 156, 3) := dk_181 0 156 (dk_at dksX2_emit_2 1 rfl rfl)
theorem dX2_emit_52 : decode cX2_emit 52 = .ok (.return_, 1) := dk_177 (dk_at dksX2_emit_2 4 rfl rfl)
abbrev cX2_partOf : ByteArray := prog_19_method_46_code
def yX2_partOf : MethodName := ⟨RX2, "partOf", "(I)I"⟩
def dkwX2_partOf_5 : List UInt8 := [42, 16, 101, 16, 110, 16, 100, 184, 0, 141, 182, 0, 201, 153, 0, 7, 3, 167, 0, 4, 2, 172, 2, 172]
abbrev dktX2_partOf_5 : List UInt8 := dkwX2_partOf_5 ++ []
def dkwX2_partOf_4 : List UInt8 := [16, 101, 16, 108, 16, 115, 16, 101, 184, 0, 145, 182, 0, 201, 153, 0, 8, 16, 44, 167, 0, 4, 2, 172]
abbrev dktX2_partOf_4 : List UInt8 := dkwX2_partOf_4 ++ dktX2_partOf_5
def dkwX2_partOf_3 : List UInt8 := [184, 0, 145, 182, 0, 201, 153, 0, 15, 42, 182, 0, 214, 153, 0, 8, 16, 43, 167, 0, 4, 2, 172, 42]
abbrev dktX2_partOf_3 : List UInt8 := dkwX2_partOf_3 ++ dktX2_partOf_4
def dkwX2_partOf_2 : List UInt8 := [42, 180, 0, 115, 16, 41, 160, 0, 7, 3, 167, 0, 4, 2, 172, 42, 16, 116, 16, 104, 16, 101, 16, 110]
abbrev dktX2_partOf_2 : List UInt8 := dkwX2_partOf_2 ++ dktX2_partOf_3
def dkwX2_partOf_1 : List UInt8 := [170, 0, 0, 0, 0, 0, 129, 0, 0, 0, 40, 0, 0, 0, 44, 0, 0, 0, 35, 0, 0, 0, 129, 0, 0, 0, 50, 0, 0, 0, 82, 0, 0, 0, 107]
abbrev dktX2_partOf_1 : List UInt8 := dkwX2_partOf_1 ++ dktX2_partOf_2
def dkwX2_partOf_0 : List UInt8 := [27]
abbrev dktX2_partOf_0 : List UInt8 := dkwX2_partOf_0 ++ dktX2_partOf_1
theorem dksX2_partOf_0 : cX2_partOf.data.toList.drop 0 = dktX2_partOf_0 := by decide +kernel
theorem dksX2_partOf_1 : cX2_partOf.data.toList.drop 1 = dktX2_partOf_1 := dk_seg dksX2_partOf_0 1 rfl rfl
theorem dksX2_partOf_2 : cX2_partOf.data.toList.drop 36 = dktX2_partOf_2 := dk_seg dksX2_partOf_1 35 rfl rfl
theorem dksX2_partOf_3 : cX2_partOf.data.toList.drop 60 = dktX2_partOf_3 := dk_seg dksX2_partOf_2 24 rfl rfl
theorem dksX2_partOf_4 : cX2_partOf.data.toList.drop 84 = dktX2_partOf_4 := dk_seg dksX2_partOf_3 24 rfl rfl
theorem dksX2_partOf_5 : cX2_partOf.data.toList.drop 108 = dktX2_partOf_5 := dk_seg dksX2_partOf_4 24 rfl rfl
theorem dX2_partOf_0 : decode cX2_partOf 0 = .ok (.iload_n 1, 1) := dk_27 (dk_at dksX2_partOf_0 0 rfl rfl)
theorem dX2_partOf_1 : decode cX2_partOf 1 = .ok (.tableswitch 129 40 44 #[35, 129, 50, 82, 107], 35) := by decide +kernel
theorem dX2_partOf_36 : decode cX2_partOf 36 = .ok (.aload_n 0, 1) := dk_42 (dk_at dksX2_partOf_2 0 rfl rfl)
theorem dX2_partOf_37 : decode cX2_partOf 37 = .ok (.getfield 115, 3) := dk_180 0 115 (dk_at dksX2_partOf_2 1 rfl rfl)
theorem dX2_partOf_40 : decode cX2_partOf 40 = .ok (.bipush 41, 2) := dk_16 41 (dk_at dksX2_partOf_2 4 rfl rfl)
theorem dX2_partOf_42 : decode cX2_partOf 42 = .ok (.if_icmp .ne 7, 3) := dk_160 0 7 (dk_at dksX2_partOf_2 6 rfl rfl)
theorem dX2_partOf_45 : decode cX2_partOf 45 = .ok (.iconst 0, 1) := dk_3 (dk_at dksX2_partOf_2 9 rfl rfl)
theorem dX2_partOf_46 : decode cX2_partOf 46 = .ok (.goto 4, 3) := dk_167 0 4 (dk_at dksX2_partOf_2 10 rfl rfl)
theorem dX2_partOf_49 : decode cX2_partOf 49 = .ok (.iconst (-1), 1) := dk_2 (dk_at dksX2_partOf_2 13 rfl rfl)
theorem dX2_partOf_50 : decode cX2_partOf 50 = .ok (.ireturn, 1) := dk_172 (dk_at dksX2_partOf_2 14 rfl rfl)
theorem dX2_partOf_51 : decode cX2_partOf 51 = .ok (.aload_n 0, 1) := dk_42 (dk_at dksX2_partOf_2 15 rfl rfl)
theorem dX2_partOf_52 : decode cX2_partOf 52 = .ok (.bipush 116, 2) := dk_16 116 (dk_at dksX2_partOf_2 16 rfl rfl)
theorem dX2_partOf_54 : decode cX2_partOf 54 = .ok (.bipush 104, 2) := dk_16 104 (dk_at dksX2_partOf_2 18 rfl rfl)
theorem dX2_partOf_56 : decode cX2_partOf 56 = .ok (.bipush 101, 2) := dk_16 101 (dk_at dksX2_partOf_2 20 rfl rfl)
theorem dX2_partOf_58 : decode cX2_partOf 58 = .ok (.bipush 110, 2) := dk_16 110 (dk_at dksX2_partOf_2 22 rfl rfl)
theorem dX2_partOf_60 : decode cX2_partOf 60 = .ok (.invokestatic 145, 3) := dk_184 0 145 (dk_at dksX2_partOf_3 0 rfl rfl)
theorem dX2_partOf_63 : decode cX2_partOf 63 = .ok (.invokevirtual 201, 3) := dk_182 0 201 (dk_at dksX2_partOf_3 3 rfl rfl)
theorem dX2_partOf_66 : decode cX2_partOf 66 = .ok (.ifCond .eq 15, 3) := dk_153 0 15 (dk_at dksX2_partOf_3 6 rfl rfl)
theorem dX2_partOf_69 : decode cX2_partOf 69 = .ok (.aload_n 0, 1) := dk_42 (dk_at dksX2_partOf_3 9 rfl rfl)
theorem dX2_partOf_70 : decode cX2_partOf 70 = .ok (.invokevirtual 214, 3) := dk_182 0 214 (dk_at dksX2_partOf_3 10 rfl rfl)
theorem dX2_partOf_73 : decode cX2_partOf 73 = .ok (.ifCond .eq 8, 3) := dk_153 0 8 (dk_at dksX2_partOf_3 13 rfl rfl)
theorem dX2_partOf_76 : decode cX2_partOf 76 = .ok (.bipush 43, 2) := dk_16 43 (dk_at dksX2_partOf_3 16 rfl rfl)
theorem dX2_partOf_78 : decode cX2_partOf 78 = .ok (.goto 4, 3) := dk_167 0 4 (dk_at dksX2_partOf_3 18 rfl rfl)
theorem dX2_partOf_81 : decode cX2_partOf 81 = .ok (.iconst (-1), 1) := dk_2 (dk_at dksX2_partOf_3 21 rfl rfl)
theorem dX2_partOf_82 : decode cX2_partOf 82 = .ok (.ireturn, 1) := dk_172 (dk_at dksX2_partOf_3 22 rfl rfl)
theorem dX2_partOf_83 : decode cX2_partOf 83 = .ok (.aload_n 0, 1) := dk_42 (dk_at dksX2_partOf_3 23 rfl rfl)
theorem dX2_partOf_84 : decode cX2_partOf 84 = .ok (.bipush 101, 2) := dk_16 101 (dk_at dksX2_partOf_4 0 rfl rfl)
theorem dX2_partOf_86 : decode cX2_partOf 86 = .ok (.bipush 108, 2) := dk_16 108 (dk_at dksX2_partOf_4 2 rfl rfl)
theorem dX2_partOf_88 : decode cX2_partOf 88 = .ok (.bipush 115, 2) := dk_16 115 (dk_at dksX2_partOf_4 4 rfl rfl)
theorem dX2_partOf_90 : decode cX2_partOf 90 = .ok (.bipush 101, 2) := dk_16 101 (dk_at dksX2_partOf_4 6 rfl rfl)
theorem dX2_partOf_92 : decode cX2_partOf 92 = .ok (.invokestatic 145, 3) := dk_184 0 145 (dk_at dksX2_partOf_4 8 rfl rfl)
theorem dX2_partOf_95 : decode cX2_partOf 95 = .ok (.invokevirtual 201, 3) := dk_182 0 201 (dk_at dksX2_partOf_4 11 rfl rfl)
theorem dX2_partOf_98 : decode cX2_partOf 98 = .ok (.ifCond .eq 8, 3) := dk_153 0 8 (dk_at dksX2_partOf_4 14 rfl rfl)
theorem dX2_partOf_101 : decode cX2_partOf 101 = .ok (.bipush 44, 2) := dk_16 44 (dk_at dksX2_partOf_4 17 rfl rfl)
theorem dX2_partOf_103 : decode cX2_partOf 103 = .ok (.goto 4, 3) := dk_167 0 4 (dk_at dksX2_partOf_4 19 rfl rfl)
theorem dX2_partOf_106 : decode cX2_partOf 106 = .ok (.iconst (-1), 1) := dk_2 (dk_at dksX2_partOf_4 22 rfl rfl)
theorem dX2_partOf_107 : decode cX2_partOf 107 = .ok (.ireturn, 1) := dk_172 (dk_at dksX2_partOf_4 23 rfl rfl)
theorem dX2_partOf_108 : decode cX2_partOf 108 = .ok (.aload_n 0, 1) := dk_42 (dk_at dksX2_partOf_5 0 rfl rfl)
theorem dX2_partOf_109 : decode cX2_partOf 109 = .ok (.bipush 101, 2) := dk_16 101 (dk_at dksX2_partOf_5 1 rfl rfl)
theorem dX2_partOf_111 : decode cX2_partOf 111 = .ok (.bipush 110, 2) := dk_16 110 (dk_at dksX2_partOf_5 3 rfl rfl)
theorem dX2_partOf_113 : decode cX2_partOf 113 = .ok (.bipush 100, 2) := dk_16 100 (dk_at dksX2_partOf_5 5 rfl rfl)
theorem dX2_partOf_115 : decode cX2_partOf 115 = .ok (.invokestatic 141, 3) := dk_184 0 141 (dk_at dksX2_partOf_5 7 rfl rfl)
theorem dX2_partOf_118 : decode cX2_partOf 118 = .ok (.invokevirtual 201, 3) := dk_182 0 201 (dk_at dksX2_partOf_5 10 rfl rfl)
theorem dX2_partOf_121 : decode cX2_partOf 121 = .ok (.ifCond .eq 7, 3) := dk_153 0 7 (dk_at dksX2_partOf_5 13 rfl rfl)
theorem dX2_partOf_124 : decode cX2_partOf 124 = .ok (.iconst 0, 1) := dk_3 (dk_at dksX2_partOf_5 16 rfl rfl)
theorem dX2_partOf_125 : decode cX2_partOf 125 = .ok (.goto 4, 3) := dk_167 0 4 (dk_at dksX2_partOf_5 17 rfl rfl)
theorem dX2_partOf_128 : decode cX2_partOf 128 = .ok (.iconst (-1), 1) := dk_2 (dk_at dksX2_partOf_5 20 rfl rfl)
theorem dX2_partOf_129 : decode cX2_partOf 129 = .ok (.ireturn, 1) := dk_172 (dk_at dksX2_partOf_5 21 rfl rfl)
theorem dX2_partOf_130 : decode cX2_partOf 130 = .ok (.iconst (-1), 1) := dk_2 (dk_at dksX2_partOf_5 22 rfl rfl)
theorem dX2_partOf_131 : decode cX2_partOf 131 = .ok (.ireturn, 1) := dk_172 (dk_at dksX2_partOf_5 23 rfl rfl)
abbrev cX2_endOne : ByteArray := prog_19_method_43_code
def yX2_endOne : MethodName := ⟨RX2, "endOne", "()I"⟩
def dkwX2_endOne_3 : List UInt8 := [181, 0, 211, 3, 172]
abbrev dktX2_endOne_3 : List UInt8 := dkwX2_endOne_3 ++ []
def dkwX2_endOne_2 : List UInt8 := [154, 0, 5, 4, 172, 42, 182, 0, 186, 42, 180, 0, 29, 42, 180, 0, 166, 4, 100, 7, 79, 42, 3]
abbrev dktX2_endOne_2 : List UInt8 := dkwX2_endOne_2 ++ dktX2_endOne_3
def dkwX2_endOne_1 : List UInt8 := [180, 0, 166, 4, 100, 46, 16, 41, 159, 0, 5, 3, 172, 42, 16, 98, 16, 121, 184, 0, 137, 182, 0, 201]
abbrev dktX2_endOne_1 : List UInt8 := dkwX2_endOne_1 ++ dktX2_endOne_2
def dkwX2_endOne_0 : List UInt8 := [42, 16, 8, 182, 0, 208, 42, 4, 181, 0, 211, 42, 180, 0, 166, 153, 0, 19, 42, 180, 0, 29, 42]
abbrev dktX2_endOne_0 : List UInt8 := dkwX2_endOne_0 ++ dktX2_endOne_1
theorem dksX2_endOne_0 : cX2_endOne.data.toList.drop 0 = dktX2_endOne_0 := by decide +kernel
theorem dksX2_endOne_1 : cX2_endOne.data.toList.drop 23 = dktX2_endOne_1 := dk_seg dksX2_endOne_0 23 rfl rfl
theorem dksX2_endOne_2 : cX2_endOne.data.toList.drop 47 = dktX2_endOne_2 := dk_seg dksX2_endOne_1 24 rfl rfl
theorem dksX2_endOne_3 : cX2_endOne.data.toList.drop 70 = dktX2_endOne_3 := dk_seg dksX2_endOne_2 23 rfl rfl
theorem dX2_endOne_0 : decode cX2_endOne 0 = .ok (.aload_n 0, 1) := dk_42 (dk_at dksX2_endOne_0 0 rfl rfl)
theorem dX2_endOne_1 : decode cX2_endOne 1 = .ok (.bipush 8, 2) := dk_16 8 (dk_at dksX2_endOne_0 1 rfl rfl)
theorem dX2_endOne_3 : decode cX2_endOne 3 = .ok (.invokevirtual 208, 3) := dk_182 0 208 (dk_at dksX2_endOne_0 3 rfl rfl)
theorem dX2_endOne_6 : decode cX2_endOne 6 = .ok (.aload_n 0, 1) := dk_42 (dk_at dksX2_endOne_0 6 rfl rfl)
theorem dX2_endOne_7 : decode cX2_endOne 7 = .ok (.iconst 1, 1) := dk_4 (dk_at dksX2_endOne_0 7 rfl rfl)
theorem dX2_endOne_8 : decode cX2_endOne 8 = .ok (.putfield 211, 3) := dk_181 0 211 (dk_at dksX2_endOne_0 8 rfl rfl)
theorem dX2_endOne_11 : decode cX2_endOne 11 = .ok (.aload_n 0, 1) := dk_42 (dk_at dksX2_endOne_0 11 rfl rfl)
theorem dX2_endOne_12 : decode cX2_endOne 12 = .ok (.getfield 166, 3) := dk_180 0 166 (dk_at dksX2_endOne_0 12 rfl rfl)
theorem dX2_endOne_15 : decode cX2_endOne 15 = .ok (.ifCond .eq 19, 3) := dk_153 0 19 (dk_at dksX2_endOne_0 15 rfl rfl)
theorem dX2_endOne_18 : decode cX2_endOne 18 = .ok (.aload_n 0, 1) := dk_42 (dk_at dksX2_endOne_0 18 rfl rfl)
theorem dX2_endOne_19 : decode cX2_endOne 19 = .ok (.getfield 29, 3) := dk_180 0 29 (dk_at dksX2_endOne_0 19 rfl rfl)
theorem dX2_endOne_22 : decode cX2_endOne 22 = .ok (.aload_n 0, 1) := dk_42 (dk_at dksX2_endOne_0 22 rfl rfl)
theorem dX2_endOne_23 : decode cX2_endOne 23 = .ok (.getfield 166, 3) := dk_180 0 166 (dk_at dksX2_endOne_1 0 rfl rfl)
theorem dX2_endOne_26 : decode cX2_endOne 26 = .ok (.iconst 1, 1) := dk_4 (dk_at dksX2_endOne_1 3 rfl rfl)
theorem dX2_endOne_27 : decode cX2_endOne 27 = .ok (.isub, 1) := dk_100 (dk_at dksX2_endOne_1 4 rfl rfl)
theorem dX2_endOne_28 : decode cX2_endOne 28 = .ok (.iaload, 1) := dk_46 (dk_at dksX2_endOne_1 5 rfl rfl)
theorem dX2_endOne_29 : decode cX2_endOne 29 = .ok (.bipush 41, 2) := dk_16 41 (dk_at dksX2_endOne_1 6 rfl rfl)
theorem dX2_endOne_31 : decode cX2_endOne 31 = .ok (.if_icmp .eq 5, 3) := dk_159 0 5 (dk_at dksX2_endOne_1 8 rfl rfl)
theorem dX2_endOne_34 : decode cX2_endOne 34 = .ok (.iconst 0, 1) := dk_3 (dk_at dksX2_endOne_1 11 rfl rfl)
theorem dX2_endOne_35 : decode cX2_endOne 35 = .ok (.ireturn, 1) := dk_172 (dk_at dksX2_endOne_1 12 rfl rfl)
theorem dX2_endOne_36 : decode cX2_endOne 36 = .ok (.aload_n 0, 1) := dk_42 (dk_at dksX2_endOne_1 13 rfl rfl)
theorem dX2_endOne_37 : decode cX2_endOne 37 = .ok (.bipush 98, 2) := dk_16 98 (dk_at dksX2_endOne_1 14 rfl rfl)
theorem dX2_endOne_39 : decode cX2_endOne 39 = .ok (.bipush 121, 2) := dk_16 121 (dk_at dksX2_endOne_1 16 rfl rfl)
theorem dX2_endOne_41 : decode cX2_endOne 41 = .ok (.invokestatic 137, 3) := dk_184 0 137 (dk_at dksX2_endOne_1 18 rfl rfl)
theorem dX2_endOne_44 : decode cX2_endOne 44 = .ok (.invokevirtual 201, 3) := dk_182 0 201 (dk_at dksX2_endOne_1 21 rfl rfl)
theorem dX2_endOne_47 : decode cX2_endOne 47 = .ok (.ifCond .ne 5, 3) := dk_154 0 5 (dk_at dksX2_endOne_2 0 rfl rfl)
theorem dX2_endOne_50 : decode cX2_endOne 50 = .ok (.iconst 1, 1) := dk_4 (dk_at dksX2_endOne_2 3 rfl rfl)
theorem dX2_endOne_51 : decode cX2_endOne 51 = .ok (.ireturn, 1) := dk_172 (dk_at dksX2_endOne_2 4 rfl rfl)
theorem dX2_endOne_52 : decode cX2_endOne 52 = .ok (.aload_n 0, 1) := dk_42 (dk_at dksX2_endOne_2 5 rfl rfl)
theorem dX2_endOne_53 : decode cX2_endOne 53 = .ok (.invokevirtual 186, 3) := dk_182 0 186 (dk_at dksX2_endOne_2 6 rfl rfl)
theorem dX2_endOne_56 : decode cX2_endOne 56 = .ok (.aload_n 0, 1) := dk_42 (dk_at dksX2_endOne_2 9 rfl rfl)
theorem dX2_endOne_57 : decode cX2_endOne 57 = .ok (.getfield 29, 3) := dk_180 0 29 (dk_at dksX2_endOne_2 10 rfl rfl)
theorem dX2_endOne_60 : decode cX2_endOne 60 = .ok (.aload_n 0, 1) := dk_42 (dk_at dksX2_endOne_2 13 rfl rfl)
theorem dX2_endOne_61 : decode cX2_endOne 61 = .ok (.getfield 166, 3) := dk_180 0 166 (dk_at dksX2_endOne_2 14 rfl rfl)
theorem dX2_endOne_64 : decode cX2_endOne 64 = .ok (.iconst 1, 1) := dk_4 (dk_at dksX2_endOne_2 17 rfl rfl)
theorem dX2_endOne_65 : decode cX2_endOne 65 = .ok (.isub, 1) := dk_100 (dk_at dksX2_endOne_2 18 rfl rfl)
theorem dX2_endOne_66 : decode cX2_endOne 66 = .ok (.iconst 4, 1) := dk_7 (dk_at dksX2_endOne_2 19 rfl rfl)
theorem dX2_endOne_67 : decode cX2_endOne 67 = .ok (.iastore, 1) := dk_79 (dk_at dksX2_endOne_2 20 rfl rfl)
theorem dX2_endOne_68 : decode cX2_endOne 68 = .ok (.aload_n 0, 1) := dk_42 (dk_at dksX2_endOne_2 21 rfl rfl)
theorem dX2_endOne_69 : decode cX2_endOne 69 = .ok (.iconst 0, 1) := dk_3 (dk_at dksX2_endOne_2 22 rfl rfl)
theorem dX2_endOne_70 : decode cX2_endOne 70 = .ok (.putfield 211, 3) := dk_181 0 211 (dk_at dksX2_endOne_3 0 rfl rfl)
theorem dX2_endOne_73 : decode cX2_endOne 73 = .ok (.iconst 0, 1) := dk_3 (dk_at dksX2_endOne_3 3 rfl rfl)
theorem dX2_endOne_74 : decode cX2_endOne 74 = .ok (.ireturn, 1) := dk_172 (dk_at dksX2_endOne_3 4 rfl rfl)
abbrev cX2_beginOne : ByteArray := prog_19_method_42_code
def yX2_beginOne : MethodName := ⟨RX2, "beginOne", "()I"⟩
def dkwX2_beginOne_8 : List UInt8 := [182, 0, 205, 153, 0, 12, 42, 16, 20, 182, 0, 198, 167, 0, 4, 4, 172]
abbrev dktX2_beginOne_8 : List UInt8 := dkwX2_beginOne_8 ++ []
def dkwX2_beginOne_7 : List UInt8 := [42, 16, 42, 182, 0, 198, 172, 42, 16, 110, 16, 111, 16, 116, 184, 0, 141, 182, 0, 201, 153, 0, 19, 42]
abbrev dktX2_beginOne_7 : List UInt8 := dkwX2_beginOne_7 ++ dktX2_beginOne_8
def dkwX2_beginOne_6 : List UInt8 := [153, 0, 10, 42, 16, 41, 182, 0, 198, 172, 42, 16, 105, 16, 102, 184, 0, 137, 182, 0, 201, 153, 0, 10]
abbrev dktX2_beginOne_6 : List UInt8 := dkwX2_beginOne_6 ++ dktX2_beginOne_7
def dkwX2_beginOne_5 : List UInt8 := [42, 6, 182, 0, 198, 172, 42, 16, 97, 16, 102, 16, 116, 16, 101, 16, 114, 184, 0, 149, 182, 0, 201]
abbrev dktX2_beginOne_5 : List UInt8 := dkwX2_beginOne_5 ++ dktX2_beginOne_6
def dkwX2_beginOne_4 : List UInt8 := [180, 0, 115, 16, 40, 160, 0, 10, 42, 16, 40, 182, 0, 198, 172, 42, 180, 0, 115, 16, 45, 160, 0, 9]
abbrev dktX2_beginOne_4 : List UInt8 := dkwX2_beginOne_4 ++ dktX2_beginOne_5
def dkwX2_beginOne_3 : List UInt8 := [160, 0, 10, 42, 180, 0, 121, 167, 0, 4, 27, 182, 0, 172, 42, 182, 0, 186, 42, 182, 0, 195, 172, 42]
abbrev dktX2_beginOne_3 : List UInt8 := dkwX2_beginOne_3 ++ dktX2_beginOne_4
def dkwX2_beginOne_2 : List UInt8 := [155, 0, 45, 42, 42, 180, 0, 115, 4, 160, 0, 7, 3, 167, 0, 4, 4, 42, 180, 0, 115, 4]
abbrev dktX2_beginOne_2 : List UInt8 := dkwX2_beginOne_2 ++ dktX2_beginOne_3
def dkwX2_beginOne_1 : List UInt8 := [60, 27, 155, 0, 13, 42, 27, 182, 0, 192, 154, 0, 5, 8, 172, 42, 180, 0, 115, 4, 159, 0, 7, 27]
abbrev dktX2_beginOne_1 : List UInt8 := dkwX2_beginOne_1 ++ dktX2_beginOne_2
def dkwX2_beginOne_0 : List UInt8 := [42, 180, 0, 115, 4, 160, 0, 15, 42, 180, 0, 121, 17, 39, 15, 164, 0, 5, 5, 172, 42, 182, 0, 189]
abbrev dktX2_beginOne_0 : List UInt8 := dkwX2_beginOne_0 ++ dktX2_beginOne_1
theorem dksX2_beginOne_0 : cX2_beginOne.data.toList.drop 0 = dktX2_beginOne_0 := by decide +kernel
theorem dksX2_beginOne_1 : cX2_beginOne.data.toList.drop 24 = dktX2_beginOne_1 := dk_seg dksX2_beginOne_0 24 rfl rfl
theorem dksX2_beginOne_2 : cX2_beginOne.data.toList.drop 48 = dktX2_beginOne_2 := dk_seg dksX2_beginOne_1 24 rfl rfl
theorem dksX2_beginOne_3 : cX2_beginOne.data.toList.drop 70 = dktX2_beginOne_3 := dk_seg dksX2_beginOne_2 22 rfl rfl
theorem dksX2_beginOne_4 : cX2_beginOne.data.toList.drop 94 = dktX2_beginOne_4 := dk_seg dksX2_beginOne_3 24 rfl rfl
theorem dksX2_beginOne_5 : cX2_beginOne.data.toList.drop 118 = dktX2_beginOne_5 := dk_seg dksX2_beginOne_4 24 rfl rfl
theorem dksX2_beginOne_6 : cX2_beginOne.data.toList.drop 141 = dktX2_beginOne_6 := dk_seg dksX2_beginOne_5 23 rfl rfl
theorem dksX2_beginOne_7 : cX2_beginOne.data.toList.drop 165 = dktX2_beginOne_7 := dk_seg dksX2_beginOne_6 24 rfl rfl
theorem dksX2_beginOne_8 : cX2_beginOne.data.toList.drop 189 = dktX2_beginOne_8 := dk_seg dksX2_beginOne_7 24 rfl rfl
theorem dX2_beginOne_0 : decode cX2_beginOne 0 = .ok (.aload_n 0, 1) := dk_42 (dk_at dksX2_beginOne_0 0 rfl rfl)
theorem dX2_beginOne_1 : decode cX2_beginOne 1 = .ok (.getfield 115, 3) := dk_180 0 115 (dk_at dksX2_beginOne_0 1 rfl rfl)
theorem dX2_beginOne_4 : decode cX2_beginOne 4 = .ok (.iconst 1, 1) := dk_4 (dk_at dksX2_beginOne_0 4 rfl rfl)
theorem dX2_beginOne_5 : decode cX2_beginOne 5 = .ok (.if_icmp .ne 15, 3) := dk_160 0 15 (dk_at dksX2_beginOne_0 5 rfl rfl)
theorem dX2_beginOne_8 : decode cX2_beginOne 8 = .ok (.aload_n 0, 1) := dk_42 (dk_at dksX2_beginOne_0 8 rfl rfl)
theorem dX2_beginOne_9 : decode cX2_beginOne 9 = .ok (.getfield 121, 3) := dk_180 0 121 (dk_at dksX2_beginOne_0 9 rfl rfl)
theorem dX2_beginOne_12 : decode cX2_beginOne 12 = .ok (.sipush 9999, 3) := dk_17 39 15 (dk_at dksX2_beginOne_0 12 rfl rfl)
theorem dX2_beginOne_15 : decode cX2_beginOne 15 = .ok (.if_icmp .le 5, 3) := dk_164 0 5 (dk_at dksX2_beginOne_0 15 rfl rfl)
theorem dX2_beginOne_18 : decode cX2_beginOne 18 = .ok (.iconst 2, 1) := dk_5 (dk_at dksX2_beginOne_0 18 rfl rfl)
theorem dX2_beginOne_19 : decode cX2_beginOne 19 = .ok (.ireturn, 1) := dk_172 (dk_at dksX2_beginOne_0 19 rfl rfl)
theorem dX2_beginOne_20 : decode cX2_beginOne 20 = .ok (.aload_n 0, 1) := dk_42 (dk_at dksX2_beginOne_0 20 rfl rfl)
theorem dX2_beginOne_21 : decode cX2_beginOne 21 = .ok (.invokevirtual 189, 3) := dk_182 0 189 (dk_at dksX2_beginOne_0 21 rfl rfl)
theorem dX2_beginOne_24 : decode cX2_beginOne 24 = .ok (.istore_n 1, 1) := dk_60 (dk_at dksX2_beginOne_1 0 rfl rfl)
theorem dX2_beginOne_25 : decode cX2_beginOne 25 = .ok (.iload_n 1, 1) := dk_27 (dk_at dksX2_beginOne_1 1 rfl rfl)
theorem dX2_beginOne_26 : decode cX2_beginOne 26 = .ok (.ifCond .lt 13, 3) := dk_155 0 13 (dk_at dksX2_beginOne_1 2 rfl rfl)
theorem dX2_beginOne_29 : decode cX2_beginOne 29 = .ok (.aload_n 0, 1) := dk_42 (dk_at dksX2_beginOne_1 5 rfl rfl)
theorem dX2_beginOne_30 : decode cX2_beginOne 30 = .ok (.iload_n 1, 1) := dk_27 (dk_at dksX2_beginOne_1 6 rfl rfl)
theorem dX2_beginOne_31 : decode cX2_beginOne 31 = .ok (.invokevirtual 192, 3) := dk_182 0 192 (dk_at dksX2_beginOne_1 7 rfl rfl)
theorem dX2_beginOne_34 : decode cX2_beginOne 34 = .ok (.ifCond .ne 5, 3) := dk_154 0 5 (dk_at dksX2_beginOne_1 10 rfl rfl)
theorem dX2_beginOne_37 : decode cX2_beginOne 37 = .ok (.iconst 5, 1) := dk_8 (dk_at dksX2_beginOne_1 13 rfl rfl)
theorem dX2_beginOne_38 : decode cX2_beginOne 38 = .ok (.ireturn, 1) := dk_172 (dk_at dksX2_beginOne_1 14 rfl rfl)
theorem dX2_beginOne_39 : decode cX2_beginOne 39 = .ok (.aload_n 0, 1) := dk_42 (dk_at dksX2_beginOne_1 15 rfl rfl)
theorem dX2_beginOne_40 : decode cX2_beginOne 40 = .ok (.getfield 115, 3) := dk_180 0 115 (dk_at dksX2_beginOne_1 16 rfl rfl)
theorem dX2_beginOne_43 : decode cX2_beginOne 43 = .ok (.iconst 1, 1) := dk_4 (dk_at dksX2_beginOne_1 19 rfl rfl)
theorem dX2_beginOne_44 : decode cX2_beginOne 44 = .ok (.if_icmp .eq 7, 3) := dk_159 0 7 (dk_at dksX2_beginOne_1 20 rfl rfl)
theorem dX2_beginOne_47 : decode cX2_beginOne 47 = .ok (.iload_n 1, 1) := dk_27 (dk_at dksX2_beginOne_1 23 rfl rfl)
theorem dX2_beginOne_48 : decode cX2_beginOne 48 = .ok (.ifCond .lt 45, 3) := dk_155 0 45 (dk_at dksX2_beginOne_2 0 rfl rfl)
theorem dX2_beginOne_51 : decode cX2_beginOne 51 = .ok (.aload_n 0, 1) := dk_42 (dk_at dksX2_beginOne_2 3 rfl rfl)
theorem dX2_beginOne_52 : decode cX2_beginOne 52 = .ok (.aload_n 0, 1) := dk_42 (dk_at dksX2_beginOne_2 4 rfl rfl)
theorem dX2_beginOne_53 : decode cX2_beginOne 53 = .ok (.getfield 115, 3) := dk_180 0 115 (dk_at dksX2_beginOne_2 5 rfl rfl)
theorem dX2_beginOne_56 : decode cX2_beginOne 56 = .ok (.iconst 1, 1) := dk_4 (dk_at dksX2_beginOne_2 8 rfl rfl)
theorem dX2_beginOne_57 : decode cX2_beginOne 57 = .ok (.if_icmp .ne 7, 3) := dk_160 0 7 (dk_at dksX2_beginOne_2 9 rfl rfl)
theorem dX2_beginOne_60 : decode cX2_beginOne 60 = .ok (.iconst 0, 1) := dk_3 (dk_at dksX2_beginOne_2 12 rfl rfl)
theorem dX2_beginOne_61 : decode cX2_beginOne 61 = .ok (.goto 4, 3) := dk_167 0 4 (dk_at dksX2_beginOne_2 13 rfl rfl)
theorem dX2_beginOne_64 : decode cX2_beginOne 64 = .ok (.iconst 1, 1) := dk_4 (dk_at dksX2_beginOne_2 16 rfl rfl)
theorem dX2_beginOne_65 : decode cX2_beginOne 65 = .ok (.aload_n 0, 1) := dk_42 (dk_at dksX2_beginOne_2 17 rfl rfl)
theorem dX2_beginOne_66 : decode cX2_beginOne 66 = .ok (.getfield 115, 3) := dk_180 0 115 (dk_at dksX2_beginOne_2 18 rfl rfl)
theorem dX2_beginOne_69 : decode cX2_beginOne 69 = .ok (.iconst 1, 1) := dk_4 (dk_at dksX2_beginOne_2 21 rfl rfl)
theorem dX2_beginOne_70 : decode cX2_beginOne 70 = .ok (.if_icmp .ne 10, 3) := dk_160 0 10 (dk_at dksX2_beginOne_3 0 rfl rfl)
theorem dX2_beginOne_73 : decode cX2_beginOne 73 = .ok (.aload_n 0, 1) := dk_42 (dk_at dksX2_beginOne_3 3 rfl rfl)
theorem dX2_beginOne_74 : decode cX2_beginOne 74 = .ok (.getfield 121, 3) := dk_180 0 121 (dk_at dksX2_beginOne_3 4 rfl rfl)
theorem dX2_beginOne_77 : decode cX2_beginOne 77 = .ok (.goto 4, 3) := dk_167 0 4 (dk_at dksX2_beginOne_3 7 rfl rfl)
theorem dX2_beginOne_80 : decode cX2_beginOne 80 = .ok (.iload_n 1, 1) := dk_27 (dk_at dksX2_beginOne_3 10 rfl rfl)
theorem dX2_beginOne_81 : decode cX2_beginOne 81 = .ok (.invokevirtual 172, 3) := dk_182 0 172 (dk_at dksX2_beginOne_3 11 rfl rfl)
theorem dX2_beginOne_84 : decode cX2_beginOne 84 = .ok (.aload_n 0, 1) := dk_42 (dk_at dksX2_beginOne_3 14 rfl rfl)
theorem dX2_beginOne_85 : decode cX2_beginOne 85 = .ok (.invokevirtual 186, 3) := dk_182 0 186 (dk_at dksX2_beginOne_3 15 rfl rfl)
theorem dX2_beginOne_88 : decode cX2_beginOne 88 = .ok (.aload_n 0, 1) := dk_42 (dk_at dksX2_beginOne_3 18 rfl rfl)
theorem dX2_beginOne_89 : decode cX2_beginOne 89 = .ok (.invokevirtual 195, 3) := dk_182 0 195 (dk_at dksX2_beginOne_3 19 rfl rfl)
theorem dX2_beginOne_92 : decode cX2_beginOne 92 = .ok (.ireturn, 1) := dk_172 (dk_at dksX2_beginOne_3 22 rfl rfl)
theorem dX2_beginOne_93 : decode cX2_beginOne 93 = .ok (.aload_n 0, 1) := dk_42 (dk_at dksX2_beginOne_3 23 rfl rfl)
theorem dX2_beginOne_94 : decode cX2_beginOne 94 = .ok (.getfield 115, 3) := dk_180 0 115 (dk_at dksX2_beginOne_4 0 rfl rfl)
theorem dX2_beginOne_97 : decode cX2_beginOne 97 = .ok (.bipush 40, 2) := dk_16 40 (dk_at dksX2_beginOne_4 3 rfl rfl)
theorem dX2_beginOne_99 : decode cX2_beginOne 99 = .ok (.if_icmp .ne 10, 3) := dk_160 0 10 (dk_at dksX2_beginOne_4 5 rfl rfl)
theorem dX2_beginOne_102 : decode cX2_beginOne 102 = .ok (.aload_n 0, 1) := dk_42 (dk_at dksX2_beginOne_4 8 rfl rfl)
theorem dX2_beginOne_103 : decode cX2_beginOne 103 = .ok (.bipush 40, 2) := dk_16 40 (dk_at dksX2_beginOne_4 9 rfl rfl)
theorem dX2_beginOne_105 : decode cX2_beginOne 105 = .ok (.invokevirtual 198, 3) := dk_182 0 198 (dk_at dksX2_beginOne_4 11 rfl rfl)
theorem dX2_beginOne_108 : decode cX2_beginOne 108 = .ok (.ireturn, 1) := dk_172 (dk_at dksX2_beginOne_4 14 rfl rfl)
theorem dX2_beginOne_109 : decode cX2_beginOne 109 = .ok (.aload_n 0, 1) := dk_42 (dk_at dksX2_beginOne_4 15 rfl rfl)
theorem dX2_beginOne_110 : decode cX2_beginOne 110 = .ok (.getfield 115, 3) := dk_180 0 115 (dk_at dksX2_beginOne_4 16 rfl rfl)
theorem dX2_beginOne_113 : decode cX2_beginOne 113 = .ok (.bipush 45, 2) := dk_16 45 (dk_at dksX2_beginOne_4 19 rfl rfl)
theorem dX2_beginOne_115 : decode cX2_beginOne 115 = .ok (.if_icmp .ne 9, 3) := dk_160 0 9 (dk_at dksX2_beginOne_4 21 rfl rfl)
theorem dX2_beginOne_118 : decode cX2_beginOne 118 = .ok (.aload_n 0, 1) := dk_42 (dk_at dksX2_beginOne_5 0 rfl rfl)
theorem dX2_beginOne_119 : decode cX2_beginOne 119 = .ok (.iconst 3, 1) := dk_6 (dk_at dksX2_beginOne_5 1 rfl rfl)
theorem dX2_beginOne_120 : decode cX2_beginOne 120 = .ok (.invokevirtual 198, 3) := dk_182 0 198 (dk_at dksX2_beginOne_5 2 rfl rfl)
theorem dX2_beginOne_123 : decode cX2_beginOne 123 = .ok (.ireturn, 1) := dk_172 (dk_at dksX2_beginOne_5 5 rfl rfl)
theorem dX2_beginOne_124 : decode cX2_beginOne 124 = .ok (.aload_n 0, 1) := dk_42 (dk_at dksX2_beginOne_5 6 rfl rfl)
theorem dX2_beginOne_125 : decode cX2_beginOne 125 = .ok (.bipush 97, 2) := dk_16 97 (dk_at dksX2_beginOne_5 7 rfl rfl)
theorem dX2_beginOne_127 : decode cX2_beginOne 127 = .ok (.bipush 102, 2) := dk_16 102 (dk_at dksX2_beginOne_5 9 rfl rfl)
theorem dX2_beginOne_129 : decode cX2_beginOne 129 = .ok (.bipush 116, 2) := dk_16 116 (dk_at dksX2_beginOne_5 11 rfl rfl)
theorem dX2_beginOne_131 : decode cX2_beginOne 131 = .ok (.bipush 101, 2) := dk_16 101 (dk_at dksX2_beginOne_5 13 rfl rfl)
theorem dX2_beginOne_133 : decode cX2_beginOne 133 = .ok (.bipush 114, 2) := dk_16 114 (dk_at dksX2_beginOne_5 15 rfl rfl)
theorem dX2_beginOne_135 : decode cX2_beginOne 135 = .ok (.invokestatic 149, 3) := dk_184 0 149 (dk_at dksX2_beginOne_5 17 rfl rfl)
theorem dX2_beginOne_138 : decode cX2_beginOne 138 = .ok (.invokevirtual 201, 3) := dk_182 0 201 (dk_at dksX2_beginOne_5 20 rfl rfl)
theorem dX2_beginOne_141 : decode cX2_beginOne 141 = .ok (.ifCond .eq 10, 3) := dk_153 0 10 (dk_at dksX2_beginOne_6 0 rfl rfl)
theorem dX2_beginOne_144 : decode cX2_beginOne 144 = .ok (.aload_n 0, 1) := dk_42 (dk_at dksX2_beginOne_6 3 rfl rfl)
theorem dX2_beginOne_145 : decode cX2_beginOne 145 = .ok (.bipush 41, 2) := dk_16 41 (dk_at dksX2_beginOne_6 4 rfl rfl)
theorem dX2_beginOne_147 : decode cX2_beginOne 147 = .ok (.invokevirtual 198, 3) := dk_182 0 198 (dk_at dksX2_beginOne_6 6 rfl rfl)
theorem dX2_beginOne_150 : decode cX2_beginOne 150 = .ok (.ireturn, 1) := dk_172 (dk_at dksX2_beginOne_6 9 rfl rfl)
theorem dX2_beginOne_151 : decode cX2_beginOne 151 = .ok (.aload_n 0, 1) := dk_42 (dk_at dksX2_beginOne_6 10 rfl rfl)
theorem dX2_beginOne_152 : decode cX2_beginOne 152 = .ok (.bipush 105, 2) := dk_16 105 (dk_at dksX2_beginOne_6 11 rfl rfl)
theorem dX2_beginOne_154 : decode cX2_beginOne 154 = .ok (.bipush 102, 2) := dk_16 102 (dk_at dksX2_beginOne_6 13 rfl rfl)
theorem dX2_beginOne_156 : decode cX2_beginOne 156 = .ok (.invokestatic 137, 3) := dk_184 0 137 (dk_at dksX2_beginOne_6 15 rfl rfl)
theorem dX2_beginOne_159 : decode cX2_beginOne 159 = .ok (.invokevirtual 201, 3) := dk_182 0 201 (dk_at dksX2_beginOne_6 18 rfl rfl)
theorem dX2_beginOne_162 : decode cX2_beginOne 162 = .ok (.ifCond .eq 10, 3) := dk_153 0 10 (dk_at dksX2_beginOne_6 21 rfl rfl)
theorem dX2_beginOne_165 : decode cX2_beginOne 165 = .ok (.aload_n 0, 1) := dk_42 (dk_at dksX2_beginOne_7 0 rfl rfl)
theorem dX2_beginOne_166 : decode cX2_beginOne 166 = .ok (.bipush 42, 2) := dk_16 42 (dk_at dksX2_beginOne_7 1 rfl rfl)
theorem dX2_beginOne_168 : decode cX2_beginOne 168 = .ok (.invokevirtual 198, 3) := dk_182 0 198 (dk_at dksX2_beginOne_7 3 rfl rfl)
theorem dX2_beginOne_171 : decode cX2_beginOne 171 = .ok (.ireturn, 1) := dk_172 (dk_at dksX2_beginOne_7 6 rfl rfl)
theorem dX2_beginOne_172 : decode cX2_beginOne 172 = .ok (.aload_n 0, 1) := dk_42 (dk_at dksX2_beginOne_7 7 rfl rfl)
theorem dX2_beginOne_173 : decode cX2_beginOne 173 = .ok (.bipush 110, 2) := dk_16 110 (dk_at dksX2_beginOne_7 8 rfl rfl)
theorem dX2_beginOne_175 : decode cX2_beginOne 175 = .ok (.bipush 111, 2) := dk_16 111 (dk_at dksX2_beginOne_7 10 rfl rfl)
theorem dX2_beginOne_177 : decode cX2_beginOne 177 = .ok (.bipush 116, 2) := dk_16 116 (dk_at dksX2_beginOne_7 12 rfl rfl)
theorem dX2_beginOne_179 : decode cX2_beginOne 179 = .ok (.invokestatic 141, 3) := dk_184 0 141 (dk_at dksX2_beginOne_7 14 rfl rfl)
theorem dX2_beginOne_182 : decode cX2_beginOne 182 = .ok (.invokevirtual 201, 3) := dk_182 0 201 (dk_at dksX2_beginOne_7 17 rfl rfl)
theorem dX2_beginOne_185 : decode cX2_beginOne 185 = .ok (.ifCond .eq 19, 3) := dk_153 0 19 (dk_at dksX2_beginOne_7 20 rfl rfl)
theorem dX2_beginOne_188 : decode cX2_beginOne 188 = .ok (.aload_n 0, 1) := dk_42 (dk_at dksX2_beginOne_7 23 rfl rfl)
theorem dX2_beginOne_189 : decode cX2_beginOne 189 = .ok (.invokevirtual 205, 3) := dk_182 0 205 (dk_at dksX2_beginOne_8 0 rfl rfl)
theorem dX2_beginOne_192 : decode cX2_beginOne 192 = .ok (.ifCond .eq 12, 3) := dk_153 0 12 (dk_at dksX2_beginOne_8 3 rfl rfl)
theorem dX2_beginOne_195 : decode cX2_beginOne 195 = .ok (.aload_n 0, 1) := dk_42 (dk_at dksX2_beginOne_8 6 rfl rfl)
theorem dX2_beginOne_196 : decode cX2_beginOne 196 = .ok (.bipush 20, 2) := dk_16 20 (dk_at dksX2_beginOne_8 7 rfl rfl)
theorem dX2_beginOne_198 : decode cX2_beginOne 198 = .ok (.invokevirtual 198, 3) := dk_182 0 198 (dk_at dksX2_beginOne_8 9 rfl rfl)
theorem dX2_beginOne_201 : decode cX2_beginOne 201 = .ok (.goto 4, 3) := dk_167 0 4 (dk_at dksX2_beginOne_8 12 rfl rfl)
theorem dX2_beginOne_204 : decode cX2_beginOne 204 = .ok (.iconst 1, 1) := dk_4 (dk_at dksX2_beginOne_8 15 rfl rfl)
theorem dX2_beginOne_205 : decode cX2_beginOne 205 = .ok (.ireturn, 1) := dk_172 (dk_at dksX2_beginOne_8 16 rfl rfl)
abbrev cX2_nameOf : ByteArray := prog_19_method_33_code
def yX2_nameOf : MethodName := ⟨RX2, "nameOf", "()I"⟩
def dkwX2_nameOf_6 : List UInt8 := [154, 0, 7, 8, 167, 0, 16, 42, 182, 0, 159, 153, 0, 8, 16, 6, 167, 0, 4, 2, 172]
abbrev dktX2_nameOf_6 : List UInt8 := dkwX2_nameOf_6 ++ []
def dkwX2_nameOf_5 : List UInt8 := [154, 0, 5, 7, 172, 42, 180, 0, 128, 16, 98, 16, 101, 16, 97, 16, 114, 16, 100, 184, 0, 149, 148]
abbrev dktX2_nameOf_5 : List UInt8 := dkwX2_nameOf_5 ++ dktX2_nameOf_6
def dkwX2_nameOf_4 : List UInt8 := [154, 0, 5, 6, 172, 42, 180, 0, 128, 16, 115, 16, 99, 16, 97, 16, 114, 16, 115, 184, 0, 149, 148]
abbrev dktX2_nameOf_4 : List UInt8 := dkwX2_nameOf_4 ++ dktX2_nameOf_5
def dkwX2_nameOf_3 : List UInt8 := [154, 0, 5, 5, 172, 42, 180, 0, 128, 16, 111, 16, 116, 16, 104, 16, 101, 16, 114, 184, 0, 149, 148]
abbrev dktX2_nameOf_3 : List UInt8 := dkwX2_nameOf_3 ++ dktX2_nameOf_4
def dkwX2_nameOf_2 : List UInt8 := [154, 0, 5, 4, 172, 42, 180, 0, 128, 16, 110, 16, 101, 16, 114, 16, 118, 16, 101, 184, 0, 149, 148]
abbrev dktX2_nameOf_2 : List UInt8 := dkwX2_nameOf_2 ++ dktX2_nameOf_3
def dkwX2_nameOf_1 : List UInt8 := [154, 0, 5, 3, 172, 42, 180, 0, 128, 16, 99, 16, 104, 16, 97, 16, 105, 16, 114, 184, 0, 149, 148]
abbrev dktX2_nameOf_1 : List UInt8 := dkwX2_nameOf_1 ++ dktX2_nameOf_2
def dkwX2_nameOf_0 : List UInt8 := [42, 180, 0, 115, 5, 159, 0, 5, 2, 172, 42, 180, 0, 128, 16, 100, 16, 97, 16, 121, 184, 0, 141, 148]
abbrev dktX2_nameOf_0 : List UInt8 := dkwX2_nameOf_0 ++ dktX2_nameOf_1
theorem dksX2_nameOf_0 : cX2_nameOf.data.toList.drop 0 = dktX2_nameOf_0 := by decide +kernel
theorem dksX2_nameOf_1 : cX2_nameOf.data.toList.drop 24 = dktX2_nameOf_1 := dk_seg dksX2_nameOf_0 24 rfl rfl
theorem dksX2_nameOf_2 : cX2_nameOf.data.toList.drop 47 = dktX2_nameOf_2 := dk_seg dksX2_nameOf_1 23 rfl rfl
theorem dksX2_nameOf_3 : cX2_nameOf.data.toList.drop 70 = dktX2_nameOf_3 := dk_seg dksX2_nameOf_2 23 rfl rfl
theorem dksX2_nameOf_4 : cX2_nameOf.data.toList.drop 93 = dktX2_nameOf_4 := dk_seg dksX2_nameOf_3 23 rfl rfl
theorem dksX2_nameOf_5 : cX2_nameOf.data.toList.drop 116 = dktX2_nameOf_5 := dk_seg dksX2_nameOf_4 23 rfl rfl
theorem dksX2_nameOf_6 : cX2_nameOf.data.toList.drop 139 = dktX2_nameOf_6 := dk_seg dksX2_nameOf_5 23 rfl rfl
theorem dX2_nameOf_0 : decode cX2_nameOf 0 = .ok (.aload_n 0, 1) := dk_42 (dk_at dksX2_nameOf_0 0 rfl rfl)
theorem dX2_nameOf_1 : decode cX2_nameOf 1 = .ok (.getfield 115, 3) := dk_180 0 115 (dk_at dksX2_nameOf_0 1 rfl rfl)
theorem dX2_nameOf_4 : decode cX2_nameOf 4 = .ok (.iconst 2, 1) := dk_5 (dk_at dksX2_nameOf_0 4 rfl rfl)
theorem dX2_nameOf_5 : decode cX2_nameOf 5 = .ok (.if_icmp .eq 5, 3) := dk_159 0 5 (dk_at dksX2_nameOf_0 5 rfl rfl)
theorem dX2_nameOf_8 : decode cX2_nameOf 8 = .ok (.iconst (-1), 1) := dk_2 (dk_at dksX2_nameOf_0 8 rfl rfl)
theorem dX2_nameOf_9 : decode cX2_nameOf 9 = .ok (.ireturn, 1) := dk_172 (dk_at dksX2_nameOf_0 9 rfl rfl)
theorem dX2_nameOf_10 : decode cX2_nameOf 10 = .ok (.aload_n 0, 1) := dk_42 (dk_at dksX2_nameOf_0 10 rfl rfl)
theorem dX2_nameOf_11 : decode cX2_nameOf 11 = .ok (.getfield 128, 3) := dk_180 0 128 (dk_at dksX2_nameOf_0 11 rfl rfl)
theorem dX2_nameOf_14 : decode cX2_nameOf 14 = .ok (.bipush 100, 2) := dk_16 100 (dk_at dksX2_nameOf_0 14 rfl rfl)
theorem dX2_nameOf_16 : decode cX2_nameOf 16 = .ok (.bipush 97, 2) := dk_16 97 (dk_at dksX2_nameOf_0 16 rfl rfl)
theorem dX2_nameOf_18 : decode cX2_nameOf 18 = .ok (.bipush 121, 2) := dk_16 121 (dk_at dksX2_nameOf_0 18 rfl rfl)
theorem dX2_nameOf_20 : decode cX2_nameOf 20 = .ok (.invokestatic 141, 3) := dk_184 0 141 (dk_at dksX2_nameOf_0 20 rfl rfl)
theorem dX2_nameOf_23 : decode cX2_nameOf 23 = .ok (.lcmp, 1) := dk_148 (dk_at dksX2_nameOf_0 23 rfl rfl)
theorem dX2_nameOf_24 : decode cX2_nameOf 24 = .ok (.ifCond .ne 5, 3) := dk_154 0 5 (dk_at dksX2_nameOf_1 0 rfl rfl)
theorem dX2_nameOf_27 : decode cX2_nameOf 27 = .ok (.iconst 0, 1) := dk_3 (dk_at dksX2_nameOf_1 3 rfl rfl)
theorem dX2_nameOf_28 : decode cX2_nameOf 28 = .ok (.ireturn, 1) := dk_172 (dk_at dksX2_nameOf_1 4 rfl rfl)
theorem dX2_nameOf_29 : decode cX2_nameOf 29 = .ok (.aload_n 0, 1) := dk_42 (dk_at dksX2_nameOf_1 5 rfl rfl)
theorem dX2_nameOf_30 : decode cX2_nameOf 30 = .ok (.getfield 128, 3) := dk_180 0 128 (dk_at dksX2_nameOf_1 6 rfl rfl)
theorem dX2_nameOf_33 : decode cX2_nameOf 33 = .ok (.bipush 99, 2) := dk_16 99 (dk_at dksX2_nameOf_1 9 rfl rfl)
theorem dX2_nameOf_35 : decode cX2_nameOf 35 = .ok (.bipush 104, 2) := dk_16 104 (dk_at dksX2_nameOf_1 11 rfl rfl)
theorem dX2_nameOf_37 : decode cX2_nameOf 37 = .ok (.bipush 97, 2) := dk_16 97 (dk_at dksX2_nameOf_1 13 rfl rfl)
theorem dX2_nameOf_39 : decode cX2_nameOf 39 = .ok (.bipush 105, 2) := dk_16 105 (dk_at dksX2_nameOf_1 15 rfl rfl)
theorem dX2_nameOf_41 : decode cX2_nameOf 41 = .ok (.bipush 114, 2) := dk_16 114 (dk_at dksX2_nameOf_1 17 rfl rfl)
theorem dX2_nameOf_43 : decode cX2_nameOf 43 = .ok (.invokestatic 149, 3) := dk_184 0 149 (dk_at dksX2_nameOf_1 19 rfl rfl)
theorem dX2_nameOf_46 : decode cX2_nameOf 46 = .ok (.lcmp, 1) := dk_148 (dk_at dksX2_nameOf_1 22 rfl rfl)
theorem dX2_nameOf_47 : decode cX2_nameOf 47 = .ok (.ifCond .ne 5, 3) := dk_154 0 5 (dk_at dksX2_nameOf_2 0 rfl rfl)
theorem dX2_nameOf_50 : decode cX2_nameOf 50 = .ok (.iconst 1, 1) := dk_4 (dk_at dksX2_nameOf_2 3 rfl rfl)
theorem dX2_nameOf_51 : decode cX2_nameOf 51 = .ok (.ireturn, 1) := dk_172 (dk_at dksX2_nameOf_2 4 rfl rfl)
theorem dX2_nameOf_52 : decode cX2_nameOf 52 = .ok (.aload_n 0, 1) := dk_42 (dk_at dksX2_nameOf_2 5 rfl rfl)
theorem dX2_nameOf_53 : decode cX2_nameOf 53 = .ok (.getfield 128, 3) := dk_180 0 128 (dk_at dksX2_nameOf_2 6 rfl rfl)
theorem dX2_nameOf_56 : decode cX2_nameOf 56 = .ok (.bipush 110, 2) := dk_16 110 (dk_at dksX2_nameOf_2 9 rfl rfl)
theorem dX2_nameOf_58 : decode cX2_nameOf 58 = .ok (.bipush 101, 2) := dk_16 101 (dk_at dksX2_nameOf_2 11 rfl rfl)
theorem dX2_nameOf_60 : decode cX2_nameOf 60 = .ok (.bipush 114, 2) := dk_16 114 (dk_at dksX2_nameOf_2 13 rfl rfl)
theorem dX2_nameOf_62 : decode cX2_nameOf 62 = .ok (.bipush 118, 2) := dk_16 118 (dk_at dksX2_nameOf_2 15 rfl rfl)
theorem dX2_nameOf_64 : decode cX2_nameOf 64 = .ok (.bipush 101, 2) := dk_16 101 (dk_at dksX2_nameOf_2 17 rfl rfl)
theorem dX2_nameOf_66 : decode cX2_nameOf 66 = .ok (.invokestatic 149, 3) := dk_184 0 149 (dk_at dksX2_nameOf_2 19 rfl rfl)
theorem dX2_nameOf_69 : decode cX2_nameOf 69 = .ok (.lcmp, 1) := dk_148 (dk_at dksX2_nameOf_2 22 rfl rfl)
theorem dX2_nameOf_70 : decode cX2_nameOf 70 = .ok (.ifCond .ne 5, 3) := dk_154 0 5 (dk_at dksX2_nameOf_3 0 rfl rfl)
theorem dX2_nameOf_73 : decode cX2_nameOf 73 = .ok (.iconst 2, 1) := dk_5 (dk_at dksX2_nameOf_3 3 rfl rfl)
theorem dX2_nameOf_74 : decode cX2_nameOf 74 = .ok (.ireturn, 1) := dk_172 (dk_at dksX2_nameOf_3 4 rfl rfl)
theorem dX2_nameOf_75 : decode cX2_nameOf 75 = .ok (.aload_n 0, 1) := dk_42 (dk_at dksX2_nameOf_3 5 rfl rfl)
theorem dX2_nameOf_76 : decode cX2_nameOf 76 = .ok (.getfield 128, 3) := dk_180 0 128 (dk_at dksX2_nameOf_3 6 rfl rfl)
theorem dX2_nameOf_79 : decode cX2_nameOf 79 = .ok (.bipush 111, 2) := dk_16 111 (dk_at dksX2_nameOf_3 9 rfl rfl)
theorem dX2_nameOf_81 : decode cX2_nameOf 81 = .ok (.bipush 116, 2) := dk_16 116 (dk_at dksX2_nameOf_3 11 rfl rfl)
theorem dX2_nameOf_83 : decode cX2_nameOf 83 = .ok (.bipush 104, 2) := dk_16 104 (dk_at dksX2_nameOf_3 13 rfl rfl)
theorem dX2_nameOf_85 : decode cX2_nameOf 85 = .ok (.bipush 101, 2) := dk_16 101 (dk_at dksX2_nameOf_3 15 rfl rfl)
theorem dX2_nameOf_87 : decode cX2_nameOf 87 = .ok (.bipush 114, 2) := dk_16 114 (dk_at dksX2_nameOf_3 17 rfl rfl)
theorem dX2_nameOf_89 : decode cX2_nameOf 89 = .ok (.invokestatic 149, 3) := dk_184 0 149 (dk_at dksX2_nameOf_3 19 rfl rfl)
theorem dX2_nameOf_92 : decode cX2_nameOf 92 = .ok (.lcmp, 1) := dk_148 (dk_at dksX2_nameOf_3 22 rfl rfl)
theorem dX2_nameOf_93 : decode cX2_nameOf 93 = .ok (.ifCond .ne 5, 3) := dk_154 0 5 (dk_at dksX2_nameOf_4 0 rfl rfl)
theorem dX2_nameOf_96 : decode cX2_nameOf 96 = .ok (.iconst 3, 1) := dk_6 (dk_at dksX2_nameOf_4 3 rfl rfl)
theorem dX2_nameOf_97 : decode cX2_nameOf 97 = .ok (.ireturn, 1) := dk_172 (dk_at dksX2_nameOf_4 4 rfl rfl)
theorem dX2_nameOf_98 : decode cX2_nameOf 98 = .ok (.aload_n 0, 1) := dk_42 (dk_at dksX2_nameOf_4 5 rfl rfl)
theorem dX2_nameOf_99 : decode cX2_nameOf 99 = .ok (.getfield 128, 3) := dk_180 0 128 (dk_at dksX2_nameOf_4 6 rfl rfl)
theorem dX2_nameOf_102 : decode cX2_nameOf 102 = .ok (.bipush 115, 2) := dk_16 115 (dk_at dksX2_nameOf_4 9 rfl rfl)
theorem dX2_nameOf_104 : decode cX2_nameOf 104 = .ok (.bipush 99, 2) := dk_16 99 (dk_at dksX2_nameOf_4 11 rfl rfl)
theorem dX2_nameOf_106 : decode cX2_nameOf 106 = .ok (.bipush 97, 2) := dk_16 97 (dk_at dksX2_nameOf_4 13 rfl rfl)
theorem dX2_nameOf_108 : decode cX2_nameOf 108 = .ok (.bipush 114, 2) := dk_16 114 (dk_at dksX2_nameOf_4 15 rfl rfl)
theorem dX2_nameOf_110 : decode cX2_nameOf 110 = .ok (.bipush 115, 2) := dk_16 115 (dk_at dksX2_nameOf_4 17 rfl rfl)
theorem dX2_nameOf_112 : decode cX2_nameOf 112 = .ok (.invokestatic 149, 3) := dk_184 0 149 (dk_at dksX2_nameOf_4 19 rfl rfl)
theorem dX2_nameOf_115 : decode cX2_nameOf 115 = .ok (.lcmp, 1) := dk_148 (dk_at dksX2_nameOf_4 22 rfl rfl)
theorem dX2_nameOf_116 : decode cX2_nameOf 116 = .ok (.ifCond .ne 5, 3) := dk_154 0 5 (dk_at dksX2_nameOf_5 0 rfl rfl)
theorem dX2_nameOf_119 : decode cX2_nameOf 119 = .ok (.iconst 4, 1) := dk_7 (dk_at dksX2_nameOf_5 3 rfl rfl)
theorem dX2_nameOf_120 : decode cX2_nameOf 120 = .ok (.ireturn, 1) := dk_172 (dk_at dksX2_nameOf_5 4 rfl rfl)
theorem dX2_nameOf_121 : decode cX2_nameOf 121 = .ok (.aload_n 0, 1) := dk_42 (dk_at dksX2_nameOf_5 5 rfl rfl)
theorem dX2_nameOf_122 : decode cX2_nameOf 122 = .ok (.getfield 128, 3) := dk_180 0 128 (dk_at dksX2_nameOf_5 6 rfl rfl)
theorem dX2_nameOf_125 : decode cX2_nameOf 125 = .ok (.bipush 98, 2) := dk_16 98 (dk_at dksX2_nameOf_5 9 rfl rfl)
theorem dX2_nameOf_127 : decode cX2_nameOf 127 = .ok (.bipush 101, 2) := dk_16 101 (dk_at dksX2_nameOf_5 11 rfl rfl)
theorem dX2_nameOf_129 : decode cX2_nameOf 129 = .ok (.bipush 97, 2) := dk_16 97 (dk_at dksX2_nameOf_5 13 rfl rfl)
theorem dX2_nameOf_131 : decode cX2_nameOf 131 = .ok (.bipush 114, 2) := dk_16 114 (dk_at dksX2_nameOf_5 15 rfl rfl)
theorem dX2_nameOf_133 : decode cX2_nameOf 133 = .ok (.bipush 100, 2) := dk_16 100 (dk_at dksX2_nameOf_5 17 rfl rfl)
theorem dX2_nameOf_135 : decode cX2_nameOf 135 = .ok (.invokestatic 149, 3) := dk_184 0 149 (dk_at dksX2_nameOf_5 19 rfl rfl)
theorem dX2_nameOf_138 : decode cX2_nameOf 138 = .ok (.lcmp, 1) := dk_148 (dk_at dksX2_nameOf_5 22 rfl rfl)
theorem dX2_nameOf_139 : decode cX2_nameOf 139 = .ok (.ifCond .ne 7, 3) := dk_154 0 7 (dk_at dksX2_nameOf_6 0 rfl rfl)
theorem dX2_nameOf_142 : decode cX2_nameOf 142 = .ok (.iconst 5, 1) := dk_8 (dk_at dksX2_nameOf_6 3 rfl rfl)
theorem dX2_nameOf_143 : decode cX2_nameOf 143 = .ok (.goto 16, 3) := dk_167 0 16 (dk_at dksX2_nameOf_6 4 rfl rfl)
theorem dX2_nameOf_146 : decode cX2_nameOf 146 = .ok (.aload_n 0, 1) := dk_42 (dk_at dksX2_nameOf_6 7 rfl rfl)
theorem dX2_nameOf_147 : decode cX2_nameOf 147 = .ok (.invokevirtual 159, 3) := dk_182 0 159 (dk_at dksX2_nameOf_6 8 rfl rfl)
theorem dX2_nameOf_150 : decode cX2_nameOf 150 = .ok (.ifCond .eq 8, 3) := dk_153 0 8 (dk_at dksX2_nameOf_6 11 rfl rfl)
theorem dX2_nameOf_153 : decode cX2_nameOf 153 = .ok (.bipush 6, 2) := dk_16 6 (dk_at dksX2_nameOf_6 14 rfl rfl)
theorem dX2_nameOf_155 : decode cX2_nameOf 155 = .ok (.goto 4, 3) := dk_167 0 4 (dk_at dksX2_nameOf_6 16 rfl rfl)
theorem dX2_nameOf_158 : decode cX2_nameOf 158 = .ok (.iconst (-1), 1) := dk_2 (dk_at dksX2_nameOf_6 19 rfl rfl)
theorem dX2_nameOf_159 : decode cX2_nameOf 159 = .ok (.ireturn, 1) := dk_172 (dk_at dksX2_nameOf_6 20 rfl rfl)
abbrev cX2_isTakings : ByteArray := prog_19_method_32_code
def yX2_isTakings : MethodName := ⟨RX2, "isTakings", "()Z"⟩
def dkwX2_isTakings_5 : List UInt8 := [184, 0, 141, 148, 154, 0, 7, 4, 167, 0, 4, 3, 172]
abbrev dktX2_isTakings_5 : List UInt8 := dkwX2_isTakings_5 ++ []
def dkwX2_isTakings_4 : List UInt8 := [182, 0, 109, 42, 42, 180, 0, 112, 16, 6, 96, 182, 0, 109, 184, 0, 141, 16, 110, 16, 103, 16, 115]
abbrev dktX2_isTakings_4 : List UInt8 := dkwX2_isTakings_4 ++ dktX2_isTakings_5
def dkwX2_isTakings_3 : List UInt8 := [184, 0, 145, 148, 154, 0, 54, 42, 42, 180, 0, 112, 7, 96, 182, 0, 109, 42, 42, 180, 0, 112, 8, 96]
abbrev dktX2_isTakings_3 : List UInt8 := dkwX2_isTakings_3 ++ dktX2_isTakings_4
def dkwX2_isTakings_2 : List UInt8 := [182, 0, 109, 42, 42, 180, 0, 112, 6, 96, 182, 0, 109, 184, 0, 145, 16, 116, 16, 97, 16, 107, 16, 105]
abbrev dktX2_isTakings_2 : List UInt8 := dkwX2_isTakings_2 ++ dktX2_isTakings_3
def dkwX2_isTakings_1 : List UInt8 := [180, 0, 112, 182, 0, 109, 42, 42, 180, 0, 112, 4, 96, 182, 0, 109, 42, 42, 180, 0, 112, 5, 96]
abbrev dktX2_isTakings_1 : List UInt8 := dkwX2_isTakings_1 ++ dktX2_isTakings_2
def dkwX2_isTakings_0 : List UInt8 := [42, 180, 0, 115, 5, 160, 0, 124, 42, 180, 0, 106, 42, 180, 0, 112, 100, 16, 7, 160, 0, 110, 42, 42]
abbrev dktX2_isTakings_0 : List UInt8 := dkwX2_isTakings_0 ++ dktX2_isTakings_1
theorem dksX2_isTakings_0 : cX2_isTakings.data.toList.drop 0 = dktX2_isTakings_0 := by decide +kernel
theorem dksX2_isTakings_1 : cX2_isTakings.data.toList.drop 24 = dktX2_isTakings_1 := dk_seg dksX2_isTakings_0 24 rfl rfl
theorem dksX2_isTakings_2 : cX2_isTakings.data.toList.drop 47 = dktX2_isTakings_2 := dk_seg dksX2_isTakings_1 23 rfl rfl
theorem dksX2_isTakings_3 : cX2_isTakings.data.toList.drop 71 = dktX2_isTakings_3 := dk_seg dksX2_isTakings_2 24 rfl rfl
theorem dksX2_isTakings_4 : cX2_isTakings.data.toList.drop 95 = dktX2_isTakings_4 := dk_seg dksX2_isTakings_3 24 rfl rfl
theorem dksX2_isTakings_5 : cX2_isTakings.data.toList.drop 118 = dktX2_isTakings_5 := dk_seg dksX2_isTakings_4 23 rfl rfl
theorem dX2_isTakings_0 : decode cX2_isTakings 0 = .ok (.aload_n 0, 1) := dk_42 (dk_at dksX2_isTakings_0 0 rfl rfl)
theorem dX2_isTakings_1 : decode cX2_isTakings 1 = .ok (.getfield 115, 3) := dk_180 0 115 (dk_at dksX2_isTakings_0 1 rfl rfl)
theorem dX2_isTakings_4 : decode cX2_isTakings 4 = .ok (.iconst 2, 1) := dk_5 (dk_at dksX2_isTakings_0 4 rfl rfl)
theorem dX2_isTakings_5 : decode cX2_isTakings 5 = .ok (.if_icmp .ne 124, 3) := dk_160 0 124 (dk_at dksX2_isTakings_0 5 rfl rfl)
theorem dX2_isTakings_8 : decode cX2_isTakings 8 = .ok (.aload_n 0, 1) := dk_42 (dk_at dksX2_isTakings_0 8 rfl rfl)
theorem dX2_isTakings_9 : decode cX2_isTakings 9 = .ok (.getfield 106, 3) := dk_180 0 106 (dk_at dksX2_isTakings_0 9 rfl rfl)
theorem dX2_isTakings_12 : decode cX2_isTakings 12 = .ok (.aload_n 0, 1) := dk_42 (dk_at dksX2_isTakings_0 12 rfl rfl)
theorem dX2_isTakings_13 : decode cX2_isTakings 13 = .ok (.getfield 112, 3) := dk_180 0 112 (dk_at dksX2_isTakings_0 13 rfl rfl)
theorem dX2_isTakings_16 : decode cX2_isTakings 16 = .ok (.isub, 1) := dk_100 (dk_at dksX2_isTakings_0 16 rfl rfl)
theorem dX2_isTakings_17 : decode cX2_isTakings 17 = .ok (.bipush 7, 2) := dk_16 7 (dk_at dksX2_isTakings_0 17 rfl rfl)
theorem dX2_isTakings_19 : decode cX2_isTakings 19 = .ok (.if_icmp .ne 110, 3) := dk_160 0 110 (dk_at dksX2_isTakings_0 19 rfl rfl)
theorem dX2_isTakings_22 : decode cX2_isTakings 22 = .ok (.aload_n 0, 1) := dk_42 (dk_at dksX2_isTakings_0 22 rfl rfl)
theorem dX2_isTakings_23 : decode cX2_isTakings 23 = .ok (.aload_n 0, 1) := dk_42 (dk_at dksX2_isTakings_0 23 rfl rfl)
theorem dX2_isTakings_24 : decode cX2_isTakings 24 = .ok (.getfield 112, 3) := dk_180 0 112 (dk_at dksX2_isTakings_1 0 rfl rfl)
theorem dX2_isTakings_27 : decode cX2_isTakings 27 = .ok (.invokevirtual 109, 3) := dk_182 0 109 (dk_at dksX2_isTakings_1 3 rfl rfl)
theorem dX2_isTakings_30 : decode cX2_isTakings 30 = .ok (.aload_n 0, 1) := dk_42 (dk_at dksX2_isTakings_1 6 rfl rfl)
theorem dX2_isTakings_31 : decode cX2_isTakings 31 = .ok (.aload_n 0, 1) := dk_42 (dk_at dksX2_isTakings_1 7 rfl rfl)
theorem dX2_isTakings_32 : decode cX2_isTakings 32 = .ok (.getfield 112, 3) := dk_180 0 112 (dk_at dksX2_isTakings_1 8 rfl rfl)
theorem dX2_isTakings_35 : decode cX2_isTakings 35 = .ok (.iconst 1, 1) := dk_4 (dk_at dksX2_isTakings_1 11 rfl rfl)
theorem dX2_isTakings_36 : decode cX2_isTakings 36 = .ok (.iadd, 1) := dk_96 (dk_at dksX2_isTakings_1 12 rfl rfl)
theorem dX2_isTakings_37 : decode cX2_isTakings 37 = .ok (.invokevirtual 109, 3) := dk_182 0 109 (dk_at dksX2_isTakings_1 13 rfl rfl)
theorem dX2_isTakings_40 : decode cX2_isTakings 40 = .ok (.aload_n 0, 1) := dk_42 (dk_at dksX2_isTakings_1 16 rfl rfl)
theorem dX2_isTakings_41 : decode cX2_isTakings 41 = .ok (.aload_n 0, 1) := dk_42 (dk_at dksX2_isTakings_1 17 rfl rfl)
theorem dX2_isTakings_42 : decode cX2_isTakings 42 = .ok (.getfield 112, 3) := dk_180 0 112 (dk_at dksX2_isTakings_1 18 rfl rfl)
theorem dX2_isTakings_45 : decode cX2_isTakings 45 = .ok (.iconst 2, 1) := dk_5 (dk_at dksX2_isTakings_1 21 rfl rfl)
theorem dX2_isTakings_46 : decode cX2_isTakings 46 = .ok (.iadd, 1) := dk_96 (dk_at dksX2_isTakings_1 22 rfl rfl)
theorem dX2_isTakings_47 : decode cX2_isTakings 47 = .ok (.invokevirtual 109, 3) := dk_182 0 109 (dk_at dksX2_isTakings_2 0 rfl rfl)
theorem dX2_isTakings_50 : decode cX2_isTakings 50 = .ok (.aload_n 0, 1) := dk_42 (dk_at dksX2_isTakings_2 3 rfl rfl)
theorem dX2_isTakings_51 : decode cX2_isTakings 51 = .ok (.aload_n 0, 1) := dk_42 (dk_at dksX2_isTakings_2 4 rfl rfl)
theorem dX2_isTakings_52 : decode cX2_isTakings 52 = .ok (.getfield 112, 3) := dk_180 0 112 (dk_at dksX2_isTakings_2 5 rfl rfl)
theorem dX2_isTakings_55 : decode cX2_isTakings 55 = .ok (.iconst 3, 1) := dk_6 (dk_at dksX2_isTakings_2 8 rfl rfl)
theorem dX2_isTakings_56 : decode cX2_isTakings 56 = .ok (.iadd, 1) := dk_96 (dk_at dksX2_isTakings_2 9 rfl rfl)
theorem dX2_isTakings_57 : decode cX2_isTakings 57 = .ok (.invokevirtual 109, 3) := dk_182 0 109 (dk_at dksX2_isTakings_2 10 rfl rfl)
theorem dX2_isTakings_60 : decode cX2_isTakings 60 = .ok (.invokestatic 145, 3) := dk_184 0 145 (dk_at dksX2_isTakings_2 13 rfl rfl)
theorem dX2_isTakings_63 : decode cX2_isTakings 63 = .ok (.bipush 116, 2) := dk_16 116 (dk_at dksX2_isTakings_2 16 rfl rfl)
theorem dX2_isTakings_65 : decode cX2_isTakings 65 = .ok (.bipush 97, 2) := dk_16 97 (dk_at dksX2_isTakings_2 18 rfl rfl)
theorem dX2_isTakings_67 : decode cX2_isTakings 67 = .ok (.bipush 107, 2) := dk_16 107 (dk_at dksX2_isTakings_2 20 rfl rfl)
theorem dX2_isTakings_69 : decode cX2_isTakings 69 = .ok (.bipush 105, 2) := dk_16 105 (dk_at dksX2_isTakings_2 22 rfl rfl)
theorem dX2_isTakings_71 : decode cX2_isTakings 71 = .ok (.invokestatic 145, 3) := dk_184 0 145 (dk_at dksX2_isTakings_3 0 rfl rfl)
theorem dX2_isTakings_74 : decode cX2_isTakings 74 = .ok (.lcmp, 1) := dk_148 (dk_at dksX2_isTakings_3 3 rfl rfl)
theorem dX2_isTakings_75 : decode cX2_isTakings 75 = .ok (.ifCond .ne 54, 3) := dk_154 0 54 (dk_at dksX2_isTakings_3 4 rfl rfl)
theorem dX2_isTakings_78 : decode cX2_isTakings 78 = .ok (.aload_n 0, 1) := dk_42 (dk_at dksX2_isTakings_3 7 rfl rfl)
theorem dX2_isTakings_79 : decode cX2_isTakings 79 = .ok (.aload_n 0, 1) := dk_42 (dk_at dksX2_isTakings_3 8 rfl rfl)
theorem dX2_isTakings_80 : decode cX2_isTakings 80 = .ok (.getfield 112, 3) := dk_180 0 112 (dk_at dksX2_isTakings_3 9 rfl rfl)
theorem dX2_isTakings_83 : decode cX2_isTakings 83 = .ok (.iconst 4, 1) := dk_7 (dk_at dksX2_isTakings_3 12 rfl rfl)
theorem dX2_isTakings_84 : decode cX2_isTakings 84 = .ok (.iadd, 1) := dk_96 (dk_at dksX2_isTakings_3 13 rfl rfl)
theorem dX2_isTakings_85 : decode cX2_isTakings 85 = .ok (.invokevirtual 109, 3) := dk_182 0 109 (dk_at dksX2_isTakings_3 14 rfl rfl)
theorem dX2_isTakings_88 : decode cX2_isTakings 88 = .ok (.aload_n 0, 1) := dk_42 (dk_at dksX2_isTakings_3 17 rfl rfl)
theorem dX2_isTakings_89 : decode cX2_isTakings 89 = .ok (.aload_n 0, 1) := dk_42 (dk_at dksX2_isTakings_3 18 rfl rfl)
theorem dX2_isTakings_90 : decode cX2_isTakings 90 = .ok (.getfield 112, 3) := dk_180 0 112 (dk_at dksX2_isTakings_3 19 rfl rfl)
theorem dX2_isTakings_93 : decode cX2_isTakings 93 = .ok (.iconst 5, 1) := dk_8 (dk_at dksX2_isTakings_3 22 rfl rfl)
theorem dX2_isTakings_94 : decode cX2_isTakings 94 = .ok (.iadd, 1) := dk_96 (dk_at dksX2_isTakings_3 23 rfl rfl)
theorem dX2_isTakings_95 : decode cX2_isTakings 95 = .ok (.invokevirtual 109, 3) := dk_182 0 109 (dk_at dksX2_isTakings_4 0 rfl rfl)
theorem dX2_isTakings_98 : decode cX2_isTakings 98 = .ok (.aload_n 0, 1) := dk_42 (dk_at dksX2_isTakings_4 3 rfl rfl)
theorem dX2_isTakings_99 : decode cX2_isTakings 99 = .ok (.aload_n 0, 1) := dk_42 (dk_at dksX2_isTakings_4 4 rfl rfl)
theorem dX2_isTakings_100 : decode cX2_isTakings 100 = .ok (.getfield 112, 3) := dk_180 0 112 (dk_at dksX2_isTakings_4 5 rfl rfl)
theorem dX2_isTakings_103 : decode cX2_isTakings 103 = .ok (.bipush 6, 2) := dk_16 6 (dk_at dksX2_isTakings_4 8 rfl rfl)
theorem dX2_isTakings_105 : decode cX2_isTakings 105 = .ok (.iadd, 1) := dk_96 (dk_at dksX2_isTakings_4 10 rfl rfl)
theorem dX2_isTakings_106 : decode cX2_isTakings 106 = .ok (.invokevirtual 109, 3) := dk_182 0 109 (dk_at dksX2_isTakings_4 11 rfl rfl)
theorem dX2_isTakings_109 : decode cX2_isTakings 109 = .ok (.invokestatic 141, 3) := dk_184 0 141 (dk_at dksX2_isTakings_4 14 rfl rfl)
theorem dX2_isTakings_112 : decode cX2_isTakings 112 = .ok (.bipush 110, 2) := dk_16 110 (dk_at dksX2_isTakings_4 17 rfl rfl)
theorem dX2_isTakings_114 : decode cX2_isTakings 114 = .ok (.bipush 103, 2) := dk_16 103 (dk_at dksX2_isTakings_4 19 rfl rfl)
theorem dX2_isTakings_116 : decode cX2_isTakings 116 = .ok (.bipush 115, 2) := dk_16 115 (dk_at dksX2_isTakings_4 21 rfl rfl)
theorem dX2_isTakings_118 : decode cX2_isTakings 118 = .ok (.invokestatic 141, 3) := dk_184 0 141 (dk_at dksX2_isTakings_5 0 rfl rfl)
theorem dX2_isTakings_121 : decode cX2_isTakings 121 = .ok (.lcmp, 1) := dk_148 (dk_at dksX2_isTakings_5 3 rfl rfl)
theorem dX2_isTakings_122 : decode cX2_isTakings 122 = .ok (.ifCond .ne 7, 3) := dk_154 0 7 (dk_at dksX2_isTakings_5 4 rfl rfl)
theorem dX2_isTakings_125 : decode cX2_isTakings 125 = .ok (.iconst 1, 1) := dk_4 (dk_at dksX2_isTakings_5 7 rfl rfl)
theorem dX2_isTakings_126 : decode cX2_isTakings 126 = .ok (.goto 4, 3) := dk_167 0 4 (dk_at dksX2_isTakings_5 8 rfl rfl)
theorem dX2_isTakings_129 : decode cX2_isTakings 129 = .ok (.iconst 0, 1) := dk_3 (dk_at dksX2_isTakings_5 11 rfl rfl)
theorem dX2_isTakings_130 : decode cX2_isTakings 130 = .ok (.ireturn, 1) := dk_172 (dk_at dksX2_isTakings_5 12 rfl rfl)
abbrev cX2_isOf : ByteArray := prog_19_method_34_code
def yX2_isOf : MethodName := ⟨RX2, "isOf", "(I)Z"⟩
def dkwX2_isOf_1 : List UInt8 := [180, 0, 163, 5, 160, 0, 7, 4, 167, 0, 4, 3, 172]
abbrev dktX2_isOf_1 : List UInt8 := dkwX2_isOf_1 ++ []
def dkwX2_isOf_0 : List UInt8 := [27, 8, 161, 0, 27, 27, 8, 160, 0, 14, 42, 180, 0, 163, 5, 159, 0, 18, 167, 0, 11, 42]
abbrev dktX2_isOf_0 : List UInt8 := dkwX2_isOf_0 ++ dktX2_isOf_1
theorem dksX2_isOf_0 : cX2_isOf.data.toList.drop 0 = dktX2_isOf_0 := by decide +kernel
theorem dksX2_isOf_1 : cX2_isOf.data.toList.drop 22 = dktX2_isOf_1 := dk_seg dksX2_isOf_0 22 rfl rfl
theorem dX2_isOf_0 : decode cX2_isOf 0 = .ok (.iload_n 1, 1) := dk_27 (dk_at dksX2_isOf_0 0 rfl rfl)
theorem dX2_isOf_1 : decode cX2_isOf 1 = .ok (.iconst 5, 1) := dk_8 (dk_at dksX2_isOf_0 1 rfl rfl)
theorem dX2_isOf_2 : decode cX2_isOf 2 = .ok (.if_icmp .lt 27, 3) := dk_161 0 27 (dk_at dksX2_isOf_0 2 rfl rfl)
theorem dX2_isOf_5 : decode cX2_isOf 5 = .ok (.iload_n 1, 1) := dk_27 (dk_at dksX2_isOf_0 5 rfl rfl)
theorem dX2_isOf_6 : decode cX2_isOf 6 = .ok (.iconst 5, 1) := dk_8 (dk_at dksX2_isOf_0 6 rfl rfl)
theorem dX2_isOf_7 : decode cX2_isOf 7 = .ok (.if_icmp .ne 14, 3) := dk_160 0 14 (dk_at dksX2_isOf_0 7 rfl rfl)
theorem dX2_isOf_10 : decode cX2_isOf 10 = .ok (.aload_n 0, 1) := dk_42 (dk_at dksX2_isOf_0 10 rfl rfl)
theorem dX2_isOf_11 : decode cX2_isOf 11 = .ok (.getfield 163, 3) := dk_180 0 163 (dk_at dksX2_isOf_0 11 rfl rfl)
theorem dX2_isOf_14 : decode cX2_isOf 14 = .ok (.iconst 2, 1) := dk_5 (dk_at dksX2_isOf_0 14 rfl rfl)
theorem dX2_isOf_15 : decode cX2_isOf 15 = .ok (.if_icmp .eq 18, 3) := dk_159 0 18 (dk_at dksX2_isOf_0 15 rfl rfl)
theorem dX2_isOf_18 : decode cX2_isOf 18 = .ok (.goto 11, 3) := dk_167 0 11 (dk_at dksX2_isOf_0 18 rfl rfl)
theorem dX2_isOf_21 : decode cX2_isOf 21 = .ok (.aload_n 0, 1) := dk_42 (dk_at dksX2_isOf_0 21 rfl rfl)
theorem dX2_isOf_22 : decode cX2_isOf 22 = .ok (.getfield 163, 3) := dk_180 0 163 (dk_at dksX2_isOf_1 0 rfl rfl)
theorem dX2_isOf_25 : decode cX2_isOf 25 = .ok (.iconst 2, 1) := dk_5 (dk_at dksX2_isOf_1 3 rfl rfl)
theorem dX2_isOf_26 : decode cX2_isOf 26 = .ok (.if_icmp .ne 7, 3) := dk_160 0 7 (dk_at dksX2_isOf_1 4 rfl rfl)
theorem dX2_isOf_29 : decode cX2_isOf 29 = .ok (.iconst 1, 1) := dk_4 (dk_at dksX2_isOf_1 7 rfl rfl)
theorem dX2_isOf_30 : decode cX2_isOf 30 = .ok (.goto 4, 3) := dk_167 0 4 (dk_at dksX2_isOf_1 8 rfl rfl)
theorem dX2_isOf_33 : decode cX2_isOf 33 = .ok (.iconst 0, 1) := dk_3 (dk_at dksX2_isOf_1 11 rfl rfl)
theorem dX2_isOf_34 : decode cX2_isOf 34 = .ok (.ireturn, 1) := dk_172 (dk_at dksX2_isOf_1 12 rfl rfl)
abbrev cX2_opened : ByteArray := prog_19_method_41_code
def yX2_opened : MethodName := ⟨RX2, "opened", "(I)I"⟩
def dkwX2_opened_2 : List UInt8 := [172]
abbrev dktX2_opened_2 : List UInt8 := dkwX2_opened_2 ++ []
def dkwX2_opened_1 : List UInt8 := [180, 0, 29, 42, 180, 0, 166, 27, 79, 42, 89, 180, 0, 166, 4, 96, 181, 0, 166, 42, 182, 0, 186, 3]
abbrev dktX2_opened_1 : List UInt8 := dkwX2_opened_1 ++ dktX2_opened_2
def dkwX2_opened_0 : List UInt8 := [42, 180, 0, 176, 16, 8, 160, 0, 5, 6, 172, 42, 89, 180, 0, 176, 4, 96, 181, 0, 176, 42]
abbrev dktX2_opened_0 : List UInt8 := dkwX2_opened_0 ++ dktX2_opened_1
theorem dksX2_opened_0 : cX2_opened.data.toList.drop 0 = dktX2_opened_0 := by decide +kernel
theorem dksX2_opened_1 : cX2_opened.data.toList.drop 22 = dktX2_opened_1 := dk_seg dksX2_opened_0 22 rfl rfl
theorem dksX2_opened_2 : cX2_opened.data.toList.drop 46 = dktX2_opened_2 := dk_seg dksX2_opened_1 24 rfl rfl
theorem dX2_opened_0 : decode cX2_opened 0 = .ok (.aload_n 0, 1) := dk_42 (dk_at dksX2_opened_0 0 rfl rfl)
theorem dX2_opened_1 : decode cX2_opened 1 = .ok (.getfield 176, 3) := dk_180 0 176 (dk_at dksX2_opened_0 1 rfl rfl)
theorem dX2_opened_4 : decode cX2_opened 4 = .ok (.bipush 8, 2) := dk_16 8 (dk_at dksX2_opened_0 4 rfl rfl)
theorem dX2_opened_6 : decode cX2_opened 6 = .ok (.if_icmp .ne 5, 3) := dk_160 0 5 (dk_at dksX2_opened_0 6 rfl rfl)
theorem dX2_opened_9 : decode cX2_opened 9 = .ok (.iconst 3, 1) := dk_6 (dk_at dksX2_opened_0 9 rfl rfl)
theorem dX2_opened_10 : decode cX2_opened 10 = .ok (.ireturn, 1) := dk_172 (dk_at dksX2_opened_0 10 rfl rfl)
theorem dX2_opened_11 : decode cX2_opened 11 = .ok (.aload_n 0, 1) := dk_42 (dk_at dksX2_opened_0 11 rfl rfl)
theorem dX2_opened_12 : decode cX2_opened 12 = .ok (.dup, 1) := dk_89 (dk_at dksX2_opened_0 12 rfl rfl)
theorem dX2_opened_13 : decode cX2_opened 13 = .ok (.getfield 176, 3) := dk_180 0 176 (dk_at dksX2_opened_0 13 rfl rfl)
theorem dX2_opened_16 : decode cX2_opened 16 = .ok (.iconst 1, 1) := dk_4 (dk_at dksX2_opened_0 16 rfl rfl)
theorem dX2_opened_17 : decode cX2_opened 17 = .ok (.iadd, 1) := dk_96 (dk_at dksX2_opened_0 17 rfl rfl)
theorem dX2_opened_18 : decode cX2_opened 18 = .ok (.putfield 176, 3) := dk_181 0 176 (dk_at dksX2_opened_0 18 rfl rfl)
theorem dX2_opened_21 : decode cX2_opened 21 = .ok (.aload_n 0, 1) := dk_42 (dk_at dksX2_opened_0 21 rfl rfl)
theorem dX2_opened_22 : decode cX2_opened 22 = .ok (.getfield 29, 3) := dk_180 0 29 (dk_at dksX2_opened_1 0 rfl rfl)
theorem dX2_opened_25 : decode cX2_opened 25 = .ok (.aload_n 0, 1) := dk_42 (dk_at dksX2_opened_1 3 rfl rfl)
theorem dX2_opened_26 : decode cX2_opened 26 = .ok (.getfield 166, 3) := dk_180 0 166 (dk_at dksX2_opened_1 4 rfl rfl)
theorem dX2_opened_29 : decode cX2_opened 29 = .ok (.iload_n 1, 1) := dk_27 (dk_at dksX2_opened_1 7 rfl rfl)
theorem dX2_opened_30 : decode cX2_opened 30 = .ok (.iastore, 1) := dk_79 (dk_at dksX2_opened_1 8 rfl rfl)
theorem dX2_opened_31 : decode cX2_opened 31 = .ok (.aload_n 0, 1) := dk_42 (dk_at dksX2_opened_1 9 rfl rfl)
theorem dX2_opened_32 : decode cX2_opened 32 = .ok (.dup, 1) := dk_89 (dk_at dksX2_opened_1 10 rfl rfl)
theorem dX2_opened_33 : decode cX2_opened 33 = .ok (.getfield 166, 3) := dk_180 0 166 (dk_at dksX2_opened_1 11 rfl rfl)
theorem dX2_opened_36 : decode cX2_opened 36 = .ok (.iconst 1, 1) := dk_4 (dk_at dksX2_opened_1 14 rfl rfl)
theorem dX2_opened_37 : decode cX2_opened 37 = .ok (.iadd, 1) := dk_96 (dk_at dksX2_opened_1 15 rfl rfl)
theorem dX2_opened_38 : decode cX2_opened 38 = .ok (.putfield 166, 3) := dk_181 0 166 (dk_at dksX2_opened_1 16 rfl rfl)
theorem dX2_opened_41 : decode cX2_opened 41 = .ok (.aload_n 0, 1) := dk_42 (dk_at dksX2_opened_1 19 rfl rfl)
theorem dX2_opened_42 : decode cX2_opened 42 = .ok (.invokevirtual 186, 3) := dk_182 0 186 (dk_at dksX2_opened_1 20 rfl rfl)
theorem dX2_opened_45 : decode cX2_opened 45 = .ok (.iconst 0, 1) := dk_3 (dk_at dksX2_opened_1 23 rfl rfl)
theorem dX2_opened_46 : decode cX2_opened 46 = .ok (.ireturn, 1) := dk_172 (dk_at dksX2_opened_2 0 rfl rfl)
abbrev cX2_isAskAhead : ByteArray := prog_19_method_40_code
def yX2_isAskAhead : MethodName := ⟨RX2, "isAskAhead", "()Z"⟩
def dkwX2_isAskAhead_2 : List UInt8 := [153, 0, 7, 4, 167, 0, 4, 3, 172]
abbrev dktX2_isAskAhead_2 : List UInt8 := dkwX2_isAskAhead_2 ++ []
def dkwX2_isAskAhead_1 : List UInt8 := [162, 0, 25, 42, 180, 0, 29, 42, 180, 0, 166, 4, 100, 46, 184, 0, 169, 4, 6, 184, 0, 73]
abbrev dktX2_isAskAhead_1 : List UInt8 := dkwX2_isAskAhead_1 ++ dktX2_isAskAhead_2
def dkwX2_isAskAhead_0 : List UInt8 := [42, 182, 0, 183, 16, 42, 160, 0, 45, 42, 180, 0, 29, 42, 180, 0, 166, 4, 100, 46, 16, 40]
abbrev dktX2_isAskAhead_0 : List UInt8 := dkwX2_isAskAhead_0 ++ dktX2_isAskAhead_1
theorem dksX2_isAskAhead_0 : cX2_isAskAhead.data.toList.drop 0 = dktX2_isAskAhead_0 := by decide +kernel
theorem dksX2_isAskAhead_1 : cX2_isAskAhead.data.toList.drop 22 = dktX2_isAskAhead_1 := dk_seg dksX2_isAskAhead_0 22 rfl rfl
theorem dksX2_isAskAhead_2 : cX2_isAskAhead.data.toList.drop 44 = dktX2_isAskAhead_2 := dk_seg dksX2_isAskAhead_1 22 rfl rfl
theorem dX2_isAskAhead_0 : decode cX2_isAskAhead 0 = .ok (.aload_n 0, 1) := dk_42 (dk_at dksX2_isAskAhead_0 0 rfl rfl)
theorem dX2_isAskAhead_1 : decode cX2_isAskAhead 1 = .ok (.invokevirtual 183, 3) := dk_182 0 183 (dk_at dksX2_isAskAhead_0 1 rfl rfl)
theorem dX2_isAskAhead_4 : decode cX2_isAskAhead 4 = .ok (.bipush 42, 2) := dk_16 42 (dk_at dksX2_isAskAhead_0 4 rfl rfl)
theorem dX2_isAskAhead_6 : decode cX2_isAskAhead 6 = .ok (.if_icmp .ne 45, 3) := dk_160 0 45 (dk_at dksX2_isAskAhead_0 6 rfl rfl)
theorem dX2_isAskAhead_9 : decode cX2_isAskAhead 9 = .ok (.aload_n 0, 1) := dk_42 (dk_at dksX2_isAskAhead_0 9 rfl rfl)
theorem dX2_isAskAhead_10 : decode cX2_isAskAhead 10 = .ok (.getfield 29, 3) := dk_180 0 29 (dk_at dksX2_isAskAhead_0 10 rfl rfl)
theorem dX2_isAskAhead_13 : decode cX2_isAskAhead 13 = .ok (.aload_n 0, 1) := dk_42 (dk_at dksX2_isAskAhead_0 13 rfl rfl)
theorem dX2_isAskAhead_14 : decode cX2_isAskAhead 14 = .ok (.getfield 166, 3) := dk_180 0 166 (dk_at dksX2_isAskAhead_0 14 rfl rfl)
theorem dX2_isAskAhead_17 : decode cX2_isAskAhead 17 = .ok (.iconst 1, 1) := dk_4 (dk_at dksX2_isAskAhead_0 17 rfl rfl)
theorem dX2_isAskAhead_18 : decode cX2_isAskAhead 18 = .ok (.isub, 1) := dk_100 (dk_at dksX2_isAskAhead_0 18 rfl rfl)
theorem dX2_isAskAhead_19 : decode cX2_isAskAhead 19 = .ok (.iaload, 1) := dk_46 (dk_at dksX2_isAskAhead_0 19 rfl rfl)
theorem dX2_isAskAhead_20 : decode cX2_isAskAhead 20 = .ok (.bipush 40, 2) := dk_16 40 (dk_at dksX2_isAskAhead_0 20 rfl rfl)
theorem dX2_isAskAhead_22 : decode cX2_isAskAhead 22 = .ok (.if_icmp .ge 25, 3) := dk_162 0 25 (dk_at dksX2_isAskAhead_1 0 rfl rfl)
theorem dX2_isAskAhead_25 : decode cX2_isAskAhead 25 = .ok (.aload_n 0, 1) := dk_42 (dk_at dksX2_isAskAhead_1 3 rfl rfl)
theorem dX2_isAskAhead_26 : decode cX2_isAskAhead 26 = .ok (.getfield 29, 3) := dk_180 0 29 (dk_at dksX2_isAskAhead_1 4 rfl rfl)
theorem dX2_isAskAhead_29 : decode cX2_isAskAhead 29 = .ok (.aload_n 0, 1) := dk_42 (dk_at dksX2_isAskAhead_1 7 rfl rfl)
theorem dX2_isAskAhead_30 : decode cX2_isAskAhead 30 = .ok (.getfield 166, 3) := dk_180 0 166 (dk_at dksX2_isAskAhead_1 8 rfl rfl)
theorem dX2_isAskAhead_33 : decode cX2_isAskAhead 33 = .ok (.iconst 1, 1) := dk_4 (dk_at dksX2_isAskAhead_1 11 rfl rfl)
theorem dX2_isAskAhead_34 : decode cX2_isAskAhead 34 = .ok (.isub, 1) := dk_100 (dk_at dksX2_isAskAhead_1 12 rfl rfl)
theorem dX2_isAskAhead_35 : decode cX2_isAskAhead 35 = .ok (.iaload, 1) := dk_46 (dk_at dksX2_isAskAhead_1 13 rfl rfl)
theorem dX2_isAskAhead_36 : decode cX2_isAskAhead 36 = .ok (.invokestatic 169, 3) := dk_184 0 169 (dk_at dksX2_isAskAhead_1 14 rfl rfl)
theorem dX2_isAskAhead_39 : decode cX2_isAskAhead 39 = .ok (.iconst 1, 1) := dk_4 (dk_at dksX2_isAskAhead_1 17 rfl rfl)
theorem dX2_isAskAhead_40 : decode cX2_isAskAhead 40 = .ok (.iconst 3, 1) := dk_6 (dk_at dksX2_isAskAhead_1 18 rfl rfl)
theorem dX2_isAskAhead_41 : decode cX2_isAskAhead 41 = .ok (.invokestatic 73, 3) := dk_184 0 73 (dk_at dksX2_isAskAhead_1 19 rfl rfl)
theorem dX2_isAskAhead_44 : decode cX2_isAskAhead 44 = .ok (.ifCond .eq 7, 3) := dk_153 0 7 (dk_at dksX2_isAskAhead_2 0 rfl rfl)
theorem dX2_isAskAhead_47 : decode cX2_isAskAhead 47 = .ok (.iconst 1, 1) := dk_4 (dk_at dksX2_isAskAhead_2 3 rfl rfl)
theorem dX2_isAskAhead_48 : decode cX2_isAskAhead 48 = .ok (.goto 4, 3) := dk_167 0 4 (dk_at dksX2_isAskAhead_2 4 rfl rfl)
theorem dX2_isAskAhead_51 : decode cX2_isAskAhead 51 = .ok (.iconst 0, 1) := dk_3 (dk_at dksX2_isAskAhead_2 7 rfl rfl)
theorem dX2_isAskAhead_52 : decode cX2_isAskAhead 52 = .ok (.ireturn, 1) := dk_172 (dk_at dksX2_isAskAhead_2 8 rfl rfl)
abbrev cX2_fault : ByteArray := prog_19_method_57_code
def yX2_fault : MethodName := ⟨RX2, "fault", "(I)I"⟩
def dkwX2_fault_1 : List UInt8 := [172]
abbrev dktX2_fault_1 : List UInt8 := dkwX2_fault_1 ++ []
def dkwX2_fault_0 : List UInt8 := [27, 154, 0, 10, 42, 180, 0, 22, 167, 0, 16, 27, 4, 160, 0, 10, 42, 180, 0, 26, 167, 0, 4, 2]
abbrev dktX2_fault_0 : List UInt8 := dkwX2_fault_0 ++ dktX2_fault_1
theorem dksX2_fault_0 : cX2_fault.data.toList.drop 0 = dktX2_fault_0 := by decide +kernel
theorem dksX2_fault_1 : cX2_fault.data.toList.drop 24 = dktX2_fault_1 := dk_seg dksX2_fault_0 24 rfl rfl
theorem dX2_fault_0 : decode cX2_fault 0 = .ok (.iload_n 1, 1) := dk_27 (dk_at dksX2_fault_0 0 rfl rfl)
theorem dX2_fault_1 : decode cX2_fault 1 = .ok (.ifCond .ne 10, 3) := dk_154 0 10 (dk_at dksX2_fault_0 1 rfl rfl)
theorem dX2_fault_4 : decode cX2_fault 4 = .ok (.aload_n 0, 1) := dk_42 (dk_at dksX2_fault_0 4 rfl rfl)
theorem dX2_fault_5 : decode cX2_fault 5 = .ok (.getfield 22, 3) := dk_180 0 22 (dk_at dksX2_fault_0 5 rfl rfl)
theorem dX2_fault_8 : decode cX2_fault 8 = .ok (.goto 16, 3) := dk_167 0 16 (dk_at dksX2_fault_0 8 rfl rfl)
theorem dX2_fault_11 : decode cX2_fault 11 = .ok (.iload_n 1, 1) := dk_27 (dk_at dksX2_fault_0 11 rfl rfl)
theorem dX2_fault_12 : decode cX2_fault 12 = .ok (.iconst 1, 1) := dk_4 (dk_at dksX2_fault_0 12 rfl rfl)
theorem dX2_fault_13 : decode cX2_fault 13 = .ok (.if_icmp .ne 10, 3) := dk_160 0 10 (dk_at dksX2_fault_0 13 rfl rfl)
theorem dX2_fault_16 : decode cX2_fault 16 = .ok (.aload_n 0, 1) := dk_42 (dk_at dksX2_fault_0 16 rfl rfl)
theorem dX2_fault_17 : decode cX2_fault 17 = .ok (.getfield 26, 3) := dk_180 0 26 (dk_at dksX2_fault_0 17 rfl rfl)
theorem dX2_fault_20 : decode cX2_fault 20 = .ok (.goto 4, 3) := dk_167 0 4 (dk_at dksX2_fault_0 20 rfl rfl)
theorem dX2_fault_23 : decode cX2_fault 23 = .ok (.iconst (-1), 1) := dk_2 (dk_at dksX2_fault_0 23 rfl rfl)
theorem dX2_fault_24 : decode cX2_fault 24 = .ok (.ireturn, 1) := dk_172 (dk_at dksX2_fault_1 0 rfl rfl)
abbrev cX2_by : ByteArray := prog_19_method_58_code
def yX2_by : MethodName := ⟨RX2, "by", "(I)Z"⟩
def dkwX2_by_1 : List UInt8 := [79, 4, 172]
abbrev dktX2_by_1 : List UInt8 := dkwX2_by_1 ++ []
def dkwX2_by_0 : List UInt8 := [27, 2, 42, 180, 0, 7, 4, 46, 4, 100, 184, 0, 73, 154, 0, 5, 3, 172, 42, 180, 0, 7, 5, 27]
abbrev dktX2_by_0 : List UInt8 := dkwX2_by_0 ++ dktX2_by_1
theorem dksX2_by_0 : cX2_by.data.toList.drop 0 = dktX2_by_0 := by decide +kernel
theorem dksX2_by_1 : cX2_by.data.toList.drop 24 = dktX2_by_1 := dk_seg dksX2_by_0 24 rfl rfl
theorem dX2_by_0 : decode cX2_by 0 = .ok (.iload_n 1, 1) := dk_27 (dk_at dksX2_by_0 0 rfl rfl)
theorem dX2_by_1 : decode cX2_by 1 = .ok (.iconst (-1), 1) := dk_2 (dk_at dksX2_by_0 1 rfl rfl)
theorem dX2_by_2 : decode cX2_by 2 = .ok (.aload_n 0, 1) := dk_42 (dk_at dksX2_by_0 2 rfl rfl)
theorem dX2_by_3 : decode cX2_by 3 = .ok (.getfield 7, 3) := dk_180 0 7 (dk_at dksX2_by_0 3 rfl rfl)
theorem dX2_by_6 : decode cX2_by 6 = .ok (.iconst 1, 1) := dk_4 (dk_at dksX2_by_0 6 rfl rfl)
theorem dX2_by_7 : decode cX2_by 7 = .ok (.iaload, 1) := dk_46 (dk_at dksX2_by_0 7 rfl rfl)
theorem dX2_by_8 : decode cX2_by 8 = .ok (.iconst 1, 1) := dk_4 (dk_at dksX2_by_0 8 rfl rfl)
theorem dX2_by_9 : decode cX2_by 9 = .ok (.isub, 1) := dk_100 (dk_at dksX2_by_0 9 rfl rfl)
theorem dX2_by_10 : decode cX2_by 10 = .ok (.invokestatic 73, 3) := dk_184 0 73 (dk_at dksX2_by_0 10 rfl rfl)
theorem dX2_by_13 : decode cX2_by 13 = .ok (.ifCond .ne 5, 3) := dk_154 0 5 (dk_at dksX2_by_0 13 rfl rfl)
theorem dX2_by_16 : decode cX2_by 16 = .ok (.iconst 0, 1) := dk_3 (dk_at dksX2_by_0 16 rfl rfl)
theorem dX2_by_17 : decode cX2_by 17 = .ok (.ireturn, 1) := dk_172 (dk_at dksX2_by_0 17 rfl rfl)
theorem dX2_by_18 : decode cX2_by 18 = .ok (.aload_n 0, 1) := dk_42 (dk_at dksX2_by_0 18 rfl rfl)
theorem dX2_by_19 : decode cX2_by 19 = .ok (.getfield 7, 3) := dk_180 0 7 (dk_at dksX2_by_0 19 rfl rfl)
theorem dX2_by_22 : decode cX2_by 22 = .ok (.iconst 2, 1) := dk_5 (dk_at dksX2_by_0 22 rfl rfl)
theorem dX2_by_23 : decode cX2_by 23 = .ok (.iload_n 1, 1) := dk_27 (dk_at dksX2_by_0 23 rfl rfl)
theorem dX2_by_24 : decode cX2_by 24 = .ok (.iastore, 1) := dk_79 (dk_at dksX2_by_1 0 rfl rfl)
theorem dX2_by_25 : decode cX2_by 25 = .ok (.iconst 1, 1) := dk_4 (dk_at dksX2_by_1 1 rfl rfl)
theorem dX2_by_26 : decode cX2_by 26 = .ok (.ireturn, 1) := dk_172 (dk_at dksX2_by_1 2 rfl rfl)
abbrev cX2_undo : ByteArray := prog_19_method_76_code
def yX2_undo : MethodName := ⟨RX2, "undo", "()I"⟩
def dkwX2_undo_7 : List UInt8 := [96, 28, 96, 46, 79, 132, 2, 1, 167, 255, 226, 42, 180, 0, 7, 6, 46, 172]
abbrev dktX2_undo_7 : List UInt8 := dkwX2_undo_7 ++ []
def dkwX2_undo_6 : List UInt8 := [3, 61, 28, 16, 30, 162, 0, 30, 42, 180, 0, 7, 17, 7, 208, 28, 96, 42, 180, 0, 7, 27, 16, 29]
abbrev dktX2_undo_6 : List UInt8 := dkwX2_undo_6 ++ dktX2_undo_7
def dkwX2_undo_5 : List UInt8 := [8, 96, 6, 28, 104, 96, 29, 96, 46, 182, 0, 84, 132, 3, 1, 167, 255, 218, 132, 2, 1, 167, 255, 185]
abbrev dktX2_undo_5 : List UInt8 := dkwX2_undo_5 ++ dktX2_undo_6
def dkwX2_undo_4 : List UInt8 := [62, 29, 6, 162, 0, 39, 28, 42, 180, 0, 7, 27, 46, 162, 0, 29, 42, 28, 29, 42, 180, 0, 7, 27]
abbrev dktX2_undo_4 : List UInt8 := dkwX2_undo_4 ++ dktX2_undo_5
def dkwX2_undo_3 : List UInt8 := [180, 0, 7, 3, 46, 162, 0, 67, 28, 42, 180, 0, 7, 27, 46, 161, 0, 8, 42, 28, 182, 0, 88, 3]
abbrev dktX2_undo_3 : List UInt8 := dkwX2_undo_3 ++ dktX2_undo_4
def dkwX2_undo_2 : List UInt8 := [28, 96, 42, 180, 0, 7, 27, 4, 96, 28, 96, 46, 79, 132, 2, 1, 167, 255, 229, 3, 61, 28, 42]
abbrev dktX2_undo_2 : List UInt8 := dkwX2_undo_2 ++ dktX2_undo_3
def dkwX2_undo_1 : List UInt8 := [16, 59, 42, 180, 0, 7, 6, 46, 104, 96, 60, 3, 61, 28, 7, 162, 0, 28, 42, 180, 0, 7, 16, 6]
abbrev dktX2_undo_1 : List UInt8 := dkwX2_undo_1 ++ dktX2_undo_2
def dkwX2_undo_0 : List UInt8 := [42, 180, 0, 7, 6, 46, 154, 0, 5, 2, 172, 42, 180, 0, 7, 6, 92, 46, 4, 100, 79, 17, 0, 230]
abbrev dktX2_undo_0 : List UInt8 := dkwX2_undo_0 ++ dktX2_undo_1
theorem dksX2_undo_0 : cX2_undo.data.toList.drop 0 = dktX2_undo_0 := by decide +kernel
theorem dksX2_undo_1 : cX2_undo.data.toList.drop 24 = dktX2_undo_1 := dk_seg dksX2_undo_0 24 rfl rfl
theorem dksX2_undo_2 : cX2_undo.data.toList.drop 48 = dktX2_undo_2 := dk_seg dksX2_undo_1 24 rfl rfl
theorem dksX2_undo_3 : cX2_undo.data.toList.drop 71 = dktX2_undo_3 := dk_seg dksX2_undo_2 23 rfl rfl
theorem dksX2_undo_4 : cX2_undo.data.toList.drop 95 = dktX2_undo_4 := dk_seg dksX2_undo_3 24 rfl rfl
theorem dksX2_undo_5 : cX2_undo.data.toList.drop 119 = dktX2_undo_5 := dk_seg dksX2_undo_4 24 rfl rfl
theorem dksX2_undo_6 : cX2_undo.data.toList.drop 143 = dktX2_undo_6 := dk_seg dksX2_undo_5 24 rfl rfl
theorem dksX2_undo_7 : cX2_undo.data.toList.drop 167 = dktX2_undo_7 := dk_seg dksX2_undo_6 24 rfl rfl
theorem dX2_undo_0 : decode cX2_undo 0 = .ok (.aload_n 0, 1) := dk_42 (dk_at dksX2_undo_0 0 rfl rfl)
theorem dX2_undo_1 : decode cX2_undo 1 = .ok (.getfield 7, 3) := dk_180 0 7 (dk_at dksX2_undo_0 1 rfl rfl)
theorem dX2_undo_4 : decode cX2_undo 4 = .ok (.iconst 3, 1) := dk_6 (dk_at dksX2_undo_0 4 rfl rfl)
theorem dX2_undo_5 : decode cX2_undo 5 = .ok (.iaload, 1) := dk_46 (dk_at dksX2_undo_0 5 rfl rfl)
theorem dX2_undo_6 : decode cX2_undo 6 = .ok (.ifCond .ne 5, 3) := dk_154 0 5 (dk_at dksX2_undo_0 6 rfl rfl)
theorem dX2_undo_9 : decode cX2_undo 9 = .ok (.iconst (-1), 1) := dk_2 (dk_at dksX2_undo_0 9 rfl rfl)
theorem dX2_undo_10 : decode cX2_undo 10 = .ok (.ireturn, 1) := dk_172 (dk_at dksX2_undo_0 10 rfl rfl)
theorem dX2_undo_11 : decode cX2_undo 11 = .ok (.aload_n 0, 1) := dk_42 (dk_at dksX2_undo_0 11 rfl rfl)
theorem dX2_undo_12 : decode cX2_undo 12 = .ok (.getfield 7, 3) := dk_180 0 7 (dk_at dksX2_undo_0 12 rfl rfl)
theorem dX2_undo_15 : decode cX2_undo 15 = .ok (.iconst 3, 1) := dk_6 (dk_at dksX2_undo_0 15 rfl rfl)
theorem dX2_undo_16 : decode cX2_undo 16 = .ok (.dup2, 1) := dk_92 (dk_at dksX2_undo_0 16 rfl rfl)
theorem dX2_undo_17 : decode cX2_undo 17 = .ok (.iaload, 1) := dk_46 (dk_at dksX2_undo_0 17 rfl rfl)
theorem dX2_undo_18 : decode cX2_undo 18 = .ok (.iconst 1, 1) := dk_4 (dk_at dksX2_undo_0 18 rfl rfl)
theorem dX2_undo_19 : decode cX2_undo 19 = .ok (.isub, 1) := dk_100 (dk_at dksX2_undo_0 19 rfl rfl)
theorem dX2_undo_20 : decode cX2_undo 20 = .ok (.iastore, 1) := dk_79 (dk_at dksX2_undo_0 20 rfl rfl)
theorem dX2_undo_21 : decode cX2_undo 21 = .ok (.sipush 230, 3) := dk_17 0 230 (dk_at dksX2_undo_0 21 rfl rfl)
theorem dX2_undo_24 : decode cX2_undo 24 = .ok (.bipush 59, 2) := dk_16 59 (dk_at dksX2_undo_1 0 rfl rfl)
theorem dX2_undo_26 : decode cX2_undo 26 = .ok (.aload_n 0, 1) := dk_42 (dk_at dksX2_undo_1 2 rfl rfl)
theorem dX2_undo_27 : decode cX2_undo 27 = .ok (.getfield 7, 3) := dk_180 0 7 (dk_at dksX2_undo_1 3 rfl rfl)
theorem dX2_undo_30 : decode cX2_undo 30 = .ok (.iconst 3, 1) := dk_6 (dk_at dksX2_undo_1 6 rfl rfl)
theorem dX2_undo_31 : decode cX2_undo 31 = .ok (.iaload, 1) := dk_46 (dk_at dksX2_undo_1 7 rfl rfl)
theorem dX2_undo_32 : decode cX2_undo 32 = .ok (.imul, 1) := dk_104 (dk_at dksX2_undo_1 8 rfl rfl)
theorem dX2_undo_33 : decode cX2_undo 33 = .ok (.iadd, 1) := dk_96 (dk_at dksX2_undo_1 9 rfl rfl)
theorem dX2_undo_34 : decode cX2_undo 34 = .ok (.istore_n 1, 1) := dk_60 (dk_at dksX2_undo_1 10 rfl rfl)
theorem dX2_undo_35 : decode cX2_undo 35 = .ok (.iconst 0, 1) := dk_3 (dk_at dksX2_undo_1 11 rfl rfl)
theorem dX2_undo_36 : decode cX2_undo 36 = .ok (.istore_n 2, 1) := dk_61 (dk_at dksX2_undo_1 12 rfl rfl)
theorem dX2_undo_37 : decode cX2_undo 37 = .ok (.iload_n 2, 1) := dk_28 (dk_at dksX2_undo_1 13 rfl rfl)
theorem dX2_undo_38 : decode cX2_undo 38 = .ok (.iconst 4, 1) := dk_7 (dk_at dksX2_undo_1 14 rfl rfl)
theorem dX2_undo_39 : decode cX2_undo 39 = .ok (.if_icmp .ge 28, 3) := dk_162 0 28 (dk_at dksX2_undo_1 15 rfl rfl)
theorem dX2_undo_42 : decode cX2_undo 42 = .ok (.aload_n 0, 1) := dk_42 (dk_at dksX2_undo_1 18 rfl rfl)
theorem dX2_undo_43 : decode cX2_undo 43 = .ok (.getfield 7, 3) := dk_180 0 7 (dk_at dksX2_undo_1 19 rfl rfl)
theorem dX2_undo_46 : decode cX2_undo 46 = .ok (.bipush 6, 2) := dk_16 6 (dk_at dksX2_undo_1 22 rfl rfl)
theorem dX2_undo_48 : decode cX2_undo 48 = .ok (.iload_n 2, 1) := dk_28 (dk_at dksX2_undo_2 0 rfl rfl)
theorem dX2_undo_49 : decode cX2_undo 49 = .ok (.iadd, 1) := dk_96 (dk_at dksX2_undo_2 1 rfl rfl)
theorem dX2_undo_50 : decode cX2_undo 50 = .ok (.aload_n 0, 1) := dk_42 (dk_at dksX2_undo_2 2 rfl rfl)
theorem dX2_undo_51 : decode cX2_undo 51 = .ok (.getfield 7, 3) := dk_180 0 7 (dk_at dksX2_undo_2 3 rfl rfl)
theorem dX2_undo_54 : decode cX2_undo 54 = .ok (.iload_n 1, 1) := dk_27 (dk_at dksX2_undo_2 6 rfl rfl)
theorem dX2_undo_55 : decode cX2_undo 55 = .ok (.iconst 1, 1) := dk_4 (dk_at dksX2_undo_2 7 rfl rfl)
theorem dX2_undo_56 : decode cX2_undo 56 = .ok (.iadd, 1) := dk_96 (dk_at dksX2_undo_2 8 rfl rfl)
theorem dX2_undo_57 : decode cX2_undo 57 = .ok (.iload_n 2, 1) := dk_28 (dk_at dksX2_undo_2 9 rfl rfl)
theorem dX2_undo_58 : decode cX2_undo 58 = .ok (.iadd, 1) := dk_96 (dk_at dksX2_undo_2 10 rfl rfl)
theorem dX2_undo_59 : decode cX2_undo 59 = .ok (.iaload, 1) := dk_46 (dk_at dksX2_undo_2 11 rfl rfl)
theorem dX2_undo_60 : decode cX2_undo 60 = .ok (.iastore, 1) := dk_79 (dk_at dksX2_undo_2 12 rfl rfl)
theorem dX2_undo_61 : decode cX2_undo 61 = .ok (.iinc 2 1, 3) := dk_132 2 1 (dk_at dksX2_undo_2 13 rfl rfl)
theorem dX2_undo_64 : decode cX2_undo 64 = .ok (.goto (-27), 3) := dk_167 255 229 (dk_at dksX2_undo_2 16 rfl rfl)
theorem dX2_undo_67 : decode cX2_undo 67 = .ok (.iconst 0, 1) := dk_3 (dk_at dksX2_undo_2 19 rfl rfl)
theorem dX2_undo_68 : decode cX2_undo 68 = .ok (.istore_n 2, 1) := dk_61 (dk_at dksX2_undo_2 20 rfl rfl)
theorem dX2_undo_69 : decode cX2_undo 69 = .ok (.iload_n 2, 1) := dk_28 (dk_at dksX2_undo_2 21 rfl rfl)
theorem dX2_undo_70 : decode cX2_undo 70 = .ok (.aload_n 0, 1) := dk_42 (dk_at dksX2_undo_2 22 rfl rfl)
theorem dX2_undo_71 : decode cX2_undo 71 = .ok (.getfield 7, 3) := dk_180 0 7 (dk_at dksX2_undo_3 0 rfl rfl)
theorem dX2_undo_74 : decode cX2_undo 74 = .ok (.iconst 0, 1) := dk_3 (dk_at dksX2_undo_3 3 rfl rfl)
theorem dX2_undo_75 : decode cX2_undo 75 = .ok (.iaload, 1) := dk_46 (dk_at dksX2_undo_3 4 rfl rfl)
theorem dX2_undo_76 : decode cX2_undo 76 = .ok (.if_icmp .ge 67, 3) := dk_162 0 67 (dk_at dksX2_undo_3 5 rfl rfl)
theorem dX2_undo_79 : decode cX2_undo 79 = .ok (.iload_n 2, 1) := dk_28 (dk_at dksX2_undo_3 8 rfl rfl)
theorem dX2_undo_80 : decode cX2_undo 80 = .ok (.aload_n 0, 1) := dk_42 (dk_at dksX2_undo_3 9 rfl rfl)
theorem dX2_undo_81 : decode cX2_undo 81 = .ok (.getfield 7, 3) := dk_180 0 7 (dk_at dksX2_undo_3 10 rfl rfl)
theorem dX2_undo_84 : decode cX2_undo 84 = .ok (.iload_n 1, 1) := dk_27 (dk_at dksX2_undo_3 13 rfl rfl)
theorem dX2_undo_85 : decode cX2_undo 85 = .ok (.iaload, 1) := dk_46 (dk_at dksX2_undo_3 14 rfl rfl)
theorem dX2_undo_86 : decode cX2_undo 86 = .ok (.if_icmp .lt 8, 3) := dk_161 0 8 (dk_at dksX2_undo_3 15 rfl rfl)
theorem dX2_undo_89 : decode cX2_undo 89 = .ok (.aload_n 0, 1) := dk_42 (dk_at dksX2_undo_3 18 rfl rfl)
theorem dX2_undo_90 : decode cX2_undo 90 = .ok (.iload_n 2, 1) := dk_28 (dk_at dksX2_undo_3 19 rfl rfl)
theorem dX2_undo_91 : decode cX2_undo 91 = .ok (.invokevirtual 88, 3) := dk_182 0 88 (dk_at dksX2_undo_3 20 rfl rfl)
theorem dX2_undo_94 : decode cX2_undo 94 = .ok (.iconst 0, 1) := dk_3 (dk_at dksX2_undo_3 23 rfl rfl)
theorem dX2_undo_95 : decode cX2_undo 95 = .ok (.istore_n 3, 1) := dk_62 (dk_at dksX2_undo_4 0 rfl rfl)
theorem dX2_undo_96 : decode cX2_undo 96 = .ok (.iload_n 3, 1) := dk_29 (dk_at dksX2_undo_4 1 rfl rfl)
theorem dX2_undo_97 : decode cX2_undo 97 = .ok (.iconst 3, 1) := dk_6 (dk_at dksX2_undo_4 2 rfl rfl)
theorem dX2_undo_98 : decode cX2_undo 98 = .ok (.if_icmp .ge 39, 3) := dk_162 0 39 (dk_at dksX2_undo_4 3 rfl rfl)
theorem dX2_undo_101 : decode cX2_undo 101 = .ok (.iload_n 2, 1) := dk_28 (dk_at dksX2_undo_4 6 rfl rfl)
theorem dX2_undo_102 : decode cX2_undo 102 = .ok (.aload_n 0, 1) := dk_42 (dk_at dksX2_undo_4 7 rfl rfl)
theorem dX2_undo_103 : decode cX2_undo 103 = .ok (.getfield 7, 3) := dk_180 0 7 (dk_at dksX2_undo_4 8 rfl rfl)
theorem dX2_undo_106 : decode cX2_undo 106 = .ok (.iload_n 1, 1) := dk_27 (dk_at dksX2_undo_4 11 rfl rfl)
theorem dX2_undo_107 : decode cX2_undo 107 = .ok (.iaload, 1) := dk_46 (dk_at dksX2_undo_4 12 rfl rfl)
theorem dX2_undo_108 : decode cX2_undo 108 = .ok (.if_icmp .ge 29, 3) := dk_162 0 29 (dk_at dksX2_undo_4 13 rfl rfl)
theorem dX2_undo_111 : decode cX2_undo 111 = .ok (.aload_n 0, 1) := dk_42 (dk_at dksX2_undo_4 16 rfl rfl)
theorem dX2_undo_112 : decode cX2_undo 112 = .ok (.iload_n 2, 1) := dk_28 (dk_at dksX2_undo_4 17 rfl rfl)
theorem dX2_undo_113 : decode cX2_undo 113 = .ok (.iload_n 3, 1) := dk_29 (dk_at dksX2_undo_4 18 rfl rfl)
theorem dX2_undo_114 : decode cX2_undo 114 = .ok (.aload_n 0, 1) := dk_42 (dk_at dksX2_undo_4 19 rfl rfl)
theorem dX2_undo_115 : decode cX2_undo 115 = .ok (.getfield 7, 3) := dk_180 0 7 (dk_at dksX2_undo_4 20 rfl rfl)
theorem dX2_undo_118 : decode cX2_undo 118 = .ok (.iload_n 1, 1) := dk_27 (dk_at dksX2_undo_4 23 rfl rfl)
theorem dX2_undo_119 : decode cX2_undo 119 = .ok (.iconst 5, 1) := dk_8 (dk_at dksX2_undo_5 0 rfl rfl)
theorem dX2_undo_120 : decode cX2_undo 120 = .ok (.iadd, 1) := dk_96 (dk_at dksX2_undo_5 1 rfl rfl)
theorem dX2_undo_121 : decode cX2_undo 121 = .ok (.iconst 3, 1) := dk_6 (dk_at dksX2_undo_5 2 rfl rfl)
theorem dX2_undo_122 : decode cX2_undo 122 = .ok (.iload_n 2, 1) := dk_28 (dk_at dksX2_undo_5 3 rfl rfl)
theorem dX2_undo_123 : decode cX2_undo 123 = .ok (.imul, 1) := dk_104 (dk_at dksX2_undo_5 4 rfl rfl)
theorem dX2_undo_124 : decode cX2_undo 124 = .ok (.iadd, 1) := dk_96 (dk_at dksX2_undo_5 5 rfl rfl)
theorem dX2_undo_125 : decode cX2_undo 125 = .ok (.iload_n 3, 1) := dk_29 (dk_at dksX2_undo_5 6 rfl rfl)
theorem dX2_undo_126 : decode cX2_undo 126 = .ok (.iadd, 1) := dk_96 (dk_at dksX2_undo_5 7 rfl rfl)
theorem dX2_undo_127 : decode cX2_undo 127 = .ok (.iaload, 1) := dk_46 (dk_at dksX2_undo_5 8 rfl rfl)
theorem dX2_undo_128 : decode cX2_undo 128 = .ok (.invokevirtual 84, 3) := dk_182 0 84 (dk_at dksX2_undo_5 9 rfl rfl)
theorem dX2_undo_131 : decode cX2_undo 131 = .ok (.iinc 3 1, 3) := dk_132 3 1 (dk_at dksX2_undo_5 12 rfl rfl)
theorem dX2_undo_134 : decode cX2_undo 134 = .ok (.goto (-38), 3) := dk_167 255 218 (dk_at dksX2_undo_5 15 rfl rfl)
theorem dX2_undo_137 : decode cX2_undo 137 = .ok (.iinc 2 1, 3) := dk_132 2 1 (dk_at dksX2_undo_5 18 rfl rfl)
theorem dX2_undo_140 : decode cX2_undo 140 = .ok (.goto (-71), 3) := dk_167 255 185 (dk_at dksX2_undo_5 21 rfl rfl)
theorem dX2_undo_143 : decode cX2_undo 143 = .ok (.iconst 0, 1) := dk_3 (dk_at dksX2_undo_6 0 rfl rfl)
theorem dX2_undo_144 : decode cX2_undo 144 = .ok (.istore_n 2, 1) := dk_61 (dk_at dksX2_undo_6 1 rfl rfl)
theorem dX2_undo_145 : decode cX2_undo 145 = .ok (.iload_n 2, 1) := dk_28 (dk_at dksX2_undo_6 2 rfl rfl)
theorem dX2_undo_146 : decode cX2_undo 146 = .ok (.bipush 30, 2) := dk_16 30 (dk_at dksX2_undo_6 3 rfl rfl)
theorem dX2_undo_148 : decode cX2_undo 148 = .ok (.if_icmp .ge 30, 3) := dk_162 0 30 (dk_at dksX2_undo_6 5 rfl rfl)
theorem dX2_undo_151 : decode cX2_undo 151 = .ok (.aload_n 0, 1) := dk_42 (dk_at dksX2_undo_6 8 rfl rfl)
theorem dX2_undo_152 : decode cX2_undo 152 = .ok (.getfield 7, 3) := dk_180 0 7 (dk_at dksX2_undo_6 9 rfl rfl)
theorem dX2_undo_155 : decode cX2_undo 155 = .ok (.sipush 2000, 3) := dk_17 7 208 (dk_at dksX2_undo_6 12 rfl rfl)
theorem dX2_undo_158 : decode cX2_undo 158 = .ok (.iload_n 2, 1) := dk_28 (dk_at dksX2_undo_6 15 rfl rfl)
theorem dX2_undo_159 : decode cX2_undo 159 = .ok (.iadd, 1) := dk_96 (dk_at dksX2_undo_6 16 rfl rfl)
theorem dX2_undo_160 : decode cX2_undo 160 = .ok (.aload_n 0, 1) := dk_42 (dk_at dksX2_undo_6 17 rfl rfl)
theorem dX2_undo_161 : decode cX2_undo 161 = .ok (.getfield 7, 3) := dk_180 0 7 (dk_at dksX2_undo_6 18 rfl rfl)
theorem dX2_undo_164 : decode cX2_undo 164 = .ok (.iload_n 1, 1) := dk_27 (dk_at dksX2_undo_6 21 rfl rfl)
theorem dX2_undo_165 : decode cX2_undo 165 = .ok (.bipush 29, 2) := dk_16 29 (dk_at dksX2_undo_6 22 rfl rfl)
theorem dX2_undo_167 : decode cX2_undo 167 = .ok (.iadd, 1) := dk_96 (dk_at dksX2_undo_7 0 rfl rfl)
theorem dX2_undo_168 : decode cX2_undo 168 = .ok (.iload_n 2, 1) := dk_28 (dk_at dksX2_undo_7 1 rfl rfl)
theorem dX2_undo_169 : decode cX2_undo 169 = .ok (.iadd, 1) := dk_96 (dk_at dksX2_undo_7 2 rfl rfl)
theorem dX2_undo_170 : decode cX2_undo 170 = .ok (.iaload, 1) := dk_46 (dk_at dksX2_undo_7 3 rfl rfl)
theorem dX2_undo_171 : decode cX2_undo 171 = .ok (.iastore, 1) := dk_79 (dk_at dksX2_undo_7 4 rfl rfl)
theorem dX2_undo_172 : decode cX2_undo 172 = .ok (.iinc 2 1, 3) := dk_132 2 1 (dk_at dksX2_undo_7 5 rfl rfl)
theorem dX2_undo_175 : decode cX2_undo 175 = .ok (.goto (-30), 3) := dk_167 255 226 (dk_at dksX2_undo_7 8 rfl rfl)
theorem dX2_undo_178 : decode cX2_undo 178 = .ok (.aload_n 0, 1) := dk_42 (dk_at dksX2_undo_7 11 rfl rfl)
theorem dX2_undo_179 : decode cX2_undo 179 = .ok (.getfield 7, 3) := dk_180 0 7 (dk_at dksX2_undo_7 12 rfl rfl)
theorem dX2_undo_182 : decode cX2_undo 182 = .ok (.iconst 3, 1) := dk_6 (dk_at dksX2_undo_7 15 rfl rfl)
theorem dX2_undo_183 : decode cX2_undo 183 = .ok (.iaload, 1) := dk_46 (dk_at dksX2_undo_7 16 rfl rfl)
theorem dX2_undo_184 : decode cX2_undo 184 = .ok (.ireturn, 1) := dk_172 (dk_at dksX2_undo_7 17 rfl rfl)
abbrev cX2_shave : ByteArray := prog_19_method_77_code
def yX2_shave : MethodName := ⟨RX2, "shave", "(I)I"⟩
def dkwX2_shave_0 : List UInt8 := [42, 27, 182, 1, 57, 154, 0, 5, 2, 172, 42, 182, 1, 88, 42, 27, 182, 1, 91, 172]
abbrev dktX2_shave_0 : List UInt8 := dkwX2_shave_0 ++ []
theorem dksX2_shave_0 : cX2_shave.data.toList.drop 0 = dktX2_shave_0 := by decide +kernel
theorem dX2_shave_0 : decode cX2_shave 0 = .ok (.aload_n 0, 1) := dk_42 (dk_at dksX2_shave_0 0 rfl rfl)
theorem dX2_shave_1 : decode cX2_shave 1 = .ok (.iload_n 1, 1) := dk_27 (dk_at dksX2_shave_0 1 rfl rfl)
theorem dX2_shave_2 : decode cX2_shave 2 = .ok (.invokevirtual 313, 3) := dk_182 1 57 (dk_at dksX2_shave_0 2 rfl rfl)
theorem dX2_shave_5 : decode cX2_shave 5 = .ok (.ifCond .ne 5, 3) := dk_154 0 5 (dk_at dksX2_shave_0 5 rfl rfl)
theorem dX2_shave_8 : decode cX2_shave 8 = .ok (.iconst (-1), 1) := dk_2 (dk_at dksX2_shave_0 8 rfl rfl)
theorem dX2_shave_9 : decode cX2_shave 9 = .ok (.ireturn, 1) := dk_172 (dk_at dksX2_shave_0 9 rfl rfl)
theorem dX2_shave_10 : decode cX2_shave 10 = .ok (.aload_n 0, 1) := dk_42 (dk_at dksX2_shave_0 10 rfl rfl)
theorem dX2_shave_11 : decode cX2_shave 11 = .ok (.invokevirtual 344, 3) := dk_182 1 88 (dk_at dksX2_shave_0 11 rfl rfl)
theorem dX2_shave_14 : decode cX2_shave 14 = .ok (.aload_n 0, 1) := dk_42 (dk_at dksX2_shave_0 14 rfl rfl)
theorem dX2_shave_15 : decode cX2_shave 15 = .ok (.iload_n 1, 1) := dk_27 (dk_at dksX2_shave_0 15 rfl rfl)
theorem dX2_shave_16 : decode cX2_shave 16 = .ok (.invokevirtual 347, 3) := dk_182 1 91 (dk_at dksX2_shave_0 16 rfl rfl)
theorem dX2_shave_19 : decode cX2_shave 19 = .ok (.ireturn, 1) := dk_172 (dk_at dksX2_shave_0 19 rfl rfl)
abbrev cX2_isPerson : ByteArray := prog_19_method_8_code
def yX2_isPerson : MethodName := ⟨RX2, "isPerson", "(I)Z"⟩
def dkwX2_isPerson_0 : List UInt8 := [27, 3, 42, 180, 0, 7, 3, 46, 4, 100, 184, 0, 73, 172]
abbrev dktX2_isPerson_0 : List UInt8 := dkwX2_isPerson_0 ++ []
theorem dksX2_isPerson_0 : cX2_isPerson.data.toList.drop 0 = dktX2_isPerson_0 := by decide +kernel
theorem dX2_isPerson_0 : decode cX2_isPerson 0 = .ok (.iload_n 1, 1) := dk_27 (dk_at dksX2_isPerson_0 0 rfl rfl)
theorem dX2_isPerson_1 : decode cX2_isPerson 1 = .ok (.iconst 0, 1) := dk_3 (dk_at dksX2_isPerson_0 1 rfl rfl)
theorem dX2_isPerson_2 : decode cX2_isPerson 2 = .ok (.aload_n 0, 1) := dk_42 (dk_at dksX2_isPerson_0 2 rfl rfl)
theorem dX2_isPerson_3 : decode cX2_isPerson 3 = .ok (.getfield 7, 3) := dk_180 0 7 (dk_at dksX2_isPerson_0 3 rfl rfl)
theorem dX2_isPerson_6 : decode cX2_isPerson 6 = .ok (.iconst 0, 1) := dk_3 (dk_at dksX2_isPerson_0 6 rfl rfl)
theorem dX2_isPerson_7 : decode cX2_isPerson 7 = .ok (.iaload, 1) := dk_46 (dk_at dksX2_isPerson_0 7 rfl rfl)
theorem dX2_isPerson_8 : decode cX2_isPerson 8 = .ok (.iconst 1, 1) := dk_4 (dk_at dksX2_isPerson_0 8 rfl rfl)
theorem dX2_isPerson_9 : decode cX2_isPerson 9 = .ok (.isub, 1) := dk_100 (dk_at dksX2_isPerson_0 9 rfl rfl)
theorem dX2_isPerson_10 : decode cX2_isPerson 10 = .ok (.invokestatic 73, 3) := dk_184 0 73 (dk_at dksX2_isPerson_0 10 rfl rfl)
theorem dX2_isPerson_13 : decode cX2_isPerson 13 = .ok (.ireturn, 1) := dk_172 (dk_at dksX2_isPerson_0 13 rfl rfl)
abbrev cX2_keep : ByteArray := prog_19_method_75_code
def yX2_keep : MethodName := ⟨RX2, "keep", "()V"⟩
def dkwX2_keep_8 : List UInt8 := [132, 2, 1, 167, 255, 226, 42, 180, 0, 7, 6, 92, 46, 4, 96, 79, 177]
abbrev dktX2_keep_8 : List UInt8 := dkwX2_keep_8 ++ []
def dkwX2_keep_7 : List UInt8 := [162, 0, 30, 42, 180, 0, 7, 27, 16, 29, 96, 28, 96, 42, 180, 0, 7, 17, 7, 208, 28, 96, 46, 79]
abbrev dktX2_keep_7 : List UInt8 := dkwX2_keep_7 ++ dktX2_keep_8
def dkwX2_keep_6 : List UInt8 := [28, 29, 182, 0, 92, 79, 132, 3, 1, 167, 255, 228, 132, 2, 1, 167, 255, 214, 3, 61, 28, 16, 30]
abbrev dktX2_keep_6 : List UInt8 := dkwX2_keep_6 ++ dktX2_keep_7
def dkwX2_keep_5 : List UInt8 := [162, 0, 42, 3, 62, 29, 6, 162, 0, 29, 42, 180, 0, 7, 27, 8, 96, 6, 28, 104, 96, 29, 96, 42]
abbrev dktX2_keep_5 : List UInt8 := dkwX2_keep_5 ++ dktX2_keep_6
def dkwX2_keep_4 : List UInt8 := [96, 28, 96, 42, 180, 0, 7, 16, 6, 28, 96, 46, 79, 132, 2, 1, 167, 255, 229, 3, 61, 28, 16, 8]
abbrev dktX2_keep_4 : List UInt8 := dkwX2_keep_4 ++ dktX2_keep_5
def dkwX2_keep_3 : List UInt8 := [180, 0, 7, 27, 42, 180, 0, 7, 3, 46, 79, 3, 61, 28, 7, 162, 0, 28, 42, 180, 0, 7, 27, 4]
abbrev dktX2_keep_3 : List UInt8 := dkwX2_keep_3 ++ dktX2_keep_4
def dkwX2_keep_2 : List UInt8 := [180, 0, 7, 6, 92, 46, 4, 100, 79, 17, 0, 230, 16, 59, 42, 180, 0, 7, 6, 46, 104, 96, 60, 42]
abbrev dktX2_keep_2 : List UInt8 := dkwX2_keep_2 ++ dktX2_keep_3
def dkwX2_keep_1 : List UInt8 := [17, 0, 230, 27, 96, 42, 180, 0, 7, 17, 1, 33, 27, 96, 46, 79, 132, 1, 1, 167, 255, 226, 42]
abbrev dktX2_keep_1 : List UInt8 := dkwX2_keep_1 ++ dktX2_keep_2
def dkwX2_keep_0 : List UInt8 := [42, 180, 0, 7, 6, 46, 16, 30, 160, 0, 48, 3, 60, 27, 17, 6, 175, 162, 0, 29, 42, 180, 0, 7]
abbrev dktX2_keep_0 : List UInt8 := dkwX2_keep_0 ++ dktX2_keep_1
theorem dksX2_keep_0 : cX2_keep.data.toList.drop 0 = dktX2_keep_0 := by decide +kernel
theorem dksX2_keep_1 : cX2_keep.data.toList.drop 24 = dktX2_keep_1 := dk_seg dksX2_keep_0 24 rfl rfl
theorem dksX2_keep_2 : cX2_keep.data.toList.drop 47 = dktX2_keep_2 := dk_seg dksX2_keep_1 23 rfl rfl
theorem dksX2_keep_3 : cX2_keep.data.toList.drop 71 = dktX2_keep_3 := dk_seg dksX2_keep_2 24 rfl rfl
theorem dksX2_keep_4 : cX2_keep.data.toList.drop 95 = dktX2_keep_4 := dk_seg dksX2_keep_3 24 rfl rfl
theorem dksX2_keep_5 : cX2_keep.data.toList.drop 119 = dktX2_keep_5 := dk_seg dksX2_keep_4 24 rfl rfl
theorem dksX2_keep_6 : cX2_keep.data.toList.drop 143 = dktX2_keep_6 := dk_seg dksX2_keep_5 24 rfl rfl
theorem dksX2_keep_7 : cX2_keep.data.toList.drop 166 = dktX2_keep_7 := dk_seg dksX2_keep_6 23 rfl rfl
theorem dksX2_keep_8 : cX2_keep.data.toList.drop 190 = dktX2_keep_8 := dk_seg dksX2_keep_7 24 rfl rfl
theorem dX2_keep_0 : decode cX2_keep 0 = .ok (.aload_n 0, 1) := dk_42 (dk_at dksX2_keep_0 0 rfl rfl)
theorem dX2_keep_1 : decode cX2_keep 1 = .ok (.getfield 7, 3) := dk_180 0 7 (dk_at dksX2_keep_0 1 rfl rfl)
theorem dX2_keep_4 : decode cX2_keep 4 = .ok (.iconst 3, 1) := dk_6 (dk_at dksX2_keep_0 4 rfl rfl)
theorem dX2_keep_5 : decode cX2_keep 5 = .ok (.iaload, 1) := dk_46 (dk_at dksX2_keep_0 5 rfl rfl)
theorem dX2_keep_6 : decode cX2_keep 6 = .ok (.bipush 30, 2) := dk_16 30 (dk_at dksX2_keep_0 6 rfl rfl)
theorem dX2_keep_8 : decode cX2_keep 8 = .ok (.if_icmp .ne 48, 3) := dk_160 0 48 (dk_at dksX2_keep_0 8 rfl rfl)
theorem dX2_keep_11 : decode cX2_keep 11 = .ok (.iconst 0, 1) := dk_3 (dk_at dksX2_keep_0 11 rfl rfl)
theorem dX2_keep_12 : decode cX2_keep 12 = .ok (.istore_n 1, 1) := dk_60 (dk_at dksX2_keep_0 12 rfl rfl)
theorem dX2_keep_13 : decode cX2_keep 13 = .ok (.iload_n 1, 1) := dk_27 (dk_at dksX2_keep_0 13 rfl rfl)
theorem dX2_keep_14 : decode cX2_keep 14 = .ok (.sipush 1711, 3) := dk_17 6 175 (dk_at dksX2_keep_0 14 rfl rfl)
theorem dX2_keep_17 : decode cX2_keep 17 = .ok (.if_icmp .ge 29, 3) := dk_162 0 29 (dk_at dksX2_keep_0 17 rfl rfl)
theorem dX2_keep_20 : decode cX2_keep 20 = .ok (.aload_n 0, 1) := dk_42 (dk_at dksX2_keep_0 20 rfl rfl)
theorem dX2_keep_21 : decode cX2_keep 21 = .ok (.getfield 7, 3) := dk_180 0 7 (dk_at dksX2_keep_0 21 rfl rfl)
theorem dX2_keep_24 : decode cX2_keep 24 = .ok (.sipush 230, 3) := dk_17 0 230 (dk_at dksX2_keep_1 0 rfl rfl)
theorem dX2_keep_27 : decode cX2_keep 27 = .ok (.iload_n 1, 1) := dk_27 (dk_at dksX2_keep_1 3 rfl rfl)
theorem dX2_keep_28 : decode cX2_keep 28 = .ok (.iadd, 1) := dk_96 (dk_at dksX2_keep_1 4 rfl rfl)
theorem dX2_keep_29 : decode cX2_keep 29 = .ok (.aload_n 0, 1) := dk_42 (dk_at dksX2_keep_1 5 rfl rfl)
theorem dX2_keep_30 : decode cX2_keep 30 = .ok (.getfield 7, 3) := dk_180 0 7 (dk_at dksX2_keep_1 6 rfl rfl)
theorem dX2_keep_33 : decode cX2_keep 33 = .ok (.sipush 289, 3) := dk_17 1 33 (dk_at dksX2_keep_1 9 rfl rfl)
theorem dX2_keep_36 : decode cX2_keep 36 = .ok (.iload_n 1, 1) := dk_27 (dk_at dksX2_keep_1 12 rfl rfl)
theorem dX2_keep_37 : decode cX2_keep 37 = .ok (.iadd, 1) := dk_96 (dk_at dksX2_keep_1 13 rfl rfl)
theorem dX2_keep_38 : decode cX2_keep 38 = .ok (.iaload, 1) := dk_46 (dk_at dksX2_keep_1 14 rfl rfl)
theorem dX2_keep_39 : decode cX2_keep 39 = .ok (.iastore, 1) := dk_79 (dk_at dksX2_keep_1 15 rfl rfl)
theorem dX2_keep_40 : decode cX2_keep 40 = .ok (.iinc 1 1, 3) := dk_132 1 1 (dk_at dksX2_keep_1 16 rfl rfl)
theorem dX2_keep_43 : decode cX2_keep 43 = .ok (.goto (-30), 3) := dk_167 255 226 (dk_at dksX2_keep_1 19 rfl rfl)
theorem dX2_keep_46 : decode cX2_keep 46 = .ok (.aload_n 0, 1) := dk_42 (dk_at dksX2_keep_1 22 rfl rfl)
theorem dX2_keep_47 : decode cX2_keep 47 = .ok (.getfield 7, 3) := dk_180 0 7 (dk_at dksX2_keep_2 0 rfl rfl)
theorem dX2_keep_50 : decode cX2_keep 50 = .ok (.iconst 3, 1) := dk_6 (dk_at dksX2_keep_2 3 rfl rfl)
theorem dX2_keep_51 : decode cX2_keep 51 = .ok (.dup2, 1) := dk_92 (dk_at dksX2_keep_2 4 rfl rfl)
theorem dX2_keep_52 : decode cX2_keep 52 = .ok (.iaload, 1) := dk_46 (dk_at dksX2_keep_2 5 rfl rfl)
theorem dX2_keep_53 : decode cX2_keep 53 = .ok (.iconst 1, 1) := dk_4 (dk_at dksX2_keep_2 6 rfl rfl)
theorem dX2_keep_54 : decode cX2_keep 54 = .ok (.isub, 1) := dk_100 (dk_at dksX2_keep_2 7 rfl rfl)
theorem dX2_keep_55 : decode cX2_keep 55 = .ok (.iastore, 1) := dk_79 (dk_at dksX2_keep_2 8 rfl rfl)
theorem dX2_keep_56 : decode cX2_keep 56 = .ok (.sipush 230, 3) := dk_17 0 230 (dk_at dksX2_keep_2 9 rfl rfl)
theorem dX2_keep_59 : decode cX2_keep 59 = .ok (.bipush 59, 2) := dk_16 59 (dk_at dksX2_keep_2 12 rfl rfl)
theorem dX2_keep_61 : decode cX2_keep 61 = .ok (.aload_n 0, 1) := dk_42 (dk_at dksX2_keep_2 14 rfl rfl)
theorem dX2_keep_62 : decode cX2_keep 62 = .ok (.getfield 7, 3) := dk_180 0 7 (dk_at dksX2_keep_2 15 rfl rfl)
theorem dX2_keep_65 : decode cX2_keep 65 = .ok (.iconst 3, 1) := dk_6 (dk_at dksX2_keep_2 18 rfl rfl)
theorem dX2_keep_66 : decode cX2_keep 66 = .ok (.iaload, 1) := dk_46 (dk_at dksX2_keep_2 19 rfl rfl)
theorem dX2_keep_67 : decode cX2_keep 67 = .ok (.imul, 1) := dk_104 (dk_at dksX2_keep_2 20 rfl rfl)
theorem dX2_keep_68 : decode cX2_keep 68 = .ok (.iadd, 1) := dk_96 (dk_at dksX2_keep_2 21 rfl rfl)
theorem dX2_keep_69 : decode cX2_keep 69 = .ok (.istore_n 1, 1) := dk_60 (dk_at dksX2_keep_2 22 rfl rfl)
theorem dX2_keep_70 : decode cX2_keep 70 = .ok (.aload_n 0, 1) := dk_42 (dk_at dksX2_keep_2 23 rfl rfl)
theorem dX2_keep_71 : decode cX2_keep 71 = .ok (.getfield 7, 3) := dk_180 0 7 (dk_at dksX2_keep_3 0 rfl rfl)
theorem dX2_keep_74 : decode cX2_keep 74 = .ok (.iload_n 1, 1) := dk_27 (dk_at dksX2_keep_3 3 rfl rfl)
theorem dX2_keep_75 : decode cX2_keep 75 = .ok (.aload_n 0, 1) := dk_42 (dk_at dksX2_keep_3 4 rfl rfl)
theorem dX2_keep_76 : decode cX2_keep 76 = .ok (.getfield 7, 3) := dk_180 0 7 (dk_at dksX2_keep_3 5 rfl rfl)
theorem dX2_keep_79 : decode cX2_keep 79 = .ok (.iconst 0, 1) := dk_3 (dk_at dksX2_keep_3 8 rfl rfl)
theorem dX2_keep_80 : decode cX2_keep 80 = .ok (.iaload, 1) := dk_46 (dk_at dksX2_keep_3 9 rfl rfl)
theorem dX2_keep_81 : decode cX2_keep 81 = .ok (.iastore, 1) := dk_79 (dk_at dksX2_keep_3 10 rfl rfl)
theorem dX2_keep_82 : decode cX2_keep 82 = .ok (.iconst 0, 1) := dk_3 (dk_at dksX2_keep_3 11 rfl rfl)
theorem dX2_keep_83 : decode cX2_keep 83 = .ok (.istore_n 2, 1) := dk_61 (dk_at dksX2_keep_3 12 rfl rfl)
theorem dX2_keep_84 : decode cX2_keep 84 = .ok (.iload_n 2, 1) := dk_28 (dk_at dksX2_keep_3 13 rfl rfl)
theorem dX2_keep_85 : decode cX2_keep 85 = .ok (.iconst 4, 1) := dk_7 (dk_at dksX2_keep_3 14 rfl rfl)
theorem dX2_keep_86 : decode cX2_keep 86 = .ok (.if_icmp .ge 28, 3) := dk_162 0 28 (dk_at dksX2_keep_3 15 rfl rfl)
theorem dX2_keep_89 : decode cX2_keep 89 = .ok (.aload_n 0, 1) := dk_42 (dk_at dksX2_keep_3 18 rfl rfl)
theorem dX2_keep_90 : decode cX2_keep 90 = .ok (.getfield 7, 3) := dk_180 0 7 (dk_at dksX2_keep_3 19 rfl rfl)
theorem dX2_keep_93 : decode cX2_keep 93 = .ok (.iload_n 1, 1) := dk_27 (dk_at dksX2_keep_3 22 rfl rfl)
theorem dX2_keep_94 : decode cX2_keep 94 = .ok (.iconst 1, 1) := dk_4 (dk_at dksX2_keep_3 23 rfl rfl)
theorem dX2_keep_95 : decode cX2_keep 95 = .ok (.iadd, 1) := dk_96 (dk_at dksX2_keep_4 0 rfl rfl)
theorem dX2_keep_96 : decode cX2_keep 96 = .ok (.iload_n 2, 1) := dk_28 (dk_at dksX2_keep_4 1 rfl rfl)
theorem dX2_keep_97 : decode cX2_keep 97 = .ok (.iadd, 1) := dk_96 (dk_at dksX2_keep_4 2 rfl rfl)
theorem dX2_keep_98 : decode cX2_keep 98 = .ok (.aload_n 0, 1) := dk_42 (dk_at dksX2_keep_4 3 rfl rfl)
theorem dX2_keep_99 : decode cX2_keep 99 = .ok (.getfield 7, 3) := dk_180 0 7 (dk_at dksX2_keep_4 4 rfl rfl)
theorem dX2_keep_102 : decode cX2_keep 102 = .ok (.bipush 6, 2) := dk_16 6 (dk_at dksX2_keep_4 7 rfl rfl)
theorem dX2_keep_104 : decode cX2_keep 104 = .ok (.iload_n 2, 1) := dk_28 (dk_at dksX2_keep_4 9 rfl rfl)
theorem dX2_keep_105 : decode cX2_keep 105 = .ok (.iadd, 1) := dk_96 (dk_at dksX2_keep_4 10 rfl rfl)
theorem dX2_keep_106 : decode cX2_keep 106 = .ok (.iaload, 1) := dk_46 (dk_at dksX2_keep_4 11 rfl rfl)
theorem dX2_keep_107 : decode cX2_keep 107 = .ok (.iastore, 1) := dk_79 (dk_at dksX2_keep_4 12 rfl rfl)
theorem dX2_keep_108 : decode cX2_keep 108 = .ok (.iinc 2 1, 3) := dk_132 2 1 (dk_at dksX2_keep_4 13 rfl rfl)
theorem dX2_keep_111 : decode cX2_keep 111 = .ok (.goto (-27), 3) := dk_167 255 229 (dk_at dksX2_keep_4 16 rfl rfl)
theorem dX2_keep_114 : decode cX2_keep 114 = .ok (.iconst 0, 1) := dk_3 (dk_at dksX2_keep_4 19 rfl rfl)
theorem dX2_keep_115 : decode cX2_keep 115 = .ok (.istore_n 2, 1) := dk_61 (dk_at dksX2_keep_4 20 rfl rfl)
theorem dX2_keep_116 : decode cX2_keep 116 = .ok (.iload_n 2, 1) := dk_28 (dk_at dksX2_keep_4 21 rfl rfl)
theorem dX2_keep_117 : decode cX2_keep 117 = .ok (.bipush 8, 2) := dk_16 8 (dk_at dksX2_keep_4 22 rfl rfl)
theorem dX2_keep_119 : decode cX2_keep 119 = .ok (.if_icmp .ge 42, 3) := dk_162 0 42 (dk_at dksX2_keep_5 0 rfl rfl)
theorem dX2_keep_122 : decode cX2_keep 122 = .ok (.iconst 0, 1) := dk_3 (dk_at dksX2_keep_5 3 rfl rfl)
theorem dX2_keep_123 : decode cX2_keep 123 = .ok (.istore_n 3, 1) := dk_62 (dk_at dksX2_keep_5 4 rfl rfl)
theorem dX2_keep_124 : decode cX2_keep 124 = .ok (.iload_n 3, 1) := dk_29 (dk_at dksX2_keep_5 5 rfl rfl)
theorem dX2_keep_125 : decode cX2_keep 125 = .ok (.iconst 3, 1) := dk_6 (dk_at dksX2_keep_5 6 rfl rfl)
theorem dX2_keep_126 : decode cX2_keep 126 = .ok (.if_icmp .ge 29, 3) := dk_162 0 29 (dk_at dksX2_keep_5 7 rfl rfl)
theorem dX2_keep_129 : decode cX2_keep 129 = .ok (.aload_n 0, 1) := dk_42 (dk_at dksX2_keep_5 10 rfl rfl)
theorem dX2_keep_130 : decode cX2_keep 130 = .ok (.getfield 7, 3) := dk_180 0 7 (dk_at dksX2_keep_5 11 rfl rfl)
theorem dX2_keep_133 : decode cX2_keep 133 = .ok (.iload_n 1, 1) := dk_27 (dk_at dksX2_keep_5 14 rfl rfl)
theorem dX2_keep_134 : decode cX2_keep 134 = .ok (.iconst 5, 1) := dk_8 (dk_at dksX2_keep_5 15 rfl rfl)
theorem dX2_keep_135 : decode cX2_keep 135 = .ok (.iadd, 1) := dk_96 (dk_at dksX2_keep_5 16 rfl rfl)
theorem dX2_keep_136 : decode cX2_keep 136 = .ok (.iconst 3, 1) := dk_6 (dk_at dksX2_keep_5 17 rfl rfl)
theorem dX2_keep_137 : decode cX2_keep 137 = .ok (.iload_n 2, 1) := dk_28 (dk_at dksX2_keep_5 18 rfl rfl)
theorem dX2_keep_138 : decode cX2_keep 138 = .ok (.imul, 1) := dk_104 (dk_at dksX2_keep_5 19 rfl rfl)
theorem dX2_keep_139 : decode cX2_keep 139 = .ok (.iadd, 1) := dk_96 (dk_at dksX2_keep_5 20 rfl rfl)
theorem dX2_keep_140 : decode cX2_keep 140 = .ok (.iload_n 3, 1) := dk_29 (dk_at dksX2_keep_5 21 rfl rfl)
theorem dX2_keep_141 : decode cX2_keep 141 = .ok (.iadd, 1) := dk_96 (dk_at dksX2_keep_5 22 rfl rfl)
theorem dX2_keep_142 : decode cX2_keep 142 = .ok (.aload_n 0, 1) := dk_42 (dk_at dksX2_keep_5 23 rfl rfl)
theorem dX2_keep_143 : decode cX2_keep 143 = .ok (.iload_n 2, 1) := dk_28 (dk_at dksX2_keep_6 0 rfl rfl)
theorem dX2_keep_144 : decode cX2_keep 144 = .ok (.iload_n 3, 1) := dk_29 (dk_at dksX2_keep_6 1 rfl rfl)
theorem dX2_keep_145 : decode cX2_keep 145 = .ok (.invokevirtual 92, 3) := dk_182 0 92 (dk_at dksX2_keep_6 2 rfl rfl)
theorem dX2_keep_148 : decode cX2_keep 148 = .ok (.iastore, 1) := dk_79 (dk_at dksX2_keep_6 5 rfl rfl)
theorem dX2_keep_149 : decode cX2_keep 149 = .ok (.iinc 3 1, 3) := dk_132 3 1 (dk_at dksX2_keep_6 6 rfl rfl)
theorem dX2_keep_152 : decode cX2_keep 152 = .ok (.goto (-28), 3) := dk_167 255 228 (dk_at dksX2_keep_6 9 rfl rfl)
theorem dX2_keep_155 : decode cX2_keep 155 = .ok (.iinc 2 1, 3) := dk_132 2 1 (dk_at dksX2_keep_6 12 rfl rfl)
theorem dX2_keep_158 : decode cX2_keep 158 = .ok (.goto (-42), 3) := dk_167 255 214 (dk_at dksX2_keep_6 15 rfl rfl)
theorem dX2_keep_161 : decode cX2_keep 161 = .ok (.iconst 0, 1) := dk_3 (dk_at dksX2_keep_6 18 rfl rfl)
theorem dX2_keep_162 : decode cX2_keep 162 = .ok (.istore_n 2, 1) := dk_61 (dk_at dksX2_keep_6 19 rfl rfl)
theorem dX2_keep_163 : decode cX2_keep 163 = .ok (.iload_n 2, 1) := dk_28 (dk_at dksX2_keep_6 20 rfl rfl)
theorem dX2_keep_164 : decode cX2_keep 164 = .ok (.bipush 30, 2) := dk_16 30 (dk_at dksX2_keep_6 21 rfl rfl)
theorem dX2_keep_166 : decode cX2_keep 166 = .ok (.if_icmp .ge 30, 3) := dk_162 0 30 (dk_at dksX2_keep_7 0 rfl rfl)
theorem dX2_keep_169 : decode cX2_keep 169 = .ok (.aload_n 0, 1) := dk_42 (dk_at dksX2_keep_7 3 rfl rfl)
theorem dX2_keep_170 : decode cX2_keep 170 = .ok (.getfield 7, 3) := dk_180 0 7 (dk_at dksX2_keep_7 4 rfl rfl)
theorem dX2_keep_173 : decode cX2_keep 173 = .ok (.iload_n 1, 1) := dk_27 (dk_at dksX2_keep_7 7 rfl rfl)
theorem dX2_keep_174 : decode cX2_keep 174 = .ok (.bipush 29, 2) := dk_16 29 (dk_at dksX2_keep_7 8 rfl rfl)
theorem dX2_keep_176 : decode cX2_keep 176 = .ok (.iadd, 1) := dk_96 (dk_at dksX2_keep_7 10 rfl rfl)
theorem dX2_keep_177 : decode cX2_keep 177 = .ok (.iload_n 2, 1) := dk_28 (dk_at dksX2_keep_7 11 rfl rfl)
theorem dX2_keep_178 : decode cX2_keep 178 = .ok (.iadd, 1) := dk_96 (dk_at dksX2_keep_7 12 rfl rfl)
theorem dX2_keep_179 : decode cX2_keep 179 = .ok (.aload_n 0, 1) := dk_42 (dk_at dksX2_keep_7 13 rfl rfl)
theorem dX2_keep_180 : decode cX2_keep 180 = .ok (.getfield 7, 3) := dk_180 0 7 (dk_at dksX2_keep_7 14 rfl rfl)
theorem dX2_keep_183 : decode cX2_keep 183 = .ok (.sipush 2000, 3) := dk_17 7 208 (dk_at dksX2_keep_7 17 rfl rfl)
theorem dX2_keep_186 : decode cX2_keep 186 = .ok (.iload_n 2, 1) := dk_28 (dk_at dksX2_keep_7 20 rfl rfl)
theorem dX2_keep_187 : decode cX2_keep 187 = .ok (.iadd, 1) := dk_96 (dk_at dksX2_keep_7 21 rfl rfl)
theorem dX2_keep_188 : decode cX2_keep 188 = .ok (.iaload, 1) := dk_46 (dk_at dksX2_keep_7 22 rfl rfl)
theorem dX2_keep_189 : decode cX2_keep 189 = .ok (.iastore, 1) := dk_79 (dk_at dksX2_keep_7 23 rfl rfl)
theorem dX2_keep_190 : decode cX2_keep 190 = .ok (.iinc 2 1, 3) := dk_132 2 1 (dk_at dksX2_keep_8 0 rfl rfl)
theorem dX2_keep_193 : decode cX2_keep 193 = .ok (.goto (-30), 3) := dk_167 255 226 (dk_at dksX2_keep_8 3 rfl rfl)
theorem dX2_keep_196 : decode cX2_keep 196 = .ok (.aload_n 0, 1) := dk_42 (dk_at dksX2_keep_8 6 rfl rfl)
theorem dX2_keep_197 : decode cX2_keep 197 = .ok (.getfield 7, 3) := dk_180 0 7 (dk_at dksX2_keep_8 7 rfl rfl)
theorem dX2_keep_200 : decode cX2_keep 200 = .ok (.iconst 3, 1) := dk_6 (dk_at dksX2_keep_8 10 rfl rfl)
theorem dX2_keep_201 : decode cX2_keep 201 = .ok (.dup2, 1) := dk_92 (dk_at dksX2_keep_8 11 rfl rfl)
theorem dX2_keep_202 : decode cX2_keep 202 = .ok (.iaload, 1) := dk_46 (dk_at dksX2_keep_8 12 rfl rfl)
theorem dX2_keep_203 : decode cX2_keep 203 = .ok (.iconst 1, 1) := dk_4 (dk_at dksX2_keep_8 13 rfl rfl)
theorem dX2_keep_204 : decode cX2_keep 204 = .ok (.iadd, 1) := dk_96 (dk_at dksX2_keep_8 14 rfl rfl)
theorem dX2_keep_205 : decode cX2_keep 205 = .ok (.iastore, 1) := dk_79 (dk_at dksX2_keep_8 15 rfl rfl)
theorem dX2_keep_206 : decode cX2_keep 206 = .ok (.return_, 1) := dk_177 (dk_at dksX2_keep_8 16 rfl rfl)
abbrev cX2_shaveNow : ByteArray := prog_19_method_73_code
def yX2_shaveNow : MethodName := ⟨RX2, "shaveNow", "(I)I"⟩
def dkwX2_shaveNow_8 : List UInt8 := [21, 6, 153, 0, 7, 4, 167, 0, 4, 3, 182, 1, 82, 21, 5, 172]
abbrev dktX2_shaveNow_8 : List UInt8 := dkwX2_shaveNow_8 ++ []
def dkwX2_shaveNow_7 : List UInt8 := [4, 42, 27, 4, 182, 0, 92, 4, 96, 133, 3, 16, 9, 184, 1, 53, 182, 0, 84, 42, 27, 21, 5]
abbrev dktX2_shaveNow_7 : List UInt8 := dkwX2_shaveNow_7 ++ dktX2_shaveNow_8
def dkwX2_shaveNow_6 : List UInt8 := [21, 4, 5, 42, 21, 4, 5, 182, 0, 92, 4, 96, 133, 3, 16, 99, 184, 1, 53, 182, 0, 84, 42, 27]
abbrev dktX2_shaveNow_6 : List UInt8 := dkwX2_shaveNow_6 ++ dktX2_shaveNow_7
def dkwX2_shaveNow_5 : List UInt8 := [16, 10, 112, 28, 162, 0, 7, 4, 167, 0, 4, 3, 54, 6, 42, 182, 1, 85, 21, 6, 153, 0, 47, 42]
abbrev dktX2_shaveNow_5 : List UInt8 := dkwX2_shaveNow_5 ++ dktX2_shaveNow_6
def dkwX2_shaveNow_4 : List UInt8 := [21, 4, 3, 42, 21, 4, 3, 182, 0, 92, 21, 5, 100, 182, 0, 84, 42, 180, 0, 7, 16, 8, 46]
abbrev dktX2_shaveNow_4 : List UInt8 := dkwX2_shaveNow_4 ++ dktX2_shaveNow_5
def dkwX2_shaveNow_3 : List UInt8 := [42, 21, 4, 3, 182, 0, 92, 162, 0, 7, 29, 167, 0, 10, 42, 21, 4, 3, 182, 0, 92, 54, 5, 42]
abbrev dktX2_shaveNow_3 : List UInt8 := dkwX2_shaveNow_3 ++ dktX2_shaveNow_4
def dkwX2_shaveNow_2 : List UInt8 := [182, 0, 77, 54, 4, 42, 21, 4, 182, 1, 57, 154, 0, 12, 42, 27, 3, 3, 182, 1, 82, 3, 172, 29]
abbrev dktX2_shaveNow_2 : List UInt8 := dkwX2_shaveNow_2 ++ dktX2_shaveNow_3
def dkwX2_shaveNow_1 : List UInt8 := [46, 42, 42, 180, 0, 7, 5, 46, 27, 182, 1, 79, 96, 133, 3, 18, 124, 184, 1, 53, 79, 42, 27]
abbrev dktX2_shaveNow_1 : List UInt8 := dkwX2_shaveNow_1 ++ dktX2_shaveNow_2
def dkwX2_shaveNow_0 : List UInt8 := [42, 27, 182, 1, 73, 61, 42, 27, 182, 1, 76, 62, 42, 180, 0, 7, 16, 7, 42, 180, 0, 7, 16, 7]
abbrev dktX2_shaveNow_0 : List UInt8 := dkwX2_shaveNow_0 ++ dktX2_shaveNow_1
theorem dksX2_shaveNow_0 : cX2_shaveNow.data.toList.drop 0 = dktX2_shaveNow_0 := by decide +kernel
theorem dksX2_shaveNow_1 : cX2_shaveNow.data.toList.drop 24 = dktX2_shaveNow_1 := dk_seg dksX2_shaveNow_0 24 rfl rfl
theorem dksX2_shaveNow_2 : cX2_shaveNow.data.toList.drop 47 = dktX2_shaveNow_2 := dk_seg dksX2_shaveNow_1 23 rfl rfl
theorem dksX2_shaveNow_3 : cX2_shaveNow.data.toList.drop 71 = dktX2_shaveNow_3 := dk_seg dksX2_shaveNow_2 24 rfl rfl
theorem dksX2_shaveNow_4 : cX2_shaveNow.data.toList.drop 95 = dktX2_shaveNow_4 := dk_seg dksX2_shaveNow_3 24 rfl rfl
theorem dksX2_shaveNow_5 : cX2_shaveNow.data.toList.drop 118 = dktX2_shaveNow_5 := dk_seg dksX2_shaveNow_4 23 rfl rfl
theorem dksX2_shaveNow_6 : cX2_shaveNow.data.toList.drop 142 = dktX2_shaveNow_6 := dk_seg dksX2_shaveNow_5 24 rfl rfl
theorem dksX2_shaveNow_7 : cX2_shaveNow.data.toList.drop 166 = dktX2_shaveNow_7 := dk_seg dksX2_shaveNow_6 24 rfl rfl
theorem dksX2_shaveNow_8 : cX2_shaveNow.data.toList.drop 189 = dktX2_shaveNow_8 := dk_seg dksX2_shaveNow_7 23 rfl rfl
theorem dX2_shaveNow_0 : decode cX2_shaveNow 0 = .ok (.aload_n 0, 1) := dk_42 (dk_at dksX2_shaveNow_0 0 rfl rfl)
theorem dX2_shaveNow_1 : decode cX2_shaveNow 1 = .ok (.iload_n 1, 1) := dk_27 (dk_at dksX2_shaveNow_0 1 rfl rfl)
theorem dX2_shaveNow_2 : decode cX2_shaveNow 2 = .ok (.invokevirtual 329, 3) := dk_182 1 73 (dk_at dksX2_shaveNow_0 2 rfl rfl)
theorem dX2_shaveNow_5 : decode cX2_shaveNow 5 = .ok (.istore_n 2, 1) := dk_61 (dk_at dksX2_shaveNow_0 5 rfl rfl)
theorem dX2_shaveNow_6 : decode cX2_shaveNow 6 = .ok (.aload_n 0, 1) := dk_42 (dk_at dksX2_shaveNow_0 6 rfl rfl)
theorem dX2_shaveNow_7 : decode cX2_shaveNow 7 = .ok (.iload_n 1, 1) := dk_27 (dk_at dksX2_shaveNow_0 7 rfl rfl)
theorem dX2_shaveNow_8 : decode cX2_shaveNow 8 = .ok (.invokevirtual 332, 3) := dk_182 1 76 (dk_at dksX2_shaveNow_0 8 rfl rfl)
theorem dX2_shaveNow_11 : decode cX2_shaveNow 11 = .ok (.istore_n 3, 1) := dk_62 (dk_at dksX2_shaveNow_0 11 rfl rfl)
theorem dX2_shaveNow_12 : decode cX2_shaveNow 12 = .ok (.aload_n 0, 1) := dk_42 (dk_at dksX2_shaveNow_0 12 rfl rfl)
theorem dX2_shaveNow_13 : decode cX2_shaveNow 13 = .ok (.getfield 7, 3) := dk_180 0 7 (dk_at dksX2_shaveNow_0 13 rfl rfl)
theorem dX2_shaveNow_16 : decode cX2_shaveNow 16 = .ok (.bipush 7, 2) := dk_16 7 (dk_at dksX2_shaveNow_0 16 rfl rfl)
theorem dX2_shaveNow_18 : decode cX2_shaveNow 18 = .ok (.aload_n 0, 1) := dk_42 (dk_at dksX2_shaveNow_0 18 rfl rfl)
theorem dX2_shaveNow_19 : decode cX2_shaveNow 19 = .ok (.getfield 7, 3) := dk_180 0 7 (dk_at dksX2_shaveNow_0 19 rfl rfl)
theorem dX2_shaveNow_22 : decode cX2_shaveNow 22 = .ok (.bipush 7, 2) := dk_16 7 (dk_at dksX2_shaveNow_0 22 rfl rfl)
theorem dX2_shaveNow_24 : decode cX2_shaveNow 24 = .ok (.iaload, 1) := dk_46 (dk_at dksX2_shaveNow_1 0 rfl rfl)
theorem dX2_shaveNow_25 : decode cX2_shaveNow 25 = .ok (.aload_n 0, 1) := dk_42 (dk_at dksX2_shaveNow_1 1 rfl rfl)
theorem dX2_shaveNow_26 : decode cX2_shaveNow 26 = .ok (.aload_n 0, 1) := dk_42 (dk_at dksX2_shaveNow_1 2 rfl rfl)
theorem dX2_shaveNow_27 : decode cX2_shaveNow 27 = .ok (.getfield 7, 3) := dk_180 0 7 (dk_at dksX2_shaveNow_1 3 rfl rfl)
theorem dX2_shaveNow_30 : decode cX2_shaveNow 30 = .ok (.iconst 2, 1) := dk_5 (dk_at dksX2_shaveNow_1 6 rfl rfl)
theorem dX2_shaveNow_31 : decode cX2_shaveNow 31 = .ok (.iaload, 1) := dk_46 (dk_at dksX2_shaveNow_1 7 rfl rfl)
theorem dX2_shaveNow_32 : decode cX2_shaveNow 32 = .ok (.iload_n 1, 1) := dk_27 (dk_at dksX2_shaveNow_1 8 rfl rfl)
theorem dX2_shaveNow_33 : decode cX2_shaveNow 33 = .ok (.invokevirtual 335, 3) := dk_182 1 79 (dk_at dksX2_shaveNow_1 9 rfl rfl)
theorem dX2_shaveNow_36 : decode cX2_shaveNow 36 = .ok (.iadd, 1) := dk_96 (dk_at dksX2_shaveNow_1 12 rfl rfl)
theorem dX2_shaveNow_37 : decode cX2_shaveNow 37 = .ok (.i2l, 1) := dk_133 (dk_at dksX2_shaveNow_1 13 rfl rfl)
theorem dX2_shaveNow_38 : decode cX2_shaveNow 38 = .ok (.iconst 0, 1) := dk_3 (dk_at dksX2_shaveNow_1 14 rfl rfl)
theorem dX2_shaveNow_39 : decode cX2_shaveNow 39 = .ok (.ldc 124, 2) := dk_18 124 (dk_at dksX2_shaveNow_1 15 rfl rfl)
theorem dX2_shaveNow_41 : decode cX2_shaveNow 41 = .ok (.invokestatic 309, 3) := dk_184 1 53 (dk_at dksX2_shaveNow_1 17 rfl rfl)
theorem dX2_shaveNow_44 : decode cX2_shaveNow 44 = .ok (.iastore, 1) := dk_79 (dk_at dksX2_shaveNow_1 20 rfl rfl)
theorem dX2_shaveNow_45 : decode cX2_shaveNow 45 = .ok (.aload_n 0, 1) := dk_42 (dk_at dksX2_shaveNow_1 21 rfl rfl)
theorem dX2_shaveNow_46 : decode cX2_shaveNow 46 = .ok (.iload_n 1, 1) := dk_27 (dk_at dksX2_shaveNow_1 22 rfl rfl)
theorem dX2_shaveNow_47 : decode cX2_shaveNow 47 = .ok (.invokevirtual 77, 3) := dk_182 0 77 (dk_at dksX2_shaveNow_2 0 rfl rfl)
theorem dX2_shaveNow_50 : decode cX2_shaveNow 50 = .ok (.istore 4, 2) := dk_54 4 (dk_at dksX2_shaveNow_2 3 rfl rfl)
theorem dX2_shaveNow_52 : decode cX2_shaveNow 52 = .ok (.aload_n 0, 1) := dk_42 (dk_at dksX2_shaveNow_2 5 rfl rfl)
theorem dX2_shaveNow_53 : decode cX2_shaveNow 53 = .ok (.iload 4, 2) := dk_21 4 (dk_at dksX2_shaveNow_2 6 rfl rfl)
theorem dX2_shaveNow_55 : decode cX2_shaveNow 55 = .ok (.invokevirtual 313, 3) := dk_182 1 57 (dk_at dksX2_shaveNow_2 8 rfl rfl)
theorem dX2_shaveNow_58 : decode cX2_shaveNow 58 = .ok (.ifCond .ne 12, 3) := dk_154 0 12 (dk_at dksX2_shaveNow_2 11 rfl rfl)
theorem dX2_shaveNow_61 : decode cX2_shaveNow 61 = .ok (.aload_n 0, 1) := dk_42 (dk_at dksX2_shaveNow_2 14 rfl rfl)
theorem dX2_shaveNow_62 : decode cX2_shaveNow 62 = .ok (.iload_n 1, 1) := dk_27 (dk_at dksX2_shaveNow_2 15 rfl rfl)
theorem dX2_shaveNow_63 : decode cX2_shaveNow 63 = .ok (.iconst 0, 1) := dk_3 (dk_at dksX2_shaveNow_2 16 rfl rfl)
theorem dX2_shaveNow_64 : decode cX2_shaveNow 64 = .ok (.iconst 0, 1) := dk_3 (dk_at dksX2_shaveNow_2 17 rfl rfl)
theorem dX2_shaveNow_65 : decode cX2_shaveNow 65 = .ok (.invokevirtual 338, 3) := dk_182 1 82 (dk_at dksX2_shaveNow_2 18 rfl rfl)
theorem dX2_shaveNow_68 : decode cX2_shaveNow 68 = .ok (.iconst 0, 1) := dk_3 (dk_at dksX2_shaveNow_2 21 rfl rfl)
theorem dX2_shaveNow_69 : decode cX2_shaveNow 69 = .ok (.ireturn, 1) := dk_172 (dk_at dksX2_shaveNow_2 22 rfl rfl)
theorem dX2_shaveNow_70 : decode cX2_shaveNow 70 = .ok (.iload_n 3, 1) := dk_29 (dk_at dksX2_shaveNow_2 23 rfl rfl)
theorem dX2_shaveNow_71 : decode cX2_shaveNow 71 = .ok (.aload_n 0, 1) := dk_42 (dk_at dksX2_shaveNow_3 0 rfl rfl)
theorem dX2_shaveNow_72 : decode cX2_shaveNow 72 = .ok (.iload 4, 2) := dk_21 4 (dk_at dksX2_shaveNow_3 1 rfl rfl)
theorem dX2_shaveNow_74 : decode cX2_shaveNow 74 = .ok (.iconst 0, 1) := dk_3 (dk_at dksX2_shaveNow_3 3 rfl rfl)
theorem dX2_shaveNow_75 : decode cX2_shaveNow 75 = .ok (.invokevirtual 92, 3) := dk_182 0 92 (dk_at dksX2_shaveNow_3 4 rfl rfl)
theorem dX2_shaveNow_78 : decode cX2_shaveNow 78 = .ok (.if_icmp .ge 7, 3) := dk_162 0 7 (dk_at dksX2_shaveNow_3 7 rfl rfl)
theorem dX2_shaveNow_81 : decode cX2_shaveNow 81 = .ok (.iload_n 3, 1) := dk_29 (dk_at dksX2_shaveNow_3 10 rfl rfl)
theorem dX2_shaveNow_82 : decode cX2_shaveNow 82 = .ok (.goto 10, 3) := dk_167 0 10 (dk_at dksX2_shaveNow_3 11 rfl rfl)
theorem dX2_shaveNow_85 : decode cX2_shaveNow 85 = .ok (.aload_n 0, 1) := dk_42 (dk_at dksX2_shaveNow_3 14 rfl rfl)
theorem dX2_shaveNow_86 : decode cX2_shaveNow 86 = .ok (.iload 4, 2) := dk_21 4 (dk_at dksX2_shaveNow_3 15 rfl rfl)
theorem dX2_shaveNow_88 : decode cX2_shaveNow 88 = .ok (.iconst 0, 1) := dk_3 (dk_at dksX2_shaveNow_3 17 rfl rfl)
theorem dX2_shaveNow_89 : decode cX2_shaveNow 89 = .ok (.invokevirtual 92, 3) := dk_182 0 92 (dk_at dksX2_shaveNow_3 18 rfl rfl)
theorem dX2_shaveNow_92 : decode cX2_shaveNow 92 = .ok (.istore 5, 2) := dk_54 5 (dk_at dksX2_shaveNow_3 21 rfl rfl)
theorem dX2_shaveNow_94 : decode cX2_shaveNow 94 = .ok (.aload_n 0, 1) := dk_42 (dk_at dksX2_shaveNow_3 23 rfl rfl)
theorem dX2_shaveNow_95 : decode cX2_shaveNow 95 = .ok (.iload 4, 2) := dk_21 4 (dk_at dksX2_shaveNow_4 0 rfl rfl)
theorem dX2_shaveNow_97 : decode cX2_shaveNow 97 = .ok (.iconst 0, 1) := dk_3 (dk_at dksX2_shaveNow_4 2 rfl rfl)
theorem dX2_shaveNow_98 : decode cX2_shaveNow 98 = .ok (.aload_n 0, 1) := dk_42 (dk_at dksX2_shaveNow_4 3 rfl rfl)
theorem dX2_shaveNow_99 : decode cX2_shaveNow 99 = .ok (.iload 4, 2) := dk_21 4 (dk_at dksX2_shaveNow_4 4 rfl rfl)
theorem dX2_shaveNow_101 : decode cX2_shaveNow 101 = .ok (.iconst 0, 1) := dk_3 (dk_at dksX2_shaveNow_4 6 rfl rfl)
theorem dX2_shaveNow_102 : decode cX2_shaveNow 102 = .ok (.invokevirtual 92, 3) := dk_182 0 92 (dk_at dksX2_shaveNow_4 7 rfl rfl)
theorem dX2_shaveNow_105 : decode cX2_shaveNow 105 = .ok (.iload 5, 2) := dk_21 5 (dk_at dksX2_shaveNow_4 10 rfl rfl)
theorem dX2_shaveNow_107 : decode cX2_shaveNow 107 = .ok (.isub, 1) := dk_100 (dk_at dksX2_shaveNow_4 12 rfl rfl)
theorem dX2_shaveNow_108 : decode cX2_shaveNow 108 = .ok (.invokevirtual 84, 3) := dk_182 0 84 (dk_at dksX2_shaveNow_4 13 rfl rfl)
theorem dX2_shaveNow_111 : decode cX2_shaveNow 111 = .ok (.aload_n 0, 1) := dk_42 (dk_at dksX2_shaveNow_4 16 rfl rfl)
theorem dX2_shaveNow_112 : decode cX2_shaveNow 112 = .ok (.getfield 7, 3) := dk_180 0 7 (dk_at dksX2_shaveNow_4 17 rfl rfl)
theorem dX2_shaveNow_115 : decode cX2_shaveNow 115 = .ok (.bipush 8, 2) := dk_16 8 (dk_at dksX2_shaveNow_4 20 rfl rfl)
theorem dX2_shaveNow_117 : decode cX2_shaveNow 117 = .ok (.iaload, 1) := dk_46 (dk_at dksX2_shaveNow_4 22 rfl rfl)
theorem dX2_shaveNow_118 : decode cX2_shaveNow 118 = .ok (.bipush 10, 2) := dk_16 10 (dk_at dksX2_shaveNow_5 0 rfl rfl)
theorem dX2_shaveNow_120 : decode cX2_shaveNow 120 = .ok (.irem, 1) := dk_112 (dk_at dksX2_shaveNow_5 2 rfl rfl)
theorem dX2_shaveNow_121 : decode cX2_shaveNow 121 = .ok (.iload_n 2, 1) := dk_28 (dk_at dksX2_shaveNow_5 3 rfl rfl)
theorem dX2_shaveNow_122 : decode cX2_shaveNow 122 = .ok (.if_icmp .ge 7, 3) := dk_162 0 7 (dk_at dksX2_shaveNow_5 4 rfl rfl)
theorem dX2_shaveNow_125 : decode cX2_shaveNow 125 = .ok (.iconst 1, 1) := dk_4 (dk_at dksX2_shaveNow_5 7 rfl rfl)
theorem dX2_shaveNow_126 : decode cX2_shaveNow 126 = .ok (.goto 4, 3) := dk_167 0 4 (dk_at dksX2_shaveNow_5 8 rfl rfl)
theorem dX2_shaveNow_129 : decode cX2_shaveNow 129 = .ok (.iconst 0, 1) := dk_3 (dk_at dksX2_shaveNow_5 11 rfl rfl)
theorem dX2_shaveNow_130 : decode cX2_shaveNow 130 = .ok (.istore 6, 2) := dk_54 6 (dk_at dksX2_shaveNow_5 12 rfl rfl)
theorem dX2_shaveNow_132 : decode cX2_shaveNow 132 = .ok (.aload_n 0, 1) := dk_42 (dk_at dksX2_shaveNow_5 14 rfl rfl)
theorem dX2_shaveNow_133 : decode cX2_shaveNow 133 = .ok (.invokevirtual 341, 3) := dk_182 1 85 (dk_at dksX2_shaveNow_5 15 rfl rfl)
theorem dX2_shaveNow_136 : decode cX2_shaveNow 136 = .ok (.iload 6, 2) := dk_21 6 (dk_at dksX2_shaveNow_5 18 rfl rfl)
theorem dX2_shaveNow_138 : decode cX2_shaveNow 138 = .ok (.ifCond .eq 47, 3) := dk_153 0 47 (dk_at dksX2_shaveNow_5 20 rfl rfl)
theorem dX2_shaveNow_141 : decode cX2_shaveNow 141 = .ok (.aload_n 0, 1) := dk_42 (dk_at dksX2_shaveNow_5 23 rfl rfl)
theorem dX2_shaveNow_142 : decode cX2_shaveNow 142 = .ok (.iload 4, 2) := dk_21 4 (dk_at dksX2_shaveNow_6 0 rfl rfl)
theorem dX2_shaveNow_144 : decode cX2_shaveNow 144 = .ok (.iconst 2, 1) := dk_5 (dk_at dksX2_shaveNow_6 2 rfl rfl)
theorem dX2_shaveNow_145 : decode cX2_shaveNow 145 = .ok (.aload_n 0, 1) := dk_42 (dk_at dksX2_shaveNow_6 3 rfl rfl)
theorem dX2_shaveNow_146 : decode cX2_shaveNow 146 = .ok (.iload 4, 2) := dk_21 4 (dk_at dksX2_shaveNow_6 4 rfl rfl)
theorem dX2_shaveNow_148 : decode cX2_shaveNow 148 = .ok (.iconst 2, 1) := dk_5 (dk_at dksX2_shaveNow_6 6 rfl rfl)
theorem dX2_shaveNow_149 : decode cX2_shaveNow 149 = .ok (.invokevirtual 92, 3) := dk_182 0 92 (dk_at dksX2_shaveNow_6 7 rfl rfl)
theorem dX2_shaveNow_152 : decode cX2_shaveNow 152 = .ok (.iconst 1, 1) := dk_4 (dk_at dksX2_shaveNow_6 10 rfl rfl)
theorem dX2_shaveNow_153 : decode cX2_shaveNow 153 = .ok (.iadd, 1) := dk_96 (dk_at dksX2_shaveNow_6 11 rfl rfl)
theorem dX2_shaveNow_154 : decode cX2_shaveNow 154 = .ok (.i2l, 1) := dk_133 (dk_at dksX2_shaveNow_6 12 rfl rfl)
theorem dX2_shaveNow_155 : decode cX2_shaveNow 155 = .ok (.iconst 0, 1) := dk_3 (dk_at dksX2_shaveNow_6 13 rfl rfl)
theorem dX2_shaveNow_156 : decode cX2_shaveNow 156 = .ok (.bipush 99, 2) := dk_16 99 (dk_at dksX2_shaveNow_6 14 rfl rfl)
theorem dX2_shaveNow_158 : decode cX2_shaveNow 158 = .ok (.invokestatic 309, 3) := dk_184 1 53 (dk_at dksX2_shaveNow_6 16 rfl rfl)
theorem dX2_shaveNow_161 : decode cX2_shaveNow 161 = .ok (.invokevirtual 84, 3) := dk_182 0 84 (dk_at dksX2_shaveNow_6 19 rfl rfl)
theorem dX2_shaveNow_164 : decode cX2_shaveNow 164 = .ok (.aload_n 0, 1) := dk_42 (dk_at dksX2_shaveNow_6 22 rfl rfl)
theorem dX2_shaveNow_165 : decode cX2_shaveNow 165 = .ok (.iload_n 1, 1) := dk_27 (dk_at dksX2_shaveNow_6 23 rfl rfl)
theorem dX2_shaveNow_166 : decode cX2_shaveNow 166 = .ok (.iconst 1, 1) := dk_4 (dk_at dksX2_shaveNow_7 0 rfl rfl)
theorem dX2_shaveNow_167 : decode cX2_shaveNow 167 = .ok (.aload_n 0, 1) := dk_42 (dk_at dksX2_shaveNow_7 1 rfl rfl)
theorem dX2_shaveNow_168 : decode cX2_shaveNow 168 = .ok (.iload_n 1, 1) := dk_27 (dk_at dksX2_shaveNow_7 2 rfl rfl)
theorem dX2_shaveNow_169 : decode cX2_shaveNow 169 = .ok (.iconst 1, 1) := dk_4 (dk_at dksX2_shaveNow_7 3 rfl rfl)
theorem dX2_shaveNow_170 : decode cX2_shaveNow 170 = .ok (.invokevirtual 92, 3) := dk_182 0 92 (dk_at dksX2_shaveNow_7 4 rfl rfl)
theorem dX2_shaveNow_173 : decode cX2_shaveNow 173 = .ok (.iconst 1, 1) := dk_4 (dk_at dksX2_shaveNow_7 7 rfl rfl)
theorem dX2_shaveNow_174 : decode cX2_shaveNow 174 = .ok (.iadd, 1) := dk_96 (dk_at dksX2_shaveNow_7 8 rfl rfl)
theorem dX2_shaveNow_175 : decode cX2_shaveNow 175 = .ok (.i2l, 1) := dk_133 (dk_at dksX2_shaveNow_7 9 rfl rfl)
theorem dX2_shaveNow_176 : decode cX2_shaveNow 176 = .ok (.iconst 0, 1) := dk_3 (dk_at dksX2_shaveNow_7 10 rfl rfl)
theorem dX2_shaveNow_177 : decode cX2_shaveNow 177 = .ok (.bipush 9, 2) := dk_16 9 (dk_at dksX2_shaveNow_7 11 rfl rfl)
theorem dX2_shaveNow_179 : decode cX2_shaveNow 179 = .ok (.invokestatic 309, 3) := dk_184 1 53 (dk_at dksX2_shaveNow_7 13 rfl rfl)
theorem dX2_shaveNow_182 : decode cX2_shaveNow 182 = .ok (.invokevirtual 84, 3) := dk_182 0 84 (dk_at dksX2_shaveNow_7 16 rfl rfl)
theorem dX2_shaveNow_185 : decode cX2_shaveNow 185 = .ok (.aload_n 0, 1) := dk_42 (dk_at dksX2_shaveNow_7 19 rfl rfl)
theorem dX2_shaveNow_186 : decode cX2_shaveNow 186 = .ok (.iload_n 1, 1) := dk_27 (dk_at dksX2_shaveNow_7 20 rfl rfl)
theorem dX2_shaveNow_187 : decode cX2_shaveNow 187 = .ok (.iload 5, 2) := dk_21 5 (dk_at dksX2_shaveNow_7 21 rfl rfl)
theorem dX2_shaveNow_189 : decode cX2_shaveNow 189 = .ok (.iload 6, 2) := dk_21 6 (dk_at dksX2_shaveNow_8 0 rfl rfl)
theorem dX2_shaveNow_191 : decode cX2_shaveNow 191 = .ok (.ifCond .eq 7, 3) := dk_153 0 7 (dk_at dksX2_shaveNow_8 2 rfl rfl)
theorem dX2_shaveNow_194 : decode cX2_shaveNow 194 = .ok (.iconst 1, 1) := dk_4 (dk_at dksX2_shaveNow_8 5 rfl rfl)
theorem dX2_shaveNow_195 : decode cX2_shaveNow 195 = .ok (.goto 4, 3) := dk_167 0 4 (dk_at dksX2_shaveNow_8 6 rfl rfl)
theorem dX2_shaveNow_198 : decode cX2_shaveNow 198 = .ok (.iconst 0, 1) := dk_3 (dk_at dksX2_shaveNow_8 9 rfl rfl)
theorem dX2_shaveNow_199 : decode cX2_shaveNow 199 = .ok (.invokevirtual 338, 3) := dk_182 1 82 (dk_at dksX2_shaveNow_8 10 rfl rfl)
theorem dX2_shaveNow_202 : decode cX2_shaveNow 202 = .ok (.iload 5, 2) := dk_21 5 (dk_at dksX2_shaveNow_8 13 rfl rfl)
theorem dX2_shaveNow_204 : decode cX2_shaveNow 204 = .ok (.ireturn, 1) := dk_172 (dk_at dksX2_shaveNow_8 15 rfl rfl)
abbrev cX2_slipsOf : ByteArray := prog_19_method_69_code
def yX2_slipsOf : MethodName := ⟨RX2, "slipsOf", "(I)I"⟩
def dkwX2_slipsOf_1 : List UInt8 := [182, 1, 63, 172]
abbrev dktX2_slipsOf_1 : List UInt8 := dkwX2_slipsOf_1 ++ []
def dkwX2_slipsOf_0 : List UInt8 := [42, 27, 182, 1, 60, 42, 42, 180, 0, 7, 5, 46, 4, 42, 180, 0, 32, 5, 46, 5, 108, 16, 10]
abbrev dktX2_slipsOf_0 : List UInt8 := dkwX2_slipsOf_0 ++ dktX2_slipsOf_1
theorem dksX2_slipsOf_0 : cX2_slipsOf.data.toList.drop 0 = dktX2_slipsOf_0 := by decide +kernel
theorem dksX2_slipsOf_1 : cX2_slipsOf.data.toList.drop 23 = dktX2_slipsOf_1 := dk_seg dksX2_slipsOf_0 23 rfl rfl
theorem dX2_slipsOf_0 : decode cX2_slipsOf 0 = .ok (.aload_n 0, 1) := dk_42 (dk_at dksX2_slipsOf_0 0 rfl rfl)
theorem dX2_slipsOf_1 : decode cX2_slipsOf 1 = .ok (.iload_n 1, 1) := dk_27 (dk_at dksX2_slipsOf_0 1 rfl rfl)
theorem dX2_slipsOf_2 : decode cX2_slipsOf 2 = .ok (.invokevirtual 316, 3) := dk_182 1 60 (dk_at dksX2_slipsOf_0 2 rfl rfl)
theorem dX2_slipsOf_5 : decode cX2_slipsOf 5 = .ok (.aload_n 0, 1) := dk_42 (dk_at dksX2_slipsOf_0 5 rfl rfl)
theorem dX2_slipsOf_6 : decode cX2_slipsOf 6 = .ok (.aload_n 0, 1) := dk_42 (dk_at dksX2_slipsOf_0 6 rfl rfl)
theorem dX2_slipsOf_7 : decode cX2_slipsOf 7 = .ok (.getfield 7, 3) := dk_180 0 7 (dk_at dksX2_slipsOf_0 7 rfl rfl)
theorem dX2_slipsOf_10 : decode cX2_slipsOf 10 = .ok (.iconst 2, 1) := dk_5 (dk_at dksX2_slipsOf_0 10 rfl rfl)
theorem dX2_slipsOf_11 : decode cX2_slipsOf 11 = .ok (.iaload, 1) := dk_46 (dk_at dksX2_slipsOf_0 11 rfl rfl)
theorem dX2_slipsOf_12 : decode cX2_slipsOf 12 = .ok (.iconst 1, 1) := dk_4 (dk_at dksX2_slipsOf_0 12 rfl rfl)
theorem dX2_slipsOf_13 : decode cX2_slipsOf 13 = .ok (.aload_n 0, 1) := dk_42 (dk_at dksX2_slipsOf_0 13 rfl rfl)
theorem dX2_slipsOf_14 : decode cX2_slipsOf 14 = .ok (.getfield 32, 3) := dk_180 0 32 (dk_at dksX2_slipsOf_0 14 rfl rfl)
theorem dX2_slipsOf_17 : decode cX2_slipsOf 17 = .ok (.iconst 2, 1) := dk_5 (dk_at dksX2_slipsOf_0 17 rfl rfl)
theorem dX2_slipsOf_18 : decode cX2_slipsOf 18 = .ok (.iaload, 1) := dk_46 (dk_at dksX2_slipsOf_0 18 rfl rfl)
theorem dX2_slipsOf_19 : decode cX2_slipsOf 19 = .ok (.iconst 2, 1) := dk_5 (dk_at dksX2_slipsOf_0 19 rfl rfl)
theorem dX2_slipsOf_20 : decode cX2_slipsOf 20 = .ok (.idiv, 1) := dk_108 (dk_at dksX2_slipsOf_0 20 rfl rfl)
theorem dX2_slipsOf_21 : decode cX2_slipsOf 21 = .ok (.bipush 10, 2) := dk_16 10 (dk_at dksX2_slipsOf_0 21 rfl rfl)
theorem dX2_slipsOf_23 : decode cX2_slipsOf 23 = .ok (.invokevirtual 319, 3) := dk_182 1 63 (dk_at dksX2_slipsOf_1 0 rfl rfl)
theorem dX2_slipsOf_26 : decode cX2_slipsOf 26 = .ok (.ireturn, 1) := dk_172 (dk_at dksX2_slipsOf_1 3 rfl rfl)
abbrev cX2_name : ByteArray := prog_19_method_67_code
def yX2_name : MethodName := ⟨RX2, "name", "(I)V"⟩
def dkwX2_name_4 : List UInt8 := [180, 0, 7, 16, 7, 46, 79, 177]
abbrev dktX2_name_4 : List UInt8 := dkwX2_name_4 ++ []
def dkwX2_name_3 : List UInt8 := [42, 42, 27, 182, 0, 77, 3, 182, 0, 92, 167, 0, 4, 3, 79, 42, 180, 0, 32, 16, 6, 42]
abbrev dktX2_name_3 : List UInt8 := dkwX2_name_3 ++ dktX2_name_4
def dkwX2_name_2 : List UInt8 := [42, 27, 5, 182, 0, 92, 79, 42, 180, 0, 32, 8, 42, 42, 27, 182, 0, 77, 182, 1, 57, 153, 0, 16]
abbrev dktX2_name_2 : List UInt8 := dkwX2_name_2 ++ dktX2_name_3
def dkwX2_name_1 : List UInt8 := [5, 42, 27, 4, 182, 0, 92, 79, 42, 180, 0, 32, 6, 42, 27, 182, 0, 77, 79, 42, 180, 0, 32, 7]
abbrev dktX2_name_1 : List UInt8 := dkwX2_name_1 ++ dktX2_name_2
def dkwX2_name_0 : List UInt8 := [42, 180, 0, 32, 3, 42, 180, 0, 7, 16, 6, 46, 79, 42, 180, 0, 32, 4, 27, 79, 42, 180, 0, 32]
abbrev dktX2_name_0 : List UInt8 := dkwX2_name_0 ++ dktX2_name_1
theorem dksX2_name_0 : cX2_name.data.toList.drop 0 = dktX2_name_0 := by decide +kernel
theorem dksX2_name_1 : cX2_name.data.toList.drop 24 = dktX2_name_1 := dk_seg dksX2_name_0 24 rfl rfl
theorem dksX2_name_2 : cX2_name.data.toList.drop 48 = dktX2_name_2 := dk_seg dksX2_name_1 24 rfl rfl
theorem dksX2_name_3 : cX2_name.data.toList.drop 72 = dktX2_name_3 := dk_seg dksX2_name_2 24 rfl rfl
theorem dksX2_name_4 : cX2_name.data.toList.drop 94 = dktX2_name_4 := dk_seg dksX2_name_3 22 rfl rfl
theorem dX2_name_0 : decode cX2_name 0 = .ok (.aload_n 0, 1) := dk_42 (dk_at dksX2_name_0 0 rfl rfl)
theorem dX2_name_1 : decode cX2_name 1 = .ok (.getfield 32, 3) := dk_180 0 32 (dk_at dksX2_name_0 1 rfl rfl)
theorem dX2_name_4 : decode cX2_name 4 = .ok (.iconst 0, 1) := dk_3 (dk_at dksX2_name_0 4 rfl rfl)
theorem dX2_name_5 : decode cX2_name 5 = .ok (.aload_n 0, 1) := dk_42 (dk_at dksX2_name_0 5 rfl rfl)
theorem dX2_name_6 : decode cX2_name 6 = .ok (.getfield 7, 3) := dk_180 0 7 (dk_at dksX2_name_0 6 rfl rfl)
theorem dX2_name_9 : decode cX2_name 9 = .ok (.bipush 6, 2) := dk_16 6 (dk_at dksX2_name_0 9 rfl rfl)
theorem dX2_name_11 : decode cX2_name 11 = .ok (.iaload, 1) := dk_46 (dk_at dksX2_name_0 11 rfl rfl)
theorem dX2_name_12 : decode cX2_name 12 = .ok (.iastore, 1) := dk_79 (dk_at dksX2_name_0 12 rfl rfl)
theorem dX2_name_13 : decode cX2_name 13 = .ok (.aload_n 0, 1) := dk_42 (dk_at dksX2_name_0 13 rfl rfl)
theorem dX2_name_14 : decode cX2_name 14 = .ok (.getfield 32, 3) := dk_180 0 32 (dk_at dksX2_name_0 14 rfl rfl)
theorem dX2_name_17 : decode cX2_name 17 = .ok (.iconst 1, 1) := dk_4 (dk_at dksX2_name_0 17 rfl rfl)
theorem dX2_name_18 : decode cX2_name 18 = .ok (.iload_n 1, 1) := dk_27 (dk_at dksX2_name_0 18 rfl rfl)
theorem dX2_name_19 : decode cX2_name 19 = .ok (.iastore, 1) := dk_79 (dk_at dksX2_name_0 19 rfl rfl)
theorem dX2_name_20 : decode cX2_name 20 = .ok (.aload_n 0, 1) := dk_42 (dk_at dksX2_name_0 20 rfl rfl)
theorem dX2_name_21 : decode cX2_name 21 = .ok (.getfield 32, 3) := dk_180 0 32 (dk_at dksX2_name_0 21 rfl rfl)
theorem dX2_name_24 : decode cX2_name 24 = .ok (.iconst 2, 1) := dk_5 (dk_at dksX2_name_1 0 rfl rfl)
theorem dX2_name_25 : decode cX2_name 25 = .ok (.aload_n 0, 1) := dk_42 (dk_at dksX2_name_1 1 rfl rfl)
theorem dX2_name_26 : decode cX2_name 26 = .ok (.iload_n 1, 1) := dk_27 (dk_at dksX2_name_1 2 rfl rfl)
theorem dX2_name_27 : decode cX2_name 27 = .ok (.iconst 1, 1) := dk_4 (dk_at dksX2_name_1 3 rfl rfl)
theorem dX2_name_28 : decode cX2_name 28 = .ok (.invokevirtual 92, 3) := dk_182 0 92 (dk_at dksX2_name_1 4 rfl rfl)
theorem dX2_name_31 : decode cX2_name 31 = .ok (.iastore, 1) := dk_79 (dk_at dksX2_name_1 7 rfl rfl)
theorem dX2_name_32 : decode cX2_name 32 = .ok (.aload_n 0, 1) := dk_42 (dk_at dksX2_name_1 8 rfl rfl)
theorem dX2_name_33 : decode cX2_name 33 = .ok (.getfield 32, 3) := dk_180 0 32 (dk_at dksX2_name_1 9 rfl rfl)
theorem dX2_name_36 : decode cX2_name 36 = .ok (.iconst 3, 1) := dk_6 (dk_at dksX2_name_1 12 rfl rfl)
theorem dX2_name_37 : decode cX2_name 37 = .ok (.aload_n 0, 1) := dk_42 (dk_at dksX2_name_1 13 rfl rfl)
theorem dX2_name_38 : decode cX2_name 38 = .ok (.iload_n 1, 1) := dk_27 (dk_at dksX2_name_1 14 rfl rfl)
theorem dX2_name_39 : decode cX2_name 39 = .ok (.invokevirtual 77, 3) := dk_182 0 77 (dk_at dksX2_name_1 15 rfl rfl)
theorem dX2_name_42 : decode cX2_name 42 = .ok (.iastore, 1) := dk_79 (dk_at dksX2_name_1 18 rfl rfl)
theorem dX2_name_43 : decode cX2_name 43 = .ok (.aload_n 0, 1) := dk_42 (dk_at dksX2_name_1 19 rfl rfl)
theorem dX2_name_44 : decode cX2_name 44 = .ok (.getfield 32, 3) := dk_180 0 32 (dk_at dksX2_name_1 20 rfl rfl)
theorem dX2_name_47 : decode cX2_name 47 = .ok (.iconst 4, 1) := dk_7 (dk_at dksX2_name_1 23 rfl rfl)
theorem dX2_name_48 : decode cX2_name 48 = .ok (.aload_n 0, 1) := dk_42 (dk_at dksX2_name_2 0 rfl rfl)
theorem dX2_name_49 : decode cX2_name 49 = .ok (.iload_n 1, 1) := dk_27 (dk_at dksX2_name_2 1 rfl rfl)
theorem dX2_name_50 : decode cX2_name 50 = .ok (.iconst 2, 1) := dk_5 (dk_at dksX2_name_2 2 rfl rfl)
theorem dX2_name_51 : decode cX2_name 51 = .ok (.invokevirtual 92, 3) := dk_182 0 92 (dk_at dksX2_name_2 3 rfl rfl)
theorem dX2_name_54 : decode cX2_name 54 = .ok (.iastore, 1) := dk_79 (dk_at dksX2_name_2 6 rfl rfl)
theorem dX2_name_55 : decode cX2_name 55 = .ok (.aload_n 0, 1) := dk_42 (dk_at dksX2_name_2 7 rfl rfl)
theorem dX2_name_56 : decode cX2_name 56 = .ok (.getfield 32, 3) := dk_180 0 32 (dk_at dksX2_name_2 8 rfl rfl)
theorem dX2_name_59 : decode cX2_name 59 = .ok (.iconst 5, 1) := dk_8 (dk_at dksX2_name_2 11 rfl rfl)
theorem dX2_name_60 : decode cX2_name 60 = .ok (.aload_n 0, 1) := dk_42 (dk_at dksX2_name_2 12 rfl rfl)
theorem dX2_name_61 : decode cX2_name 61 = .ok (.aload_n 0, 1) := dk_42 (dk_at dksX2_name_2 13 rfl rfl)
theorem dX2_name_62 : decode cX2_name 62 = .ok (.iload_n 1, 1) := dk_27 (dk_at dksX2_name_2 14 rfl rfl)
theorem dX2_name_63 : decode cX2_name 63 = .ok (.invokevirtual 77, 3) := dk_182 0 77 (dk_at dksX2_name_2 15 rfl rfl)
theorem dX2_name_66 : decode cX2_name 66 = .ok (.invokevirtual 313, 3) := dk_182 1 57 (dk_at dksX2_name_2 18 rfl rfl)
theorem dX2_name_69 : decode cX2_name 69 = .ok (.ifCond .eq 16, 3) := dk_153 0 16 (dk_at dksX2_name_2 21 rfl rfl)
theorem dX2_name_72 : decode cX2_name 72 = .ok (.aload_n 0, 1) := dk_42 (dk_at dksX2_name_3 0 rfl rfl)
theorem dX2_name_73 : decode cX2_name 73 = .ok (.aload_n 0, 1) := dk_42 (dk_at dksX2_name_3 1 rfl rfl)
theorem dX2_name_74 : decode cX2_name 74 = .ok (.iload_n 1, 1) := dk_27 (dk_at dksX2_name_3 2 rfl rfl)
theorem dX2_name_75 : decode cX2_name 75 = .ok (.invokevirtual 77, 3) := dk_182 0 77 (dk_at dksX2_name_3 3 rfl rfl)
theorem dX2_name_78 : decode cX2_name 78 = .ok (.iconst 0, 1) := dk_3 (dk_at dksX2_name_3 6 rfl rfl)
theorem dX2_name_79 : decode cX2_name 79 = .ok (.invokevirtual 92, 3) := dk_182 0 92 (dk_at dksX2_name_3 7 rfl rfl)
theorem dX2_name_82 : decode cX2_name 82 = .ok (.goto 4, 3) := dk_167 0 4 (dk_at dksX2_name_3 10 rfl rfl)
theorem dX2_name_85 : decode cX2_name 85 = .ok (.iconst 0, 1) := dk_3 (dk_at dksX2_name_3 13 rfl rfl)
theorem dX2_name_86 : decode cX2_name 86 = .ok (.iastore, 1) := dk_79 (dk_at dksX2_name_3 14 rfl rfl)
theorem dX2_name_87 : decode cX2_name 87 = .ok (.aload_n 0, 1) := dk_42 (dk_at dksX2_name_3 15 rfl rfl)
theorem dX2_name_88 : decode cX2_name 88 = .ok (.getfield 32, 3) := dk_180 0 32 (dk_at dksX2_name_3 16 rfl rfl)
theorem dX2_name_91 : decode cX2_name 91 = .ok (.bipush 6, 2) := dk_16 6 (dk_at dksX2_name_3 19 rfl rfl)
theorem dX2_name_93 : decode cX2_name 93 = .ok (.aload_n 0, 1) := dk_42 (dk_at dksX2_name_3 21 rfl rfl)
theorem dX2_name_94 : decode cX2_name 94 = .ok (.getfield 7, 3) := dk_180 0 7 (dk_at dksX2_name_4 0 rfl rfl)
theorem dX2_name_97 : decode cX2_name 97 = .ok (.bipush 7, 2) := dk_16 7 (dk_at dksX2_name_4 3 rfl rfl)
theorem dX2_name_99 : decode cX2_name 99 = .ok (.iaload, 1) := dk_46 (dk_at dksX2_name_4 5 rfl rfl)
theorem dX2_name_100 : decode cX2_name 100 = .ok (.iastore, 1) := dk_79 (dk_at dksX2_name_4 6 rfl rfl)
theorem dX2_name_101 : decode cX2_name 101 = .ok (.return_, 1) := dk_177 (dk_at dksX2_name_4 7 rfl rfl)
abbrev cX2_otherOf : ByteArray := prog_19_method_11_code
def yX2_otherOf : MethodName := ⟨RX2, "otherOf", "(I)I"⟩
def dkwX2_otherOf_0 : List UInt8 := [42, 180, 0, 7, 16, 50, 27, 96, 46, 172]
abbrev dktX2_otherOf_0 : List UInt8 := dkwX2_otherOf_0 ++ []
theorem dksX2_otherOf_0 : cX2_otherOf.data.toList.drop 0 = dktX2_otherOf_0 := by decide +kernel
theorem dX2_otherOf_0 : decode cX2_otherOf 0 = .ok (.aload_n 0, 1) := dk_42 (dk_at dksX2_otherOf_0 0 rfl rfl)
theorem dX2_otherOf_1 : decode cX2_otherOf 1 = .ok (.getfield 7, 3) := dk_180 0 7 (dk_at dksX2_otherOf_0 1 rfl rfl)
theorem dX2_otherOf_4 : decode cX2_otherOf 4 = .ok (.bipush 50, 2) := dk_16 50 (dk_at dksX2_otherOf_0 4 rfl rfl)
theorem dX2_otherOf_6 : decode cX2_otherOf 6 = .ok (.iload_n 1, 1) := dk_27 (dk_at dksX2_otherOf_0 6 rfl rfl)
theorem dX2_otherOf_7 : decode cX2_otherOf 7 = .ok (.iadd, 1) := dk_96 (dk_at dksX2_otherOf_0 7 rfl rfl)
theorem dX2_otherOf_8 : decode cX2_otherOf 8 = .ok (.iaload, 1) := dk_46 (dk_at dksX2_otherOf_0 8 rfl rfl)
theorem dX2_otherOf_9 : decode cX2_otherOf 9 = .ok (.ireturn, 1) := dk_172 (dk_at dksX2_otherOf_0 9 rfl rfl)
abbrev cX2_says : ByteArray := prog_19_method_66_code
def yX2_says : MethodName := ⟨RX2, "says", "(IIII)I"⟩
def dkwX2_says_3 : List UInt8 := [172]
abbrev dktX2_says_3 : List UInt8 := dkwX2_says_3 ++ []
def dkwX2_says_2 : List UInt8 := [182, 1, 50, 3, 21, 4, 184, 1, 53, 172, 132, 5, 1, 167, 255, 199, 29, 133, 3, 21, 4, 184, 1, 53]
abbrev dktX2_says_2 : List UInt8 := dkwX2_says_2 ++ dktX2_says_3
def dkwX2_says_1 : List UInt8 := [180, 0, 16, 17, 2, 169, 27, 104, 4, 96, 6, 21, 5, 104, 96, 46, 28, 160, 0, 17, 42, 27, 21, 5]
abbrev dktX2_says_1 : List UInt8 := dkwX2_says_1 ++ dktX2_says_2
def dkwX2_says_0 : List UInt8 := [3, 54, 5, 27, 155, 0, 59, 21, 5, 42, 180, 0, 16, 17, 2, 169, 27, 104, 46, 162, 0, 44, 42]
abbrev dktX2_says_0 : List UInt8 := dkwX2_says_0 ++ dktX2_says_1
theorem dksX2_says_0 : cX2_says.data.toList.drop 0 = dktX2_says_0 := by decide +kernel
theorem dksX2_says_1 : cX2_says.data.toList.drop 23 = dktX2_says_1 := dk_seg dksX2_says_0 23 rfl rfl
theorem dksX2_says_2 : cX2_says.data.toList.drop 47 = dktX2_says_2 := dk_seg dksX2_says_1 24 rfl rfl
theorem dksX2_says_3 : cX2_says.data.toList.drop 71 = dktX2_says_3 := dk_seg dksX2_says_2 24 rfl rfl
theorem dX2_says_0 : decode cX2_says 0 = .ok (.iconst 0, 1) := dk_3 (dk_at dksX2_says_0 0 rfl rfl)
theorem dX2_says_1 : decode cX2_says 1 = .ok (.istore 5, 2) := dk_54 5 (dk_at dksX2_says_0 1 rfl rfl)
theorem dX2_says_3 : decode cX2_says 3 = .ok (.iload_n 1, 1) := dk_27 (dk_at dksX2_says_0 3 rfl rfl)
theorem dX2_says_4 : decode cX2_says 4 = .ok (.ifCond .lt 59, 3) := dk_155 0 59 (dk_at dksX2_says_0 4 rfl rfl)
theorem dX2_says_7 : decode cX2_says 7 = .ok (.iload 5, 2) := dk_21 5 (dk_at dksX2_says_0 7 rfl rfl)
theorem dX2_says_9 : decode cX2_says 9 = .ok (.aload_n 0, 1) := dk_42 (dk_at dksX2_says_0 9 rfl rfl)
theorem dX2_says_10 : decode cX2_says 10 = .ok (.getfield 16, 3) := dk_180 0 16 (dk_at dksX2_says_0 10 rfl rfl)
theorem dX2_says_13 : decode cX2_says 13 = .ok (.sipush 681, 3) := dk_17 2 169 (dk_at dksX2_says_0 13 rfl rfl)
theorem dX2_says_16 : decode cX2_says 16 = .ok (.iload_n 1, 1) := dk_27 (dk_at dksX2_says_0 16 rfl rfl)
theorem dX2_says_17 : decode cX2_says 17 = .ok (.imul, 1) := dk_104 (dk_at dksX2_says_0 17 rfl rfl)
theorem dX2_says_18 : decode cX2_says 18 = .ok (.iaload, 1) := dk_46 (dk_at dksX2_says_0 18 rfl rfl)
theorem dX2_says_19 : decode cX2_says 19 = .ok (.if_icmp .ge 44, 3) := dk_162 0 44 (dk_at dksX2_says_0 19 rfl rfl)
theorem dX2_says_22 : decode cX2_says 22 = .ok (.aload_n 0, 1) := dk_42 (dk_at dksX2_says_0 22 rfl rfl)
theorem dX2_says_23 : decode cX2_says 23 = .ok (.getfield 16, 3) := dk_180 0 16 (dk_at dksX2_says_1 0 rfl rfl)
theorem dX2_says_26 : decode cX2_says 26 = .ok (.sipush 681, 3) := dk_17 2 169 (dk_at dksX2_says_1 3 rfl rfl)
theorem dX2_says_29 : decode cX2_says 29 = .ok (.iload_n 1, 1) := dk_27 (dk_at dksX2_says_1 6 rfl rfl)
theorem dX2_says_30 : decode cX2_says 30 = .ok (.imul, 1) := dk_104 (dk_at dksX2_says_1 7 rfl rfl)
theorem dX2_says_31 : decode cX2_says 31 = .ok (.iconst 1, 1) := dk_4 (dk_at dksX2_says_1 8 rfl rfl)
theorem dX2_says_32 : decode cX2_says 32 = .ok (.iadd, 1) := dk_96 (dk_at dksX2_says_1 9 rfl rfl)
theorem dX2_says_33 : decode cX2_says 33 = .ok (.iconst 3, 1) := dk_6 (dk_at dksX2_says_1 10 rfl rfl)
theorem dX2_says_34 : decode cX2_says 34 = .ok (.iload 5, 2) := dk_21 5 (dk_at dksX2_says_1 11 rfl rfl)
theorem dX2_says_36 : decode cX2_says 36 = .ok (.imul, 1) := dk_104 (dk_at dksX2_says_1 13 rfl rfl)
theorem dX2_says_37 : decode cX2_says 37 = .ok (.iadd, 1) := dk_96 (dk_at dksX2_says_1 14 rfl rfl)
theorem dX2_says_38 : decode cX2_says 38 = .ok (.iaload, 1) := dk_46 (dk_at dksX2_says_1 15 rfl rfl)
theorem dX2_says_39 : decode cX2_says 39 = .ok (.iload_n 2, 1) := dk_28 (dk_at dksX2_says_1 16 rfl rfl)
theorem dX2_says_40 : decode cX2_says 40 = .ok (.if_icmp .ne 17, 3) := dk_160 0 17 (dk_at dksX2_says_1 17 rfl rfl)
theorem dX2_says_43 : decode cX2_says 43 = .ok (.aload_n 0, 1) := dk_42 (dk_at dksX2_says_1 20 rfl rfl)
theorem dX2_says_44 : decode cX2_says 44 = .ok (.iload_n 1, 1) := dk_27 (dk_at dksX2_says_1 21 rfl rfl)
theorem dX2_says_45 : decode cX2_says 45 = .ok (.iload 5, 2) := dk_21 5 (dk_at dksX2_says_1 22 rfl rfl)
theorem dX2_says_47 : decode cX2_says 47 = .ok (.invokevirtual 306, 3) := dk_182 1 50 (dk_at dksX2_says_2 0 rfl rfl)
theorem dX2_says_50 : decode cX2_says 50 = .ok (.iconst 0, 1) := dk_3 (dk_at dksX2_says_2 3 rfl rfl)
theorem dX2_says_51 : decode cX2_says 51 = .ok (.iload 4, 2) := dk_21 4 (dk_at dksX2_says_2 4 rfl rfl)
theorem dX2_says_53 : decode cX2_says 53 = .ok (.invokestatic 309, 3) := dk_184 1 53 (dk_at dksX2_says_2 6 rfl rfl)
theorem dX2_says_56 : decode cX2_says 56 = .ok (.ireturn, 1) := dk_172 (dk_at dksX2_says_2 9 rfl rfl)
theorem dX2_says_57 : decode cX2_says 57 = .ok (.iinc 5 1, 3) := dk_132 5 1 (dk_at dksX2_says_2 10 rfl rfl)
theorem dX2_says_60 : decode cX2_says 60 = .ok (.goto (-57), 3) := dk_167 255 199 (dk_at dksX2_says_2 13 rfl rfl)
theorem dX2_says_63 : decode cX2_says 63 = .ok (.iload_n 3, 1) := dk_29 (dk_at dksX2_says_2 16 rfl rfl)
theorem dX2_says_64 : decode cX2_says 64 = .ok (.i2l, 1) := dk_133 (dk_at dksX2_says_2 17 rfl rfl)
theorem dX2_says_65 : decode cX2_says 65 = .ok (.iconst 0, 1) := dk_3 (dk_at dksX2_says_2 18 rfl rfl)
theorem dX2_says_66 : decode cX2_says 66 = .ok (.iload 4, 2) := dk_21 4 (dk_at dksX2_says_2 19 rfl rfl)
theorem dX2_says_68 : decode cX2_says 68 = .ok (.invokestatic 309, 3) := dk_184 1 53 (dk_at dksX2_says_2 21 rfl rfl)
theorem dX2_says_71 : decode cX2_says 71 = .ok (.ireturn, 1) := dk_172 (dk_at dksX2_says_3 0 rfl rfl)
abbrev cX2_summedUp : ByteArray := prog_19_method_65_code
def yX2_summedUp : MethodName := ⟨RX2, "summedUp", "(II)J"⟩
def dkwX2_summedUp_17 : List UInt8 := [132, 7, 1, 167, 254, 145, 42, 180, 0, 35, 3, 47, 173]
abbrev dktX2_summedUp_17 : List UInt8 := dkwX2_summedUp_17 ++ []
def dkwX2_summedUp_16 : List UInt8 := [4, 100, 21, 8, 42, 180, 0, 39, 21, 6, 4, 100, 51, 42, 180, 0, 39, 21, 6, 51, 184, 1, 46, 84]
abbrev dktX2_summedUp_16 : List UInt8 := dkwX2_summedUp_16 ++ dktX2_summedUp_17
def dkwX2_summedUp_15 : List UInt8 := [4, 100, 51, 154, 0, 7, 4, 167, 0, 4, 3, 84, 167, 0, 36, 132, 6, 255, 42, 180, 0, 39, 21, 6]
abbrev dktX2_summedUp_15 : List UInt8 := dkwX2_summedUp_15 ++ dktX2_summedUp_16
def dkwX2_summedUp_14 : List UInt8 := [167, 0, 72, 21, 8, 16, 20, 160, 0, 32, 42, 180, 0, 39, 21, 6, 4, 100, 42, 180, 0, 39, 21, 6]
abbrev dktX2_summedUp_14 : List UInt8 := dkwX2_summedUp_14 ++ dktX2_summedUp_15
def dkwX2_summedUp_13 : List UInt8 := [180, 0, 35, 21, 5, 47, 42, 180, 0, 35, 21, 5, 4, 96, 47, 184, 1, 42, 84, 132, 6, 1]
abbrev dktX2_summedUp_13 : List UInt8 := dkwX2_summedUp_13 ++ dktX2_summedUp_14
def dkwX2_summedUp_12 : List UInt8 := [80, 167, 0, 116, 21, 8, 16, 20, 162, 0, 40, 132, 5, 254, 42, 180, 0, 39, 21, 6, 21, 8, 42]
abbrev dktX2_summedUp_12 : List UInt8 := dkwX2_summedUp_12 ++ dktX2_summedUp_13
def dkwX2_summedUp_11 : List UInt8 := [167, 0, 24, 21, 8, 42, 180, 0, 35, 21, 5, 4, 100, 47, 42, 180, 0, 35, 21, 5, 47, 184, 1, 38]
abbrev dktX2_summedUp_11 : List UInt8 := dkwX2_summedUp_11 ++ dktX2_summedUp_12
def dkwX2_summedUp_10 : List UInt8 := [16, 9, 160, 0, 25, 42, 180, 0, 35, 21, 5, 4, 100, 47, 42, 180, 0, 35, 21, 5, 47, 184, 1, 35]
abbrev dktX2_summedUp_10 : List UInt8 := dkwX2_summedUp_10 ++ dktX2_summedUp_11
def dkwX2_summedUp_9 : List UInt8 := [180, 0, 35, 21, 5, 4, 100, 47, 42, 180, 0, 35, 21, 5, 47, 182, 1, 31, 167, 0, 53, 21, 8]
abbrev dktX2_summedUp_9 : List UInt8 := dkwX2_summedUp_9 ++ dktX2_summedUp_10
def dkwX2_summedUp_8 : List UInt8 := [16, 10, 162, 0, 97, 132, 5, 255, 42, 180, 0, 35, 21, 5, 4, 100, 21, 8, 7, 160, 0, 26, 42, 42]
abbrev dktX2_summedUp_8 : List UInt8 := dkwX2_summedUp_8 ++ dktX2_summedUp_9
def dkwX2_summedUp_7 : List UInt8 := [42, 180, 0, 35, 21, 5, 4, 100, 42, 180, 0, 35, 21, 5, 4, 100, 47, 117, 80, 167, 0, 217, 21, 8]
abbrev dktX2_summedUp_7 : List UInt8 := dkwX2_summedUp_7 ++ dktX2_summedUp_8
def dkwX2_summedUp_6 : List UInt8 := [180, 0, 35, 21, 5, 4, 100, 42, 180, 0, 35, 21, 5, 47, 80, 167, 0, 245, 21, 8, 6, 160, 0, 25]
abbrev dktX2_summedUp_6 : List UInt8 := dkwX2_summedUp_6 ++ dktX2_summedUp_7
def dkwX2_summedUp_5 : List UInt8 := [21, 8, 5, 160, 0, 38, 132, 5, 255, 132, 6, 255, 42, 180, 0, 39, 21, 6, 51, 154, 1, 8, 42]
abbrev dktX2_summedUp_5 : List UInt8 := dkwX2_summedUp_5 ++ dktX2_summedUp_6
def dkwX2_summedUp_4 : List UInt8 := [154, 0, 9, 21, 9, 133, 167, 0, 11, 42, 180, 0, 32, 21, 9, 46, 133, 80, 132, 5, 1, 167, 1, 30]
abbrev dktX2_summedUp_4 : List UInt8 := dkwX2_summedUp_4 ++ dktX2_summedUp_5
def dkwX2_summedUp_3 : List UInt8 := [5, 21, 7, 104, 96, 4, 96, 46, 54, 9, 21, 8, 4, 163, 0, 35, 42, 180, 0, 35, 21, 5, 21, 8]
abbrev dktX2_summedUp_3 : List UInt8 := dkwX2_summedUp_3 ++ dktX2_summedUp_4
def dkwX2_summedUp_2 : List UInt8 := [46, 162, 1, 104, 42, 180, 0, 16, 21, 4, 5, 21, 7, 104, 96, 46, 54, 8, 42, 180, 0, 16, 21, 4]
abbrev dktX2_summedUp_2 : List UInt8 := dkwX2_summedUp_2 ++ dktX2_summedUp_3
def dkwX2_summedUp_1 : List UInt8 := [54, 5, 3, 54, 6, 42, 180, 0, 16, 29, 4, 96, 46, 54, 7, 21, 7, 42, 180, 0, 16, 29, 5, 96]
abbrev dktX2_summedUp_1 : List UInt8 := dkwX2_summedUp_1 ++ dktX2_summedUp_2
def dkwX2_summedUp_0 : List UInt8 := [17, 2, 169, 27, 104, 4, 96, 6, 28, 104, 96, 62, 17, 2, 169, 27, 104, 16, 73, 96, 54, 4, 3]
abbrev dktX2_summedUp_0 : List UInt8 := dkwX2_summedUp_0 ++ dktX2_summedUp_1
theorem dksX2_summedUp_0 : cX2_summedUp.data.toList.drop 0 = dktX2_summedUp_0 := by decide +kernel
theorem dksX2_summedUp_1 : cX2_summedUp.data.toList.drop 23 = dktX2_summedUp_1 := dk_seg dksX2_summedUp_0 23 rfl rfl
theorem dksX2_summedUp_2 : cX2_summedUp.data.toList.drop 47 = dktX2_summedUp_2 := dk_seg dksX2_summedUp_1 24 rfl rfl
theorem dksX2_summedUp_3 : cX2_summedUp.data.toList.drop 71 = dktX2_summedUp_3 := dk_seg dksX2_summedUp_2 24 rfl rfl
theorem dksX2_summedUp_4 : cX2_summedUp.data.toList.drop 95 = dktX2_summedUp_4 := dk_seg dksX2_summedUp_3 24 rfl rfl
theorem dksX2_summedUp_5 : cX2_summedUp.data.toList.drop 119 = dktX2_summedUp_5 := dk_seg dksX2_summedUp_4 24 rfl rfl
theorem dksX2_summedUp_6 : cX2_summedUp.data.toList.drop 142 = dktX2_summedUp_6 := dk_seg dksX2_summedUp_5 23 rfl rfl
theorem dksX2_summedUp_7 : cX2_summedUp.data.toList.drop 166 = dktX2_summedUp_7 := dk_seg dksX2_summedUp_6 24 rfl rfl
theorem dksX2_summedUp_8 : cX2_summedUp.data.toList.drop 190 = dktX2_summedUp_8 := dk_seg dksX2_summedUp_7 24 rfl rfl
theorem dksX2_summedUp_9 : cX2_summedUp.data.toList.drop 214 = dktX2_summedUp_9 := dk_seg dksX2_summedUp_8 24 rfl rfl
theorem dksX2_summedUp_10 : cX2_summedUp.data.toList.drop 237 = dktX2_summedUp_10 := dk_seg dksX2_summedUp_9 23 rfl rfl
theorem dksX2_summedUp_11 : cX2_summedUp.data.toList.drop 261 = dktX2_summedUp_11 := dk_seg dksX2_summedUp_10 24 rfl rfl
theorem dksX2_summedUp_12 : cX2_summedUp.data.toList.drop 285 = dktX2_summedUp_12 := dk_seg dksX2_summedUp_11 24 rfl rfl
theorem dksX2_summedUp_13 : cX2_summedUp.data.toList.drop 308 = dktX2_summedUp_13 := dk_seg dksX2_summedUp_12 23 rfl rfl
theorem dksX2_summedUp_14 : cX2_summedUp.data.toList.drop 330 = dktX2_summedUp_14 := dk_seg dksX2_summedUp_13 22 rfl rfl
theorem dksX2_summedUp_15 : cX2_summedUp.data.toList.drop 354 = dktX2_summedUp_15 := dk_seg dksX2_summedUp_14 24 rfl rfl
theorem dksX2_summedUp_16 : cX2_summedUp.data.toList.drop 378 = dktX2_summedUp_16 := dk_seg dksX2_summedUp_15 24 rfl rfl
theorem dksX2_summedUp_17 : cX2_summedUp.data.toList.drop 402 = dktX2_summedUp_17 := dk_seg dksX2_summedUp_16 24 rfl rfl
theorem dX2_summedUp_0 : decode cX2_summedUp 0 = .ok (.sipush 681, 3) := dk_17 2 169 (dk_at dksX2_summedUp_0 0 rfl rfl)
theorem dX2_summedUp_3 : decode cX2_summedUp 3 = .ok (.iload_n 1, 1) := dk_27 (dk_at dksX2_summedUp_0 3 rfl rfl)
theorem dX2_summedUp_4 : decode cX2_summedUp 4 = .ok (.imul, 1) := dk_104 (dk_at dksX2_summedUp_0 4 rfl rfl)
theorem dX2_summedUp_5 : decode cX2_summedUp 5 = .ok (.iconst 1, 1) := dk_4 (dk_at dksX2_summedUp_0 5 rfl rfl)
theorem dX2_summedUp_6 : decode cX2_summedUp 6 = .ok (.iadd, 1) := dk_96 (dk_at dksX2_summedUp_0 6 rfl rfl)
theorem dX2_summedUp_7 : decode cX2_summedUp 7 = .ok (.iconst 3, 1) := dk_6 (dk_at dksX2_summedUp_0 7 rfl rfl)
theorem dX2_summedUp_8 : decode cX2_summedUp 8 = .ok (.iload_n 2, 1) := dk_28 (dk_at dksX2_summedUp_0 8 rfl rfl)
theorem dX2_summedUp_9 : decode cX2_summedUp 9 = .ok (.imul, 1) := dk_104 (dk_at dksX2_summedUp_0 9 rfl rfl)
theorem dX2_summedUp_10 : decode cX2_summedUp 10 = .ok (.iadd, 1) := dk_96 (dk_at dksX2_summedUp_0 10 rfl rfl)
theorem dX2_summedUp_11 : decode cX2_summedUp 11 = .ok (.istore_n 3, 1) := dk_62 (dk_at dksX2_summedUp_0 11 rfl rfl)
theorem dX2_summedUp_12 : decode cX2_summedUp 12 = .ok (.sipush 681, 3) := dk_17 2 169 (dk_at dksX2_summedUp_0 12 rfl rfl)
theorem dX2_summedUp_15 : decode cX2_summedUp 15 = .ok (.iload_n 1, 1) := dk_27 (dk_at dksX2_summedUp_0 15 rfl rfl)
theorem dX2_summedUp_16 : decode cX2_summedUp 16 = .ok (.imul, 1) := dk_104 (dk_at dksX2_summedUp_0 16 rfl rfl)
theorem dX2_summedUp_17 : decode cX2_summedUp 17 = .ok (.bipush 73, 2) := dk_16 73 (dk_at dksX2_summedUp_0 17 rfl rfl)
theorem dX2_summedUp_19 : decode cX2_summedUp 19 = .ok (.iadd, 1) := dk_96 (dk_at dksX2_summedUp_0 19 rfl rfl)
theorem dX2_summedUp_20 : decode cX2_summedUp 20 = .ok (.istore 4, 2) := dk_54 4 (dk_at dksX2_summedUp_0 20 rfl rfl)
theorem dX2_summedUp_22 : decode cX2_summedUp 22 = .ok (.iconst 0, 1) := dk_3 (dk_at dksX2_summedUp_0 22 rfl rfl)
theorem dX2_summedUp_23 : decode cX2_summedUp 23 = .ok (.istore 5, 2) := dk_54 5 (dk_at dksX2_summedUp_1 0 rfl rfl)
theorem dX2_summedUp_25 : decode cX2_summedUp 25 = .ok (.iconst 0, 1) := dk_3 (dk_at dksX2_summedUp_1 2 rfl rfl)
theorem dX2_summedUp_26 : decode cX2_summedUp 26 = .ok (.istore 6, 2) := dk_54 6 (dk_at dksX2_summedUp_1 3 rfl rfl)
theorem dX2_summedUp_28 : decode cX2_summedUp 28 = .ok (.aload_n 0, 1) := dk_42 (dk_at dksX2_summedUp_1 5 rfl rfl)
theorem dX2_summedUp_29 : decode cX2_summedUp 29 = .ok (.getfield 16, 3) := dk_180 0 16 (dk_at dksX2_summedUp_1 6 rfl rfl)
theorem dX2_summedUp_32 : decode cX2_summedUp 32 = .ok (.iload_n 3, 1) := dk_29 (dk_at dksX2_summedUp_1 9 rfl rfl)
theorem dX2_summedUp_33 : decode cX2_summedUp 33 = .ok (.iconst 1, 1) := dk_4 (dk_at dksX2_summedUp_1 10 rfl rfl)
theorem dX2_summedUp_34 : decode cX2_summedUp 34 = .ok (.iadd, 1) := dk_96 (dk_at dksX2_summedUp_1 11 rfl rfl)
theorem dX2_summedUp_35 : decode cX2_summedUp 35 = .ok (.iaload, 1) := dk_46 (dk_at dksX2_summedUp_1 12 rfl rfl)
theorem dX2_summedUp_36 : decode cX2_summedUp 36 = .ok (.istore 7, 2) := dk_54 7 (dk_at dksX2_summedUp_1 13 rfl rfl)
theorem dX2_summedUp_38 : decode cX2_summedUp 38 = .ok (.iload 7, 2) := dk_21 7 (dk_at dksX2_summedUp_1 15 rfl rfl)
theorem dX2_summedUp_40 : decode cX2_summedUp 40 = .ok (.aload_n 0, 1) := dk_42 (dk_at dksX2_summedUp_1 17 rfl rfl)
theorem dX2_summedUp_41 : decode cX2_summedUp 41 = .ok (.getfield 16, 3) := dk_180 0 16 (dk_at dksX2_summedUp_1 18 rfl rfl)
theorem dX2_summedUp_44 : decode cX2_summedUp 44 = .ok (.iload_n 3, 1) := dk_29 (dk_at dksX2_summedUp_1 21 rfl rfl)
theorem dX2_summedUp_45 : decode cX2_summedUp 45 = .ok (.iconst 2, 1) := dk_5 (dk_at dksX2_summedUp_1 22 rfl rfl)
theorem dX2_summedUp_46 : decode cX2_summedUp 46 = .ok (.iadd, 1) := dk_96 (dk_at dksX2_summedUp_1 23 rfl rfl)
theorem dX2_summedUp_47 : decode cX2_summedUp 47 = .ok (.iaload, 1) := dk_46 (dk_at dksX2_summedUp_2 0 rfl rfl)
theorem dX2_summedUp_48 : decode cX2_summedUp 48 = .ok (.if_icmp .ge 360, 3) := dk_162 1 104 (dk_at dksX2_summedUp_2 1 rfl rfl)
theorem dX2_summedUp_51 : decode cX2_summedUp 51 = .ok (.aload_n 0, 1) := dk_42 (dk_at dksX2_summedUp_2 4 rfl rfl)
theorem dX2_summedUp_52 : decode cX2_summedUp 52 = .ok (.getfield 16, 3) := dk_180 0 16 (dk_at dksX2_summedUp_2 5 rfl rfl)
theorem dX2_summedUp_55 : decode cX2_summedUp 55 = .ok (.iload 4, 2) := dk_21 4 (dk_at dksX2_summedUp_2 8 rfl rfl)
theorem dX2_summedUp_57 : decode cX2_summedUp 57 = .ok (.iconst 2, 1) := dk_5 (dk_at dksX2_summedUp_2 10 rfl rfl)
theorem dX2_summedUp_58 : decode cX2_summedUp 58 = .ok (.iload 7, 2) := dk_21 7 (dk_at dksX2_summedUp_2 11 rfl rfl)
theorem dX2_summedUp_60 : decode cX2_summedUp 60 = .ok (.imul, 1) := dk_104 (dk_at dksX2_summedUp_2 13 rfl rfl)
theorem dX2_summedUp_61 : decode cX2_summedUp 61 = .ok (.iadd, 1) := dk_96 (dk_at dksX2_summedUp_2 14 rfl rfl)
theorem dX2_summedUp_62 : decode cX2_summedUp 62 = .ok (.iaload, 1) := dk_46 (dk_at dksX2_summedUp_2 15 rfl rfl)
theorem dX2_summedUp_63 : decode cX2_summedUp 63 = .ok (.istore 8, 2) := dk_54 8 (dk_at dksX2_summedUp_2 16 rfl rfl)
theorem dX2_summedUp_65 : decode cX2_summedUp 65 = .ok (.aload_n 0, 1) := dk_42 (dk_at dksX2_summedUp_2 18 rfl rfl)
theorem dX2_summedUp_66 : decode cX2_summedUp 66 = .ok (.getfield 16, 3) := dk_180 0 16 (dk_at dksX2_summedUp_2 19 rfl rfl)
theorem dX2_summedUp_69 : decode cX2_summedUp 69 = .ok (.iload 4, 2) := dk_21 4 (dk_at dksX2_summedUp_2 22 rfl rfl)
theorem dX2_summedUp_71 : decode cX2_summedUp 71 = .ok (.iconst 2, 1) := dk_5 (dk_at dksX2_summedUp_3 0 rfl rfl)
theorem dX2_summedUp_72 : decode cX2_summedUp 72 = .ok (.iload 7, 2) := dk_21 7 (dk_at dksX2_summedUp_3 1 rfl rfl)
theorem dX2_summedUp_74 : decode cX2_summedUp 74 = .ok (.imul, 1) := dk_104 (dk_at dksX2_summedUp_3 3 rfl rfl)
theorem dX2_summedUp_75 : decode cX2_summedUp 75 = .ok (.iadd, 1) := dk_96 (dk_at dksX2_summedUp_3 4 rfl rfl)
theorem dX2_summedUp_76 : decode cX2_summedUp 76 = .ok (.iconst 1, 1) := dk_4 (dk_at dksX2_summedUp_3 5 rfl rfl)
theorem dX2_summedUp_77 : decode cX2_summedUp 77 = .ok (.iadd, 1) := dk_96 (dk_at dksX2_summedUp_3 6 rfl rfl)
theorem dX2_summedUp_78 : decode cX2_summedUp 78 = .ok (.iaload, 1) := dk_46 (dk_at dksX2_summedUp_3 7 rfl rfl)
theorem dX2_summedUp_79 : decode cX2_summedUp 79 = .ok (.istore 9, 2) := dk_54 9 (dk_at dksX2_summedUp_3 8 rfl rfl)
theorem dX2_summedUp_81 : decode cX2_summedUp 81 = .ok (.iload 8, 2) := dk_21 8 (dk_at dksX2_summedUp_3 10 rfl rfl)
theorem dX2_summedUp_83 : decode cX2_summedUp 83 = .ok (.iconst 1, 1) := dk_4 (dk_at dksX2_summedUp_3 12 rfl rfl)
theorem dX2_summedUp_84 : decode cX2_summedUp 84 = .ok (.if_icmp .gt 35, 3) := dk_163 0 35 (dk_at dksX2_summedUp_3 13 rfl rfl)
theorem dX2_summedUp_87 : decode cX2_summedUp 87 = .ok (.aload_n 0, 1) := dk_42 (dk_at dksX2_summedUp_3 16 rfl rfl)
theorem dX2_summedUp_88 : decode cX2_summedUp 88 = .ok (.getfield 35, 3) := dk_180 0 35 (dk_at dksX2_summedUp_3 17 rfl rfl)
theorem dX2_summedUp_91 : decode cX2_summedUp 91 = .ok (.iload 5, 2) := dk_21 5 (dk_at dksX2_summedUp_3 20 rfl rfl)
theorem dX2_summedUp_93 : decode cX2_summedUp 93 = .ok (.iload 8, 2) := dk_21 8 (dk_at dksX2_summedUp_3 22 rfl rfl)
theorem dX2_summedUp_95 : decode cX2_summedUp 95 = .ok (.ifCond .ne 9, 3) := dk_154 0 9 (dk_at dksX2_summedUp_4 0 rfl rfl)
theorem dX2_summedUp_98 : decode cX2_summedUp 98 = .ok (.iload 9, 2) := dk_21 9 (dk_at dksX2_summedUp_4 3 rfl rfl)
theorem dX2_summedUp_100 : decode cX2_summedUp 100 = .ok (.i2l, 1) := dk_133 (dk_at dksX2_summedUp_4 5 rfl rfl)
theorem dX2_summedUp_101 : decode cX2_summedUp 101 = .ok (.goto 11, 3) := dk_167 0 11 (dk_at dksX2_summedUp_4 6 rfl rfl)
theorem dX2_summedUp_104 : decode cX2_summedUp 104 = .ok (.aload_n 0, 1) := dk_42 (dk_at dksX2_summedUp_4 9 rfl rfl)
theorem dX2_summedUp_105 : decode cX2_summedUp 105 = .ok (.getfield 32, 3) := dk_180 0 32 (dk_at dksX2_summedUp_4 10 rfl rfl)
theorem dX2_summedUp_108 : decode cX2_summedUp 108 = .ok (.iload 9, 2) := dk_21 9 (dk_at dksX2_summedUp_4 13 rfl rfl)
theorem dX2_summedUp_110 : decode cX2_summedUp 110 = .ok (.iaload, 1) := dk_46 (dk_at dksX2_summedUp_4 15 rfl rfl)
theorem dX2_summedUp_111 : decode cX2_summedUp 111 = .ok (.i2l, 1) := dk_133 (dk_at dksX2_summedUp_4 16 rfl rfl)
theorem dX2_summedUp_112 : decode cX2_summedUp 112 = .ok (.lastore, 1) := dk_80 (dk_at dksX2_summedUp_4 17 rfl rfl)
theorem dX2_summedUp_113 : decode cX2_summedUp 113 = .ok (.iinc 5 1, 3) := dk_132 5 1 (dk_at dksX2_summedUp_4 18 rfl rfl)
theorem dX2_summedUp_116 : decode cX2_summedUp 116 = .ok (.goto 286, 3) := dk_167 1 30 (dk_at dksX2_summedUp_4 21 rfl rfl)
theorem dX2_summedUp_119 : decode cX2_summedUp 119 = .ok (.iload 8, 2) := dk_21 8 (dk_at dksX2_summedUp_5 0 rfl rfl)
theorem dX2_summedUp_121 : decode cX2_summedUp 121 = .ok (.iconst 2, 1) := dk_5 (dk_at dksX2_summedUp_5 2 rfl rfl)
theorem dX2_summedUp_122 : decode cX2_summedUp 122 = .ok (.if_icmp .ne 38, 3) := dk_160 0 38 (dk_at dksX2_summedUp_5 3 rfl rfl)
theorem dX2_summedUp_125 : decode cX2_summedUp 125 = .ok (.iinc 5 (-1), 3) := dk_132 5 255 (dk_at dksX2_summedUp_5 6 rfl rfl)
theorem dX2_summedUp_128 : decode cX2_summedUp 128 = .ok (.iinc 6 (-1), 3) := dk_132 6 255 (dk_at dksX2_summedUp_5 9 rfl rfl)
theorem dX2_summedUp_131 : decode cX2_summedUp 131 = .ok (.aload_n 0, 1) := dk_42 (dk_at dksX2_summedUp_5 12 rfl rfl)
theorem dX2_summedUp_132 : decode cX2_summedUp 132 = .ok (.getfield 39, 3) := dk_180 0 39 (dk_at dksX2_summedUp_5 13 rfl rfl)
theorem dX2_summedUp_135 : decode cX2_summedUp 135 = .ok (.iload 6, 2) := dk_21 6 (dk_at dksX2_summedUp_5 16 rfl rfl)
theorem dX2_summedUp_137 : decode cX2_summedUp 137 = .ok (.baload, 1) := dk_51 (dk_at dksX2_summedUp_5 18 rfl rfl)
theorem dX2_summedUp_138 : decode cX2_summedUp 138 = .ok (.ifCond .ne 264, 3) := dk_154 1 8 (dk_at dksX2_summedUp_5 19 rfl rfl)
theorem dX2_summedUp_141 : decode cX2_summedUp 141 = .ok (.aload_n 0, 1) := dk_42 (dk_at dksX2_summedUp_5 22 rfl rfl)
theorem dX2_summedUp_142 : decode cX2_summedUp 142 = .ok (.getfield 35, 3) := dk_180 0 35 (dk_at dksX2_summedUp_6 0 rfl rfl)
theorem dX2_summedUp_145 : decode cX2_summedUp 145 = .ok (.iload 5, 2) := dk_21 5 (dk_at dksX2_summedUp_6 3 rfl rfl)
theorem dX2_summedUp_147 : decode cX2_summedUp 147 = .ok (.iconst 1, 1) := dk_4 (dk_at dksX2_summedUp_6 5 rfl rfl)
theorem dX2_summedUp_148 : decode cX2_summedUp 148 = .ok (.isub, 1) := dk_100 (dk_at dksX2_summedUp_6 6 rfl rfl)
theorem dX2_summedUp_149 : decode cX2_summedUp 149 = .ok (.aload_n 0, 1) := dk_42 (dk_at dksX2_summedUp_6 7 rfl rfl)
theorem dX2_summedUp_150 : decode cX2_summedUp 150 = .ok (.getfield 35, 3) := dk_180 0 35 (dk_at dksX2_summedUp_6 8 rfl rfl)
theorem dX2_summedUp_153 : decode cX2_summedUp 153 = .ok (.iload 5, 2) := dk_21 5 (dk_at dksX2_summedUp_6 11 rfl rfl)
theorem dX2_summedUp_155 : decode cX2_summedUp 155 = .ok (.laload, 1) := dk_47 (dk_at dksX2_summedUp_6 13 rfl rfl)
theorem dX2_summedUp_156 : decode cX2_summedUp 156 = .ok (.lastore, 1) := dk_80 (dk_at dksX2_summedUp_6 14 rfl rfl)
theorem dX2_summedUp_157 : decode cX2_summedUp 157 = .ok (.goto 245, 3) := dk_167 0 245 (dk_at dksX2_summedUp_6 15 rfl rfl)
theorem dX2_summedUp_160 : decode cX2_summedUp 160 = .ok (.iload 8, 2) := dk_21 8 (dk_at dksX2_summedUp_6 18 rfl rfl)
theorem dX2_summedUp_162 : decode cX2_summedUp 162 = .ok (.iconst 3, 1) := dk_6 (dk_at dksX2_summedUp_6 20 rfl rfl)
theorem dX2_summedUp_163 : decode cX2_summedUp 163 = .ok (.if_icmp .ne 25, 3) := dk_160 0 25 (dk_at dksX2_summedUp_6 21 rfl rfl)
theorem dX2_summedUp_166 : decode cX2_summedUp 166 = .ok (.aload_n 0, 1) := dk_42 (dk_at dksX2_summedUp_7 0 rfl rfl)
theorem dX2_summedUp_167 : decode cX2_summedUp 167 = .ok (.getfield 35, 3) := dk_180 0 35 (dk_at dksX2_summedUp_7 1 rfl rfl)
theorem dX2_summedUp_170 : decode cX2_summedUp 170 = .ok (.iload 5, 2) := dk_21 5 (dk_at dksX2_summedUp_7 4 rfl rfl)
theorem dX2_summedUp_172 : decode cX2_summedUp 172 = .ok (.iconst 1, 1) := dk_4 (dk_at dksX2_summedUp_7 6 rfl rfl)
theorem dX2_summedUp_173 : decode cX2_summedUp 173 = .ok (.isub, 1) := dk_100 (dk_at dksX2_summedUp_7 7 rfl rfl)
theorem dX2_summedUp_174 : decode cX2_summedUp 174 = .ok (.aload_n 0, 1) := dk_42 (dk_at dksX2_summedUp_7 8 rfl rfl)
theorem dX2_summedUp_175 : decode cX2_summedUp 175 = .ok (.getfield 35, 3) := dk_180 0 35 (dk_at dksX2_summedUp_7 9 rfl rfl)
theorem dX2_summedUp_178 : decode cX2_summedUp 178 = .ok (.iload 5, 2) := dk_21 5 (dk_at dksX2_summedUp_7 12 rfl rfl)
theorem dX2_summedUp_180 : decode cX2_summedUp 180 = .ok (.iconst 1, 1) := dk_4 (dk_at dksX2_summedUp_7 14 rfl rfl)
theorem dX2_summedUp_181 : decode cX2_summedUp 181 = .ok (.isub, 1) := dk_100 (dk_at dksX2_summedUp_7 15 rfl rfl)
theorem dX2_summedUp_182 : decode cX2_summedUp 182 = .ok (.laload, 1) := dk_47 (dk_at dksX2_summedUp_7 16 rfl rfl)
theorem dX2_summedUp_183 : decode cX2_summedUp 183 = .ok (.lneg, 1) := dk_117 (dk_at dksX2_summedUp_7 17 rfl rfl)
theorem dX2_summedUp_184 : decode cX2_summedUp 184 = .ok (.lastore, 1) := dk_80 (dk_at dksX2_summedUp_7 18 rfl rfl)
theorem dX2_summedUp_185 : decode cX2_summedUp 185 = .ok (.goto 217, 3) := dk_167 0 217 (dk_at dksX2_summedUp_7 19 rfl rfl)
theorem dX2_summedUp_188 : decode cX2_summedUp 188 = .ok (.iload 8, 2) := dk_21 8 (dk_at dksX2_summedUp_7 22 rfl rfl)
theorem dX2_summedUp_190 : decode cX2_summedUp 190 = .ok (.bipush 10, 2) := dk_16 10 (dk_at dksX2_summedUp_8 0 rfl rfl)
theorem dX2_summedUp_192 : decode cX2_summedUp 192 = .ok (.if_icmp .ge 97, 3) := dk_162 0 97 (dk_at dksX2_summedUp_8 2 rfl rfl)
theorem dX2_summedUp_195 : decode cX2_summedUp 195 = .ok (.iinc 5 (-1), 3) := dk_132 5 255 (dk_at dksX2_summedUp_8 5 rfl rfl)
theorem dX2_summedUp_198 : decode cX2_summedUp 198 = .ok (.aload_n 0, 1) := dk_42 (dk_at dksX2_summedUp_8 8 rfl rfl)
theorem dX2_summedUp_199 : decode cX2_summedUp 199 = .ok (.getfield 35, 3) := dk_180 0 35 (dk_at dksX2_summedUp_8 9 rfl rfl)
theorem dX2_summedUp_202 : decode cX2_summedUp 202 = .ok (.iload 5, 2) := dk_21 5 (dk_at dksX2_summedUp_8 12 rfl rfl)
theorem dX2_summedUp_204 : decode cX2_summedUp 204 = .ok (.iconst 1, 1) := dk_4 (dk_at dksX2_summedUp_8 14 rfl rfl)
theorem dX2_summedUp_205 : decode cX2_summedUp 205 = .ok (.isub, 1) := dk_100 (dk_at dksX2_summedUp_8 15 rfl rfl)
theorem dX2_summedUp_206 : decode cX2_summedUp 206 = .ok (.iload 8, 2) := dk_21 8 (dk_at dksX2_summedUp_8 16 rfl rfl)
theorem dX2_summedUp_208 : decode cX2_summedUp 208 = .ok (.iconst 4, 1) := dk_7 (dk_at dksX2_summedUp_8 18 rfl rfl)
theorem dX2_summedUp_209 : decode cX2_summedUp 209 = .ok (.if_icmp .ne 26, 3) := dk_160 0 26 (dk_at dksX2_summedUp_8 19 rfl rfl)
theorem dX2_summedUp_212 : decode cX2_summedUp 212 = .ok (.aload_n 0, 1) := dk_42 (dk_at dksX2_summedUp_8 22 rfl rfl)
theorem dX2_summedUp_213 : decode cX2_summedUp 213 = .ok (.aload_n 0, 1) := dk_42 (dk_at dksX2_summedUp_8 23 rfl rfl)
theorem dX2_summedUp_214 : decode cX2_summedUp 214 = .ok (.getfield 35, 3) := dk_180 0 35 (dk_at dksX2_summedUp_9 0 rfl rfl)
theorem dX2_summedUp_217 : decode cX2_summedUp 217 = .ok (.iload 5, 2) := dk_21 5 (dk_at dksX2_summedUp_9 3 rfl rfl)
theorem dX2_summedUp_219 : decode cX2_summedUp 219 = .ok (.iconst 1, 1) := dk_4 (dk_at dksX2_summedUp_9 5 rfl rfl)
theorem dX2_summedUp_220 : decode cX2_summedUp 220 = .ok (.isub, 1) := dk_100 (dk_at dksX2_summedUp_9 6 rfl rfl)
theorem dX2_summedUp_221 : decode cX2_summedUp 221 = .ok (.laload, 1) := dk_47 (dk_at dksX2_summedUp_9 7 rfl rfl)
theorem dX2_summedUp_222 : decode cX2_summedUp 222 = .ok (.aload_n 0, 1) := dk_42 (dk_at dksX2_summedUp_9 8 rfl rfl)
theorem dX2_summedUp_223 : decode cX2_summedUp 223 = .ok (.getfield 35, 3) := dk_180 0 35 (dk_at dksX2_summedUp_9 9 rfl rfl)
theorem dX2_summedUp_226 : decode cX2_summedUp 226 = .ok (.iload 5, 2) := dk_21 5 (dk_at dksX2_summedUp_9 12 rfl rfl)
theorem dX2_summedUp_228 : decode cX2_summedUp 228 = .ok (.laload, 1) := dk_47 (dk_at dksX2_summedUp_9 14 rfl rfl)
theorem dX2_summedUp_229 : decode cX2_summedUp 229 = .ok (.invokevirtual 287, 3) := dk_182 1 31 (dk_at dksX2_summedUp_9 15 rfl rfl)
theorem dX2_summedUp_232 : decode cX2_summedUp 232 = .ok (.goto 53, 3) := dk_167 0 53 (dk_at dksX2_summedUp_9 18 rfl rfl)
theorem dX2_summedUp_235 : decode cX2_summedUp 235 = .ok (.iload 8, 2) := dk_21 8 (dk_at dksX2_summedUp_9 21 rfl rfl)
theorem dX2_summedUp_237 : decode cX2_summedUp 237 = .ok (.bipush 9, 2) := dk_16 9 (dk_at dksX2_summedUp_10 0 rfl rfl)
theorem dX2_summedUp_239 : decode cX2_summedUp 239 = .ok (.if_icmp .ne 25, 3) := dk_160 0 25 (dk_at dksX2_summedUp_10 2 rfl rfl)
theorem dX2_summedUp_242 : decode cX2_summedUp 242 = .ok (.aload_n 0, 1) := dk_42 (dk_at dksX2_summedUp_10 5 rfl rfl)
theorem dX2_summedUp_243 : decode cX2_summedUp 243 = .ok (.getfield 35, 3) := dk_180 0 35 (dk_at dksX2_summedUp_10 6 rfl rfl)
theorem dX2_summedUp_246 : decode cX2_summedUp 246 = .ok (.iload 5, 2) := dk_21 5 (dk_at dksX2_summedUp_10 9 rfl rfl)
theorem dX2_summedUp_248 : decode cX2_summedUp 248 = .ok (.iconst 1, 1) := dk_4 (dk_at dksX2_summedUp_10 11 rfl rfl)
theorem dX2_summedUp_249 : decode cX2_summedUp 249 = .ok (.isub, 1) := dk_100 (dk_at dksX2_summedUp_10 12 rfl rfl)
theorem dX2_summedUp_250 : decode cX2_summedUp 250 = .ok (.laload, 1) := dk_47 (dk_at dksX2_summedUp_10 13 rfl rfl)
theorem dX2_summedUp_251 : decode cX2_summedUp 251 = .ok (.aload_n 0, 1) := dk_42 (dk_at dksX2_summedUp_10 14 rfl rfl)
theorem dX2_summedUp_252 : decode cX2_summedUp 252 = .ok (.getfield 35, 3) := dk_180 0 35 (dk_at dksX2_summedUp_10 15 rfl rfl)
theorem dX2_summedUp_255 : decode cX2_summedUp 255 = .ok (.iload 5, 2) := dk_21 5 (dk_at dksX2_summedUp_10 18 rfl rfl)
theorem dX2_summedUp_257 : decode cX2_summedUp 257 = .ok (.laload, 1) := dk_47 (dk_at dksX2_summedUp_10 20 rfl rfl)
theorem dX2_summedUp_258 : decode cX2_summedUp 258 = .ok (.invokestatic 291, 3) := dk_184 1 35 (dk_at dksX2_summedUp_10 21 rfl rfl)
theorem dX2_summedUp_261 : decode cX2_summedUp 261 = .ok (.goto 24, 3) := dk_167 0 24 (dk_at dksX2_summedUp_11 0 rfl rfl)
theorem dX2_summedUp_264 : decode cX2_summedUp 264 = .ok (.iload 8, 2) := dk_21 8 (dk_at dksX2_summedUp_11 3 rfl rfl)
theorem dX2_summedUp_266 : decode cX2_summedUp 266 = .ok (.aload_n 0, 1) := dk_42 (dk_at dksX2_summedUp_11 5 rfl rfl)
theorem dX2_summedUp_267 : decode cX2_summedUp 267 = .ok (.getfield 35, 3) := dk_180 0 35 (dk_at dksX2_summedUp_11 6 rfl rfl)
theorem dX2_summedUp_270 : decode cX2_summedUp 270 = .ok (.iload 5, 2) := dk_21 5 (dk_at dksX2_summedUp_11 9 rfl rfl)
theorem dX2_summedUp_272 : decode cX2_summedUp 272 = .ok (.iconst 1, 1) := dk_4 (dk_at dksX2_summedUp_11 11 rfl rfl)
theorem dX2_summedUp_273 : decode cX2_summedUp 273 = .ok (.isub, 1) := dk_100 (dk_at dksX2_summedUp_11 12 rfl rfl)
theorem dX2_summedUp_274 : decode cX2_summedUp 274 = .ok (.laload, 1) := dk_47 (dk_at dksX2_summedUp_11 13 rfl rfl)
theorem dX2_summedUp_275 : decode cX2_summedUp 275 = .ok (.aload_n 0, 1) := dk_42 (dk_at dksX2_summedUp_11 14 rfl rfl)
theorem dX2_summedUp_276 : decode cX2_summedUp 276 = .ok (.getfield 35, 3) := dk_180 0 35 (dk_at dksX2_summedUp_11 15 rfl rfl)
theorem dX2_summedUp_279 : decode cX2_summedUp 279 = .ok (.iload 5, 2) := dk_21 5 (dk_at dksX2_summedUp_11 18 rfl rfl)
theorem dX2_summedUp_281 : decode cX2_summedUp 281 = .ok (.laload, 1) := dk_47 (dk_at dksX2_summedUp_11 20 rfl rfl)
theorem dX2_summedUp_282 : decode cX2_summedUp 282 = .ok (.invokestatic 294, 3) := dk_184 1 38 (dk_at dksX2_summedUp_11 21 rfl rfl)
theorem dX2_summedUp_285 : decode cX2_summedUp 285 = .ok (.lastore, 1) := dk_80 (dk_at dksX2_summedUp_12 0 rfl rfl)
theorem dX2_summedUp_286 : decode cX2_summedUp 286 = .ok (.goto 116, 3) := dk_167 0 116 (dk_at dksX2_summedUp_12 1 rfl rfl)
theorem dX2_summedUp_289 : decode cX2_summedUp 289 = .ok (.iload 8, 2) := dk_21 8 (dk_at dksX2_summedUp_12 4 rfl rfl)
theorem dX2_summedUp_291 : decode cX2_summedUp 291 = .ok (.bipush 20, 2) := dk_16 20 (dk_at dksX2_summedUp_12 6 rfl rfl)
theorem dX2_summedUp_293 : decode cX2_summedUp 293 = .ok (.if_icmp .ge 40, 3) := dk_162 0 40 (dk_at dksX2_summedUp_12 8 rfl rfl)
theorem dX2_summedUp_296 : decode cX2_summedUp 296 = .ok (.iinc 5 (-2), 3) := dk_132 5 254 (dk_at dksX2_summedUp_12 11 rfl rfl)
theorem dX2_summedUp_299 : decode cX2_summedUp 299 = .ok (.aload_n 0, 1) := dk_42 (dk_at dksX2_summedUp_12 14 rfl rfl)
theorem dX2_summedUp_300 : decode cX2_summedUp 300 = .ok (.getfield 39, 3) := dk_180 0 39 (dk_at dksX2_summedUp_12 15 rfl rfl)
theorem dX2_summedUp_303 : decode cX2_summedUp 303 = .ok (.iload 6, 2) := dk_21 6 (dk_at dksX2_summedUp_12 18 rfl rfl)
theorem dX2_summedUp_305 : decode cX2_summedUp 305 = .ok (.iload 8, 2) := dk_21 8 (dk_at dksX2_summedUp_12 20 rfl rfl)
theorem dX2_summedUp_307 : decode cX2_summedUp 307 = .ok (.aload_n 0, 1) := dk_42 (dk_at dksX2_summedUp_12 22 rfl rfl)
theorem dX2_summedUp_308 : decode cX2_summedUp 308 = .ok (.getfield 35, 3) := dk_180 0 35 (dk_at dksX2_summedUp_13 0 rfl rfl)
theorem dX2_summedUp_311 : decode cX2_summedUp 311 = .ok (.iload 5, 2) := dk_21 5 (dk_at dksX2_summedUp_13 3 rfl rfl)
theorem dX2_summedUp_313 : decode cX2_summedUp 313 = .ok (.laload, 1) := dk_47 (dk_at dksX2_summedUp_13 5 rfl rfl)
theorem dX2_summedUp_314 : decode cX2_summedUp 314 = .ok (.aload_n 0, 1) := dk_42 (dk_at dksX2_summedUp_13 6 rfl rfl)
theorem dX2_summedUp_315 : decode cX2_summedUp 315 = .ok (.getfield 35, 3) := dk_180 0 35 (dk_at dksX2_summedUp_13 7 rfl rfl)
theorem dX2_summedUp_318 : decode cX2_summedUp 318 = .ok (.iload 5, 2) := dk_21 5 (dk_at dksX2_summedUp_13 10 rfl rfl)
theorem dX2_summedUp_320 : decode cX2_summedUp 320 = .ok (.iconst 1, 1) := dk_4 (dk_at dksX2_summedUp_13 12 rfl rfl)
theorem dX2_summedUp_321 : decode cX2_summedUp 321 = .ok (.iadd, 1) := dk_96 (dk_at dksX2_summedUp_13 13 rfl rfl)
theorem dX2_summedUp_322 : decode cX2_summedUp 322 = .ok (.laload, 1) := dk_47 (dk_at dksX2_summedUp_13 14 rfl rfl)
theorem dX2_summedUp_323 : decode cX2_summedUp 323 = .ok (.invokestatic 298, 3) := dk_184 1 42 (dk_at dksX2_summedUp_13 15 rfl rfl)
theorem dX2_summedUp_326 : decode cX2_summedUp 326 = .ok (.bastore, 1) := dk_84 (dk_at dksX2_summedUp_13 18 rfl rfl)
theorem dX2_summedUp_327 : decode cX2_summedUp 327 = .ok (.iinc 6 1, 3) := dk_132 6 1 (dk_at dksX2_summedUp_13 19 rfl rfl)
theorem dX2_summedUp_330 : decode cX2_summedUp 330 = .ok (.goto 72, 3) := dk_167 0 72 (dk_at dksX2_summedUp_14 0 rfl rfl)
theorem dX2_summedUp_333 : decode cX2_summedUp 333 = .ok (.iload 8, 2) := dk_21 8 (dk_at dksX2_summedUp_14 3 rfl rfl)
theorem dX2_summedUp_335 : decode cX2_summedUp 335 = .ok (.bipush 20, 2) := dk_16 20 (dk_at dksX2_summedUp_14 5 rfl rfl)
theorem dX2_summedUp_337 : decode cX2_summedUp 337 = .ok (.if_icmp .ne 32, 3) := dk_160 0 32 (dk_at dksX2_summedUp_14 7 rfl rfl)
theorem dX2_summedUp_340 : decode cX2_summedUp 340 = .ok (.aload_n 0, 1) := dk_42 (dk_at dksX2_summedUp_14 10 rfl rfl)
theorem dX2_summedUp_341 : decode cX2_summedUp 341 = .ok (.getfield 39, 3) := dk_180 0 39 (dk_at dksX2_summedUp_14 11 rfl rfl)
theorem dX2_summedUp_344 : decode cX2_summedUp 344 = .ok (.iload 6, 2) := dk_21 6 (dk_at dksX2_summedUp_14 14 rfl rfl)
theorem dX2_summedUp_346 : decode cX2_summedUp 346 = .ok (.iconst 1, 1) := dk_4 (dk_at dksX2_summedUp_14 16 rfl rfl)
theorem dX2_summedUp_347 : decode cX2_summedUp 347 = .ok (.isub, 1) := dk_100 (dk_at dksX2_summedUp_14 17 rfl rfl)
theorem dX2_summedUp_348 : decode cX2_summedUp 348 = .ok (.aload_n 0, 1) := dk_42 (dk_at dksX2_summedUp_14 18 rfl rfl)
theorem dX2_summedUp_349 : decode cX2_summedUp 349 = .ok (.getfield 39, 3) := dk_180 0 39 (dk_at dksX2_summedUp_14 19 rfl rfl)
theorem dX2_summedUp_352 : decode cX2_summedUp 352 = .ok (.iload 6, 2) := dk_21 6 (dk_at dksX2_summedUp_14 22 rfl rfl)
theorem dX2_summedUp_354 : decode cX2_summedUp 354 = .ok (.iconst 1, 1) := dk_4 (dk_at dksX2_summedUp_15 0 rfl rfl)
theorem dX2_summedUp_355 : decode cX2_summedUp 355 = .ok (.isub, 1) := dk_100 (dk_at dksX2_summedUp_15 1 rfl rfl)
theorem dX2_summedUp_356 : decode cX2_summedUp 356 = .ok (.baload, 1) := dk_51 (dk_at dksX2_summedUp_15 2 rfl rfl)
theorem dX2_summedUp_357 : decode cX2_summedUp 357 = .ok (.ifCond .ne 7, 3) := dk_154 0 7 (dk_at dksX2_summedUp_15 3 rfl rfl)
theorem dX2_summedUp_360 : decode cX2_summedUp 360 = .ok (.iconst 1, 1) := dk_4 (dk_at dksX2_summedUp_15 6 rfl rfl)
theorem dX2_summedUp_361 : decode cX2_summedUp 361 = .ok (.goto 4, 3) := dk_167 0 4 (dk_at dksX2_summedUp_15 7 rfl rfl)
theorem dX2_summedUp_364 : decode cX2_summedUp 364 = .ok (.iconst 0, 1) := dk_3 (dk_at dksX2_summedUp_15 10 rfl rfl)
theorem dX2_summedUp_365 : decode cX2_summedUp 365 = .ok (.bastore, 1) := dk_84 (dk_at dksX2_summedUp_15 11 rfl rfl)
theorem dX2_summedUp_366 : decode cX2_summedUp 366 = .ok (.goto 36, 3) := dk_167 0 36 (dk_at dksX2_summedUp_15 12 rfl rfl)
theorem dX2_summedUp_369 : decode cX2_summedUp 369 = .ok (.iinc 6 (-1), 3) := dk_132 6 255 (dk_at dksX2_summedUp_15 15 rfl rfl)
theorem dX2_summedUp_372 : decode cX2_summedUp 372 = .ok (.aload_n 0, 1) := dk_42 (dk_at dksX2_summedUp_15 18 rfl rfl)
theorem dX2_summedUp_373 : decode cX2_summedUp 373 = .ok (.getfield 39, 3) := dk_180 0 39 (dk_at dksX2_summedUp_15 19 rfl rfl)
theorem dX2_summedUp_376 : decode cX2_summedUp 376 = .ok (.iload 6, 2) := dk_21 6 (dk_at dksX2_summedUp_15 22 rfl rfl)
theorem dX2_summedUp_378 : decode cX2_summedUp 378 = .ok (.iconst 1, 1) := dk_4 (dk_at dksX2_summedUp_16 0 rfl rfl)
theorem dX2_summedUp_379 : decode cX2_summedUp 379 = .ok (.isub, 1) := dk_100 (dk_at dksX2_summedUp_16 1 rfl rfl)
theorem dX2_summedUp_380 : decode cX2_summedUp 380 = .ok (.iload 8, 2) := dk_21 8 (dk_at dksX2_summedUp_16 2 rfl rfl)
theorem dX2_summedUp_382 : decode cX2_summedUp 382 = .ok (.aload_n 0, 1) := dk_42 (dk_at dksX2_summedUp_16 4 rfl rfl)
theorem dX2_summedUp_383 : decode cX2_summedUp 383 = .ok (.getfield 39, 3) := dk_180 0 39 (dk_at dksX2_summedUp_16 5 rfl rfl)
theorem dX2_summedUp_386 : decode cX2_summedUp 386 = .ok (.iload 6, 2) := dk_21 6 (dk_at dksX2_summedUp_16 8 rfl rfl)
theorem dX2_summedUp_388 : decode cX2_summedUp 388 = .ok (.iconst 1, 1) := dk_4 (dk_at dksX2_summedUp_16 10 rfl rfl)
theorem dX2_summedUp_389 : decode cX2_summedUp 389 = .ok (.isub, 1) := dk_100 (dk_at dksX2_summedUp_16 11 rfl rfl)
theorem dX2_summedUp_390 : decode cX2_summedUp 390 = .ok (.baload, 1) := dk_51 (dk_at dksX2_summedUp_16 12 rfl rfl)
theorem dX2_summedUp_391 : decode cX2_summedUp 391 = .ok (.aload_n 0, 1) := dk_42 (dk_at dksX2_summedUp_16 13 rfl rfl)
theorem dX2_summedUp_392 : decode cX2_summedUp 392 = .ok (.getfield 39, 3) := dk_180 0 39 (dk_at dksX2_summedUp_16 14 rfl rfl)
theorem dX2_summedUp_395 : decode cX2_summedUp 395 = .ok (.iload 6, 2) := dk_21 6 (dk_at dksX2_summedUp_16 17 rfl rfl)
theorem dX2_summedUp_397 : decode cX2_summedUp 397 = .ok (.baload, 1) := dk_51 (dk_at dksX2_summedUp_16 19 rfl rfl)
theorem dX2_summedUp_398 : decode cX2_summedUp 398 = .ok (.invokestatic 302, 3) := dk_184 1 46 (dk_at dksX2_summedUp_16 20 rfl rfl)
theorem dX2_summedUp_401 : decode cX2_summedUp 401 = .ok (.bastore, 1) := dk_84 (dk_at dksX2_summedUp_16 23 rfl rfl)
theorem dX2_summedUp_402 : decode cX2_summedUp 402 = .ok (.iinc 7 1, 3) := dk_132 7 1 (dk_at dksX2_summedUp_17 0 rfl rfl)
theorem dX2_summedUp_405 : decode cX2_summedUp 405 = .ok (.goto (-367), 3) := dk_167 254 145 (dk_at dksX2_summedUp_17 3 rfl rfl)
theorem dX2_summedUp_408 : decode cX2_summedUp 408 = .ok (.aload_n 0, 1) := dk_42 (dk_at dksX2_summedUp_17 6 rfl rfl)
theorem dX2_summedUp_409 : decode cX2_summedUp 409 = .ok (.getfield 35, 3) := dk_180 0 35 (dk_at dksX2_summedUp_17 7 rfl rfl)
theorem dX2_summedUp_412 : decode cX2_summedUp 412 = .ok (.iconst 0, 1) := dk_3 (dk_at dksX2_summedUp_17 10 rfl rfl)
theorem dX2_summedUp_413 : decode cX2_summedUp 413 = .ok (.laload, 1) := dk_47 (dk_at dksX2_summedUp_17 11 rfl rfl)
theorem dX2_summedUp_414 : decode cX2_summedUp 414 = .ok (.lreturn, 1) := dk_173 (dk_at dksX2_summedUp_17 12 rfl rfl)
abbrev cX2_behindBy : ByteArray := prog_19_method_62_code
def yX2_behindBy : MethodName := ⟨RX2, "behindBy", "(JJ)J"⟩
def dkwX2_behindBy_1 : List UInt8 := [182, 1, 23, 133, 173]
abbrev dktX2_behindBy_1 : List UInt8 := dkwX2_behindBy_1 ++ []
def dkwX2_behindBy_0 : List UInt8 := [31, 9, 148, 155, 0, 11, 31, 20, 1, 21, 148, 155, 0, 7, 9, 167, 0, 11, 42, 31, 136, 33]
abbrev dktX2_behindBy_0 : List UInt8 := dkwX2_behindBy_0 ++ dktX2_behindBy_1
theorem dksX2_behindBy_0 : cX2_behindBy.data.toList.drop 0 = dktX2_behindBy_0 := by decide +kernel
theorem dksX2_behindBy_1 : cX2_behindBy.data.toList.drop 22 = dktX2_behindBy_1 := dk_seg dksX2_behindBy_0 22 rfl rfl
theorem dX2_behindBy_0 : decode cX2_behindBy 0 = .ok (.lload_n 1, 1) := dk_31 (dk_at dksX2_behindBy_0 0 rfl rfl)
theorem dX2_behindBy_1 : decode cX2_behindBy 1 = .ok (.lconst 0, 1) := dk_9 (dk_at dksX2_behindBy_0 1 rfl rfl)
theorem dX2_behindBy_2 : decode cX2_behindBy 2 = .ok (.lcmp, 1) := dk_148 (dk_at dksX2_behindBy_0 2 rfl rfl)
theorem dX2_behindBy_3 : decode cX2_behindBy 3 = .ok (.ifCond .lt 11, 3) := dk_155 0 11 (dk_at dksX2_behindBy_0 3 rfl rfl)
theorem dX2_behindBy_6 : decode cX2_behindBy 6 = .ok (.lload_n 1, 1) := dk_31 (dk_at dksX2_behindBy_0 6 rfl rfl)
theorem dX2_behindBy_7 : decode cX2_behindBy 7 = .ok (.ldc2_w 277, 3) := dk_20 1 21 (dk_at dksX2_behindBy_0 7 rfl rfl)
theorem dX2_behindBy_10 : decode cX2_behindBy 10 = .ok (.lcmp, 1) := dk_148 (dk_at dksX2_behindBy_0 10 rfl rfl)
theorem dX2_behindBy_11 : decode cX2_behindBy 11 = .ok (.ifCond .lt 7, 3) := dk_155 0 7 (dk_at dksX2_behindBy_0 11 rfl rfl)
theorem dX2_behindBy_14 : decode cX2_behindBy 14 = .ok (.lconst 0, 1) := dk_9 (dk_at dksX2_behindBy_0 14 rfl rfl)
theorem dX2_behindBy_15 : decode cX2_behindBy 15 = .ok (.goto 11, 3) := dk_167 0 11 (dk_at dksX2_behindBy_0 15 rfl rfl)
theorem dX2_behindBy_18 : decode cX2_behindBy 18 = .ok (.aload_n 0, 1) := dk_42 (dk_at dksX2_behindBy_0 18 rfl rfl)
theorem dX2_behindBy_19 : decode cX2_behindBy 19 = .ok (.lload_n 1, 1) := dk_31 (dk_at dksX2_behindBy_0 19 rfl rfl)
theorem dX2_behindBy_20 : decode cX2_behindBy 20 = .ok (.l2i, 1) := dk_136 (dk_at dksX2_behindBy_0 20 rfl rfl)
theorem dX2_behindBy_21 : decode cX2_behindBy 21 = .ok (.lload_n 3, 1) := dk_33 (dk_at dksX2_behindBy_0 21 rfl rfl)
theorem dX2_behindBy_22 : decode cX2_behindBy 22 = .ok (.invokevirtual 279, 3) := dk_182 1 23 (dk_at dksX2_behindBy_1 0 rfl rfl)
theorem dX2_behindBy_25 : decode cX2_behindBy 25 = .ok (.i2l, 1) := dk_133 (dk_at dksX2_behindBy_1 3 rfl rfl)
theorem dX2_behindBy_26 : decode cX2_behindBy 26 = .ok (.lreturn, 1) := dk_173 (dk_at dksX2_behindBy_1 4 rfl rfl)
abbrev cX2_goneFrom : ByteArray := prog_19_method_12_code
def yX2_goneFrom : MethodName := ⟨RX2, "goneFrom", "(IJ)I"⟩
def dkwX2_goneFrom_3 : List UInt8 := [158, 0, 20, 42, 21, 4, 182, 0, 77, 54, 4, 22, 5, 10, 101, 55, 5, 167, 255, 235, 21, 4, 172]
abbrev dktX2_goneFrom_3 : List UInt8 := dkwX2_goneFrom_3 ++ []
def dkwX2_goneFrom_2 : List UInt8 := [157, 0, 6, 21, 4, 172, 22, 5, 42, 21, 4, 182, 0, 81, 133, 113, 55, 5, 22, 5, 9, 148]
abbrev dktX2_goneFrom_2 : List UInt8 := dkwX2_goneFrom_2 ++ dktX2_goneFrom_3
def dkwX2_goneFrom_1 : List UInt8 := [21, 4, 182, 0, 77, 54, 4, 22, 5, 10, 101, 55, 5, 132, 7, 1, 167, 255, 225, 22, 5, 9, 148]
abbrev dktX2_goneFrom_1 : List UInt8 := dkwX2_goneFrom_1 ++ dktX2_goneFrom_2
def dkwX2_goneFrom_0 : List UInt8 := [27, 54, 4, 32, 55, 5, 3, 54, 7, 21, 7, 16, 8, 162, 0, 30, 22, 5, 9, 148, 158, 0, 23, 42]
abbrev dktX2_goneFrom_0 : List UInt8 := dkwX2_goneFrom_0 ++ dktX2_goneFrom_1
theorem dksX2_goneFrom_0 : cX2_goneFrom.data.toList.drop 0 = dktX2_goneFrom_0 := by decide +kernel
theorem dksX2_goneFrom_1 : cX2_goneFrom.data.toList.drop 24 = dktX2_goneFrom_1 := dk_seg dksX2_goneFrom_0 24 rfl rfl
theorem dksX2_goneFrom_2 : cX2_goneFrom.data.toList.drop 47 = dktX2_goneFrom_2 := dk_seg dksX2_goneFrom_1 23 rfl rfl
theorem dksX2_goneFrom_3 : cX2_goneFrom.data.toList.drop 69 = dktX2_goneFrom_3 := dk_seg dksX2_goneFrom_2 22 rfl rfl
theorem dX2_goneFrom_0 : decode cX2_goneFrom 0 = .ok (.iload_n 1, 1) := dk_27 (dk_at dksX2_goneFrom_0 0 rfl rfl)
theorem dX2_goneFrom_1 : decode cX2_goneFrom 1 = .ok (.istore 4, 2) := dk_54 4 (dk_at dksX2_goneFrom_0 1 rfl rfl)
theorem dX2_goneFrom_3 : decode cX2_goneFrom 3 = .ok (.lload_n 2, 1) := dk_32 (dk_at dksX2_goneFrom_0 3 rfl rfl)
theorem dX2_goneFrom_4 : decode cX2_goneFrom 4 = .ok (.lstore 5, 2) := dk_55 5 (dk_at dksX2_goneFrom_0 4 rfl rfl)
theorem dX2_goneFrom_6 : decode cX2_goneFrom 6 = .ok (.iconst 0, 1) := dk_3 (dk_at dksX2_goneFrom_0 6 rfl rfl)
theorem dX2_goneFrom_7 : decode cX2_goneFrom 7 = .ok (.istore 7, 2) := dk_54 7 (dk_at dksX2_goneFrom_0 7 rfl rfl)
theorem dX2_goneFrom_9 : decode cX2_goneFrom 9 = .ok (.iload 7, 2) := dk_21 7 (dk_at dksX2_goneFrom_0 9 rfl rfl)
theorem dX2_goneFrom_11 : decode cX2_goneFrom 11 = .ok (.bipush 8, 2) := dk_16 8 (dk_at dksX2_goneFrom_0 11 rfl rfl)
theorem dX2_goneFrom_13 : decode cX2_goneFrom 13 = .ok (.if_icmp .ge 30, 3) := dk_162 0 30 (dk_at dksX2_goneFrom_0 13 rfl rfl)
theorem dX2_goneFrom_16 : decode cX2_goneFrom 16 = .ok (.lload 5, 2) := dk_22 5 (dk_at dksX2_goneFrom_0 16 rfl rfl)
theorem dX2_goneFrom_18 : decode cX2_goneFrom 18 = .ok (.lconst 0, 1) := dk_9 (dk_at dksX2_goneFrom_0 18 rfl rfl)
theorem dX2_goneFrom_19 : decode cX2_goneFrom 19 = .ok (.lcmp, 1) := dk_148 (dk_at dksX2_goneFrom_0 19 rfl rfl)
theorem dX2_goneFrom_20 : decode cX2_goneFrom 20 = .ok (.ifCond .le 23, 3) := dk_158 0 23 (dk_at dksX2_goneFrom_0 20 rfl rfl)
theorem dX2_goneFrom_23 : decode cX2_goneFrom 23 = .ok (.aload_n 0, 1) := dk_42 (dk_at dksX2_goneFrom_0 23 rfl rfl)
theorem dX2_goneFrom_24 : decode cX2_goneFrom 24 = .ok (.iload 4, 2) := dk_21 4 (dk_at dksX2_goneFrom_1 0 rfl rfl)
theorem dX2_goneFrom_26 : decode cX2_goneFrom 26 = .ok (.invokevirtual 77, 3) := dk_182 0 77 (dk_at dksX2_goneFrom_1 2 rfl rfl)
theorem dX2_goneFrom_29 : decode cX2_goneFrom 29 = .ok (.istore 4, 2) := dk_54 4 (dk_at dksX2_goneFrom_1 5 rfl rfl)
theorem dX2_goneFrom_31 : decode cX2_goneFrom 31 = .ok (.lload 5, 2) := dk_22 5 (dk_at dksX2_goneFrom_1 7 rfl rfl)
theorem dX2_goneFrom_33 : decode cX2_goneFrom 33 = .ok (.lconst 1, 1) := dk_10 (dk_at dksX2_goneFrom_1 9 rfl rfl)
theorem dX2_goneFrom_34 : decode cX2_goneFrom 34 = .ok (.lsub, 1) := dk_101 (dk_at dksX2_goneFrom_1 10 rfl rfl)
theorem dX2_goneFrom_35 : decode cX2_goneFrom 35 = .ok (.lstore 5, 2) := dk_55 5 (dk_at dksX2_goneFrom_1 11 rfl rfl)
theorem dX2_goneFrom_37 : decode cX2_goneFrom 37 = .ok (.iinc 7 1, 3) := dk_132 7 1 (dk_at dksX2_goneFrom_1 13 rfl rfl)
theorem dX2_goneFrom_40 : decode cX2_goneFrom 40 = .ok (.goto (-31), 3) := dk_167 255 225 (dk_at dksX2_goneFrom_1 16 rfl rfl)
theorem dX2_goneFrom_43 : decode cX2_goneFrom 43 = .ok (.lload 5, 2) := dk_22 5 (dk_at dksX2_goneFrom_1 19 rfl rfl)
theorem dX2_goneFrom_45 : decode cX2_goneFrom 45 = .ok (.lconst 0, 1) := dk_9 (dk_at dksX2_goneFrom_1 21 rfl rfl)
theorem dX2_goneFrom_46 : decode cX2_goneFrom 46 = .ok (.lcmp, 1) := dk_148 (dk_at dksX2_goneFrom_1 22 rfl rfl)
theorem dX2_goneFrom_47 : decode cX2_goneFrom 47 = .ok (.ifCond .gt 6, 3) := dk_157 0 6 (dk_at dksX2_goneFrom_2 0 rfl rfl)
theorem dX2_goneFrom_50 : decode cX2_goneFrom 50 = .ok (.iload 4, 2) := dk_21 4 (dk_at dksX2_goneFrom_2 3 rfl rfl)
theorem dX2_goneFrom_52 : decode cX2_goneFrom 52 = .ok (.ireturn, 1) := dk_172 (dk_at dksX2_goneFrom_2 5 rfl rfl)
theorem dX2_goneFrom_53 : decode cX2_goneFrom 53 = .ok (.lload 5, 2) := dk_22 5 (dk_at dksX2_goneFrom_2 6 rfl rfl)
theorem dX2_goneFrom_55 : decode cX2_goneFrom 55 = .ok (.aload_n 0, 1) := dk_42 (dk_at dksX2_goneFrom_2 8 rfl rfl)
theorem dX2_goneFrom_56 : decode cX2_goneFrom 56 = .ok (.iload 4, 2) := dk_21 4 (dk_at dksX2_goneFrom_2 9 rfl rfl)
theorem dX2_goneFrom_58 : decode cX2_goneFrom 58 = .ok (.invokevirtual 81, 3) := dk_182 0 81 (dk_at dksX2_goneFrom_2 11 rfl rfl)
theorem dX2_goneFrom_61 : decode cX2_goneFrom 61 = .ok (.i2l, 1) := dk_133 (dk_at dksX2_goneFrom_2 14 rfl rfl)
theorem dX2_goneFrom_62 : decode cX2_goneFrom 62 = .ok (.lrem, 1) := dk_113 (dk_at dksX2_goneFrom_2 15 rfl rfl)
theorem dX2_goneFrom_63 : decode cX2_goneFrom 63 = .ok (.lstore 5, 2) := dk_55 5 (dk_at dksX2_goneFrom_2 16 rfl rfl)
theorem dX2_goneFrom_65 : decode cX2_goneFrom 65 = .ok (.lload 5, 2) := dk_22 5 (dk_at dksX2_goneFrom_2 18 rfl rfl)
theorem dX2_goneFrom_67 : decode cX2_goneFrom 67 = .ok (.lconst 0, 1) := dk_9 (dk_at dksX2_goneFrom_2 20 rfl rfl)
theorem dX2_goneFrom_68 : decode cX2_goneFrom 68 = .ok (.lcmp, 1) := dk_148 (dk_at dksX2_goneFrom_2 21 rfl rfl)
theorem dX2_goneFrom_69 : decode cX2_goneFrom 69 = .ok (.ifCond .le 20, 3) := dk_158 0 20 (dk_at dksX2_goneFrom_3 0 rfl rfl)
theorem dX2_goneFrom_72 : decode cX2_goneFrom 72 = .ok (.aload_n 0, 1) := dk_42 (dk_at dksX2_goneFrom_3 3 rfl rfl)
theorem dX2_goneFrom_73 : decode cX2_goneFrom 73 = .ok (.iload 4, 2) := dk_21 4 (dk_at dksX2_goneFrom_3 4 rfl rfl)
theorem dX2_goneFrom_75 : decode cX2_goneFrom 75 = .ok (.invokevirtual 77, 3) := dk_182 0 77 (dk_at dksX2_goneFrom_3 6 rfl rfl)
theorem dX2_goneFrom_78 : decode cX2_goneFrom 78 = .ok (.istore 4, 2) := dk_54 4 (dk_at dksX2_goneFrom_3 9 rfl rfl)
theorem dX2_goneFrom_80 : decode cX2_goneFrom 80 = .ok (.lload 5, 2) := dk_22 5 (dk_at dksX2_goneFrom_3 11 rfl rfl)
theorem dX2_goneFrom_82 : decode cX2_goneFrom 82 = .ok (.lconst 1, 1) := dk_10 (dk_at dksX2_goneFrom_3 13 rfl rfl)
theorem dX2_goneFrom_83 : decode cX2_goneFrom 83 = .ok (.lsub, 1) := dk_101 (dk_at dksX2_goneFrom_3 14 rfl rfl)
theorem dX2_goneFrom_84 : decode cX2_goneFrom 84 = .ok (.lstore 5, 2) := dk_55 5 (dk_at dksX2_goneFrom_3 15 rfl rfl)
theorem dX2_goneFrom_86 : decode cX2_goneFrom 86 = .ok (.goto (-21), 3) := dk_167 255 235 (dk_at dksX2_goneFrom_3 17 rfl rfl)
theorem dX2_goneFrom_89 : decode cX2_goneFrom 89 = .ok (.iload 4, 2) := dk_21 4 (dk_at dksX2_goneFrom_3 20 rfl rfl)
theorem dX2_goneFrom_91 : decode cX2_goneFrom 91 = .ok (.ireturn, 1) := dk_172 (dk_at dksX2_goneFrom_3 22 rfl rfl)
abbrev cX2_roundOf : ByteArray := prog_19_method_13_code
def yX2_roundOf : MethodName := ⟨RX2, "roundOf", "(I)I"⟩
def dkwX2_roundOf_1 : List UInt8 := [167, 255, 242, 28, 172]
abbrev dktX2_roundOf_1 : List UInt8 := dkwX2_roundOf_1 ++ []
def dkwX2_roundOf_0 : List UInt8 := [4, 61, 42, 27, 182, 0, 77, 62, 29, 27, 159, 0, 15, 132, 2, 1, 42, 29, 182, 0, 77, 62]
abbrev dktX2_roundOf_0 : List UInt8 := dkwX2_roundOf_0 ++ dktX2_roundOf_1
theorem dksX2_roundOf_0 : cX2_roundOf.data.toList.drop 0 = dktX2_roundOf_0 := by decide +kernel
theorem dksX2_roundOf_1 : cX2_roundOf.data.toList.drop 22 = dktX2_roundOf_1 := dk_seg dksX2_roundOf_0 22 rfl rfl
theorem dX2_roundOf_0 : decode cX2_roundOf 0 = .ok (.iconst 1, 1) := dk_4 (dk_at dksX2_roundOf_0 0 rfl rfl)
theorem dX2_roundOf_1 : decode cX2_roundOf 1 = .ok (.istore_n 2, 1) := dk_61 (dk_at dksX2_roundOf_0 1 rfl rfl)
theorem dX2_roundOf_2 : decode cX2_roundOf 2 = .ok (.aload_n 0, 1) := dk_42 (dk_at dksX2_roundOf_0 2 rfl rfl)
theorem dX2_roundOf_3 : decode cX2_roundOf 3 = .ok (.iload_n 1, 1) := dk_27 (dk_at dksX2_roundOf_0 3 rfl rfl)
theorem dX2_roundOf_4 : decode cX2_roundOf 4 = .ok (.invokevirtual 77, 3) := dk_182 0 77 (dk_at dksX2_roundOf_0 4 rfl rfl)
theorem dX2_roundOf_7 : decode cX2_roundOf 7 = .ok (.istore_n 3, 1) := dk_62 (dk_at dksX2_roundOf_0 7 rfl rfl)
theorem dX2_roundOf_8 : decode cX2_roundOf 8 = .ok (.iload_n 3, 1) := dk_29 (dk_at dksX2_roundOf_0 8 rfl rfl)
theorem dX2_roundOf_9 : decode cX2_roundOf 9 = .ok (.iload_n 1, 1) := dk_27 (dk_at dksX2_roundOf_0 9 rfl rfl)
theorem dX2_roundOf_10 : decode cX2_roundOf 10 = .ok (.if_icmp .eq 15, 3) := dk_159 0 15 (dk_at dksX2_roundOf_0 10 rfl rfl)
theorem dX2_roundOf_13 : decode cX2_roundOf 13 = .ok (.iinc 2 1, 3) := dk_132 2 1 (dk_at dksX2_roundOf_0 13 rfl rfl)
theorem dX2_roundOf_16 : decode cX2_roundOf 16 = .ok (.aload_n 0, 1) := dk_42 (dk_at dksX2_roundOf_0 16 rfl rfl)
theorem dX2_roundOf_17 : decode cX2_roundOf 17 = .ok (.iload_n 3, 1) := dk_29 (dk_at dksX2_roundOf_0 17 rfl rfl)
theorem dX2_roundOf_18 : decode cX2_roundOf 18 = .ok (.invokevirtual 77, 3) := dk_182 0 77 (dk_at dksX2_roundOf_0 18 rfl rfl)
theorem dX2_roundOf_21 : decode cX2_roundOf 21 = .ok (.istore_n 3, 1) := dk_62 (dk_at dksX2_roundOf_0 21 rfl rfl)
theorem dX2_roundOf_22 : decode cX2_roundOf 22 = .ok (.goto (-14), 3) := dk_167 255 242 (dk_at dksX2_roundOf_1 0 rfl rfl)
theorem dX2_roundOf_25 : decode cX2_roundOf 25 = .ok (.iload_n 2, 1) := dk_28 (dk_at dksX2_roundOf_1 3 rfl rfl)
theorem dX2_roundOf_26 : decode cX2_roundOf 26 = .ok (.ireturn, 1) := dk_172 (dk_at dksX2_roundOf_1 4 rfl rfl)
abbrev cX2_power : ByteArray := prog_19_method_63_code
def yX2_power : MethodName := ⟨RX2, "power", "(JJ)J"⟩
def dkwX2_power_3 : List UInt8 := [167, 0, 5, 22, 4, 55, 4, 22, 8, 10, 97, 55, 8, 167, 255, 202, 22, 4, 173]
abbrev dktX2_power_3 : List UInt8 := dkwX2_power_3 ++ []
def dkwX2_power_2 : List UInt8 := [148, 158, 0, 9, 20, 1, 13, 167, 0, 20, 22, 4, 20, 1, 15, 148, 156, 0, 9, 20, 1, 15]
abbrev dktX2_power_2 : List UInt8 := dkwX2_power_2 ++ dktX2_power_3
def dkwX2_power_1 : List UInt8 := [55, 6, 9, 55, 8, 22, 8, 22, 6, 148, 156, 0, 52, 22, 4, 30, 105, 55, 4, 22, 4, 20, 1, 13]
abbrev dktX2_power_1 : List UInt8 := dkwX2_power_1 ++ dktX2_power_2
def dkwX2_power_0 : List UInt8 := [10, 55, 4, 32, 20, 1, 27, 148, 158, 0, 15, 20, 1, 27, 32, 20, 1, 29, 113, 97, 167, 0, 4, 32]
abbrev dktX2_power_0 : List UInt8 := dkwX2_power_0 ++ dktX2_power_1
theorem dksX2_power_0 : cX2_power.data.toList.drop 0 = dktX2_power_0 := by decide +kernel
theorem dksX2_power_1 : cX2_power.data.toList.drop 24 = dktX2_power_1 := dk_seg dksX2_power_0 24 rfl rfl
theorem dksX2_power_2 : cX2_power.data.toList.drop 48 = dktX2_power_2 := dk_seg dksX2_power_1 24 rfl rfl
theorem dksX2_power_3 : cX2_power.data.toList.drop 70 = dktX2_power_3 := dk_seg dksX2_power_2 22 rfl rfl
theorem dX2_power_0 : decode cX2_power 0 = .ok (.lconst 1, 1) := dk_10 (dk_at dksX2_power_0 0 rfl rfl)
theorem dX2_power_1 : decode cX2_power 1 = .ok (.lstore 4, 2) := dk_55 4 (dk_at dksX2_power_0 1 rfl rfl)
theorem dX2_power_3 : decode cX2_power 3 = .ok (.lload_n 2, 1) := dk_32 (dk_at dksX2_power_0 3 rfl rfl)
theorem dX2_power_4 : decode cX2_power 4 = .ok (.ldc2_w 283, 3) := dk_20 1 27 (dk_at dksX2_power_0 4 rfl rfl)
theorem dX2_power_7 : decode cX2_power 7 = .ok (.lcmp, 1) := dk_148 (dk_at dksX2_power_0 7 rfl rfl)
theorem dX2_power_8 : decode cX2_power 8 = .ok (.ifCond .le 15, 3) := dk_158 0 15 (dk_at dksX2_power_0 8 rfl rfl)
theorem dX2_power_11 : decode cX2_power 11 = .ok (.ldc2_w 283, 3) := dk_20 1 27 (dk_at dksX2_power_0 11 rfl rfl)
theorem dX2_power_14 : decode cX2_power 14 = .ok (.lload_n 2, 1) := dk_32 (dk_at dksX2_power_0 14 rfl rfl)
theorem dX2_power_15 : decode cX2_power 15 = .ok (.ldc2_w 285, 3) := dk_20 1 29 (dk_at dksX2_power_0 15 rfl rfl)
theorem dX2_power_18 : decode cX2_power 18 = .ok (.lrem, 1) := dk_113 (dk_at dksX2_power_0 18 rfl rfl)
theorem dX2_power_19 : decode cX2_power 19 = .ok (.ladd, 1) := dk_97 (dk_at dksX2_power_0 19 rfl rfl)
theorem dX2_power_20 : decode cX2_power 20 = .ok (.goto 4, 3) := dk_167 0 4 (dk_at dksX2_power_0 20 rfl rfl)
theorem dX2_power_23 : decode cX2_power 23 = .ok (.lload_n 2, 1) := dk_32 (dk_at dksX2_power_0 23 rfl rfl)
theorem dX2_power_24 : decode cX2_power 24 = .ok (.lstore 6, 2) := dk_55 6 (dk_at dksX2_power_1 0 rfl rfl)
theorem dX2_power_26 : decode cX2_power 26 = .ok (.lconst 0, 1) := dk_9 (dk_at dksX2_power_1 2 rfl rfl)
theorem dX2_power_27 : decode cX2_power 27 = .ok (.lstore 8, 2) := dk_55 8 (dk_at dksX2_power_1 3 rfl rfl)
theorem dX2_power_29 : decode cX2_power 29 = .ok (.lload 8, 2) := dk_22 8 (dk_at dksX2_power_1 5 rfl rfl)
theorem dX2_power_31 : decode cX2_power 31 = .ok (.lload 6, 2) := dk_22 6 (dk_at dksX2_power_1 7 rfl rfl)
theorem dX2_power_33 : decode cX2_power 33 = .ok (.lcmp, 1) := dk_148 (dk_at dksX2_power_1 9 rfl rfl)
theorem dX2_power_34 : decode cX2_power 34 = .ok (.ifCond .ge 52, 3) := dk_156 0 52 (dk_at dksX2_power_1 10 rfl rfl)
theorem dX2_power_37 : decode cX2_power 37 = .ok (.lload 4, 2) := dk_22 4 (dk_at dksX2_power_1 13 rfl rfl)
theorem dX2_power_39 : decode cX2_power 39 = .ok (.lload_n 0, 1) := dk_30 (dk_at dksX2_power_1 15 rfl rfl)
theorem dX2_power_40 : decode cX2_power 40 = .ok (.lmul, 1) := dk_105 (dk_at dksX2_power_1 16 rfl rfl)
theorem dX2_power_41 : decode cX2_power 41 = .ok (.lstore 4, 2) := dk_55 4 (dk_at dksX2_power_1 17 rfl rfl)
theorem dX2_power_43 : decode cX2_power 43 = .ok (.lload 4, 2) := dk_22 4 (dk_at dksX2_power_1 19 rfl rfl)
theorem dX2_power_45 : decode cX2_power 45 = .ok (.ldc2_w 269, 3) := dk_20 1 13 (dk_at dksX2_power_1 21 rfl rfl)
theorem dX2_power_48 : decode cX2_power 48 = .ok (.lcmp, 1) := dk_148 (dk_at dksX2_power_2 0 rfl rfl)
theorem dX2_power_49 : decode cX2_power 49 = .ok (.ifCond .le 9, 3) := dk_158 0 9 (dk_at dksX2_power_2 1 rfl rfl)
theorem dX2_power_52 : decode cX2_power 52 = .ok (.ldc2_w 269, 3) := dk_20 1 13 (dk_at dksX2_power_2 4 rfl rfl)
theorem dX2_power_55 : decode cX2_power 55 = .ok (.goto 20, 3) := dk_167 0 20 (dk_at dksX2_power_2 7 rfl rfl)
theorem dX2_power_58 : decode cX2_power 58 = .ok (.lload 4, 2) := dk_22 4 (dk_at dksX2_power_2 10 rfl rfl)
theorem dX2_power_60 : decode cX2_power 60 = .ok (.ldc2_w 271, 3) := dk_20 1 15 (dk_at dksX2_power_2 12 rfl rfl)
theorem dX2_power_63 : decode cX2_power 63 = .ok (.lcmp, 1) := dk_148 (dk_at dksX2_power_2 15 rfl rfl)
theorem dX2_power_64 : decode cX2_power 64 = .ok (.ifCond .ge 9, 3) := dk_156 0 9 (dk_at dksX2_power_2 16 rfl rfl)
theorem dX2_power_67 : decode cX2_power 67 = .ok (.ldc2_w 271, 3) := dk_20 1 15 (dk_at dksX2_power_2 19 rfl rfl)
theorem dX2_power_70 : decode cX2_power 70 = .ok (.goto 5, 3) := dk_167 0 5 (dk_at dksX2_power_3 0 rfl rfl)
theorem dX2_power_73 : decode cX2_power 73 = .ok (.lload 4, 2) := dk_22 4 (dk_at dksX2_power_3 3 rfl rfl)
theorem dX2_power_75 : decode cX2_power 75 = .ok (.lstore 4, 2) := dk_55 4 (dk_at dksX2_power_3 5 rfl rfl)
theorem dX2_power_77 : decode cX2_power 77 = .ok (.lload 8, 2) := dk_22 8 (dk_at dksX2_power_3 7 rfl rfl)
theorem dX2_power_79 : decode cX2_power 79 = .ok (.lconst 1, 1) := dk_10 (dk_at dksX2_power_3 9 rfl rfl)
theorem dX2_power_80 : decode cX2_power 80 = .ok (.ladd, 1) := dk_97 (dk_at dksX2_power_3 10 rfl rfl)
theorem dX2_power_81 : decode cX2_power 81 = .ok (.lstore 8, 2) := dk_55 8 (dk_at dksX2_power_3 11 rfl rfl)
theorem dX2_power_83 : decode cX2_power 83 = .ok (.goto (-54), 3) := dk_167 255 202 (dk_at dksX2_power_3 13 rfl rfl)
theorem dX2_power_86 : decode cX2_power 86 = .ok (.lload 4, 2) := dk_22 4 (dk_at dksX2_power_3 16 rfl rfl)
theorem dX2_power_88 : decode cX2_power 88 = .ok (.lreturn, 1) := dk_173 (dk_at dksX2_power_3 18 rfl rfl)
abbrev cX2_two : ByteArray := prog_19_method_60_code
def yX2_two : MethodName := ⟨RX2, "two", "(IJJ)J"⟩
def dkwX2_two_3 : List UInt8 := [154, 0, 7, 9, 167, 0, 9, 31, 33, 109, 184, 1, 17, 173]
abbrev dktX2_two_3 : List UInt8 := dkwX2_two_3 ++ []
def dkwX2_two_2 : List UInt8 := [31, 33, 97, 184, 1, 17, 173, 31, 33, 101, 184, 1, 17, 173, 31, 33, 105, 184, 1, 17, 173, 33, 9, 148]
abbrev dktX2_two_2 : List UInt8 := dkwX2_two_2 ++ dktX2_two_3
def dkwX2_two_1 : List UInt8 := [170, 0, 0, 0, 0, 0, 48, 0, 0, 0, 5, 0, 0, 0, 7, 0, 0, 0, 27, 0, 0, 0, 34, 0, 0, 0, 41]
abbrev dktX2_two_1 : List UInt8 := dkwX2_two_1 ++ dktX2_two_2
def dkwX2_two_0 : List UInt8 := [26]
abbrev dktX2_two_0 : List UInt8 := dkwX2_two_0 ++ dktX2_two_1
theorem dksX2_two_0 : cX2_two.data.toList.drop 0 = dktX2_two_0 := by decide +kernel
theorem dksX2_two_1 : cX2_two.data.toList.drop 1 = dktX2_two_1 := dk_seg dksX2_two_0 1 rfl rfl
theorem dksX2_two_2 : cX2_two.data.toList.drop 28 = dktX2_two_2 := dk_seg dksX2_two_1 27 rfl rfl
theorem dksX2_two_3 : cX2_two.data.toList.drop 52 = dktX2_two_3 := dk_seg dksX2_two_2 24 rfl rfl
theorem dX2_two_0 : decode cX2_two 0 = .ok (.iload_n 0, 1) := dk_26 (dk_at dksX2_two_0 0 rfl rfl)
theorem dX2_two_1 : decode cX2_two 1 = .ok (.tableswitch 48 5 7 #[27, 34, 41], 27) := by decide +kernel
theorem dX2_two_28 : decode cX2_two 28 = .ok (.lload_n 1, 1) := dk_31 (dk_at dksX2_two_2 0 rfl rfl)
theorem dX2_two_29 : decode cX2_two 29 = .ok (.lload_n 3, 1) := dk_33 (dk_at dksX2_two_2 1 rfl rfl)
theorem dX2_two_30 : decode cX2_two 30 = .ok (.ladd, 1) := dk_97 (dk_at dksX2_two_2 2 rfl rfl)
theorem dX2_two_31 : decode cX2_two 31 = .ok (.invokestatic 273, 3) := dk_184 1 17 (dk_at dksX2_two_2 3 rfl rfl)
theorem dX2_two_34 : decode cX2_two 34 = .ok (.lreturn, 1) := dk_173 (dk_at dksX2_two_2 6 rfl rfl)
theorem dX2_two_35 : decode cX2_two 35 = .ok (.lload_n 1, 1) := dk_31 (dk_at dksX2_two_2 7 rfl rfl)
theorem dX2_two_36 : decode cX2_two 36 = .ok (.lload_n 3, 1) := dk_33 (dk_at dksX2_two_2 8 rfl rfl)
theorem dX2_two_37 : decode cX2_two 37 = .ok (.lsub, 1) := dk_101 (dk_at dksX2_two_2 9 rfl rfl)
theorem dX2_two_38 : decode cX2_two 38 = .ok (.invokestatic 273, 3) := dk_184 1 17 (dk_at dksX2_two_2 10 rfl rfl)
theorem dX2_two_41 : decode cX2_two 41 = .ok (.lreturn, 1) := dk_173 (dk_at dksX2_two_2 13 rfl rfl)
theorem dX2_two_42 : decode cX2_two 42 = .ok (.lload_n 1, 1) := dk_31 (dk_at dksX2_two_2 14 rfl rfl)
theorem dX2_two_43 : decode cX2_two 43 = .ok (.lload_n 3, 1) := dk_33 (dk_at dksX2_two_2 15 rfl rfl)
theorem dX2_two_44 : decode cX2_two 44 = .ok (.lmul, 1) := dk_105 (dk_at dksX2_two_2 16 rfl rfl)
theorem dX2_two_45 : decode cX2_two 45 = .ok (.invokestatic 273, 3) := dk_184 1 17 (dk_at dksX2_two_2 17 rfl rfl)
theorem dX2_two_48 : decode cX2_two 48 = .ok (.lreturn, 1) := dk_173 (dk_at dksX2_two_2 20 rfl rfl)
theorem dX2_two_49 : decode cX2_two 49 = .ok (.lload_n 3, 1) := dk_33 (dk_at dksX2_two_2 21 rfl rfl)
theorem dX2_two_50 : decode cX2_two 50 = .ok (.lconst 0, 1) := dk_9 (dk_at dksX2_two_2 22 rfl rfl)
theorem dX2_two_51 : decode cX2_two 51 = .ok (.lcmp, 1) := dk_148 (dk_at dksX2_two_2 23 rfl rfl)
theorem dX2_two_52 : decode cX2_two 52 = .ok (.ifCond .ne 7, 3) := dk_154 0 7 (dk_at dksX2_two_3 0 rfl rfl)
theorem dX2_two_55 : decode cX2_two 55 = .ok (.lconst 0, 1) := dk_9 (dk_at dksX2_two_3 3 rfl rfl)
theorem dX2_two_56 : decode cX2_two 56 = .ok (.goto 9, 3) := dk_167 0 9 (dk_at dksX2_two_3 4 rfl rfl)
theorem dX2_two_59 : decode cX2_two 59 = .ok (.lload_n 1, 1) := dk_31 (dk_at dksX2_two_3 7 rfl rfl)
theorem dX2_two_60 : decode cX2_two 60 = .ok (.lload_n 3, 1) := dk_33 (dk_at dksX2_two_3 8 rfl rfl)
theorem dX2_two_61 : decode cX2_two 61 = .ok (.ldiv, 1) := dk_109 (dk_at dksX2_two_3 9 rfl rfl)
theorem dX2_two_62 : decode cX2_two 62 = .ok (.invokestatic 273, 3) := dk_184 1 17 (dk_at dksX2_two_3 10 rfl rfl)
theorem dX2_two_65 : decode cX2_two 65 = .ok (.lreturn, 1) := dk_173 (dk_at dksX2_two_3 13 rfl rfl)
abbrev cX2_clip : ByteArray := prog_19_method_59_code
def yX2_clip : MethodName := ⟨RX2, "clip", "(J)J"⟩
def dkwX2_clip_1 : List UInt8 := [20, 1, 15, 167, 0, 4, 30, 173]
abbrev dktX2_clip_1 : List UInt8 := dkwX2_clip_1 ++ []
def dkwX2_clip_0 : List UInt8 := [30, 20, 1, 13, 148, 158, 0, 9, 20, 1, 13, 167, 0, 18, 30, 20, 1, 15, 148, 156, 0, 9]
abbrev dktX2_clip_0 : List UInt8 := dkwX2_clip_0 ++ dktX2_clip_1
theorem dksX2_clip_0 : cX2_clip.data.toList.drop 0 = dktX2_clip_0 := by decide +kernel
theorem dksX2_clip_1 : cX2_clip.data.toList.drop 22 = dktX2_clip_1 := dk_seg dksX2_clip_0 22 rfl rfl
theorem dX2_clip_0 : decode cX2_clip 0 = .ok (.lload_n 0, 1) := dk_30 (dk_at dksX2_clip_0 0 rfl rfl)
theorem dX2_clip_1 : decode cX2_clip 1 = .ok (.ldc2_w 269, 3) := dk_20 1 13 (dk_at dksX2_clip_0 1 rfl rfl)
theorem dX2_clip_4 : decode cX2_clip 4 = .ok (.lcmp, 1) := dk_148 (dk_at dksX2_clip_0 4 rfl rfl)
theorem dX2_clip_5 : decode cX2_clip 5 = .ok (.ifCond .le 9, 3) := dk_158 0 9 (dk_at dksX2_clip_0 5 rfl rfl)
theorem dX2_clip_8 : decode cX2_clip 8 = .ok (.ldc2_w 269, 3) := dk_20 1 13 (dk_at dksX2_clip_0 8 rfl rfl)
theorem dX2_clip_11 : decode cX2_clip 11 = .ok (.goto 18, 3) := dk_167 0 18 (dk_at dksX2_clip_0 11 rfl rfl)
theorem dX2_clip_14 : decode cX2_clip 14 = .ok (.lload_n 0, 1) := dk_30 (dk_at dksX2_clip_0 14 rfl rfl)
theorem dX2_clip_15 : decode cX2_clip 15 = .ok (.ldc2_w 271, 3) := dk_20 1 15 (dk_at dksX2_clip_0 15 rfl rfl)
theorem dX2_clip_18 : decode cX2_clip 18 = .ok (.lcmp, 1) := dk_148 (dk_at dksX2_clip_0 18 rfl rfl)
theorem dX2_clip_19 : decode cX2_clip 19 = .ok (.ifCond .ge 9, 3) := dk_156 0 9 (dk_at dksX2_clip_0 19 rfl rfl)
theorem dX2_clip_22 : decode cX2_clip 22 = .ok (.ldc2_w 271, 3) := dk_20 1 15 (dk_at dksX2_clip_1 0 rfl rfl)
theorem dX2_clip_25 : decode cX2_clip 25 = .ok (.goto 4, 3) := dk_167 0 4 (dk_at dksX2_clip_1 3 rfl rfl)
theorem dX2_clip_28 : decode cX2_clip 28 = .ok (.lload_n 0, 1) := dk_30 (dk_at dksX2_clip_1 6 rfl rfl)
theorem dX2_clip_29 : decode cX2_clip 29 = .ok (.lreturn, 1) := dk_173 (dk_at dksX2_clip_1 7 rfl rfl)
abbrev cX2_isAsked : ByteArray := prog_19_method_61_code
def yX2_isAsked : MethodName := ⟨RX2, "isAsked", "(IJJ)Z"⟩
def dkwX2_isAsked_4 : List UInt8 := [167, 0, 18, 3, 167, 0, 14, 31, 33, 148, 153, 0, 7, 4, 167, 0, 4, 3, 172]
abbrev dktX2_isAsked_4 : List UInt8 := dkwX2_isAsked_4 ++ []
def dkwX2_isAsked_3 : List UInt8 := [155, 0, 7, 4, 167, 0, 38, 3, 167, 0, 34, 26, 16, 14, 160, 0, 17, 31, 33, 148, 154, 0, 7, 4]
abbrev dktX2_isAsked_3 : List UInt8 := dkwX2_isAsked_3 ++ dktX2_isAsked_4
def dkwX2_isAsked_2 : List UInt8 := [33, 148, 158, 0, 7, 4, 167, 0, 58, 3, 167, 0, 54, 26, 16, 13, 160, 0, 17, 31, 33, 148]
abbrev dktX2_isAsked_2 : List UInt8 := dkwX2_isAsked_2 ++ dktX2_isAsked_3
def dkwX2_isAsked_1 : List UInt8 := [160, 0, 17, 31, 33, 148, 157, 0, 7, 4, 167, 0, 78, 3, 167, 0, 74, 26, 16, 12, 160, 0, 17, 31]
abbrev dktX2_isAsked_1 : List UInt8 := dkwX2_isAsked_1 ++ dktX2_isAsked_2
def dkwX2_isAsked_0 : List UInt8 := [26, 16, 10, 160, 0, 17, 31, 33, 148, 156, 0, 7, 4, 167, 0, 98, 3, 167, 0, 94, 26, 16, 11]
abbrev dktX2_isAsked_0 : List UInt8 := dkwX2_isAsked_0 ++ dktX2_isAsked_1
theorem dksX2_isAsked_0 : cX2_isAsked.data.toList.drop 0 = dktX2_isAsked_0 := by decide +kernel
theorem dksX2_isAsked_1 : cX2_isAsked.data.toList.drop 23 = dktX2_isAsked_1 := dk_seg dksX2_isAsked_0 23 rfl rfl
theorem dksX2_isAsked_2 : cX2_isAsked.data.toList.drop 47 = dktX2_isAsked_2 := dk_seg dksX2_isAsked_1 24 rfl rfl
theorem dksX2_isAsked_3 : cX2_isAsked.data.toList.drop 69 = dktX2_isAsked_3 := dk_seg dksX2_isAsked_2 22 rfl rfl
theorem dksX2_isAsked_4 : cX2_isAsked.data.toList.drop 93 = dktX2_isAsked_4 := dk_seg dksX2_isAsked_3 24 rfl rfl
theorem dX2_isAsked_0 : decode cX2_isAsked 0 = .ok (.iload_n 0, 1) := dk_26 (dk_at dksX2_isAsked_0 0 rfl rfl)
theorem dX2_isAsked_1 : decode cX2_isAsked 1 = .ok (.bipush 10, 2) := dk_16 10 (dk_at dksX2_isAsked_0 1 rfl rfl)
theorem dX2_isAsked_3 : decode cX2_isAsked 3 = .ok (.if_icmp .ne 17, 3) := dk_160 0 17 (dk_at dksX2_isAsked_0 3 rfl rfl)
theorem dX2_isAsked_6 : decode cX2_isAsked 6 = .ok (.lload_n 1, 1) := dk_31 (dk_at dksX2_isAsked_0 6 rfl rfl)
theorem dX2_isAsked_7 : decode cX2_isAsked 7 = .ok (.lload_n 3, 1) := dk_33 (dk_at dksX2_isAsked_0 7 rfl rfl)
theorem dX2_isAsked_8 : decode cX2_isAsked 8 = .ok (.lcmp, 1) := dk_148 (dk_at dksX2_isAsked_0 8 rfl rfl)
theorem dX2_isAsked_9 : decode cX2_isAsked 9 = .ok (.ifCond .ge 7, 3) := dk_156 0 7 (dk_at dksX2_isAsked_0 9 rfl rfl)
theorem dX2_isAsked_12 : decode cX2_isAsked 12 = .ok (.iconst 1, 1) := dk_4 (dk_at dksX2_isAsked_0 12 rfl rfl)
theorem dX2_isAsked_13 : decode cX2_isAsked 13 = .ok (.goto 98, 3) := dk_167 0 98 (dk_at dksX2_isAsked_0 13 rfl rfl)
theorem dX2_isAsked_16 : decode cX2_isAsked 16 = .ok (.iconst 0, 1) := dk_3 (dk_at dksX2_isAsked_0 16 rfl rfl)
theorem dX2_isAsked_17 : decode cX2_isAsked 17 = .ok (.goto 94, 3) := dk_167 0 94 (dk_at dksX2_isAsked_0 17 rfl rfl)
theorem dX2_isAsked_20 : decode cX2_isAsked 20 = .ok (.iload_n 0, 1) := dk_26 (dk_at dksX2_isAsked_0 20 rfl rfl)
theorem dX2_isAsked_21 : decode cX2_isAsked 21 = .ok (.bipush 11, 2) := dk_16 11 (dk_at dksX2_isAsked_0 21 rfl rfl)
theorem dX2_isAsked_23 : decode cX2_isAsked 23 = .ok (.if_icmp .ne 17, 3) := dk_160 0 17 (dk_at dksX2_isAsked_1 0 rfl rfl)
theorem dX2_isAsked_26 : decode cX2_isAsked 26 = .ok (.lload_n 1, 1) := dk_31 (dk_at dksX2_isAsked_1 3 rfl rfl)
theorem dX2_isAsked_27 : decode cX2_isAsked 27 = .ok (.lload_n 3, 1) := dk_33 (dk_at dksX2_isAsked_1 4 rfl rfl)
theorem dX2_isAsked_28 : decode cX2_isAsked 28 = .ok (.lcmp, 1) := dk_148 (dk_at dksX2_isAsked_1 5 rfl rfl)
theorem dX2_isAsked_29 : decode cX2_isAsked 29 = .ok (.ifCond .gt 7, 3) := dk_157 0 7 (dk_at dksX2_isAsked_1 6 rfl rfl)
theorem dX2_isAsked_32 : decode cX2_isAsked 32 = .ok (.iconst 1, 1) := dk_4 (dk_at dksX2_isAsked_1 9 rfl rfl)
theorem dX2_isAsked_33 : decode cX2_isAsked 33 = .ok (.goto 78, 3) := dk_167 0 78 (dk_at dksX2_isAsked_1 10 rfl rfl)
theorem dX2_isAsked_36 : decode cX2_isAsked 36 = .ok (.iconst 0, 1) := dk_3 (dk_at dksX2_isAsked_1 13 rfl rfl)
theorem dX2_isAsked_37 : decode cX2_isAsked 37 = .ok (.goto 74, 3) := dk_167 0 74 (dk_at dksX2_isAsked_1 14 rfl rfl)
theorem dX2_isAsked_40 : decode cX2_isAsked 40 = .ok (.iload_n 0, 1) := dk_26 (dk_at dksX2_isAsked_1 17 rfl rfl)
theorem dX2_isAsked_41 : decode cX2_isAsked 41 = .ok (.bipush 12, 2) := dk_16 12 (dk_at dksX2_isAsked_1 18 rfl rfl)
theorem dX2_isAsked_43 : decode cX2_isAsked 43 = .ok (.if_icmp .ne 17, 3) := dk_160 0 17 (dk_at dksX2_isAsked_1 20 rfl rfl)
theorem dX2_isAsked_46 : decode cX2_isAsked 46 = .ok (.lload_n 1, 1) := dk_31 (dk_at dksX2_isAsked_1 23 rfl rfl)
theorem dX2_isAsked_47 : decode cX2_isAsked 47 = .ok (.lload_n 3, 1) := dk_33 (dk_at dksX2_isAsked_2 0 rfl rfl)
theorem dX2_isAsked_48 : decode cX2_isAsked 48 = .ok (.lcmp, 1) := dk_148 (dk_at dksX2_isAsked_2 1 rfl rfl)
theorem dX2_isAsked_49 : decode cX2_isAsked 49 = .ok (.ifCond .le 7, 3) := dk_158 0 7 (dk_at dksX2_isAsked_2 2 rfl rfl)
theorem dX2_isAsked_52 : decode cX2_isAsked 52 = .ok (.iconst 1, 1) := dk_4 (dk_at dksX2_isAsked_2 5 rfl rfl)
theorem dX2_isAsked_53 : decode cX2_isAsked 53 = .ok (.goto 58, 3) := dk_167 0 58 (dk_at dksX2_isAsked_2 6 rfl rfl)
theorem dX2_isAsked_56 : decode cX2_isAsked 56 = .ok (.iconst 0, 1) := dk_3 (dk_at dksX2_isAsked_2 9 rfl rfl)
theorem dX2_isAsked_57 : decode cX2_isAsked 57 = .ok (.goto 54, 3) := dk_167 0 54 (dk_at dksX2_isAsked_2 10 rfl rfl)
theorem dX2_isAsked_60 : decode cX2_isAsked 60 = .ok (.iload_n 0, 1) := dk_26 (dk_at dksX2_isAsked_2 13 rfl rfl)
theorem dX2_isAsked_61 : decode cX2_isAsked 61 = .ok (.bipush 13, 2) := dk_16 13 (dk_at dksX2_isAsked_2 14 rfl rfl)
theorem dX2_isAsked_63 : decode cX2_isAsked 63 = .ok (.if_icmp .ne 17, 3) := dk_160 0 17 (dk_at dksX2_isAsked_2 16 rfl rfl)
theorem dX2_isAsked_66 : decode cX2_isAsked 66 = .ok (.lload_n 1, 1) := dk_31 (dk_at dksX2_isAsked_2 19 rfl rfl)
theorem dX2_isAsked_67 : decode cX2_isAsked 67 = .ok (.lload_n 3, 1) := dk_33 (dk_at dksX2_isAsked_2 20 rfl rfl)
theorem dX2_isAsked_68 : decode cX2_isAsked 68 = .ok (.lcmp, 1) := dk_148 (dk_at dksX2_isAsked_2 21 rfl rfl)
theorem dX2_isAsked_69 : decode cX2_isAsked 69 = .ok (.ifCond .lt 7, 3) := dk_155 0 7 (dk_at dksX2_isAsked_3 0 rfl rfl)
theorem dX2_isAsked_72 : decode cX2_isAsked 72 = .ok (.iconst 1, 1) := dk_4 (dk_at dksX2_isAsked_3 3 rfl rfl)
theorem dX2_isAsked_73 : decode cX2_isAsked 73 = .ok (.goto 38, 3) := dk_167 0 38 (dk_at dksX2_isAsked_3 4 rfl rfl)
theorem dX2_isAsked_76 : decode cX2_isAsked 76 = .ok (.iconst 0, 1) := dk_3 (dk_at dksX2_isAsked_3 7 rfl rfl)
theorem dX2_isAsked_77 : decode cX2_isAsked 77 = .ok (.goto 34, 3) := dk_167 0 34 (dk_at dksX2_isAsked_3 8 rfl rfl)
theorem dX2_isAsked_80 : decode cX2_isAsked 80 = .ok (.iload_n 0, 1) := dk_26 (dk_at dksX2_isAsked_3 11 rfl rfl)
theorem dX2_isAsked_81 : decode cX2_isAsked 81 = .ok (.bipush 14, 2) := dk_16 14 (dk_at dksX2_isAsked_3 12 rfl rfl)
theorem dX2_isAsked_83 : decode cX2_isAsked 83 = .ok (.if_icmp .ne 17, 3) := dk_160 0 17 (dk_at dksX2_isAsked_3 14 rfl rfl)
theorem dX2_isAsked_86 : decode cX2_isAsked 86 = .ok (.lload_n 1, 1) := dk_31 (dk_at dksX2_isAsked_3 17 rfl rfl)
theorem dX2_isAsked_87 : decode cX2_isAsked 87 = .ok (.lload_n 3, 1) := dk_33 (dk_at dksX2_isAsked_3 18 rfl rfl)
theorem dX2_isAsked_88 : decode cX2_isAsked 88 = .ok (.lcmp, 1) := dk_148 (dk_at dksX2_isAsked_3 19 rfl rfl)
theorem dX2_isAsked_89 : decode cX2_isAsked 89 = .ok (.ifCond .ne 7, 3) := dk_154 0 7 (dk_at dksX2_isAsked_3 20 rfl rfl)
theorem dX2_isAsked_92 : decode cX2_isAsked 92 = .ok (.iconst 1, 1) := dk_4 (dk_at dksX2_isAsked_3 23 rfl rfl)
theorem dX2_isAsked_93 : decode cX2_isAsked 93 = .ok (.goto 18, 3) := dk_167 0 18 (dk_at dksX2_isAsked_4 0 rfl rfl)
theorem dX2_isAsked_96 : decode cX2_isAsked 96 = .ok (.iconst 0, 1) := dk_3 (dk_at dksX2_isAsked_4 3 rfl rfl)
theorem dX2_isAsked_97 : decode cX2_isAsked 97 = .ok (.goto 14, 3) := dk_167 0 14 (dk_at dksX2_isAsked_4 4 rfl rfl)
theorem dX2_isAsked_100 : decode cX2_isAsked 100 = .ok (.lload_n 1, 1) := dk_31 (dk_at dksX2_isAsked_4 7 rfl rfl)
theorem dX2_isAsked_101 : decode cX2_isAsked 101 = .ok (.lload_n 3, 1) := dk_33 (dk_at dksX2_isAsked_4 8 rfl rfl)
theorem dX2_isAsked_102 : decode cX2_isAsked 102 = .ok (.lcmp, 1) := dk_148 (dk_at dksX2_isAsked_4 9 rfl rfl)
theorem dX2_isAsked_103 : decode cX2_isAsked 103 = .ok (.ifCond .eq 7, 3) := dk_153 0 7 (dk_at dksX2_isAsked_4 10 rfl rfl)
theorem dX2_isAsked_106 : decode cX2_isAsked 106 = .ok (.iconst 1, 1) := dk_4 (dk_at dksX2_isAsked_4 13 rfl rfl)
theorem dX2_isAsked_107 : decode cX2_isAsked 107 = .ok (.goto 4, 3) := dk_167 0 4 (dk_at dksX2_isAsked_4 14 rfl rfl)
theorem dX2_isAsked_110 : decode cX2_isAsked 110 = .ok (.iconst 0, 1) := dk_3 (dk_at dksX2_isAsked_4 17 rfl rfl)
theorem dX2_isAsked_111 : decode cX2_isAsked 111 = .ok (.ireturn, 1) := dk_172 (dk_at dksX2_isAsked_4 18 rfl rfl)
abbrev cX2_joined : ByteArray := prog_19_method_64_code
def yX2_joined : MethodName := ⟨RX2, "joined", "(IZZ)Z"⟩
def dkwX2_joined_1 : List UInt8 := [154, 0, 7, 28, 153, 0, 7, 4, 167, 0, 4, 3, 172]
abbrev dktX2_joined_1 : List UInt8 := dkwX2_joined_1 ++ []
def dkwX2_joined_0 : List UInt8 := [26, 16, 21, 160, 0, 19, 27, 153, 0, 11, 28, 153, 0, 7, 4, 167, 0, 20, 3, 167, 0, 16, 27]
abbrev dktX2_joined_0 : List UInt8 := dkwX2_joined_0 ++ dktX2_joined_1
theorem dksX2_joined_0 : cX2_joined.data.toList.drop 0 = dktX2_joined_0 := by decide +kernel
theorem dksX2_joined_1 : cX2_joined.data.toList.drop 23 = dktX2_joined_1 := dk_seg dksX2_joined_0 23 rfl rfl
theorem dX2_joined_0 : decode cX2_joined 0 = .ok (.iload_n 0, 1) := dk_26 (dk_at dksX2_joined_0 0 rfl rfl)
theorem dX2_joined_1 : decode cX2_joined 1 = .ok (.bipush 21, 2) := dk_16 21 (dk_at dksX2_joined_0 1 rfl rfl)
theorem dX2_joined_3 : decode cX2_joined 3 = .ok (.if_icmp .ne 19, 3) := dk_160 0 19 (dk_at dksX2_joined_0 3 rfl rfl)
theorem dX2_joined_6 : decode cX2_joined 6 = .ok (.iload_n 1, 1) := dk_27 (dk_at dksX2_joined_0 6 rfl rfl)
theorem dX2_joined_7 : decode cX2_joined 7 = .ok (.ifCond .eq 11, 3) := dk_153 0 11 (dk_at dksX2_joined_0 7 rfl rfl)
theorem dX2_joined_10 : decode cX2_joined 10 = .ok (.iload_n 2, 1) := dk_28 (dk_at dksX2_joined_0 10 rfl rfl)
theorem dX2_joined_11 : decode cX2_joined 11 = .ok (.ifCond .eq 7, 3) := dk_153 0 7 (dk_at dksX2_joined_0 11 rfl rfl)
theorem dX2_joined_14 : decode cX2_joined 14 = .ok (.iconst 1, 1) := dk_4 (dk_at dksX2_joined_0 14 rfl rfl)
theorem dX2_joined_15 : decode cX2_joined 15 = .ok (.goto 20, 3) := dk_167 0 20 (dk_at dksX2_joined_0 15 rfl rfl)
theorem dX2_joined_18 : decode cX2_joined 18 = .ok (.iconst 0, 1) := dk_3 (dk_at dksX2_joined_0 18 rfl rfl)
theorem dX2_joined_19 : decode cX2_joined 19 = .ok (.goto 16, 3) := dk_167 0 16 (dk_at dksX2_joined_0 19 rfl rfl)
theorem dX2_joined_22 : decode cX2_joined 22 = .ok (.iload_n 1, 1) := dk_27 (dk_at dksX2_joined_0 22 rfl rfl)
theorem dX2_joined_23 : decode cX2_joined 23 = .ok (.ifCond .ne 7, 3) := dk_154 0 7 (dk_at dksX2_joined_1 0 rfl rfl)
theorem dX2_joined_26 : decode cX2_joined 26 = .ok (.iload_n 2, 1) := dk_28 (dk_at dksX2_joined_1 3 rfl rfl)
theorem dX2_joined_27 : decode cX2_joined 27 = .ok (.ifCond .eq 7, 3) := dk_153 0 7 (dk_at dksX2_joined_1 4 rfl rfl)
theorem dX2_joined_30 : decode cX2_joined 30 = .ok (.iconst 1, 1) := dk_4 (dk_at dksX2_joined_1 7 rfl rfl)
theorem dX2_joined_31 : decode cX2_joined 31 = .ok (.goto 4, 3) := dk_167 0 4 (dk_at dksX2_joined_1 8 rfl rfl)
theorem dX2_joined_34 : decode cX2_joined 34 = .ok (.iconst 0, 1) := dk_3 (dk_at dksX2_joined_1 11 rfl rfl)
theorem dX2_joined_35 : decode cX2_joined 35 = .ok (.ireturn, 1) := dk_172 (dk_at dksX2_joined_1 12 rfl rfl)
abbrev cX2_held : ByteArray := prog_19_method_4_code
def yX2_held : MethodName := ⟨RX2, "held", "(JII)I"⟩
def dkwX2_held_1 : List UInt8 := [172]
abbrev dktX2_held_1 : List UInt8 := dkwX2_held_1 ++ []
def dkwX2_held_0 : List UInt8 := [30, 28, 133, 148, 156, 0, 7, 28, 167, 0, 16, 30, 29, 133, 148, 158, 0, 7, 29, 167, 0, 5, 30, 136]
abbrev dktX2_held_0 : List UInt8 := dkwX2_held_0 ++ dktX2_held_1
theorem dksX2_held_0 : cX2_held.data.toList.drop 0 = dktX2_held_0 := by decide +kernel
theorem dksX2_held_1 : cX2_held.data.toList.drop 24 = dktX2_held_1 := dk_seg dksX2_held_0 24 rfl rfl
theorem dX2_held_0 : decode cX2_held 0 = .ok (.lload_n 0, 1) := dk_30 (dk_at dksX2_held_0 0 rfl rfl)
theorem dX2_held_1 : decode cX2_held 1 = .ok (.iload_n 2, 1) := dk_28 (dk_at dksX2_held_0 1 rfl rfl)
theorem dX2_held_2 : decode cX2_held 2 = .ok (.i2l, 1) := dk_133 (dk_at dksX2_held_0 2 rfl rfl)
theorem dX2_held_3 : decode cX2_held 3 = .ok (.lcmp, 1) := dk_148 (dk_at dksX2_held_0 3 rfl rfl)
theorem dX2_held_4 : decode cX2_held 4 = .ok (.ifCond .ge 7, 3) := dk_156 0 7 (dk_at dksX2_held_0 4 rfl rfl)
theorem dX2_held_7 : decode cX2_held 7 = .ok (.iload_n 2, 1) := dk_28 (dk_at dksX2_held_0 7 rfl rfl)
theorem dX2_held_8 : decode cX2_held 8 = .ok (.goto 16, 3) := dk_167 0 16 (dk_at dksX2_held_0 8 rfl rfl)
theorem dX2_held_11 : decode cX2_held 11 = .ok (.lload_n 0, 1) := dk_30 (dk_at dksX2_held_0 11 rfl rfl)
theorem dX2_held_12 : decode cX2_held 12 = .ok (.iload_n 3, 1) := dk_29 (dk_at dksX2_held_0 12 rfl rfl)
theorem dX2_held_13 : decode cX2_held 13 = .ok (.i2l, 1) := dk_133 (dk_at dksX2_held_0 13 rfl rfl)
theorem dX2_held_14 : decode cX2_held 14 = .ok (.lcmp, 1) := dk_148 (dk_at dksX2_held_0 14 rfl rfl)
theorem dX2_held_15 : decode cX2_held 15 = .ok (.ifCond .le 7, 3) := dk_158 0 7 (dk_at dksX2_held_0 15 rfl rfl)
theorem dX2_held_18 : decode cX2_held 18 = .ok (.iload_n 3, 1) := dk_29 (dk_at dksX2_held_0 18 rfl rfl)
theorem dX2_held_19 : decode cX2_held 19 = .ok (.goto 5, 3) := dk_167 0 5 (dk_at dksX2_held_0 19 rfl rfl)
theorem dX2_held_22 : decode cX2_held 22 = .ok (.lload_n 0, 1) := dk_30 (dk_at dksX2_held_0 22 rfl rfl)
theorem dX2_held_23 : decode cX2_held 23 = .ok (.l2i, 1) := dk_136 (dk_at dksX2_held_0 23 rfl rfl)
theorem dX2_held_24 : decode cX2_held 24 = .ok (.ireturn, 1) := dk_172 (dk_at dksX2_held_1 0 rfl rfl)
abbrev cX2_razesOf : ByteArray := prog_19_method_68_code
def yX2_razesOf : MethodName := ⟨RX2, "razesOf", "(I)I"⟩
def dkwX2_razesOf_0 : List UInt8 := [42, 27, 182, 1, 60, 42, 42, 180, 0, 7, 5, 46, 3, 8, 16, 99, 182, 1, 63, 172]
abbrev dktX2_razesOf_0 : List UInt8 := dkwX2_razesOf_0 ++ []
theorem dksX2_razesOf_0 : cX2_razesOf.data.toList.drop 0 = dktX2_razesOf_0 := by decide +kernel
theorem dX2_razesOf_0 : decode cX2_razesOf 0 = .ok (.aload_n 0, 1) := dk_42 (dk_at dksX2_razesOf_0 0 rfl rfl)
theorem dX2_razesOf_1 : decode cX2_razesOf 1 = .ok (.iload_n 1, 1) := dk_27 (dk_at dksX2_razesOf_0 1 rfl rfl)
theorem dX2_razesOf_2 : decode cX2_razesOf 2 = .ok (.invokevirtual 316, 3) := dk_182 1 60 (dk_at dksX2_razesOf_0 2 rfl rfl)
theorem dX2_razesOf_5 : decode cX2_razesOf 5 = .ok (.aload_n 0, 1) := dk_42 (dk_at dksX2_razesOf_0 5 rfl rfl)
theorem dX2_razesOf_6 : decode cX2_razesOf 6 = .ok (.aload_n 0, 1) := dk_42 (dk_at dksX2_razesOf_0 6 rfl rfl)
theorem dX2_razesOf_7 : decode cX2_razesOf 7 = .ok (.getfield 7, 3) := dk_180 0 7 (dk_at dksX2_razesOf_0 7 rfl rfl)
theorem dX2_razesOf_10 : decode cX2_razesOf 10 = .ok (.iconst 2, 1) := dk_5 (dk_at dksX2_razesOf_0 10 rfl rfl)
theorem dX2_razesOf_11 : decode cX2_razesOf 11 = .ok (.iaload, 1) := dk_46 (dk_at dksX2_razesOf_0 11 rfl rfl)
theorem dX2_razesOf_12 : decode cX2_razesOf 12 = .ok (.iconst 0, 1) := dk_3 (dk_at dksX2_razesOf_0 12 rfl rfl)
theorem dX2_razesOf_13 : decode cX2_razesOf 13 = .ok (.iconst 5, 1) := dk_8 (dk_at dksX2_razesOf_0 13 rfl rfl)
theorem dX2_razesOf_14 : decode cX2_razesOf 14 = .ok (.bipush 99, 2) := dk_16 99 (dk_at dksX2_razesOf_0 14 rfl rfl)
theorem dX2_razesOf_16 : decode cX2_razesOf 16 = .ok (.invokevirtual 319, 3) := dk_182 1 63 (dk_at dksX2_razesOf_0 16 rfl rfl)
theorem dX2_razesOf_19 : decode cX2_razesOf 19 = .ok (.ireturn, 1) := dk_172 (dk_at dksX2_razesOf_0 19 rfl rfl)
abbrev cX2_ratesOf : ByteArray := prog_19_method_70_code
def yX2_ratesOf : MethodName := ⟨RX2, "ratesOf", "(II)I"⟩
def dkwX2_ratesOf_0 : List UInt8 := [42, 28, 182, 1, 60, 42, 27, 5, 16, 10, 42, 180, 0, 32, 5, 46, 100, 16, 99, 182, 1, 63, 172]
abbrev dktX2_ratesOf_0 : List UInt8 := dkwX2_ratesOf_0 ++ []
theorem dksX2_ratesOf_0 : cX2_ratesOf.data.toList.drop 0 = dktX2_ratesOf_0 := by decide +kernel
theorem dX2_ratesOf_0 : decode cX2_ratesOf 0 = .ok (.aload_n 0, 1) := dk_42 (dk_at dksX2_ratesOf_0 0 rfl rfl)
theorem dX2_ratesOf_1 : decode cX2_ratesOf 1 = .ok (.iload_n 2, 1) := dk_28 (dk_at dksX2_ratesOf_0 1 rfl rfl)
theorem dX2_ratesOf_2 : decode cX2_ratesOf 2 = .ok (.invokevirtual 316, 3) := dk_182 1 60 (dk_at dksX2_ratesOf_0 2 rfl rfl)
theorem dX2_ratesOf_5 : decode cX2_ratesOf 5 = .ok (.aload_n 0, 1) := dk_42 (dk_at dksX2_ratesOf_0 5 rfl rfl)
theorem dX2_ratesOf_6 : decode cX2_ratesOf 6 = .ok (.iload_n 1, 1) := dk_27 (dk_at dksX2_ratesOf_0 6 rfl rfl)
theorem dX2_ratesOf_7 : decode cX2_ratesOf 7 = .ok (.iconst 2, 1) := dk_5 (dk_at dksX2_ratesOf_0 7 rfl rfl)
theorem dX2_ratesOf_8 : decode cX2_ratesOf 8 = .ok (.bipush 10, 2) := dk_16 10 (dk_at dksX2_ratesOf_0 8 rfl rfl)
theorem dX2_ratesOf_10 : decode cX2_ratesOf 10 = .ok (.aload_n 0, 1) := dk_42 (dk_at dksX2_ratesOf_0 10 rfl rfl)
theorem dX2_ratesOf_11 : decode cX2_ratesOf 11 = .ok (.getfield 32, 3) := dk_180 0 32 (dk_at dksX2_ratesOf_0 11 rfl rfl)
theorem dX2_ratesOf_14 : decode cX2_ratesOf 14 = .ok (.iconst 2, 1) := dk_5 (dk_at dksX2_ratesOf_0 14 rfl rfl)
theorem dX2_ratesOf_15 : decode cX2_ratesOf 15 = .ok (.iaload, 1) := dk_46 (dk_at dksX2_ratesOf_0 15 rfl rfl)
theorem dX2_ratesOf_16 : decode cX2_ratesOf 16 = .ok (.isub, 1) := dk_100 (dk_at dksX2_ratesOf_0 16 rfl rfl)
theorem dX2_ratesOf_17 : decode cX2_ratesOf 17 = .ok (.bipush 99, 2) := dk_16 99 (dk_at dksX2_ratesOf_0 17 rfl rfl)
theorem dX2_ratesOf_19 : decode cX2_ratesOf 19 = .ok (.invokevirtual 319, 3) := dk_182 1 63 (dk_at dksX2_ratesOf_0 19 rfl rfl)
theorem dX2_ratesOf_22 : decode cX2_ratesOf 22 = .ok (.ireturn, 1) := dk_172 (dk_at dksX2_ratesOf_0 22 rfl rfl)
abbrev cX2_write : ByteArray := prog_19_method_71_code
def yX2_write : MethodName := ⟨RX2, "write", "(III)V"⟩
def dkwX2_write_5 : List UInt8 := [96, 79, 177]
abbrev dktX2_write_5 : List UInt8 := dkwX2_write_5 ++ []
def dkwX2_write_4 : List UInt8 := [16, 8, 104, 27, 96, 16, 100, 104, 28, 96, 5, 104, 29, 96, 79, 42, 180, 0, 7, 16, 9, 92, 46, 4]
abbrev dktX2_write_4 : List UInt8 := dkwX2_write_4 ++ dktX2_write_5
def dkwX2_write_3 : List UInt8 := [79, 42, 180, 0, 7, 17, 7, 208, 42, 180, 0, 7, 16, 9, 46, 96, 42, 180, 0, 7, 16, 6, 46]
abbrev dktX2_write_3 : List UInt8 := dkwX2_write_3 ++ dktX2_write_4
def dkwX2_write_2 : List UInt8 := [17, 7, 208, 21, 4, 96, 46, 79, 132, 4, 1, 167, 255, 222, 42, 180, 0, 7, 16, 9, 92, 46, 4, 100]
abbrev dktX2_write_2 : List UInt8 := dkwX2_write_2 ++ dktX2_write_3
def dkwX2_write_1 : List UInt8 := [21, 4, 16, 30, 162, 0, 33, 42, 180, 0, 7, 17, 7, 208, 21, 4, 96, 4, 100, 42, 180, 0, 7]
abbrev dktX2_write_1 : List UInt8 := dkwX2_write_1 ++ dktX2_write_2
def dkwX2_write_0 : List UInt8 := [42, 180, 0, 43, 154, 0, 4, 177, 42, 180, 0, 7, 16, 9, 46, 16, 30, 160, 0, 54, 4, 54, 4]
abbrev dktX2_write_0 : List UInt8 := dkwX2_write_0 ++ dktX2_write_1
theorem dksX2_write_0 : cX2_write.data.toList.drop 0 = dktX2_write_0 := by decide +kernel
theorem dksX2_write_1 : cX2_write.data.toList.drop 23 = dktX2_write_1 := dk_seg dksX2_write_0 23 rfl rfl
theorem dksX2_write_2 : cX2_write.data.toList.drop 46 = dktX2_write_2 := dk_seg dksX2_write_1 23 rfl rfl
theorem dksX2_write_3 : cX2_write.data.toList.drop 70 = dktX2_write_3 := dk_seg dksX2_write_2 24 rfl rfl
theorem dksX2_write_4 : cX2_write.data.toList.drop 93 = dktX2_write_4 := dk_seg dksX2_write_3 23 rfl rfl
theorem dksX2_write_5 : cX2_write.data.toList.drop 117 = dktX2_write_5 := dk_seg dksX2_write_4 24 rfl rfl
theorem dX2_write_0 : decode cX2_write 0 = .ok (.aload_n 0, 1) := dk_42 (dk_at dksX2_write_0 0 rfl rfl)
theorem dX2_write_1 : decode cX2_write 1 = .ok (.getfield 43, 3) := dk_180 0 43 (dk_at dksX2_write_0 1 rfl rfl)
theorem dX2_write_4 : decode cX2_write 4 = .ok (.ifCond .ne 4, 3) := dk_154 0 4 (dk_at dksX2_write_0 4 rfl rfl)
theorem dX2_write_7 : decode cX2_write 7 = .ok (.return_, 1) := dk_177 (dk_at dksX2_write_0 7 rfl rfl)
theorem dX2_write_8 : decode cX2_write 8 = .ok (.aload_n 0, 1) := dk_42 (dk_at dksX2_write_0 8 rfl rfl)
theorem dX2_write_9 : decode cX2_write 9 = .ok (.getfield 7, 3) := dk_180 0 7 (dk_at dksX2_write_0 9 rfl rfl)
theorem dX2_write_12 : decode cX2_write 12 = .ok (.bipush 9, 2) := dk_16 9 (dk_at dksX2_write_0 12 rfl rfl)
theorem dX2_write_14 : decode cX2_write 14 = .ok (.iaload, 1) := dk_46 (dk_at dksX2_write_0 14 rfl rfl)
theorem dX2_write_15 : decode cX2_write 15 = .ok (.bipush 30, 2) := dk_16 30 (dk_at dksX2_write_0 15 rfl rfl)
theorem dX2_write_17 : decode cX2_write 17 = .ok (.if_icmp .ne 54, 3) := dk_160 0 54 (dk_at dksX2_write_0 17 rfl rfl)
theorem dX2_write_20 : decode cX2_write 20 = .ok (.iconst 1, 1) := dk_4 (dk_at dksX2_write_0 20 rfl rfl)
theorem dX2_write_21 : decode cX2_write 21 = .ok (.istore 4, 2) := dk_54 4 (dk_at dksX2_write_0 21 rfl rfl)
theorem dX2_write_23 : decode cX2_write 23 = .ok (.iload 4, 2) := dk_21 4 (dk_at dksX2_write_1 0 rfl rfl)
theorem dX2_write_25 : decode cX2_write 25 = .ok (.bipush 30, 2) := dk_16 30 (dk_at dksX2_write_1 2 rfl rfl)
theorem dX2_write_27 : decode cX2_write 27 = .ok (.if_icmp .ge 33, 3) := dk_162 0 33 (dk_at dksX2_write_1 4 rfl rfl)
theorem dX2_write_30 : decode cX2_write 30 = .ok (.aload_n 0, 1) := dk_42 (dk_at dksX2_write_1 7 rfl rfl)
theorem dX2_write_31 : decode cX2_write 31 = .ok (.getfield 7, 3) := dk_180 0 7 (dk_at dksX2_write_1 8 rfl rfl)
theorem dX2_write_34 : decode cX2_write 34 = .ok (.sipush 2000, 3) := dk_17 7 208 (dk_at dksX2_write_1 11 rfl rfl)
theorem dX2_write_37 : decode cX2_write 37 = .ok (.iload 4, 2) := dk_21 4 (dk_at dksX2_write_1 14 rfl rfl)
theorem dX2_write_39 : decode cX2_write 39 = .ok (.iadd, 1) := dk_96 (dk_at dksX2_write_1 16 rfl rfl)
theorem dX2_write_40 : decode cX2_write 40 = .ok (.iconst 1, 1) := dk_4 (dk_at dksX2_write_1 17 rfl rfl)
theorem dX2_write_41 : decode cX2_write 41 = .ok (.isub, 1) := dk_100 (dk_at dksX2_write_1 18 rfl rfl)
theorem dX2_write_42 : decode cX2_write 42 = .ok (.aload_n 0, 1) := dk_42 (dk_at dksX2_write_1 19 rfl rfl)
theorem dX2_write_43 : decode cX2_write 43 = .ok (.getfield 7, 3) := dk_180 0 7 (dk_at dksX2_write_1 20 rfl rfl)
theorem dX2_write_46 : decode cX2_write 46 = .ok (.sipush 2000, 3) := dk_17 7 208 (dk_at dksX2_write_2 0 rfl rfl)
theorem dX2_write_49 : decode cX2_write 49 = .ok (.iload 4, 2) := dk_21 4 (dk_at dksX2_write_2 3 rfl rfl)
theorem dX2_write_51 : decode cX2_write 51 = .ok (.iadd, 1) := dk_96 (dk_at dksX2_write_2 5 rfl rfl)
theorem dX2_write_52 : decode cX2_write 52 = .ok (.iaload, 1) := dk_46 (dk_at dksX2_write_2 6 rfl rfl)
theorem dX2_write_53 : decode cX2_write 53 = .ok (.iastore, 1) := dk_79 (dk_at dksX2_write_2 7 rfl rfl)
theorem dX2_write_54 : decode cX2_write 54 = .ok (.iinc 4 1, 3) := dk_132 4 1 (dk_at dksX2_write_2 8 rfl rfl)
theorem dX2_write_57 : decode cX2_write 57 = .ok (.goto (-34), 3) := dk_167 255 222 (dk_at dksX2_write_2 11 rfl rfl)
theorem dX2_write_60 : decode cX2_write 60 = .ok (.aload_n 0, 1) := dk_42 (dk_at dksX2_write_2 14 rfl rfl)
theorem dX2_write_61 : decode cX2_write 61 = .ok (.getfield 7, 3) := dk_180 0 7 (dk_at dksX2_write_2 15 rfl rfl)
theorem dX2_write_64 : decode cX2_write 64 = .ok (.bipush 9, 2) := dk_16 9 (dk_at dksX2_write_2 18 rfl rfl)
theorem dX2_write_66 : decode cX2_write 66 = .ok (.dup2, 1) := dk_92 (dk_at dksX2_write_2 20 rfl rfl)
theorem dX2_write_67 : decode cX2_write 67 = .ok (.iaload, 1) := dk_46 (dk_at dksX2_write_2 21 rfl rfl)
theorem dX2_write_68 : decode cX2_write 68 = .ok (.iconst 1, 1) := dk_4 (dk_at dksX2_write_2 22 rfl rfl)
theorem dX2_write_69 : decode cX2_write 69 = .ok (.isub, 1) := dk_100 (dk_at dksX2_write_2 23 rfl rfl)
theorem dX2_write_70 : decode cX2_write 70 = .ok (.iastore, 1) := dk_79 (dk_at dksX2_write_3 0 rfl rfl)
theorem dX2_write_71 : decode cX2_write 71 = .ok (.aload_n 0, 1) := dk_42 (dk_at dksX2_write_3 1 rfl rfl)
theorem dX2_write_72 : decode cX2_write 72 = .ok (.getfield 7, 3) := dk_180 0 7 (dk_at dksX2_write_3 2 rfl rfl)
theorem dX2_write_75 : decode cX2_write 75 = .ok (.sipush 2000, 3) := dk_17 7 208 (dk_at dksX2_write_3 5 rfl rfl)
theorem dX2_write_78 : decode cX2_write 78 = .ok (.aload_n 0, 1) := dk_42 (dk_at dksX2_write_3 8 rfl rfl)
theorem dX2_write_79 : decode cX2_write 79 = .ok (.getfield 7, 3) := dk_180 0 7 (dk_at dksX2_write_3 9 rfl rfl)
theorem dX2_write_82 : decode cX2_write 82 = .ok (.bipush 9, 2) := dk_16 9 (dk_at dksX2_write_3 12 rfl rfl)
theorem dX2_write_84 : decode cX2_write 84 = .ok (.iaload, 1) := dk_46 (dk_at dksX2_write_3 14 rfl rfl)
theorem dX2_write_85 : decode cX2_write 85 = .ok (.iadd, 1) := dk_96 (dk_at dksX2_write_3 15 rfl rfl)
theorem dX2_write_86 : decode cX2_write 86 = .ok (.aload_n 0, 1) := dk_42 (dk_at dksX2_write_3 16 rfl rfl)
theorem dX2_write_87 : decode cX2_write 87 = .ok (.getfield 7, 3) := dk_180 0 7 (dk_at dksX2_write_3 17 rfl rfl)
theorem dX2_write_90 : decode cX2_write 90 = .ok (.bipush 6, 2) := dk_16 6 (dk_at dksX2_write_3 20 rfl rfl)
theorem dX2_write_92 : decode cX2_write 92 = .ok (.iaload, 1) := dk_46 (dk_at dksX2_write_3 22 rfl rfl)
theorem dX2_write_93 : decode cX2_write 93 = .ok (.bipush 8, 2) := dk_16 8 (dk_at dksX2_write_4 0 rfl rfl)
theorem dX2_write_95 : decode cX2_write 95 = .ok (.imul, 1) := dk_104 (dk_at dksX2_write_4 2 rfl rfl)
theorem dX2_write_96 : decode cX2_write 96 = .ok (.iload_n 1, 1) := dk_27 (dk_at dksX2_write_4 3 rfl rfl)
theorem dX2_write_97 : decode cX2_write 97 = .ok (.iadd, 1) := dk_96 (dk_at dksX2_write_4 4 rfl rfl)
theorem dX2_write_98 : decode cX2_write 98 = .ok (.bipush 100, 2) := dk_16 100 (dk_at dksX2_write_4 5 rfl rfl)
theorem dX2_write_100 : decode cX2_write 100 = .ok (.imul, 1) := dk_104 (dk_at dksX2_write_4 7 rfl rfl)
theorem dX2_write_101 : decode cX2_write 101 = .ok (.iload_n 2, 1) := dk_28 (dk_at dksX2_write_4 8 rfl rfl)
theorem dX2_write_102 : decode cX2_write 102 = .ok (.iadd, 1) := dk_96 (dk_at dksX2_write_4 9 rfl rfl)
theorem dX2_write_103 : decode cX2_write 103 = .ok (.iconst 2, 1) := dk_5 (dk_at dksX2_write_4 10 rfl rfl)
theorem dX2_write_104 : decode cX2_write 104 = .ok (.imul, 1) := dk_104 (dk_at dksX2_write_4 11 rfl rfl)
theorem dX2_write_105 : decode cX2_write 105 = .ok (.iload_n 3, 1) := dk_29 (dk_at dksX2_write_4 12 rfl rfl)
theorem dX2_write_106 : decode cX2_write 106 = .ok (.iadd, 1) := dk_96 (dk_at dksX2_write_4 13 rfl rfl)
theorem dX2_write_107 : decode cX2_write 107 = .ok (.iastore, 1) := dk_79 (dk_at dksX2_write_4 14 rfl rfl)
theorem dX2_write_108 : decode cX2_write 108 = .ok (.aload_n 0, 1) := dk_42 (dk_at dksX2_write_4 15 rfl rfl)
theorem dX2_write_109 : decode cX2_write 109 = .ok (.getfield 7, 3) := dk_180 0 7 (dk_at dksX2_write_4 16 rfl rfl)
theorem dX2_write_112 : decode cX2_write 112 = .ok (.bipush 9, 2) := dk_16 9 (dk_at dksX2_write_4 19 rfl rfl)
theorem dX2_write_114 : decode cX2_write 114 = .ok (.dup2, 1) := dk_92 (dk_at dksX2_write_4 21 rfl rfl)
theorem dX2_write_115 : decode cX2_write 115 = .ok (.iaload, 1) := dk_46 (dk_at dksX2_write_4 22 rfl rfl)
theorem dX2_write_116 : decode cX2_write 116 = .ok (.iconst 1, 1) := dk_4 (dk_at dksX2_write_4 23 rfl rfl)
theorem dX2_write_117 : decode cX2_write 117 = .ok (.iadd, 1) := dk_96 (dk_at dksX2_write_5 0 rfl rfl)
theorem dX2_write_118 : decode cX2_write 118 = .ok (.iastore, 1) := dk_79 (dk_at dksX2_write_5 1 rfl rfl)
theorem dX2_write_119 : decode cX2_write 119 = .ok (.return_, 1) := dk_177 (dk_at dksX2_write_5 2 rfl rfl)
abbrev cX2_anew : ByteArray := prog_19_method_72_code
def yX2_anew : MethodName := ⟨RX2, "anew", "()V"⟩
def dkwX2_anew_1 : List UInt8 := [20, 1, 71, 113, 136, 79, 177]
abbrev dktX2_anew_1 : List UInt8 := dkwX2_anew_1 ++ []
def dkwX2_anew_0 : List UInt8 := [42, 180, 0, 7, 16, 8, 42, 180, 0, 7, 16, 8, 46, 133, 20, 1, 67, 105, 20, 1, 69, 97]
abbrev dktX2_anew_0 : List UInt8 := dkwX2_anew_0 ++ dktX2_anew_1
theorem dksX2_anew_0 : cX2_anew.data.toList.drop 0 = dktX2_anew_0 := by decide +kernel
theorem dksX2_anew_1 : cX2_anew.data.toList.drop 22 = dktX2_anew_1 := dk_seg dksX2_anew_0 22 rfl rfl
theorem dX2_anew_0 : decode cX2_anew 0 = .ok (.aload_n 0, 1) := dk_42 (dk_at dksX2_anew_0 0 rfl rfl)
theorem dX2_anew_1 : decode cX2_anew 1 = .ok (.getfield 7, 3) := dk_180 0 7 (dk_at dksX2_anew_0 1 rfl rfl)
theorem dX2_anew_4 : decode cX2_anew 4 = .ok (.bipush 8, 2) := dk_16 8 (dk_at dksX2_anew_0 4 rfl rfl)
theorem dX2_anew_6 : decode cX2_anew 6 = .ok (.aload_n 0, 1) := dk_42 (dk_at dksX2_anew_0 6 rfl rfl)
theorem dX2_anew_7 : decode cX2_anew 7 = .ok (.getfield 7, 3) := dk_180 0 7 (dk_at dksX2_anew_0 7 rfl rfl)
theorem dX2_anew_10 : decode cX2_anew 10 = .ok (.bipush 8, 2) := dk_16 8 (dk_at dksX2_anew_0 10 rfl rfl)
theorem dX2_anew_12 : decode cX2_anew 12 = .ok (.iaload, 1) := dk_46 (dk_at dksX2_anew_0 12 rfl rfl)
theorem dX2_anew_13 : decode cX2_anew 13 = .ok (.i2l, 1) := dk_133 (dk_at dksX2_anew_0 13 rfl rfl)
theorem dX2_anew_14 : decode cX2_anew 14 = .ok (.ldc2_w 323, 3) := dk_20 1 67 (dk_at dksX2_anew_0 14 rfl rfl)
theorem dX2_anew_17 : decode cX2_anew 17 = .ok (.lmul, 1) := dk_105 (dk_at dksX2_anew_0 17 rfl rfl)
theorem dX2_anew_18 : decode cX2_anew 18 = .ok (.ldc2_w 325, 3) := dk_20 1 69 (dk_at dksX2_anew_0 18 rfl rfl)
theorem dX2_anew_21 : decode cX2_anew 21 = .ok (.ladd, 1) := dk_97 (dk_at dksX2_anew_0 21 rfl rfl)
theorem dX2_anew_22 : decode cX2_anew 22 = .ok (.ldc2_w 327, 3) := dk_20 1 71 (dk_at dksX2_anew_1 0 rfl rfl)
theorem dX2_anew_25 : decode cX2_anew 25 = .ok (.lrem, 1) := dk_113 (dk_at dksX2_anew_1 3 rfl rfl)
theorem dX2_anew_26 : decode cX2_anew 26 = .ok (.l2i, 1) := dk_136 (dk_at dksX2_anew_1 4 rfl rfl)
theorem dX2_anew_27 : decode cX2_anew 27 = .ok (.iastore, 1) := dk_79 (dk_at dksX2_anew_1 5 rfl rfl)
theorem dX2_anew_28 : decode cX2_anew 28 = .ok (.return_, 1) := dk_177 (dk_at dksX2_anew_1 6 rfl rfl)
abbrev cX2_calm : ByteArray := prog_19_method_79_code
def yX2_calm : MethodName := ⟨RX2, "calm", "(I)Z"⟩
def dkwX2_calm_1 : List UInt8 := [100, 182, 0, 84, 4, 172]
abbrev dktX2_calm_1 : List UInt8 := dkwX2_calm_1 ++ []
def dkwX2_calm_0 : List UInt8 := [42, 27, 182, 1, 94, 154, 0, 5, 3, 172, 42, 182, 1, 88, 42, 27, 4, 42, 27, 4, 182, 0, 92, 4]
abbrev dktX2_calm_0 : List UInt8 := dkwX2_calm_0 ++ dktX2_calm_1
theorem dksX2_calm_0 : cX2_calm.data.toList.drop 0 = dktX2_calm_0 := by decide +kernel
theorem dksX2_calm_1 : cX2_calm.data.toList.drop 24 = dktX2_calm_1 := dk_seg dksX2_calm_0 24 rfl rfl
theorem dX2_calm_0 : decode cX2_calm 0 = .ok (.aload_n 0, 1) := dk_42 (dk_at dksX2_calm_0 0 rfl rfl)
theorem dX2_calm_1 : decode cX2_calm 1 = .ok (.iload_n 1, 1) := dk_27 (dk_at dksX2_calm_0 1 rfl rfl)
theorem dX2_calm_2 : decode cX2_calm 2 = .ok (.invokevirtual 350, 3) := dk_182 1 94 (dk_at dksX2_calm_0 2 rfl rfl)
theorem dX2_calm_5 : decode cX2_calm 5 = .ok (.ifCond .ne 5, 3) := dk_154 0 5 (dk_at dksX2_calm_0 5 rfl rfl)
theorem dX2_calm_8 : decode cX2_calm 8 = .ok (.iconst 0, 1) := dk_3 (dk_at dksX2_calm_0 8 rfl rfl)
theorem dX2_calm_9 : decode cX2_calm 9 = .ok (.ireturn, 1) := dk_172 (dk_at dksX2_calm_0 9 rfl rfl)
theorem dX2_calm_10 : decode cX2_calm 10 = .ok (.aload_n 0, 1) := dk_42 (dk_at dksX2_calm_0 10 rfl rfl)
theorem dX2_calm_11 : decode cX2_calm 11 = .ok (.invokevirtual 344, 3) := dk_182 1 88 (dk_at dksX2_calm_0 11 rfl rfl)
theorem dX2_calm_14 : decode cX2_calm 14 = .ok (.aload_n 0, 1) := dk_42 (dk_at dksX2_calm_0 14 rfl rfl)
theorem dX2_calm_15 : decode cX2_calm 15 = .ok (.iload_n 1, 1) := dk_27 (dk_at dksX2_calm_0 15 rfl rfl)
theorem dX2_calm_16 : decode cX2_calm 16 = .ok (.iconst 1, 1) := dk_4 (dk_at dksX2_calm_0 16 rfl rfl)
theorem dX2_calm_17 : decode cX2_calm 17 = .ok (.aload_n 0, 1) := dk_42 (dk_at dksX2_calm_0 17 rfl rfl)
theorem dX2_calm_18 : decode cX2_calm 18 = .ok (.iload_n 1, 1) := dk_27 (dk_at dksX2_calm_0 18 rfl rfl)
theorem dX2_calm_19 : decode cX2_calm 19 = .ok (.iconst 1, 1) := dk_4 (dk_at dksX2_calm_0 19 rfl rfl)
theorem dX2_calm_20 : decode cX2_calm 20 = .ok (.invokevirtual 92, 3) := dk_182 0 92 (dk_at dksX2_calm_0 20 rfl rfl)
theorem dX2_calm_23 : decode cX2_calm 23 = .ok (.iconst 1, 1) := dk_4 (dk_at dksX2_calm_0 23 rfl rfl)
theorem dX2_calm_24 : decode cX2_calm 24 = .ok (.isub, 1) := dk_100 (dk_at dksX2_calm_1 0 rfl rfl)
theorem dX2_calm_25 : decode cX2_calm 25 = .ok (.invokevirtual 84, 3) := dk_182 0 84 (dk_at dksX2_calm_1 1 rfl rfl)
theorem dX2_calm_28 : decode cX2_calm 28 = .ok (.iconst 1, 1) := dk_4 (dk_at dksX2_calm_1 4 rfl rfl)
theorem dX2_calm_29 : decode cX2_calm 29 = .ok (.ireturn, 1) := dk_172 (dk_at dksX2_calm_1 5 rfl rfl)
abbrev cX2_canCalm : ByteArray := prog_19_method_78_code
def yX2_canCalm : MethodName := ⟨RX2, "canCalm", "(I)Z"⟩
def dkwX2_canCalm_0 : List UInt8 := [42, 27, 182, 1, 57, 153, 0, 16, 42, 27, 4, 182, 0, 92, 158, 0, 7, 4, 167, 0, 4, 3, 172]
abbrev dktX2_canCalm_0 : List UInt8 := dkwX2_canCalm_0 ++ []
theorem dksX2_canCalm_0 : cX2_canCalm.data.toList.drop 0 = dktX2_canCalm_0 := by decide +kernel
theorem dX2_canCalm_0 : decode cX2_canCalm 0 = .ok (.aload_n 0, 1) := dk_42 (dk_at dksX2_canCalm_0 0 rfl rfl)
theorem dX2_canCalm_1 : decode cX2_canCalm 1 = .ok (.iload_n 1, 1) := dk_27 (dk_at dksX2_canCalm_0 1 rfl rfl)
theorem dX2_canCalm_2 : decode cX2_canCalm 2 = .ok (.invokevirtual 313, 3) := dk_182 1 57 (dk_at dksX2_canCalm_0 2 rfl rfl)
theorem dX2_canCalm_5 : decode cX2_canCalm 5 = .ok (.ifCond .eq 16, 3) := dk_153 0 16 (dk_at dksX2_canCalm_0 5 rfl rfl)
theorem dX2_canCalm_8 : decode cX2_canCalm 8 = .ok (.aload_n 0, 1) := dk_42 (dk_at dksX2_canCalm_0 8 rfl rfl)
theorem dX2_canCalm_9 : decode cX2_canCalm 9 = .ok (.iload_n 1, 1) := dk_27 (dk_at dksX2_canCalm_0 9 rfl rfl)
theorem dX2_canCalm_10 : decode cX2_canCalm 10 = .ok (.iconst 1, 1) := dk_4 (dk_at dksX2_canCalm_0 10 rfl rfl)
theorem dX2_canCalm_11 : decode cX2_canCalm 11 = .ok (.invokevirtual 92, 3) := dk_182 0 92 (dk_at dksX2_canCalm_0 11 rfl rfl)
theorem dX2_canCalm_14 : decode cX2_canCalm 14 = .ok (.ifCond .le 7, 3) := dk_158 0 7 (dk_at dksX2_canCalm_0 14 rfl rfl)
theorem dX2_canCalm_17 : decode cX2_canCalm 17 = .ok (.iconst 1, 1) := dk_4 (dk_at dksX2_canCalm_0 17 rfl rfl)
theorem dX2_canCalm_18 : decode cX2_canCalm 18 = .ok (.goto 4, 3) := dk_167 0 4 (dk_at dksX2_canCalm_0 18 rfl rfl)
theorem dX2_canCalm_21 : decode cX2_canCalm 21 = .ok (.iconst 0, 1) := dk_3 (dk_at dksX2_canCalm_0 21 rfl rfl)
theorem dX2_canCalm_22 : decode cX2_canCalm 22 = .ok (.ireturn, 1) := dk_172 (dk_at dksX2_canCalm_0 22 rfl rfl)
abbrev cX2_day : ByteArray := prog_19_method_82_code
def yX2_day : MethodName := ⟨RX2, "day", "(I)I"⟩
def dkwX2_day_1 : List UInt8 := [163, 0, 19, 42, 27, 182, 1, 100, 153, 0, 11, 42, 3, 182, 1, 103, 167, 0, 4, 2, 172]
abbrev dktX2_day_1 : List UInt8 := dkwX2_day_1 ++ []
def dkwX2_day_0 : List UInt8 := [27, 4, 16, 60, 184, 0, 73, 153, 0, 34, 42, 180, 0, 7, 16, 6, 46, 27, 96, 17, 39, 15]
abbrev dktX2_day_0 : List UInt8 := dkwX2_day_0 ++ dktX2_day_1
theorem dksX2_day_0 : cX2_day.data.toList.drop 0 = dktX2_day_0 := by decide +kernel
theorem dksX2_day_1 : cX2_day.data.toList.drop 22 = dktX2_day_1 := dk_seg dksX2_day_0 22 rfl rfl
theorem dX2_day_0 : decode cX2_day 0 = .ok (.iload_n 1, 1) := dk_27 (dk_at dksX2_day_0 0 rfl rfl)
theorem dX2_day_1 : decode cX2_day 1 = .ok (.iconst 1, 1) := dk_4 (dk_at dksX2_day_0 1 rfl rfl)
theorem dX2_day_2 : decode cX2_day 2 = .ok (.bipush 60, 2) := dk_16 60 (dk_at dksX2_day_0 2 rfl rfl)
theorem dX2_day_4 : decode cX2_day 4 = .ok (.invokestatic 73, 3) := dk_184 0 73 (dk_at dksX2_day_0 4 rfl rfl)
theorem dX2_day_7 : decode cX2_day 7 = .ok (.ifCond .eq 34, 3) := dk_153 0 34 (dk_at dksX2_day_0 7 rfl rfl)
theorem dX2_day_10 : decode cX2_day 10 = .ok (.aload_n 0, 1) := dk_42 (dk_at dksX2_day_0 10 rfl rfl)
theorem dX2_day_11 : decode cX2_day 11 = .ok (.getfield 7, 3) := dk_180 0 7 (dk_at dksX2_day_0 11 rfl rfl)
theorem dX2_day_14 : decode cX2_day 14 = .ok (.bipush 6, 2) := dk_16 6 (dk_at dksX2_day_0 14 rfl rfl)
theorem dX2_day_16 : decode cX2_day 16 = .ok (.iaload, 1) := dk_46 (dk_at dksX2_day_0 16 rfl rfl)
theorem dX2_day_17 : decode cX2_day 17 = .ok (.iload_n 1, 1) := dk_27 (dk_at dksX2_day_0 17 rfl rfl)
theorem dX2_day_18 : decode cX2_day 18 = .ok (.iadd, 1) := dk_96 (dk_at dksX2_day_0 18 rfl rfl)
theorem dX2_day_19 : decode cX2_day 19 = .ok (.sipush 9999, 3) := dk_17 39 15 (dk_at dksX2_day_0 19 rfl rfl)
theorem dX2_day_22 : decode cX2_day 22 = .ok (.if_icmp .gt 19, 3) := dk_163 0 19 (dk_at dksX2_day_1 0 rfl rfl)
theorem dX2_day_25 : decode cX2_day 25 = .ok (.aload_n 0, 1) := dk_42 (dk_at dksX2_day_1 3 rfl rfl)
theorem dX2_day_26 : decode cX2_day 26 = .ok (.iload_n 1, 1) := dk_27 (dk_at dksX2_day_1 4 rfl rfl)
theorem dX2_day_27 : decode cX2_day 27 = .ok (.invokevirtual 356, 3) := dk_182 1 100 (dk_at dksX2_day_1 5 rfl rfl)
theorem dX2_day_30 : decode cX2_day 30 = .ok (.ifCond .eq 11, 3) := dk_153 0 11 (dk_at dksX2_day_1 8 rfl rfl)
theorem dX2_day_33 : decode cX2_day 33 = .ok (.aload_n 0, 1) := dk_42 (dk_at dksX2_day_1 11 rfl rfl)
theorem dX2_day_34 : decode cX2_day 34 = .ok (.iconst 0, 1) := dk_3 (dk_at dksX2_day_1 12 rfl rfl)
theorem dX2_day_35 : decode cX2_day 35 = .ok (.invokevirtual 359, 3) := dk_182 1 103 (dk_at dksX2_day_1 13 rfl rfl)
theorem dX2_day_38 : decode cX2_day 38 = .ok (.goto 4, 3) := dk_167 0 4 (dk_at dksX2_day_1 16 rfl rfl)
theorem dX2_day_41 : decode cX2_day 41 = .ok (.iconst (-1), 1) := dk_2 (dk_at dksX2_day_1 19 rfl rfl)
theorem dX2_day_42 : decode cX2_day 42 = .ok (.ireturn, 1) := dk_172 (dk_at dksX2_day_1 20 rfl rfl)
abbrev cX2_arePassed : ByteArray := prog_19_method_80_code
def yX2_arePassed : MethodName := ⟨RX2, "arePassed", "(I)Z"⟩
def dkwX2_arePassed_1 : List UInt8 := [182, 1, 88, 42, 182, 1, 97, 132, 2, 1, 167, 255, 225, 4, 172]
abbrev dktX2_arePassed_1 : List UInt8 := dkwX2_arePassed_1 ++ []
def dkwX2_arePassed_0 : List UInt8 := [3, 61, 28, 27, 162, 0, 32, 42, 180, 0, 7, 16, 6, 46, 17, 39, 15, 160, 0, 5, 3, 172, 42]
abbrev dktX2_arePassed_0 : List UInt8 := dkwX2_arePassed_0 ++ dktX2_arePassed_1
theorem dksX2_arePassed_0 : cX2_arePassed.data.toList.drop 0 = dktX2_arePassed_0 := by decide +kernel
theorem dksX2_arePassed_1 : cX2_arePassed.data.toList.drop 23 = dktX2_arePassed_1 := dk_seg dksX2_arePassed_0 23 rfl rfl
theorem dX2_arePassed_0 : decode cX2_arePassed 0 = .ok (.iconst 0, 1) := dk_3 (dk_at dksX2_arePassed_0 0 rfl rfl)
theorem dX2_arePassed_1 : decode cX2_arePassed 1 = .ok (.istore_n 2, 1) := dk_61 (dk_at dksX2_arePassed_0 1 rfl rfl)
theorem dX2_arePassed_2 : decode cX2_arePassed 2 = .ok (.iload_n 2, 1) := dk_28 (dk_at dksX2_arePassed_0 2 rfl rfl)
theorem dX2_arePassed_3 : decode cX2_arePassed 3 = .ok (.iload_n 1, 1) := dk_27 (dk_at dksX2_arePassed_0 3 rfl rfl)
theorem dX2_arePassed_4 : decode cX2_arePassed 4 = .ok (.if_icmp .ge 32, 3) := dk_162 0 32 (dk_at dksX2_arePassed_0 4 rfl rfl)
theorem dX2_arePassed_7 : decode cX2_arePassed 7 = .ok (.aload_n 0, 1) := dk_42 (dk_at dksX2_arePassed_0 7 rfl rfl)
theorem dX2_arePassed_8 : decode cX2_arePassed 8 = .ok (.getfield 7, 3) := dk_180 0 7 (dk_at dksX2_arePassed_0 8 rfl rfl)
theorem dX2_arePassed_11 : decode cX2_arePassed 11 = .ok (.bipush 6, 2) := dk_16 6 (dk_at dksX2_arePassed_0 11 rfl rfl)
theorem dX2_arePassed_13 : decode cX2_arePassed 13 = .ok (.iaload, 1) := dk_46 (dk_at dksX2_arePassed_0 13 rfl rfl)
theorem dX2_arePassed_14 : decode cX2_arePassed 14 = .ok (.sipush 9999, 3) := dk_17 39 15 (dk_at dksX2_arePassed_0 14 rfl rfl)
theorem dX2_arePassed_17 : decode cX2_arePassed 17 = .ok (.if_icmp .ne 5, 3) := dk_160 0 5 (dk_at dksX2_arePassed_0 17 rfl rfl)
theorem dX2_arePassed_20 : decode cX2_arePassed 20 = .ok (.iconst 0, 1) := dk_3 (dk_at dksX2_arePassed_0 20 rfl rfl)
theorem dX2_arePassed_21 : decode cX2_arePassed 21 = .ok (.ireturn, 1) := dk_172 (dk_at dksX2_arePassed_0 21 rfl rfl)
theorem dX2_arePassed_22 : decode cX2_arePassed 22 = .ok (.aload_n 0, 1) := dk_42 (dk_at dksX2_arePassed_0 22 rfl rfl)
theorem dX2_arePassed_23 : decode cX2_arePassed 23 = .ok (.invokevirtual 344, 3) := dk_182 1 88 (dk_at dksX2_arePassed_1 0 rfl rfl)
theorem dX2_arePassed_26 : decode cX2_arePassed 26 = .ok (.aload_n 0, 1) := dk_42 (dk_at dksX2_arePassed_1 3 rfl rfl)
theorem dX2_arePassed_27 : decode cX2_arePassed 27 = .ok (.invokevirtual 353, 3) := dk_182 1 97 (dk_at dksX2_arePassed_1 4 rfl rfl)
theorem dX2_arePassed_30 : decode cX2_arePassed 30 = .ok (.iinc 2 1, 3) := dk_132 2 1 (dk_at dksX2_arePassed_1 7 rfl rfl)
theorem dX2_arePassed_33 : decode cX2_arePassed 33 = .ok (.goto (-31), 3) := dk_167 255 225 (dk_at dksX2_arePassed_1 10 rfl rfl)
theorem dX2_arePassed_36 : decode cX2_arePassed 36 = .ok (.iconst 1, 1) := dk_4 (dk_at dksX2_arePassed_1 13 rfl rfl)
theorem dX2_arePassed_37 : decode cX2_arePassed 37 = .ok (.ireturn, 1) := dk_172 (dk_at dksX2_arePassed_1 14 rfl rfl)
abbrev cX2_pass : ByteArray := prog_19_method_74_code
def yX2_pass : MethodName := ⟨RX2, "pass", "()V"⟩
def dkwX2_pass_2 : List UInt8 := [96, 79, 177]
abbrev dktX2_pass_2 : List UInt8 := dkwX2_pass_2 ++ []
def dkwX2_pass_1 : List UInt8 := [3, 16, 99, 184, 1, 53, 182, 0, 84, 132, 1, 1, 167, 255, 222, 42, 180, 0, 7, 16, 6, 92, 46, 4]
abbrev dktX2_pass_1 : List UInt8 := dkwX2_pass_1 ++ dktX2_pass_2
def dkwX2_pass_0 : List UInt8 := [3, 60, 27, 42, 180, 0, 7, 3, 46, 162, 0, 30, 42, 27, 3, 42, 27, 3, 182, 0, 92, 4, 96, 133]
abbrev dktX2_pass_0 : List UInt8 := dkwX2_pass_0 ++ dktX2_pass_1
theorem dksX2_pass_0 : cX2_pass.data.toList.drop 0 = dktX2_pass_0 := by decide +kernel
theorem dksX2_pass_1 : cX2_pass.data.toList.drop 24 = dktX2_pass_1 := dk_seg dksX2_pass_0 24 rfl rfl
theorem dksX2_pass_2 : cX2_pass.data.toList.drop 48 = dktX2_pass_2 := dk_seg dksX2_pass_1 24 rfl rfl
theorem dX2_pass_0 : decode cX2_pass 0 = .ok (.iconst 0, 1) := dk_3 (dk_at dksX2_pass_0 0 rfl rfl)
theorem dX2_pass_1 : decode cX2_pass 1 = .ok (.istore_n 1, 1) := dk_60 (dk_at dksX2_pass_0 1 rfl rfl)
theorem dX2_pass_2 : decode cX2_pass 2 = .ok (.iload_n 1, 1) := dk_27 (dk_at dksX2_pass_0 2 rfl rfl)
theorem dX2_pass_3 : decode cX2_pass 3 = .ok (.aload_n 0, 1) := dk_42 (dk_at dksX2_pass_0 3 rfl rfl)
theorem dX2_pass_4 : decode cX2_pass 4 = .ok (.getfield 7, 3) := dk_180 0 7 (dk_at dksX2_pass_0 4 rfl rfl)
theorem dX2_pass_7 : decode cX2_pass 7 = .ok (.iconst 0, 1) := dk_3 (dk_at dksX2_pass_0 7 rfl rfl)
theorem dX2_pass_8 : decode cX2_pass 8 = .ok (.iaload, 1) := dk_46 (dk_at dksX2_pass_0 8 rfl rfl)
theorem dX2_pass_9 : decode cX2_pass 9 = .ok (.if_icmp .ge 30, 3) := dk_162 0 30 (dk_at dksX2_pass_0 9 rfl rfl)
theorem dX2_pass_12 : decode cX2_pass 12 = .ok (.aload_n 0, 1) := dk_42 (dk_at dksX2_pass_0 12 rfl rfl)
theorem dX2_pass_13 : decode cX2_pass 13 = .ok (.iload_n 1, 1) := dk_27 (dk_at dksX2_pass_0 13 rfl rfl)
theorem dX2_pass_14 : decode cX2_pass 14 = .ok (.iconst 0, 1) := dk_3 (dk_at dksX2_pass_0 14 rfl rfl)
theorem dX2_pass_15 : decode cX2_pass 15 = .ok (.aload_n 0, 1) := dk_42 (dk_at dksX2_pass_0 15 rfl rfl)
theorem dX2_pass_16 : decode cX2_pass 16 = .ok (.iload_n 1, 1) := dk_27 (dk_at dksX2_pass_0 16 rfl rfl)
theorem dX2_pass_17 : decode cX2_pass 17 = .ok (.iconst 0, 1) := dk_3 (dk_at dksX2_pass_0 17 rfl rfl)
theorem dX2_pass_18 : decode cX2_pass 18 = .ok (.invokevirtual 92, 3) := dk_182 0 92 (dk_at dksX2_pass_0 18 rfl rfl)
theorem dX2_pass_21 : decode cX2_pass 21 = .ok (.iconst 1, 1) := dk_4 (dk_at dksX2_pass_0 21 rfl rfl)
theorem dX2_pass_22 : decode cX2_pass 22 = .ok (.iadd, 1) := dk_96 (dk_at dksX2_pass_0 22 rfl rfl)
theorem dX2_pass_23 : decode cX2_pass 23 = .ok (.i2l, 1) := dk_133 (dk_at dksX2_pass_0 23 rfl rfl)
theorem dX2_pass_24 : decode cX2_pass 24 = .ok (.iconst 0, 1) := dk_3 (dk_at dksX2_pass_1 0 rfl rfl)
theorem dX2_pass_25 : decode cX2_pass 25 = .ok (.bipush 99, 2) := dk_16 99 (dk_at dksX2_pass_1 1 rfl rfl)
theorem dX2_pass_27 : decode cX2_pass 27 = .ok (.invokestatic 309, 3) := dk_184 1 53 (dk_at dksX2_pass_1 3 rfl rfl)
theorem dX2_pass_30 : decode cX2_pass 30 = .ok (.invokevirtual 84, 3) := dk_182 0 84 (dk_at dksX2_pass_1 6 rfl rfl)
theorem dX2_pass_33 : decode cX2_pass 33 = .ok (.iinc 1 1, 3) := dk_132 1 1 (dk_at dksX2_pass_1 9 rfl rfl)
theorem dX2_pass_36 : decode cX2_pass 36 = .ok (.goto (-34), 3) := dk_167 255 222 (dk_at dksX2_pass_1 12 rfl rfl)
theorem dX2_pass_39 : decode cX2_pass 39 = .ok (.aload_n 0, 1) := dk_42 (dk_at dksX2_pass_1 15 rfl rfl)
theorem dX2_pass_40 : decode cX2_pass 40 = .ok (.getfield 7, 3) := dk_180 0 7 (dk_at dksX2_pass_1 16 rfl rfl)
theorem dX2_pass_43 : decode cX2_pass 43 = .ok (.bipush 6, 2) := dk_16 6 (dk_at dksX2_pass_1 19 rfl rfl)
theorem dX2_pass_45 : decode cX2_pass 45 = .ok (.dup2, 1) := dk_92 (dk_at dksX2_pass_1 21 rfl rfl)
theorem dX2_pass_46 : decode cX2_pass 46 = .ok (.iaload, 1) := dk_46 (dk_at dksX2_pass_1 22 rfl rfl)
theorem dX2_pass_47 : decode cX2_pass 47 = .ok (.iconst 1, 1) := dk_4 (dk_at dksX2_pass_1 23 rfl rfl)
theorem dX2_pass_48 : decode cX2_pass 48 = .ok (.iadd, 1) := dk_96 (dk_at dksX2_pass_2 0 rfl rfl)
theorem dX2_pass_49 : decode cX2_pass 49 = .ok (.iastore, 1) := dk_79 (dk_at dksX2_pass_2 1 rfl rfl)
theorem dX2_pass_50 : decode cX2_pass 50 = .ok (.return_, 1) := dk_177 (dk_at dksX2_pass_2 2 rfl rfl)
abbrev cX2_sumOf : ByteArray := prog_19_method_81_code
def yX2_sumOf : MethodName := ⟨RX2, "sumOf", "(I)I"⟩
def dkwX2_sumOf_1 : List UInt8 := [132, 3, 1, 167, 255, 234, 28, 172]
abbrev dktX2_sumOf_1 : List UInt8 := dkwX2_sumOf_1 ++ []
def dkwX2_sumOf_0 : List UInt8 := [3, 61, 3, 62, 29, 42, 180, 0, 7, 3, 46, 162, 0, 18, 28, 42, 29, 27, 182, 0, 92, 96, 61]
abbrev dktX2_sumOf_0 : List UInt8 := dkwX2_sumOf_0 ++ dktX2_sumOf_1
theorem dksX2_sumOf_0 : cX2_sumOf.data.toList.drop 0 = dktX2_sumOf_0 := by decide +kernel
theorem dksX2_sumOf_1 : cX2_sumOf.data.toList.drop 23 = dktX2_sumOf_1 := dk_seg dksX2_sumOf_0 23 rfl rfl
theorem dX2_sumOf_0 : decode cX2_sumOf 0 = .ok (.iconst 0, 1) := dk_3 (dk_at dksX2_sumOf_0 0 rfl rfl)
theorem dX2_sumOf_1 : decode cX2_sumOf 1 = .ok (.istore_n 2, 1) := dk_61 (dk_at dksX2_sumOf_0 1 rfl rfl)
theorem dX2_sumOf_2 : decode cX2_sumOf 2 = .ok (.iconst 0, 1) := dk_3 (dk_at dksX2_sumOf_0 2 rfl rfl)
theorem dX2_sumOf_3 : decode cX2_sumOf 3 = .ok (.istore_n 3, 1) := dk_62 (dk_at dksX2_sumOf_0 3 rfl rfl)
theorem dX2_sumOf_4 : decode cX2_sumOf 4 = .ok (.iload_n 3, 1) := dk_29 (dk_at dksX2_sumOf_0 4 rfl rfl)
theorem dX2_sumOf_5 : decode cX2_sumOf 5 = .ok (.aload_n 0, 1) := dk_42 (dk_at dksX2_sumOf_0 5 rfl rfl)
theorem dX2_sumOf_6 : decode cX2_sumOf 6 = .ok (.getfield 7, 3) := dk_180 0 7 (dk_at dksX2_sumOf_0 6 rfl rfl)
theorem dX2_sumOf_9 : decode cX2_sumOf 9 = .ok (.iconst 0, 1) := dk_3 (dk_at dksX2_sumOf_0 9 rfl rfl)
theorem dX2_sumOf_10 : decode cX2_sumOf 10 = .ok (.iaload, 1) := dk_46 (dk_at dksX2_sumOf_0 10 rfl rfl)
theorem dX2_sumOf_11 : decode cX2_sumOf 11 = .ok (.if_icmp .ge 18, 3) := dk_162 0 18 (dk_at dksX2_sumOf_0 11 rfl rfl)
theorem dX2_sumOf_14 : decode cX2_sumOf 14 = .ok (.iload_n 2, 1) := dk_28 (dk_at dksX2_sumOf_0 14 rfl rfl)
theorem dX2_sumOf_15 : decode cX2_sumOf 15 = .ok (.aload_n 0, 1) := dk_42 (dk_at dksX2_sumOf_0 15 rfl rfl)
theorem dX2_sumOf_16 : decode cX2_sumOf 16 = .ok (.iload_n 3, 1) := dk_29 (dk_at dksX2_sumOf_0 16 rfl rfl)
theorem dX2_sumOf_17 : decode cX2_sumOf 17 = .ok (.iload_n 1, 1) := dk_27 (dk_at dksX2_sumOf_0 17 rfl rfl)
theorem dX2_sumOf_18 : decode cX2_sumOf 18 = .ok (.invokevirtual 92, 3) := dk_182 0 92 (dk_at dksX2_sumOf_0 18 rfl rfl)
theorem dX2_sumOf_21 : decode cX2_sumOf 21 = .ok (.iadd, 1) := dk_96 (dk_at dksX2_sumOf_0 21 rfl rfl)
theorem dX2_sumOf_22 : decode cX2_sumOf 22 = .ok (.istore_n 2, 1) := dk_61 (dk_at dksX2_sumOf_0 22 rfl rfl)
theorem dX2_sumOf_23 : decode cX2_sumOf 23 = .ok (.iinc 3 1, 3) := dk_132 3 1 (dk_at dksX2_sumOf_1 0 rfl rfl)
theorem dX2_sumOf_26 : decode cX2_sumOf 26 = .ok (.goto (-22), 3) := dk_167 255 234 (dk_at dksX2_sumOf_1 3 rfl rfl)
theorem dX2_sumOf_29 : decode cX2_sumOf 29 = .ok (.iload_n 2, 1) := dk_28 (dk_at dksX2_sumOf_1 6 rfl rfl)
theorem dX2_sumOf_30 : decode cX2_sumOf 30 = .ok (.ireturn, 1) := dk_172 (dk_at dksX2_sumOf_1 7 rfl rfl)
abbrev cX2_played : ByteArray := prog_19_method_84_code
def yX2_played : MethodName := ⟨RX2, "played", "(I)I"⟩
def dkwX2_played_2 : List UInt8 := [182, 1, 118, 154, 0, 5, 28, 172, 132, 2, 1, 167, 255, 219, 2, 172]
abbrev dktX2_played_2 : List UInt8 := dkwX2_played_2 ++ []
def dkwX2_played_1 : List UInt8 := [180, 0, 16, 17, 2, 169, 27, 104, 46, 162, 0, 29, 42, 17, 2, 169, 27, 104, 4, 96, 6, 28, 104, 96]
abbrev dktX2_played_1 : List UInt8 := dkwX2_played_1 ++ dktX2_played_2
def dkwX2_played_0 : List UInt8 := [27, 3, 42, 180, 0, 7, 4, 46, 4, 100, 184, 0, 73, 154, 0, 6, 16, 254, 172, 3, 61, 28, 42]
abbrev dktX2_played_0 : List UInt8 := dkwX2_played_0 ++ dktX2_played_1
theorem dksX2_played_0 : cX2_played.data.toList.drop 0 = dktX2_played_0 := by decide +kernel
theorem dksX2_played_1 : cX2_played.data.toList.drop 23 = dktX2_played_1 := dk_seg dksX2_played_0 23 rfl rfl
theorem dksX2_played_2 : cX2_played.data.toList.drop 47 = dktX2_played_2 := dk_seg dksX2_played_1 24 rfl rfl
theorem dX2_played_0 : decode cX2_played 0 = .ok (.iload_n 1, 1) := dk_27 (dk_at dksX2_played_0 0 rfl rfl)
theorem dX2_played_1 : decode cX2_played 1 = .ok (.iconst 0, 1) := dk_3 (dk_at dksX2_played_0 1 rfl rfl)
theorem dX2_played_2 : decode cX2_played 2 = .ok (.aload_n 0, 1) := dk_42 (dk_at dksX2_played_0 2 rfl rfl)
theorem dX2_played_3 : decode cX2_played 3 = .ok (.getfield 7, 3) := dk_180 0 7 (dk_at dksX2_played_0 3 rfl rfl)
theorem dX2_played_6 : decode cX2_played 6 = .ok (.iconst 1, 1) := dk_4 (dk_at dksX2_played_0 6 rfl rfl)
theorem dX2_played_7 : decode cX2_played 7 = .ok (.iaload, 1) := dk_46 (dk_at dksX2_played_0 7 rfl rfl)
theorem dX2_played_8 : decode cX2_played 8 = .ok (.iconst 1, 1) := dk_4 (dk_at dksX2_played_0 8 rfl rfl)
theorem dX2_played_9 : decode cX2_played 9 = .ok (.isub, 1) := dk_100 (dk_at dksX2_played_0 9 rfl rfl)
theorem dX2_played_10 : decode cX2_played 10 = .ok (.invokestatic 73, 3) := dk_184 0 73 (dk_at dksX2_played_0 10 rfl rfl)
theorem dX2_played_13 : decode cX2_played 13 = .ok (.ifCond .ne 6, 3) := dk_154 0 6 (dk_at dksX2_played_0 13 rfl rfl)
theorem dX2_played_16 : decode cX2_played 16 = .ok (.bipush (-2), 2) := dk_16 254 (dk_at dksX2_played_0 16 rfl rfl)
theorem dX2_played_18 : decode cX2_played 18 = .ok (.ireturn, 1) := dk_172 (dk_at dksX2_played_0 18 rfl rfl)
theorem dX2_played_19 : decode cX2_played 19 = .ok (.iconst 0, 1) := dk_3 (dk_at dksX2_played_0 19 rfl rfl)
theorem dX2_played_20 : decode cX2_played 20 = .ok (.istore_n 2, 1) := dk_61 (dk_at dksX2_played_0 20 rfl rfl)
theorem dX2_played_21 : decode cX2_played 21 = .ok (.iload_n 2, 1) := dk_28 (dk_at dksX2_played_0 21 rfl rfl)
theorem dX2_played_22 : decode cX2_played 22 = .ok (.aload_n 0, 1) := dk_42 (dk_at dksX2_played_0 22 rfl rfl)
theorem dX2_played_23 : decode cX2_played 23 = .ok (.getfield 16, 3) := dk_180 0 16 (dk_at dksX2_played_1 0 rfl rfl)
theorem dX2_played_26 : decode cX2_played 26 = .ok (.sipush 681, 3) := dk_17 2 169 (dk_at dksX2_played_1 3 rfl rfl)
theorem dX2_played_29 : decode cX2_played 29 = .ok (.iload_n 1, 1) := dk_27 (dk_at dksX2_played_1 6 rfl rfl)
theorem dX2_played_30 : decode cX2_played 30 = .ok (.imul, 1) := dk_104 (dk_at dksX2_played_1 7 rfl rfl)
theorem dX2_played_31 : decode cX2_played 31 = .ok (.iaload, 1) := dk_46 (dk_at dksX2_played_1 8 rfl rfl)
theorem dX2_played_32 : decode cX2_played 32 = .ok (.if_icmp .ge 29, 3) := dk_162 0 29 (dk_at dksX2_played_1 9 rfl rfl)
theorem dX2_played_35 : decode cX2_played 35 = .ok (.aload_n 0, 1) := dk_42 (dk_at dksX2_played_1 12 rfl rfl)
theorem dX2_played_36 : decode cX2_played 36 = .ok (.sipush 681, 3) := dk_17 2 169 (dk_at dksX2_played_1 13 rfl rfl)
theorem dX2_played_39 : decode cX2_played 39 = .ok (.iload_n 1, 1) := dk_27 (dk_at dksX2_played_1 16 rfl rfl)
theorem dX2_played_40 : decode cX2_played 40 = .ok (.imul, 1) := dk_104 (dk_at dksX2_played_1 17 rfl rfl)
theorem dX2_played_41 : decode cX2_played 41 = .ok (.iconst 1, 1) := dk_4 (dk_at dksX2_played_1 18 rfl rfl)
theorem dX2_played_42 : decode cX2_played 42 = .ok (.iadd, 1) := dk_96 (dk_at dksX2_played_1 19 rfl rfl)
theorem dX2_played_43 : decode cX2_played 43 = .ok (.iconst 3, 1) := dk_6 (dk_at dksX2_played_1 20 rfl rfl)
theorem dX2_played_44 : decode cX2_played 44 = .ok (.iload_n 2, 1) := dk_28 (dk_at dksX2_played_1 21 rfl rfl)
theorem dX2_played_45 : decode cX2_played 45 = .ok (.imul, 1) := dk_104 (dk_at dksX2_played_1 22 rfl rfl)
theorem dX2_played_46 : decode cX2_played 46 = .ok (.iadd, 1) := dk_96 (dk_at dksX2_played_1 23 rfl rfl)
theorem dX2_played_47 : decode cX2_played 47 = .ok (.invokevirtual 374, 3) := dk_182 1 118 (dk_at dksX2_played_2 0 rfl rfl)
theorem dX2_played_50 : decode cX2_played 50 = .ok (.ifCond .ne 5, 3) := dk_154 0 5 (dk_at dksX2_played_2 3 rfl rfl)
theorem dX2_played_53 : decode cX2_played 53 = .ok (.iload_n 2, 1) := dk_28 (dk_at dksX2_played_2 6 rfl rfl)
theorem dX2_played_54 : decode cX2_played 54 = .ok (.ireturn, 1) := dk_172 (dk_at dksX2_played_2 7 rfl rfl)
theorem dX2_played_55 : decode cX2_played 55 = .ok (.iinc 2 1, 3) := dk_132 2 1 (dk_at dksX2_played_2 8 rfl rfl)
theorem dX2_played_58 : decode cX2_played 58 = .ok (.goto (-37), 3) := dk_167 255 219 (dk_at dksX2_played_2 11 rfl rfl)
theorem dX2_played_61 : decode cX2_played 61 = .ok (.iconst (-1), 1) := dk_2 (dk_at dksX2_played_2 14 rfl rfl)
theorem dX2_played_62 : decode cX2_played 62 = .ok (.ireturn, 1) := dk_172 (dk_at dksX2_played_2 15 rfl rfl)
abbrev cX2_isPlayed : ByteArray := prog_19_method_83_code
def yX2_isPlayed : MethodName := ⟨RX2, "isPlayed", "(I)Z"⟩
def dkwX2_isPlayed_4 : List UInt8 := [4, 172]
abbrev dktX2_isPlayed_4 : List UInt8 := dkwX2_isPlayed_4 ++ []
def dkwX2_isPlayed_3 : List UInt8 := [182, 1, 112, 155, 0, 7, 4, 167, 0, 4, 3, 172, 42, 28, 182, 1, 115, 172, 42, 28, 182, 1, 100, 172]
abbrev dktX2_isPlayed_3 : List UInt8 := dkwX2_isPlayed_3 ++ dktX2_isPlayed_4
def dkwX2_isPlayed_2 : List UInt8 := [42, 28, 29, 182, 1, 106, 155, 0, 7, 4, 167, 0, 4, 3, 172, 42, 28, 29, 182, 1, 109, 172, 42, 28]
abbrev dktX2_isPlayed_2 : List UInt8 := dkwX2_isPlayed_2 ++ dktX2_isPlayed_3
def dkwX2_isPlayed_1 : List UInt8 := [170, 0, 0, 0, 0, 0, 0, 84, 0, 0, 0, 3, 0, 0, 0, 7, 0, 0, 0, 36, 0, 0, 0, 51, 0, 0, 0, 58, 0, 0, 0, 72, 0, 0, 0, 78]
abbrev dktX2_isPlayed_1 : List UInt8 := dkwX2_isPlayed_1 ++ dktX2_isPlayed_2
def dkwX2_isPlayed_0 : List UInt8 := [42, 180, 0, 16, 27, 4, 96, 46, 61, 42, 180, 0, 16, 27, 5, 96, 46, 62, 42, 180, 0, 16, 27, 46]
abbrev dktX2_isPlayed_0 : List UInt8 := dkwX2_isPlayed_0 ++ dktX2_isPlayed_1
theorem dksX2_isPlayed_0 : cX2_isPlayed.data.toList.drop 0 = dktX2_isPlayed_0 := by decide +kernel
theorem dksX2_isPlayed_1 : cX2_isPlayed.data.toList.drop 24 = dktX2_isPlayed_1 := dk_seg dksX2_isPlayed_0 24 rfl rfl
theorem dksX2_isPlayed_2 : cX2_isPlayed.data.toList.drop 60 = dktX2_isPlayed_2 := dk_seg dksX2_isPlayed_1 36 rfl rfl
theorem dksX2_isPlayed_3 : cX2_isPlayed.data.toList.drop 84 = dktX2_isPlayed_3 := dk_seg dksX2_isPlayed_2 24 rfl rfl
theorem dksX2_isPlayed_4 : cX2_isPlayed.data.toList.drop 108 = dktX2_isPlayed_4 := dk_seg dksX2_isPlayed_3 24 rfl rfl
theorem dX2_isPlayed_0 : decode cX2_isPlayed 0 = .ok (.aload_n 0, 1) := dk_42 (dk_at dksX2_isPlayed_0 0 rfl rfl)
theorem dX2_isPlayed_1 : decode cX2_isPlayed 1 = .ok (.getfield 16, 3) := dk_180 0 16 (dk_at dksX2_isPlayed_0 1 rfl rfl)
theorem dX2_isPlayed_4 : decode cX2_isPlayed 4 = .ok (.iload_n 1, 1) := dk_27 (dk_at dksX2_isPlayed_0 4 rfl rfl)
theorem dX2_isPlayed_5 : decode cX2_isPlayed 5 = .ok (.iconst 1, 1) := dk_4 (dk_at dksX2_isPlayed_0 5 rfl rfl)
theorem dX2_isPlayed_6 : decode cX2_isPlayed 6 = .ok (.iadd, 1) := dk_96 (dk_at dksX2_isPlayed_0 6 rfl rfl)
theorem dX2_isPlayed_7 : decode cX2_isPlayed 7 = .ok (.iaload, 1) := dk_46 (dk_at dksX2_isPlayed_0 7 rfl rfl)
theorem dX2_isPlayed_8 : decode cX2_isPlayed 8 = .ok (.istore_n 2, 1) := dk_61 (dk_at dksX2_isPlayed_0 8 rfl rfl)
theorem dX2_isPlayed_9 : decode cX2_isPlayed 9 = .ok (.aload_n 0, 1) := dk_42 (dk_at dksX2_isPlayed_0 9 rfl rfl)
theorem dX2_isPlayed_10 : decode cX2_isPlayed 10 = .ok (.getfield 16, 3) := dk_180 0 16 (dk_at dksX2_isPlayed_0 10 rfl rfl)
theorem dX2_isPlayed_13 : decode cX2_isPlayed 13 = .ok (.iload_n 1, 1) := dk_27 (dk_at dksX2_isPlayed_0 13 rfl rfl)
theorem dX2_isPlayed_14 : decode cX2_isPlayed 14 = .ok (.iconst 2, 1) := dk_5 (dk_at dksX2_isPlayed_0 14 rfl rfl)
theorem dX2_isPlayed_15 : decode cX2_isPlayed 15 = .ok (.iadd, 1) := dk_96 (dk_at dksX2_isPlayed_0 15 rfl rfl)
theorem dX2_isPlayed_16 : decode cX2_isPlayed 16 = .ok (.iaload, 1) := dk_46 (dk_at dksX2_isPlayed_0 16 rfl rfl)
theorem dX2_isPlayed_17 : decode cX2_isPlayed 17 = .ok (.istore_n 3, 1) := dk_62 (dk_at dksX2_isPlayed_0 17 rfl rfl)
theorem dX2_isPlayed_18 : decode cX2_isPlayed 18 = .ok (.aload_n 0, 1) := dk_42 (dk_at dksX2_isPlayed_0 18 rfl rfl)
theorem dX2_isPlayed_19 : decode cX2_isPlayed 19 = .ok (.getfield 16, 3) := dk_180 0 16 (dk_at dksX2_isPlayed_0 19 rfl rfl)
theorem dX2_isPlayed_22 : decode cX2_isPlayed 22 = .ok (.iload_n 1, 1) := dk_27 (dk_at dksX2_isPlayed_0 22 rfl rfl)
theorem dX2_isPlayed_23 : decode cX2_isPlayed 23 = .ok (.iaload, 1) := dk_46 (dk_at dksX2_isPlayed_0 23 rfl rfl)
theorem dX2_isPlayed_24 : decode cX2_isPlayed 24 = .ok (.tableswitch 84 3 7 #[36, 51, 58, 72, 78], 36) := by decide +kernel
theorem dX2_isPlayed_60 : decode cX2_isPlayed 60 = .ok (.aload_n 0, 1) := dk_42 (dk_at dksX2_isPlayed_2 0 rfl rfl)
theorem dX2_isPlayed_61 : decode cX2_isPlayed 61 = .ok (.iload_n 2, 1) := dk_28 (dk_at dksX2_isPlayed_2 1 rfl rfl)
theorem dX2_isPlayed_62 : decode cX2_isPlayed 62 = .ok (.iload_n 3, 1) := dk_29 (dk_at dksX2_isPlayed_2 2 rfl rfl)
theorem dX2_isPlayed_63 : decode cX2_isPlayed 63 = .ok (.invokevirtual 362, 3) := dk_182 1 106 (dk_at dksX2_isPlayed_2 3 rfl rfl)
theorem dX2_isPlayed_66 : decode cX2_isPlayed 66 = .ok (.ifCond .lt 7, 3) := dk_155 0 7 (dk_at dksX2_isPlayed_2 6 rfl rfl)
theorem dX2_isPlayed_69 : decode cX2_isPlayed 69 = .ok (.iconst 1, 1) := dk_4 (dk_at dksX2_isPlayed_2 9 rfl rfl)
theorem dX2_isPlayed_70 : decode cX2_isPlayed 70 = .ok (.goto 4, 3) := dk_167 0 4 (dk_at dksX2_isPlayed_2 10 rfl rfl)
theorem dX2_isPlayed_73 : decode cX2_isPlayed 73 = .ok (.iconst 0, 1) := dk_3 (dk_at dksX2_isPlayed_2 13 rfl rfl)
theorem dX2_isPlayed_74 : decode cX2_isPlayed 74 = .ok (.ireturn, 1) := dk_172 (dk_at dksX2_isPlayed_2 14 rfl rfl)
theorem dX2_isPlayed_75 : decode cX2_isPlayed 75 = .ok (.aload_n 0, 1) := dk_42 (dk_at dksX2_isPlayed_2 15 rfl rfl)
theorem dX2_isPlayed_76 : decode cX2_isPlayed 76 = .ok (.iload_n 2, 1) := dk_28 (dk_at dksX2_isPlayed_2 16 rfl rfl)
theorem dX2_isPlayed_77 : decode cX2_isPlayed 77 = .ok (.iload_n 3, 1) := dk_29 (dk_at dksX2_isPlayed_2 17 rfl rfl)
theorem dX2_isPlayed_78 : decode cX2_isPlayed 78 = .ok (.invokevirtual 365, 3) := dk_182 1 109 (dk_at dksX2_isPlayed_2 18 rfl rfl)
theorem dX2_isPlayed_81 : decode cX2_isPlayed 81 = .ok (.ireturn, 1) := dk_172 (dk_at dksX2_isPlayed_2 21 rfl rfl)
theorem dX2_isPlayed_82 : decode cX2_isPlayed 82 = .ok (.aload_n 0, 1) := dk_42 (dk_at dksX2_isPlayed_2 22 rfl rfl)
theorem dX2_isPlayed_83 : decode cX2_isPlayed 83 = .ok (.iload_n 2, 1) := dk_28 (dk_at dksX2_isPlayed_2 23 rfl rfl)
theorem dX2_isPlayed_84 : decode cX2_isPlayed 84 = .ok (.invokevirtual 368, 3) := dk_182 1 112 (dk_at dksX2_isPlayed_3 0 rfl rfl)
theorem dX2_isPlayed_87 : decode cX2_isPlayed 87 = .ok (.ifCond .lt 7, 3) := dk_155 0 7 (dk_at dksX2_isPlayed_3 3 rfl rfl)
theorem dX2_isPlayed_90 : decode cX2_isPlayed 90 = .ok (.iconst 1, 1) := dk_4 (dk_at dksX2_isPlayed_3 6 rfl rfl)
theorem dX2_isPlayed_91 : decode cX2_isPlayed 91 = .ok (.goto 4, 3) := dk_167 0 4 (dk_at dksX2_isPlayed_3 7 rfl rfl)
theorem dX2_isPlayed_94 : decode cX2_isPlayed 94 = .ok (.iconst 0, 1) := dk_3 (dk_at dksX2_isPlayed_3 10 rfl rfl)
theorem dX2_isPlayed_95 : decode cX2_isPlayed 95 = .ok (.ireturn, 1) := dk_172 (dk_at dksX2_isPlayed_3 11 rfl rfl)
theorem dX2_isPlayed_96 : decode cX2_isPlayed 96 = .ok (.aload_n 0, 1) := dk_42 (dk_at dksX2_isPlayed_3 12 rfl rfl)
theorem dX2_isPlayed_97 : decode cX2_isPlayed 97 = .ok (.iload_n 2, 1) := dk_28 (dk_at dksX2_isPlayed_3 13 rfl rfl)
theorem dX2_isPlayed_98 : decode cX2_isPlayed 98 = .ok (.invokevirtual 371, 3) := dk_182 1 115 (dk_at dksX2_isPlayed_3 14 rfl rfl)
theorem dX2_isPlayed_101 : decode cX2_isPlayed 101 = .ok (.ireturn, 1) := dk_172 (dk_at dksX2_isPlayed_3 17 rfl rfl)
theorem dX2_isPlayed_102 : decode cX2_isPlayed 102 = .ok (.aload_n 0, 1) := dk_42 (dk_at dksX2_isPlayed_3 18 rfl rfl)
theorem dX2_isPlayed_103 : decode cX2_isPlayed 103 = .ok (.iload_n 2, 1) := dk_28 (dk_at dksX2_isPlayed_3 19 rfl rfl)
theorem dX2_isPlayed_104 : decode cX2_isPlayed 104 = .ok (.invokevirtual 356, 3) := dk_182 1 100 (dk_at dksX2_isPlayed_3 20 rfl rfl)
theorem dX2_isPlayed_107 : decode cX2_isPlayed 107 = .ok (.ireturn, 1) := dk_172 (dk_at dksX2_isPlayed_3 23 rfl rfl)
theorem dX2_isPlayed_108 : decode cX2_isPlayed 108 = .ok (.iconst 1, 1) := dk_4 (dk_at dksX2_isPlayed_4 0 rfl rfl)
theorem dX2_isPlayed_109 : decode cX2_isPlayed 109 = .ok (.ireturn, 1) := dk_172 (dk_at dksX2_isPlayed_4 1 rfl rfl)
abbrev cX2_years : ByteArray := prog_19_method_86_code
def yX2_years : MethodName := ⟨RX2, "years", "(II)I"⟩
def dkwX2_years_3 : List UInt8 := [167, 255, 229, 42, 180, 0, 7, 16, 6, 46, 172]
abbrev dktX2_years_3 : List UInt8 := dkwX2_years_3 ++ []
def dkwX2_years_2 : List UInt8 := [42, 180, 0, 7, 16, 8, 46, 54, 4, 42, 182, 1, 85, 42, 21, 4, 182, 1, 121, 132, 3, 1]
abbrev dktX2_years_2 : List UInt8 := dkwX2_years_2 ++ dktX2_years_3
def dkwX2_years_1 : List UInt8 := [182, 1, 88, 42, 180, 0, 7, 16, 8, 27, 5, 104, 17, 0, 223, 96, 79, 3, 62, 29, 28, 162, 0, 28]
abbrev dktX2_years_1 : List UInt8 := dkwX2_years_1 ++ dktX2_years_2
def dkwX2_years_0 : List UInt8 := [27, 3, 17, 39, 15, 184, 0, 73, 153, 0, 13, 28, 4, 16, 40, 184, 0, 73, 154, 0, 5, 2, 172, 42]
abbrev dktX2_years_0 : List UInt8 := dkwX2_years_0 ++ dktX2_years_1
theorem dksX2_years_0 : cX2_years.data.toList.drop 0 = dktX2_years_0 := by decide +kernel
theorem dksX2_years_1 : cX2_years.data.toList.drop 24 = dktX2_years_1 := dk_seg dksX2_years_0 24 rfl rfl
theorem dksX2_years_2 : cX2_years.data.toList.drop 48 = dktX2_years_2 := dk_seg dksX2_years_1 24 rfl rfl
theorem dksX2_years_3 : cX2_years.data.toList.drop 70 = dktX2_years_3 := dk_seg dksX2_years_2 22 rfl rfl
theorem dX2_years_0 : decode cX2_years 0 = .ok (.iload_n 1, 1) := dk_27 (dk_at dksX2_years_0 0 rfl rfl)
theorem dX2_years_1 : decode cX2_years 1 = .ok (.iconst 0, 1) := dk_3 (dk_at dksX2_years_0 1 rfl rfl)
theorem dX2_years_2 : decode cX2_years 2 = .ok (.sipush 9999, 3) := dk_17 39 15 (dk_at dksX2_years_0 2 rfl rfl)
theorem dX2_years_5 : decode cX2_years 5 = .ok (.invokestatic 73, 3) := dk_184 0 73 (dk_at dksX2_years_0 5 rfl rfl)
theorem dX2_years_8 : decode cX2_years 8 = .ok (.ifCond .eq 13, 3) := dk_153 0 13 (dk_at dksX2_years_0 8 rfl rfl)
theorem dX2_years_11 : decode cX2_years 11 = .ok (.iload_n 2, 1) := dk_28 (dk_at dksX2_years_0 11 rfl rfl)
theorem dX2_years_12 : decode cX2_years 12 = .ok (.iconst 1, 1) := dk_4 (dk_at dksX2_years_0 12 rfl rfl)
theorem dX2_years_13 : decode cX2_years 13 = .ok (.bipush 40, 2) := dk_16 40 (dk_at dksX2_years_0 13 rfl rfl)
theorem dX2_years_15 : decode cX2_years 15 = .ok (.invokestatic 73, 3) := dk_184 0 73 (dk_at dksX2_years_0 15 rfl rfl)
theorem dX2_years_18 : decode cX2_years 18 = .ok (.ifCond .ne 5, 3) := dk_154 0 5 (dk_at dksX2_years_0 18 rfl rfl)
theorem dX2_years_21 : decode cX2_years 21 = .ok (.iconst (-1), 1) := dk_2 (dk_at dksX2_years_0 21 rfl rfl)
theorem dX2_years_22 : decode cX2_years 22 = .ok (.ireturn, 1) := dk_172 (dk_at dksX2_years_0 22 rfl rfl)
theorem dX2_years_23 : decode cX2_years 23 = .ok (.aload_n 0, 1) := dk_42 (dk_at dksX2_years_0 23 rfl rfl)
theorem dX2_years_24 : decode cX2_years 24 = .ok (.invokevirtual 344, 3) := dk_182 1 88 (dk_at dksX2_years_1 0 rfl rfl)
theorem dX2_years_27 : decode cX2_years 27 = .ok (.aload_n 0, 1) := dk_42 (dk_at dksX2_years_1 3 rfl rfl)
theorem dX2_years_28 : decode cX2_years 28 = .ok (.getfield 7, 3) := dk_180 0 7 (dk_at dksX2_years_1 4 rfl rfl)
theorem dX2_years_31 : decode cX2_years 31 = .ok (.bipush 8, 2) := dk_16 8 (dk_at dksX2_years_1 7 rfl rfl)
theorem dX2_years_33 : decode cX2_years 33 = .ok (.iload_n 1, 1) := dk_27 (dk_at dksX2_years_1 9 rfl rfl)
theorem dX2_years_34 : decode cX2_years 34 = .ok (.iconst 2, 1) := dk_5 (dk_at dksX2_years_1 10 rfl rfl)
theorem dX2_years_35 : decode cX2_years 35 = .ok (.imul, 1) := dk_104 (dk_at dksX2_years_1 11 rfl rfl)
theorem dX2_years_36 : decode cX2_years 36 = .ok (.sipush 223, 3) := dk_17 0 223 (dk_at dksX2_years_1 12 rfl rfl)
theorem dX2_years_39 : decode cX2_years 39 = .ok (.iadd, 1) := dk_96 (dk_at dksX2_years_1 15 rfl rfl)
theorem dX2_years_40 : decode cX2_years 40 = .ok (.iastore, 1) := dk_79 (dk_at dksX2_years_1 16 rfl rfl)
theorem dX2_years_41 : decode cX2_years 41 = .ok (.iconst 0, 1) := dk_3 (dk_at dksX2_years_1 17 rfl rfl)
theorem dX2_years_42 : decode cX2_years 42 = .ok (.istore_n 3, 1) := dk_62 (dk_at dksX2_years_1 18 rfl rfl)
theorem dX2_years_43 : decode cX2_years 43 = .ok (.iload_n 3, 1) := dk_29 (dk_at dksX2_years_1 19 rfl rfl)
theorem dX2_years_44 : decode cX2_years 44 = .ok (.iload_n 2, 1) := dk_28 (dk_at dksX2_years_1 20 rfl rfl)
theorem dX2_years_45 : decode cX2_years 45 = .ok (.if_icmp .ge 28, 3) := dk_162 0 28 (dk_at dksX2_years_1 21 rfl rfl)
theorem dX2_years_48 : decode cX2_years 48 = .ok (.aload_n 0, 1) := dk_42 (dk_at dksX2_years_2 0 rfl rfl)
theorem dX2_years_49 : decode cX2_years 49 = .ok (.getfield 7, 3) := dk_180 0 7 (dk_at dksX2_years_2 1 rfl rfl)
theorem dX2_years_52 : decode cX2_years 52 = .ok (.bipush 8, 2) := dk_16 8 (dk_at dksX2_years_2 4 rfl rfl)
theorem dX2_years_54 : decode cX2_years 54 = .ok (.iaload, 1) := dk_46 (dk_at dksX2_years_2 6 rfl rfl)
theorem dX2_years_55 : decode cX2_years 55 = .ok (.istore 4, 2) := dk_54 4 (dk_at dksX2_years_2 7 rfl rfl)
theorem dX2_years_57 : decode cX2_years 57 = .ok (.aload_n 0, 1) := dk_42 (dk_at dksX2_years_2 9 rfl rfl)
theorem dX2_years_58 : decode cX2_years 58 = .ok (.invokevirtual 341, 3) := dk_182 1 85 (dk_at dksX2_years_2 10 rfl rfl)
theorem dX2_years_61 : decode cX2_years 61 = .ok (.aload_n 0, 1) := dk_42 (dk_at dksX2_years_2 13 rfl rfl)
theorem dX2_years_62 : decode cX2_years 62 = .ok (.iload 4, 2) := dk_21 4 (dk_at dksX2_years_2 14 rfl rfl)
theorem dX2_years_64 : decode cX2_years 64 = .ok (.invokevirtual 377, 3) := dk_182 1 121 (dk_at dksX2_years_2 16 rfl rfl)
theorem dX2_years_67 : decode cX2_years 67 = .ok (.iinc 3 1, 3) := dk_132 3 1 (dk_at dksX2_years_2 19 rfl rfl)
theorem dX2_years_70 : decode cX2_years 70 = .ok (.goto (-27), 3) := dk_167 255 229 (dk_at dksX2_years_3 0 rfl rfl)
theorem dX2_years_73 : decode cX2_years 73 = .ok (.aload_n 0, 1) := dk_42 (dk_at dksX2_years_3 3 rfl rfl)
theorem dX2_years_74 : decode cX2_years 74 = .ok (.getfield 7, 3) := dk_180 0 7 (dk_at dksX2_years_3 4 rfl rfl)
theorem dX2_years_77 : decode cX2_years 77 = .ok (.bipush 6, 2) := dk_16 6 (dk_at dksX2_years_3 7 rfl rfl)
theorem dX2_years_79 : decode cX2_years 79 = .ok (.iaload, 1) := dk_46 (dk_at dksX2_years_3 9 rfl rfl)
theorem dX2_years_80 : decode cX2_years 80 = .ok (.ireturn, 1) := dk_172 (dk_at dksX2_years_3 10 rfl rfl)
abbrev cX2_happens : ByteArray := prog_19_method_85_code
def yX2_happens : MethodName := ⟨RX2, "happens", "(I)V"⟩
def dkwX2_happens_3 : List UInt8 := [153, 0, 17, 42, 28, 4, 42, 28, 4, 182, 0, 92, 4, 100, 182, 0, 84, 177]
abbrev dktX2_happens_3 : List UInt8 := dkwX2_happens_3 ++ []
def dkwX2_happens_2 : List UInt8 := [162, 0, 12, 42, 28, 182, 1, 91, 87, 167, 0, 31, 27, 7, 112, 154, 0, 25, 42, 28, 182, 1, 94]
abbrev dktX2_happens_2 : List UInt8 := dkwX2_happens_2 ++ dktX2_happens_3
def dkwX2_happens_1 : List UInt8 := [177, 42, 180, 0, 7, 3, 46, 154, 0, 4, 177, 27, 42, 180, 0, 7, 3, 46, 112, 61, 27, 8, 112, 5]
abbrev dktX2_happens_1 : List UInt8 := dkwX2_happens_1 ++ dktX2_happens_2
def dkwX2_happens_0 : List UInt8 := [27, 8, 112, 5, 164, 0, 21, 42, 180, 0, 7, 16, 6, 46, 17, 39, 15, 162, 0, 7, 42, 182, 1, 97]
abbrev dktX2_happens_0 : List UInt8 := dkwX2_happens_0 ++ dktX2_happens_1
theorem dksX2_happens_0 : cX2_happens.data.toList.drop 0 = dktX2_happens_0 := by decide +kernel
theorem dksX2_happens_1 : cX2_happens.data.toList.drop 24 = dktX2_happens_1 := dk_seg dksX2_happens_0 24 rfl rfl
theorem dksX2_happens_2 : cX2_happens.data.toList.drop 48 = dktX2_happens_2 := dk_seg dksX2_happens_1 24 rfl rfl
theorem dksX2_happens_3 : cX2_happens.data.toList.drop 71 = dktX2_happens_3 := dk_seg dksX2_happens_2 23 rfl rfl
theorem dX2_happens_0 : decode cX2_happens 0 = .ok (.iload_n 1, 1) := dk_27 (dk_at dksX2_happens_0 0 rfl rfl)
theorem dX2_happens_1 : decode cX2_happens 1 = .ok (.iconst 5, 1) := dk_8 (dk_at dksX2_happens_0 1 rfl rfl)
theorem dX2_happens_2 : decode cX2_happens 2 = .ok (.irem, 1) := dk_112 (dk_at dksX2_happens_0 2 rfl rfl)
theorem dX2_happens_3 : decode cX2_happens 3 = .ok (.iconst 2, 1) := dk_5 (dk_at dksX2_happens_0 3 rfl rfl)
theorem dX2_happens_4 : decode cX2_happens 4 = .ok (.if_icmp .le 21, 3) := dk_164 0 21 (dk_at dksX2_happens_0 4 rfl rfl)
theorem dX2_happens_7 : decode cX2_happens 7 = .ok (.aload_n 0, 1) := dk_42 (dk_at dksX2_happens_0 7 rfl rfl)
theorem dX2_happens_8 : decode cX2_happens 8 = .ok (.getfield 7, 3) := dk_180 0 7 (dk_at dksX2_happens_0 8 rfl rfl)
theorem dX2_happens_11 : decode cX2_happens 11 = .ok (.bipush 6, 2) := dk_16 6 (dk_at dksX2_happens_0 11 rfl rfl)
theorem dX2_happens_13 : decode cX2_happens 13 = .ok (.iaload, 1) := dk_46 (dk_at dksX2_happens_0 13 rfl rfl)
theorem dX2_happens_14 : decode cX2_happens 14 = .ok (.sipush 9999, 3) := dk_17 39 15 (dk_at dksX2_happens_0 14 rfl rfl)
theorem dX2_happens_17 : decode cX2_happens 17 = .ok (.if_icmp .ge 7, 3) := dk_162 0 7 (dk_at dksX2_happens_0 17 rfl rfl)
theorem dX2_happens_20 : decode cX2_happens 20 = .ok (.aload_n 0, 1) := dk_42 (dk_at dksX2_happens_0 20 rfl rfl)
theorem dX2_happens_21 : decode cX2_happens 21 = .ok (.invokevirtual 353, 3) := dk_182 1 97 (dk_at dksX2_happens_0 21 rfl rfl)
theorem dX2_happens_24 : decode cX2_happens 24 = .ok (.return_, 1) := dk_177 (dk_at dksX2_happens_1 0 rfl rfl)
theorem dX2_happens_25 : decode cX2_happens 25 = .ok (.aload_n 0, 1) := dk_42 (dk_at dksX2_happens_1 1 rfl rfl)
theorem dX2_happens_26 : decode cX2_happens 26 = .ok (.getfield 7, 3) := dk_180 0 7 (dk_at dksX2_happens_1 2 rfl rfl)
theorem dX2_happens_29 : decode cX2_happens 29 = .ok (.iconst 0, 1) := dk_3 (dk_at dksX2_happens_1 5 rfl rfl)
theorem dX2_happens_30 : decode cX2_happens 30 = .ok (.iaload, 1) := dk_46 (dk_at dksX2_happens_1 6 rfl rfl)
theorem dX2_happens_31 : decode cX2_happens 31 = .ok (.ifCond .ne 4, 3) := dk_154 0 4 (dk_at dksX2_happens_1 7 rfl rfl)
theorem dX2_happens_34 : decode cX2_happens 34 = .ok (.return_, 1) := dk_177 (dk_at dksX2_happens_1 10 rfl rfl)
theorem dX2_happens_35 : decode cX2_happens 35 = .ok (.iload_n 1, 1) := dk_27 (dk_at dksX2_happens_1 11 rfl rfl)
theorem dX2_happens_36 : decode cX2_happens 36 = .ok (.aload_n 0, 1) := dk_42 (dk_at dksX2_happens_1 12 rfl rfl)
theorem dX2_happens_37 : decode cX2_happens 37 = .ok (.getfield 7, 3) := dk_180 0 7 (dk_at dksX2_happens_1 13 rfl rfl)
theorem dX2_happens_40 : decode cX2_happens 40 = .ok (.iconst 0, 1) := dk_3 (dk_at dksX2_happens_1 16 rfl rfl)
theorem dX2_happens_41 : decode cX2_happens 41 = .ok (.iaload, 1) := dk_46 (dk_at dksX2_happens_1 17 rfl rfl)
theorem dX2_happens_42 : decode cX2_happens 42 = .ok (.irem, 1) := dk_112 (dk_at dksX2_happens_1 18 rfl rfl)
theorem dX2_happens_43 : decode cX2_happens 43 = .ok (.istore_n 2, 1) := dk_61 (dk_at dksX2_happens_1 19 rfl rfl)
theorem dX2_happens_44 : decode cX2_happens 44 = .ok (.iload_n 1, 1) := dk_27 (dk_at dksX2_happens_1 20 rfl rfl)
theorem dX2_happens_45 : decode cX2_happens 45 = .ok (.iconst 5, 1) := dk_8 (dk_at dksX2_happens_1 21 rfl rfl)
theorem dX2_happens_46 : decode cX2_happens 46 = .ok (.irem, 1) := dk_112 (dk_at dksX2_happens_1 22 rfl rfl)
theorem dX2_happens_47 : decode cX2_happens 47 = .ok (.iconst 2, 1) := dk_5 (dk_at dksX2_happens_1 23 rfl rfl)
theorem dX2_happens_48 : decode cX2_happens 48 = .ok (.if_icmp .ge 12, 3) := dk_162 0 12 (dk_at dksX2_happens_2 0 rfl rfl)
theorem dX2_happens_51 : decode cX2_happens 51 = .ok (.aload_n 0, 1) := dk_42 (dk_at dksX2_happens_2 3 rfl rfl)
theorem dX2_happens_52 : decode cX2_happens 52 = .ok (.iload_n 2, 1) := dk_28 (dk_at dksX2_happens_2 4 rfl rfl)
theorem dX2_happens_53 : decode cX2_happens 53 = .ok (.invokevirtual 347, 3) := dk_182 1 91 (dk_at dksX2_happens_2 5 rfl rfl)
theorem dX2_happens_56 : decode cX2_happens 56 = .ok (.pop, 1) := dk_87 (dk_at dksX2_happens_2 8 rfl rfl)
theorem dX2_happens_57 : decode cX2_happens 57 = .ok (.goto 31, 3) := dk_167 0 31 (dk_at dksX2_happens_2 9 rfl rfl)
theorem dX2_happens_60 : decode cX2_happens 60 = .ok (.iload_n 1, 1) := dk_27 (dk_at dksX2_happens_2 12 rfl rfl)
theorem dX2_happens_61 : decode cX2_happens 61 = .ok (.iconst 4, 1) := dk_7 (dk_at dksX2_happens_2 13 rfl rfl)
theorem dX2_happens_62 : decode cX2_happens 62 = .ok (.irem, 1) := dk_112 (dk_at dksX2_happens_2 14 rfl rfl)
theorem dX2_happens_63 : decode cX2_happens 63 = .ok (.ifCond .ne 25, 3) := dk_154 0 25 (dk_at dksX2_happens_2 15 rfl rfl)
theorem dX2_happens_66 : decode cX2_happens 66 = .ok (.aload_n 0, 1) := dk_42 (dk_at dksX2_happens_2 18 rfl rfl)
theorem dX2_happens_67 : decode cX2_happens 67 = .ok (.iload_n 2, 1) := dk_28 (dk_at dksX2_happens_2 19 rfl rfl)
theorem dX2_happens_68 : decode cX2_happens 68 = .ok (.invokevirtual 350, 3) := dk_182 1 94 (dk_at dksX2_happens_2 20 rfl rfl)
theorem dX2_happens_71 : decode cX2_happens 71 = .ok (.ifCond .eq 17, 3) := dk_153 0 17 (dk_at dksX2_happens_3 0 rfl rfl)
theorem dX2_happens_74 : decode cX2_happens 74 = .ok (.aload_n 0, 1) := dk_42 (dk_at dksX2_happens_3 3 rfl rfl)
theorem dX2_happens_75 : decode cX2_happens 75 = .ok (.iload_n 2, 1) := dk_28 (dk_at dksX2_happens_3 4 rfl rfl)
theorem dX2_happens_76 : decode cX2_happens 76 = .ok (.iconst 1, 1) := dk_4 (dk_at dksX2_happens_3 5 rfl rfl)
theorem dX2_happens_77 : decode cX2_happens 77 = .ok (.aload_n 0, 1) := dk_42 (dk_at dksX2_happens_3 6 rfl rfl)
theorem dX2_happens_78 : decode cX2_happens 78 = .ok (.iload_n 2, 1) := dk_28 (dk_at dksX2_happens_3 7 rfl rfl)
theorem dX2_happens_79 : decode cX2_happens 79 = .ok (.iconst 1, 1) := dk_4 (dk_at dksX2_happens_3 8 rfl rfl)
theorem dX2_happens_80 : decode cX2_happens 80 = .ok (.invokevirtual 92, 3) := dk_182 0 92 (dk_at dksX2_happens_3 9 rfl rfl)
theorem dX2_happens_83 : decode cX2_happens 83 = .ok (.iconst 1, 1) := dk_4 (dk_at dksX2_happens_3 12 rfl rfl)
theorem dX2_happens_84 : decode cX2_happens 84 = .ok (.isub, 1) := dk_100 (dk_at dksX2_happens_3 13 rfl rfl)
theorem dX2_happens_85 : decode cX2_happens 85 = .ok (.invokevirtual 84, 3) := dk_182 0 84 (dk_at dksX2_happens_3 14 rfl rfl)
theorem dX2_happens_88 : decode cX2_happens 88 = .ok (.return_, 1) := dk_177 (dk_at dksX2_happens_3 17 rfl rfl)
abbrev cX2_of : ByteArray := prog_19_method_87_code
def yX2_of : MethodName := ⟨RX2, "of", "(II)I"⟩
def dkwX2_of_3 : List UInt8 := [28, 3, 5, 184, 0, 73, 153, 0, 12, 42, 27, 28, 182, 0, 92, 167, 0, 4, 2, 172]
abbrev dktX2_of_3 : List UInt8 := dkwX2_of_3 ++ []
def dkwX2_of_2 : List UInt8 := [42, 27, 182, 1, 76, 172, 42, 27, 182, 1, 73, 172, 42, 42, 180, 0, 7, 5, 46, 27, 182, 1, 79, 172]
abbrev dktX2_of_2 : List UInt8 := dkwX2_of_2 ++ dktX2_of_3
def dkwX2_of_1 : List UInt8 := [170, 0, 0, 0, 49, 0, 0, 0, 3, 0, 0, 0, 5, 0, 0, 0, 25, 0, 0, 0, 31, 0, 0, 0, 37]
abbrev dktX2_of_1 : List UInt8 := dkwX2_of_1 ++ dktX2_of_2
def dkwX2_of_0 : List UInt8 := [42, 27, 182, 1, 57, 154, 0, 5, 2, 172, 28]
abbrev dktX2_of_0 : List UInt8 := dkwX2_of_0 ++ dktX2_of_1
theorem dksX2_of_0 : cX2_of.data.toList.drop 0 = dktX2_of_0 := by decide +kernel
theorem dksX2_of_1 : cX2_of.data.toList.drop 11 = dktX2_of_1 := dk_seg dksX2_of_0 11 rfl rfl
theorem dksX2_of_2 : cX2_of.data.toList.drop 36 = dktX2_of_2 := dk_seg dksX2_of_1 25 rfl rfl
theorem dksX2_of_3 : cX2_of.data.toList.drop 60 = dktX2_of_3 := dk_seg dksX2_of_2 24 rfl rfl
theorem dX2_of_0 : decode cX2_of 0 = .ok (.aload_n 0, 1) := dk_42 (dk_at dksX2_of_0 0 rfl rfl)
theorem dX2_of_1 : decode cX2_of 1 = .ok (.iload_n 1, 1) := dk_27 (dk_at dksX2_of_0 1 rfl rfl)
theorem dX2_of_2 : decode cX2_of 2 = .ok (.invokevirtual 313, 3) := dk_182 1 57 (dk_at dksX2_of_0 2 rfl rfl)
theorem dX2_of_5 : decode cX2_of 5 = .ok (.ifCond .ne 5, 3) := dk_154 0 5 (dk_at dksX2_of_0 5 rfl rfl)
theorem dX2_of_8 : decode cX2_of 8 = .ok (.iconst (-1), 1) := dk_2 (dk_at dksX2_of_0 8 rfl rfl)
theorem dX2_of_9 : decode cX2_of 9 = .ok (.ireturn, 1) := dk_172 (dk_at dksX2_of_0 9 rfl rfl)
theorem dX2_of_10 : decode cX2_of 10 = .ok (.iload_n 2, 1) := dk_28 (dk_at dksX2_of_0 10 rfl rfl)
theorem dX2_of_11 : decode cX2_of 11 = .ok (.tableswitch 49 3 5 #[25, 31, 37], 25) := by decide +kernel
theorem dX2_of_36 : decode cX2_of 36 = .ok (.aload_n 0, 1) := dk_42 (dk_at dksX2_of_2 0 rfl rfl)
theorem dX2_of_37 : decode cX2_of 37 = .ok (.iload_n 1, 1) := dk_27 (dk_at dksX2_of_2 1 rfl rfl)
theorem dX2_of_38 : decode cX2_of 38 = .ok (.invokevirtual 332, 3) := dk_182 1 76 (dk_at dksX2_of_2 2 rfl rfl)
theorem dX2_of_41 : decode cX2_of 41 = .ok (.ireturn, 1) := dk_172 (dk_at dksX2_of_2 5 rfl rfl)
theorem dX2_of_42 : decode cX2_of 42 = .ok (.aload_n 0, 1) := dk_42 (dk_at dksX2_of_2 6 rfl rfl)
theorem dX2_of_43 : decode cX2_of 43 = .ok (.iload_n 1, 1) := dk_27 (dk_at dksX2_of_2 7 rfl rfl)
theorem dX2_of_44 : decode cX2_of 44 = .ok (.invokevirtual 329, 3) := dk_182 1 73 (dk_at dksX2_of_2 8 rfl rfl)
theorem dX2_of_47 : decode cX2_of 47 = .ok (.ireturn, 1) := dk_172 (dk_at dksX2_of_2 11 rfl rfl)
theorem dX2_of_48 : decode cX2_of 48 = .ok (.aload_n 0, 1) := dk_42 (dk_at dksX2_of_2 12 rfl rfl)
theorem dX2_of_49 : decode cX2_of 49 = .ok (.aload_n 0, 1) := dk_42 (dk_at dksX2_of_2 13 rfl rfl)
theorem dX2_of_50 : decode cX2_of 50 = .ok (.getfield 7, 3) := dk_180 0 7 (dk_at dksX2_of_2 14 rfl rfl)
theorem dX2_of_53 : decode cX2_of 53 = .ok (.iconst 2, 1) := dk_5 (dk_at dksX2_of_2 17 rfl rfl)
theorem dX2_of_54 : decode cX2_of 54 = .ok (.iaload, 1) := dk_46 (dk_at dksX2_of_2 18 rfl rfl)
theorem dX2_of_55 : decode cX2_of 55 = .ok (.iload_n 1, 1) := dk_27 (dk_at dksX2_of_2 19 rfl rfl)
theorem dX2_of_56 : decode cX2_of 56 = .ok (.invokevirtual 335, 3) := dk_182 1 79 (dk_at dksX2_of_2 20 rfl rfl)
theorem dX2_of_59 : decode cX2_of 59 = .ok (.ireturn, 1) := dk_172 (dk_at dksX2_of_2 23 rfl rfl)
theorem dX2_of_60 : decode cX2_of 60 = .ok (.iload_n 2, 1) := dk_28 (dk_at dksX2_of_3 0 rfl rfl)
theorem dX2_of_61 : decode cX2_of 61 = .ok (.iconst 0, 1) := dk_3 (dk_at dksX2_of_3 1 rfl rfl)
theorem dX2_of_62 : decode cX2_of 62 = .ok (.iconst 2, 1) := dk_5 (dk_at dksX2_of_3 2 rfl rfl)
theorem dX2_of_63 : decode cX2_of 63 = .ok (.invokestatic 73, 3) := dk_184 0 73 (dk_at dksX2_of_3 3 rfl rfl)
theorem dX2_of_66 : decode cX2_of 66 = .ok (.ifCond .eq 12, 3) := dk_153 0 12 (dk_at dksX2_of_3 6 rfl rfl)
theorem dX2_of_69 : decode cX2_of 69 = .ok (.aload_n 0, 1) := dk_42 (dk_at dksX2_of_3 9 rfl rfl)
theorem dX2_of_70 : decode cX2_of 70 = .ok (.iload_n 1, 1) := dk_27 (dk_at dksX2_of_3 10 rfl rfl)
theorem dX2_of_71 : decode cX2_of 71 = .ok (.iload_n 2, 1) := dk_28 (dk_at dksX2_of_3 11 rfl rfl)
theorem dX2_of_72 : decode cX2_of 72 = .ok (.invokevirtual 92, 3) := dk_182 0 92 (dk_at dksX2_of_3 12 rfl rfl)
theorem dX2_of_75 : decode cX2_of 75 = .ok (.goto 4, 3) := dk_167 0 4 (dk_at dksX2_of_3 15 rfl rfl)
theorem dX2_of_78 : decode cX2_of 78 = .ok (.iconst (-1), 1) := dk_2 (dk_at dksX2_of_3 18 rfl rfl)
theorem dX2_of_79 : decode cX2_of 79 = .ok (.ireturn, 1) := dk_172 (dk_at dksX2_of_3 19 rfl rfl)
abbrev cX2_told : ByteArray := prog_19_method_88_code
def yX2_told : MethodName := ⟨RX2, "told", "(I)I"⟩
def dkwX2_told_0 : List UInt8 := [27, 184, 0, 96, 153, 0, 11, 42, 27, 182, 0, 77, 167, 0, 4, 2, 172]
abbrev dktX2_told_0 : List UInt8 := dkwX2_told_0 ++ []
theorem dksX2_told_0 : cX2_told.data.toList.drop 0 = dktX2_told_0 := by decide +kernel
theorem dX2_told_0 : decode cX2_told 0 = .ok (.iload_n 1, 1) := dk_27 (dk_at dksX2_told_0 0 rfl rfl)
theorem dX2_told_1 : decode cX2_told 1 = .ok (.invokestatic 96, 3) := dk_184 0 96 (dk_at dksX2_told_0 1 rfl rfl)
theorem dX2_told_4 : decode cX2_told 4 = .ok (.ifCond .eq 11, 3) := dk_153 0 11 (dk_at dksX2_told_0 4 rfl rfl)
theorem dX2_told_7 : decode cX2_told 7 = .ok (.aload_n 0, 1) := dk_42 (dk_at dksX2_told_0 7 rfl rfl)
theorem dX2_told_8 : decode cX2_told 8 = .ok (.iload_n 1, 1) := dk_27 (dk_at dksX2_told_0 8 rfl rfl)
theorem dX2_told_9 : decode cX2_told 9 = .ok (.invokevirtual 77, 3) := dk_182 0 77 (dk_at dksX2_told_0 9 rfl rfl)
theorem dX2_told_12 : decode cX2_told 12 = .ok (.goto 4, 3) := dk_167 0 4 (dk_at dksX2_told_0 12 rfl rfl)
theorem dX2_told_15 : decode cX2_told 15 = .ok (.iconst (-1), 1) := dk_2 (dk_at dksX2_told_0 15 rfl rfl)
theorem dX2_told_16 : decode cX2_told 16 = .ok (.ireturn, 1) := dk_172 (dk_at dksX2_told_0 16 rfl rfl)
abbrev cX2_is : ByteArray := prog_19_method_89_code
def yX2_is : MethodName := ⟨RX2, "is", "(I)I"⟩
def dkwX2_is_0 : List UInt8 := [27, 3, 5, 184, 0, 73, 153, 0, 15, 42, 180, 0, 7, 16, 6, 27, 96, 46, 167, 0, 5, 16, 254, 172]
abbrev dktX2_is_0 : List UInt8 := dkwX2_is_0 ++ []
theorem dksX2_is_0 : cX2_is.data.toList.drop 0 = dktX2_is_0 := by decide +kernel
theorem dX2_is_0 : decode cX2_is 0 = .ok (.iload_n 1, 1) := dk_27 (dk_at dksX2_is_0 0 rfl rfl)
theorem dX2_is_1 : decode cX2_is 1 = .ok (.iconst 0, 1) := dk_3 (dk_at dksX2_is_0 1 rfl rfl)
theorem dX2_is_2 : decode cX2_is 2 = .ok (.iconst 2, 1) := dk_5 (dk_at dksX2_is_0 2 rfl rfl)
theorem dX2_is_3 : decode cX2_is 3 = .ok (.invokestatic 73, 3) := dk_184 0 73 (dk_at dksX2_is_0 3 rfl rfl)
theorem dX2_is_6 : decode cX2_is 6 = .ok (.ifCond .eq 15, 3) := dk_153 0 15 (dk_at dksX2_is_0 6 rfl rfl)
theorem dX2_is_9 : decode cX2_is 9 = .ok (.aload_n 0, 1) := dk_42 (dk_at dksX2_is_0 9 rfl rfl)
theorem dX2_is_10 : decode cX2_is 10 = .ok (.getfield 7, 3) := dk_180 0 7 (dk_at dksX2_is_0 10 rfl rfl)
theorem dX2_is_13 : decode cX2_is 13 = .ok (.bipush 6, 2) := dk_16 6 (dk_at dksX2_is_0 13 rfl rfl)
theorem dX2_is_15 : decode cX2_is 15 = .ok (.iload_n 1, 1) := dk_27 (dk_at dksX2_is_0 15 rfl rfl)
theorem dX2_is_16 : decode cX2_is 16 = .ok (.iadd, 1) := dk_96 (dk_at dksX2_is_0 16 rfl rfl)
theorem dX2_is_17 : decode cX2_is 17 = .ok (.iaload, 1) := dk_46 (dk_at dksX2_is_0 17 rfl rfl)
theorem dX2_is_18 : decode cX2_is 18 = .ok (.goto 5, 3) := dk_167 0 5 (dk_at dksX2_is_0 18 rfl rfl)
theorem dX2_is_21 : decode cX2_is 21 = .ok (.bipush (-2), 2) := dk_16 254 (dk_at dksX2_is_0 21 rfl rfl)
theorem dX2_is_23 : decode cX2_is 23 = .ok (.ireturn, 1) := dk_172 (dk_at dksX2_is_0 23 rfl rfl)
abbrev cX2_book : ByteArray := prog_19_method_91_code
def yX2_book : MethodName := ⟨RX2, "book", "(II)I"⟩
def dkwX2_book_2 : List UInt8 := [16, 254, 172]
abbrev dktX2_book_2 : List UInt8 := dkwX2_book_2 ++ []
def dkwX2_book_1 : List UInt8 := [184, 0, 73, 153, 0, 21, 28, 3, 6, 184, 0, 73, 153, 0, 12, 42, 27, 28, 182, 1, 124, 167, 0, 5]
abbrev dktX2_book_1 : List UInt8 := dkwX2_book_1 ++ dktX2_book_2
def dkwX2_book_0 : List UInt8 := [27, 2, 160, 0, 11, 42, 180, 0, 7, 16, 9, 46, 172, 27, 3, 42, 180, 0, 7, 16, 9, 46, 4, 100]
abbrev dktX2_book_0 : List UInt8 := dkwX2_book_0 ++ dktX2_book_1
theorem dksX2_book_0 : cX2_book.data.toList.drop 0 = dktX2_book_0 := by decide +kernel
theorem dksX2_book_1 : cX2_book.data.toList.drop 24 = dktX2_book_1 := dk_seg dksX2_book_0 24 rfl rfl
theorem dksX2_book_2 : cX2_book.data.toList.drop 48 = dktX2_book_2 := dk_seg dksX2_book_1 24 rfl rfl
theorem dX2_book_0 : decode cX2_book 0 = .ok (.iload_n 1, 1) := dk_27 (dk_at dksX2_book_0 0 rfl rfl)
theorem dX2_book_1 : decode cX2_book 1 = .ok (.iconst (-1), 1) := dk_2 (dk_at dksX2_book_0 1 rfl rfl)
theorem dX2_book_2 : decode cX2_book 2 = .ok (.if_icmp .ne 11, 3) := dk_160 0 11 (dk_at dksX2_book_0 2 rfl rfl)
theorem dX2_book_5 : decode cX2_book 5 = .ok (.aload_n 0, 1) := dk_42 (dk_at dksX2_book_0 5 rfl rfl)
theorem dX2_book_6 : decode cX2_book 6 = .ok (.getfield 7, 3) := dk_180 0 7 (dk_at dksX2_book_0 6 rfl rfl)
theorem dX2_book_9 : decode cX2_book 9 = .ok (.bipush 9, 2) := dk_16 9 (dk_at dksX2_book_0 9 rfl rfl)
theorem dX2_book_11 : decode cX2_book 11 = .ok (.iaload, 1) := dk_46 (dk_at dksX2_book_0 11 rfl rfl)
theorem dX2_book_12 : decode cX2_book 12 = .ok (.ireturn, 1) := dk_172 (dk_at dksX2_book_0 12 rfl rfl)
theorem dX2_book_13 : decode cX2_book 13 = .ok (.iload_n 1, 1) := dk_27 (dk_at dksX2_book_0 13 rfl rfl)
theorem dX2_book_14 : decode cX2_book 14 = .ok (.iconst 0, 1) := dk_3 (dk_at dksX2_book_0 14 rfl rfl)
theorem dX2_book_15 : decode cX2_book 15 = .ok (.aload_n 0, 1) := dk_42 (dk_at dksX2_book_0 15 rfl rfl)
theorem dX2_book_16 : decode cX2_book 16 = .ok (.getfield 7, 3) := dk_180 0 7 (dk_at dksX2_book_0 16 rfl rfl)
theorem dX2_book_19 : decode cX2_book 19 = .ok (.bipush 9, 2) := dk_16 9 (dk_at dksX2_book_0 19 rfl rfl)
theorem dX2_book_21 : decode cX2_book 21 = .ok (.iaload, 1) := dk_46 (dk_at dksX2_book_0 21 rfl rfl)
theorem dX2_book_22 : decode cX2_book 22 = .ok (.iconst 1, 1) := dk_4 (dk_at dksX2_book_0 22 rfl rfl)
theorem dX2_book_23 : decode cX2_book 23 = .ok (.isub, 1) := dk_100 (dk_at dksX2_book_0 23 rfl rfl)
theorem dX2_book_24 : decode cX2_book 24 = .ok (.invokestatic 73, 3) := dk_184 0 73 (dk_at dksX2_book_1 0 rfl rfl)
theorem dX2_book_27 : decode cX2_book 27 = .ok (.ifCond .eq 21, 3) := dk_153 0 21 (dk_at dksX2_book_1 3 rfl rfl)
theorem dX2_book_30 : decode cX2_book 30 = .ok (.iload_n 2, 1) := dk_28 (dk_at dksX2_book_1 6 rfl rfl)
theorem dX2_book_31 : decode cX2_book 31 = .ok (.iconst 0, 1) := dk_3 (dk_at dksX2_book_1 7 rfl rfl)
theorem dX2_book_32 : decode cX2_book 32 = .ok (.iconst 3, 1) := dk_6 (dk_at dksX2_book_1 8 rfl rfl)
theorem dX2_book_33 : decode cX2_book 33 = .ok (.invokestatic 73, 3) := dk_184 0 73 (dk_at dksX2_book_1 9 rfl rfl)
theorem dX2_book_36 : decode cX2_book 36 = .ok (.ifCond .eq 12, 3) := dk_153 0 12 (dk_at dksX2_book_1 12 rfl rfl)
theorem dX2_book_39 : decode cX2_book 39 = .ok (.aload_n 0, 1) := dk_42 (dk_at dksX2_book_1 15 rfl rfl)
theorem dX2_book_40 : decode cX2_book 40 = .ok (.iload_n 1, 1) := dk_27 (dk_at dksX2_book_1 16 rfl rfl)
theorem dX2_book_41 : decode cX2_book 41 = .ok (.iload_n 2, 1) := dk_28 (dk_at dksX2_book_1 17 rfl rfl)
theorem dX2_book_42 : decode cX2_book 42 = .ok (.invokevirtual 380, 3) := dk_182 1 124 (dk_at dksX2_book_1 18 rfl rfl)
theorem dX2_book_45 : decode cX2_book 45 = .ok (.goto 5, 3) := dk_167 0 5 (dk_at dksX2_book_1 21 rfl rfl)
theorem dX2_book_48 : decode cX2_book 48 = .ok (.bipush (-2), 2) := dk_16 254 (dk_at dksX2_book_2 0 rfl rfl)
theorem dX2_book_50 : decode cX2_book 50 = .ok (.ireturn, 1) := dk_172 (dk_at dksX2_book_2 2 rfl rfl)
abbrev cX2_entry : ByteArray := prog_19_method_90_code
def yX2_entry : MethodName := ⟨RX2, "entry", "(II)I"⟩
def dkwX2_entry_2 : List UInt8 := [16, 100, 112, 167, 0, 6, 29, 5, 112, 172]
abbrev dktX2_entry_2 : List UInt8 := dkwX2_entry_2 ++ []
def dkwX2_entry_1 : List UInt8 := [4, 160, 0, 14, 29, 17, 0, 200, 108, 16, 8, 112, 167, 0, 20, 28, 5, 160, 0, 12, 29, 5, 108]
abbrev dktX2_entry_1 : List UInt8 := dkwX2_entry_1 ++ dktX2_entry_2
def dkwX2_entry_0 : List UInt8 := [42, 180, 0, 7, 17, 7, 208, 27, 96, 46, 62, 28, 154, 0, 11, 29, 17, 6, 64, 108, 167, 0, 36, 28]
abbrev dktX2_entry_0 : List UInt8 := dkwX2_entry_0 ++ dktX2_entry_1
theorem dksX2_entry_0 : cX2_entry.data.toList.drop 0 = dktX2_entry_0 := by decide +kernel
theorem dksX2_entry_1 : cX2_entry.data.toList.drop 24 = dktX2_entry_1 := dk_seg dksX2_entry_0 24 rfl rfl
theorem dksX2_entry_2 : cX2_entry.data.toList.drop 47 = dktX2_entry_2 := dk_seg dksX2_entry_1 23 rfl rfl
theorem dX2_entry_0 : decode cX2_entry 0 = .ok (.aload_n 0, 1) := dk_42 (dk_at dksX2_entry_0 0 rfl rfl)
theorem dX2_entry_1 : decode cX2_entry 1 = .ok (.getfield 7, 3) := dk_180 0 7 (dk_at dksX2_entry_0 1 rfl rfl)
theorem dX2_entry_4 : decode cX2_entry 4 = .ok (.sipush 2000, 3) := dk_17 7 208 (dk_at dksX2_entry_0 4 rfl rfl)
theorem dX2_entry_7 : decode cX2_entry 7 = .ok (.iload_n 1, 1) := dk_27 (dk_at dksX2_entry_0 7 rfl rfl)
theorem dX2_entry_8 : decode cX2_entry 8 = .ok (.iadd, 1) := dk_96 (dk_at dksX2_entry_0 8 rfl rfl)
theorem dX2_entry_9 : decode cX2_entry 9 = .ok (.iaload, 1) := dk_46 (dk_at dksX2_entry_0 9 rfl rfl)
theorem dX2_entry_10 : decode cX2_entry 10 = .ok (.istore_n 3, 1) := dk_62 (dk_at dksX2_entry_0 10 rfl rfl)
theorem dX2_entry_11 : decode cX2_entry 11 = .ok (.iload_n 2, 1) := dk_28 (dk_at dksX2_entry_0 11 rfl rfl)
theorem dX2_entry_12 : decode cX2_entry 12 = .ok (.ifCond .ne 11, 3) := dk_154 0 11 (dk_at dksX2_entry_0 12 rfl rfl)
theorem dX2_entry_15 : decode cX2_entry 15 = .ok (.iload_n 3, 1) := dk_29 (dk_at dksX2_entry_0 15 rfl rfl)
theorem dX2_entry_16 : decode cX2_entry 16 = .ok (.sipush 1600, 3) := dk_17 6 64 (dk_at dksX2_entry_0 16 rfl rfl)
theorem dX2_entry_19 : decode cX2_entry 19 = .ok (.idiv, 1) := dk_108 (dk_at dksX2_entry_0 19 rfl rfl)
theorem dX2_entry_20 : decode cX2_entry 20 = .ok (.goto 36, 3) := dk_167 0 36 (dk_at dksX2_entry_0 20 rfl rfl)
theorem dX2_entry_23 : decode cX2_entry 23 = .ok (.iload_n 2, 1) := dk_28 (dk_at dksX2_entry_0 23 rfl rfl)
theorem dX2_entry_24 : decode cX2_entry 24 = .ok (.iconst 1, 1) := dk_4 (dk_at dksX2_entry_1 0 rfl rfl)
theorem dX2_entry_25 : decode cX2_entry 25 = .ok (.if_icmp .ne 14, 3) := dk_160 0 14 (dk_at dksX2_entry_1 1 rfl rfl)
theorem dX2_entry_28 : decode cX2_entry 28 = .ok (.iload_n 3, 1) := dk_29 (dk_at dksX2_entry_1 4 rfl rfl)
theorem dX2_entry_29 : decode cX2_entry 29 = .ok (.sipush 200, 3) := dk_17 0 200 (dk_at dksX2_entry_1 5 rfl rfl)
theorem dX2_entry_32 : decode cX2_entry 32 = .ok (.idiv, 1) := dk_108 (dk_at dksX2_entry_1 8 rfl rfl)
theorem dX2_entry_33 : decode cX2_entry 33 = .ok (.bipush 8, 2) := dk_16 8 (dk_at dksX2_entry_1 9 rfl rfl)
theorem dX2_entry_35 : decode cX2_entry 35 = .ok (.irem, 1) := dk_112 (dk_at dksX2_entry_1 11 rfl rfl)
theorem dX2_entry_36 : decode cX2_entry 36 = .ok (.goto 20, 3) := dk_167 0 20 (dk_at dksX2_entry_1 12 rfl rfl)
theorem dX2_entry_39 : decode cX2_entry 39 = .ok (.iload_n 2, 1) := dk_28 (dk_at dksX2_entry_1 15 rfl rfl)
theorem dX2_entry_40 : decode cX2_entry 40 = .ok (.iconst 2, 1) := dk_5 (dk_at dksX2_entry_1 16 rfl rfl)
theorem dX2_entry_41 : decode cX2_entry 41 = .ok (.if_icmp .ne 12, 3) := dk_160 0 12 (dk_at dksX2_entry_1 17 rfl rfl)
theorem dX2_entry_44 : decode cX2_entry 44 = .ok (.iload_n 3, 1) := dk_29 (dk_at dksX2_entry_1 20 rfl rfl)
theorem dX2_entry_45 : decode cX2_entry 45 = .ok (.iconst 2, 1) := dk_5 (dk_at dksX2_entry_1 21 rfl rfl)
theorem dX2_entry_46 : decode cX2_entry 46 = .ok (.idiv, 1) := dk_108 (dk_at dksX2_entry_1 22 rfl rfl)
theorem dX2_entry_47 : decode cX2_entry 47 = .ok (.bipush 100, 2) := dk_16 100 (dk_at dksX2_entry_2 0 rfl rfl)
theorem dX2_entry_49 : decode cX2_entry 49 = .ok (.irem, 1) := dk_112 (dk_at dksX2_entry_2 2 rfl rfl)
theorem dX2_entry_50 : decode cX2_entry 50 = .ok (.goto 6, 3) := dk_167 0 6 (dk_at dksX2_entry_2 3 rfl rfl)
theorem dX2_entry_53 : decode cX2_entry 53 = .ok (.iload_n 3, 1) := dk_29 (dk_at dksX2_entry_2 6 rfl rfl)
theorem dX2_entry_54 : decode cX2_entry 54 = .ok (.iconst 2, 1) := dk_5 (dk_at dksX2_entry_2 7 rfl rfl)
theorem dX2_entry_55 : decode cX2_entry 55 = .ok (.irem, 1) := dk_112 (dk_at dksX2_entry_2 8 rfl rfl)
theorem dX2_entry_56 : decode cX2_entry 56 = .ok (.ireturn, 1) := dk_172 (dk_at dksX2_entry_2 9 rfl rfl)
abbrev cX2_ledger : ByteArray := prog_19_method_92_code
def yX2_ledger : MethodName := ⟨RX2, "ledger", "(I)I"⟩
def dkwX2_ledger_2 : List UInt8 := [132, 3, 1, 167, 255, 219, 28, 172]
abbrev dktX2_ledger_2 : List UInt8 := dkwX2_ledger_2 ++ []
def dkwX2_ledger_1 : List UInt8 := [28, 42, 29, 4, 182, 1, 124, 27, 160, 0, 12, 42, 29, 5, 182, 1, 124, 167, 0, 4, 3, 96, 61]
abbrev dktX2_ledger_1 : List UInt8 := dkwX2_ledger_1 ++ dktX2_ledger_2
def dkwX2_ledger_0 : List UInt8 := [27, 184, 0, 96, 154, 0, 5, 2, 172, 3, 61, 3, 62, 29, 42, 180, 0, 7, 16, 9, 46, 162, 0, 32]
abbrev dktX2_ledger_0 : List UInt8 := dkwX2_ledger_0 ++ dktX2_ledger_1
theorem dksX2_ledger_0 : cX2_ledger.data.toList.drop 0 = dktX2_ledger_0 := by decide +kernel
theorem dksX2_ledger_1 : cX2_ledger.data.toList.drop 24 = dktX2_ledger_1 := dk_seg dksX2_ledger_0 24 rfl rfl
theorem dksX2_ledger_2 : cX2_ledger.data.toList.drop 47 = dktX2_ledger_2 := dk_seg dksX2_ledger_1 23 rfl rfl
theorem dX2_ledger_0 : decode cX2_ledger 0 = .ok (.iload_n 1, 1) := dk_27 (dk_at dksX2_ledger_0 0 rfl rfl)
theorem dX2_ledger_1 : decode cX2_ledger 1 = .ok (.invokestatic 96, 3) := dk_184 0 96 (dk_at dksX2_ledger_0 1 rfl rfl)
theorem dX2_ledger_4 : decode cX2_ledger 4 = .ok (.ifCond .ne 5, 3) := dk_154 0 5 (dk_at dksX2_ledger_0 4 rfl rfl)
theorem dX2_ledger_7 : decode cX2_ledger 7 = .ok (.iconst (-1), 1) := dk_2 (dk_at dksX2_ledger_0 7 rfl rfl)
theorem dX2_ledger_8 : decode cX2_ledger 8 = .ok (.ireturn, 1) := dk_172 (dk_at dksX2_ledger_0 8 rfl rfl)
theorem dX2_ledger_9 : decode cX2_ledger 9 = .ok (.iconst 0, 1) := dk_3 (dk_at dksX2_ledger_0 9 rfl rfl)
theorem dX2_ledger_10 : decode cX2_ledger 10 = .ok (.istore_n 2, 1) := dk_61 (dk_at dksX2_ledger_0 10 rfl rfl)
theorem dX2_ledger_11 : decode cX2_ledger 11 = .ok (.iconst 0, 1) := dk_3 (dk_at dksX2_ledger_0 11 rfl rfl)
theorem dX2_ledger_12 : decode cX2_ledger 12 = .ok (.istore_n 3, 1) := dk_62 (dk_at dksX2_ledger_0 12 rfl rfl)
theorem dX2_ledger_13 : decode cX2_ledger 13 = .ok (.iload_n 3, 1) := dk_29 (dk_at dksX2_ledger_0 13 rfl rfl)
theorem dX2_ledger_14 : decode cX2_ledger 14 = .ok (.aload_n 0, 1) := dk_42 (dk_at dksX2_ledger_0 14 rfl rfl)
theorem dX2_ledger_15 : decode cX2_ledger 15 = .ok (.getfield 7, 3) := dk_180 0 7 (dk_at dksX2_ledger_0 15 rfl rfl)
theorem dX2_ledger_18 : decode cX2_ledger 18 = .ok (.bipush 9, 2) := dk_16 9 (dk_at dksX2_ledger_0 18 rfl rfl)
theorem dX2_ledger_20 : decode cX2_ledger 20 = .ok (.iaload, 1) := dk_46 (dk_at dksX2_ledger_0 20 rfl rfl)
theorem dX2_ledger_21 : decode cX2_ledger 21 = .ok (.if_icmp .ge 32, 3) := dk_162 0 32 (dk_at dksX2_ledger_0 21 rfl rfl)
theorem dX2_ledger_24 : decode cX2_ledger 24 = .ok (.iload_n 2, 1) := dk_28 (dk_at dksX2_ledger_1 0 rfl rfl)
theorem dX2_ledger_25 : decode cX2_ledger 25 = .ok (.aload_n 0, 1) := dk_42 (dk_at dksX2_ledger_1 1 rfl rfl)
theorem dX2_ledger_26 : decode cX2_ledger 26 = .ok (.iload_n 3, 1) := dk_29 (dk_at dksX2_ledger_1 2 rfl rfl)
theorem dX2_ledger_27 : decode cX2_ledger 27 = .ok (.iconst 1, 1) := dk_4 (dk_at dksX2_ledger_1 3 rfl rfl)
theorem dX2_ledger_28 : decode cX2_ledger 28 = .ok (.invokevirtual 380, 3) := dk_182 1 124 (dk_at dksX2_ledger_1 4 rfl rfl)
theorem dX2_ledger_31 : decode cX2_ledger 31 = .ok (.iload_n 1, 1) := dk_27 (dk_at dksX2_ledger_1 7 rfl rfl)
theorem dX2_ledger_32 : decode cX2_ledger 32 = .ok (.if_icmp .ne 12, 3) := dk_160 0 12 (dk_at dksX2_ledger_1 8 rfl rfl)
theorem dX2_ledger_35 : decode cX2_ledger 35 = .ok (.aload_n 0, 1) := dk_42 (dk_at dksX2_ledger_1 11 rfl rfl)
theorem dX2_ledger_36 : decode cX2_ledger 36 = .ok (.iload_n 3, 1) := dk_29 (dk_at dksX2_ledger_1 12 rfl rfl)
theorem dX2_ledger_37 : decode cX2_ledger 37 = .ok (.iconst 2, 1) := dk_5 (dk_at dksX2_ledger_1 13 rfl rfl)
theorem dX2_ledger_38 : decode cX2_ledger 38 = .ok (.invokevirtual 380, 3) := dk_182 1 124 (dk_at dksX2_ledger_1 14 rfl rfl)
theorem dX2_ledger_41 : decode cX2_ledger 41 = .ok (.goto 4, 3) := dk_167 0 4 (dk_at dksX2_ledger_1 17 rfl rfl)
theorem dX2_ledger_44 : decode cX2_ledger 44 = .ok (.iconst 0, 1) := dk_3 (dk_at dksX2_ledger_1 20 rfl rfl)
theorem dX2_ledger_45 : decode cX2_ledger 45 = .ok (.iadd, 1) := dk_96 (dk_at dksX2_ledger_1 21 rfl rfl)
theorem dX2_ledger_46 : decode cX2_ledger 46 = .ok (.istore_n 2, 1) := dk_61 (dk_at dksX2_ledger_1 22 rfl rfl)
theorem dX2_ledger_47 : decode cX2_ledger 47 = .ok (.iinc 3 1, 3) := dk_132 3 1 (dk_at dksX2_ledger_2 0 rfl rfl)
theorem dX2_ledger_50 : decode cX2_ledger 50 = .ok (.goto (-37), 3) := dk_167 255 219 (dk_at dksX2_ledger_2 3 rfl rfl)
theorem dX2_ledger_53 : decode cX2_ledger 53 = .ok (.iload_n 2, 1) := dk_28 (dk_at dksX2_ledger_2 6 rfl rfl)
theorem dX2_ledger_54 : decode cX2_ledger 54 = .ok (.ireturn, 1) := dk_172 (dk_at dksX2_ledger_2 7 rfl rfl)
abbrev cX2_hairiest : ByteArray := prog_19_method_93_code
def yX2_hairiest : MethodName := ⟨RX2, "hairiest", "()I"⟩
def dkwX2_hairiest_1 : List UInt8 := [182, 0, 92, 42, 27, 3, 182, 0, 92, 164, 0, 5, 28, 60, 132, 2, 1, 167, 255, 221, 27, 172]
abbrev dktX2_hairiest_1 : List UInt8 := dkwX2_hairiest_1 ++ []
def dkwX2_hairiest_0 : List UInt8 := [2, 60, 3, 61, 28, 42, 180, 0, 7, 3, 46, 162, 0, 31, 27, 2, 159, 0, 18, 42, 28, 3]
abbrev dktX2_hairiest_0 : List UInt8 := dkwX2_hairiest_0 ++ dktX2_hairiest_1
theorem dksX2_hairiest_0 : cX2_hairiest.data.toList.drop 0 = dktX2_hairiest_0 := by decide +kernel
theorem dksX2_hairiest_1 : cX2_hairiest.data.toList.drop 22 = dktX2_hairiest_1 := dk_seg dksX2_hairiest_0 22 rfl rfl
theorem dX2_hairiest_0 : decode cX2_hairiest 0 = .ok (.iconst (-1), 1) := dk_2 (dk_at dksX2_hairiest_0 0 rfl rfl)
theorem dX2_hairiest_1 : decode cX2_hairiest 1 = .ok (.istore_n 1, 1) := dk_60 (dk_at dksX2_hairiest_0 1 rfl rfl)
theorem dX2_hairiest_2 : decode cX2_hairiest 2 = .ok (.iconst 0, 1) := dk_3 (dk_at dksX2_hairiest_0 2 rfl rfl)
theorem dX2_hairiest_3 : decode cX2_hairiest 3 = .ok (.istore_n 2, 1) := dk_61 (dk_at dksX2_hairiest_0 3 rfl rfl)
theorem dX2_hairiest_4 : decode cX2_hairiest 4 = .ok (.iload_n 2, 1) := dk_28 (dk_at dksX2_hairiest_0 4 rfl rfl)
theorem dX2_hairiest_5 : decode cX2_hairiest 5 = .ok (.aload_n 0, 1) := dk_42 (dk_at dksX2_hairiest_0 5 rfl rfl)
theorem dX2_hairiest_6 : decode cX2_hairiest 6 = .ok (.getfield 7, 3) := dk_180 0 7 (dk_at dksX2_hairiest_0 6 rfl rfl)
theorem dX2_hairiest_9 : decode cX2_hairiest 9 = .ok (.iconst 0, 1) := dk_3 (dk_at dksX2_hairiest_0 9 rfl rfl)
theorem dX2_hairiest_10 : decode cX2_hairiest 10 = .ok (.iaload, 1) := dk_46 (dk_at dksX2_hairiest_0 10 rfl rfl)
theorem dX2_hairiest_11 : decode cX2_hairiest 11 = .ok (.if_icmp .ge 31, 3) := dk_162 0 31 (dk_at dksX2_hairiest_0 11 rfl rfl)
theorem dX2_hairiest_14 : decode cX2_hairiest 14 = .ok (.iload_n 1, 1) := dk_27 (dk_at dksX2_hairiest_0 14 rfl rfl)
theorem dX2_hairiest_15 : decode cX2_hairiest 15 = .ok (.iconst (-1), 1) := dk_2 (dk_at dksX2_hairiest_0 15 rfl rfl)
theorem dX2_hairiest_16 : decode cX2_hairiest 16 = .ok (.if_icmp .eq 18, 3) := dk_159 0 18 (dk_at dksX2_hairiest_0 16 rfl rfl)
theorem dX2_hairiest_19 : decode cX2_hairiest 19 = .ok (.aload_n 0, 1) := dk_42 (dk_at dksX2_hairiest_0 19 rfl rfl)
theorem dX2_hairiest_20 : decode cX2_hairiest 20 = .ok (.iload_n 2, 1) := dk_28 (dk_at dksX2_hairiest_0 20 rfl rfl)
theorem dX2_hairiest_21 : decode cX2_hairiest 21 = .ok (.iconst 0, 1) := dk_3 (dk_at dksX2_hairiest_0 21 rfl rfl)
theorem dX2_hairiest_22 : decode cX2_hairiest 22 = .ok (.invokevirtual 92, 3) := dk_182 0 92 (dk_at dksX2_hairiest_1 0 rfl rfl)
theorem dX2_hairiest_25 : decode cX2_hairiest 25 = .ok (.aload_n 0, 1) := dk_42 (dk_at dksX2_hairiest_1 3 rfl rfl)
theorem dX2_hairiest_26 : decode cX2_hairiest 26 = .ok (.iload_n 1, 1) := dk_27 (dk_at dksX2_hairiest_1 4 rfl rfl)
theorem dX2_hairiest_27 : decode cX2_hairiest 27 = .ok (.iconst 0, 1) := dk_3 (dk_at dksX2_hairiest_1 5 rfl rfl)
theorem dX2_hairiest_28 : decode cX2_hairiest 28 = .ok (.invokevirtual 92, 3) := dk_182 0 92 (dk_at dksX2_hairiest_1 6 rfl rfl)
theorem dX2_hairiest_31 : decode cX2_hairiest 31 = .ok (.if_icmp .le 5, 3) := dk_164 0 5 (dk_at dksX2_hairiest_1 9 rfl rfl)
theorem dX2_hairiest_34 : decode cX2_hairiest 34 = .ok (.iload_n 2, 1) := dk_28 (dk_at dksX2_hairiest_1 12 rfl rfl)
theorem dX2_hairiest_35 : decode cX2_hairiest 35 = .ok (.istore_n 1, 1) := dk_60 (dk_at dksX2_hairiest_1 13 rfl rfl)
theorem dX2_hairiest_36 : decode cX2_hairiest 36 = .ok (.iinc 2 1, 3) := dk_132 2 1 (dk_at dksX2_hairiest_1 14 rfl rfl)
theorem dX2_hairiest_39 : decode cX2_hairiest 39 = .ok (.goto (-35), 3) := dk_167 255 221 (dk_at dksX2_hairiest_1 17 rfl rfl)
theorem dX2_hairiest_42 : decode cX2_hairiest 42 = .ok (.iload_n 1, 1) := dk_27 (dk_at dksX2_hairiest_1 20 rfl rfl)
theorem dX2_hairiest_43 : decode cX2_hairiest 43 = .ok (.ireturn, 1) := dk_172 (dk_at dksX2_hairiest_1 21 rfl rfl)
abbrev cX2_calmest : ByteArray := prog_19_method_94_code
def yX2_calmest : MethodName := ⟨RX2, "calmest", "()I"⟩
def dkwX2_calmest_1 : List UInt8 := [182, 0, 92, 42, 27, 4, 182, 0, 92, 162, 0, 5, 28, 60, 132, 2, 1, 167, 255, 221, 27, 172]
abbrev dktX2_calmest_1 : List UInt8 := dkwX2_calmest_1 ++ []
def dkwX2_calmest_0 : List UInt8 := [2, 60, 3, 61, 28, 42, 180, 0, 7, 3, 46, 162, 0, 31, 27, 2, 159, 0, 18, 42, 28, 4]
abbrev dktX2_calmest_0 : List UInt8 := dkwX2_calmest_0 ++ dktX2_calmest_1
theorem dksX2_calmest_0 : cX2_calmest.data.toList.drop 0 = dktX2_calmest_0 := by decide +kernel
theorem dksX2_calmest_1 : cX2_calmest.data.toList.drop 22 = dktX2_calmest_1 := dk_seg dksX2_calmest_0 22 rfl rfl
theorem dX2_calmest_0 : decode cX2_calmest 0 = .ok (.iconst (-1), 1) := dk_2 (dk_at dksX2_calmest_0 0 rfl rfl)
theorem dX2_calmest_1 : decode cX2_calmest 1 = .ok (.istore_n 1, 1) := dk_60 (dk_at dksX2_calmest_0 1 rfl rfl)
theorem dX2_calmest_2 : decode cX2_calmest 2 = .ok (.iconst 0, 1) := dk_3 (dk_at dksX2_calmest_0 2 rfl rfl)
theorem dX2_calmest_3 : decode cX2_calmest 3 = .ok (.istore_n 2, 1) := dk_61 (dk_at dksX2_calmest_0 3 rfl rfl)
theorem dX2_calmest_4 : decode cX2_calmest 4 = .ok (.iload_n 2, 1) := dk_28 (dk_at dksX2_calmest_0 4 rfl rfl)
theorem dX2_calmest_5 : decode cX2_calmest 5 = .ok (.aload_n 0, 1) := dk_42 (dk_at dksX2_calmest_0 5 rfl rfl)
theorem dX2_calmest_6 : decode cX2_calmest 6 = .ok (.getfield 7, 3) := dk_180 0 7 (dk_at dksX2_calmest_0 6 rfl rfl)
theorem dX2_calmest_9 : decode cX2_calmest 9 = .ok (.iconst 0, 1) := dk_3 (dk_at dksX2_calmest_0 9 rfl rfl)
theorem dX2_calmest_10 : decode cX2_calmest 10 = .ok (.iaload, 1) := dk_46 (dk_at dksX2_calmest_0 10 rfl rfl)
theorem dX2_calmest_11 : decode cX2_calmest 11 = .ok (.if_icmp .ge 31, 3) := dk_162 0 31 (dk_at dksX2_calmest_0 11 rfl rfl)
theorem dX2_calmest_14 : decode cX2_calmest 14 = .ok (.iload_n 1, 1) := dk_27 (dk_at dksX2_calmest_0 14 rfl rfl)
theorem dX2_calmest_15 : decode cX2_calmest 15 = .ok (.iconst (-1), 1) := dk_2 (dk_at dksX2_calmest_0 15 rfl rfl)
theorem dX2_calmest_16 : decode cX2_calmest 16 = .ok (.if_icmp .eq 18, 3) := dk_159 0 18 (dk_at dksX2_calmest_0 16 rfl rfl)
theorem dX2_calmest_19 : decode cX2_calmest 19 = .ok (.aload_n 0, 1) := dk_42 (dk_at dksX2_calmest_0 19 rfl rfl)
theorem dX2_calmest_20 : decode cX2_calmest 20 = .ok (.iload_n 2, 1) := dk_28 (dk_at dksX2_calmest_0 20 rfl rfl)
theorem dX2_calmest_21 : decode cX2_calmest 21 = .ok (.iconst 1, 1) := dk_4 (dk_at dksX2_calmest_0 21 rfl rfl)
theorem dX2_calmest_22 : decode cX2_calmest 22 = .ok (.invokevirtual 92, 3) := dk_182 0 92 (dk_at dksX2_calmest_1 0 rfl rfl)
theorem dX2_calmest_25 : decode cX2_calmest 25 = .ok (.aload_n 0, 1) := dk_42 (dk_at dksX2_calmest_1 3 rfl rfl)
theorem dX2_calmest_26 : decode cX2_calmest 26 = .ok (.iload_n 1, 1) := dk_27 (dk_at dksX2_calmest_1 4 rfl rfl)
theorem dX2_calmest_27 : decode cX2_calmest 27 = .ok (.iconst 1, 1) := dk_4 (dk_at dksX2_calmest_1 5 rfl rfl)
theorem dX2_calmest_28 : decode cX2_calmest 28 = .ok (.invokevirtual 92, 3) := dk_182 0 92 (dk_at dksX2_calmest_1 6 rfl rfl)
theorem dX2_calmest_31 : decode cX2_calmest 31 = .ok (.if_icmp .ge 5, 3) := dk_162 0 5 (dk_at dksX2_calmest_1 9 rfl rfl)
theorem dX2_calmest_34 : decode cX2_calmest 34 = .ok (.iload_n 2, 1) := dk_28 (dk_at dksX2_calmest_1 12 rfl rfl)
theorem dX2_calmest_35 : decode cX2_calmest 35 = .ok (.istore_n 1, 1) := dk_60 (dk_at dksX2_calmest_1 13 rfl rfl)
theorem dX2_calmest_36 : decode cX2_calmest 36 = .ok (.iinc 2 1, 3) := dk_132 2 1 (dk_at dksX2_calmest_1 14 rfl rfl)
theorem dX2_calmest_39 : decode cX2_calmest 39 = .ok (.goto (-35), 3) := dk_167 255 221 (dk_at dksX2_calmest_1 17 rfl rfl)
theorem dX2_calmest_42 : decode cX2_calmest 42 = .ok (.iload_n 1, 1) := dk_27 (dk_at dksX2_calmest_1 20 rfl rfl)
theorem dX2_calmest_43 : decode cX2_calmest 43 = .ok (.ireturn, 1) := dk_172 (dk_at dksX2_calmest_1 21 rfl rfl)
abbrev cX2_smooth : ByteArray := prog_19_method_96_code
def yX2_smooth : MethodName := ⟨RX2, "smooth", "()I"⟩
def dkwX2_smooth_0 : List UInt8 := [42, 3, 182, 1, 127, 172]
abbrev dktX2_smooth_0 : List UInt8 := dkwX2_smooth_0 ++ []
theorem dksX2_smooth_0 : cX2_smooth.data.toList.drop 0 = dktX2_smooth_0 := by decide +kernel
theorem dX2_smooth_0 : decode cX2_smooth 0 = .ok (.aload_n 0, 1) := dk_42 (dk_at dksX2_smooth_0 0 rfl rfl)
theorem dX2_smooth_1 : decode cX2_smooth 1 = .ok (.iconst 0, 1) := dk_3 (dk_at dksX2_smooth_0 1 rfl rfl)
theorem dX2_smooth_2 : decode cX2_smooth 2 = .ok (.invokevirtual 383, 3) := dk_182 1 127 (dk_at dksX2_smooth_0 2 rfl rfl)
theorem dX2_smooth_5 : decode cX2_smooth 5 = .ok (.ireturn, 1) := dk_172 (dk_at dksX2_smooth_0 5 rfl rfl)
abbrev cX2_without : ByteArray := prog_19_method_95_code
def yX2_without : MethodName := ⟨RX2, "without", "(I)I"⟩
def dkwX2_without_1 : List UInt8 := [4, 29, 120, 167, 0, 4, 3, 128, 61, 132, 3, 1, 167, 255, 224, 28, 172]
abbrev dktX2_without_1 : List UInt8 := dkwX2_without_1 ++ []
def dkwX2_without_0 : List UInt8 := [3, 61, 3, 62, 29, 42, 180, 0, 7, 3, 46, 162, 0, 28, 28, 42, 29, 27, 182, 0, 92, 154, 0, 9]
abbrev dktX2_without_0 : List UInt8 := dkwX2_without_0 ++ dktX2_without_1
theorem dksX2_without_0 : cX2_without.data.toList.drop 0 = dktX2_without_0 := by decide +kernel
theorem dksX2_without_1 : cX2_without.data.toList.drop 24 = dktX2_without_1 := dk_seg dksX2_without_0 24 rfl rfl
theorem dX2_without_0 : decode cX2_without 0 = .ok (.iconst 0, 1) := dk_3 (dk_at dksX2_without_0 0 rfl rfl)
theorem dX2_without_1 : decode cX2_without 1 = .ok (.istore_n 2, 1) := dk_61 (dk_at dksX2_without_0 1 rfl rfl)
theorem dX2_without_2 : decode cX2_without 2 = .ok (.iconst 0, 1) := dk_3 (dk_at dksX2_without_0 2 rfl rfl)
theorem dX2_without_3 : decode cX2_without 3 = .ok (.istore_n 3, 1) := dk_62 (dk_at dksX2_without_0 3 rfl rfl)
theorem dX2_without_4 : decode cX2_without 4 = .ok (.iload_n 3, 1) := dk_29 (dk_at dksX2_without_0 4 rfl rfl)
theorem dX2_without_5 : decode cX2_without 5 = .ok (.aload_n 0, 1) := dk_42 (dk_at dksX2_without_0 5 rfl rfl)
theorem dX2_without_6 : decode cX2_without 6 = .ok (.getfield 7, 3) := dk_180 0 7 (dk_at dksX2_without_0 6 rfl rfl)
theorem dX2_without_9 : decode cX2_without 9 = .ok (.iconst 0, 1) := dk_3 (dk_at dksX2_without_0 9 rfl rfl)
theorem dX2_without_10 : decode cX2_without 10 = .ok (.iaload, 1) := dk_46 (dk_at dksX2_without_0 10 rfl rfl)
theorem dX2_without_11 : decode cX2_without 11 = .ok (.if_icmp .ge 28, 3) := dk_162 0 28 (dk_at dksX2_without_0 11 rfl rfl)
theorem dX2_without_14 : decode cX2_without 14 = .ok (.iload_n 2, 1) := dk_28 (dk_at dksX2_without_0 14 rfl rfl)
theorem dX2_without_15 : decode cX2_without 15 = .ok (.aload_n 0, 1) := dk_42 (dk_at dksX2_without_0 15 rfl rfl)
theorem dX2_without_16 : decode cX2_without 16 = .ok (.iload_n 3, 1) := dk_29 (dk_at dksX2_without_0 16 rfl rfl)
theorem dX2_without_17 : decode cX2_without 17 = .ok (.iload_n 1, 1) := dk_27 (dk_at dksX2_without_0 17 rfl rfl)
theorem dX2_without_18 : decode cX2_without 18 = .ok (.invokevirtual 92, 3) := dk_182 0 92 (dk_at dksX2_without_0 18 rfl rfl)
theorem dX2_without_21 : decode cX2_without 21 = .ok (.ifCond .ne 9, 3) := dk_154 0 9 (dk_at dksX2_without_0 21 rfl rfl)
theorem dX2_without_24 : decode cX2_without 24 = .ok (.iconst 1, 1) := dk_4 (dk_at dksX2_without_1 0 rfl rfl)
theorem dX2_without_25 : decode cX2_without 25 = .ok (.iload_n 3, 1) := dk_29 (dk_at dksX2_without_1 1 rfl rfl)
theorem dX2_without_26 : decode cX2_without 26 = .ok (.ishl, 1) := dk_120 (dk_at dksX2_without_1 2 rfl rfl)
theorem dX2_without_27 : decode cX2_without 27 = .ok (.goto 4, 3) := dk_167 0 4 (dk_at dksX2_without_1 3 rfl rfl)
theorem dX2_without_30 : decode cX2_without 30 = .ok (.iconst 0, 1) := dk_3 (dk_at dksX2_without_1 6 rfl rfl)
theorem dX2_without_31 : decode cX2_without 31 = .ok (.ior, 1) := dk_128 (dk_at dksX2_without_1 7 rfl rfl)
theorem dX2_without_32 : decode cX2_without 32 = .ok (.istore_n 2, 1) := dk_61 (dk_at dksX2_without_1 8 rfl rfl)
theorem dX2_without_33 : decode cX2_without 33 = .ok (.iinc 3 1, 3) := dk_132 3 1 (dk_at dksX2_without_1 9 rfl rfl)
theorem dX2_without_36 : decode cX2_without 36 = .ok (.goto (-32), 3) := dk_167 255 224 (dk_at dksX2_without_1 12 rfl rfl)
theorem dX2_without_39 : decode cX2_without 39 = .ok (.iload_n 2, 1) := dk_28 (dk_at dksX2_without_1 15 rfl rfl)
theorem dX2_without_40 : decode cX2_without 40 = .ok (.ireturn, 1) := dk_172 (dk_at dksX2_without_1 16 rfl rfl)
abbrev cX2_unscarred : ByteArray := prog_19_method_97_code
def yX2_unscarred : MethodName := ⟨RX2, "unscarred", "()I"⟩
def dkwX2_unscarred_0 : List UInt8 := [42, 5, 182, 1, 127, 172]
abbrev dktX2_unscarred_0 : List UInt8 := dkwX2_unscarred_0 ++ []
theorem dksX2_unscarred_0 : cX2_unscarred.data.toList.drop 0 = dktX2_unscarred_0 := by decide +kernel
theorem dX2_unscarred_0 : decode cX2_unscarred 0 = .ok (.aload_n 0, 1) := dk_42 (dk_at dksX2_unscarred_0 0 rfl rfl)
theorem dX2_unscarred_1 : decode cX2_unscarred 1 = .ok (.iconst 2, 1) := dk_5 (dk_at dksX2_unscarred_0 1 rfl rfl)
theorem dX2_unscarred_2 : decode cX2_unscarred 2 = .ok (.invokevirtual 383, 3) := dk_182 1 127 (dk_at dksX2_unscarred_0 2 rfl rfl)
theorem dX2_unscarred_5 : decode cX2_unscarred 5 = .ok (.ireturn, 1) := dk_172 (dk_at dksX2_unscarred_0 5 rfl rfl)
abbrev cX2_alone : ByteArray := prog_19_method_98_code
def yX2_alone : MethodName := ⟨RX2, "alone", "()I"⟩
def dkwX2_alone_1 : List UInt8 := [153, 0, 7, 3, 167, 0, 6, 4, 28, 120, 128, 60, 132, 2, 1, 167, 255, 221, 27, 172]
abbrev dktX2_alone_1 : List UInt8 := dkwX2_alone_1 ++ []
def dkwX2_alone_0 : List UInt8 := [3, 60, 3, 61, 28, 42, 180, 0, 7, 3, 46, 162, 0, 31, 27, 42, 42, 28, 182, 0, 77, 182, 1, 57]
abbrev dktX2_alone_0 : List UInt8 := dkwX2_alone_0 ++ dktX2_alone_1
theorem dksX2_alone_0 : cX2_alone.data.toList.drop 0 = dktX2_alone_0 := by decide +kernel
theorem dksX2_alone_1 : cX2_alone.data.toList.drop 24 = dktX2_alone_1 := dk_seg dksX2_alone_0 24 rfl rfl
theorem dX2_alone_0 : decode cX2_alone 0 = .ok (.iconst 0, 1) := dk_3 (dk_at dksX2_alone_0 0 rfl rfl)
theorem dX2_alone_1 : decode cX2_alone 1 = .ok (.istore_n 1, 1) := dk_60 (dk_at dksX2_alone_0 1 rfl rfl)
theorem dX2_alone_2 : decode cX2_alone 2 = .ok (.iconst 0, 1) := dk_3 (dk_at dksX2_alone_0 2 rfl rfl)
theorem dX2_alone_3 : decode cX2_alone 3 = .ok (.istore_n 2, 1) := dk_61 (dk_at dksX2_alone_0 3 rfl rfl)
theorem dX2_alone_4 : decode cX2_alone 4 = .ok (.iload_n 2, 1) := dk_28 (dk_at dksX2_alone_0 4 rfl rfl)
theorem dX2_alone_5 : decode cX2_alone 5 = .ok (.aload_n 0, 1) := dk_42 (dk_at dksX2_alone_0 5 rfl rfl)
theorem dX2_alone_6 : decode cX2_alone 6 = .ok (.getfield 7, 3) := dk_180 0 7 (dk_at dksX2_alone_0 6 rfl rfl)
theorem dX2_alone_9 : decode cX2_alone 9 = .ok (.iconst 0, 1) := dk_3 (dk_at dksX2_alone_0 9 rfl rfl)
theorem dX2_alone_10 : decode cX2_alone 10 = .ok (.iaload, 1) := dk_46 (dk_at dksX2_alone_0 10 rfl rfl)
theorem dX2_alone_11 : decode cX2_alone 11 = .ok (.if_icmp .ge 31, 3) := dk_162 0 31 (dk_at dksX2_alone_0 11 rfl rfl)
theorem dX2_alone_14 : decode cX2_alone 14 = .ok (.iload_n 1, 1) := dk_27 (dk_at dksX2_alone_0 14 rfl rfl)
theorem dX2_alone_15 : decode cX2_alone 15 = .ok (.aload_n 0, 1) := dk_42 (dk_at dksX2_alone_0 15 rfl rfl)
theorem dX2_alone_16 : decode cX2_alone 16 = .ok (.aload_n 0, 1) := dk_42 (dk_at dksX2_alone_0 16 rfl rfl)
theorem dX2_alone_17 : decode cX2_alone 17 = .ok (.iload_n 2, 1) := dk_28 (dk_at dksX2_alone_0 17 rfl rfl)
theorem dX2_alone_18 : decode cX2_alone 18 = .ok (.invokevirtual 77, 3) := dk_182 0 77 (dk_at dksX2_alone_0 18 rfl rfl)
theorem dX2_alone_21 : decode cX2_alone 21 = .ok (.invokevirtual 313, 3) := dk_182 1 57 (dk_at dksX2_alone_0 21 rfl rfl)
theorem dX2_alone_24 : decode cX2_alone 24 = .ok (.ifCond .eq 7, 3) := dk_153 0 7 (dk_at dksX2_alone_1 0 rfl rfl)
theorem dX2_alone_27 : decode cX2_alone 27 = .ok (.iconst 0, 1) := dk_3 (dk_at dksX2_alone_1 3 rfl rfl)
theorem dX2_alone_28 : decode cX2_alone 28 = .ok (.goto 6, 3) := dk_167 0 6 (dk_at dksX2_alone_1 4 rfl rfl)
theorem dX2_alone_31 : decode cX2_alone 31 = .ok (.iconst 1, 1) := dk_4 (dk_at dksX2_alone_1 7 rfl rfl)
theorem dX2_alone_32 : decode cX2_alone 32 = .ok (.iload_n 2, 1) := dk_28 (dk_at dksX2_alone_1 8 rfl rfl)
theorem dX2_alone_33 : decode cX2_alone 33 = .ok (.ishl, 1) := dk_120 (dk_at dksX2_alone_1 9 rfl rfl)
theorem dX2_alone_34 : decode cX2_alone 34 = .ok (.ior, 1) := dk_128 (dk_at dksX2_alone_1 10 rfl rfl)
theorem dX2_alone_35 : decode cX2_alone 35 = .ok (.istore_n 1, 1) := dk_60 (dk_at dksX2_alone_1 11 rfl rfl)
theorem dX2_alone_36 : decode cX2_alone 36 = .ok (.iinc 2 1, 3) := dk_132 2 1 (dk_at dksX2_alone_1 12 rfl rfl)
theorem dX2_alone_39 : decode cX2_alone 39 = .ok (.goto (-35), 3) := dk_167 255 221 (dk_at dksX2_alone_1 15 rfl rfl)
theorem dX2_alone_42 : decode cX2_alone 42 = .ok (.iload_n 1, 1) := dk_27 (dk_at dksX2_alone_1 18 rfl rfl)
theorem dX2_alone_43 : decode cX2_alone 43 = .ok (.ireturn, 1) := dk_172 (dk_at dksX2_alone_1 19 rfl rfl)
abbrev cX2_foretold : ByteArray := prog_19_method_99_code
def yX2_foretold : MethodName := ⟨RX2, "foretold", "(II)I"⟩
def dkwX2_foretold_6 : List UInt8 := [79, 132, 4, 1, 167, 255, 232, 42, 4, 181, 0, 43, 29, 172]
abbrev dktX2_foretold_6 : List UInt8 := dkwX2_foretold_6 ++ []
def dkwX2_foretold_5 : List UInt8 := [16, 6, 54, 4, 21, 4, 16, 50, 162, 0, 23, 42, 180, 0, 7, 21, 4, 42, 180, 0, 47, 21, 4, 46]
abbrev dktX2_foretold_5 : List UInt8 := dkwX2_foretold_5 ++ dktX2_foretold_6
def dkwX2_foretold_4 : List UInt8 := [180, 0, 7, 16, 7, 46, 167, 0, 17, 42, 28, 4, 160, 0, 7, 5, 167, 0, 4, 3, 182, 1, 103, 62]
abbrev dktX2_foretold_4 : List UInt8 := dkwX2_foretold_4 ++ dktX2_foretold_5
def dkwX2_foretold_3 : List UInt8 := [184, 1, 0, 153, 0, 9, 42, 29, 182, 1, 91, 87, 132, 3, 1, 167, 255, 233, 28, 154, 0, 13, 42]
abbrev dktX2_foretold_3 : List UInt8 := dkwX2_foretold_3 ++ dktX2_foretold_4
def dkwX2_foretold_2 : List UInt8 := [46, 79, 132, 3, 1, 167, 255, 235, 42, 3, 181, 0, 43, 3, 62, 29, 16, 8, 162, 0, 23, 27, 29]
abbrev dktX2_foretold_2 : List UInt8 := dkwX2_foretold_2 ++ dktX2_foretold_3
def dkwX2_foretold_1 : List UInt8 := [154, 0, 5, 2, 172, 16, 6, 62, 29, 16, 50, 162, 0, 21, 42, 180, 0, 47, 29, 42, 180, 0, 7, 29]
abbrev dktX2_foretold_1 : List UInt8 := dkwX2_foretold_1 ++ dktX2_foretold_2
def dkwX2_foretold_0 : List UInt8 := [27, 4, 4, 42, 180, 0, 7, 3, 46, 120, 4, 100, 184, 0, 73, 153, 0, 12, 28, 3, 5, 184, 0, 73]
abbrev dktX2_foretold_0 : List UInt8 := dkwX2_foretold_0 ++ dktX2_foretold_1
theorem dksX2_foretold_0 : cX2_foretold.data.toList.drop 0 = dktX2_foretold_0 := by decide +kernel
theorem dksX2_foretold_1 : cX2_foretold.data.toList.drop 24 = dktX2_foretold_1 := dk_seg dksX2_foretold_0 24 rfl rfl
theorem dksX2_foretold_2 : cX2_foretold.data.toList.drop 48 = dktX2_foretold_2 := dk_seg dksX2_foretold_1 24 rfl rfl
theorem dksX2_foretold_3 : cX2_foretold.data.toList.drop 71 = dktX2_foretold_3 := dk_seg dksX2_foretold_2 23 rfl rfl
theorem dksX2_foretold_4 : cX2_foretold.data.toList.drop 94 = dktX2_foretold_4 := dk_seg dksX2_foretold_3 23 rfl rfl
theorem dksX2_foretold_5 : cX2_foretold.data.toList.drop 118 = dktX2_foretold_5 := dk_seg dksX2_foretold_4 24 rfl rfl
theorem dksX2_foretold_6 : cX2_foretold.data.toList.drop 142 = dktX2_foretold_6 := dk_seg dksX2_foretold_5 24 rfl rfl
theorem dX2_foretold_0 : decode cX2_foretold 0 = .ok (.iload_n 1, 1) := dk_27 (dk_at dksX2_foretold_0 0 rfl rfl)
theorem dX2_foretold_1 : decode cX2_foretold 1 = .ok (.iconst 1, 1) := dk_4 (dk_at dksX2_foretold_0 1 rfl rfl)
theorem dX2_foretold_2 : decode cX2_foretold 2 = .ok (.iconst 1, 1) := dk_4 (dk_at dksX2_foretold_0 2 rfl rfl)
theorem dX2_foretold_3 : decode cX2_foretold 3 = .ok (.aload_n 0, 1) := dk_42 (dk_at dksX2_foretold_0 3 rfl rfl)
theorem dX2_foretold_4 : decode cX2_foretold 4 = .ok (.getfield 7, 3) := dk_180 0 7 (dk_at dksX2_foretold_0 4 rfl rfl)
theorem dX2_foretold_7 : decode cX2_foretold 7 = .ok (.iconst 0, 1) := dk_3 (dk_at dksX2_foretold_0 7 rfl rfl)
theorem dX2_foretold_8 : decode cX2_foretold 8 = .ok (.iaload, 1) := dk_46 (dk_at dksX2_foretold_0 8 rfl rfl)
theorem dX2_foretold_9 : decode cX2_foretold 9 = .ok (.ishl, 1) := dk_120 (dk_at dksX2_foretold_0 9 rfl rfl)
theorem dX2_foretold_10 : decode cX2_foretold 10 = .ok (.iconst 1, 1) := dk_4 (dk_at dksX2_foretold_0 10 rfl rfl)
theorem dX2_foretold_11 : decode cX2_foretold 11 = .ok (.isub, 1) := dk_100 (dk_at dksX2_foretold_0 11 rfl rfl)
theorem dX2_foretold_12 : decode cX2_foretold 12 = .ok (.invokestatic 73, 3) := dk_184 0 73 (dk_at dksX2_foretold_0 12 rfl rfl)
theorem dX2_foretold_15 : decode cX2_foretold 15 = .ok (.ifCond .eq 12, 3) := dk_153 0 12 (dk_at dksX2_foretold_0 15 rfl rfl)
theorem dX2_foretold_18 : decode cX2_foretold 18 = .ok (.iload_n 2, 1) := dk_28 (dk_at dksX2_foretold_0 18 rfl rfl)
theorem dX2_foretold_19 : decode cX2_foretold 19 = .ok (.iconst 0, 1) := dk_3 (dk_at dksX2_foretold_0 19 rfl rfl)
theorem dX2_foretold_20 : decode cX2_foretold 20 = .ok (.iconst 2, 1) := dk_5 (dk_at dksX2_foretold_0 20 rfl rfl)
theorem dX2_foretold_21 : decode cX2_foretold 21 = .ok (.invokestatic 73, 3) := dk_184 0 73 (dk_at dksX2_foretold_0 21 rfl rfl)
theorem dX2_foretold_24 : decode cX2_foretold 24 = .ok (.ifCond .ne 5, 3) := dk_154 0 5 (dk_at dksX2_foretold_1 0 rfl rfl)
theorem dX2_foretold_27 : decode cX2_foretold 27 = .ok (.iconst (-1), 1) := dk_2 (dk_at dksX2_foretold_1 3 rfl rfl)
theorem dX2_foretold_28 : decode cX2_foretold 28 = .ok (.ireturn, 1) := dk_172 (dk_at dksX2_foretold_1 4 rfl rfl)
theorem dX2_foretold_29 : decode cX2_foretold 29 = .ok (.bipush 6, 2) := dk_16 6 (dk_at dksX2_foretold_1 5 rfl rfl)
theorem dX2_foretold_31 : decode cX2_foretold 31 = .ok (.istore_n 3, 1) := dk_62 (dk_at dksX2_foretold_1 7 rfl rfl)
theorem dX2_foretold_32 : decode cX2_foretold 32 = .ok (.iload_n 3, 1) := dk_29 (dk_at dksX2_foretold_1 8 rfl rfl)
theorem dX2_foretold_33 : decode cX2_foretold 33 = .ok (.bipush 50, 2) := dk_16 50 (dk_at dksX2_foretold_1 9 rfl rfl)
theorem dX2_foretold_35 : decode cX2_foretold 35 = .ok (.if_icmp .ge 21, 3) := dk_162 0 21 (dk_at dksX2_foretold_1 11 rfl rfl)
theorem dX2_foretold_38 : decode cX2_foretold 38 = .ok (.aload_n 0, 1) := dk_42 (dk_at dksX2_foretold_1 14 rfl rfl)
theorem dX2_foretold_39 : decode cX2_foretold 39 = .ok (.getfield 47, 3) := dk_180 0 47 (dk_at dksX2_foretold_1 15 rfl rfl)
theorem dX2_foretold_42 : decode cX2_foretold 42 = .ok (.iload_n 3, 1) := dk_29 (dk_at dksX2_foretold_1 18 rfl rfl)
theorem dX2_foretold_43 : decode cX2_foretold 43 = .ok (.aload_n 0, 1) := dk_42 (dk_at dksX2_foretold_1 19 rfl rfl)
theorem dX2_foretold_44 : decode cX2_foretold 44 = .ok (.getfield 7, 3) := dk_180 0 7 (dk_at dksX2_foretold_1 20 rfl rfl)
theorem dX2_foretold_47 : decode cX2_foretold 47 = .ok (.iload_n 3, 1) := dk_29 (dk_at dksX2_foretold_1 23 rfl rfl)
theorem dX2_foretold_48 : decode cX2_foretold 48 = .ok (.iaload, 1) := dk_46 (dk_at dksX2_foretold_2 0 rfl rfl)
theorem dX2_foretold_49 : decode cX2_foretold 49 = .ok (.iastore, 1) := dk_79 (dk_at dksX2_foretold_2 1 rfl rfl)
theorem dX2_foretold_50 : decode cX2_foretold 50 = .ok (.iinc 3 1, 3) := dk_132 3 1 (dk_at dksX2_foretold_2 2 rfl rfl)
theorem dX2_foretold_53 : decode cX2_foretold 53 = .ok (.goto (-21), 3) := dk_167 255 235 (dk_at dksX2_foretold_2 5 rfl rfl)
theorem dX2_foretold_56 : decode cX2_foretold 56 = .ok (.aload_n 0, 1) := dk_42 (dk_at dksX2_foretold_2 8 rfl rfl)
theorem dX2_foretold_57 : decode cX2_foretold 57 = .ok (.iconst 0, 1) := dk_3 (dk_at dksX2_foretold_2 9 rfl rfl)
theorem dX2_foretold_58 : decode cX2_foretold 58 = .ok (.putfield 43, 3) := dk_181 0 43 (dk_at dksX2_foretold_2 10 rfl rfl)
theorem dX2_foretold_61 : decode cX2_foretold 61 = .ok (.iconst 0, 1) := dk_3 (dk_at dksX2_foretold_2 13 rfl rfl)
theorem dX2_foretold_62 : decode cX2_foretold 62 = .ok (.istore_n 3, 1) := dk_62 (dk_at dksX2_foretold_2 14 rfl rfl)
theorem dX2_foretold_63 : decode cX2_foretold 63 = .ok (.iload_n 3, 1) := dk_29 (dk_at dksX2_foretold_2 15 rfl rfl)
theorem dX2_foretold_64 : decode cX2_foretold 64 = .ok (.bipush 8, 2) := dk_16 8 (dk_at dksX2_foretold_2 16 rfl rfl)
theorem dX2_foretold_66 : decode cX2_foretold 66 = .ok (.if_icmp .ge 23, 3) := dk_162 0 23 (dk_at dksX2_foretold_2 18 rfl rfl)
theorem dX2_foretold_69 : decode cX2_foretold 69 = .ok (.iload_n 1, 1) := dk_27 (dk_at dksX2_foretold_2 21 rfl rfl)
theorem dX2_foretold_70 : decode cX2_foretold 70 = .ok (.iload_n 3, 1) := dk_29 (dk_at dksX2_foretold_2 22 rfl rfl)
theorem dX2_foretold_71 : decode cX2_foretold 71 = .ok (.invokestatic 256, 3) := dk_184 1 0 (dk_at dksX2_foretold_3 0 rfl rfl)
theorem dX2_foretold_74 : decode cX2_foretold 74 = .ok (.ifCond .eq 9, 3) := dk_153 0 9 (dk_at dksX2_foretold_3 3 rfl rfl)
theorem dX2_foretold_77 : decode cX2_foretold 77 = .ok (.aload_n 0, 1) := dk_42 (dk_at dksX2_foretold_3 6 rfl rfl)
theorem dX2_foretold_78 : decode cX2_foretold 78 = .ok (.iload_n 3, 1) := dk_29 (dk_at dksX2_foretold_3 7 rfl rfl)
theorem dX2_foretold_79 : decode cX2_foretold 79 = .ok (.invokevirtual 347, 3) := dk_182 1 91 (dk_at dksX2_foretold_3 8 rfl rfl)
theorem dX2_foretold_82 : decode cX2_foretold 82 = .ok (.pop, 1) := dk_87 (dk_at dksX2_foretold_3 11 rfl rfl)
theorem dX2_foretold_83 : decode cX2_foretold 83 = .ok (.iinc 3 1, 3) := dk_132 3 1 (dk_at dksX2_foretold_3 12 rfl rfl)
theorem dX2_foretold_86 : decode cX2_foretold 86 = .ok (.goto (-23), 3) := dk_167 255 233 (dk_at dksX2_foretold_3 15 rfl rfl)
theorem dX2_foretold_89 : decode cX2_foretold 89 = .ok (.iload_n 2, 1) := dk_28 (dk_at dksX2_foretold_3 18 rfl rfl)
theorem dX2_foretold_90 : decode cX2_foretold 90 = .ok (.ifCond .ne 13, 3) := dk_154 0 13 (dk_at dksX2_foretold_3 19 rfl rfl)
theorem dX2_foretold_93 : decode cX2_foretold 93 = .ok (.aload_n 0, 1) := dk_42 (dk_at dksX2_foretold_3 22 rfl rfl)
theorem dX2_foretold_94 : decode cX2_foretold 94 = .ok (.getfield 7, 3) := dk_180 0 7 (dk_at dksX2_foretold_4 0 rfl rfl)
theorem dX2_foretold_97 : decode cX2_foretold 97 = .ok (.bipush 7, 2) := dk_16 7 (dk_at dksX2_foretold_4 3 rfl rfl)
theorem dX2_foretold_99 : decode cX2_foretold 99 = .ok (.iaload, 1) := dk_46 (dk_at dksX2_foretold_4 5 rfl rfl)
theorem dX2_foretold_100 : decode cX2_foretold 100 = .ok (.goto 17, 3) := dk_167 0 17 (dk_at dksX2_foretold_4 6 rfl rfl)
theorem dX2_foretold_103 : decode cX2_foretold 103 = .ok (.aload_n 0, 1) := dk_42 (dk_at dksX2_foretold_4 9 rfl rfl)
theorem dX2_foretold_104 : decode cX2_foretold 104 = .ok (.iload_n 2, 1) := dk_28 (dk_at dksX2_foretold_4 10 rfl rfl)
theorem dX2_foretold_105 : decode cX2_foretold 105 = .ok (.iconst 1, 1) := dk_4 (dk_at dksX2_foretold_4 11 rfl rfl)
theorem dX2_foretold_106 : decode cX2_foretold 106 = .ok (.if_icmp .ne 7, 3) := dk_160 0 7 (dk_at dksX2_foretold_4 12 rfl rfl)
theorem dX2_foretold_109 : decode cX2_foretold 109 = .ok (.iconst 2, 1) := dk_5 (dk_at dksX2_foretold_4 15 rfl rfl)
theorem dX2_foretold_110 : decode cX2_foretold 110 = .ok (.goto 4, 3) := dk_167 0 4 (dk_at dksX2_foretold_4 16 rfl rfl)
theorem dX2_foretold_113 : decode cX2_foretold 113 = .ok (.iconst 0, 1) := dk_3 (dk_at dksX2_foretold_4 19 rfl rfl)
theorem dX2_foretold_114 : decode cX2_foretold 114 = .ok (.invokevirtual 359, 3) := dk_182 1 103 (dk_at dksX2_foretold_4 20 rfl rfl)
theorem dX2_foretold_117 : decode cX2_foretold 117 = .ok (.istore_n 3, 1) := dk_62 (dk_at dksX2_foretold_4 23 rfl rfl)
theorem dX2_foretold_118 : decode cX2_foretold 118 = .ok (.bipush 6, 2) := dk_16 6 (dk_at dksX2_foretold_5 0 rfl rfl)
theorem dX2_foretold_120 : decode cX2_foretold 120 = .ok (.istore 4, 2) := dk_54 4 (dk_at dksX2_foretold_5 2 rfl rfl)
theorem dX2_foretold_122 : decode cX2_foretold 122 = .ok (.iload 4, 2) := dk_21 4 (dk_at dksX2_foretold_5 4 rfl rfl)
theorem dX2_foretold_124 : decode cX2_foretold 124 = .ok (.bipush 50, 2) := dk_16 50 (dk_at dksX2_foretold_5 6 rfl rfl)
theorem dX2_foretold_126 : decode cX2_foretold 126 = .ok (.if_icmp .ge 23, 3) := dk_162 0 23 (dk_at dksX2_foretold_5 8 rfl rfl)
theorem dX2_foretold_129 : decode cX2_foretold 129 = .ok (.aload_n 0, 1) := dk_42 (dk_at dksX2_foretold_5 11 rfl rfl)
theorem dX2_foretold_130 : decode cX2_foretold 130 = .ok (.getfield 7, 3) := dk_180 0 7 (dk_at dksX2_foretold_5 12 rfl rfl)
theorem dX2_foretold_133 : decode cX2_foretold 133 = .ok (.iload 4, 2) := dk_21 4 (dk_at dksX2_foretold_5 15 rfl rfl)
theorem dX2_foretold_135 : decode cX2_foretold 135 = .ok (.aload_n 0, 1) := dk_42 (dk_at dksX2_foretold_5 17 rfl rfl)
theorem dX2_foretold_136 : decode cX2_foretold 136 = .ok (.getfield 47, 3) := dk_180 0 47 (dk_at dksX2_foretold_5 18 rfl rfl)
theorem dX2_foretold_139 : decode cX2_foretold 139 = .ok (.iload 4, 2) := dk_21 4 (dk_at dksX2_foretold_5 21 rfl rfl)
theorem dX2_foretold_141 : decode cX2_foretold 141 = .ok (.iaload, 1) := dk_46 (dk_at dksX2_foretold_5 23 rfl rfl)
theorem dX2_foretold_142 : decode cX2_foretold 142 = .ok (.iastore, 1) := dk_79 (dk_at dksX2_foretold_6 0 rfl rfl)
theorem dX2_foretold_143 : decode cX2_foretold 143 = .ok (.iinc 4 1, 3) := dk_132 4 1 (dk_at dksX2_foretold_6 1 rfl rfl)
theorem dX2_foretold_146 : decode cX2_foretold 146 = .ok (.goto (-24), 3) := dk_167 255 232 (dk_at dksX2_foretold_6 4 rfl rfl)
theorem dX2_foretold_149 : decode cX2_foretold 149 = .ok (.aload_n 0, 1) := dk_42 (dk_at dksX2_foretold_6 7 rfl rfl)
theorem dX2_foretold_150 : decode cX2_foretold 150 = .ok (.iconst 1, 1) := dk_4 (dk_at dksX2_foretold_6 8 rfl rfl)
theorem dX2_foretold_151 : decode cX2_foretold 151 = .ok (.putfield 43, 3) := dk_181 0 43 (dk_at dksX2_foretold_6 9 rfl rfl)
theorem dX2_foretold_154 : decode cX2_foretold 154 = .ok (.iload_n 3, 1) := dk_29 (dk_at dksX2_foretold_6 12 rfl rfl)
theorem dX2_foretold_155 : decode cX2_foretold 155 = .ok (.ireturn, 1) := dk_172 (dk_at dksX2_foretold_6 13 rfl rfl)
abbrev cX2_after : ByteArray := prog_19_method_100_code
def yX2_after : MethodName := ⟨RX2, "after", "(IJ)I"⟩
def dkwX2_after_0 : List UInt8 := [27, 184, 0, 96, 153, 0, 18, 32, 9, 148, 155, 0, 12, 42, 27, 32, 182, 1, 23, 167, 0, 4, 2, 172]
abbrev dktX2_after_0 : List UInt8 := dkwX2_after_0 ++ []
theorem dksX2_after_0 : cX2_after.data.toList.drop 0 = dktX2_after_0 := by decide +kernel
theorem dX2_after_0 : decode cX2_after 0 = .ok (.iload_n 1, 1) := dk_27 (dk_at dksX2_after_0 0 rfl rfl)
theorem dX2_after_1 : decode cX2_after 1 = .ok (.invokestatic 96, 3) := dk_184 0 96 (dk_at dksX2_after_0 1 rfl rfl)
theorem dX2_after_4 : decode cX2_after 4 = .ok (.ifCond .eq 18, 3) := dk_153 0 18 (dk_at dksX2_after_0 4 rfl rfl)
theorem dX2_after_7 : decode cX2_after 7 = .ok (.lload_n 2, 1) := dk_32 (dk_at dksX2_after_0 7 rfl rfl)
theorem dX2_after_8 : decode cX2_after 8 = .ok (.lconst 0, 1) := dk_9 (dk_at dksX2_after_0 8 rfl rfl)
theorem dX2_after_9 : decode cX2_after 9 = .ok (.lcmp, 1) := dk_148 (dk_at dksX2_after_0 9 rfl rfl)
theorem dX2_after_10 : decode cX2_after 10 = .ok (.ifCond .lt 12, 3) := dk_155 0 12 (dk_at dksX2_after_0 10 rfl rfl)
theorem dX2_after_13 : decode cX2_after 13 = .ok (.aload_n 0, 1) := dk_42 (dk_at dksX2_after_0 13 rfl rfl)
theorem dX2_after_14 : decode cX2_after 14 = .ok (.iload_n 1, 1) := dk_27 (dk_at dksX2_after_0 14 rfl rfl)
theorem dX2_after_15 : decode cX2_after 15 = .ok (.lload_n 2, 1) := dk_32 (dk_at dksX2_after_0 15 rfl rfl)
theorem dX2_after_16 : decode cX2_after 16 = .ok (.invokevirtual 279, 3) := dk_182 1 23 (dk_at dksX2_after_0 16 rfl rfl)
theorem dX2_after_19 : decode cX2_after 19 = .ok (.goto 4, 3) := dk_167 0 4 (dk_at dksX2_after_0 19 rfl rfl)
theorem dX2_after_22 : decode cX2_after 22 = .ok (.iconst (-1), 1) := dk_2 (dk_at dksX2_after_0 22 rfl rfl)
theorem dX2_after_23 : decode cX2_after 23 = .ok (.ireturn, 1) := dk_172 (dk_at dksX2_after_0 23 rfl rfl)
abbrev cX2_ring : ByteArray := prog_19_method_103_code
def yX2_ring : MethodName := ⟨RX2, "ring", "(II)I"⟩
def dkwX2_ring_2 : List UInt8 := [182, 1, 130, 172]
abbrev dktX2_ring_2 : List UInt8 := dkwX2_ring_2 ++ []
def dkwX2_ring_1 : List UInt8 := [182, 1, 130, 184, 1, 133, 167, 0, 21, 28, 4, 160, 0, 11, 42, 27, 182, 1, 136, 167, 0, 8, 42, 27]
abbrev dktX2_ring_1 : List UInt8 := dkwX2_ring_1 ++ dktX2_ring_2
def dkwX2_ring_0 : List UInt8 := [27, 184, 0, 96, 153, 0, 12, 28, 3, 5, 184, 0, 73, 154, 0, 5, 2, 172, 28, 154, 0, 14, 42, 27]
abbrev dktX2_ring_0 : List UInt8 := dkwX2_ring_0 ++ dktX2_ring_1
theorem dksX2_ring_0 : cX2_ring.data.toList.drop 0 = dktX2_ring_0 := by decide +kernel
theorem dksX2_ring_1 : cX2_ring.data.toList.drop 24 = dktX2_ring_1 := dk_seg dksX2_ring_0 24 rfl rfl
theorem dksX2_ring_2 : cX2_ring.data.toList.drop 48 = dktX2_ring_2 := dk_seg dksX2_ring_1 24 rfl rfl
theorem dX2_ring_0 : decode cX2_ring 0 = .ok (.iload_n 1, 1) := dk_27 (dk_at dksX2_ring_0 0 rfl rfl)
theorem dX2_ring_1 : decode cX2_ring 1 = .ok (.invokestatic 96, 3) := dk_184 0 96 (dk_at dksX2_ring_0 1 rfl rfl)
theorem dX2_ring_4 : decode cX2_ring 4 = .ok (.ifCond .eq 12, 3) := dk_153 0 12 (dk_at dksX2_ring_0 4 rfl rfl)
theorem dX2_ring_7 : decode cX2_ring 7 = .ok (.iload_n 2, 1) := dk_28 (dk_at dksX2_ring_0 7 rfl rfl)
theorem dX2_ring_8 : decode cX2_ring 8 = .ok (.iconst 0, 1) := dk_3 (dk_at dksX2_ring_0 8 rfl rfl)
theorem dX2_ring_9 : decode cX2_ring 9 = .ok (.iconst 2, 1) := dk_5 (dk_at dksX2_ring_0 9 rfl rfl)
theorem dX2_ring_10 : decode cX2_ring 10 = .ok (.invokestatic 73, 3) := dk_184 0 73 (dk_at dksX2_ring_0 10 rfl rfl)
theorem dX2_ring_13 : decode cX2_ring 13 = .ok (.ifCond .ne 5, 3) := dk_154 0 5 (dk_at dksX2_ring_0 13 rfl rfl)
theorem dX2_ring_16 : decode cX2_ring 16 = .ok (.iconst (-1), 1) := dk_2 (dk_at dksX2_ring_0 16 rfl rfl)
theorem dX2_ring_17 : decode cX2_ring 17 = .ok (.ireturn, 1) := dk_172 (dk_at dksX2_ring_0 17 rfl rfl)
theorem dX2_ring_18 : decode cX2_ring 18 = .ok (.iload_n 2, 1) := dk_28 (dk_at dksX2_ring_0 18 rfl rfl)
theorem dX2_ring_19 : decode cX2_ring 19 = .ok (.ifCond .ne 14, 3) := dk_154 0 14 (dk_at dksX2_ring_0 19 rfl rfl)
theorem dX2_ring_22 : decode cX2_ring 22 = .ok (.aload_n 0, 1) := dk_42 (dk_at dksX2_ring_0 22 rfl rfl)
theorem dX2_ring_23 : decode cX2_ring 23 = .ok (.iload_n 1, 1) := dk_27 (dk_at dksX2_ring_0 23 rfl rfl)
theorem dX2_ring_24 : decode cX2_ring 24 = .ok (.invokevirtual 386, 3) := dk_182 1 130 (dk_at dksX2_ring_1 0 rfl rfl)
theorem dX2_ring_27 : decode cX2_ring 27 = .ok (.invokestatic 389, 3) := dk_184 1 133 (dk_at dksX2_ring_1 3 rfl rfl)
theorem dX2_ring_30 : decode cX2_ring 30 = .ok (.goto 21, 3) := dk_167 0 21 (dk_at dksX2_ring_1 6 rfl rfl)
theorem dX2_ring_33 : decode cX2_ring 33 = .ok (.iload_n 2, 1) := dk_28 (dk_at dksX2_ring_1 9 rfl rfl)
theorem dX2_ring_34 : decode cX2_ring 34 = .ok (.iconst 1, 1) := dk_4 (dk_at dksX2_ring_1 10 rfl rfl)
theorem dX2_ring_35 : decode cX2_ring 35 = .ok (.if_icmp .ne 11, 3) := dk_160 0 11 (dk_at dksX2_ring_1 11 rfl rfl)
theorem dX2_ring_38 : decode cX2_ring 38 = .ok (.aload_n 0, 1) := dk_42 (dk_at dksX2_ring_1 14 rfl rfl)
theorem dX2_ring_39 : decode cX2_ring 39 = .ok (.iload_n 1, 1) := dk_27 (dk_at dksX2_ring_1 15 rfl rfl)
theorem dX2_ring_40 : decode cX2_ring 40 = .ok (.invokevirtual 392, 3) := dk_182 1 136 (dk_at dksX2_ring_1 16 rfl rfl)
theorem dX2_ring_43 : decode cX2_ring 43 = .ok (.goto 8, 3) := dk_167 0 8 (dk_at dksX2_ring_1 19 rfl rfl)
theorem dX2_ring_46 : decode cX2_ring 46 = .ok (.aload_n 0, 1) := dk_42 (dk_at dksX2_ring_1 22 rfl rfl)
theorem dX2_ring_47 : decode cX2_ring 47 = .ok (.iload_n 1, 1) := dk_27 (dk_at dksX2_ring_1 23 rfl rfl)
theorem dX2_ring_48 : decode cX2_ring 48 = .ok (.invokevirtual 386, 3) := dk_182 1 130 (dk_at dksX2_ring_2 0 rfl rfl)
theorem dX2_ring_51 : decode cX2_ring 51 = .ok (.ireturn, 1) := dk_172 (dk_at dksX2_ring_2 3 rfl rfl)
abbrev cX2_ringOf : ByteArray := prog_19_method_101_code
def yX2_ringOf : MethodName := ⟨RX2, "ringOf", "(I)I"⟩
def dkwX2_ringOf_1 : List UInt8 := [62, 42, 28, 182, 0, 77, 61, 167, 255, 236, 29, 172]
abbrev dktX2_ringOf_1 : List UInt8 := dkwX2_ringOf_1 ++ []
def dkwX2_ringOf_0 : List UInt8 := [42, 27, 20, 1, 21, 182, 1, 23, 61, 3, 62, 29, 28, 184, 1, 0, 154, 0, 18, 29, 4, 28, 120, 128]
abbrev dktX2_ringOf_0 : List UInt8 := dkwX2_ringOf_0 ++ dktX2_ringOf_1
theorem dksX2_ringOf_0 : cX2_ringOf.data.toList.drop 0 = dktX2_ringOf_0 := by decide +kernel
theorem dksX2_ringOf_1 : cX2_ringOf.data.toList.drop 24 = dktX2_ringOf_1 := dk_seg dksX2_ringOf_0 24 rfl rfl
theorem dX2_ringOf_0 : decode cX2_ringOf 0 = .ok (.aload_n 0, 1) := dk_42 (dk_at dksX2_ringOf_0 0 rfl rfl)
theorem dX2_ringOf_1 : decode cX2_ringOf 1 = .ok (.iload_n 1, 1) := dk_27 (dk_at dksX2_ringOf_0 1 rfl rfl)
theorem dX2_ringOf_2 : decode cX2_ringOf 2 = .ok (.ldc2_w 277, 3) := dk_20 1 21 (dk_at dksX2_ringOf_0 2 rfl rfl)
theorem dX2_ringOf_5 : decode cX2_ringOf 5 = .ok (.invokevirtual 279, 3) := dk_182 1 23 (dk_at dksX2_ringOf_0 5 rfl rfl)
theorem dX2_ringOf_8 : decode cX2_ringOf 8 = .ok (.istore_n 2, 1) := dk_61 (dk_at dksX2_ringOf_0 8 rfl rfl)
theorem dX2_ringOf_9 : decode cX2_ringOf 9 = .ok (.iconst 0, 1) := dk_3 (dk_at dksX2_ringOf_0 9 rfl rfl)
theorem dX2_ringOf_10 : decode cX2_ringOf 10 = .ok (.istore_n 3, 1) := dk_62 (dk_at dksX2_ringOf_0 10 rfl rfl)
theorem dX2_ringOf_11 : decode cX2_ringOf 11 = .ok (.iload_n 3, 1) := dk_29 (dk_at dksX2_ringOf_0 11 rfl rfl)
theorem dX2_ringOf_12 : decode cX2_ringOf 12 = .ok (.iload_n 2, 1) := dk_28 (dk_at dksX2_ringOf_0 12 rfl rfl)
theorem dX2_ringOf_13 : decode cX2_ringOf 13 = .ok (.invokestatic 256, 3) := dk_184 1 0 (dk_at dksX2_ringOf_0 13 rfl rfl)
theorem dX2_ringOf_16 : decode cX2_ringOf 16 = .ok (.ifCond .ne 18, 3) := dk_154 0 18 (dk_at dksX2_ringOf_0 16 rfl rfl)
theorem dX2_ringOf_19 : decode cX2_ringOf 19 = .ok (.iload_n 3, 1) := dk_29 (dk_at dksX2_ringOf_0 19 rfl rfl)
theorem dX2_ringOf_20 : decode cX2_ringOf 20 = .ok (.iconst 1, 1) := dk_4 (dk_at dksX2_ringOf_0 20 rfl rfl)
theorem dX2_ringOf_21 : decode cX2_ringOf 21 = .ok (.iload_n 2, 1) := dk_28 (dk_at dksX2_ringOf_0 21 rfl rfl)
theorem dX2_ringOf_22 : decode cX2_ringOf 22 = .ok (.ishl, 1) := dk_120 (dk_at dksX2_ringOf_0 22 rfl rfl)
theorem dX2_ringOf_23 : decode cX2_ringOf 23 = .ok (.ior, 1) := dk_128 (dk_at dksX2_ringOf_0 23 rfl rfl)
theorem dX2_ringOf_24 : decode cX2_ringOf 24 = .ok (.istore_n 3, 1) := dk_62 (dk_at dksX2_ringOf_1 0 rfl rfl)
theorem dX2_ringOf_25 : decode cX2_ringOf 25 = .ok (.aload_n 0, 1) := dk_42 (dk_at dksX2_ringOf_1 1 rfl rfl)
theorem dX2_ringOf_26 : decode cX2_ringOf 26 = .ok (.iload_n 2, 1) := dk_28 (dk_at dksX2_ringOf_1 2 rfl rfl)
theorem dX2_ringOf_27 : decode cX2_ringOf 27 = .ok (.invokevirtual 77, 3) := dk_182 0 77 (dk_at dksX2_ringOf_1 3 rfl rfl)
theorem dX2_ringOf_30 : decode cX2_ringOf 30 = .ok (.istore_n 2, 1) := dk_61 (dk_at dksX2_ringOf_1 6 rfl rfl)
theorem dX2_ringOf_31 : decode cX2_ringOf 31 = .ok (.goto (-20), 3) := dk_167 255 236 (dk_at dksX2_ringOf_1 7 rfl rfl)
theorem dX2_ringOf_34 : decode cX2_ringOf 34 = .ok (.iload_n 3, 1) := dk_29 (dk_at dksX2_ringOf_1 10 rfl rfl)
theorem dX2_ringOf_35 : decode cX2_ringOf 35 = .ok (.ireturn, 1) := dk_172 (dk_at dksX2_ringOf_1 11 rfl rfl)
abbrev cX2_bits : ByteArray := prog_19_method_6_code
def yX2_bits : MethodName := ⟨RX2, "bits", "(I)I"⟩
def dkwX2_bits_0 : List UInt8 := [3, 60, 26, 61, 28, 153, 0, 15, 132, 1, 1, 28, 28, 4, 100, 126, 61, 167, 255, 243, 27, 172]
abbrev dktX2_bits_0 : List UInt8 := dkwX2_bits_0 ++ []
theorem dksX2_bits_0 : cX2_bits.data.toList.drop 0 = dktX2_bits_0 := by decide +kernel
theorem dX2_bits_0 : decode cX2_bits 0 = .ok (.iconst 0, 1) := dk_3 (dk_at dksX2_bits_0 0 rfl rfl)
theorem dX2_bits_1 : decode cX2_bits 1 = .ok (.istore_n 1, 1) := dk_60 (dk_at dksX2_bits_0 1 rfl rfl)
theorem dX2_bits_2 : decode cX2_bits 2 = .ok (.iload_n 0, 1) := dk_26 (dk_at dksX2_bits_0 2 rfl rfl)
theorem dX2_bits_3 : decode cX2_bits 3 = .ok (.istore_n 2, 1) := dk_61 (dk_at dksX2_bits_0 3 rfl rfl)
theorem dX2_bits_4 : decode cX2_bits 4 = .ok (.iload_n 2, 1) := dk_28 (dk_at dksX2_bits_0 4 rfl rfl)
theorem dX2_bits_5 : decode cX2_bits 5 = .ok (.ifCond .eq 15, 3) := dk_153 0 15 (dk_at dksX2_bits_0 5 rfl rfl)
theorem dX2_bits_8 : decode cX2_bits 8 = .ok (.iinc 1 1, 3) := dk_132 1 1 (dk_at dksX2_bits_0 8 rfl rfl)
theorem dX2_bits_11 : decode cX2_bits 11 = .ok (.iload_n 2, 1) := dk_28 (dk_at dksX2_bits_0 11 rfl rfl)
theorem dX2_bits_12 : decode cX2_bits 12 = .ok (.iload_n 2, 1) := dk_28 (dk_at dksX2_bits_0 12 rfl rfl)
theorem dX2_bits_13 : decode cX2_bits 13 = .ok (.iconst 1, 1) := dk_4 (dk_at dksX2_bits_0 13 rfl rfl)
theorem dX2_bits_14 : decode cX2_bits 14 = .ok (.isub, 1) := dk_100 (dk_at dksX2_bits_0 14 rfl rfl)
theorem dX2_bits_15 : decode cX2_bits 15 = .ok (.iand, 1) := dk_126 (dk_at dksX2_bits_0 15 rfl rfl)
theorem dX2_bits_16 : decode cX2_bits 16 = .ok (.istore_n 2, 1) := dk_61 (dk_at dksX2_bits_0 16 rfl rfl)
theorem dX2_bits_17 : decode cX2_bits 17 = .ok (.goto (-13), 3) := dk_167 255 243 (dk_at dksX2_bits_0 17 rfl rfl)
theorem dX2_bits_20 : decode cX2_bits 20 = .ok (.iload_n 1, 1) := dk_27 (dk_at dksX2_bits_0 20 rfl rfl)
theorem dX2_bits_21 : decode cX2_bits 21 = .ok (.ireturn, 1) := dk_172 (dk_at dksX2_bits_0 21 rfl rfl)
abbrev cX2_tillRing : ByteArray := prog_19_method_102_code
def yX2_tillRing : MethodName := ⟨RX2, "tillRing", "(I)I"⟩
def dkwX2_tillRing_1 : List UInt8 := [62, 167, 255, 235, 28, 172]
abbrev dktX2_tillRing_1 : List UInt8 := dkwX2_tillRing_1 ++ []
def dkwX2_tillRing_0 : List UInt8 := [3, 61, 27, 62, 42, 27, 182, 1, 130, 29, 184, 1, 0, 154, 0, 15, 132, 2, 1, 42, 29, 182, 0, 77]
abbrev dktX2_tillRing_0 : List UInt8 := dkwX2_tillRing_0 ++ dktX2_tillRing_1
theorem dksX2_tillRing_0 : cX2_tillRing.data.toList.drop 0 = dktX2_tillRing_0 := by decide +kernel
theorem dksX2_tillRing_1 : cX2_tillRing.data.toList.drop 24 = dktX2_tillRing_1 := dk_seg dksX2_tillRing_0 24 rfl rfl
theorem dX2_tillRing_0 : decode cX2_tillRing 0 = .ok (.iconst 0, 1) := dk_3 (dk_at dksX2_tillRing_0 0 rfl rfl)
theorem dX2_tillRing_1 : decode cX2_tillRing 1 = .ok (.istore_n 2, 1) := dk_61 (dk_at dksX2_tillRing_0 1 rfl rfl)
theorem dX2_tillRing_2 : decode cX2_tillRing 2 = .ok (.iload_n 1, 1) := dk_27 (dk_at dksX2_tillRing_0 2 rfl rfl)
theorem dX2_tillRing_3 : decode cX2_tillRing 3 = .ok (.istore_n 3, 1) := dk_62 (dk_at dksX2_tillRing_0 3 rfl rfl)
theorem dX2_tillRing_4 : decode cX2_tillRing 4 = .ok (.aload_n 0, 1) := dk_42 (dk_at dksX2_tillRing_0 4 rfl rfl)
theorem dX2_tillRing_5 : decode cX2_tillRing 5 = .ok (.iload_n 1, 1) := dk_27 (dk_at dksX2_tillRing_0 5 rfl rfl)
theorem dX2_tillRing_6 : decode cX2_tillRing 6 = .ok (.invokevirtual 386, 3) := dk_182 1 130 (dk_at dksX2_tillRing_0 6 rfl rfl)
theorem dX2_tillRing_9 : decode cX2_tillRing 9 = .ok (.iload_n 3, 1) := dk_29 (dk_at dksX2_tillRing_0 9 rfl rfl)
theorem dX2_tillRing_10 : decode cX2_tillRing 10 = .ok (.invokestatic 256, 3) := dk_184 1 0 (dk_at dksX2_tillRing_0 10 rfl rfl)
theorem dX2_tillRing_13 : decode cX2_tillRing 13 = .ok (.ifCond .ne 15, 3) := dk_154 0 15 (dk_at dksX2_tillRing_0 13 rfl rfl)
theorem dX2_tillRing_16 : decode cX2_tillRing 16 = .ok (.iinc 2 1, 3) := dk_132 2 1 (dk_at dksX2_tillRing_0 16 rfl rfl)
theorem dX2_tillRing_19 : decode cX2_tillRing 19 = .ok (.aload_n 0, 1) := dk_42 (dk_at dksX2_tillRing_0 19 rfl rfl)
theorem dX2_tillRing_20 : decode cX2_tillRing 20 = .ok (.iload_n 3, 1) := dk_29 (dk_at dksX2_tillRing_0 20 rfl rfl)
theorem dX2_tillRing_21 : decode cX2_tillRing 21 = .ok (.invokevirtual 77, 3) := dk_182 0 77 (dk_at dksX2_tillRing_0 21 rfl rfl)
theorem dX2_tillRing_24 : decode cX2_tillRing 24 = .ok (.istore_n 3, 1) := dk_62 (dk_at dksX2_tillRing_1 0 rfl rfl)
theorem dX2_tillRing_25 : decode cX2_tillRing 25 = .ok (.goto (-21), 3) := dk_167 255 235 (dk_at dksX2_tillRing_1 1 rfl rfl)
theorem dX2_tillRing_28 : decode cX2_tillRing 28 = .ok (.iload_n 2, 1) := dk_28 (dk_at dksX2_tillRing_1 4 rfl rfl)
theorem dX2_tillRing_29 : decode cX2_tillRing 29 = .ok (.ireturn, 1) := dk_172 (dk_at dksX2_tillRing_1 5 rfl rfl)
abbrev cX2_rounds : ByteArray := prog_19_method_105_code
def yX2_rounds : MethodName := ⟨RX2, "rounds", "()J"⟩
def dkwX2_rounds_1 : List UInt8 := [109, 42, 29, 182, 1, 130, 184, 1, 133, 133, 105, 64, 132, 3, 1, 167, 255, 221, 31, 173]
abbrev dktX2_rounds_1 : List UInt8 := dkwX2_rounds_1 ++ []
def dkwX2_rounds_0 : List UInt8 := [10, 64, 3, 62, 29, 16, 8, 162, 0, 35, 31, 31, 42, 29, 182, 1, 130, 184, 1, 133, 133, 184, 1, 139]
abbrev dktX2_rounds_0 : List UInt8 := dkwX2_rounds_0 ++ dktX2_rounds_1
theorem dksX2_rounds_0 : cX2_rounds.data.toList.drop 0 = dktX2_rounds_0 := by decide +kernel
theorem dksX2_rounds_1 : cX2_rounds.data.toList.drop 24 = dktX2_rounds_1 := dk_seg dksX2_rounds_0 24 rfl rfl
theorem dX2_rounds_0 : decode cX2_rounds 0 = .ok (.lconst 1, 1) := dk_10 (dk_at dksX2_rounds_0 0 rfl rfl)
theorem dX2_rounds_1 : decode cX2_rounds 1 = .ok (.lstore_n 1, 1) := dk_64 (dk_at dksX2_rounds_0 1 rfl rfl)
theorem dX2_rounds_2 : decode cX2_rounds 2 = .ok (.iconst 0, 1) := dk_3 (dk_at dksX2_rounds_0 2 rfl rfl)
theorem dX2_rounds_3 : decode cX2_rounds 3 = .ok (.istore_n 3, 1) := dk_62 (dk_at dksX2_rounds_0 3 rfl rfl)
theorem dX2_rounds_4 : decode cX2_rounds 4 = .ok (.iload_n 3, 1) := dk_29 (dk_at dksX2_rounds_0 4 rfl rfl)
theorem dX2_rounds_5 : decode cX2_rounds 5 = .ok (.bipush 8, 2) := dk_16 8 (dk_at dksX2_rounds_0 5 rfl rfl)
theorem dX2_rounds_7 : decode cX2_rounds 7 = .ok (.if_icmp .ge 35, 3) := dk_162 0 35 (dk_at dksX2_rounds_0 7 rfl rfl)
theorem dX2_rounds_10 : decode cX2_rounds 10 = .ok (.lload_n 1, 1) := dk_31 (dk_at dksX2_rounds_0 10 rfl rfl)
theorem dX2_rounds_11 : decode cX2_rounds 11 = .ok (.lload_n 1, 1) := dk_31 (dk_at dksX2_rounds_0 11 rfl rfl)
theorem dX2_rounds_12 : decode cX2_rounds 12 = .ok (.aload_n 0, 1) := dk_42 (dk_at dksX2_rounds_0 12 rfl rfl)
theorem dX2_rounds_13 : decode cX2_rounds 13 = .ok (.iload_n 3, 1) := dk_29 (dk_at dksX2_rounds_0 13 rfl rfl)
theorem dX2_rounds_14 : decode cX2_rounds 14 = .ok (.invokevirtual 386, 3) := dk_182 1 130 (dk_at dksX2_rounds_0 14 rfl rfl)
theorem dX2_rounds_17 : decode cX2_rounds 17 = .ok (.invokestatic 389, 3) := dk_184 1 133 (dk_at dksX2_rounds_0 17 rfl rfl)
theorem dX2_rounds_20 : decode cX2_rounds 20 = .ok (.i2l, 1) := dk_133 (dk_at dksX2_rounds_0 20 rfl rfl)
theorem dX2_rounds_21 : decode cX2_rounds 21 = .ok (.invokestatic 395, 3) := dk_184 1 139 (dk_at dksX2_rounds_0 21 rfl rfl)
theorem dX2_rounds_24 : decode cX2_rounds 24 = .ok (.ldiv, 1) := dk_109 (dk_at dksX2_rounds_1 0 rfl rfl)
theorem dX2_rounds_25 : decode cX2_rounds 25 = .ok (.aload_n 0, 1) := dk_42 (dk_at dksX2_rounds_1 1 rfl rfl)
theorem dX2_rounds_26 : decode cX2_rounds 26 = .ok (.iload_n 3, 1) := dk_29 (dk_at dksX2_rounds_1 2 rfl rfl)
theorem dX2_rounds_27 : decode cX2_rounds 27 = .ok (.invokevirtual 386, 3) := dk_182 1 130 (dk_at dksX2_rounds_1 3 rfl rfl)
theorem dX2_rounds_30 : decode cX2_rounds 30 = .ok (.invokestatic 389, 3) := dk_184 1 133 (dk_at dksX2_rounds_1 6 rfl rfl)
theorem dX2_rounds_33 : decode cX2_rounds 33 = .ok (.i2l, 1) := dk_133 (dk_at dksX2_rounds_1 9 rfl rfl)
theorem dX2_rounds_34 : decode cX2_rounds 34 = .ok (.lmul, 1) := dk_105 (dk_at dksX2_rounds_1 10 rfl rfl)
theorem dX2_rounds_35 : decode cX2_rounds 35 = .ok (.lstore_n 1, 1) := dk_64 (dk_at dksX2_rounds_1 11 rfl rfl)
theorem dX2_rounds_36 : decode cX2_rounds 36 = .ok (.iinc 3 1, 3) := dk_132 3 1 (dk_at dksX2_rounds_1 12 rfl rfl)
theorem dX2_rounds_39 : decode cX2_rounds 39 = .ok (.goto (-35), 3) := dk_167 255 221 (dk_at dksX2_rounds_1 15 rfl rfl)
theorem dX2_rounds_42 : decode cX2_rounds 42 = .ok (.lload_n 1, 1) := dk_31 (dk_at dksX2_rounds_1 18 rfl rfl)
theorem dX2_rounds_43 : decode cX2_rounds 43 = .ok (.lreturn, 1) := dk_173 (dk_at dksX2_rounds_1 19 rfl rfl)
abbrev cX2_divisor : ByteArray := prog_19_method_104_code
def yX2_divisor : MethodName := ⟨RX2, "divisor", "(JJ)J"⟩
def dkwX2_divisor_1 : List UInt8 := [22, 8, 55, 6, 167, 255, 234, 22, 4, 173]
abbrev dktX2_divisor_1 : List UInt8 := dkwX2_divisor_1 ++ []
def dkwX2_divisor_0 : List UInt8 := [30, 55, 4, 32, 55, 6, 22, 6, 9, 148, 153, 0, 21, 22, 4, 22, 6, 113, 55, 8, 22, 6, 55, 4]
abbrev dktX2_divisor_0 : List UInt8 := dkwX2_divisor_0 ++ dktX2_divisor_1
theorem dksX2_divisor_0 : cX2_divisor.data.toList.drop 0 = dktX2_divisor_0 := by decide +kernel
theorem dksX2_divisor_1 : cX2_divisor.data.toList.drop 24 = dktX2_divisor_1 := dk_seg dksX2_divisor_0 24 rfl rfl
theorem dX2_divisor_0 : decode cX2_divisor 0 = .ok (.lload_n 0, 1) := dk_30 (dk_at dksX2_divisor_0 0 rfl rfl)
theorem dX2_divisor_1 : decode cX2_divisor 1 = .ok (.lstore 4, 2) := dk_55 4 (dk_at dksX2_divisor_0 1 rfl rfl)
theorem dX2_divisor_3 : decode cX2_divisor 3 = .ok (.lload_n 2, 1) := dk_32 (dk_at dksX2_divisor_0 3 rfl rfl)
theorem dX2_divisor_4 : decode cX2_divisor 4 = .ok (.lstore 6, 2) := dk_55 6 (dk_at dksX2_divisor_0 4 rfl rfl)
theorem dX2_divisor_6 : decode cX2_divisor 6 = .ok (.lload 6, 2) := dk_22 6 (dk_at dksX2_divisor_0 6 rfl rfl)
theorem dX2_divisor_8 : decode cX2_divisor 8 = .ok (.lconst 0, 1) := dk_9 (dk_at dksX2_divisor_0 8 rfl rfl)
theorem dX2_divisor_9 : decode cX2_divisor 9 = .ok (.lcmp, 1) := dk_148 (dk_at dksX2_divisor_0 9 rfl rfl)
theorem dX2_divisor_10 : decode cX2_divisor 10 = .ok (.ifCond .eq 21, 3) := dk_153 0 21 (dk_at dksX2_divisor_0 10 rfl rfl)
theorem dX2_divisor_13 : decode cX2_divisor 13 = .ok (.lload 4, 2) := dk_22 4 (dk_at dksX2_divisor_0 13 rfl rfl)
theorem dX2_divisor_15 : decode cX2_divisor 15 = .ok (.lload 6, 2) := dk_22 6 (dk_at dksX2_divisor_0 15 rfl rfl)
theorem dX2_divisor_17 : decode cX2_divisor 17 = .ok (.lrem, 1) := dk_113 (dk_at dksX2_divisor_0 17 rfl rfl)
theorem dX2_divisor_18 : decode cX2_divisor 18 = .ok (.lstore 8, 2) := dk_55 8 (dk_at dksX2_divisor_0 18 rfl rfl)
theorem dX2_divisor_20 : decode cX2_divisor 20 = .ok (.lload 6, 2) := dk_22 6 (dk_at dksX2_divisor_0 20 rfl rfl)
theorem dX2_divisor_22 : decode cX2_divisor 22 = .ok (.lstore 4, 2) := dk_55 4 (dk_at dksX2_divisor_0 22 rfl rfl)
theorem dX2_divisor_24 : decode cX2_divisor 24 = .ok (.lload 8, 2) := dk_22 8 (dk_at dksX2_divisor_1 0 rfl rfl)
theorem dX2_divisor_26 : decode cX2_divisor 26 = .ok (.lstore 6, 2) := dk_55 6 (dk_at dksX2_divisor_1 2 rfl rfl)
theorem dX2_divisor_28 : decode cX2_divisor 28 = .ok (.goto (-22), 3) := dk_167 255 234 (dk_at dksX2_divisor_1 4 rfl rfl)
theorem dX2_divisor_31 : decode cX2_divisor 31 = .ok (.lload 4, 2) := dk_22 4 (dk_at dksX2_divisor_1 7 rfl rfl)
theorem dX2_divisor_33 : decode cX2_divisor 33 = .ok (.lreturn, 1) := dk_173 (dk_at dksX2_divisor_1 9 rfl rfl)
abbrev cX2_done : ByteArray := prog_19_method_106_code
def yX2_done : MethodName := ⟨RX2, "done", "(I)I"⟩
def dkwX2_done_1 : List UInt8 := [182, 0, 77, 27, 160, 0, 9, 4, 29, 120, 167, 0, 4, 3, 128, 61, 132, 3, 1, 167, 255, 228, 28, 172]
abbrev dktX2_done_1 : List UInt8 := dkwX2_done_1 ++ []
def dkwX2_done_0 : List UInt8 := [27, 184, 0, 96, 154, 0, 5, 2, 172, 3, 61, 3, 62, 29, 16, 8, 162, 0, 28, 28, 42, 29]
abbrev dktX2_done_0 : List UInt8 := dkwX2_done_0 ++ dktX2_done_1
theorem dksX2_done_0 : cX2_done.data.toList.drop 0 = dktX2_done_0 := by decide +kernel
theorem dksX2_done_1 : cX2_done.data.toList.drop 22 = dktX2_done_1 := dk_seg dksX2_done_0 22 rfl rfl
theorem dX2_done_0 : decode cX2_done 0 = .ok (.iload_n 1, 1) := dk_27 (dk_at dksX2_done_0 0 rfl rfl)
theorem dX2_done_1 : decode cX2_done 1 = .ok (.invokestatic 96, 3) := dk_184 0 96 (dk_at dksX2_done_0 1 rfl rfl)
theorem dX2_done_4 : decode cX2_done 4 = .ok (.ifCond .ne 5, 3) := dk_154 0 5 (dk_at dksX2_done_0 4 rfl rfl)
theorem dX2_done_7 : decode cX2_done 7 = .ok (.iconst (-1), 1) := dk_2 (dk_at dksX2_done_0 7 rfl rfl)
theorem dX2_done_8 : decode cX2_done 8 = .ok (.ireturn, 1) := dk_172 (dk_at dksX2_done_0 8 rfl rfl)
theorem dX2_done_9 : decode cX2_done 9 = .ok (.iconst 0, 1) := dk_3 (dk_at dksX2_done_0 9 rfl rfl)
theorem dX2_done_10 : decode cX2_done 10 = .ok (.istore_n 2, 1) := dk_61 (dk_at dksX2_done_0 10 rfl rfl)
theorem dX2_done_11 : decode cX2_done 11 = .ok (.iconst 0, 1) := dk_3 (dk_at dksX2_done_0 11 rfl rfl)
theorem dX2_done_12 : decode cX2_done 12 = .ok (.istore_n 3, 1) := dk_62 (dk_at dksX2_done_0 12 rfl rfl)
theorem dX2_done_13 : decode cX2_done 13 = .ok (.iload_n 3, 1) := dk_29 (dk_at dksX2_done_0 13 rfl rfl)
theorem dX2_done_14 : decode cX2_done 14 = .ok (.bipush 8, 2) := dk_16 8 (dk_at dksX2_done_0 14 rfl rfl)
theorem dX2_done_16 : decode cX2_done 16 = .ok (.if_icmp .ge 28, 3) := dk_162 0 28 (dk_at dksX2_done_0 16 rfl rfl)
theorem dX2_done_19 : decode cX2_done 19 = .ok (.iload_n 2, 1) := dk_28 (dk_at dksX2_done_0 19 rfl rfl)
theorem dX2_done_20 : decode cX2_done 20 = .ok (.aload_n 0, 1) := dk_42 (dk_at dksX2_done_0 20 rfl rfl)
theorem dX2_done_21 : decode cX2_done 21 = .ok (.iload_n 3, 1) := dk_29 (dk_at dksX2_done_0 21 rfl rfl)
theorem dX2_done_22 : decode cX2_done 22 = .ok (.invokevirtual 77, 3) := dk_182 0 77 (dk_at dksX2_done_1 0 rfl rfl)
theorem dX2_done_25 : decode cX2_done 25 = .ok (.iload_n 1, 1) := dk_27 (dk_at dksX2_done_1 3 rfl rfl)
theorem dX2_done_26 : decode cX2_done 26 = .ok (.if_icmp .ne 9, 3) := dk_160 0 9 (dk_at dksX2_done_1 4 rfl rfl)
theorem dX2_done_29 : decode cX2_done 29 = .ok (.iconst 1, 1) := dk_4 (dk_at dksX2_done_1 7 rfl rfl)
theorem dX2_done_30 : decode cX2_done 30 = .ok (.iload_n 3, 1) := dk_29 (dk_at dksX2_done_1 8 rfl rfl)
theorem dX2_done_31 : decode cX2_done 31 = .ok (.ishl, 1) := dk_120 (dk_at dksX2_done_1 9 rfl rfl)
theorem dX2_done_32 : decode cX2_done 32 = .ok (.goto 4, 3) := dk_167 0 4 (dk_at dksX2_done_1 10 rfl rfl)
theorem dX2_done_35 : decode cX2_done 35 = .ok (.iconst 0, 1) := dk_3 (dk_at dksX2_done_1 13 rfl rfl)
theorem dX2_done_36 : decode cX2_done 36 = .ok (.ior, 1) := dk_128 (dk_at dksX2_done_1 14 rfl rfl)
theorem dX2_done_37 : decode cX2_done 37 = .ok (.istore_n 2, 1) := dk_61 (dk_at dksX2_done_1 15 rfl rfl)
theorem dX2_done_38 : decode cX2_done 38 = .ok (.iinc 3 1, 3) := dk_132 3 1 (dk_at dksX2_done_1 16 rfl rfl)
theorem dX2_done_41 : decode cX2_done 41 = .ok (.goto (-28), 3) := dk_167 255 228 (dk_at dksX2_done_1 19 rfl rfl)
theorem dX2_done_44 : decode cX2_done 44 = .ok (.iload_n 2, 1) := dk_28 (dk_at dksX2_done_1 22 rfl rfl)
theorem dX2_done_45 : decode cX2_done 45 = .ok (.ireturn, 1) := dk_172 (dk_at dksX2_done_1 23 rfl rfl)
abbrev cX2_meet : ByteArray := prog_19_method_107_code
def yX2_meet : MethodName := ⟨RX2, "meet", "(II)I"⟩
def dkwX2_meet_2 : List UInt8 := [21, 4, 182, 0, 77, 54, 4, 132, 5, 1, 167, 255, 223, 2, 172]
abbrev dktX2_meet_2 : List UInt8 := dkwX2_meet_2 ++ []
def dkwX2_meet_1 : List UInt8 := [21, 5, 16, 8, 163, 0, 32, 29, 21, 4, 160, 0, 6, 21, 5, 172, 42, 29, 182, 0, 77, 62, 42]
abbrev dktX2_meet_1 : List UInt8 := dkwX2_meet_1 ++ dktX2_meet_2
def dkwX2_meet_0 : List UInt8 := [27, 184, 0, 96, 153, 0, 10, 28, 184, 0, 96, 154, 0, 5, 2, 172, 27, 62, 28, 54, 4, 3, 54, 5]
abbrev dktX2_meet_0 : List UInt8 := dkwX2_meet_0 ++ dktX2_meet_1
theorem dksX2_meet_0 : cX2_meet.data.toList.drop 0 = dktX2_meet_0 := by decide +kernel
theorem dksX2_meet_1 : cX2_meet.data.toList.drop 24 = dktX2_meet_1 := dk_seg dksX2_meet_0 24 rfl rfl
theorem dksX2_meet_2 : cX2_meet.data.toList.drop 47 = dktX2_meet_2 := dk_seg dksX2_meet_1 23 rfl rfl
theorem dX2_meet_0 : decode cX2_meet 0 = .ok (.iload_n 1, 1) := dk_27 (dk_at dksX2_meet_0 0 rfl rfl)
theorem dX2_meet_1 : decode cX2_meet 1 = .ok (.invokestatic 96, 3) := dk_184 0 96 (dk_at dksX2_meet_0 1 rfl rfl)
theorem dX2_meet_4 : decode cX2_meet 4 = .ok (.ifCond .eq 10, 3) := dk_153 0 10 (dk_at dksX2_meet_0 4 rfl rfl)
theorem dX2_meet_7 : decode cX2_meet 7 = .ok (.iload_n 2, 1) := dk_28 (dk_at dksX2_meet_0 7 rfl rfl)
theorem dX2_meet_8 : decode cX2_meet 8 = .ok (.invokestatic 96, 3) := dk_184 0 96 (dk_at dksX2_meet_0 8 rfl rfl)
theorem dX2_meet_11 : decode cX2_meet 11 = .ok (.ifCond .ne 5, 3) := dk_154 0 5 (dk_at dksX2_meet_0 11 rfl rfl)
theorem dX2_meet_14 : decode cX2_meet 14 = .ok (.iconst (-1), 1) := dk_2 (dk_at dksX2_meet_0 14 rfl rfl)
theorem dX2_meet_15 : decode cX2_meet 15 = .ok (.ireturn, 1) := dk_172 (dk_at dksX2_meet_0 15 rfl rfl)
theorem dX2_meet_16 : decode cX2_meet 16 = .ok (.iload_n 1, 1) := dk_27 (dk_at dksX2_meet_0 16 rfl rfl)
theorem dX2_meet_17 : decode cX2_meet 17 = .ok (.istore_n 3, 1) := dk_62 (dk_at dksX2_meet_0 17 rfl rfl)
theorem dX2_meet_18 : decode cX2_meet 18 = .ok (.iload_n 2, 1) := dk_28 (dk_at dksX2_meet_0 18 rfl rfl)
theorem dX2_meet_19 : decode cX2_meet 19 = .ok (.istore 4, 2) := dk_54 4 (dk_at dksX2_meet_0 19 rfl rfl)
theorem dX2_meet_21 : decode cX2_meet 21 = .ok (.iconst 0, 1) := dk_3 (dk_at dksX2_meet_0 21 rfl rfl)
theorem dX2_meet_22 : decode cX2_meet 22 = .ok (.istore 5, 2) := dk_54 5 (dk_at dksX2_meet_0 22 rfl rfl)
theorem dX2_meet_24 : decode cX2_meet 24 = .ok (.iload 5, 2) := dk_21 5 (dk_at dksX2_meet_1 0 rfl rfl)
theorem dX2_meet_26 : decode cX2_meet 26 = .ok (.bipush 8, 2) := dk_16 8 (dk_at dksX2_meet_1 2 rfl rfl)
theorem dX2_meet_28 : decode cX2_meet 28 = .ok (.if_icmp .gt 32, 3) := dk_163 0 32 (dk_at dksX2_meet_1 4 rfl rfl)
theorem dX2_meet_31 : decode cX2_meet 31 = .ok (.iload_n 3, 1) := dk_29 (dk_at dksX2_meet_1 7 rfl rfl)
theorem dX2_meet_32 : decode cX2_meet 32 = .ok (.iload 4, 2) := dk_21 4 (dk_at dksX2_meet_1 8 rfl rfl)
theorem dX2_meet_34 : decode cX2_meet 34 = .ok (.if_icmp .ne 6, 3) := dk_160 0 6 (dk_at dksX2_meet_1 10 rfl rfl)
theorem dX2_meet_37 : decode cX2_meet 37 = .ok (.iload 5, 2) := dk_21 5 (dk_at dksX2_meet_1 13 rfl rfl)
theorem dX2_meet_39 : decode cX2_meet 39 = .ok (.ireturn, 1) := dk_172 (dk_at dksX2_meet_1 15 rfl rfl)
theorem dX2_meet_40 : decode cX2_meet 40 = .ok (.aload_n 0, 1) := dk_42 (dk_at dksX2_meet_1 16 rfl rfl)
theorem dX2_meet_41 : decode cX2_meet 41 = .ok (.iload_n 3, 1) := dk_29 (dk_at dksX2_meet_1 17 rfl rfl)
theorem dX2_meet_42 : decode cX2_meet 42 = .ok (.invokevirtual 77, 3) := dk_182 0 77 (dk_at dksX2_meet_1 18 rfl rfl)
theorem dX2_meet_45 : decode cX2_meet 45 = .ok (.istore_n 3, 1) := dk_62 (dk_at dksX2_meet_1 21 rfl rfl)
theorem dX2_meet_46 : decode cX2_meet 46 = .ok (.aload_n 0, 1) := dk_42 (dk_at dksX2_meet_1 22 rfl rfl)
theorem dX2_meet_47 : decode cX2_meet 47 = .ok (.iload 4, 2) := dk_21 4 (dk_at dksX2_meet_2 0 rfl rfl)
theorem dX2_meet_49 : decode cX2_meet 49 = .ok (.invokevirtual 77, 3) := dk_182 0 77 (dk_at dksX2_meet_2 2 rfl rfl)
theorem dX2_meet_52 : decode cX2_meet 52 = .ok (.istore 4, 2) := dk_54 4 (dk_at dksX2_meet_2 5 rfl rfl)
theorem dX2_meet_54 : decode cX2_meet 54 = .ok (.iinc 5 1, 3) := dk_132 5 1 (dk_at dksX2_meet_2 7 rfl rfl)
theorem dX2_meet_57 : decode cX2_meet 57 = .ok (.goto (-33), 3) := dk_167 255 223 (dk_at dksX2_meet_2 10 rfl rfl)
theorem dX2_meet_60 : decode cX2_meet 60 = .ok (.iconst (-1), 1) := dk_2 (dk_at dksX2_meet_2 13 rfl rfl)
theorem dX2_meet_61 : decode cX2_meet 61 = .ok (.ireturn, 1) := dk_172 (dk_at dksX2_meet_2 14 rfl rfl)
abbrev cX2_outermost : ByteArray := prog_19_method_108_code
def yX2_outermost : MethodName := ⟨RX2, "outermost", "()I"⟩
def dkwX2_outermost_1 : List UInt8 := [60, 132, 2, 1, 167, 255, 232, 27, 172]
abbrev dktX2_outermost_1 : List UInt8 := dkwX2_outermost_1 ++ []
def dkwX2_outermost_0 : List UInt8 := [3, 60, 4, 61, 28, 16, 8, 162, 0, 24, 42, 28, 182, 1, 136, 42, 27, 182, 1, 136, 164, 0, 5, 28]
abbrev dktX2_outermost_0 : List UInt8 := dkwX2_outermost_0 ++ dktX2_outermost_1
theorem dksX2_outermost_0 : cX2_outermost.data.toList.drop 0 = dktX2_outermost_0 := by decide +kernel
theorem dksX2_outermost_1 : cX2_outermost.data.toList.drop 24 = dktX2_outermost_1 := dk_seg dksX2_outermost_0 24 rfl rfl
theorem dX2_outermost_0 : decode cX2_outermost 0 = .ok (.iconst 0, 1) := dk_3 (dk_at dksX2_outermost_0 0 rfl rfl)
theorem dX2_outermost_1 : decode cX2_outermost 1 = .ok (.istore_n 1, 1) := dk_60 (dk_at dksX2_outermost_0 1 rfl rfl)
theorem dX2_outermost_2 : decode cX2_outermost 2 = .ok (.iconst 1, 1) := dk_4 (dk_at dksX2_outermost_0 2 rfl rfl)
theorem dX2_outermost_3 : decode cX2_outermost 3 = .ok (.istore_n 2, 1) := dk_61 (dk_at dksX2_outermost_0 3 rfl rfl)
theorem dX2_outermost_4 : decode cX2_outermost 4 = .ok (.iload_n 2, 1) := dk_28 (dk_at dksX2_outermost_0 4 rfl rfl)
theorem dX2_outermost_5 : decode cX2_outermost 5 = .ok (.bipush 8, 2) := dk_16 8 (dk_at dksX2_outermost_0 5 rfl rfl)
theorem dX2_outermost_7 : decode cX2_outermost 7 = .ok (.if_icmp .ge 24, 3) := dk_162 0 24 (dk_at dksX2_outermost_0 7 rfl rfl)
theorem dX2_outermost_10 : decode cX2_outermost 10 = .ok (.aload_n 0, 1) := dk_42 (dk_at dksX2_outermost_0 10 rfl rfl)
theorem dX2_outermost_11 : decode cX2_outermost 11 = .ok (.iload_n 2, 1) := dk_28 (dk_at dksX2_outermost_0 11 rfl rfl)
theorem dX2_outermost_12 : decode cX2_outermost 12 = .ok (.invokevirtual 392, 3) := dk_182 1 136 (dk_at dksX2_outermost_0 12 rfl rfl)
theorem dX2_outermost_15 : decode cX2_outermost 15 = .ok (.aload_n 0, 1) := dk_42 (dk_at dksX2_outermost_0 15 rfl rfl)
theorem dX2_outermost_16 : decode cX2_outermost 16 = .ok (.iload_n 1, 1) := dk_27 (dk_at dksX2_outermost_0 16 rfl rfl)
theorem dX2_outermost_17 : decode cX2_outermost 17 = .ok (.invokevirtual 392, 3) := dk_182 1 136 (dk_at dksX2_outermost_0 17 rfl rfl)
theorem dX2_outermost_20 : decode cX2_outermost 20 = .ok (.if_icmp .le 5, 3) := dk_164 0 5 (dk_at dksX2_outermost_0 20 rfl rfl)
theorem dX2_outermost_23 : decode cX2_outermost 23 = .ok (.iload_n 2, 1) := dk_28 (dk_at dksX2_outermost_0 23 rfl rfl)
theorem dX2_outermost_24 : decode cX2_outermost 24 = .ok (.istore_n 1, 1) := dk_60 (dk_at dksX2_outermost_1 0 rfl rfl)
theorem dX2_outermost_25 : decode cX2_outermost 25 = .ok (.iinc 2 1, 3) := dk_132 2 1 (dk_at dksX2_outermost_1 1 rfl rfl)
theorem dX2_outermost_28 : decode cX2_outermost 28 = .ok (.goto (-24), 3) := dk_167 255 232 (dk_at dksX2_outermost_1 4 rfl rfl)
theorem dX2_outermost_31 : decode cX2_outermost 31 = .ok (.iload_n 1, 1) := dk_27 (dk_at dksX2_outermost_1 7 rfl rfl)
theorem dX2_outermost_32 : decode cX2_outermost 32 = .ok (.ireturn, 1) := dk_172 (dk_at dksX2_outermost_1 8 rfl rfl)
abbrev cX2_mirrors : ByteArray := prog_19_method_112_code
def yX2_mirrors : MethodName := ⟨RX2, "mirrors", "()I"⟩
def dkwX2_mirrors_2 : List UInt8 := [27, 172]
abbrev dktX2_mirrors_2 : List UInt8 := dkwX2_mirrors_2 ++ []
def dkwX2_mirrors_1 : List UInt8 := [182, 1, 145, 153, 0, 21, 27, 42, 182, 1, 148, 153, 0, 7, 4, 167, 0, 4, 3, 96, 60, 167, 255, 234]
abbrev dktX2_mirrors_1 : List UInt8 := dkwX2_mirrors_1 ++ dktX2_mirrors_2
def dkwX2_mirrors_0 : List UInt8 := [3, 60, 27, 16, 8, 162, 0, 16, 42, 180, 0, 50, 27, 27, 79, 132, 1, 1, 167, 255, 240, 4, 60, 42]
abbrev dktX2_mirrors_0 : List UInt8 := dkwX2_mirrors_0 ++ dktX2_mirrors_1
theorem dksX2_mirrors_0 : cX2_mirrors.data.toList.drop 0 = dktX2_mirrors_0 := by decide +kernel
theorem dksX2_mirrors_1 : cX2_mirrors.data.toList.drop 24 = dktX2_mirrors_1 := dk_seg dksX2_mirrors_0 24 rfl rfl
theorem dksX2_mirrors_2 : cX2_mirrors.data.toList.drop 48 = dktX2_mirrors_2 := dk_seg dksX2_mirrors_1 24 rfl rfl
theorem dX2_mirrors_0 : decode cX2_mirrors 0 = .ok (.iconst 0, 1) := dk_3 (dk_at dksX2_mirrors_0 0 rfl rfl)
theorem dX2_mirrors_1 : decode cX2_mirrors 1 = .ok (.istore_n 1, 1) := dk_60 (dk_at dksX2_mirrors_0 1 rfl rfl)
theorem dX2_mirrors_2 : decode cX2_mirrors 2 = .ok (.iload_n 1, 1) := dk_27 (dk_at dksX2_mirrors_0 2 rfl rfl)
theorem dX2_mirrors_3 : decode cX2_mirrors 3 = .ok (.bipush 8, 2) := dk_16 8 (dk_at dksX2_mirrors_0 3 rfl rfl)
theorem dX2_mirrors_5 : decode cX2_mirrors 5 = .ok (.if_icmp .ge 16, 3) := dk_162 0 16 (dk_at dksX2_mirrors_0 5 rfl rfl)
theorem dX2_mirrors_8 : decode cX2_mirrors 8 = .ok (.aload_n 0, 1) := dk_42 (dk_at dksX2_mirrors_0 8 rfl rfl)
theorem dX2_mirrors_9 : decode cX2_mirrors 9 = .ok (.getfield 50, 3) := dk_180 0 50 (dk_at dksX2_mirrors_0 9 rfl rfl)
theorem dX2_mirrors_12 : decode cX2_mirrors 12 = .ok (.iload_n 1, 1) := dk_27 (dk_at dksX2_mirrors_0 12 rfl rfl)
theorem dX2_mirrors_13 : decode cX2_mirrors 13 = .ok (.iload_n 1, 1) := dk_27 (dk_at dksX2_mirrors_0 13 rfl rfl)
theorem dX2_mirrors_14 : decode cX2_mirrors 14 = .ok (.iastore, 1) := dk_79 (dk_at dksX2_mirrors_0 14 rfl rfl)
theorem dX2_mirrors_15 : decode cX2_mirrors 15 = .ok (.iinc 1 1, 3) := dk_132 1 1 (dk_at dksX2_mirrors_0 15 rfl rfl)
theorem dX2_mirrors_18 : decode cX2_mirrors 18 = .ok (.goto (-16), 3) := dk_167 255 240 (dk_at dksX2_mirrors_0 18 rfl rfl)
theorem dX2_mirrors_21 : decode cX2_mirrors 21 = .ok (.iconst 1, 1) := dk_4 (dk_at dksX2_mirrors_0 21 rfl rfl)
theorem dX2_mirrors_22 : decode cX2_mirrors 22 = .ok (.istore_n 1, 1) := dk_60 (dk_at dksX2_mirrors_0 22 rfl rfl)
theorem dX2_mirrors_23 : decode cX2_mirrors 23 = .ok (.aload_n 0, 1) := dk_42 (dk_at dksX2_mirrors_0 23 rfl rfl)
theorem dX2_mirrors_24 : decode cX2_mirrors 24 = .ok (.invokevirtual 401, 3) := dk_182 1 145 (dk_at dksX2_mirrors_1 0 rfl rfl)
theorem dX2_mirrors_27 : decode cX2_mirrors 27 = .ok (.ifCond .eq 21, 3) := dk_153 0 21 (dk_at dksX2_mirrors_1 3 rfl rfl)
theorem dX2_mirrors_30 : decode cX2_mirrors 30 = .ok (.iload_n 1, 1) := dk_27 (dk_at dksX2_mirrors_1 6 rfl rfl)
theorem dX2_mirrors_31 : decode cX2_mirrors 31 = .ok (.aload_n 0, 1) := dk_42 (dk_at dksX2_mirrors_1 7 rfl rfl)
theorem dX2_mirrors_32 : decode cX2_mirrors 32 = .ok (.invokevirtual 404, 3) := dk_182 1 148 (dk_at dksX2_mirrors_1 8 rfl rfl)
theorem dX2_mirrors_35 : decode cX2_mirrors 35 = .ok (.ifCond .eq 7, 3) := dk_153 0 7 (dk_at dksX2_mirrors_1 11 rfl rfl)
theorem dX2_mirrors_38 : decode cX2_mirrors 38 = .ok (.iconst 1, 1) := dk_4 (dk_at dksX2_mirrors_1 14 rfl rfl)
theorem dX2_mirrors_39 : decode cX2_mirrors 39 = .ok (.goto 4, 3) := dk_167 0 4 (dk_at dksX2_mirrors_1 15 rfl rfl)
theorem dX2_mirrors_42 : decode cX2_mirrors 42 = .ok (.iconst 0, 1) := dk_3 (dk_at dksX2_mirrors_1 18 rfl rfl)
theorem dX2_mirrors_43 : decode cX2_mirrors 43 = .ok (.iadd, 1) := dk_96 (dk_at dksX2_mirrors_1 19 rfl rfl)
theorem dX2_mirrors_44 : decode cX2_mirrors 44 = .ok (.istore_n 1, 1) := dk_60 (dk_at dksX2_mirrors_1 20 rfl rfl)
theorem dX2_mirrors_45 : decode cX2_mirrors 45 = .ok (.goto (-22), 3) := dk_167 255 234 (dk_at dksX2_mirrors_1 21 rfl rfl)
theorem dX2_mirrors_48 : decode cX2_mirrors 48 = .ok (.iload_n 1, 1) := dk_27 (dk_at dksX2_mirrors_2 0 rfl rfl)
theorem dX2_mirrors_49 : decode cX2_mirrors 49 = .ok (.ireturn, 1) := dk_172 (dk_at dksX2_mirrors_2 1 rfl rfl)
abbrev cX2_isNextTurn : ByteArray := prog_19_method_110_code
def yX2_isNextTurn : MethodName := ⟨RX2, "isNextTurn", "()Z"⟩
def dkwX2_isNextTurn_4 : List UInt8 := [167, 255, 237, 4, 172]
abbrev dktX2_isNextTurn_4 : List UInt8 := dkwX2_isNextTurn_4 ++ []
def dkwX2_isNextTurn_3 : List UInt8 := [4, 96, 54, 4, 21, 4, 29, 162, 0, 19, 42, 21, 4, 29, 182, 1, 142, 132, 3, 255, 132, 4, 1]
abbrev dktX2_isNextTurn_3 : List UInt8 := dkwX2_isNextTurn_3 ++ dktX2_isNextTurn_4
def dkwX2_isNextTurn_2 : List UInt8 := [180, 0, 50, 27, 46, 162, 0, 9, 132, 2, 255, 167, 255, 238, 42, 27, 28, 182, 1, 142, 16, 7, 62, 27]
abbrev dktX2_isNextTurn_2 : List UInt8 := dkwX2_isNextTurn_2 ++ dktX2_isNextTurn_3
def dkwX2_isNextTurn_1 : List UInt8 := [132, 1, 255, 167, 255, 232, 27, 156, 0, 5, 3, 172, 16, 7, 61, 42, 180, 0, 50, 28, 46, 42]
abbrev dktX2_isNextTurn_1 : List UInt8 := dkwX2_isNextTurn_1 ++ dktX2_isNextTurn_2
def dkwX2_isNextTurn_0 : List UInt8 := [16, 6, 60, 27, 155, 0, 26, 42, 180, 0, 50, 27, 46, 42, 180, 0, 50, 27, 4, 96, 46, 164, 0, 9]
abbrev dktX2_isNextTurn_0 : List UInt8 := dkwX2_isNextTurn_0 ++ dktX2_isNextTurn_1
theorem dksX2_isNextTurn_0 : cX2_isNextTurn.data.toList.drop 0 = dktX2_isNextTurn_0 := by decide +kernel
theorem dksX2_isNextTurn_1 : cX2_isNextTurn.data.toList.drop 24 = dktX2_isNextTurn_1 := dk_seg dksX2_isNextTurn_0 24 rfl rfl
theorem dksX2_isNextTurn_2 : cX2_isNextTurn.data.toList.drop 46 = dktX2_isNextTurn_2 := dk_seg dksX2_isNextTurn_1 22 rfl rfl
theorem dksX2_isNextTurn_3 : cX2_isNextTurn.data.toList.drop 70 = dktX2_isNextTurn_3 := dk_seg dksX2_isNextTurn_2 24 rfl rfl
theorem dksX2_isNextTurn_4 : cX2_isNextTurn.data.toList.drop 93 = dktX2_isNextTurn_4 := dk_seg dksX2_isNextTurn_3 23 rfl rfl
theorem dX2_isNextTurn_0 : decode cX2_isNextTurn 0 = .ok (.bipush 6, 2) := dk_16 6 (dk_at dksX2_isNextTurn_0 0 rfl rfl)
theorem dX2_isNextTurn_2 : decode cX2_isNextTurn 2 = .ok (.istore_n 1, 1) := dk_60 (dk_at dksX2_isNextTurn_0 2 rfl rfl)
theorem dX2_isNextTurn_3 : decode cX2_isNextTurn 3 = .ok (.iload_n 1, 1) := dk_27 (dk_at dksX2_isNextTurn_0 3 rfl rfl)
theorem dX2_isNextTurn_4 : decode cX2_isNextTurn 4 = .ok (.ifCond .lt 26, 3) := dk_155 0 26 (dk_at dksX2_isNextTurn_0 4 rfl rfl)
theorem dX2_isNextTurn_7 : decode cX2_isNextTurn 7 = .ok (.aload_n 0, 1) := dk_42 (dk_at dksX2_isNextTurn_0 7 rfl rfl)
theorem dX2_isNextTurn_8 : decode cX2_isNextTurn 8 = .ok (.getfield 50, 3) := dk_180 0 50 (dk_at dksX2_isNextTurn_0 8 rfl rfl)
theorem dX2_isNextTurn_11 : decode cX2_isNextTurn 11 = .ok (.iload_n 1, 1) := dk_27 (dk_at dksX2_isNextTurn_0 11 rfl rfl)
theorem dX2_isNextTurn_12 : decode cX2_isNextTurn 12 = .ok (.iaload, 1) := dk_46 (dk_at dksX2_isNextTurn_0 12 rfl rfl)
theorem dX2_isNextTurn_13 : decode cX2_isNextTurn 13 = .ok (.aload_n 0, 1) := dk_42 (dk_at dksX2_isNextTurn_0 13 rfl rfl)
theorem dX2_isNextTurn_14 : decode cX2_isNextTurn 14 = .ok (.getfield 50, 3) := dk_180 0 50 (dk_at dksX2_isNextTurn_0 14 rfl rfl)
theorem dX2_isNextTurn_17 : decode cX2_isNextTurn 17 = .ok (.iload_n 1, 1) := dk_27 (dk_at dksX2_isNextTurn_0 17 rfl rfl)
theorem dX2_isNextTurn_18 : decode cX2_isNextTurn 18 = .ok (.iconst 1, 1) := dk_4 (dk_at dksX2_isNextTurn_0 18 rfl rfl)
theorem dX2_isNextTurn_19 : decode cX2_isNextTurn 19 = .ok (.iadd, 1) := dk_96 (dk_at dksX2_isNextTurn_0 19 rfl rfl)
theorem dX2_isNextTurn_20 : decode cX2_isNextTurn 20 = .ok (.iaload, 1) := dk_46 (dk_at dksX2_isNextTurn_0 20 rfl rfl)
theorem dX2_isNextTurn_21 : decode cX2_isNextTurn 21 = .ok (.if_icmp .le 9, 3) := dk_164 0 9 (dk_at dksX2_isNextTurn_0 21 rfl rfl)
theorem dX2_isNextTurn_24 : decode cX2_isNextTurn 24 = .ok (.iinc 1 (-1), 3) := dk_132 1 255 (dk_at dksX2_isNextTurn_1 0 rfl rfl)
theorem dX2_isNextTurn_27 : decode cX2_isNextTurn 27 = .ok (.goto (-24), 3) := dk_167 255 232 (dk_at dksX2_isNextTurn_1 3 rfl rfl)
theorem dX2_isNextTurn_30 : decode cX2_isNextTurn 30 = .ok (.iload_n 1, 1) := dk_27 (dk_at dksX2_isNextTurn_1 6 rfl rfl)
theorem dX2_isNextTurn_31 : decode cX2_isNextTurn 31 = .ok (.ifCond .ge 5, 3) := dk_156 0 5 (dk_at dksX2_isNextTurn_1 7 rfl rfl)
theorem dX2_isNextTurn_34 : decode cX2_isNextTurn 34 = .ok (.iconst 0, 1) := dk_3 (dk_at dksX2_isNextTurn_1 10 rfl rfl)
theorem dX2_isNextTurn_35 : decode cX2_isNextTurn 35 = .ok (.ireturn, 1) := dk_172 (dk_at dksX2_isNextTurn_1 11 rfl rfl)
theorem dX2_isNextTurn_36 : decode cX2_isNextTurn 36 = .ok (.bipush 7, 2) := dk_16 7 (dk_at dksX2_isNextTurn_1 12 rfl rfl)
theorem dX2_isNextTurn_38 : decode cX2_isNextTurn 38 = .ok (.istore_n 2, 1) := dk_61 (dk_at dksX2_isNextTurn_1 14 rfl rfl)
theorem dX2_isNextTurn_39 : decode cX2_isNextTurn 39 = .ok (.aload_n 0, 1) := dk_42 (dk_at dksX2_isNextTurn_1 15 rfl rfl)
theorem dX2_isNextTurn_40 : decode cX2_isNextTurn 40 = .ok (.getfield 50, 3) := dk_180 0 50 (dk_at dksX2_isNextTurn_1 16 rfl rfl)
theorem dX2_isNextTurn_43 : decode cX2_isNextTurn 43 = .ok (.iload_n 2, 1) := dk_28 (dk_at dksX2_isNextTurn_1 19 rfl rfl)
theorem dX2_isNextTurn_44 : decode cX2_isNextTurn 44 = .ok (.iaload, 1) := dk_46 (dk_at dksX2_isNextTurn_1 20 rfl rfl)
theorem dX2_isNextTurn_45 : decode cX2_isNextTurn 45 = .ok (.aload_n 0, 1) := dk_42 (dk_at dksX2_isNextTurn_1 21 rfl rfl)
theorem dX2_isNextTurn_46 : decode cX2_isNextTurn 46 = .ok (.getfield 50, 3) := dk_180 0 50 (dk_at dksX2_isNextTurn_2 0 rfl rfl)
theorem dX2_isNextTurn_49 : decode cX2_isNextTurn 49 = .ok (.iload_n 1, 1) := dk_27 (dk_at dksX2_isNextTurn_2 3 rfl rfl)
theorem dX2_isNextTurn_50 : decode cX2_isNextTurn 50 = .ok (.iaload, 1) := dk_46 (dk_at dksX2_isNextTurn_2 4 rfl rfl)
theorem dX2_isNextTurn_51 : decode cX2_isNextTurn 51 = .ok (.if_icmp .ge 9, 3) := dk_162 0 9 (dk_at dksX2_isNextTurn_2 5 rfl rfl)
theorem dX2_isNextTurn_54 : decode cX2_isNextTurn 54 = .ok (.iinc 2 (-1), 3) := dk_132 2 255 (dk_at dksX2_isNextTurn_2 8 rfl rfl)
theorem dX2_isNextTurn_57 : decode cX2_isNextTurn 57 = .ok (.goto (-18), 3) := dk_167 255 238 (dk_at dksX2_isNextTurn_2 11 rfl rfl)
theorem dX2_isNextTurn_60 : decode cX2_isNextTurn 60 = .ok (.aload_n 0, 1) := dk_42 (dk_at dksX2_isNextTurn_2 14 rfl rfl)
theorem dX2_isNextTurn_61 : decode cX2_isNextTurn 61 = .ok (.iload_n 1, 1) := dk_27 (dk_at dksX2_isNextTurn_2 15 rfl rfl)
theorem dX2_isNextTurn_62 : decode cX2_isNextTurn 62 = .ok (.iload_n 2, 1) := dk_28 (dk_at dksX2_isNextTurn_2 16 rfl rfl)
theorem dX2_isNextTurn_63 : decode cX2_isNextTurn 63 = .ok (.invokevirtual 398, 3) := dk_182 1 142 (dk_at dksX2_isNextTurn_2 17 rfl rfl)
theorem dX2_isNextTurn_66 : decode cX2_isNextTurn 66 = .ok (.bipush 7, 2) := dk_16 7 (dk_at dksX2_isNextTurn_2 20 rfl rfl)
theorem dX2_isNextTurn_68 : decode cX2_isNextTurn 68 = .ok (.istore_n 3, 1) := dk_62 (dk_at dksX2_isNextTurn_2 22 rfl rfl)
theorem dX2_isNextTurn_69 : decode cX2_isNextTurn 69 = .ok (.iload_n 1, 1) := dk_27 (dk_at dksX2_isNextTurn_2 23 rfl rfl)
theorem dX2_isNextTurn_70 : decode cX2_isNextTurn 70 = .ok (.iconst 1, 1) := dk_4 (dk_at dksX2_isNextTurn_3 0 rfl rfl)
theorem dX2_isNextTurn_71 : decode cX2_isNextTurn 71 = .ok (.iadd, 1) := dk_96 (dk_at dksX2_isNextTurn_3 1 rfl rfl)
theorem dX2_isNextTurn_72 : decode cX2_isNextTurn 72 = .ok (.istore 4, 2) := dk_54 4 (dk_at dksX2_isNextTurn_3 2 rfl rfl)
theorem dX2_isNextTurn_74 : decode cX2_isNextTurn 74 = .ok (.iload 4, 2) := dk_21 4 (dk_at dksX2_isNextTurn_3 4 rfl rfl)
theorem dX2_isNextTurn_76 : decode cX2_isNextTurn 76 = .ok (.iload_n 3, 1) := dk_29 (dk_at dksX2_isNextTurn_3 6 rfl rfl)
theorem dX2_isNextTurn_77 : decode cX2_isNextTurn 77 = .ok (.if_icmp .ge 19, 3) := dk_162 0 19 (dk_at dksX2_isNextTurn_3 7 rfl rfl)
theorem dX2_isNextTurn_80 : decode cX2_isNextTurn 80 = .ok (.aload_n 0, 1) := dk_42 (dk_at dksX2_isNextTurn_3 10 rfl rfl)
theorem dX2_isNextTurn_81 : decode cX2_isNextTurn 81 = .ok (.iload 4, 2) := dk_21 4 (dk_at dksX2_isNextTurn_3 11 rfl rfl)
theorem dX2_isNextTurn_83 : decode cX2_isNextTurn 83 = .ok (.iload_n 3, 1) := dk_29 (dk_at dksX2_isNextTurn_3 13 rfl rfl)
theorem dX2_isNextTurn_84 : decode cX2_isNextTurn 84 = .ok (.invokevirtual 398, 3) := dk_182 1 142 (dk_at dksX2_isNextTurn_3 14 rfl rfl)
theorem dX2_isNextTurn_87 : decode cX2_isNextTurn 87 = .ok (.iinc 3 (-1), 3) := dk_132 3 255 (dk_at dksX2_isNextTurn_3 17 rfl rfl)
theorem dX2_isNextTurn_90 : decode cX2_isNextTurn 90 = .ok (.iinc 4 1, 3) := dk_132 4 1 (dk_at dksX2_isNextTurn_3 20 rfl rfl)
theorem dX2_isNextTurn_93 : decode cX2_isNextTurn 93 = .ok (.goto (-19), 3) := dk_167 255 237 (dk_at dksX2_isNextTurn_4 0 rfl rfl)
theorem dX2_isNextTurn_96 : decode cX2_isNextTurn 96 = .ok (.iconst 1, 1) := dk_4 (dk_at dksX2_isNextTurn_4 3 rfl rfl)
theorem dX2_isNextTurn_97 : decode cX2_isNextTurn 97 = .ok (.ireturn, 1) := dk_172 (dk_at dksX2_isNextTurn_4 4 rfl rfl)
abbrev cX2_swap : ByteArray := prog_19_method_109_code
def yX2_swap : MethodName := ⟨RX2, "swap", "(II)V"⟩
def dkwX2_swap_1 : List UInt8 := [29, 79, 177]
abbrev dktX2_swap_1 : List UInt8 := dkwX2_swap_1 ++ []
def dkwX2_swap_0 : List UInt8 := [42, 180, 0, 50, 27, 46, 62, 42, 180, 0, 50, 27, 42, 180, 0, 50, 28, 46, 79, 42, 180, 0, 50, 28]
abbrev dktX2_swap_0 : List UInt8 := dkwX2_swap_0 ++ dktX2_swap_1
theorem dksX2_swap_0 : cX2_swap.data.toList.drop 0 = dktX2_swap_0 := by decide +kernel
theorem dksX2_swap_1 : cX2_swap.data.toList.drop 24 = dktX2_swap_1 := dk_seg dksX2_swap_0 24 rfl rfl
theorem dX2_swap_0 : decode cX2_swap 0 = .ok (.aload_n 0, 1) := dk_42 (dk_at dksX2_swap_0 0 rfl rfl)
theorem dX2_swap_1 : decode cX2_swap 1 = .ok (.getfield 50, 3) := dk_180 0 50 (dk_at dksX2_swap_0 1 rfl rfl)
theorem dX2_swap_4 : decode cX2_swap 4 = .ok (.iload_n 1, 1) := dk_27 (dk_at dksX2_swap_0 4 rfl rfl)
theorem dX2_swap_5 : decode cX2_swap 5 = .ok (.iaload, 1) := dk_46 (dk_at dksX2_swap_0 5 rfl rfl)
theorem dX2_swap_6 : decode cX2_swap 6 = .ok (.istore_n 3, 1) := dk_62 (dk_at dksX2_swap_0 6 rfl rfl)
theorem dX2_swap_7 : decode cX2_swap 7 = .ok (.aload_n 0, 1) := dk_42 (dk_at dksX2_swap_0 7 rfl rfl)
theorem dX2_swap_8 : decode cX2_swap 8 = .ok (.getfield 50, 3) := dk_180 0 50 (dk_at dksX2_swap_0 8 rfl rfl)
theorem dX2_swap_11 : decode cX2_swap 11 = .ok (.iload_n 1, 1) := dk_27 (dk_at dksX2_swap_0 11 rfl rfl)
theorem dX2_swap_12 : decode cX2_swap 12 = .ok (.aload_n 0, 1) := dk_42 (dk_at dksX2_swap_0 12 rfl rfl)
theorem dX2_swap_13 : decode cX2_swap 13 = .ok (.getfield 50, 3) := dk_180 0 50 (dk_at dksX2_swap_0 13 rfl rfl)
theorem dX2_swap_16 : decode cX2_swap 16 = .ok (.iload_n 2, 1) := dk_28 (dk_at dksX2_swap_0 16 rfl rfl)
theorem dX2_swap_17 : decode cX2_swap 17 = .ok (.iaload, 1) := dk_46 (dk_at dksX2_swap_0 17 rfl rfl)
theorem dX2_swap_18 : decode cX2_swap 18 = .ok (.iastore, 1) := dk_79 (dk_at dksX2_swap_0 18 rfl rfl)
theorem dX2_swap_19 : decode cX2_swap 19 = .ok (.aload_n 0, 1) := dk_42 (dk_at dksX2_swap_0 19 rfl rfl)
theorem dX2_swap_20 : decode cX2_swap 20 = .ok (.getfield 50, 3) := dk_180 0 50 (dk_at dksX2_swap_0 20 rfl rfl)
theorem dX2_swap_23 : decode cX2_swap 23 = .ok (.iload_n 2, 1) := dk_28 (dk_at dksX2_swap_0 23 rfl rfl)
theorem dX2_swap_24 : decode cX2_swap 24 = .ok (.iload_n 3, 1) := dk_29 (dk_at dksX2_swap_1 0 rfl rfl)
theorem dX2_swap_25 : decode cX2_swap 25 = .ok (.iastore, 1) := dk_79 (dk_at dksX2_swap_1 1 rfl rfl)
theorem dX2_swap_26 : decode cX2_swap 26 = .ok (.return_, 1) := dk_177 (dk_at dksX2_swap_1 2 rfl rfl)
abbrev cX2_isMirror : ByteArray := prog_19_method_111_code
def yX2_isMirror : MethodName := ⟨RX2, "isMirror", "()Z"⟩
def dkwX2_isMirror_1 : List UInt8 := [46, 182, 0, 77, 159, 0, 5, 3, 172, 132, 1, 1, 167, 255, 222, 4, 172]
abbrev dktX2_isMirror_1 : List UInt8 := dkwX2_isMirror_1 ++ []
def dkwX2_isMirror_0 : List UInt8 := [3, 60, 27, 16, 8, 162, 0, 34, 42, 180, 0, 50, 42, 27, 182, 0, 77, 46, 42, 42, 180, 0, 50, 27]
abbrev dktX2_isMirror_0 : List UInt8 := dkwX2_isMirror_0 ++ dktX2_isMirror_1
theorem dksX2_isMirror_0 : cX2_isMirror.data.toList.drop 0 = dktX2_isMirror_0 := by decide +kernel
theorem dksX2_isMirror_1 : cX2_isMirror.data.toList.drop 24 = dktX2_isMirror_1 := dk_seg dksX2_isMirror_0 24 rfl rfl
theorem dX2_isMirror_0 : decode cX2_isMirror 0 = .ok (.iconst 0, 1) := dk_3 (dk_at dksX2_isMirror_0 0 rfl rfl)
theorem dX2_isMirror_1 : decode cX2_isMirror 1 = .ok (.istore_n 1, 1) := dk_60 (dk_at dksX2_isMirror_0 1 rfl rfl)
theorem dX2_isMirror_2 : decode cX2_isMirror 2 = .ok (.iload_n 1, 1) := dk_27 (dk_at dksX2_isMirror_0 2 rfl rfl)
theorem dX2_isMirror_3 : decode cX2_isMirror 3 = .ok (.bipush 8, 2) := dk_16 8 (dk_at dksX2_isMirror_0 3 rfl rfl)
theorem dX2_isMirror_5 : decode cX2_isMirror 5 = .ok (.if_icmp .ge 34, 3) := dk_162 0 34 (dk_at dksX2_isMirror_0 5 rfl rfl)
theorem dX2_isMirror_8 : decode cX2_isMirror 8 = .ok (.aload_n 0, 1) := dk_42 (dk_at dksX2_isMirror_0 8 rfl rfl)
theorem dX2_isMirror_9 : decode cX2_isMirror 9 = .ok (.getfield 50, 3) := dk_180 0 50 (dk_at dksX2_isMirror_0 9 rfl rfl)
theorem dX2_isMirror_12 : decode cX2_isMirror 12 = .ok (.aload_n 0, 1) := dk_42 (dk_at dksX2_isMirror_0 12 rfl rfl)
theorem dX2_isMirror_13 : decode cX2_isMirror 13 = .ok (.iload_n 1, 1) := dk_27 (dk_at dksX2_isMirror_0 13 rfl rfl)
theorem dX2_isMirror_14 : decode cX2_isMirror 14 = .ok (.invokevirtual 77, 3) := dk_182 0 77 (dk_at dksX2_isMirror_0 14 rfl rfl)
theorem dX2_isMirror_17 : decode cX2_isMirror 17 = .ok (.iaload, 1) := dk_46 (dk_at dksX2_isMirror_0 17 rfl rfl)
theorem dX2_isMirror_18 : decode cX2_isMirror 18 = .ok (.aload_n 0, 1) := dk_42 (dk_at dksX2_isMirror_0 18 rfl rfl)
theorem dX2_isMirror_19 : decode cX2_isMirror 19 = .ok (.aload_n 0, 1) := dk_42 (dk_at dksX2_isMirror_0 19 rfl rfl)
theorem dX2_isMirror_20 : decode cX2_isMirror 20 = .ok (.getfield 50, 3) := dk_180 0 50 (dk_at dksX2_isMirror_0 20 rfl rfl)
theorem dX2_isMirror_23 : decode cX2_isMirror 23 = .ok (.iload_n 1, 1) := dk_27 (dk_at dksX2_isMirror_0 23 rfl rfl)
theorem dX2_isMirror_24 : decode cX2_isMirror 24 = .ok (.iaload, 1) := dk_46 (dk_at dksX2_isMirror_1 0 rfl rfl)
theorem dX2_isMirror_25 : decode cX2_isMirror 25 = .ok (.invokevirtual 77, 3) := dk_182 0 77 (dk_at dksX2_isMirror_1 1 rfl rfl)
theorem dX2_isMirror_28 : decode cX2_isMirror 28 = .ok (.if_icmp .eq 5, 3) := dk_159 0 5 (dk_at dksX2_isMirror_1 4 rfl rfl)
theorem dX2_isMirror_31 : decode cX2_isMirror 31 = .ok (.iconst 0, 1) := dk_3 (dk_at dksX2_isMirror_1 7 rfl rfl)
theorem dX2_isMirror_32 : decode cX2_isMirror 32 = .ok (.ireturn, 1) := dk_172 (dk_at dksX2_isMirror_1 8 rfl rfl)
theorem dX2_isMirror_33 : decode cX2_isMirror 33 = .ok (.iinc 1 1, 3) := dk_132 1 1 (dk_at dksX2_isMirror_1 9 rfl rfl)
theorem dX2_isMirror_36 : decode cX2_isMirror 36 = .ok (.goto (-34), 3) := dk_167 255 222 (dk_at dksX2_isMirror_1 12 rfl rfl)
theorem dX2_isMirror_39 : decode cX2_isMirror 39 = .ok (.iconst 1, 1) := dk_4 (dk_at dksX2_isMirror_1 15 rfl rfl)
theorem dX2_isMirror_40 : decode cX2_isMirror 40 = .ok (.ireturn, 1) := dk_172 (dk_at dksX2_isMirror_1 16 rfl rfl)
abbrev cX2_sham : ByteArray := prog_19_method_115_code
def yX2_sham : MethodName := ⟨RX2, "sham", "(I)I"⟩
def dkwX2_sham_0 : List UInt8 := [42, 27, 182, 1, 57, 153, 0, 11, 42, 27, 182, 1, 154, 167, 0, 4, 2, 172]
abbrev dktX2_sham_0 : List UInt8 := dkwX2_sham_0 ++ []
theorem dksX2_sham_0 : cX2_sham.data.toList.drop 0 = dktX2_sham_0 := by decide +kernel
theorem dX2_sham_0 : decode cX2_sham 0 = .ok (.aload_n 0, 1) := dk_42 (dk_at dksX2_sham_0 0 rfl rfl)
theorem dX2_sham_1 : decode cX2_sham 1 = .ok (.iload_n 1, 1) := dk_27 (dk_at dksX2_sham_0 1 rfl rfl)
theorem dX2_sham_2 : decode cX2_sham 2 = .ok (.invokevirtual 313, 3) := dk_182 1 57 (dk_at dksX2_sham_0 2 rfl rfl)
theorem dX2_sham_5 : decode cX2_sham 5 = .ok (.ifCond .eq 11, 3) := dk_153 0 11 (dk_at dksX2_sham_0 5 rfl rfl)
theorem dX2_sham_8 : decode cX2_sham 8 = .ok (.aload_n 0, 1) := dk_42 (dk_at dksX2_sham_0 8 rfl rfl)
theorem dX2_sham_9 : decode cX2_sham 9 = .ok (.iload_n 1, 1) := dk_27 (dk_at dksX2_sham_0 9 rfl rfl)
theorem dX2_sham_10 : decode cX2_sham 10 = .ok (.invokevirtual 410, 3) := dk_182 1 154 (dk_at dksX2_sham_0 10 rfl rfl)
theorem dX2_sham_13 : decode cX2_sham 13 = .ok (.goto 4, 3) := dk_167 0 4 (dk_at dksX2_sham_0 13 rfl rfl)
theorem dX2_sham_16 : decode cX2_sham 16 = .ok (.iconst (-1), 1) := dk_2 (dk_at dksX2_sham_0 16 rfl rfl)
theorem dX2_sham_17 : decode cX2_sham 17 = .ok (.ireturn, 1) := dk_172 (dk_at dksX2_sham_0 17 rfl rfl)
abbrev cX2_shamOf : ByteArray := prog_19_method_114_code
def yX2_shamOf : MethodName := ⟨RX2, "shamOf", "(I)I"⟩
def dkwX2_shamOf_1 : List UInt8 := [162, 0, 5, 29, 61, 132, 3, 1, 167, 255, 230, 28, 172]
abbrev dktX2_shamOf_1 : List UInt8 := dkwX2_shamOf_1 ++ []
def dkwX2_shamOf_0 : List UInt8 := [3, 61, 4, 62, 29, 16, 10, 162, 0, 26, 42, 27, 29, 182, 1, 151, 42, 27, 28, 182, 1, 151]
abbrev dktX2_shamOf_0 : List UInt8 := dkwX2_shamOf_0 ++ dktX2_shamOf_1
theorem dksX2_shamOf_0 : cX2_shamOf.data.toList.drop 0 = dktX2_shamOf_0 := by decide +kernel
theorem dksX2_shamOf_1 : cX2_shamOf.data.toList.drop 22 = dktX2_shamOf_1 := dk_seg dksX2_shamOf_0 22 rfl rfl
theorem dX2_shamOf_0 : decode cX2_shamOf 0 = .ok (.iconst 0, 1) := dk_3 (dk_at dksX2_shamOf_0 0 rfl rfl)
theorem dX2_shamOf_1 : decode cX2_shamOf 1 = .ok (.istore_n 2, 1) := dk_61 (dk_at dksX2_shamOf_0 1 rfl rfl)
theorem dX2_shamOf_2 : decode cX2_shamOf 2 = .ok (.iconst 1, 1) := dk_4 (dk_at dksX2_shamOf_0 2 rfl rfl)
theorem dX2_shamOf_3 : decode cX2_shamOf 3 = .ok (.istore_n 3, 1) := dk_62 (dk_at dksX2_shamOf_0 3 rfl rfl)
theorem dX2_shamOf_4 : decode cX2_shamOf 4 = .ok (.iload_n 3, 1) := dk_29 (dk_at dksX2_shamOf_0 4 rfl rfl)
theorem dX2_shamOf_5 : decode cX2_shamOf 5 = .ok (.bipush 10, 2) := dk_16 10 (dk_at dksX2_shamOf_0 5 rfl rfl)
theorem dX2_shamOf_7 : decode cX2_shamOf 7 = .ok (.if_icmp .ge 26, 3) := dk_162 0 26 (dk_at dksX2_shamOf_0 7 rfl rfl)
theorem dX2_shamOf_10 : decode cX2_shamOf 10 = .ok (.aload_n 0, 1) := dk_42 (dk_at dksX2_shamOf_0 10 rfl rfl)
theorem dX2_shamOf_11 : decode cX2_shamOf 11 = .ok (.iload_n 1, 1) := dk_27 (dk_at dksX2_shamOf_0 11 rfl rfl)
theorem dX2_shamOf_12 : decode cX2_shamOf 12 = .ok (.iload_n 3, 1) := dk_29 (dk_at dksX2_shamOf_0 12 rfl rfl)
theorem dX2_shamOf_13 : decode cX2_shamOf 13 = .ok (.invokevirtual 407, 3) := dk_182 1 151 (dk_at dksX2_shamOf_0 13 rfl rfl)
theorem dX2_shamOf_16 : decode cX2_shamOf 16 = .ok (.aload_n 0, 1) := dk_42 (dk_at dksX2_shamOf_0 16 rfl rfl)
theorem dX2_shamOf_17 : decode cX2_shamOf 17 = .ok (.iload_n 1, 1) := dk_27 (dk_at dksX2_shamOf_0 17 rfl rfl)
theorem dX2_shamOf_18 : decode cX2_shamOf 18 = .ok (.iload_n 2, 1) := dk_28 (dk_at dksX2_shamOf_0 18 rfl rfl)
theorem dX2_shamOf_19 : decode cX2_shamOf 19 = .ok (.invokevirtual 407, 3) := dk_182 1 151 (dk_at dksX2_shamOf_0 19 rfl rfl)
theorem dX2_shamOf_22 : decode cX2_shamOf 22 = .ok (.if_icmp .ge 5, 3) := dk_162 0 5 (dk_at dksX2_shamOf_1 0 rfl rfl)
theorem dX2_shamOf_25 : decode cX2_shamOf 25 = .ok (.iload_n 3, 1) := dk_29 (dk_at dksX2_shamOf_1 3 rfl rfl)
theorem dX2_shamOf_26 : decode cX2_shamOf 26 = .ok (.istore_n 2, 1) := dk_61 (dk_at dksX2_shamOf_1 4 rfl rfl)
theorem dX2_shamOf_27 : decode cX2_shamOf 27 = .ok (.iinc 3 1, 3) := dk_132 3 1 (dk_at dksX2_shamOf_1 5 rfl rfl)
theorem dX2_shamOf_30 : decode cX2_shamOf 30 = .ok (.goto (-26), 3) := dk_167 255 230 (dk_at dksX2_shamOf_1 8 rfl rfl)
theorem dX2_shamOf_33 : decode cX2_shamOf 33 = .ok (.iload_n 2, 1) := dk_28 (dk_at dksX2_shamOf_1 11 rfl rfl)
theorem dX2_shamOf_34 : decode cX2_shamOf 34 = .ok (.ireturn, 1) := dk_172 (dk_at dksX2_shamOf_1 12 rfl rfl)
abbrev cX2_ratesBy : ByteArray := prog_19_method_113_code
def yX2_ratesBy : MethodName := ⟨RX2, "ratesBy", "(II)I"⟩
def dkwX2_ratesBy_1 : List UInt8 := [182, 1, 79, 54, 4, 42, 27, 4, 29, 182, 0, 84, 21, 4, 172]
abbrev dktX2_ratesBy_1 : List UInt8 := dkwX2_ratesBy_1 ++ []
def dkwX2_ratesBy_0 : List UInt8 := [42, 27, 4, 182, 0, 92, 62, 42, 27, 4, 28, 182, 0, 84, 42, 42, 180, 0, 7, 5, 46, 27]
abbrev dktX2_ratesBy_0 : List UInt8 := dkwX2_ratesBy_0 ++ dktX2_ratesBy_1
theorem dksX2_ratesBy_0 : cX2_ratesBy.data.toList.drop 0 = dktX2_ratesBy_0 := by decide +kernel
theorem dksX2_ratesBy_1 : cX2_ratesBy.data.toList.drop 22 = dktX2_ratesBy_1 := dk_seg dksX2_ratesBy_0 22 rfl rfl
theorem dX2_ratesBy_0 : decode cX2_ratesBy 0 = .ok (.aload_n 0, 1) := dk_42 (dk_at dksX2_ratesBy_0 0 rfl rfl)
theorem dX2_ratesBy_1 : decode cX2_ratesBy 1 = .ok (.iload_n 1, 1) := dk_27 (dk_at dksX2_ratesBy_0 1 rfl rfl)
theorem dX2_ratesBy_2 : decode cX2_ratesBy 2 = .ok (.iconst 1, 1) := dk_4 (dk_at dksX2_ratesBy_0 2 rfl rfl)
theorem dX2_ratesBy_3 : decode cX2_ratesBy 3 = .ok (.invokevirtual 92, 3) := dk_182 0 92 (dk_at dksX2_ratesBy_0 3 rfl rfl)
theorem dX2_ratesBy_6 : decode cX2_ratesBy 6 = .ok (.istore_n 3, 1) := dk_62 (dk_at dksX2_ratesBy_0 6 rfl rfl)
theorem dX2_ratesBy_7 : decode cX2_ratesBy 7 = .ok (.aload_n 0, 1) := dk_42 (dk_at dksX2_ratesBy_0 7 rfl rfl)
theorem dX2_ratesBy_8 : decode cX2_ratesBy 8 = .ok (.iload_n 1, 1) := dk_27 (dk_at dksX2_ratesBy_0 8 rfl rfl)
theorem dX2_ratesBy_9 : decode cX2_ratesBy 9 = .ok (.iconst 1, 1) := dk_4 (dk_at dksX2_ratesBy_0 9 rfl rfl)
theorem dX2_ratesBy_10 : decode cX2_ratesBy 10 = .ok (.iload_n 2, 1) := dk_28 (dk_at dksX2_ratesBy_0 10 rfl rfl)
theorem dX2_ratesBy_11 : decode cX2_ratesBy 11 = .ok (.invokevirtual 84, 3) := dk_182 0 84 (dk_at dksX2_ratesBy_0 11 rfl rfl)
theorem dX2_ratesBy_14 : decode cX2_ratesBy 14 = .ok (.aload_n 0, 1) := dk_42 (dk_at dksX2_ratesBy_0 14 rfl rfl)
theorem dX2_ratesBy_15 : decode cX2_ratesBy 15 = .ok (.aload_n 0, 1) := dk_42 (dk_at dksX2_ratesBy_0 15 rfl rfl)
theorem dX2_ratesBy_16 : decode cX2_ratesBy 16 = .ok (.getfield 7, 3) := dk_180 0 7 (dk_at dksX2_ratesBy_0 16 rfl rfl)
theorem dX2_ratesBy_19 : decode cX2_ratesBy 19 = .ok (.iconst 2, 1) := dk_5 (dk_at dksX2_ratesBy_0 19 rfl rfl)
theorem dX2_ratesBy_20 : decode cX2_ratesBy 20 = .ok (.iaload, 1) := dk_46 (dk_at dksX2_ratesBy_0 20 rfl rfl)
theorem dX2_ratesBy_21 : decode cX2_ratesBy 21 = .ok (.iload_n 1, 1) := dk_27 (dk_at dksX2_ratesBy_0 21 rfl rfl)
theorem dX2_ratesBy_22 : decode cX2_ratesBy 22 = .ok (.invokevirtual 335, 3) := dk_182 1 79 (dk_at dksX2_ratesBy_1 0 rfl rfl)
theorem dX2_ratesBy_25 : decode cX2_ratesBy 25 = .ok (.istore 4, 2) := dk_54 4 (dk_at dksX2_ratesBy_1 3 rfl rfl)
theorem dX2_ratesBy_27 : decode cX2_ratesBy 27 = .ok (.aload_n 0, 1) := dk_42 (dk_at dksX2_ratesBy_1 5 rfl rfl)
theorem dX2_ratesBy_28 : decode cX2_ratesBy 28 = .ok (.iload_n 1, 1) := dk_27 (dk_at dksX2_ratesBy_1 6 rfl rfl)
theorem dX2_ratesBy_29 : decode cX2_ratesBy 29 = .ok (.iconst 1, 1) := dk_4 (dk_at dksX2_ratesBy_1 7 rfl rfl)
theorem dX2_ratesBy_30 : decode cX2_ratesBy 30 = .ok (.iload_n 3, 1) := dk_29 (dk_at dksX2_ratesBy_1 8 rfl rfl)
theorem dX2_ratesBy_31 : decode cX2_ratesBy 31 = .ok (.invokevirtual 84, 3) := dk_182 0 84 (dk_at dksX2_ratesBy_1 9 rfl rfl)
theorem dX2_ratesBy_34 : decode cX2_ratesBy 34 = .ok (.iload 4, 2) := dk_21 4 (dk_at dksX2_ratesBy_1 12 rfl rfl)
theorem dX2_ratesBy_36 : decode cX2_ratesBy 36 = .ok (.ireturn, 1) := dk_172 (dk_at dksX2_ratesBy_1 14 rfl rfl)
abbrev cX2_shams : ByteArray := prog_19_method_116_code
def yX2_shams : MethodName := ⟨RX2, "shams", "()I"⟩
def dkwX2_shams_2 : List UInt8 := [128, 60, 132, 2, 1, 167, 255, 209, 27, 172]
abbrev dktX2_shams_2 : List UInt8 := dkwX2_shams_2 ++ []
def dkwX2_shams_1 : List UInt8 := [182, 1, 151, 42, 42, 180, 0, 7, 5, 46, 28, 182, 1, 79, 162, 0, 9, 4, 28, 120, 167, 0, 4, 3]
abbrev dktX2_shams_1 : List UInt8 := dkwX2_shams_1 ++ dktX2_shams_2
def dkwX2_shams_0 : List UInt8 := [3, 60, 3, 61, 28, 42, 180, 0, 7, 3, 46, 162, 0, 43, 27, 42, 28, 42, 28, 182, 1, 154]
abbrev dktX2_shams_0 : List UInt8 := dkwX2_shams_0 ++ dktX2_shams_1
theorem dksX2_shams_0 : cX2_shams.data.toList.drop 0 = dktX2_shams_0 := by decide +kernel
theorem dksX2_shams_1 : cX2_shams.data.toList.drop 22 = dktX2_shams_1 := dk_seg dksX2_shams_0 22 rfl rfl
theorem dksX2_shams_2 : cX2_shams.data.toList.drop 46 = dktX2_shams_2 := dk_seg dksX2_shams_1 24 rfl rfl
theorem dX2_shams_0 : decode cX2_shams 0 = .ok (.iconst 0, 1) := dk_3 (dk_at dksX2_shams_0 0 rfl rfl)
theorem dX2_shams_1 : decode cX2_shams 1 = .ok (.istore_n 1, 1) := dk_60 (dk_at dksX2_shams_0 1 rfl rfl)
theorem dX2_shams_2 : decode cX2_shams 2 = .ok (.iconst 0, 1) := dk_3 (dk_at dksX2_shams_0 2 rfl rfl)
theorem dX2_shams_3 : decode cX2_shams 3 = .ok (.istore_n 2, 1) := dk_61 (dk_at dksX2_shams_0 3 rfl rfl)
theorem dX2_shams_4 : decode cX2_shams 4 = .ok (.iload_n 2, 1) := dk_28 (dk_at dksX2_shams_0 4 rfl rfl)
theorem dX2_shams_5 : decode cX2_shams 5 = .ok (.aload_n 0, 1) := dk_42 (dk_at dksX2_shams_0 5 rfl rfl)
theorem dX2_shams_6 : decode cX2_shams 6 = .ok (.getfield 7, 3) := dk_180 0 7 (dk_at dksX2_shams_0 6 rfl rfl)
theorem dX2_shams_9 : decode cX2_shams 9 = .ok (.iconst 0, 1) := dk_3 (dk_at dksX2_shams_0 9 rfl rfl)
theorem dX2_shams_10 : decode cX2_shams 10 = .ok (.iaload, 1) := dk_46 (dk_at dksX2_shams_0 10 rfl rfl)
theorem dX2_shams_11 : decode cX2_shams 11 = .ok (.if_icmp .ge 43, 3) := dk_162 0 43 (dk_at dksX2_shams_0 11 rfl rfl)
theorem dX2_shams_14 : decode cX2_shams 14 = .ok (.iload_n 1, 1) := dk_27 (dk_at dksX2_shams_0 14 rfl rfl)
theorem dX2_shams_15 : decode cX2_shams 15 = .ok (.aload_n 0, 1) := dk_42 (dk_at dksX2_shams_0 15 rfl rfl)
theorem dX2_shams_16 : decode cX2_shams 16 = .ok (.iload_n 2, 1) := dk_28 (dk_at dksX2_shams_0 16 rfl rfl)
theorem dX2_shams_17 : decode cX2_shams 17 = .ok (.aload_n 0, 1) := dk_42 (dk_at dksX2_shams_0 17 rfl rfl)
theorem dX2_shams_18 : decode cX2_shams 18 = .ok (.iload_n 2, 1) := dk_28 (dk_at dksX2_shams_0 18 rfl rfl)
theorem dX2_shams_19 : decode cX2_shams 19 = .ok (.invokevirtual 410, 3) := dk_182 1 154 (dk_at dksX2_shams_0 19 rfl rfl)
theorem dX2_shams_22 : decode cX2_shams 22 = .ok (.invokevirtual 407, 3) := dk_182 1 151 (dk_at dksX2_shams_1 0 rfl rfl)
theorem dX2_shams_25 : decode cX2_shams 25 = .ok (.aload_n 0, 1) := dk_42 (dk_at dksX2_shams_1 3 rfl rfl)
theorem dX2_shams_26 : decode cX2_shams 26 = .ok (.aload_n 0, 1) := dk_42 (dk_at dksX2_shams_1 4 rfl rfl)
theorem dX2_shams_27 : decode cX2_shams 27 = .ok (.getfield 7, 3) := dk_180 0 7 (dk_at dksX2_shams_1 5 rfl rfl)
theorem dX2_shams_30 : decode cX2_shams 30 = .ok (.iconst 2, 1) := dk_5 (dk_at dksX2_shams_1 8 rfl rfl)
theorem dX2_shams_31 : decode cX2_shams 31 = .ok (.iaload, 1) := dk_46 (dk_at dksX2_shams_1 9 rfl rfl)
theorem dX2_shams_32 : decode cX2_shams 32 = .ok (.iload_n 2, 1) := dk_28 (dk_at dksX2_shams_1 10 rfl rfl)
theorem dX2_shams_33 : decode cX2_shams 33 = .ok (.invokevirtual 335, 3) := dk_182 1 79 (dk_at dksX2_shams_1 11 rfl rfl)
theorem dX2_shams_36 : decode cX2_shams 36 = .ok (.if_icmp .ge 9, 3) := dk_162 0 9 (dk_at dksX2_shams_1 14 rfl rfl)
theorem dX2_shams_39 : decode cX2_shams 39 = .ok (.iconst 1, 1) := dk_4 (dk_at dksX2_shams_1 17 rfl rfl)
theorem dX2_shams_40 : decode cX2_shams 40 = .ok (.iload_n 2, 1) := dk_28 (dk_at dksX2_shams_1 18 rfl rfl)
theorem dX2_shams_41 : decode cX2_shams 41 = .ok (.ishl, 1) := dk_120 (dk_at dksX2_shams_1 19 rfl rfl)
theorem dX2_shams_42 : decode cX2_shams 42 = .ok (.goto 4, 3) := dk_167 0 4 (dk_at dksX2_shams_1 20 rfl rfl)
theorem dX2_shams_45 : decode cX2_shams 45 = .ok (.iconst 0, 1) := dk_3 (dk_at dksX2_shams_1 23 rfl rfl)
theorem dX2_shams_46 : decode cX2_shams 46 = .ok (.ior, 1) := dk_128 (dk_at dksX2_shams_2 0 rfl rfl)
theorem dX2_shams_47 : decode cX2_shams 47 = .ok (.istore_n 1, 1) := dk_60 (dk_at dksX2_shams_2 1 rfl rfl)
theorem dX2_shams_48 : decode cX2_shams 48 = .ok (.iinc 2 1, 3) := dk_132 2 1 (dk_at dksX2_shams_2 2 rfl rfl)
theorem dX2_shams_51 : decode cX2_shams 51 = .ok (.goto (-47), 3) := dk_167 255 209 (dk_at dksX2_shams_2 5 rfl rfl)
theorem dX2_shams_54 : decode cX2_shams 54 = .ok (.iload_n 1, 1) := dk_27 (dk_at dksX2_shams_2 8 rfl rfl)
theorem dX2_shams_55 : decode cX2_shams 55 = .ok (.ireturn, 1) := dk_172 (dk_at dksX2_shams_2 9 rfl rfl)
abbrev cX2_till : ByteArray := prog_19_method_117_code
def yX2_till : MethodName := ⟨RX2, "till", "(II)I"⟩
def dkwX2_till_1 : List UInt8 := [182, 0, 92, 164, 0, 14, 28, 42, 27, 3, 182, 0, 92, 100, 167, 0, 4, 3, 172]
abbrev dktX2_till_1 : List UInt8 := dkwX2_till_1 ++ []
def dkwX2_till_0 : List UInt8 := [42, 27, 182, 1, 57, 153, 0, 13, 28, 3, 16, 99, 184, 0, 73, 154, 0, 5, 2, 172, 28, 42, 27, 3]
abbrev dktX2_till_0 : List UInt8 := dkwX2_till_0 ++ dktX2_till_1
theorem dksX2_till_0 : cX2_till.data.toList.drop 0 = dktX2_till_0 := by decide +kernel
theorem dksX2_till_1 : cX2_till.data.toList.drop 24 = dktX2_till_1 := dk_seg dksX2_till_0 24 rfl rfl
theorem dX2_till_0 : decode cX2_till 0 = .ok (.aload_n 0, 1) := dk_42 (dk_at dksX2_till_0 0 rfl rfl)
theorem dX2_till_1 : decode cX2_till 1 = .ok (.iload_n 1, 1) := dk_27 (dk_at dksX2_till_0 1 rfl rfl)
theorem dX2_till_2 : decode cX2_till 2 = .ok (.invokevirtual 313, 3) := dk_182 1 57 (dk_at dksX2_till_0 2 rfl rfl)
theorem dX2_till_5 : decode cX2_till 5 = .ok (.ifCond .eq 13, 3) := dk_153 0 13 (dk_at dksX2_till_0 5 rfl rfl)
theorem dX2_till_8 : decode cX2_till 8 = .ok (.iload_n 2, 1) := dk_28 (dk_at dksX2_till_0 8 rfl rfl)
theorem dX2_till_9 : decode cX2_till 9 = .ok (.iconst 0, 1) := dk_3 (dk_at dksX2_till_0 9 rfl rfl)
theorem dX2_till_10 : decode cX2_till 10 = .ok (.bipush 99, 2) := dk_16 99 (dk_at dksX2_till_0 10 rfl rfl)
theorem dX2_till_12 : decode cX2_till 12 = .ok (.invokestatic 73, 3) := dk_184 0 73 (dk_at dksX2_till_0 12 rfl rfl)
theorem dX2_till_15 : decode cX2_till 15 = .ok (.ifCond .ne 5, 3) := dk_154 0 5 (dk_at dksX2_till_0 15 rfl rfl)
theorem dX2_till_18 : decode cX2_till 18 = .ok (.iconst (-1), 1) := dk_2 (dk_at dksX2_till_0 18 rfl rfl)
theorem dX2_till_19 : decode cX2_till 19 = .ok (.ireturn, 1) := dk_172 (dk_at dksX2_till_0 19 rfl rfl)
theorem dX2_till_20 : decode cX2_till 20 = .ok (.iload_n 2, 1) := dk_28 (dk_at dksX2_till_0 20 rfl rfl)
theorem dX2_till_21 : decode cX2_till 21 = .ok (.aload_n 0, 1) := dk_42 (dk_at dksX2_till_0 21 rfl rfl)
theorem dX2_till_22 : decode cX2_till 22 = .ok (.iload_n 1, 1) := dk_27 (dk_at dksX2_till_0 22 rfl rfl)
theorem dX2_till_23 : decode cX2_till 23 = .ok (.iconst 0, 1) := dk_3 (dk_at dksX2_till_0 23 rfl rfl)
theorem dX2_till_24 : decode cX2_till 24 = .ok (.invokevirtual 92, 3) := dk_182 0 92 (dk_at dksX2_till_1 0 rfl rfl)
theorem dX2_till_27 : decode cX2_till 27 = .ok (.if_icmp .le 14, 3) := dk_164 0 14 (dk_at dksX2_till_1 3 rfl rfl)
theorem dX2_till_30 : decode cX2_till 30 = .ok (.iload_n 2, 1) := dk_28 (dk_at dksX2_till_1 6 rfl rfl)
theorem dX2_till_31 : decode cX2_till 31 = .ok (.aload_n 0, 1) := dk_42 (dk_at dksX2_till_1 7 rfl rfl)
theorem dX2_till_32 : decode cX2_till 32 = .ok (.iload_n 1, 1) := dk_27 (dk_at dksX2_till_1 8 rfl rfl)
theorem dX2_till_33 : decode cX2_till 33 = .ok (.iconst 0, 1) := dk_3 (dk_at dksX2_till_1 9 rfl rfl)
theorem dX2_till_34 : decode cX2_till 34 = .ok (.invokevirtual 92, 3) := dk_182 0 92 (dk_at dksX2_till_1 10 rfl rfl)
theorem dX2_till_37 : decode cX2_till 37 = .ok (.isub, 1) := dk_100 (dk_at dksX2_till_1 13 rfl rfl)
theorem dX2_till_38 : decode cX2_till 38 = .ok (.goto 4, 3) := dk_167 0 4 (dk_at dksX2_till_1 14 rfl rfl)
theorem dX2_till_41 : decode cX2_till 41 = .ok (.iconst 0, 1) := dk_3 (dk_at dksX2_till_1 17 rfl rfl)
theorem dX2_till_42 : decode cX2_till 42 = .ok (.ireturn, 1) := dk_172 (dk_at dksX2_till_1 18 rfl rfl)
abbrev cX2_need : ByteArray := prog_19_method_118_code
def yX2_need : MethodName := ⟨RX2, "need", "(II)Z"⟩
def dkwX2_need_1 : List UInt8 := [27, 96, 28, 79, 4, 172]
abbrev dktX2_need_1 : List UInt8 := dkwX2_need_1 ++ []
def dkwX2_need_0 : List UInt8 := [27, 184, 0, 96, 153, 0, 12, 28, 3, 6, 184, 0, 73, 154, 0, 5, 3, 172, 42, 180, 0, 7, 16, 58]
abbrev dktX2_need_0 : List UInt8 := dkwX2_need_0 ++ dktX2_need_1
theorem dksX2_need_0 : cX2_need.data.toList.drop 0 = dktX2_need_0 := by decide +kernel
theorem dksX2_need_1 : cX2_need.data.toList.drop 24 = dktX2_need_1 := dk_seg dksX2_need_0 24 rfl rfl
theorem dX2_need_0 : decode cX2_need 0 = .ok (.iload_n 1, 1) := dk_27 (dk_at dksX2_need_0 0 rfl rfl)
theorem dX2_need_1 : decode cX2_need 1 = .ok (.invokestatic 96, 3) := dk_184 0 96 (dk_at dksX2_need_0 1 rfl rfl)
theorem dX2_need_4 : decode cX2_need 4 = .ok (.ifCond .eq 12, 3) := dk_153 0 12 (dk_at dksX2_need_0 4 rfl rfl)
theorem dX2_need_7 : decode cX2_need 7 = .ok (.iload_n 2, 1) := dk_28 (dk_at dksX2_need_0 7 rfl rfl)
theorem dX2_need_8 : decode cX2_need 8 = .ok (.iconst 0, 1) := dk_3 (dk_at dksX2_need_0 8 rfl rfl)
theorem dX2_need_9 : decode cX2_need 9 = .ok (.iconst 3, 1) := dk_6 (dk_at dksX2_need_0 9 rfl rfl)
theorem dX2_need_10 : decode cX2_need 10 = .ok (.invokestatic 73, 3) := dk_184 0 73 (dk_at dksX2_need_0 10 rfl rfl)
theorem dX2_need_13 : decode cX2_need 13 = .ok (.ifCond .ne 5, 3) := dk_154 0 5 (dk_at dksX2_need_0 13 rfl rfl)
theorem dX2_need_16 : decode cX2_need 16 = .ok (.iconst 0, 1) := dk_3 (dk_at dksX2_need_0 16 rfl rfl)
theorem dX2_need_17 : decode cX2_need 17 = .ok (.ireturn, 1) := dk_172 (dk_at dksX2_need_0 17 rfl rfl)
theorem dX2_need_18 : decode cX2_need 18 = .ok (.aload_n 0, 1) := dk_42 (dk_at dksX2_need_0 18 rfl rfl)
theorem dX2_need_19 : decode cX2_need 19 = .ok (.getfield 7, 3) := dk_180 0 7 (dk_at dksX2_need_0 19 rfl rfl)
theorem dX2_need_22 : decode cX2_need 22 = .ok (.bipush 58, 2) := dk_16 58 (dk_at dksX2_need_0 22 rfl rfl)
theorem dX2_need_24 : decode cX2_need 24 = .ok (.iload_n 1, 1) := dk_27 (dk_at dksX2_need_1 0 rfl rfl)
theorem dX2_need_25 : decode cX2_need 25 = .ok (.iadd, 1) := dk_96 (dk_at dksX2_need_1 1 rfl rfl)
theorem dX2_need_26 : decode cX2_need 26 = .ok (.iload_n 2, 1) := dk_28 (dk_at dksX2_need_1 2 rfl rfl)
theorem dX2_need_27 : decode cX2_need 27 = .ok (.iastore, 1) := dk_79 (dk_at dksX2_need_1 3 rfl rfl)
theorem dX2_need_28 : decode cX2_need 28 = .ok (.iconst 1, 1) := dk_4 (dk_at dksX2_need_1 4 rfl rfl)
theorem dX2_need_29 : decode cX2_need 29 = .ok (.ireturn, 1) := dk_172 (dk_at dksX2_need_1 5 rfl rfl)
abbrev cX2_booking : ByteArray := prog_19_method_123_code
def yX2_booking : MethodName := ⟨RX2, "booking", "(I)I"⟩
def dkwX2_booking_4 : List UInt8 := [21, 4, 182, 1, 164, 61, 132, 5, 1, 167, 255, 198, 21, 4, 172]
abbrev dktX2_booking_4 : List UInt8 := dkwX2_booking_4 ++ []
def dkwX2_booking_3 : List UInt8 := [21, 4, 182, 1, 164, 46, 29, 21, 5, 100, 4, 100, 159, 0, 9, 132, 4, 1, 167, 255, 221, 42, 28]
abbrev dktX2_booking_3 : List UInt8 := dkwX2_booking_3 ++ dktX2_booking_4
def dkwX2_booking_2 : List UInt8 := [27, 163, 0, 58, 3, 54, 4, 42, 28, 21, 4, 182, 1, 164, 28, 159, 0, 24, 42, 180, 0, 54, 42, 28]
abbrev dktX2_booking_2 : List UInt8 := dkwX2_booking_2 ++ dktX2_booking_3
def dkwX2_booking_1 : List UInt8 := [184, 0, 73, 154, 0, 6, 16, 254, 172, 27, 2, 160, 0, 5, 29, 172, 3, 54, 4, 3, 54, 5, 21, 5]
abbrev dktX2_booking_1 : List UInt8 := dkwX2_booking_1 ++ dktX2_booking_2
def dkwX2_booking_0 : List UInt8 := [42, 182, 1, 167, 61, 42, 180, 0, 54, 28, 46, 62, 29, 19, 1, 163, 159, 0, 14, 27, 2, 29, 4, 100]
abbrev dktX2_booking_0 : List UInt8 := dkwX2_booking_0 ++ dktX2_booking_1
theorem dksX2_booking_0 : cX2_booking.data.toList.drop 0 = dktX2_booking_0 := by decide +kernel
theorem dksX2_booking_1 : cX2_booking.data.toList.drop 24 = dktX2_booking_1 := dk_seg dksX2_booking_0 24 rfl rfl
theorem dksX2_booking_2 : cX2_booking.data.toList.drop 48 = dktX2_booking_2 := dk_seg dksX2_booking_1 24 rfl rfl
theorem dksX2_booking_3 : cX2_booking.data.toList.drop 72 = dktX2_booking_3 := dk_seg dksX2_booking_2 24 rfl rfl
theorem dksX2_booking_4 : cX2_booking.data.toList.drop 95 = dktX2_booking_4 := dk_seg dksX2_booking_3 23 rfl rfl
theorem dX2_booking_0 : decode cX2_booking 0 = .ok (.aload_n 0, 1) := dk_42 (dk_at dksX2_booking_0 0 rfl rfl)
theorem dX2_booking_1 : decode cX2_booking 1 = .ok (.invokevirtual 423, 3) := dk_182 1 167 (dk_at dksX2_booking_0 1 rfl rfl)
theorem dX2_booking_4 : decode cX2_booking 4 = .ok (.istore_n 2, 1) := dk_61 (dk_at dksX2_booking_0 4 rfl rfl)
theorem dX2_booking_5 : decode cX2_booking 5 = .ok (.aload_n 0, 1) := dk_42 (dk_at dksX2_booking_0 5 rfl rfl)
theorem dX2_booking_6 : decode cX2_booking 6 = .ok (.getfield 54, 3) := dk_180 0 54 (dk_at dksX2_booking_0 6 rfl rfl)
theorem dX2_booking_9 : decode cX2_booking 9 = .ok (.iload_n 2, 1) := dk_28 (dk_at dksX2_booking_0 9 rfl rfl)
theorem dX2_booking_10 : decode cX2_booking 10 = .ok (.iaload, 1) := dk_46 (dk_at dksX2_booking_0 10 rfl rfl)
theorem dX2_booking_11 : decode cX2_booking 11 = .ok (.istore_n 3, 1) := dk_62 (dk_at dksX2_booking_0 11 rfl rfl)
theorem dX2_booking_12 : decode cX2_booking 12 = .ok (.iload_n 3, 1) := dk_29 (dk_at dksX2_booking_0 12 rfl rfl)
theorem dX2_booking_13 : decode cX2_booking 13 = .ok (.ldc_w 419, 3) := dk_19 1 163 (dk_at dksX2_booking_0 13 rfl rfl)
theorem dX2_booking_16 : decode cX2_booking 16 = .ok (.if_icmp .eq 14, 3) := dk_159 0 14 (dk_at dksX2_booking_0 16 rfl rfl)
theorem dX2_booking_19 : decode cX2_booking 19 = .ok (.iload_n 1, 1) := dk_27 (dk_at dksX2_booking_0 19 rfl rfl)
theorem dX2_booking_20 : decode cX2_booking 20 = .ok (.iconst (-1), 1) := dk_2 (dk_at dksX2_booking_0 20 rfl rfl)
theorem dX2_booking_21 : decode cX2_booking 21 = .ok (.iload_n 3, 1) := dk_29 (dk_at dksX2_booking_0 21 rfl rfl)
theorem dX2_booking_22 : decode cX2_booking 22 = .ok (.iconst 1, 1) := dk_4 (dk_at dksX2_booking_0 22 rfl rfl)
theorem dX2_booking_23 : decode cX2_booking 23 = .ok (.isub, 1) := dk_100 (dk_at dksX2_booking_0 23 rfl rfl)
theorem dX2_booking_24 : decode cX2_booking 24 = .ok (.invokestatic 73, 3) := dk_184 0 73 (dk_at dksX2_booking_1 0 rfl rfl)
theorem dX2_booking_27 : decode cX2_booking 27 = .ok (.ifCond .ne 6, 3) := dk_154 0 6 (dk_at dksX2_booking_1 3 rfl rfl)
theorem dX2_booking_30 : decode cX2_booking 30 = .ok (.bipush (-2), 2) := dk_16 254 (dk_at dksX2_booking_1 6 rfl rfl)
theorem dX2_booking_32 : decode cX2_booking 32 = .ok (.ireturn, 1) := dk_172 (dk_at dksX2_booking_1 8 rfl rfl)
theorem dX2_booking_33 : decode cX2_booking 33 = .ok (.iload_n 1, 1) := dk_27 (dk_at dksX2_booking_1 9 rfl rfl)
theorem dX2_booking_34 : decode cX2_booking 34 = .ok (.iconst (-1), 1) := dk_2 (dk_at dksX2_booking_1 10 rfl rfl)
theorem dX2_booking_35 : decode cX2_booking 35 = .ok (.if_icmp .ne 5, 3) := dk_160 0 5 (dk_at dksX2_booking_1 11 rfl rfl)
theorem dX2_booking_38 : decode cX2_booking 38 = .ok (.iload_n 3, 1) := dk_29 (dk_at dksX2_booking_1 14 rfl rfl)
theorem dX2_booking_39 : decode cX2_booking 39 = .ok (.ireturn, 1) := dk_172 (dk_at dksX2_booking_1 15 rfl rfl)
theorem dX2_booking_40 : decode cX2_booking 40 = .ok (.iconst 0, 1) := dk_3 (dk_at dksX2_booking_1 16 rfl rfl)
theorem dX2_booking_41 : decode cX2_booking 41 = .ok (.istore 4, 2) := dk_54 4 (dk_at dksX2_booking_1 17 rfl rfl)
theorem dX2_booking_43 : decode cX2_booking 43 = .ok (.iconst 0, 1) := dk_3 (dk_at dksX2_booking_1 19 rfl rfl)
theorem dX2_booking_44 : decode cX2_booking 44 = .ok (.istore 5, 2) := dk_54 5 (dk_at dksX2_booking_1 20 rfl rfl)
theorem dX2_booking_46 : decode cX2_booking 46 = .ok (.iload 5, 2) := dk_21 5 (dk_at dksX2_booking_1 22 rfl rfl)
theorem dX2_booking_48 : decode cX2_booking 48 = .ok (.iload_n 1, 1) := dk_27 (dk_at dksX2_booking_2 0 rfl rfl)
theorem dX2_booking_49 : decode cX2_booking 49 = .ok (.if_icmp .gt 58, 3) := dk_163 0 58 (dk_at dksX2_booking_2 1 rfl rfl)
theorem dX2_booking_52 : decode cX2_booking 52 = .ok (.iconst 0, 1) := dk_3 (dk_at dksX2_booking_2 4 rfl rfl)
theorem dX2_booking_53 : decode cX2_booking 53 = .ok (.istore 4, 2) := dk_54 4 (dk_at dksX2_booking_2 5 rfl rfl)
theorem dX2_booking_55 : decode cX2_booking 55 = .ok (.aload_n 0, 1) := dk_42 (dk_at dksX2_booking_2 7 rfl rfl)
theorem dX2_booking_56 : decode cX2_booking 56 = .ok (.iload_n 2, 1) := dk_28 (dk_at dksX2_booking_2 8 rfl rfl)
theorem dX2_booking_57 : decode cX2_booking 57 = .ok (.iload 4, 2) := dk_21 4 (dk_at dksX2_booking_2 9 rfl rfl)
theorem dX2_booking_59 : decode cX2_booking 59 = .ok (.invokevirtual 420, 3) := dk_182 1 164 (dk_at dksX2_booking_2 11 rfl rfl)
theorem dX2_booking_62 : decode cX2_booking 62 = .ok (.iload_n 2, 1) := dk_28 (dk_at dksX2_booking_2 14 rfl rfl)
theorem dX2_booking_63 : decode cX2_booking 63 = .ok (.if_icmp .eq 24, 3) := dk_159 0 24 (dk_at dksX2_booking_2 15 rfl rfl)
theorem dX2_booking_66 : decode cX2_booking 66 = .ok (.aload_n 0, 1) := dk_42 (dk_at dksX2_booking_2 18 rfl rfl)
theorem dX2_booking_67 : decode cX2_booking 67 = .ok (.getfield 54, 3) := dk_180 0 54 (dk_at dksX2_booking_2 19 rfl rfl)
theorem dX2_booking_70 : decode cX2_booking 70 = .ok (.aload_n 0, 1) := dk_42 (dk_at dksX2_booking_2 22 rfl rfl)
theorem dX2_booking_71 : decode cX2_booking 71 = .ok (.iload_n 2, 1) := dk_28 (dk_at dksX2_booking_2 23 rfl rfl)
theorem dX2_booking_72 : decode cX2_booking 72 = .ok (.iload 4, 2) := dk_21 4 (dk_at dksX2_booking_3 0 rfl rfl)
theorem dX2_booking_74 : decode cX2_booking 74 = .ok (.invokevirtual 420, 3) := dk_182 1 164 (dk_at dksX2_booking_3 2 rfl rfl)
theorem dX2_booking_77 : decode cX2_booking 77 = .ok (.iaload, 1) := dk_46 (dk_at dksX2_booking_3 5 rfl rfl)
theorem dX2_booking_78 : decode cX2_booking 78 = .ok (.iload_n 3, 1) := dk_29 (dk_at dksX2_booking_3 6 rfl rfl)
theorem dX2_booking_79 : decode cX2_booking 79 = .ok (.iload 5, 2) := dk_21 5 (dk_at dksX2_booking_3 7 rfl rfl)
theorem dX2_booking_81 : decode cX2_booking 81 = .ok (.isub, 1) := dk_100 (dk_at dksX2_booking_3 9 rfl rfl)
theorem dX2_booking_82 : decode cX2_booking 82 = .ok (.iconst 1, 1) := dk_4 (dk_at dksX2_booking_3 10 rfl rfl)
theorem dX2_booking_83 : decode cX2_booking 83 = .ok (.isub, 1) := dk_100 (dk_at dksX2_booking_3 11 rfl rfl)
theorem dX2_booking_84 : decode cX2_booking 84 = .ok (.if_icmp .eq 9, 3) := dk_159 0 9 (dk_at dksX2_booking_3 12 rfl rfl)
theorem dX2_booking_87 : decode cX2_booking 87 = .ok (.iinc 4 1, 3) := dk_132 4 1 (dk_at dksX2_booking_3 15 rfl rfl)
theorem dX2_booking_90 : decode cX2_booking 90 = .ok (.goto (-35), 3) := dk_167 255 221 (dk_at dksX2_booking_3 18 rfl rfl)
theorem dX2_booking_93 : decode cX2_booking 93 = .ok (.aload_n 0, 1) := dk_42 (dk_at dksX2_booking_3 21 rfl rfl)
theorem dX2_booking_94 : decode cX2_booking 94 = .ok (.iload_n 2, 1) := dk_28 (dk_at dksX2_booking_3 22 rfl rfl)
theorem dX2_booking_95 : decode cX2_booking 95 = .ok (.iload 4, 2) := dk_21 4 (dk_at dksX2_booking_4 0 rfl rfl)
theorem dX2_booking_97 : decode cX2_booking 97 = .ok (.invokevirtual 420, 3) := dk_182 1 164 (dk_at dksX2_booking_4 2 rfl rfl)
theorem dX2_booking_100 : decode cX2_booking 100 = .ok (.istore_n 2, 1) := dk_61 (dk_at dksX2_booking_4 5 rfl rfl)
theorem dX2_booking_101 : decode cX2_booking 101 = .ok (.iinc 5 1, 3) := dk_132 5 1 (dk_at dksX2_booking_4 6 rfl rfl)
theorem dX2_booking_104 : decode cX2_booking 104 = .ok (.goto (-58), 3) := dk_167 255 198 (dk_at dksX2_booking_4 9 rfl rfl)
theorem dX2_booking_107 : decode cX2_booking 107 = .ok (.iload 4, 2) := dk_21 4 (dk_at dksX2_booking_4 12 rfl rfl)
theorem dX2_booking_109 : decode cX2_booking 109 = .ok (.ireturn, 1) := dk_172 (dk_at dksX2_booking_4 14 rfl rfl)
abbrev cX2_laySittings : ByteArray := prog_19_method_122_code
def yX2_laySittings : MethodName := ⟨RX2, "laySittings", "()I"⟩
def dkwX2_laySittings_5 : List UInt8 := [29, 19, 1, 163, 164, 0, 9, 19, 1, 163, 167, 0, 4, 29, 79, 132, 2, 1, 167, 255, 159, 27, 172]
abbrev dktX2_laySittings_5 : List UInt8 := dkwX2_laySittings_5 ++ []
def dkwX2_laySittings_4 : List UInt8 := [162, 0, 13, 42, 180, 0, 54, 21, 5, 46, 4, 96, 62, 132, 4, 1, 167, 255, 208, 42, 180, 0, 54, 28]
abbrev dktX2_laySittings_4 : List UInt8 := dkwX2_laySittings_4 ++ dktX2_laySittings_5
def dkwX2_laySittings_3 : List UInt8 := [28, 21, 4, 182, 1, 164, 54, 5, 21, 5, 28, 159, 0, 26, 42, 180, 0, 54, 21, 5, 46, 4, 96, 29]
abbrev dktX2_laySittings_3 : List UInt8 := dkwX2_laySittings_3 ++ dktX2_laySittings_4
def dkwX2_laySittings_2 : List UInt8 := [184, 1, 160, 154, 0, 6, 167, 0, 81, 19, 1, 163, 62, 3, 54, 4, 21, 4, 16, 8, 162, 0, 47, 42]
abbrev dktX2_laySittings_2 : List UInt8 := dkwX2_laySittings_2 ++ dktX2_laySittings_3
def dkwX2_laySittings_1 : List UInt8 := [128, 60, 132, 2, 1, 167, 255, 231, 42, 180, 0, 54, 3, 3, 79, 4, 61, 28, 27, 163, 0, 98, 28, 27]
abbrev dktX2_laySittings_1 : List UInt8 := dkwX2_laySittings_1 ++ dktX2_laySittings_2
def dkwX2_laySittings_0 : List UInt8 := [3, 60, 3, 61, 28, 16, 8, 162, 0, 25, 27, 42, 180, 0, 7, 16, 58, 28, 96, 46, 5, 28, 104, 120]
abbrev dktX2_laySittings_0 : List UInt8 := dkwX2_laySittings_0 ++ dktX2_laySittings_1
theorem dksX2_laySittings_0 : cX2_laySittings.data.toList.drop 0 = dktX2_laySittings_0 := by decide +kernel
theorem dksX2_laySittings_1 : cX2_laySittings.data.toList.drop 24 = dktX2_laySittings_1 := dk_seg dksX2_laySittings_0 24 rfl rfl
theorem dksX2_laySittings_2 : cX2_laySittings.data.toList.drop 48 = dktX2_laySittings_2 := dk_seg dksX2_laySittings_1 24 rfl rfl
theorem dksX2_laySittings_3 : cX2_laySittings.data.toList.drop 72 = dktX2_laySittings_3 := dk_seg dksX2_laySittings_2 24 rfl rfl
theorem dksX2_laySittings_4 : cX2_laySittings.data.toList.drop 96 = dktX2_laySittings_4 := dk_seg dksX2_laySittings_3 24 rfl rfl
theorem dksX2_laySittings_5 : cX2_laySittings.data.toList.drop 120 = dktX2_laySittings_5 := dk_seg dksX2_laySittings_4 24 rfl rfl
theorem dX2_laySittings_0 : decode cX2_laySittings 0 = .ok (.iconst 0, 1) := dk_3 (dk_at dksX2_laySittings_0 0 rfl rfl)
theorem dX2_laySittings_1 : decode cX2_laySittings 1 = .ok (.istore_n 1, 1) := dk_60 (dk_at dksX2_laySittings_0 1 rfl rfl)
theorem dX2_laySittings_2 : decode cX2_laySittings 2 = .ok (.iconst 0, 1) := dk_3 (dk_at dksX2_laySittings_0 2 rfl rfl)
theorem dX2_laySittings_3 : decode cX2_laySittings 3 = .ok (.istore_n 2, 1) := dk_61 (dk_at dksX2_laySittings_0 3 rfl rfl)
theorem dX2_laySittings_4 : decode cX2_laySittings 4 = .ok (.iload_n 2, 1) := dk_28 (dk_at dksX2_laySittings_0 4 rfl rfl)
theorem dX2_laySittings_5 : decode cX2_laySittings 5 = .ok (.bipush 8, 2) := dk_16 8 (dk_at dksX2_laySittings_0 5 rfl rfl)
theorem dX2_laySittings_7 : decode cX2_laySittings 7 = .ok (.if_icmp .ge 25, 3) := dk_162 0 25 (dk_at dksX2_laySittings_0 7 rfl rfl)
theorem dX2_laySittings_10 : decode cX2_laySittings 10 = .ok (.iload_n 1, 1) := dk_27 (dk_at dksX2_laySittings_0 10 rfl rfl)
theorem dX2_laySittings_11 : decode cX2_laySittings 11 = .ok (.aload_n 0, 1) := dk_42 (dk_at dksX2_laySittings_0 11 rfl rfl)
theorem dX2_laySittings_12 : decode cX2_laySittings 12 = .ok (.getfield 7, 3) := dk_180 0 7 (dk_at dksX2_laySittings_0 12 rfl rfl)
theorem dX2_laySittings_15 : decode cX2_laySittings 15 = .ok (.bipush 58, 2) := dk_16 58 (dk_at dksX2_laySittings_0 15 rfl rfl)
theorem dX2_laySittings_17 : decode cX2_laySittings 17 = .ok (.iload_n 2, 1) := dk_28 (dk_at dksX2_laySittings_0 17 rfl rfl)
theorem dX2_laySittings_18 : decode cX2_laySittings 18 = .ok (.iadd, 1) := dk_96 (dk_at dksX2_laySittings_0 18 rfl rfl)
theorem dX2_laySittings_19 : decode cX2_laySittings 19 = .ok (.iaload, 1) := dk_46 (dk_at dksX2_laySittings_0 19 rfl rfl)
theorem dX2_laySittings_20 : decode cX2_laySittings 20 = .ok (.iconst 2, 1) := dk_5 (dk_at dksX2_laySittings_0 20 rfl rfl)
theorem dX2_laySittings_21 : decode cX2_laySittings 21 = .ok (.iload_n 2, 1) := dk_28 (dk_at dksX2_laySittings_0 21 rfl rfl)
theorem dX2_laySittings_22 : decode cX2_laySittings 22 = .ok (.imul, 1) := dk_104 (dk_at dksX2_laySittings_0 22 rfl rfl)
theorem dX2_laySittings_23 : decode cX2_laySittings 23 = .ok (.ishl, 1) := dk_120 (dk_at dksX2_laySittings_0 23 rfl rfl)
theorem dX2_laySittings_24 : decode cX2_laySittings 24 = .ok (.ior, 1) := dk_128 (dk_at dksX2_laySittings_1 0 rfl rfl)
theorem dX2_laySittings_25 : decode cX2_laySittings 25 = .ok (.istore_n 1, 1) := dk_60 (dk_at dksX2_laySittings_1 1 rfl rfl)
theorem dX2_laySittings_26 : decode cX2_laySittings 26 = .ok (.iinc 2 1, 3) := dk_132 2 1 (dk_at dksX2_laySittings_1 2 rfl rfl)
theorem dX2_laySittings_29 : decode cX2_laySittings 29 = .ok (.goto (-25), 3) := dk_167 255 231 (dk_at dksX2_laySittings_1 5 rfl rfl)
theorem dX2_laySittings_32 : decode cX2_laySittings 32 = .ok (.aload_n 0, 1) := dk_42 (dk_at dksX2_laySittings_1 8 rfl rfl)
theorem dX2_laySittings_33 : decode cX2_laySittings 33 = .ok (.getfield 54, 3) := dk_180 0 54 (dk_at dksX2_laySittings_1 9 rfl rfl)
theorem dX2_laySittings_36 : decode cX2_laySittings 36 = .ok (.iconst 0, 1) := dk_3 (dk_at dksX2_laySittings_1 12 rfl rfl)
theorem dX2_laySittings_37 : decode cX2_laySittings 37 = .ok (.iconst 0, 1) := dk_3 (dk_at dksX2_laySittings_1 13 rfl rfl)
theorem dX2_laySittings_38 : decode cX2_laySittings 38 = .ok (.iastore, 1) := dk_79 (dk_at dksX2_laySittings_1 14 rfl rfl)
theorem dX2_laySittings_39 : decode cX2_laySittings 39 = .ok (.iconst 1, 1) := dk_4 (dk_at dksX2_laySittings_1 15 rfl rfl)
theorem dX2_laySittings_40 : decode cX2_laySittings 40 = .ok (.istore_n 2, 1) := dk_61 (dk_at dksX2_laySittings_1 16 rfl rfl)
theorem dX2_laySittings_41 : decode cX2_laySittings 41 = .ok (.iload_n 2, 1) := dk_28 (dk_at dksX2_laySittings_1 17 rfl rfl)
theorem dX2_laySittings_42 : decode cX2_laySittings 42 = .ok (.iload_n 1, 1) := dk_27 (dk_at dksX2_laySittings_1 18 rfl rfl)
theorem dX2_laySittings_43 : decode cX2_laySittings 43 = .ok (.if_icmp .gt 98, 3) := dk_163 0 98 (dk_at dksX2_laySittings_1 19 rfl rfl)
theorem dX2_laySittings_46 : decode cX2_laySittings 46 = .ok (.iload_n 2, 1) := dk_28 (dk_at dksX2_laySittings_1 22 rfl rfl)
theorem dX2_laySittings_47 : decode cX2_laySittings 47 = .ok (.iload_n 1, 1) := dk_27 (dk_at dksX2_laySittings_1 23 rfl rfl)
theorem dX2_laySittings_48 : decode cX2_laySittings 48 = .ok (.invokestatic 416, 3) := dk_184 1 160 (dk_at dksX2_laySittings_2 0 rfl rfl)
theorem dX2_laySittings_51 : decode cX2_laySittings 51 = .ok (.ifCond .ne 6, 3) := dk_154 0 6 (dk_at dksX2_laySittings_2 3 rfl rfl)
theorem dX2_laySittings_54 : decode cX2_laySittings 54 = .ok (.goto 81, 3) := dk_167 0 81 (dk_at dksX2_laySittings_2 6 rfl rfl)
theorem dX2_laySittings_57 : decode cX2_laySittings 57 = .ok (.ldc_w 419, 3) := dk_19 1 163 (dk_at dksX2_laySittings_2 9 rfl rfl)
theorem dX2_laySittings_60 : decode cX2_laySittings 60 = .ok (.istore_n 3, 1) := dk_62 (dk_at dksX2_laySittings_2 12 rfl rfl)
theorem dX2_laySittings_61 : decode cX2_laySittings 61 = .ok (.iconst 0, 1) := dk_3 (dk_at dksX2_laySittings_2 13 rfl rfl)
theorem dX2_laySittings_62 : decode cX2_laySittings 62 = .ok (.istore 4, 2) := dk_54 4 (dk_at dksX2_laySittings_2 14 rfl rfl)
theorem dX2_laySittings_64 : decode cX2_laySittings 64 = .ok (.iload 4, 2) := dk_21 4 (dk_at dksX2_laySittings_2 16 rfl rfl)
theorem dX2_laySittings_66 : decode cX2_laySittings 66 = .ok (.bipush 8, 2) := dk_16 8 (dk_at dksX2_laySittings_2 18 rfl rfl)
theorem dX2_laySittings_68 : decode cX2_laySittings 68 = .ok (.if_icmp .ge 47, 3) := dk_162 0 47 (dk_at dksX2_laySittings_2 20 rfl rfl)
theorem dX2_laySittings_71 : decode cX2_laySittings 71 = .ok (.aload_n 0, 1) := dk_42 (dk_at dksX2_laySittings_2 23 rfl rfl)
theorem dX2_laySittings_72 : decode cX2_laySittings 72 = .ok (.iload_n 2, 1) := dk_28 (dk_at dksX2_laySittings_3 0 rfl rfl)
theorem dX2_laySittings_73 : decode cX2_laySittings 73 = .ok (.iload 4, 2) := dk_21 4 (dk_at dksX2_laySittings_3 1 rfl rfl)
theorem dX2_laySittings_75 : decode cX2_laySittings 75 = .ok (.invokevirtual 420, 3) := dk_182 1 164 (dk_at dksX2_laySittings_3 3 rfl rfl)
theorem dX2_laySittings_78 : decode cX2_laySittings 78 = .ok (.istore 5, 2) := dk_54 5 (dk_at dksX2_laySittings_3 6 rfl rfl)
theorem dX2_laySittings_80 : decode cX2_laySittings 80 = .ok (.iload 5, 2) := dk_21 5 (dk_at dksX2_laySittings_3 8 rfl rfl)
theorem dX2_laySittings_82 : decode cX2_laySittings 82 = .ok (.iload_n 2, 1) := dk_28 (dk_at dksX2_laySittings_3 10 rfl rfl)
theorem dX2_laySittings_83 : decode cX2_laySittings 83 = .ok (.if_icmp .eq 26, 3) := dk_159 0 26 (dk_at dksX2_laySittings_3 11 rfl rfl)
theorem dX2_laySittings_86 : decode cX2_laySittings 86 = .ok (.aload_n 0, 1) := dk_42 (dk_at dksX2_laySittings_3 14 rfl rfl)
theorem dX2_laySittings_87 : decode cX2_laySittings 87 = .ok (.getfield 54, 3) := dk_180 0 54 (dk_at dksX2_laySittings_3 15 rfl rfl)
theorem dX2_laySittings_90 : decode cX2_laySittings 90 = .ok (.iload 5, 2) := dk_21 5 (dk_at dksX2_laySittings_3 18 rfl rfl)
theorem dX2_laySittings_92 : decode cX2_laySittings 92 = .ok (.iaload, 1) := dk_46 (dk_at dksX2_laySittings_3 20 rfl rfl)
theorem dX2_laySittings_93 : decode cX2_laySittings 93 = .ok (.iconst 1, 1) := dk_4 (dk_at dksX2_laySittings_3 21 rfl rfl)
theorem dX2_laySittings_94 : decode cX2_laySittings 94 = .ok (.iadd, 1) := dk_96 (dk_at dksX2_laySittings_3 22 rfl rfl)
theorem dX2_laySittings_95 : decode cX2_laySittings 95 = .ok (.iload_n 3, 1) := dk_29 (dk_at dksX2_laySittings_3 23 rfl rfl)
theorem dX2_laySittings_96 : decode cX2_laySittings 96 = .ok (.if_icmp .ge 13, 3) := dk_162 0 13 (dk_at dksX2_laySittings_4 0 rfl rfl)
theorem dX2_laySittings_99 : decode cX2_laySittings 99 = .ok (.aload_n 0, 1) := dk_42 (dk_at dksX2_laySittings_4 3 rfl rfl)
theorem dX2_laySittings_100 : decode cX2_laySittings 100 = .ok (.getfield 54, 3) := dk_180 0 54 (dk_at dksX2_laySittings_4 4 rfl rfl)
theorem dX2_laySittings_103 : decode cX2_laySittings 103 = .ok (.iload 5, 2) := dk_21 5 (dk_at dksX2_laySittings_4 7 rfl rfl)
theorem dX2_laySittings_105 : decode cX2_laySittings 105 = .ok (.iaload, 1) := dk_46 (dk_at dksX2_laySittings_4 9 rfl rfl)
theorem dX2_laySittings_106 : decode cX2_laySittings 106 = .ok (.iconst 1, 1) := dk_4 (dk_at dksX2_laySittings_4 10 rfl rfl)
theorem dX2_laySittings_107 : decode cX2_laySittings 107 = .ok (.iadd, 1) := dk_96 (dk_at dksX2_laySittings_4 11 rfl rfl)
theorem dX2_laySittings_108 : decode cX2_laySittings 108 = .ok (.istore_n 3, 1) := dk_62 (dk_at dksX2_laySittings_4 12 rfl rfl)
theorem dX2_laySittings_109 : decode cX2_laySittings 109 = .ok (.iinc 4 1, 3) := dk_132 4 1 (dk_at dksX2_laySittings_4 13 rfl rfl)
theorem dX2_laySittings_112 : decode cX2_laySittings 112 = .ok (.goto (-48), 3) := dk_167 255 208 (dk_at dksX2_laySittings_4 16 rfl rfl)
theorem dX2_laySittings_115 : decode cX2_laySittings 115 = .ok (.aload_n 0, 1) := dk_42 (dk_at dksX2_laySittings_4 19 rfl rfl)
theorem dX2_laySittings_116 : decode cX2_laySittings 116 = .ok (.getfield 54, 3) := dk_180 0 54 (dk_at dksX2_laySittings_4 20 rfl rfl)
theorem dX2_laySittings_119 : decode cX2_laySittings 119 = .ok (.iload_n 2, 1) := dk_28 (dk_at dksX2_laySittings_4 23 rfl rfl)
theorem dX2_laySittings_120 : decode cX2_laySittings 120 = .ok (.iload_n 3, 1) := dk_29 (dk_at dksX2_laySittings_5 0 rfl rfl)
theorem dX2_laySittings_121 : decode cX2_laySittings 121 = .ok (.ldc_w 419, 3) := dk_19 1 163 (dk_at dksX2_laySittings_5 1 rfl rfl)
theorem dX2_laySittings_124 : decode cX2_laySittings 124 = .ok (.if_icmp .le 9, 3) := dk_164 0 9 (dk_at dksX2_laySittings_5 4 rfl rfl)
theorem dX2_laySittings_127 : decode cX2_laySittings 127 = .ok (.ldc_w 419, 3) := dk_19 1 163 (dk_at dksX2_laySittings_5 7 rfl rfl)
theorem dX2_laySittings_130 : decode cX2_laySittings 130 = .ok (.goto 4, 3) := dk_167 0 4 (dk_at dksX2_laySittings_5 10 rfl rfl)
theorem dX2_laySittings_133 : decode cX2_laySittings 133 = .ok (.iload_n 3, 1) := dk_29 (dk_at dksX2_laySittings_5 13 rfl rfl)
theorem dX2_laySittings_134 : decode cX2_laySittings 134 = .ok (.iastore, 1) := dk_79 (dk_at dksX2_laySittings_5 14 rfl rfl)
theorem dX2_laySittings_135 : decode cX2_laySittings 135 = .ok (.iinc 2 1, 3) := dk_132 2 1 (dk_at dksX2_laySittings_5 15 rfl rfl)
theorem dX2_laySittings_138 : decode cX2_laySittings 138 = .ok (.goto (-97), 3) := dk_167 255 159 (dk_at dksX2_laySittings_5 18 rfl rfl)
theorem dX2_laySittings_141 : decode cX2_laySittings 141 = .ok (.iload_n 1, 1) := dk_27 (dk_at dksX2_laySittings_5 21 rfl rfl)
theorem dX2_laySittings_142 : decode cX2_laySittings 142 = .ok (.ireturn, 1) := dk_172 (dk_at dksX2_laySittings_5 22 rfl rfl)
abbrev cX2_isWithin : ByteArray := prog_19_method_121_code
def yX2_isWithin : MethodName := ⟨RX2, "isWithin", "(II)Z"⟩
def dkwX2_isWithin_1 : List UInt8 := [164, 0, 5, 3, 172, 132, 2, 1, 167, 255, 228, 4, 172]
abbrev dktX2_isWithin_1 : List UInt8 := dkwX2_isWithin_1 ++ []
def dkwX2_isWithin_0 : List UInt8 := [3, 61, 28, 16, 8, 162, 0, 28, 26, 5, 28, 104, 122, 6, 126, 27, 5, 28, 104, 122, 6, 126]
abbrev dktX2_isWithin_0 : List UInt8 := dkwX2_isWithin_0 ++ dktX2_isWithin_1
theorem dksX2_isWithin_0 : cX2_isWithin.data.toList.drop 0 = dktX2_isWithin_0 := by decide +kernel
theorem dksX2_isWithin_1 : cX2_isWithin.data.toList.drop 22 = dktX2_isWithin_1 := dk_seg dksX2_isWithin_0 22 rfl rfl
theorem dX2_isWithin_0 : decode cX2_isWithin 0 = .ok (.iconst 0, 1) := dk_3 (dk_at dksX2_isWithin_0 0 rfl rfl)
theorem dX2_isWithin_1 : decode cX2_isWithin 1 = .ok (.istore_n 2, 1) := dk_61 (dk_at dksX2_isWithin_0 1 rfl rfl)
theorem dX2_isWithin_2 : decode cX2_isWithin 2 = .ok (.iload_n 2, 1) := dk_28 (dk_at dksX2_isWithin_0 2 rfl rfl)
theorem dX2_isWithin_3 : decode cX2_isWithin 3 = .ok (.bipush 8, 2) := dk_16 8 (dk_at dksX2_isWithin_0 3 rfl rfl)
theorem dX2_isWithin_5 : decode cX2_isWithin 5 = .ok (.if_icmp .ge 28, 3) := dk_162 0 28 (dk_at dksX2_isWithin_0 5 rfl rfl)
theorem dX2_isWithin_8 : decode cX2_isWithin 8 = .ok (.iload_n 0, 1) := dk_26 (dk_at dksX2_isWithin_0 8 rfl rfl)
theorem dX2_isWithin_9 : decode cX2_isWithin 9 = .ok (.iconst 2, 1) := dk_5 (dk_at dksX2_isWithin_0 9 rfl rfl)
theorem dX2_isWithin_10 : decode cX2_isWithin 10 = .ok (.iload_n 2, 1) := dk_28 (dk_at dksX2_isWithin_0 10 rfl rfl)
theorem dX2_isWithin_11 : decode cX2_isWithin 11 = .ok (.imul, 1) := dk_104 (dk_at dksX2_isWithin_0 11 rfl rfl)
theorem dX2_isWithin_12 : decode cX2_isWithin 12 = .ok (.ishr, 1) := dk_122 (dk_at dksX2_isWithin_0 12 rfl rfl)
theorem dX2_isWithin_13 : decode cX2_isWithin 13 = .ok (.iconst 3, 1) := dk_6 (dk_at dksX2_isWithin_0 13 rfl rfl)
theorem dX2_isWithin_14 : decode cX2_isWithin 14 = .ok (.iand, 1) := dk_126 (dk_at dksX2_isWithin_0 14 rfl rfl)
theorem dX2_isWithin_15 : decode cX2_isWithin 15 = .ok (.iload_n 1, 1) := dk_27 (dk_at dksX2_isWithin_0 15 rfl rfl)
theorem dX2_isWithin_16 : decode cX2_isWithin 16 = .ok (.iconst 2, 1) := dk_5 (dk_at dksX2_isWithin_0 16 rfl rfl)
theorem dX2_isWithin_17 : decode cX2_isWithin 17 = .ok (.iload_n 2, 1) := dk_28 (dk_at dksX2_isWithin_0 17 rfl rfl)
theorem dX2_isWithin_18 : decode cX2_isWithin 18 = .ok (.imul, 1) := dk_104 (dk_at dksX2_isWithin_0 18 rfl rfl)
theorem dX2_isWithin_19 : decode cX2_isWithin 19 = .ok (.ishr, 1) := dk_122 (dk_at dksX2_isWithin_0 19 rfl rfl)
theorem dX2_isWithin_20 : decode cX2_isWithin 20 = .ok (.iconst 3, 1) := dk_6 (dk_at dksX2_isWithin_0 20 rfl rfl)
theorem dX2_isWithin_21 : decode cX2_isWithin 21 = .ok (.iand, 1) := dk_126 (dk_at dksX2_isWithin_0 21 rfl rfl)
theorem dX2_isWithin_22 : decode cX2_isWithin 22 = .ok (.if_icmp .le 5, 3) := dk_164 0 5 (dk_at dksX2_isWithin_1 0 rfl rfl)
theorem dX2_isWithin_25 : decode cX2_isWithin 25 = .ok (.iconst 0, 1) := dk_3 (dk_at dksX2_isWithin_1 3 rfl rfl)
theorem dX2_isWithin_26 : decode cX2_isWithin 26 = .ok (.ireturn, 1) := dk_172 (dk_at dksX2_isWithin_1 4 rfl rfl)
theorem dX2_isWithin_27 : decode cX2_isWithin 27 = .ok (.iinc 2 1, 3) := dk_132 2 1 (dk_at dksX2_isWithin_1 5 rfl rfl)
theorem dX2_isWithin_30 : decode cX2_isWithin 30 = .ok (.goto (-28), 3) := dk_167 255 228 (dk_at dksX2_isWithin_1 8 rfl rfl)
theorem dX2_isWithin_33 : decode cX2_isWithin 33 = .ok (.iconst 1, 1) := dk_4 (dk_at dksX2_isWithin_1 11 rfl rfl)
theorem dX2_isWithin_34 : decode cX2_isWithin 34 = .ok (.ireturn, 1) := dk_172 (dk_at dksX2_isWithin_1 12 rfl rfl)
abbrev cX2_behindSitting : ByteArray := prog_19_method_120_code
def yX2_behindSitting : MethodName := ⟨RX2, "behindSitting", "(II)I"⟩
def dkwX2_behindSitting_1 : List UInt8 := [167, 0, 13, 21, 4, 42, 29, 182, 0, 77, 184, 1, 157, 172]
abbrev dktX2_behindSitting_1 : List UInt8 := dkwX2_behindSitting_1 ++ []
def dkwX2_behindSitting_0 : List UInt8 := [42, 28, 182, 0, 77, 62, 27, 29, 184, 1, 157, 54, 4, 42, 29, 182, 0, 77, 29, 160, 0, 8, 21, 4]
abbrev dktX2_behindSitting_0 : List UInt8 := dkwX2_behindSitting_0 ++ dktX2_behindSitting_1
theorem dksX2_behindSitting_0 : cX2_behindSitting.data.toList.drop 0 = dktX2_behindSitting_0 := by decide +kernel
theorem dksX2_behindSitting_1 : cX2_behindSitting.data.toList.drop 24 = dktX2_behindSitting_1 := dk_seg dksX2_behindSitting_0 24 rfl rfl
theorem dX2_behindSitting_0 : decode cX2_behindSitting 0 = .ok (.aload_n 0, 1) := dk_42 (dk_at dksX2_behindSitting_0 0 rfl rfl)
theorem dX2_behindSitting_1 : decode cX2_behindSitting 1 = .ok (.iload_n 2, 1) := dk_28 (dk_at dksX2_behindSitting_0 1 rfl rfl)
theorem dX2_behindSitting_2 : decode cX2_behindSitting 2 = .ok (.invokevirtual 77, 3) := dk_182 0 77 (dk_at dksX2_behindSitting_0 2 rfl rfl)
theorem dX2_behindSitting_5 : decode cX2_behindSitting 5 = .ok (.istore_n 3, 1) := dk_62 (dk_at dksX2_behindSitting_0 5 rfl rfl)
theorem dX2_behindSitting_6 : decode cX2_behindSitting 6 = .ok (.iload_n 1, 1) := dk_27 (dk_at dksX2_behindSitting_0 6 rfl rfl)
theorem dX2_behindSitting_7 : decode cX2_behindSitting 7 = .ok (.iload_n 3, 1) := dk_29 (dk_at dksX2_behindSitting_0 7 rfl rfl)
theorem dX2_behindSitting_8 : decode cX2_behindSitting 8 = .ok (.invokestatic 413, 3) := dk_184 1 157 (dk_at dksX2_behindSitting_0 8 rfl rfl)
theorem dX2_behindSitting_11 : decode cX2_behindSitting 11 = .ok (.istore 4, 2) := dk_54 4 (dk_at dksX2_behindSitting_0 11 rfl rfl)
theorem dX2_behindSitting_13 : decode cX2_behindSitting 13 = .ok (.aload_n 0, 1) := dk_42 (dk_at dksX2_behindSitting_0 13 rfl rfl)
theorem dX2_behindSitting_14 : decode cX2_behindSitting 14 = .ok (.iload_n 3, 1) := dk_29 (dk_at dksX2_behindSitting_0 14 rfl rfl)
theorem dX2_behindSitting_15 : decode cX2_behindSitting 15 = .ok (.invokevirtual 77, 3) := dk_182 0 77 (dk_at dksX2_behindSitting_0 15 rfl rfl)
theorem dX2_behindSitting_18 : decode cX2_behindSitting 18 = .ok (.iload_n 3, 1) := dk_29 (dk_at dksX2_behindSitting_0 18 rfl rfl)
theorem dX2_behindSitting_19 : decode cX2_behindSitting 19 = .ok (.if_icmp .ne 8, 3) := dk_160 0 8 (dk_at dksX2_behindSitting_0 19 rfl rfl)
theorem dX2_behindSitting_22 : decode cX2_behindSitting 22 = .ok (.iload 4, 2) := dk_21 4 (dk_at dksX2_behindSitting_0 22 rfl rfl)
theorem dX2_behindSitting_24 : decode cX2_behindSitting 24 = .ok (.goto 13, 3) := dk_167 0 13 (dk_at dksX2_behindSitting_1 0 rfl rfl)
theorem dX2_behindSitting_27 : decode cX2_behindSitting 27 = .ok (.iload 4, 2) := dk_21 4 (dk_at dksX2_behindSitting_1 3 rfl rfl)
theorem dX2_behindSitting_29 : decode cX2_behindSitting 29 = .ok (.aload_n 0, 1) := dk_42 (dk_at dksX2_behindSitting_1 5 rfl rfl)
theorem dX2_behindSitting_30 : decode cX2_behindSitting 30 = .ok (.iload_n 3, 1) := dk_29 (dk_at dksX2_behindSitting_1 6 rfl rfl)
theorem dX2_behindSitting_31 : decode cX2_behindSitting 31 = .ok (.invokevirtual 77, 3) := dk_182 0 77 (dk_at dksX2_behindSitting_1 7 rfl rfl)
theorem dX2_behindSitting_34 : decode cX2_behindSitting 34 = .ok (.invokestatic 413, 3) := dk_184 1 157 (dk_at dksX2_behindSitting_1 10 rfl rfl)
theorem dX2_behindSitting_37 : decode cX2_behindSitting 37 = .ok (.ireturn, 1) := dk_172 (dk_at dksX2_behindSitting_1 13 rfl rfl)
abbrev cX2_lessBy : ByteArray := prog_19_method_119_code
def yX2_lessBy : MethodName := ⟨RX2, "lessBy", "(II)I"⟩
def dkwX2_lessBy_0 : List UInt8 := [26, 5, 27, 104, 122, 6, 126, 154, 0, 7, 26, 167, 0, 10, 26, 4, 5, 27, 104, 120, 100, 172]
abbrev dktX2_lessBy_0 : List UInt8 := dkwX2_lessBy_0 ++ []
theorem dksX2_lessBy_0 : cX2_lessBy.data.toList.drop 0 = dktX2_lessBy_0 := by decide +kernel
theorem dX2_lessBy_0 : decode cX2_lessBy 0 = .ok (.iload_n 0, 1) := dk_26 (dk_at dksX2_lessBy_0 0 rfl rfl)
theorem dX2_lessBy_1 : decode cX2_lessBy 1 = .ok (.iconst 2, 1) := dk_5 (dk_at dksX2_lessBy_0 1 rfl rfl)
theorem dX2_lessBy_2 : decode cX2_lessBy 2 = .ok (.iload_n 1, 1) := dk_27 (dk_at dksX2_lessBy_0 2 rfl rfl)
theorem dX2_lessBy_3 : decode cX2_lessBy 3 = .ok (.imul, 1) := dk_104 (dk_at dksX2_lessBy_0 3 rfl rfl)
theorem dX2_lessBy_4 : decode cX2_lessBy 4 = .ok (.ishr, 1) := dk_122 (dk_at dksX2_lessBy_0 4 rfl rfl)
theorem dX2_lessBy_5 : decode cX2_lessBy 5 = .ok (.iconst 3, 1) := dk_6 (dk_at dksX2_lessBy_0 5 rfl rfl)
theorem dX2_lessBy_6 : decode cX2_lessBy 6 = .ok (.iand, 1) := dk_126 (dk_at dksX2_lessBy_0 6 rfl rfl)
theorem dX2_lessBy_7 : decode cX2_lessBy 7 = .ok (.ifCond .ne 7, 3) := dk_154 0 7 (dk_at dksX2_lessBy_0 7 rfl rfl)
theorem dX2_lessBy_10 : decode cX2_lessBy 10 = .ok (.iload_n 0, 1) := dk_26 (dk_at dksX2_lessBy_0 10 rfl rfl)
theorem dX2_lessBy_11 : decode cX2_lessBy 11 = .ok (.goto 10, 3) := dk_167 0 10 (dk_at dksX2_lessBy_0 11 rfl rfl)
theorem dX2_lessBy_14 : decode cX2_lessBy 14 = .ok (.iload_n 0, 1) := dk_26 (dk_at dksX2_lessBy_0 14 rfl rfl)
theorem dX2_lessBy_15 : decode cX2_lessBy 15 = .ok (.iconst 1, 1) := dk_4 (dk_at dksX2_lessBy_0 15 rfl rfl)
theorem dX2_lessBy_16 : decode cX2_lessBy 16 = .ok (.iconst 2, 1) := dk_5 (dk_at dksX2_lessBy_0 16 rfl rfl)
theorem dX2_lessBy_17 : decode cX2_lessBy 17 = .ok (.iload_n 1, 1) := dk_27 (dk_at dksX2_lessBy_0 17 rfl rfl)
theorem dX2_lessBy_18 : decode cX2_lessBy 18 = .ok (.imul, 1) := dk_104 (dk_at dksX2_lessBy_0 18 rfl rfl)
theorem dX2_lessBy_19 : decode cX2_lessBy 19 = .ok (.ishl, 1) := dk_120 (dk_at dksX2_lessBy_0 19 rfl rfl)
theorem dX2_lessBy_20 : decode cX2_lessBy 20 = .ok (.isub, 1) := dk_100 (dk_at dksX2_lessBy_0 20 rfl rfl)
theorem dX2_lessBy_21 : decode cX2_lessBy 21 = .ok (.ireturn, 1) := dk_172 (dk_at dksX2_lessBy_0 21 rfl rfl)
abbrev cX2_seen : ByteArray := prog_19_method_124_code
def yX2_seen : MethodName := ⟨RX2, "seen", "(II)I"⟩
def dkwX2_seen_4 : List UInt8 := [46, 4, 96, 79, 42, 180, 0, 7, 7, 46, 172]
abbrev dktX2_seen_4 : List UInt8 := dkwX2_seen_4 ++ []
def dkwX2_seen_3 : List UInt8 := [180, 0, 7, 16, 66, 5, 42, 180, 0, 7, 7, 46, 104, 96, 4, 96, 28, 79, 42, 180, 0, 7, 7, 92]
abbrev dktX2_seen_3 : List UInt8 := dkwX2_seen_3 ++ dktX2_seen_4
def dkwX2_seen_2 : List UInt8 := [160, 0, 6, 16, 254, 172, 42, 180, 0, 7, 16, 66, 5, 42, 180, 0, 7, 7, 46, 104, 96, 27, 79, 42]
abbrev dktX2_seen_2 : List UInt8 := dkwX2_seen_2 ++ dktX2_seen_3
def dkwX2_seen_1 : List UInt8 := [153, 0, 25, 28, 3, 17, 0, 255, 184, 0, 73, 153, 0, 14, 42, 180, 0, 7, 7, 46, 16, 6]
abbrev dktX2_seen_1 : List UInt8 := dkwX2_seen_1 ++ dktX2_seen_2
def dkwX2_seen_0 : List UInt8 := [27, 2, 160, 0, 12, 42, 180, 0, 7, 7, 3, 79, 3, 172, 27, 4, 17, 0, 255, 184, 0, 73]
abbrev dktX2_seen_0 : List UInt8 := dkwX2_seen_0 ++ dktX2_seen_1
theorem dksX2_seen_0 : cX2_seen.data.toList.drop 0 = dktX2_seen_0 := by decide +kernel
theorem dksX2_seen_1 : cX2_seen.data.toList.drop 22 = dktX2_seen_1 := dk_seg dksX2_seen_0 22 rfl rfl
theorem dksX2_seen_2 : cX2_seen.data.toList.drop 44 = dktX2_seen_2 := dk_seg dksX2_seen_1 22 rfl rfl
theorem dksX2_seen_3 : cX2_seen.data.toList.drop 68 = dktX2_seen_3 := dk_seg dksX2_seen_2 24 rfl rfl
theorem dksX2_seen_4 : cX2_seen.data.toList.drop 92 = dktX2_seen_4 := dk_seg dksX2_seen_3 24 rfl rfl
theorem dX2_seen_0 : decode cX2_seen 0 = .ok (.iload_n 1, 1) := dk_27 (dk_at dksX2_seen_0 0 rfl rfl)
theorem dX2_seen_1 : decode cX2_seen 1 = .ok (.iconst (-1), 1) := dk_2 (dk_at dksX2_seen_0 1 rfl rfl)
theorem dX2_seen_2 : decode cX2_seen 2 = .ok (.if_icmp .ne 12, 3) := dk_160 0 12 (dk_at dksX2_seen_0 2 rfl rfl)
theorem dX2_seen_5 : decode cX2_seen 5 = .ok (.aload_n 0, 1) := dk_42 (dk_at dksX2_seen_0 5 rfl rfl)
theorem dX2_seen_6 : decode cX2_seen 6 = .ok (.getfield 7, 3) := dk_180 0 7 (dk_at dksX2_seen_0 6 rfl rfl)
theorem dX2_seen_9 : decode cX2_seen 9 = .ok (.iconst 4, 1) := dk_7 (dk_at dksX2_seen_0 9 rfl rfl)
theorem dX2_seen_10 : decode cX2_seen 10 = .ok (.iconst 0, 1) := dk_3 (dk_at dksX2_seen_0 10 rfl rfl)
theorem dX2_seen_11 : decode cX2_seen 11 = .ok (.iastore, 1) := dk_79 (dk_at dksX2_seen_0 11 rfl rfl)
theorem dX2_seen_12 : decode cX2_seen 12 = .ok (.iconst 0, 1) := dk_3 (dk_at dksX2_seen_0 12 rfl rfl)
theorem dX2_seen_13 : decode cX2_seen 13 = .ok (.ireturn, 1) := dk_172 (dk_at dksX2_seen_0 13 rfl rfl)
theorem dX2_seen_14 : decode cX2_seen 14 = .ok (.iload_n 1, 1) := dk_27 (dk_at dksX2_seen_0 14 rfl rfl)
theorem dX2_seen_15 : decode cX2_seen 15 = .ok (.iconst 1, 1) := dk_4 (dk_at dksX2_seen_0 15 rfl rfl)
theorem dX2_seen_16 : decode cX2_seen 16 = .ok (.sipush 255, 3) := dk_17 0 255 (dk_at dksX2_seen_0 16 rfl rfl)
theorem dX2_seen_19 : decode cX2_seen 19 = .ok (.invokestatic 73, 3) := dk_184 0 73 (dk_at dksX2_seen_0 19 rfl rfl)
theorem dX2_seen_22 : decode cX2_seen 22 = .ok (.ifCond .eq 25, 3) := dk_153 0 25 (dk_at dksX2_seen_1 0 rfl rfl)
theorem dX2_seen_25 : decode cX2_seen 25 = .ok (.iload_n 2, 1) := dk_28 (dk_at dksX2_seen_1 3 rfl rfl)
theorem dX2_seen_26 : decode cX2_seen 26 = .ok (.iconst 0, 1) := dk_3 (dk_at dksX2_seen_1 4 rfl rfl)
theorem dX2_seen_27 : decode cX2_seen 27 = .ok (.sipush 255, 3) := dk_17 0 255 (dk_at dksX2_seen_1 5 rfl rfl)
theorem dX2_seen_30 : decode cX2_seen 30 = .ok (.invokestatic 73, 3) := dk_184 0 73 (dk_at dksX2_seen_1 8 rfl rfl)
theorem dX2_seen_33 : decode cX2_seen 33 = .ok (.ifCond .eq 14, 3) := dk_153 0 14 (dk_at dksX2_seen_1 11 rfl rfl)
theorem dX2_seen_36 : decode cX2_seen 36 = .ok (.aload_n 0, 1) := dk_42 (dk_at dksX2_seen_1 14 rfl rfl)
theorem dX2_seen_37 : decode cX2_seen 37 = .ok (.getfield 7, 3) := dk_180 0 7 (dk_at dksX2_seen_1 15 rfl rfl)
theorem dX2_seen_40 : decode cX2_seen 40 = .ok (.iconst 4, 1) := dk_7 (dk_at dksX2_seen_1 18 rfl rfl)
theorem dX2_seen_41 : decode cX2_seen 41 = .ok (.iaload, 1) := dk_46 (dk_at dksX2_seen_1 19 rfl rfl)
theorem dX2_seen_42 : decode cX2_seen 42 = .ok (.bipush 6, 2) := dk_16 6 (dk_at dksX2_seen_1 20 rfl rfl)
theorem dX2_seen_44 : decode cX2_seen 44 = .ok (.if_icmp .ne 6, 3) := dk_160 0 6 (dk_at dksX2_seen_2 0 rfl rfl)
theorem dX2_seen_47 : decode cX2_seen 47 = .ok (.bipush (-2), 2) := dk_16 254 (dk_at dksX2_seen_2 3 rfl rfl)
theorem dX2_seen_49 : decode cX2_seen 49 = .ok (.ireturn, 1) := dk_172 (dk_at dksX2_seen_2 5 rfl rfl)
theorem dX2_seen_50 : decode cX2_seen 50 = .ok (.aload_n 0, 1) := dk_42 (dk_at dksX2_seen_2 6 rfl rfl)
theorem dX2_seen_51 : decode cX2_seen 51 = .ok (.getfield 7, 3) := dk_180 0 7 (dk_at dksX2_seen_2 7 rfl rfl)
theorem dX2_seen_54 : decode cX2_seen 54 = .ok (.bipush 66, 2) := dk_16 66 (dk_at dksX2_seen_2 10 rfl rfl)
theorem dX2_seen_56 : decode cX2_seen 56 = .ok (.iconst 2, 1) := dk_5 (dk_at dksX2_seen_2 12 rfl rfl)
theorem dX2_seen_57 : decode cX2_seen 57 = .ok (.aload_n 0, 1) := dk_42 (dk_at dksX2_seen_2 13 rfl rfl)
theorem dX2_seen_58 : decode cX2_seen 58 = .ok (.getfield 7, 3) := dk_180 0 7 (dk_at dksX2_seen_2 14 rfl rfl)
theorem dX2_seen_61 : decode cX2_seen 61 = .ok (.iconst 4, 1) := dk_7 (dk_at dksX2_seen_2 17 rfl rfl)
theorem dX2_seen_62 : decode cX2_seen 62 = .ok (.iaload, 1) := dk_46 (dk_at dksX2_seen_2 18 rfl rfl)
theorem dX2_seen_63 : decode cX2_seen 63 = .ok (.imul, 1) := dk_104 (dk_at dksX2_seen_2 19 rfl rfl)
theorem dX2_seen_64 : decode cX2_seen 64 = .ok (.iadd, 1) := dk_96 (dk_at dksX2_seen_2 20 rfl rfl)
theorem dX2_seen_65 : decode cX2_seen 65 = .ok (.iload_n 1, 1) := dk_27 (dk_at dksX2_seen_2 21 rfl rfl)
theorem dX2_seen_66 : decode cX2_seen 66 = .ok (.iastore, 1) := dk_79 (dk_at dksX2_seen_2 22 rfl rfl)
theorem dX2_seen_67 : decode cX2_seen 67 = .ok (.aload_n 0, 1) := dk_42 (dk_at dksX2_seen_2 23 rfl rfl)
theorem dX2_seen_68 : decode cX2_seen 68 = .ok (.getfield 7, 3) := dk_180 0 7 (dk_at dksX2_seen_3 0 rfl rfl)
theorem dX2_seen_71 : decode cX2_seen 71 = .ok (.bipush 66, 2) := dk_16 66 (dk_at dksX2_seen_3 3 rfl rfl)
theorem dX2_seen_73 : decode cX2_seen 73 = .ok (.iconst 2, 1) := dk_5 (dk_at dksX2_seen_3 5 rfl rfl)
theorem dX2_seen_74 : decode cX2_seen 74 = .ok (.aload_n 0, 1) := dk_42 (dk_at dksX2_seen_3 6 rfl rfl)
theorem dX2_seen_75 : decode cX2_seen 75 = .ok (.getfield 7, 3) := dk_180 0 7 (dk_at dksX2_seen_3 7 rfl rfl)
theorem dX2_seen_78 : decode cX2_seen 78 = .ok (.iconst 4, 1) := dk_7 (dk_at dksX2_seen_3 10 rfl rfl)
theorem dX2_seen_79 : decode cX2_seen 79 = .ok (.iaload, 1) := dk_46 (dk_at dksX2_seen_3 11 rfl rfl)
theorem dX2_seen_80 : decode cX2_seen 80 = .ok (.imul, 1) := dk_104 (dk_at dksX2_seen_3 12 rfl rfl)
theorem dX2_seen_81 : decode cX2_seen 81 = .ok (.iadd, 1) := dk_96 (dk_at dksX2_seen_3 13 rfl rfl)
theorem dX2_seen_82 : decode cX2_seen 82 = .ok (.iconst 1, 1) := dk_4 (dk_at dksX2_seen_3 14 rfl rfl)
theorem dX2_seen_83 : decode cX2_seen 83 = .ok (.iadd, 1) := dk_96 (dk_at dksX2_seen_3 15 rfl rfl)
theorem dX2_seen_84 : decode cX2_seen 84 = .ok (.iload_n 2, 1) := dk_28 (dk_at dksX2_seen_3 16 rfl rfl)
theorem dX2_seen_85 : decode cX2_seen 85 = .ok (.iastore, 1) := dk_79 (dk_at dksX2_seen_3 17 rfl rfl)
theorem dX2_seen_86 : decode cX2_seen 86 = .ok (.aload_n 0, 1) := dk_42 (dk_at dksX2_seen_3 18 rfl rfl)
theorem dX2_seen_87 : decode cX2_seen 87 = .ok (.getfield 7, 3) := dk_180 0 7 (dk_at dksX2_seen_3 19 rfl rfl)
theorem dX2_seen_90 : decode cX2_seen 90 = .ok (.iconst 4, 1) := dk_7 (dk_at dksX2_seen_3 22 rfl rfl)
theorem dX2_seen_91 : decode cX2_seen 91 = .ok (.dup2, 1) := dk_92 (dk_at dksX2_seen_3 23 rfl rfl)
theorem dX2_seen_92 : decode cX2_seen 92 = .ok (.iaload, 1) := dk_46 (dk_at dksX2_seen_4 0 rfl rfl)
theorem dX2_seen_93 : decode cX2_seen 93 = .ok (.iconst 1, 1) := dk_4 (dk_at dksX2_seen_4 1 rfl rfl)
theorem dX2_seen_94 : decode cX2_seen 94 = .ok (.iadd, 1) := dk_96 (dk_at dksX2_seen_4 2 rfl rfl)
theorem dX2_seen_95 : decode cX2_seen 95 = .ok (.iastore, 1) := dk_79 (dk_at dksX2_seen_4 3 rfl rfl)
theorem dX2_seen_96 : decode cX2_seen 96 = .ok (.aload_n 0, 1) := dk_42 (dk_at dksX2_seen_4 4 rfl rfl)
theorem dX2_seen_97 : decode cX2_seen 97 = .ok (.getfield 7, 3) := dk_180 0 7 (dk_at dksX2_seen_4 5 rfl rfl)
theorem dX2_seen_100 : decode cX2_seen 100 = .ok (.iconst 4, 1) := dk_7 (dk_at dksX2_seen_4 8 rfl rfl)
theorem dX2_seen_101 : decode cX2_seen 101 = .ok (.iaload, 1) := dk_46 (dk_at dksX2_seen_4 9 rfl rfl)
theorem dX2_seen_102 : decode cX2_seen 102 = .ok (.ireturn, 1) := dk_172 (dk_at dksX2_seen_4 10 rfl rfl)
abbrev cX2_fits : ByteArray := prog_19_method_128_code
def yX2_fits : MethodName := ⟨RX2, "fits", "(I)I"⟩
def dkwX2_fits_0 : List UInt8 := [27, 4, 8, 184, 0, 73, 154, 0, 5, 2, 172, 42, 27, 182, 1, 179, 42, 180, 1, 173, 172]
abbrev dktX2_fits_0 : List UInt8 := dkwX2_fits_0 ++ []
theorem dksX2_fits_0 : cX2_fits.data.toList.drop 0 = dktX2_fits_0 := by decide +kernel
theorem dX2_fits_0 : decode cX2_fits 0 = .ok (.iload_n 1, 1) := dk_27 (dk_at dksX2_fits_0 0 rfl rfl)
theorem dX2_fits_1 : decode cX2_fits 1 = .ok (.iconst 1, 1) := dk_4 (dk_at dksX2_fits_0 1 rfl rfl)
theorem dX2_fits_2 : decode cX2_fits 2 = .ok (.iconst 5, 1) := dk_8 (dk_at dksX2_fits_0 2 rfl rfl)
theorem dX2_fits_3 : decode cX2_fits 3 = .ok (.invokestatic 73, 3) := dk_184 0 73 (dk_at dksX2_fits_0 3 rfl rfl)
theorem dX2_fits_6 : decode cX2_fits 6 = .ok (.ifCond .ne 5, 3) := dk_154 0 5 (dk_at dksX2_fits_0 6 rfl rfl)
theorem dX2_fits_9 : decode cX2_fits 9 = .ok (.iconst (-1), 1) := dk_2 (dk_at dksX2_fits_0 9 rfl rfl)
theorem dX2_fits_10 : decode cX2_fits 10 = .ok (.ireturn, 1) := dk_172 (dk_at dksX2_fits_0 10 rfl rfl)
theorem dX2_fits_11 : decode cX2_fits 11 = .ok (.aload_n 0, 1) := dk_42 (dk_at dksX2_fits_0 11 rfl rfl)
theorem dX2_fits_12 : decode cX2_fits 12 = .ok (.iload_n 1, 1) := dk_27 (dk_at dksX2_fits_0 12 rfl rfl)
theorem dX2_fits_13 : decode cX2_fits 13 = .ok (.invokevirtual 435, 3) := dk_182 1 179 (dk_at dksX2_fits_0 13 rfl rfl)
theorem dX2_fits_16 : decode cX2_fits 16 = .ok (.aload_n 0, 1) := dk_42 (dk_at dksX2_fits_0 16 rfl rfl)
theorem dX2_fits_17 : decode cX2_fits 17 = .ok (.getfield 429, 3) := dk_180 1 173 (dk_at dksX2_fits_0 17 rfl rfl)
theorem dX2_fits_20 : decode cX2_fits 20 = .ok (.ireturn, 1) := dk_172 (dk_at dksX2_fits_0 20 rfl rfl)
abbrev cX2_layWays : ByteArray := prog_19_method_127_code
def yX2_layWays : MethodName := ⟨RX2, "layWays", "(I)V"⟩
def dkwX2_layWays_4 : List UInt8 := [21, 4, 184, 1, 170, 120, 128, 79, 132, 4, 1, 167, 255, 228, 132, 3, 1, 167, 255, 192, 177]
abbrev dktX2_layWays_4 : List UInt8 := dkwX2_layWays_4 ++ []
def dkwX2_layWays_3 : List UInt8 := [181, 1, 173, 3, 54, 4, 21, 4, 27, 162, 0, 28, 42, 180, 0, 57, 21, 4, 92, 46, 4, 29, 27]
abbrev dktX2_layWays_3 : List UInt8 := dkwX2_layWays_3 ++ dktX2_layWays_4
def dkwX2_layWays_2 : List UInt8 := [162, 0, 65, 42, 29, 27, 182, 1, 176, 154, 0, 6, 167, 0, 47, 42, 89, 180, 1, 173, 4, 96]
abbrev dktX2_layWays_2 : List UInt8 := dkwX2_layWays_2 ++ dktX2_layWays_3
def dkwX2_layWays_1 : List UInt8 := [3, 62, 29, 8, 162, 0, 16, 42, 180, 0, 57, 29, 3, 79, 132, 3, 1, 167, 255, 241, 3, 62, 29, 28]
abbrev dktX2_layWays_1 : List UInt8 := dkwX2_layWays_1 ++ dktX2_layWays_2
def dkwX2_layWays_0 : List UInt8 := [4, 61, 3, 62, 29, 27, 162, 0, 13, 28, 27, 104, 61, 132, 3, 1, 167, 255, 244, 42, 3, 181, 1, 173]
abbrev dktX2_layWays_0 : List UInt8 := dkwX2_layWays_0 ++ dktX2_layWays_1
theorem dksX2_layWays_0 : cX2_layWays.data.toList.drop 0 = dktX2_layWays_0 := by decide +kernel
theorem dksX2_layWays_1 : cX2_layWays.data.toList.drop 24 = dktX2_layWays_1 := dk_seg dksX2_layWays_0 24 rfl rfl
theorem dksX2_layWays_2 : cX2_layWays.data.toList.drop 48 = dktX2_layWays_2 := dk_seg dksX2_layWays_1 24 rfl rfl
theorem dksX2_layWays_3 : cX2_layWays.data.toList.drop 70 = dktX2_layWays_3 := dk_seg dksX2_layWays_2 22 rfl rfl
theorem dksX2_layWays_4 : cX2_layWays.data.toList.drop 93 = dktX2_layWays_4 := dk_seg dksX2_layWays_3 23 rfl rfl
theorem dX2_layWays_0 : decode cX2_layWays 0 = .ok (.iconst 1, 1) := dk_4 (dk_at dksX2_layWays_0 0 rfl rfl)
theorem dX2_layWays_1 : decode cX2_layWays 1 = .ok (.istore_n 2, 1) := dk_61 (dk_at dksX2_layWays_0 1 rfl rfl)
theorem dX2_layWays_2 : decode cX2_layWays 2 = .ok (.iconst 0, 1) := dk_3 (dk_at dksX2_layWays_0 2 rfl rfl)
theorem dX2_layWays_3 : decode cX2_layWays 3 = .ok (.istore_n 3, 1) := dk_62 (dk_at dksX2_layWays_0 3 rfl rfl)
theorem dX2_layWays_4 : decode cX2_layWays 4 = .ok (.iload_n 3, 1) := dk_29 (dk_at dksX2_layWays_0 4 rfl rfl)
theorem dX2_layWays_5 : decode cX2_layWays 5 = .ok (.iload_n 1, 1) := dk_27 (dk_at dksX2_layWays_0 5 rfl rfl)
theorem dX2_layWays_6 : decode cX2_layWays 6 = .ok (.if_icmp .ge 13, 3) := dk_162 0 13 (dk_at dksX2_layWays_0 6 rfl rfl)
theorem dX2_layWays_9 : decode cX2_layWays 9 = .ok (.iload_n 2, 1) := dk_28 (dk_at dksX2_layWays_0 9 rfl rfl)
theorem dX2_layWays_10 : decode cX2_layWays 10 = .ok (.iload_n 1, 1) := dk_27 (dk_at dksX2_layWays_0 10 rfl rfl)
theorem dX2_layWays_11 : decode cX2_layWays 11 = .ok (.imul, 1) := dk_104 (dk_at dksX2_layWays_0 11 rfl rfl)
theorem dX2_layWays_12 : decode cX2_layWays 12 = .ok (.istore_n 2, 1) := dk_61 (dk_at dksX2_layWays_0 12 rfl rfl)
theorem dX2_layWays_13 : decode cX2_layWays 13 = .ok (.iinc 3 1, 3) := dk_132 3 1 (dk_at dksX2_layWays_0 13 rfl rfl)
theorem dX2_layWays_16 : decode cX2_layWays 16 = .ok (.goto (-12), 3) := dk_167 255 244 (dk_at dksX2_layWays_0 16 rfl rfl)
theorem dX2_layWays_19 : decode cX2_layWays 19 = .ok (.aload_n 0, 1) := dk_42 (dk_at dksX2_layWays_0 19 rfl rfl)
theorem dX2_layWays_20 : decode cX2_layWays 20 = .ok (.iconst 0, 1) := dk_3 (dk_at dksX2_layWays_0 20 rfl rfl)
theorem dX2_layWays_21 : decode cX2_layWays 21 = .ok (.putfield 429, 3) := dk_181 1 173 (dk_at dksX2_layWays_0 21 rfl rfl)
theorem dX2_layWays_24 : decode cX2_layWays 24 = .ok (.iconst 0, 1) := dk_3 (dk_at dksX2_layWays_1 0 rfl rfl)
theorem dX2_layWays_25 : decode cX2_layWays 25 = .ok (.istore_n 3, 1) := dk_62 (dk_at dksX2_layWays_1 1 rfl rfl)
theorem dX2_layWays_26 : decode cX2_layWays 26 = .ok (.iload_n 3, 1) := dk_29 (dk_at dksX2_layWays_1 2 rfl rfl)
theorem dX2_layWays_27 : decode cX2_layWays 27 = .ok (.iconst 5, 1) := dk_8 (dk_at dksX2_layWays_1 3 rfl rfl)
theorem dX2_layWays_28 : decode cX2_layWays 28 = .ok (.if_icmp .ge 16, 3) := dk_162 0 16 (dk_at dksX2_layWays_1 4 rfl rfl)
theorem dX2_layWays_31 : decode cX2_layWays 31 = .ok (.aload_n 0, 1) := dk_42 (dk_at dksX2_layWays_1 7 rfl rfl)
theorem dX2_layWays_32 : decode cX2_layWays 32 = .ok (.getfield 57, 3) := dk_180 0 57 (dk_at dksX2_layWays_1 8 rfl rfl)
theorem dX2_layWays_35 : decode cX2_layWays 35 = .ok (.iload_n 3, 1) := dk_29 (dk_at dksX2_layWays_1 11 rfl rfl)
theorem dX2_layWays_36 : decode cX2_layWays 36 = .ok (.iconst 0, 1) := dk_3 (dk_at dksX2_layWays_1 12 rfl rfl)
theorem dX2_layWays_37 : decode cX2_layWays 37 = .ok (.iastore, 1) := dk_79 (dk_at dksX2_layWays_1 13 rfl rfl)
theorem dX2_layWays_38 : decode cX2_layWays 38 = .ok (.iinc 3 1, 3) := dk_132 3 1 (dk_at dksX2_layWays_1 14 rfl rfl)
theorem dX2_layWays_41 : decode cX2_layWays 41 = .ok (.goto (-15), 3) := dk_167 255 241 (dk_at dksX2_layWays_1 17 rfl rfl)
theorem dX2_layWays_44 : decode cX2_layWays 44 = .ok (.iconst 0, 1) := dk_3 (dk_at dksX2_layWays_1 20 rfl rfl)
theorem dX2_layWays_45 : decode cX2_layWays 45 = .ok (.istore_n 3, 1) := dk_62 (dk_at dksX2_layWays_1 21 rfl rfl)
theorem dX2_layWays_46 : decode cX2_layWays 46 = .ok (.iload_n 3, 1) := dk_29 (dk_at dksX2_layWays_1 22 rfl rfl)
theorem dX2_layWays_47 : decode cX2_layWays 47 = .ok (.iload_n 2, 1) := dk_28 (dk_at dksX2_layWays_1 23 rfl rfl)
theorem dX2_layWays_48 : decode cX2_layWays 48 = .ok (.if_icmp .ge 65, 3) := dk_162 0 65 (dk_at dksX2_layWays_2 0 rfl rfl)
theorem dX2_layWays_51 : decode cX2_layWays 51 = .ok (.aload_n 0, 1) := dk_42 (dk_at dksX2_layWays_2 3 rfl rfl)
theorem dX2_layWays_52 : decode cX2_layWays 52 = .ok (.iload_n 3, 1) := dk_29 (dk_at dksX2_layWays_2 4 rfl rfl)
theorem dX2_layWays_53 : decode cX2_layWays 53 = .ok (.iload_n 1, 1) := dk_27 (dk_at dksX2_layWays_2 5 rfl rfl)
theorem dX2_layWays_54 : decode cX2_layWays 54 = .ok (.invokevirtual 432, 3) := dk_182 1 176 (dk_at dksX2_layWays_2 6 rfl rfl)
theorem dX2_layWays_57 : decode cX2_layWays 57 = .ok (.ifCond .ne 6, 3) := dk_154 0 6 (dk_at dksX2_layWays_2 9 rfl rfl)
theorem dX2_layWays_60 : decode cX2_layWays 60 = .ok (.goto 47, 3) := dk_167 0 47 (dk_at dksX2_layWays_2 12 rfl rfl)
theorem dX2_layWays_63 : decode cX2_layWays 63 = .ok (.aload_n 0, 1) := dk_42 (dk_at dksX2_layWays_2 15 rfl rfl)
theorem dX2_layWays_64 : decode cX2_layWays 64 = .ok (.dup, 1) := dk_89 (dk_at dksX2_layWays_2 16 rfl rfl)
theorem dX2_layWays_65 : decode cX2_layWays 65 = .ok (.getfield 429, 3) := dk_180 1 173 (dk_at dksX2_layWays_2 17 rfl rfl)
theorem dX2_layWays_68 : decode cX2_layWays 68 = .ok (.iconst 1, 1) := dk_4 (dk_at dksX2_layWays_2 20 rfl rfl)
theorem dX2_layWays_69 : decode cX2_layWays 69 = .ok (.iadd, 1) := dk_96 (dk_at dksX2_layWays_2 21 rfl rfl)
theorem dX2_layWays_70 : decode cX2_layWays 70 = .ok (.putfield 429, 3) := dk_181 1 173 (dk_at dksX2_layWays_3 0 rfl rfl)
theorem dX2_layWays_73 : decode cX2_layWays 73 = .ok (.iconst 0, 1) := dk_3 (dk_at dksX2_layWays_3 3 rfl rfl)
theorem dX2_layWays_74 : decode cX2_layWays 74 = .ok (.istore 4, 2) := dk_54 4 (dk_at dksX2_layWays_3 4 rfl rfl)
theorem dX2_layWays_76 : decode cX2_layWays 76 = .ok (.iload 4, 2) := dk_21 4 (dk_at dksX2_layWays_3 6 rfl rfl)
theorem dX2_layWays_78 : decode cX2_layWays 78 = .ok (.iload_n 1, 1) := dk_27 (dk_at dksX2_layWays_3 8 rfl rfl)
theorem dX2_layWays_79 : decode cX2_layWays 79 = .ok (.if_icmp .ge 28, 3) := dk_162 0 28 (dk_at dksX2_layWays_3 9 rfl rfl)
theorem dX2_layWays_82 : decode cX2_layWays 82 = .ok (.aload_n 0, 1) := dk_42 (dk_at dksX2_layWays_3 12 rfl rfl)
theorem dX2_layWays_83 : decode cX2_layWays 83 = .ok (.getfield 57, 3) := dk_180 0 57 (dk_at dksX2_layWays_3 13 rfl rfl)
theorem dX2_layWays_86 : decode cX2_layWays 86 = .ok (.iload 4, 2) := dk_21 4 (dk_at dksX2_layWays_3 16 rfl rfl)
theorem dX2_layWays_88 : decode cX2_layWays 88 = .ok (.dup2, 1) := dk_92 (dk_at dksX2_layWays_3 18 rfl rfl)
theorem dX2_layWays_89 : decode cX2_layWays 89 = .ok (.iaload, 1) := dk_46 (dk_at dksX2_layWays_3 19 rfl rfl)
theorem dX2_layWays_90 : decode cX2_layWays 90 = .ok (.iconst 1, 1) := dk_4 (dk_at dksX2_layWays_3 20 rfl rfl)
theorem dX2_layWays_91 : decode cX2_layWays 91 = .ok (.iload_n 3, 1) := dk_29 (dk_at dksX2_layWays_3 21 rfl rfl)
theorem dX2_layWays_92 : decode cX2_layWays 92 = .ok (.iload_n 1, 1) := dk_27 (dk_at dksX2_layWays_3 22 rfl rfl)
theorem dX2_layWays_93 : decode cX2_layWays 93 = .ok (.iload 4, 2) := dk_21 4 (dk_at dksX2_layWays_4 0 rfl rfl)
theorem dX2_layWays_95 : decode cX2_layWays 95 = .ok (.invokestatic 426, 3) := dk_184 1 170 (dk_at dksX2_layWays_4 2 rfl rfl)
theorem dX2_layWays_98 : decode cX2_layWays 98 = .ok (.ishl, 1) := dk_120 (dk_at dksX2_layWays_4 5 rfl rfl)
theorem dX2_layWays_99 : decode cX2_layWays 99 = .ok (.ior, 1) := dk_128 (dk_at dksX2_layWays_4 6 rfl rfl)
theorem dX2_layWays_100 : decode cX2_layWays 100 = .ok (.iastore, 1) := dk_79 (dk_at dksX2_layWays_4 7 rfl rfl)
theorem dX2_layWays_101 : decode cX2_layWays 101 = .ok (.iinc 4 1, 3) := dk_132 4 1 (dk_at dksX2_layWays_4 8 rfl rfl)
theorem dX2_layWays_104 : decode cX2_layWays 104 = .ok (.goto (-28), 3) := dk_167 255 228 (dk_at dksX2_layWays_4 11 rfl rfl)
theorem dX2_layWays_107 : decode cX2_layWays 107 = .ok (.iinc 3 1, 3) := dk_132 3 1 (dk_at dksX2_layWays_4 14 rfl rfl)
theorem dX2_layWays_110 : decode cX2_layWays 110 = .ok (.goto (-64), 3) := dk_167 255 192 (dk_at dksX2_layWays_4 17 rfl rfl)
theorem dX2_layWays_113 : decode cX2_layWays 113 = .ok (.return_, 1) := dk_177 (dk_at dksX2_layWays_4 20 rfl rfl)
abbrev cX2_isSeenBy : ByteArray := prog_19_method_126_code
def yX2_isSeenBy : MethodName := ⟨RX2, "isSeenBy", "(II)Z"⟩
def dkwX2_isSeenBy_4 : List UInt8 := [46, 159, 0, 5, 3, 172, 132, 3, 1, 167, 255, 155, 4, 172]
abbrev dktX2_isSeenBy_4 : List UInt8 := dkwX2_isSeenBy_4 ++ []
def dkwX2_isSeenBy_3 : List UInt8 := [3, 128, 54, 5, 132, 6, 1, 167, 255, 219, 21, 5, 42, 180, 0, 7, 16, 66, 5, 29, 104, 96, 4, 96]
abbrev dktX2_isSeenBy_3 : List UInt8 := dkwX2_isSeenBy_3 ++ dktX2_isSeenBy_4
def dkwX2_isSeenBy_2 : List UInt8 := [21, 5, 21, 4, 21, 6, 184, 1, 0, 153, 0, 15, 4, 27, 28, 21, 6, 184, 1, 170, 120, 167, 0, 4]
abbrev dktX2_isSeenBy_2 : List UInt8 := dkwX2_isSeenBy_2 ++ dktX2_isSeenBy_3
def dkwX2_isSeenBy_1 : List UInt8 := [54, 4, 3, 54, 5, 21, 4, 28, 122, 153, 0, 5, 3, 172, 3, 54, 6, 21, 6, 28, 162, 0, 37]
abbrev dktX2_isSeenBy_1 : List UInt8 := dkwX2_isSeenBy_1 ++ dktX2_isSeenBy_2
def dkwX2_isSeenBy_0 : List UInt8 := [3, 62, 29, 42, 180, 0, 7, 7, 46, 162, 0, 97, 42, 180, 0, 7, 16, 66, 5, 29, 104, 96, 46]
abbrev dktX2_isSeenBy_0 : List UInt8 := dkwX2_isSeenBy_0 ++ dktX2_isSeenBy_1
theorem dksX2_isSeenBy_0 : cX2_isSeenBy.data.toList.drop 0 = dktX2_isSeenBy_0 := by decide +kernel
theorem dksX2_isSeenBy_1 : cX2_isSeenBy.data.toList.drop 23 = dktX2_isSeenBy_1 := dk_seg dksX2_isSeenBy_0 23 rfl rfl
theorem dksX2_isSeenBy_2 : cX2_isSeenBy.data.toList.drop 46 = dktX2_isSeenBy_2 := dk_seg dksX2_isSeenBy_1 23 rfl rfl
theorem dksX2_isSeenBy_3 : cX2_isSeenBy.data.toList.drop 70 = dktX2_isSeenBy_3 := dk_seg dksX2_isSeenBy_2 24 rfl rfl
theorem dksX2_isSeenBy_4 : cX2_isSeenBy.data.toList.drop 94 = dktX2_isSeenBy_4 := dk_seg dksX2_isSeenBy_3 24 rfl rfl
theorem dX2_isSeenBy_0 : decode cX2_isSeenBy 0 = .ok (.iconst 0, 1) := dk_3 (dk_at dksX2_isSeenBy_0 0 rfl rfl)
theorem dX2_isSeenBy_1 : decode cX2_isSeenBy 1 = .ok (.istore_n 3, 1) := dk_62 (dk_at dksX2_isSeenBy_0 1 rfl rfl)
theorem dX2_isSeenBy_2 : decode cX2_isSeenBy 2 = .ok (.iload_n 3, 1) := dk_29 (dk_at dksX2_isSeenBy_0 2 rfl rfl)
theorem dX2_isSeenBy_3 : decode cX2_isSeenBy 3 = .ok (.aload_n 0, 1) := dk_42 (dk_at dksX2_isSeenBy_0 3 rfl rfl)
theorem dX2_isSeenBy_4 : decode cX2_isSeenBy 4 = .ok (.getfield 7, 3) := dk_180 0 7 (dk_at dksX2_isSeenBy_0 4 rfl rfl)
theorem dX2_isSeenBy_7 : decode cX2_isSeenBy 7 = .ok (.iconst 4, 1) := dk_7 (dk_at dksX2_isSeenBy_0 7 rfl rfl)
theorem dX2_isSeenBy_8 : decode cX2_isSeenBy 8 = .ok (.iaload, 1) := dk_46 (dk_at dksX2_isSeenBy_0 8 rfl rfl)
theorem dX2_isSeenBy_9 : decode cX2_isSeenBy 9 = .ok (.if_icmp .ge 97, 3) := dk_162 0 97 (dk_at dksX2_isSeenBy_0 9 rfl rfl)
theorem dX2_isSeenBy_12 : decode cX2_isSeenBy 12 = .ok (.aload_n 0, 1) := dk_42 (dk_at dksX2_isSeenBy_0 12 rfl rfl)
theorem dX2_isSeenBy_13 : decode cX2_isSeenBy 13 = .ok (.getfield 7, 3) := dk_180 0 7 (dk_at dksX2_isSeenBy_0 13 rfl rfl)
theorem dX2_isSeenBy_16 : decode cX2_isSeenBy 16 = .ok (.bipush 66, 2) := dk_16 66 (dk_at dksX2_isSeenBy_0 16 rfl rfl)
theorem dX2_isSeenBy_18 : decode cX2_isSeenBy 18 = .ok (.iconst 2, 1) := dk_5 (dk_at dksX2_isSeenBy_0 18 rfl rfl)
theorem dX2_isSeenBy_19 : decode cX2_isSeenBy 19 = .ok (.iload_n 3, 1) := dk_29 (dk_at dksX2_isSeenBy_0 19 rfl rfl)
theorem dX2_isSeenBy_20 : decode cX2_isSeenBy 20 = .ok (.imul, 1) := dk_104 (dk_at dksX2_isSeenBy_0 20 rfl rfl)
theorem dX2_isSeenBy_21 : decode cX2_isSeenBy 21 = .ok (.iadd, 1) := dk_96 (dk_at dksX2_isSeenBy_0 21 rfl rfl)
theorem dX2_isSeenBy_22 : decode cX2_isSeenBy 22 = .ok (.iaload, 1) := dk_46 (dk_at dksX2_isSeenBy_0 22 rfl rfl)
theorem dX2_isSeenBy_23 : decode cX2_isSeenBy 23 = .ok (.istore 4, 2) := dk_54 4 (dk_at dksX2_isSeenBy_1 0 rfl rfl)
theorem dX2_isSeenBy_25 : decode cX2_isSeenBy 25 = .ok (.iconst 0, 1) := dk_3 (dk_at dksX2_isSeenBy_1 2 rfl rfl)
theorem dX2_isSeenBy_26 : decode cX2_isSeenBy 26 = .ok (.istore 5, 2) := dk_54 5 (dk_at dksX2_isSeenBy_1 3 rfl rfl)
theorem dX2_isSeenBy_28 : decode cX2_isSeenBy 28 = .ok (.iload 4, 2) := dk_21 4 (dk_at dksX2_isSeenBy_1 5 rfl rfl)
theorem dX2_isSeenBy_30 : decode cX2_isSeenBy 30 = .ok (.iload_n 2, 1) := dk_28 (dk_at dksX2_isSeenBy_1 7 rfl rfl)
theorem dX2_isSeenBy_31 : decode cX2_isSeenBy 31 = .ok (.ishr, 1) := dk_122 (dk_at dksX2_isSeenBy_1 8 rfl rfl)
theorem dX2_isSeenBy_32 : decode cX2_isSeenBy 32 = .ok (.ifCond .eq 5, 3) := dk_153 0 5 (dk_at dksX2_isSeenBy_1 9 rfl rfl)
theorem dX2_isSeenBy_35 : decode cX2_isSeenBy 35 = .ok (.iconst 0, 1) := dk_3 (dk_at dksX2_isSeenBy_1 12 rfl rfl)
theorem dX2_isSeenBy_36 : decode cX2_isSeenBy 36 = .ok (.ireturn, 1) := dk_172 (dk_at dksX2_isSeenBy_1 13 rfl rfl)
theorem dX2_isSeenBy_37 : decode cX2_isSeenBy 37 = .ok (.iconst 0, 1) := dk_3 (dk_at dksX2_isSeenBy_1 14 rfl rfl)
theorem dX2_isSeenBy_38 : decode cX2_isSeenBy 38 = .ok (.istore 6, 2) := dk_54 6 (dk_at dksX2_isSeenBy_1 15 rfl rfl)
theorem dX2_isSeenBy_40 : decode cX2_isSeenBy 40 = .ok (.iload 6, 2) := dk_21 6 (dk_at dksX2_isSeenBy_1 17 rfl rfl)
theorem dX2_isSeenBy_42 : decode cX2_isSeenBy 42 = .ok (.iload_n 2, 1) := dk_28 (dk_at dksX2_isSeenBy_1 19 rfl rfl)
theorem dX2_isSeenBy_43 : decode cX2_isSeenBy 43 = .ok (.if_icmp .ge 37, 3) := dk_162 0 37 (dk_at dksX2_isSeenBy_1 20 rfl rfl)
theorem dX2_isSeenBy_46 : decode cX2_isSeenBy 46 = .ok (.iload 5, 2) := dk_21 5 (dk_at dksX2_isSeenBy_2 0 rfl rfl)
theorem dX2_isSeenBy_48 : decode cX2_isSeenBy 48 = .ok (.iload 4, 2) := dk_21 4 (dk_at dksX2_isSeenBy_2 2 rfl rfl)
theorem dX2_isSeenBy_50 : decode cX2_isSeenBy 50 = .ok (.iload 6, 2) := dk_21 6 (dk_at dksX2_isSeenBy_2 4 rfl rfl)
theorem dX2_isSeenBy_52 : decode cX2_isSeenBy 52 = .ok (.invokestatic 256, 3) := dk_184 1 0 (dk_at dksX2_isSeenBy_2 6 rfl rfl)
theorem dX2_isSeenBy_55 : decode cX2_isSeenBy 55 = .ok (.ifCond .eq 15, 3) := dk_153 0 15 (dk_at dksX2_isSeenBy_2 9 rfl rfl)
theorem dX2_isSeenBy_58 : decode cX2_isSeenBy 58 = .ok (.iconst 1, 1) := dk_4 (dk_at dksX2_isSeenBy_2 12 rfl rfl)
theorem dX2_isSeenBy_59 : decode cX2_isSeenBy 59 = .ok (.iload_n 1, 1) := dk_27 (dk_at dksX2_isSeenBy_2 13 rfl rfl)
theorem dX2_isSeenBy_60 : decode cX2_isSeenBy 60 = .ok (.iload_n 2, 1) := dk_28 (dk_at dksX2_isSeenBy_2 14 rfl rfl)
theorem dX2_isSeenBy_61 : decode cX2_isSeenBy 61 = .ok (.iload 6, 2) := dk_21 6 (dk_at dksX2_isSeenBy_2 15 rfl rfl)
theorem dX2_isSeenBy_63 : decode cX2_isSeenBy 63 = .ok (.invokestatic 426, 3) := dk_184 1 170 (dk_at dksX2_isSeenBy_2 17 rfl rfl)
theorem dX2_isSeenBy_66 : decode cX2_isSeenBy 66 = .ok (.ishl, 1) := dk_120 (dk_at dksX2_isSeenBy_2 20 rfl rfl)
theorem dX2_isSeenBy_67 : decode cX2_isSeenBy 67 = .ok (.goto 4, 3) := dk_167 0 4 (dk_at dksX2_isSeenBy_2 21 rfl rfl)
theorem dX2_isSeenBy_70 : decode cX2_isSeenBy 70 = .ok (.iconst 0, 1) := dk_3 (dk_at dksX2_isSeenBy_3 0 rfl rfl)
theorem dX2_isSeenBy_71 : decode cX2_isSeenBy 71 = .ok (.ior, 1) := dk_128 (dk_at dksX2_isSeenBy_3 1 rfl rfl)
theorem dX2_isSeenBy_72 : decode cX2_isSeenBy 72 = .ok (.istore 5, 2) := dk_54 5 (dk_at dksX2_isSeenBy_3 2 rfl rfl)
theorem dX2_isSeenBy_74 : decode cX2_isSeenBy 74 = .ok (.iinc 6 1, 3) := dk_132 6 1 (dk_at dksX2_isSeenBy_3 4 rfl rfl)
theorem dX2_isSeenBy_77 : decode cX2_isSeenBy 77 = .ok (.goto (-37), 3) := dk_167 255 219 (dk_at dksX2_isSeenBy_3 7 rfl rfl)
theorem dX2_isSeenBy_80 : decode cX2_isSeenBy 80 = .ok (.iload 5, 2) := dk_21 5 (dk_at dksX2_isSeenBy_3 10 rfl rfl)
theorem dX2_isSeenBy_82 : decode cX2_isSeenBy 82 = .ok (.aload_n 0, 1) := dk_42 (dk_at dksX2_isSeenBy_3 12 rfl rfl)
theorem dX2_isSeenBy_83 : decode cX2_isSeenBy 83 = .ok (.getfield 7, 3) := dk_180 0 7 (dk_at dksX2_isSeenBy_3 13 rfl rfl)
theorem dX2_isSeenBy_86 : decode cX2_isSeenBy 86 = .ok (.bipush 66, 2) := dk_16 66 (dk_at dksX2_isSeenBy_3 16 rfl rfl)
theorem dX2_isSeenBy_88 : decode cX2_isSeenBy 88 = .ok (.iconst 2, 1) := dk_5 (dk_at dksX2_isSeenBy_3 18 rfl rfl)
theorem dX2_isSeenBy_89 : decode cX2_isSeenBy 89 = .ok (.iload_n 3, 1) := dk_29 (dk_at dksX2_isSeenBy_3 19 rfl rfl)
theorem dX2_isSeenBy_90 : decode cX2_isSeenBy 90 = .ok (.imul, 1) := dk_104 (dk_at dksX2_isSeenBy_3 20 rfl rfl)
theorem dX2_isSeenBy_91 : decode cX2_isSeenBy 91 = .ok (.iadd, 1) := dk_96 (dk_at dksX2_isSeenBy_3 21 rfl rfl)
theorem dX2_isSeenBy_92 : decode cX2_isSeenBy 92 = .ok (.iconst 1, 1) := dk_4 (dk_at dksX2_isSeenBy_3 22 rfl rfl)
theorem dX2_isSeenBy_93 : decode cX2_isSeenBy 93 = .ok (.iadd, 1) := dk_96 (dk_at dksX2_isSeenBy_3 23 rfl rfl)
theorem dX2_isSeenBy_94 : decode cX2_isSeenBy 94 = .ok (.iaload, 1) := dk_46 (dk_at dksX2_isSeenBy_4 0 rfl rfl)
theorem dX2_isSeenBy_95 : decode cX2_isSeenBy 95 = .ok (.if_icmp .eq 5, 3) := dk_159 0 5 (dk_at dksX2_isSeenBy_4 1 rfl rfl)
theorem dX2_isSeenBy_98 : decode cX2_isSeenBy 98 = .ok (.iconst 0, 1) := dk_3 (dk_at dksX2_isSeenBy_4 4 rfl rfl)
theorem dX2_isSeenBy_99 : decode cX2_isSeenBy 99 = .ok (.ireturn, 1) := dk_172 (dk_at dksX2_isSeenBy_4 5 rfl rfl)
theorem dX2_isSeenBy_100 : decode cX2_isSeenBy 100 = .ok (.iinc 3 1, 3) := dk_132 3 1 (dk_at dksX2_isSeenBy_4 6 rfl rfl)
theorem dX2_isSeenBy_103 : decode cX2_isSeenBy 103 = .ok (.goto (-101), 3) := dk_167 255 155 (dk_at dksX2_isSeenBy_4 9 rfl rfl)
theorem dX2_isSeenBy_106 : decode cX2_isSeenBy 106 = .ok (.iconst 1, 1) := dk_4 (dk_at dksX2_isSeenBy_4 12 rfl rfl)
theorem dX2_isSeenBy_107 : decode cX2_isSeenBy 107 = .ok (.ireturn, 1) := dk_172 (dk_at dksX2_isSeenBy_4 13 rfl rfl)
abbrev cX2_digitOf : ByteArray := prog_19_method_125_code
def yX2_digitOf : MethodName := ⟨RX2, "digitOf", "(III)I"⟩
def dkwX2_digitOf_1 : List UInt8 := [172]
abbrev dktX2_digitOf_1 : List UInt8 := dkwX2_digitOf_1 ++ []
def dkwX2_digitOf_0 : List UInt8 := [26, 62, 3, 54, 4, 21, 4, 28, 162, 0, 13, 29, 27, 108, 62, 132, 4, 1, 167, 255, 243, 29, 27, 112]
abbrev dktX2_digitOf_0 : List UInt8 := dkwX2_digitOf_0 ++ dktX2_digitOf_1
theorem dksX2_digitOf_0 : cX2_digitOf.data.toList.drop 0 = dktX2_digitOf_0 := by decide +kernel
theorem dksX2_digitOf_1 : cX2_digitOf.data.toList.drop 24 = dktX2_digitOf_1 := dk_seg dksX2_digitOf_0 24 rfl rfl
theorem dX2_digitOf_0 : decode cX2_digitOf 0 = .ok (.iload_n 0, 1) := dk_26 (dk_at dksX2_digitOf_0 0 rfl rfl)
theorem dX2_digitOf_1 : decode cX2_digitOf 1 = .ok (.istore_n 3, 1) := dk_62 (dk_at dksX2_digitOf_0 1 rfl rfl)
theorem dX2_digitOf_2 : decode cX2_digitOf 2 = .ok (.iconst 0, 1) := dk_3 (dk_at dksX2_digitOf_0 2 rfl rfl)
theorem dX2_digitOf_3 : decode cX2_digitOf 3 = .ok (.istore 4, 2) := dk_54 4 (dk_at dksX2_digitOf_0 3 rfl rfl)
theorem dX2_digitOf_5 : decode cX2_digitOf 5 = .ok (.iload 4, 2) := dk_21 4 (dk_at dksX2_digitOf_0 5 rfl rfl)
theorem dX2_digitOf_7 : decode cX2_digitOf 7 = .ok (.iload_n 2, 1) := dk_28 (dk_at dksX2_digitOf_0 7 rfl rfl)
theorem dX2_digitOf_8 : decode cX2_digitOf 8 = .ok (.if_icmp .ge 13, 3) := dk_162 0 13 (dk_at dksX2_digitOf_0 8 rfl rfl)
theorem dX2_digitOf_11 : decode cX2_digitOf 11 = .ok (.iload_n 3, 1) := dk_29 (dk_at dksX2_digitOf_0 11 rfl rfl)
theorem dX2_digitOf_12 : decode cX2_digitOf 12 = .ok (.iload_n 1, 1) := dk_27 (dk_at dksX2_digitOf_0 12 rfl rfl)
theorem dX2_digitOf_13 : decode cX2_digitOf 13 = .ok (.idiv, 1) := dk_108 (dk_at dksX2_digitOf_0 13 rfl rfl)
theorem dX2_digitOf_14 : decode cX2_digitOf 14 = .ok (.istore_n 3, 1) := dk_62 (dk_at dksX2_digitOf_0 14 rfl rfl)
theorem dX2_digitOf_15 : decode cX2_digitOf 15 = .ok (.iinc 4 1, 3) := dk_132 4 1 (dk_at dksX2_digitOf_0 15 rfl rfl)
theorem dX2_digitOf_18 : decode cX2_digitOf 18 = .ok (.goto (-13), 3) := dk_167 255 243 (dk_at dksX2_digitOf_0 18 rfl rfl)
theorem dX2_digitOf_21 : decode cX2_digitOf 21 = .ok (.iload_n 3, 1) := dk_29 (dk_at dksX2_digitOf_0 21 rfl rfl)
theorem dX2_digitOf_22 : decode cX2_digitOf 22 = .ok (.iload_n 1, 1) := dk_27 (dk_at dksX2_digitOf_0 22 rfl rfl)
theorem dX2_digitOf_23 : decode cX2_digitOf 23 = .ok (.irem, 1) := dk_112 (dk_at dksX2_digitOf_0 23 rfl rfl)
theorem dX2_digitOf_24 : decode cX2_digitOf 24 = .ok (.ireturn, 1) := dk_172 (dk_at dksX2_digitOf_1 0 rfl rfl)
abbrev cX2_whose : ByteArray := prog_19_method_129_code
def yX2_whose : MethodName := ⟨RX2, "whose", "(II)I"⟩
def dkwX2_whose_1 : List UInt8 := [182, 1, 179, 42, 180, 0, 57, 28, 46, 172]
abbrev dktX2_whose_1 : List UInt8 := dkwX2_whose_1 ++ []
def dkwX2_whose_0 : List UInt8 := [27, 4, 8, 184, 0, 73, 153, 0, 14, 28, 3, 27, 4, 100, 184, 0, 73, 154, 0, 5, 2, 172, 42, 27]
abbrev dktX2_whose_0 : List UInt8 := dkwX2_whose_0 ++ dktX2_whose_1
theorem dksX2_whose_0 : cX2_whose.data.toList.drop 0 = dktX2_whose_0 := by decide +kernel
theorem dksX2_whose_1 : cX2_whose.data.toList.drop 24 = dktX2_whose_1 := dk_seg dksX2_whose_0 24 rfl rfl
theorem dX2_whose_0 : decode cX2_whose 0 = .ok (.iload_n 1, 1) := dk_27 (dk_at dksX2_whose_0 0 rfl rfl)
theorem dX2_whose_1 : decode cX2_whose 1 = .ok (.iconst 1, 1) := dk_4 (dk_at dksX2_whose_0 1 rfl rfl)
theorem dX2_whose_2 : decode cX2_whose 2 = .ok (.iconst 5, 1) := dk_8 (dk_at dksX2_whose_0 2 rfl rfl)
theorem dX2_whose_3 : decode cX2_whose 3 = .ok (.invokestatic 73, 3) := dk_184 0 73 (dk_at dksX2_whose_0 3 rfl rfl)
theorem dX2_whose_6 : decode cX2_whose 6 = .ok (.ifCond .eq 14, 3) := dk_153 0 14 (dk_at dksX2_whose_0 6 rfl rfl)
theorem dX2_whose_9 : decode cX2_whose 9 = .ok (.iload_n 2, 1) := dk_28 (dk_at dksX2_whose_0 9 rfl rfl)
theorem dX2_whose_10 : decode cX2_whose 10 = .ok (.iconst 0, 1) := dk_3 (dk_at dksX2_whose_0 10 rfl rfl)
theorem dX2_whose_11 : decode cX2_whose 11 = .ok (.iload_n 1, 1) := dk_27 (dk_at dksX2_whose_0 11 rfl rfl)
theorem dX2_whose_12 : decode cX2_whose 12 = .ok (.iconst 1, 1) := dk_4 (dk_at dksX2_whose_0 12 rfl rfl)
theorem dX2_whose_13 : decode cX2_whose 13 = .ok (.isub, 1) := dk_100 (dk_at dksX2_whose_0 13 rfl rfl)
theorem dX2_whose_14 : decode cX2_whose 14 = .ok (.invokestatic 73, 3) := dk_184 0 73 (dk_at dksX2_whose_0 14 rfl rfl)
theorem dX2_whose_17 : decode cX2_whose 17 = .ok (.ifCond .ne 5, 3) := dk_154 0 5 (dk_at dksX2_whose_0 17 rfl rfl)
theorem dX2_whose_20 : decode cX2_whose 20 = .ok (.iconst (-1), 1) := dk_2 (dk_at dksX2_whose_0 20 rfl rfl)
theorem dX2_whose_21 : decode cX2_whose 21 = .ok (.ireturn, 1) := dk_172 (dk_at dksX2_whose_0 21 rfl rfl)
theorem dX2_whose_22 : decode cX2_whose 22 = .ok (.aload_n 0, 1) := dk_42 (dk_at dksX2_whose_0 22 rfl rfl)
theorem dX2_whose_23 : decode cX2_whose 23 = .ok (.iload_n 1, 1) := dk_27 (dk_at dksX2_whose_0 23 rfl rfl)
theorem dX2_whose_24 : decode cX2_whose 24 = .ok (.invokevirtual 435, 3) := dk_182 1 179 (dk_at dksX2_whose_1 0 rfl rfl)
theorem dX2_whose_27 : decode cX2_whose 27 = .ok (.aload_n 0, 1) := dk_42 (dk_at dksX2_whose_1 3 rfl rfl)
theorem dX2_whose_28 : decode cX2_whose 28 = .ok (.getfield 57, 3) := dk_180 0 57 (dk_at dksX2_whose_1 4 rfl rfl)
theorem dX2_whose_31 : decode cX2_whose 31 = .ok (.iload_n 2, 1) := dk_28 (dk_at dksX2_whose_1 7 rfl rfl)
theorem dX2_whose_32 : decode cX2_whose 32 = .ok (.iaload, 1) := dk_46 (dk_at dksX2_whose_1 8 rfl rfl)
theorem dX2_whose_33 : decode cX2_whose 33 = .ok (.ireturn, 1) := dk_172 (dk_at dksX2_whose_1 9 rfl rfl)
abbrev cX2_next : ByteArray := prog_19_method_130_code
def yX2_next : MethodName := ⟨RX2, "next", "(I)I"⟩
def dkwX2_next_2 : List UInt8 := [180, 0, 57, 21, 4, 46, 184, 1, 133, 62, 21, 4, 61, 132, 4, 1, 167, 255, 216, 28, 172]
abbrev dktX2_next_2 : List UInt8 := dkwX2_next_2 ++ []
def dkwX2_next_1 : List UInt8 := [21, 4, 27, 162, 0, 40, 42, 180, 0, 57, 21, 4, 46, 184, 1, 133, 29, 163, 0, 6, 167, 0, 17, 42]
abbrev dktX2_next_1 : List UInt8 := dkwX2_next_1 ++ dktX2_next_2
def dkwX2_next_0 : List UInt8 := [27, 4, 8, 184, 0, 73, 154, 0, 5, 2, 172, 42, 27, 182, 1, 179, 2, 61, 3, 62, 3, 54, 4]
abbrev dktX2_next_0 : List UInt8 := dkwX2_next_0 ++ dktX2_next_1
theorem dksX2_next_0 : cX2_next.data.toList.drop 0 = dktX2_next_0 := by decide +kernel
theorem dksX2_next_1 : cX2_next.data.toList.drop 23 = dktX2_next_1 := dk_seg dksX2_next_0 23 rfl rfl
theorem dksX2_next_2 : cX2_next.data.toList.drop 47 = dktX2_next_2 := dk_seg dksX2_next_1 24 rfl rfl
theorem dX2_next_0 : decode cX2_next 0 = .ok (.iload_n 1, 1) := dk_27 (dk_at dksX2_next_0 0 rfl rfl)
theorem dX2_next_1 : decode cX2_next 1 = .ok (.iconst 1, 1) := dk_4 (dk_at dksX2_next_0 1 rfl rfl)
theorem dX2_next_2 : decode cX2_next 2 = .ok (.iconst 5, 1) := dk_8 (dk_at dksX2_next_0 2 rfl rfl)
theorem dX2_next_3 : decode cX2_next 3 = .ok (.invokestatic 73, 3) := dk_184 0 73 (dk_at dksX2_next_0 3 rfl rfl)
theorem dX2_next_6 : decode cX2_next 6 = .ok (.ifCond .ne 5, 3) := dk_154 0 5 (dk_at dksX2_next_0 6 rfl rfl)
theorem dX2_next_9 : decode cX2_next 9 = .ok (.iconst (-1), 1) := dk_2 (dk_at dksX2_next_0 9 rfl rfl)
theorem dX2_next_10 : decode cX2_next 10 = .ok (.ireturn, 1) := dk_172 (dk_at dksX2_next_0 10 rfl rfl)
theorem dX2_next_11 : decode cX2_next 11 = .ok (.aload_n 0, 1) := dk_42 (dk_at dksX2_next_0 11 rfl rfl)
theorem dX2_next_12 : decode cX2_next 12 = .ok (.iload_n 1, 1) := dk_27 (dk_at dksX2_next_0 12 rfl rfl)
theorem dX2_next_13 : decode cX2_next 13 = .ok (.invokevirtual 435, 3) := dk_182 1 179 (dk_at dksX2_next_0 13 rfl rfl)
theorem dX2_next_16 : decode cX2_next 16 = .ok (.iconst (-1), 1) := dk_2 (dk_at dksX2_next_0 16 rfl rfl)
theorem dX2_next_17 : decode cX2_next 17 = .ok (.istore_n 2, 1) := dk_61 (dk_at dksX2_next_0 17 rfl rfl)
theorem dX2_next_18 : decode cX2_next 18 = .ok (.iconst 0, 1) := dk_3 (dk_at dksX2_next_0 18 rfl rfl)
theorem dX2_next_19 : decode cX2_next 19 = .ok (.istore_n 3, 1) := dk_62 (dk_at dksX2_next_0 19 rfl rfl)
theorem dX2_next_20 : decode cX2_next 20 = .ok (.iconst 0, 1) := dk_3 (dk_at dksX2_next_0 20 rfl rfl)
theorem dX2_next_21 : decode cX2_next 21 = .ok (.istore 4, 2) := dk_54 4 (dk_at dksX2_next_0 21 rfl rfl)
theorem dX2_next_23 : decode cX2_next 23 = .ok (.iload 4, 2) := dk_21 4 (dk_at dksX2_next_1 0 rfl rfl)
theorem dX2_next_25 : decode cX2_next 25 = .ok (.iload_n 1, 1) := dk_27 (dk_at dksX2_next_1 2 rfl rfl)
theorem dX2_next_26 : decode cX2_next 26 = .ok (.if_icmp .ge 40, 3) := dk_162 0 40 (dk_at dksX2_next_1 3 rfl rfl)
theorem dX2_next_29 : decode cX2_next 29 = .ok (.aload_n 0, 1) := dk_42 (dk_at dksX2_next_1 6 rfl rfl)
theorem dX2_next_30 : decode cX2_next 30 = .ok (.getfield 57, 3) := dk_180 0 57 (dk_at dksX2_next_1 7 rfl rfl)
theorem dX2_next_33 : decode cX2_next 33 = .ok (.iload 4, 2) := dk_21 4 (dk_at dksX2_next_1 10 rfl rfl)
theorem dX2_next_35 : decode cX2_next 35 = .ok (.iaload, 1) := dk_46 (dk_at dksX2_next_1 12 rfl rfl)
theorem dX2_next_36 : decode cX2_next 36 = .ok (.invokestatic 389, 3) := dk_184 1 133 (dk_at dksX2_next_1 13 rfl rfl)
theorem dX2_next_39 : decode cX2_next 39 = .ok (.iload_n 3, 1) := dk_29 (dk_at dksX2_next_1 16 rfl rfl)
theorem dX2_next_40 : decode cX2_next 40 = .ok (.if_icmp .gt 6, 3) := dk_163 0 6 (dk_at dksX2_next_1 17 rfl rfl)
theorem dX2_next_43 : decode cX2_next 43 = .ok (.goto 17, 3) := dk_167 0 17 (dk_at dksX2_next_1 20 rfl rfl)
theorem dX2_next_46 : decode cX2_next 46 = .ok (.aload_n 0, 1) := dk_42 (dk_at dksX2_next_1 23 rfl rfl)
theorem dX2_next_47 : decode cX2_next 47 = .ok (.getfield 57, 3) := dk_180 0 57 (dk_at dksX2_next_2 0 rfl rfl)
theorem dX2_next_50 : decode cX2_next 50 = .ok (.iload 4, 2) := dk_21 4 (dk_at dksX2_next_2 3 rfl rfl)
theorem dX2_next_52 : decode cX2_next 52 = .ok (.iaload, 1) := dk_46 (dk_at dksX2_next_2 5 rfl rfl)
theorem dX2_next_53 : decode cX2_next 53 = .ok (.invokestatic 389, 3) := dk_184 1 133 (dk_at dksX2_next_2 6 rfl rfl)
theorem dX2_next_56 : decode cX2_next 56 = .ok (.istore_n 3, 1) := dk_62 (dk_at dksX2_next_2 9 rfl rfl)
theorem dX2_next_57 : decode cX2_next 57 = .ok (.iload 4, 2) := dk_21 4 (dk_at dksX2_next_2 10 rfl rfl)
theorem dX2_next_59 : decode cX2_next 59 = .ok (.istore_n 2, 1) := dk_61 (dk_at dksX2_next_2 12 rfl rfl)
theorem dX2_next_60 : decode cX2_next 60 = .ok (.iinc 4 1, 3) := dk_132 4 1 (dk_at dksX2_next_2 13 rfl rfl)
theorem dX2_next_63 : decode cX2_next 63 = .ok (.goto (-40), 3) := dk_167 255 216 (dk_at dksX2_next_2 16 rfl rfl)
theorem dX2_next_66 : decode cX2_next 66 = .ok (.iload_n 2, 1) := dk_28 (dk_at dksX2_next_2 19 rfl rfl)
theorem dX2_next_67 : decode cX2_next 67 = .ok (.ireturn, 1) := dk_172 (dk_at dksX2_next_2 20 rfl rfl)
abbrev cX2_cut : ByteArray := prog_19_method_131_code
def yX2_cut : MethodName := ⟨RX2, "cut", "(III)Z"⟩
def dkwX2_cut_2 : List UInt8 := [180, 0, 7, 16, 78, 16, 8, 28, 104, 96, 27, 96, 29, 79, 4, 172]
abbrev dktX2_cut_2 : List UInt8 := dkwX2_cut_2 ++ []
def dkwX2_cut_1 : List UInt8 := [184, 0, 73, 154, 0, 5, 3, 172, 42, 180, 0, 7, 16, 78, 16, 8, 27, 104, 96, 28, 96, 29, 79, 42]
abbrev dktX2_cut_1 : List UInt8 := dkwX2_cut_1 ++ dktX2_cut_2
def dkwX2_cut_0 : List UInt8 := [27, 184, 0, 96, 153, 0, 25, 28, 184, 0, 96, 153, 0, 18, 27, 28, 159, 0, 13, 29, 3, 16, 99]
abbrev dktX2_cut_0 : List UInt8 := dkwX2_cut_0 ++ dktX2_cut_1
theorem dksX2_cut_0 : cX2_cut.data.toList.drop 0 = dktX2_cut_0 := by decide +kernel
theorem dksX2_cut_1 : cX2_cut.data.toList.drop 23 = dktX2_cut_1 := dk_seg dksX2_cut_0 23 rfl rfl
theorem dksX2_cut_2 : cX2_cut.data.toList.drop 47 = dktX2_cut_2 := dk_seg dksX2_cut_1 24 rfl rfl
theorem dX2_cut_0 : decode cX2_cut 0 = .ok (.iload_n 1, 1) := dk_27 (dk_at dksX2_cut_0 0 rfl rfl)
theorem dX2_cut_1 : decode cX2_cut 1 = .ok (.invokestatic 96, 3) := dk_184 0 96 (dk_at dksX2_cut_0 1 rfl rfl)
theorem dX2_cut_4 : decode cX2_cut 4 = .ok (.ifCond .eq 25, 3) := dk_153 0 25 (dk_at dksX2_cut_0 4 rfl rfl)
theorem dX2_cut_7 : decode cX2_cut 7 = .ok (.iload_n 2, 1) := dk_28 (dk_at dksX2_cut_0 7 rfl rfl)
theorem dX2_cut_8 : decode cX2_cut 8 = .ok (.invokestatic 96, 3) := dk_184 0 96 (dk_at dksX2_cut_0 8 rfl rfl)
theorem dX2_cut_11 : decode cX2_cut 11 = .ok (.ifCond .eq 18, 3) := dk_153 0 18 (dk_at dksX2_cut_0 11 rfl rfl)
theorem dX2_cut_14 : decode cX2_cut 14 = .ok (.iload_n 1, 1) := dk_27 (dk_at dksX2_cut_0 14 rfl rfl)
theorem dX2_cut_15 : decode cX2_cut 15 = .ok (.iload_n 2, 1) := dk_28 (dk_at dksX2_cut_0 15 rfl rfl)
theorem dX2_cut_16 : decode cX2_cut 16 = .ok (.if_icmp .eq 13, 3) := dk_159 0 13 (dk_at dksX2_cut_0 16 rfl rfl)
theorem dX2_cut_19 : decode cX2_cut 19 = .ok (.iload_n 3, 1) := dk_29 (dk_at dksX2_cut_0 19 rfl rfl)
theorem dX2_cut_20 : decode cX2_cut 20 = .ok (.iconst 0, 1) := dk_3 (dk_at dksX2_cut_0 20 rfl rfl)
theorem dX2_cut_21 : decode cX2_cut 21 = .ok (.bipush 99, 2) := dk_16 99 (dk_at dksX2_cut_0 21 rfl rfl)
theorem dX2_cut_23 : decode cX2_cut 23 = .ok (.invokestatic 73, 3) := dk_184 0 73 (dk_at dksX2_cut_1 0 rfl rfl)
theorem dX2_cut_26 : decode cX2_cut 26 = .ok (.ifCond .ne 5, 3) := dk_154 0 5 (dk_at dksX2_cut_1 3 rfl rfl)
theorem dX2_cut_29 : decode cX2_cut 29 = .ok (.iconst 0, 1) := dk_3 (dk_at dksX2_cut_1 6 rfl rfl)
theorem dX2_cut_30 : decode cX2_cut 30 = .ok (.ireturn, 1) := dk_172 (dk_at dksX2_cut_1 7 rfl rfl)
theorem dX2_cut_31 : decode cX2_cut 31 = .ok (.aload_n 0, 1) := dk_42 (dk_at dksX2_cut_1 8 rfl rfl)
theorem dX2_cut_32 : decode cX2_cut 32 = .ok (.getfield 7, 3) := dk_180 0 7 (dk_at dksX2_cut_1 9 rfl rfl)
theorem dX2_cut_35 : decode cX2_cut 35 = .ok (.bipush 78, 2) := dk_16 78 (dk_at dksX2_cut_1 12 rfl rfl)
theorem dX2_cut_37 : decode cX2_cut 37 = .ok (.bipush 8, 2) := dk_16 8 (dk_at dksX2_cut_1 14 rfl rfl)
theorem dX2_cut_39 : decode cX2_cut 39 = .ok (.iload_n 1, 1) := dk_27 (dk_at dksX2_cut_1 16 rfl rfl)
theorem dX2_cut_40 : decode cX2_cut 40 = .ok (.imul, 1) := dk_104 (dk_at dksX2_cut_1 17 rfl rfl)
theorem dX2_cut_41 : decode cX2_cut 41 = .ok (.iadd, 1) := dk_96 (dk_at dksX2_cut_1 18 rfl rfl)
theorem dX2_cut_42 : decode cX2_cut 42 = .ok (.iload_n 2, 1) := dk_28 (dk_at dksX2_cut_1 19 rfl rfl)
theorem dX2_cut_43 : decode cX2_cut 43 = .ok (.iadd, 1) := dk_96 (dk_at dksX2_cut_1 20 rfl rfl)
theorem dX2_cut_44 : decode cX2_cut 44 = .ok (.iload_n 3, 1) := dk_29 (dk_at dksX2_cut_1 21 rfl rfl)
theorem dX2_cut_45 : decode cX2_cut 45 = .ok (.iastore, 1) := dk_79 (dk_at dksX2_cut_1 22 rfl rfl)
theorem dX2_cut_46 : decode cX2_cut 46 = .ok (.aload_n 0, 1) := dk_42 (dk_at dksX2_cut_1 23 rfl rfl)
theorem dX2_cut_47 : decode cX2_cut 47 = .ok (.getfield 7, 3) := dk_180 0 7 (dk_at dksX2_cut_2 0 rfl rfl)
theorem dX2_cut_50 : decode cX2_cut 50 = .ok (.bipush 78, 2) := dk_16 78 (dk_at dksX2_cut_2 3 rfl rfl)
theorem dX2_cut_52 : decode cX2_cut 52 = .ok (.bipush 8, 2) := dk_16 8 (dk_at dksX2_cut_2 5 rfl rfl)
theorem dX2_cut_54 : decode cX2_cut 54 = .ok (.iload_n 2, 1) := dk_28 (dk_at dksX2_cut_2 7 rfl rfl)
theorem dX2_cut_55 : decode cX2_cut 55 = .ok (.imul, 1) := dk_104 (dk_at dksX2_cut_2 8 rfl rfl)
theorem dX2_cut_56 : decode cX2_cut 56 = .ok (.iadd, 1) := dk_96 (dk_at dksX2_cut_2 9 rfl rfl)
theorem dX2_cut_57 : decode cX2_cut 57 = .ok (.iload_n 1, 1) := dk_27 (dk_at dksX2_cut_2 10 rfl rfl)
theorem dX2_cut_58 : decode cX2_cut 58 = .ok (.iadd, 1) := dk_96 (dk_at dksX2_cut_2 11 rfl rfl)
theorem dX2_cut_59 : decode cX2_cut 59 = .ok (.iload_n 3, 1) := dk_29 (dk_at dksX2_cut_2 12 rfl rfl)
theorem dX2_cut_60 : decode cX2_cut 60 = .ok (.iastore, 1) := dk_79 (dk_at dksX2_cut_2 13 rfl rfl)
theorem dX2_cut_61 : decode cX2_cut 61 = .ok (.iconst 1, 1) := dk_4 (dk_at dksX2_cut_2 14 rfl rfl)
theorem dX2_cut_62 : decode cX2_cut 62 = .ok (.ireturn, 1) := dk_172 (dk_at dksX2_cut_2 15 rfl rfl)
abbrev cX2_pairs : ByteArray := prog_19_method_134_code
def yX2_pairs : MethodName := ⟨RX2, "pairs", "(II)I"⟩
def dkwX2_pairs_9 : List UInt8 := [21, 5, 120, 2, 130, 126, 126, 62, 167, 255, 179]
abbrev dktX2_pairs_9 : List UInt8 := dkwX2_pairs_9 ++ []
def dkwX2_pairs_8 : List UInt8 := [160, 0, 6, 21, 5, 172, 21, 5, 28, 160, 0, 6, 21, 4, 172, 29, 4, 21, 4, 120, 2, 130, 4]
abbrev dktX2_pairs_8 : List UInt8 := dkwX2_pairs_8 ++ dktX2_pairs_9
def dkwX2_pairs_7 : List UInt8 := [21, 5, 182, 1, 185, 42, 180, 0, 60, 29, 46, 159, 0, 9, 132, 5, 1, 167, 255, 228, 21, 4, 28]
abbrev dktX2_pairs_7 : List UInt8 := dkwX2_pairs_7 ++ dktX2_pairs_8
def dkwX2_pairs_6 : List UInt8 := [29, 184, 1, 182, 54, 4, 21, 4, 4, 96, 54, 5, 29, 21, 5, 184, 1, 0, 153, 0, 19, 42, 29]
abbrev dktX2_pairs_6 : List UInt8 := dkwX2_pairs_6 ++ dktX2_pairs_7
def dkwX2_pairs_5 : List UInt8 := [132, 3, 1, 167, 255, 179, 4, 27, 120, 4, 100, 62, 28, 2, 160, 0, 10, 42, 180, 0, 60, 29, 46, 172]
abbrev dktX2_pairs_5 : List UInt8 := dkwX2_pairs_5 ++ dktX2_pairs_6
def dkwX2_pairs_4 : List UInt8 := [46, 162, 0, 16, 42, 180, 0, 60, 29, 42, 29, 21, 4, 182, 1, 185, 79, 132, 4, 1, 167, 255, 209]
abbrev dktX2_pairs_4 : List UInt8 := dkwX2_pairs_4 ++ dktX2_pairs_5
def dkwX2_pairs_3 : List UInt8 := [162, 0, 47, 29, 21, 4, 184, 1, 0, 153, 0, 32, 42, 29, 21, 4, 182, 1, 185, 42, 180, 0, 60, 29]
abbrev dktX2_pairs_3 : List UInt8 := dkwX2_pairs_3 ++ dktX2_pairs_4
def dkwX2_pairs_2 : List UInt8 := [162, 0, 76, 42, 180, 0, 60, 29, 19, 1, 163, 79, 29, 184, 1, 182, 4, 96, 54, 4, 21, 4, 27]
abbrev dktX2_pairs_2 : List UInt8 := dkwX2_pairs_2 ++ dktX2_pairs_3
def dkwX2_pairs_1 : List UInt8 := [27, 4, 100, 184, 0, 73, 154, 0, 5, 2, 172, 42, 180, 0, 60, 3, 3, 79, 4, 62, 29, 4, 27, 120]
abbrev dktX2_pairs_1 : List UInt8 := dkwX2_pairs_1 ++ dktX2_pairs_2
def dkwX2_pairs_0 : List UInt8 := [27, 5, 159, 0, 20, 27, 7, 159, 0, 15, 27, 16, 6, 159, 0, 9, 27, 16, 8, 160, 0, 14, 28, 2]
abbrev dktX2_pairs_0 : List UInt8 := dkwX2_pairs_0 ++ dktX2_pairs_1
theorem dksX2_pairs_0 : cX2_pairs.data.toList.drop 0 = dktX2_pairs_0 := by decide +kernel
theorem dksX2_pairs_1 : cX2_pairs.data.toList.drop 24 = dktX2_pairs_1 := dk_seg dksX2_pairs_0 24 rfl rfl
theorem dksX2_pairs_2 : cX2_pairs.data.toList.drop 48 = dktX2_pairs_2 := dk_seg dksX2_pairs_1 24 rfl rfl
theorem dksX2_pairs_3 : cX2_pairs.data.toList.drop 71 = dktX2_pairs_3 := dk_seg dksX2_pairs_2 23 rfl rfl
theorem dksX2_pairs_4 : cX2_pairs.data.toList.drop 95 = dktX2_pairs_4 := dk_seg dksX2_pairs_3 24 rfl rfl
theorem dksX2_pairs_5 : cX2_pairs.data.toList.drop 118 = dktX2_pairs_5 := dk_seg dksX2_pairs_4 23 rfl rfl
theorem dksX2_pairs_6 : cX2_pairs.data.toList.drop 142 = dktX2_pairs_6 := dk_seg dksX2_pairs_5 24 rfl rfl
theorem dksX2_pairs_7 : cX2_pairs.data.toList.drop 165 = dktX2_pairs_7 := dk_seg dksX2_pairs_6 23 rfl rfl
theorem dksX2_pairs_8 : cX2_pairs.data.toList.drop 188 = dktX2_pairs_8 := dk_seg dksX2_pairs_7 23 rfl rfl
theorem dksX2_pairs_9 : cX2_pairs.data.toList.drop 211 = dktX2_pairs_9 := dk_seg dksX2_pairs_8 23 rfl rfl
theorem dX2_pairs_0 : decode cX2_pairs 0 = .ok (.iload_n 1, 1) := dk_27 (dk_at dksX2_pairs_0 0 rfl rfl)
theorem dX2_pairs_1 : decode cX2_pairs 1 = .ok (.iconst 2, 1) := dk_5 (dk_at dksX2_pairs_0 1 rfl rfl)
theorem dX2_pairs_2 : decode cX2_pairs 2 = .ok (.if_icmp .eq 20, 3) := dk_159 0 20 (dk_at dksX2_pairs_0 2 rfl rfl)
theorem dX2_pairs_5 : decode cX2_pairs 5 = .ok (.iload_n 1, 1) := dk_27 (dk_at dksX2_pairs_0 5 rfl rfl)
theorem dX2_pairs_6 : decode cX2_pairs 6 = .ok (.iconst 4, 1) := dk_7 (dk_at dksX2_pairs_0 6 rfl rfl)
theorem dX2_pairs_7 : decode cX2_pairs 7 = .ok (.if_icmp .eq 15, 3) := dk_159 0 15 (dk_at dksX2_pairs_0 7 rfl rfl)
theorem dX2_pairs_10 : decode cX2_pairs 10 = .ok (.iload_n 1, 1) := dk_27 (dk_at dksX2_pairs_0 10 rfl rfl)
theorem dX2_pairs_11 : decode cX2_pairs 11 = .ok (.bipush 6, 2) := dk_16 6 (dk_at dksX2_pairs_0 11 rfl rfl)
theorem dX2_pairs_13 : decode cX2_pairs 13 = .ok (.if_icmp .eq 9, 3) := dk_159 0 9 (dk_at dksX2_pairs_0 13 rfl rfl)
theorem dX2_pairs_16 : decode cX2_pairs 16 = .ok (.iload_n 1, 1) := dk_27 (dk_at dksX2_pairs_0 16 rfl rfl)
theorem dX2_pairs_17 : decode cX2_pairs 17 = .ok (.bipush 8, 2) := dk_16 8 (dk_at dksX2_pairs_0 17 rfl rfl)
theorem dX2_pairs_19 : decode cX2_pairs 19 = .ok (.if_icmp .ne 14, 3) := dk_160 0 14 (dk_at dksX2_pairs_0 19 rfl rfl)
theorem dX2_pairs_22 : decode cX2_pairs 22 = .ok (.iload_n 2, 1) := dk_28 (dk_at dksX2_pairs_0 22 rfl rfl)
theorem dX2_pairs_23 : decode cX2_pairs 23 = .ok (.iconst (-1), 1) := dk_2 (dk_at dksX2_pairs_0 23 rfl rfl)
theorem dX2_pairs_24 : decode cX2_pairs 24 = .ok (.iload_n 1, 1) := dk_27 (dk_at dksX2_pairs_1 0 rfl rfl)
theorem dX2_pairs_25 : decode cX2_pairs 25 = .ok (.iconst 1, 1) := dk_4 (dk_at dksX2_pairs_1 1 rfl rfl)
theorem dX2_pairs_26 : decode cX2_pairs 26 = .ok (.isub, 1) := dk_100 (dk_at dksX2_pairs_1 2 rfl rfl)
theorem dX2_pairs_27 : decode cX2_pairs 27 = .ok (.invokestatic 73, 3) := dk_184 0 73 (dk_at dksX2_pairs_1 3 rfl rfl)
theorem dX2_pairs_30 : decode cX2_pairs 30 = .ok (.ifCond .ne 5, 3) := dk_154 0 5 (dk_at dksX2_pairs_1 6 rfl rfl)
theorem dX2_pairs_33 : decode cX2_pairs 33 = .ok (.iconst (-1), 1) := dk_2 (dk_at dksX2_pairs_1 9 rfl rfl)
theorem dX2_pairs_34 : decode cX2_pairs 34 = .ok (.ireturn, 1) := dk_172 (dk_at dksX2_pairs_1 10 rfl rfl)
theorem dX2_pairs_35 : decode cX2_pairs 35 = .ok (.aload_n 0, 1) := dk_42 (dk_at dksX2_pairs_1 11 rfl rfl)
theorem dX2_pairs_36 : decode cX2_pairs 36 = .ok (.getfield 60, 3) := dk_180 0 60 (dk_at dksX2_pairs_1 12 rfl rfl)
theorem dX2_pairs_39 : decode cX2_pairs 39 = .ok (.iconst 0, 1) := dk_3 (dk_at dksX2_pairs_1 15 rfl rfl)
theorem dX2_pairs_40 : decode cX2_pairs 40 = .ok (.iconst 0, 1) := dk_3 (dk_at dksX2_pairs_1 16 rfl rfl)
theorem dX2_pairs_41 : decode cX2_pairs 41 = .ok (.iastore, 1) := dk_79 (dk_at dksX2_pairs_1 17 rfl rfl)
theorem dX2_pairs_42 : decode cX2_pairs 42 = .ok (.iconst 1, 1) := dk_4 (dk_at dksX2_pairs_1 18 rfl rfl)
theorem dX2_pairs_43 : decode cX2_pairs 43 = .ok (.istore_n 3, 1) := dk_62 (dk_at dksX2_pairs_1 19 rfl rfl)
theorem dX2_pairs_44 : decode cX2_pairs 44 = .ok (.iload_n 3, 1) := dk_29 (dk_at dksX2_pairs_1 20 rfl rfl)
theorem dX2_pairs_45 : decode cX2_pairs 45 = .ok (.iconst 1, 1) := dk_4 (dk_at dksX2_pairs_1 21 rfl rfl)
theorem dX2_pairs_46 : decode cX2_pairs 46 = .ok (.iload_n 1, 1) := dk_27 (dk_at dksX2_pairs_1 22 rfl rfl)
theorem dX2_pairs_47 : decode cX2_pairs 47 = .ok (.ishl, 1) := dk_120 (dk_at dksX2_pairs_1 23 rfl rfl)
theorem dX2_pairs_48 : decode cX2_pairs 48 = .ok (.if_icmp .ge 76, 3) := dk_162 0 76 (dk_at dksX2_pairs_2 0 rfl rfl)
theorem dX2_pairs_51 : decode cX2_pairs 51 = .ok (.aload_n 0, 1) := dk_42 (dk_at dksX2_pairs_2 3 rfl rfl)
theorem dX2_pairs_52 : decode cX2_pairs 52 = .ok (.getfield 60, 3) := dk_180 0 60 (dk_at dksX2_pairs_2 4 rfl rfl)
theorem dX2_pairs_55 : decode cX2_pairs 55 = .ok (.iload_n 3, 1) := dk_29 (dk_at dksX2_pairs_2 7 rfl rfl)
theorem dX2_pairs_56 : decode cX2_pairs 56 = .ok (.ldc_w 419, 3) := dk_19 1 163 (dk_at dksX2_pairs_2 8 rfl rfl)
theorem dX2_pairs_59 : decode cX2_pairs 59 = .ok (.iastore, 1) := dk_79 (dk_at dksX2_pairs_2 11 rfl rfl)
theorem dX2_pairs_60 : decode cX2_pairs 60 = .ok (.iload_n 3, 1) := dk_29 (dk_at dksX2_pairs_2 12 rfl rfl)
theorem dX2_pairs_61 : decode cX2_pairs 61 = .ok (.invokestatic 438, 3) := dk_184 1 182 (dk_at dksX2_pairs_2 13 rfl rfl)
theorem dX2_pairs_64 : decode cX2_pairs 64 = .ok (.iconst 1, 1) := dk_4 (dk_at dksX2_pairs_2 16 rfl rfl)
theorem dX2_pairs_65 : decode cX2_pairs 65 = .ok (.iadd, 1) := dk_96 (dk_at dksX2_pairs_2 17 rfl rfl)
theorem dX2_pairs_66 : decode cX2_pairs 66 = .ok (.istore 4, 2) := dk_54 4 (dk_at dksX2_pairs_2 18 rfl rfl)
theorem dX2_pairs_68 : decode cX2_pairs 68 = .ok (.iload 4, 2) := dk_21 4 (dk_at dksX2_pairs_2 20 rfl rfl)
theorem dX2_pairs_70 : decode cX2_pairs 70 = .ok (.iload_n 1, 1) := dk_27 (dk_at dksX2_pairs_2 22 rfl rfl)
theorem dX2_pairs_71 : decode cX2_pairs 71 = .ok (.if_icmp .ge 47, 3) := dk_162 0 47 (dk_at dksX2_pairs_3 0 rfl rfl)
theorem dX2_pairs_74 : decode cX2_pairs 74 = .ok (.iload_n 3, 1) := dk_29 (dk_at dksX2_pairs_3 3 rfl rfl)
theorem dX2_pairs_75 : decode cX2_pairs 75 = .ok (.iload 4, 2) := dk_21 4 (dk_at dksX2_pairs_3 4 rfl rfl)
theorem dX2_pairs_77 : decode cX2_pairs 77 = .ok (.invokestatic 256, 3) := dk_184 1 0 (dk_at dksX2_pairs_3 6 rfl rfl)
theorem dX2_pairs_80 : decode cX2_pairs 80 = .ok (.ifCond .eq 32, 3) := dk_153 0 32 (dk_at dksX2_pairs_3 9 rfl rfl)
theorem dX2_pairs_83 : decode cX2_pairs 83 = .ok (.aload_n 0, 1) := dk_42 (dk_at dksX2_pairs_3 12 rfl rfl)
theorem dX2_pairs_84 : decode cX2_pairs 84 = .ok (.iload_n 3, 1) := dk_29 (dk_at dksX2_pairs_3 13 rfl rfl)
theorem dX2_pairs_85 : decode cX2_pairs 85 = .ok (.iload 4, 2) := dk_21 4 (dk_at dksX2_pairs_3 14 rfl rfl)
theorem dX2_pairs_87 : decode cX2_pairs 87 = .ok (.invokevirtual 441, 3) := dk_182 1 185 (dk_at dksX2_pairs_3 16 rfl rfl)
theorem dX2_pairs_90 : decode cX2_pairs 90 = .ok (.aload_n 0, 1) := dk_42 (dk_at dksX2_pairs_3 19 rfl rfl)
theorem dX2_pairs_91 : decode cX2_pairs 91 = .ok (.getfield 60, 3) := dk_180 0 60 (dk_at dksX2_pairs_3 20 rfl rfl)
theorem dX2_pairs_94 : decode cX2_pairs 94 = .ok (.iload_n 3, 1) := dk_29 (dk_at dksX2_pairs_3 23 rfl rfl)
theorem dX2_pairs_95 : decode cX2_pairs 95 = .ok (.iaload, 1) := dk_46 (dk_at dksX2_pairs_4 0 rfl rfl)
theorem dX2_pairs_96 : decode cX2_pairs 96 = .ok (.if_icmp .ge 16, 3) := dk_162 0 16 (dk_at dksX2_pairs_4 1 rfl rfl)
theorem dX2_pairs_99 : decode cX2_pairs 99 = .ok (.aload_n 0, 1) := dk_42 (dk_at dksX2_pairs_4 4 rfl rfl)
theorem dX2_pairs_100 : decode cX2_pairs 100 = .ok (.getfield 60, 3) := dk_180 0 60 (dk_at dksX2_pairs_4 5 rfl rfl)
theorem dX2_pairs_103 : decode cX2_pairs 103 = .ok (.iload_n 3, 1) := dk_29 (dk_at dksX2_pairs_4 8 rfl rfl)
theorem dX2_pairs_104 : decode cX2_pairs 104 = .ok (.aload_n 0, 1) := dk_42 (dk_at dksX2_pairs_4 9 rfl rfl)
theorem dX2_pairs_105 : decode cX2_pairs 105 = .ok (.iload_n 3, 1) := dk_29 (dk_at dksX2_pairs_4 10 rfl rfl)
theorem dX2_pairs_106 : decode cX2_pairs 106 = .ok (.iload 4, 2) := dk_21 4 (dk_at dksX2_pairs_4 11 rfl rfl)
theorem dX2_pairs_108 : decode cX2_pairs 108 = .ok (.invokevirtual 441, 3) := dk_182 1 185 (dk_at dksX2_pairs_4 13 rfl rfl)
theorem dX2_pairs_111 : decode cX2_pairs 111 = .ok (.iastore, 1) := dk_79 (dk_at dksX2_pairs_4 16 rfl rfl)
theorem dX2_pairs_112 : decode cX2_pairs 112 = .ok (.iinc 4 1, 3) := dk_132 4 1 (dk_at dksX2_pairs_4 17 rfl rfl)
theorem dX2_pairs_115 : decode cX2_pairs 115 = .ok (.goto (-47), 3) := dk_167 255 209 (dk_at dksX2_pairs_4 20 rfl rfl)
theorem dX2_pairs_118 : decode cX2_pairs 118 = .ok (.iinc 3 1, 3) := dk_132 3 1 (dk_at dksX2_pairs_5 0 rfl rfl)
theorem dX2_pairs_121 : decode cX2_pairs 121 = .ok (.goto (-77), 3) := dk_167 255 179 (dk_at dksX2_pairs_5 3 rfl rfl)
theorem dX2_pairs_124 : decode cX2_pairs 124 = .ok (.iconst 1, 1) := dk_4 (dk_at dksX2_pairs_5 6 rfl rfl)
theorem dX2_pairs_125 : decode cX2_pairs 125 = .ok (.iload_n 1, 1) := dk_27 (dk_at dksX2_pairs_5 7 rfl rfl)
theorem dX2_pairs_126 : decode cX2_pairs 126 = .ok (.ishl, 1) := dk_120 (dk_at dksX2_pairs_5 8 rfl rfl)
theorem dX2_pairs_127 : decode cX2_pairs 127 = .ok (.iconst 1, 1) := dk_4 (dk_at dksX2_pairs_5 9 rfl rfl)
theorem dX2_pairs_128 : decode cX2_pairs 128 = .ok (.isub, 1) := dk_100 (dk_at dksX2_pairs_5 10 rfl rfl)
theorem dX2_pairs_129 : decode cX2_pairs 129 = .ok (.istore_n 3, 1) := dk_62 (dk_at dksX2_pairs_5 11 rfl rfl)
theorem dX2_pairs_130 : decode cX2_pairs 130 = .ok (.iload_n 2, 1) := dk_28 (dk_at dksX2_pairs_5 12 rfl rfl)
theorem dX2_pairs_131 : decode cX2_pairs 131 = .ok (.iconst (-1), 1) := dk_2 (dk_at dksX2_pairs_5 13 rfl rfl)
theorem dX2_pairs_132 : decode cX2_pairs 132 = .ok (.if_icmp .ne 10, 3) := dk_160 0 10 (dk_at dksX2_pairs_5 14 rfl rfl)
theorem dX2_pairs_135 : decode cX2_pairs 135 = .ok (.aload_n 0, 1) := dk_42 (dk_at dksX2_pairs_5 17 rfl rfl)
theorem dX2_pairs_136 : decode cX2_pairs 136 = .ok (.getfield 60, 3) := dk_180 0 60 (dk_at dksX2_pairs_5 18 rfl rfl)
theorem dX2_pairs_139 : decode cX2_pairs 139 = .ok (.iload_n 3, 1) := dk_29 (dk_at dksX2_pairs_5 21 rfl rfl)
theorem dX2_pairs_140 : decode cX2_pairs 140 = .ok (.iaload, 1) := dk_46 (dk_at dksX2_pairs_5 22 rfl rfl)
theorem dX2_pairs_141 : decode cX2_pairs 141 = .ok (.ireturn, 1) := dk_172 (dk_at dksX2_pairs_5 23 rfl rfl)
theorem dX2_pairs_142 : decode cX2_pairs 142 = .ok (.iload_n 3, 1) := dk_29 (dk_at dksX2_pairs_6 0 rfl rfl)
theorem dX2_pairs_143 : decode cX2_pairs 143 = .ok (.invokestatic 438, 3) := dk_184 1 182 (dk_at dksX2_pairs_6 1 rfl rfl)
theorem dX2_pairs_146 : decode cX2_pairs 146 = .ok (.istore 4, 2) := dk_54 4 (dk_at dksX2_pairs_6 4 rfl rfl)
theorem dX2_pairs_148 : decode cX2_pairs 148 = .ok (.iload 4, 2) := dk_21 4 (dk_at dksX2_pairs_6 6 rfl rfl)
theorem dX2_pairs_150 : decode cX2_pairs 150 = .ok (.iconst 1, 1) := dk_4 (dk_at dksX2_pairs_6 8 rfl rfl)
theorem dX2_pairs_151 : decode cX2_pairs 151 = .ok (.iadd, 1) := dk_96 (dk_at dksX2_pairs_6 9 rfl rfl)
theorem dX2_pairs_152 : decode cX2_pairs 152 = .ok (.istore 5, 2) := dk_54 5 (dk_at dksX2_pairs_6 10 rfl rfl)
theorem dX2_pairs_154 : decode cX2_pairs 154 = .ok (.iload_n 3, 1) := dk_29 (dk_at dksX2_pairs_6 12 rfl rfl)
theorem dX2_pairs_155 : decode cX2_pairs 155 = .ok (.iload 5, 2) := dk_21 5 (dk_at dksX2_pairs_6 13 rfl rfl)
theorem dX2_pairs_157 : decode cX2_pairs 157 = .ok (.invokestatic 256, 3) := dk_184 1 0 (dk_at dksX2_pairs_6 15 rfl rfl)
theorem dX2_pairs_160 : decode cX2_pairs 160 = .ok (.ifCond .eq 19, 3) := dk_153 0 19 (dk_at dksX2_pairs_6 18 rfl rfl)
theorem dX2_pairs_163 : decode cX2_pairs 163 = .ok (.aload_n 0, 1) := dk_42 (dk_at dksX2_pairs_6 21 rfl rfl)
theorem dX2_pairs_164 : decode cX2_pairs 164 = .ok (.iload_n 3, 1) := dk_29 (dk_at dksX2_pairs_6 22 rfl rfl)
theorem dX2_pairs_165 : decode cX2_pairs 165 = .ok (.iload 5, 2) := dk_21 5 (dk_at dksX2_pairs_7 0 rfl rfl)
theorem dX2_pairs_167 : decode cX2_pairs 167 = .ok (.invokevirtual 441, 3) := dk_182 1 185 (dk_at dksX2_pairs_7 2 rfl rfl)
theorem dX2_pairs_170 : decode cX2_pairs 170 = .ok (.aload_n 0, 1) := dk_42 (dk_at dksX2_pairs_7 5 rfl rfl)
theorem dX2_pairs_171 : decode cX2_pairs 171 = .ok (.getfield 60, 3) := dk_180 0 60 (dk_at dksX2_pairs_7 6 rfl rfl)
theorem dX2_pairs_174 : decode cX2_pairs 174 = .ok (.iload_n 3, 1) := dk_29 (dk_at dksX2_pairs_7 9 rfl rfl)
theorem dX2_pairs_175 : decode cX2_pairs 175 = .ok (.iaload, 1) := dk_46 (dk_at dksX2_pairs_7 10 rfl rfl)
theorem dX2_pairs_176 : decode cX2_pairs 176 = .ok (.if_icmp .eq 9, 3) := dk_159 0 9 (dk_at dksX2_pairs_7 11 rfl rfl)
theorem dX2_pairs_179 : decode cX2_pairs 179 = .ok (.iinc 5 1, 3) := dk_132 5 1 (dk_at dksX2_pairs_7 14 rfl rfl)
theorem dX2_pairs_182 : decode cX2_pairs 182 = .ok (.goto (-28), 3) := dk_167 255 228 (dk_at dksX2_pairs_7 17 rfl rfl)
theorem dX2_pairs_185 : decode cX2_pairs 185 = .ok (.iload 4, 2) := dk_21 4 (dk_at dksX2_pairs_7 20 rfl rfl)
theorem dX2_pairs_187 : decode cX2_pairs 187 = .ok (.iload_n 2, 1) := dk_28 (dk_at dksX2_pairs_7 22 rfl rfl)
theorem dX2_pairs_188 : decode cX2_pairs 188 = .ok (.if_icmp .ne 6, 3) := dk_160 0 6 (dk_at dksX2_pairs_8 0 rfl rfl)
theorem dX2_pairs_191 : decode cX2_pairs 191 = .ok (.iload 5, 2) := dk_21 5 (dk_at dksX2_pairs_8 3 rfl rfl)
theorem dX2_pairs_193 : decode cX2_pairs 193 = .ok (.ireturn, 1) := dk_172 (dk_at dksX2_pairs_8 5 rfl rfl)
theorem dX2_pairs_194 : decode cX2_pairs 194 = .ok (.iload 5, 2) := dk_21 5 (dk_at dksX2_pairs_8 6 rfl rfl)
theorem dX2_pairs_196 : decode cX2_pairs 196 = .ok (.iload_n 2, 1) := dk_28 (dk_at dksX2_pairs_8 8 rfl rfl)
theorem dX2_pairs_197 : decode cX2_pairs 197 = .ok (.if_icmp .ne 6, 3) := dk_160 0 6 (dk_at dksX2_pairs_8 9 rfl rfl)
theorem dX2_pairs_200 : decode cX2_pairs 200 = .ok (.iload 4, 2) := dk_21 4 (dk_at dksX2_pairs_8 12 rfl rfl)
theorem dX2_pairs_202 : decode cX2_pairs 202 = .ok (.ireturn, 1) := dk_172 (dk_at dksX2_pairs_8 14 rfl rfl)
theorem dX2_pairs_203 : decode cX2_pairs 203 = .ok (.iload_n 3, 1) := dk_29 (dk_at dksX2_pairs_8 15 rfl rfl)
theorem dX2_pairs_204 : decode cX2_pairs 204 = .ok (.iconst 1, 1) := dk_4 (dk_at dksX2_pairs_8 16 rfl rfl)
theorem dX2_pairs_205 : decode cX2_pairs 205 = .ok (.iload 4, 2) := dk_21 4 (dk_at dksX2_pairs_8 17 rfl rfl)
theorem dX2_pairs_207 : decode cX2_pairs 207 = .ok (.ishl, 1) := dk_120 (dk_at dksX2_pairs_8 19 rfl rfl)
theorem dX2_pairs_208 : decode cX2_pairs 208 = .ok (.iconst (-1), 1) := dk_2 (dk_at dksX2_pairs_8 20 rfl rfl)
theorem dX2_pairs_209 : decode cX2_pairs 209 = .ok (.ixor, 1) := dk_130 (dk_at dksX2_pairs_8 21 rfl rfl)
theorem dX2_pairs_210 : decode cX2_pairs 210 = .ok (.iconst 1, 1) := dk_4 (dk_at dksX2_pairs_8 22 rfl rfl)
theorem dX2_pairs_211 : decode cX2_pairs 211 = .ok (.iload 5, 2) := dk_21 5 (dk_at dksX2_pairs_9 0 rfl rfl)
theorem dX2_pairs_213 : decode cX2_pairs 213 = .ok (.ishl, 1) := dk_120 (dk_at dksX2_pairs_9 2 rfl rfl)
theorem dX2_pairs_214 : decode cX2_pairs 214 = .ok (.iconst (-1), 1) := dk_2 (dk_at dksX2_pairs_9 3 rfl rfl)
theorem dX2_pairs_215 : decode cX2_pairs 215 = .ok (.ixor, 1) := dk_130 (dk_at dksX2_pairs_9 4 rfl rfl)
theorem dX2_pairs_216 : decode cX2_pairs 216 = .ok (.iand, 1) := dk_126 (dk_at dksX2_pairs_9 5 rfl rfl)
theorem dX2_pairs_217 : decode cX2_pairs 217 = .ok (.iand, 1) := dk_126 (dk_at dksX2_pairs_9 6 rfl rfl)
theorem dX2_pairs_218 : decode cX2_pairs 218 = .ok (.istore_n 3, 1) := dk_62 (dk_at dksX2_pairs_9 7 rfl rfl)
theorem dX2_pairs_219 : decode cX2_pairs 219 = .ok (.goto (-77), 3) := dk_167 255 179 (dk_at dksX2_pairs_9 8 rfl rfl)
abbrev cX2_lowestOf : ByteArray := prog_19_method_132_code
def yX2_lowestOf : MethodName := ⟨RX2, "lowestOf", "(I)I"⟩
def dkwX2_lowestOf_0 : List UInt8 := [3, 60, 26, 27, 184, 1, 0, 154, 0, 9, 132, 1, 1, 167, 255, 245, 27, 172]
abbrev dktX2_lowestOf_0 : List UInt8 := dkwX2_lowestOf_0 ++ []
theorem dksX2_lowestOf_0 : cX2_lowestOf.data.toList.drop 0 = dktX2_lowestOf_0 := by decide +kernel
theorem dX2_lowestOf_0 : decode cX2_lowestOf 0 = .ok (.iconst 0, 1) := dk_3 (dk_at dksX2_lowestOf_0 0 rfl rfl)
theorem dX2_lowestOf_1 : decode cX2_lowestOf 1 = .ok (.istore_n 1, 1) := dk_60 (dk_at dksX2_lowestOf_0 1 rfl rfl)
theorem dX2_lowestOf_2 : decode cX2_lowestOf 2 = .ok (.iload_n 0, 1) := dk_26 (dk_at dksX2_lowestOf_0 2 rfl rfl)
theorem dX2_lowestOf_3 : decode cX2_lowestOf 3 = .ok (.iload_n 1, 1) := dk_27 (dk_at dksX2_lowestOf_0 3 rfl rfl)
theorem dX2_lowestOf_4 : decode cX2_lowestOf 4 = .ok (.invokestatic 256, 3) := dk_184 1 0 (dk_at dksX2_lowestOf_0 4 rfl rfl)
theorem dX2_lowestOf_7 : decode cX2_lowestOf 7 = .ok (.ifCond .ne 9, 3) := dk_154 0 9 (dk_at dksX2_lowestOf_0 7 rfl rfl)
theorem dX2_lowestOf_10 : decode cX2_lowestOf 10 = .ok (.iinc 1 1, 3) := dk_132 1 1 (dk_at dksX2_lowestOf_0 10 rfl rfl)
theorem dX2_lowestOf_13 : decode cX2_lowestOf 13 = .ok (.goto (-11), 3) := dk_167 255 245 (dk_at dksX2_lowestOf_0 13 rfl rfl)
theorem dX2_lowestOf_16 : decode cX2_lowestOf 16 = .ok (.iload_n 1, 1) := dk_27 (dk_at dksX2_lowestOf_0 16 rfl rfl)
theorem dX2_lowestOf_17 : decode cX2_lowestOf 17 = .ok (.ireturn, 1) := dk_172 (dk_at dksX2_lowestOf_0 17 rfl rfl)
abbrev cX2_withPair : ByteArray := prog_19_method_133_code
def yX2_withPair : MethodName := ⟨RX2, "withPair", "(II)I"⟩
def dkwX2_withPair_1 : List UInt8 := [4, 29, 120, 2, 130, 126, 4, 28, 120, 2, 130, 126, 46, 96, 172]
abbrev dktX2_withPair_1 : List UInt8 := dkwX2_withPair_1 ++ []
def dkwX2_withPair_0 : List UInt8 := [27, 184, 1, 182, 62, 42, 180, 0, 7, 16, 78, 16, 8, 29, 104, 96, 28, 96, 46, 42, 180, 0, 60, 27]
abbrev dktX2_withPair_0 : List UInt8 := dkwX2_withPair_0 ++ dktX2_withPair_1
theorem dksX2_withPair_0 : cX2_withPair.data.toList.drop 0 = dktX2_withPair_0 := by decide +kernel
theorem dksX2_withPair_1 : cX2_withPair.data.toList.drop 24 = dktX2_withPair_1 := dk_seg dksX2_withPair_0 24 rfl rfl
theorem dX2_withPair_0 : decode cX2_withPair 0 = .ok (.iload_n 1, 1) := dk_27 (dk_at dksX2_withPair_0 0 rfl rfl)
theorem dX2_withPair_1 : decode cX2_withPair 1 = .ok (.invokestatic 438, 3) := dk_184 1 182 (dk_at dksX2_withPair_0 1 rfl rfl)
theorem dX2_withPair_4 : decode cX2_withPair 4 = .ok (.istore_n 3, 1) := dk_62 (dk_at dksX2_withPair_0 4 rfl rfl)
theorem dX2_withPair_5 : decode cX2_withPair 5 = .ok (.aload_n 0, 1) := dk_42 (dk_at dksX2_withPair_0 5 rfl rfl)
theorem dX2_withPair_6 : decode cX2_withPair 6 = .ok (.getfield 7, 3) := dk_180 0 7 (dk_at dksX2_withPair_0 6 rfl rfl)
theorem dX2_withPair_9 : decode cX2_withPair 9 = .ok (.bipush 78, 2) := dk_16 78 (dk_at dksX2_withPair_0 9 rfl rfl)
theorem dX2_withPair_11 : decode cX2_withPair 11 = .ok (.bipush 8, 2) := dk_16 8 (dk_at dksX2_withPair_0 11 rfl rfl)
theorem dX2_withPair_13 : decode cX2_withPair 13 = .ok (.iload_n 3, 1) := dk_29 (dk_at dksX2_withPair_0 13 rfl rfl)
theorem dX2_withPair_14 : decode cX2_withPair 14 = .ok (.imul, 1) := dk_104 (dk_at dksX2_withPair_0 14 rfl rfl)
theorem dX2_withPair_15 : decode cX2_withPair 15 = .ok (.iadd, 1) := dk_96 (dk_at dksX2_withPair_0 15 rfl rfl)
theorem dX2_withPair_16 : decode cX2_withPair 16 = .ok (.iload_n 2, 1) := dk_28 (dk_at dksX2_withPair_0 16 rfl rfl)
theorem dX2_withPair_17 : decode cX2_withPair 17 = .ok (.iadd, 1) := dk_96 (dk_at dksX2_withPair_0 17 rfl rfl)
theorem dX2_withPair_18 : decode cX2_withPair 18 = .ok (.iaload, 1) := dk_46 (dk_at dksX2_withPair_0 18 rfl rfl)
theorem dX2_withPair_19 : decode cX2_withPair 19 = .ok (.aload_n 0, 1) := dk_42 (dk_at dksX2_withPair_0 19 rfl rfl)
theorem dX2_withPair_20 : decode cX2_withPair 20 = .ok (.getfield 60, 3) := dk_180 0 60 (dk_at dksX2_withPair_0 20 rfl rfl)
theorem dX2_withPair_23 : decode cX2_withPair 23 = .ok (.iload_n 1, 1) := dk_27 (dk_at dksX2_withPair_0 23 rfl rfl)
theorem dX2_withPair_24 : decode cX2_withPair 24 = .ok (.iconst 1, 1) := dk_4 (dk_at dksX2_withPair_1 0 rfl rfl)
theorem dX2_withPair_25 : decode cX2_withPair 25 = .ok (.iload_n 3, 1) := dk_29 (dk_at dksX2_withPair_1 1 rfl rfl)
theorem dX2_withPair_26 : decode cX2_withPair 26 = .ok (.ishl, 1) := dk_120 (dk_at dksX2_withPair_1 2 rfl rfl)
theorem dX2_withPair_27 : decode cX2_withPair 27 = .ok (.iconst (-1), 1) := dk_2 (dk_at dksX2_withPair_1 3 rfl rfl)
theorem dX2_withPair_28 : decode cX2_withPair 28 = .ok (.ixor, 1) := dk_130 (dk_at dksX2_withPair_1 4 rfl rfl)
theorem dX2_withPair_29 : decode cX2_withPair 29 = .ok (.iand, 1) := dk_126 (dk_at dksX2_withPair_1 5 rfl rfl)
theorem dX2_withPair_30 : decode cX2_withPair 30 = .ok (.iconst 1, 1) := dk_4 (dk_at dksX2_withPair_1 6 rfl rfl)
theorem dX2_withPair_31 : decode cX2_withPair 31 = .ok (.iload_n 2, 1) := dk_28 (dk_at dksX2_withPair_1 7 rfl rfl)
theorem dX2_withPair_32 : decode cX2_withPair 32 = .ok (.ishl, 1) := dk_120 (dk_at dksX2_withPair_1 8 rfl rfl)
theorem dX2_withPair_33 : decode cX2_withPair 33 = .ok (.iconst (-1), 1) := dk_2 (dk_at dksX2_withPair_1 9 rfl rfl)
theorem dX2_withPair_34 : decode cX2_withPair 34 = .ok (.ixor, 1) := dk_130 (dk_at dksX2_withPair_1 10 rfl rfl)
theorem dX2_withPair_35 : decode cX2_withPair 35 = .ok (.iand, 1) := dk_126 (dk_at dksX2_withPair_1 11 rfl rfl)
theorem dX2_withPair_36 : decode cX2_withPair 36 = .ok (.iaload, 1) := dk_46 (dk_at dksX2_withPair_1 12 rfl rfl)
theorem dX2_withPair_37 : decode cX2_withPair 37 = .ok (.iadd, 1) := dk_96 (dk_at dksX2_withPair_1 13 rfl rfl)
theorem dX2_withPair_38 : decode cX2_withPair 38 = .ok (.ireturn, 1) := dk_172 (dk_at dksX2_withPair_1 14 rfl rfl)
abbrev cX2_likes : ByteArray := prog_19_method_135_code
def yX2_likes : MethodName := ⟨RX2, "likes", "(III)Z"⟩
def dkwX2_likes_1 : List UInt8 := [3, 172, 42, 180, 0, 7, 17, 0, 142, 16, 8, 27, 104, 96, 28, 96, 29, 79, 4, 172]
abbrev dktX2_likes_1 : List UInt8 := dkwX2_likes_1 ++ []
def dkwX2_likes_0 : List UInt8 := [27, 184, 0, 96, 153, 0, 20, 28, 184, 0, 96, 153, 0, 13, 29, 3, 16, 9, 184, 0, 73, 154, 0, 5]
abbrev dktX2_likes_0 : List UInt8 := dkwX2_likes_0 ++ dktX2_likes_1
theorem dksX2_likes_0 : cX2_likes.data.toList.drop 0 = dktX2_likes_0 := by decide +kernel
theorem dksX2_likes_1 : cX2_likes.data.toList.drop 24 = dktX2_likes_1 := dk_seg dksX2_likes_0 24 rfl rfl
theorem dX2_likes_0 : decode cX2_likes 0 = .ok (.iload_n 1, 1) := dk_27 (dk_at dksX2_likes_0 0 rfl rfl)
theorem dX2_likes_1 : decode cX2_likes 1 = .ok (.invokestatic 96, 3) := dk_184 0 96 (dk_at dksX2_likes_0 1 rfl rfl)
theorem dX2_likes_4 : decode cX2_likes 4 = .ok (.ifCond .eq 20, 3) := dk_153 0 20 (dk_at dksX2_likes_0 4 rfl rfl)
theorem dX2_likes_7 : decode cX2_likes 7 = .ok (.iload_n 2, 1) := dk_28 (dk_at dksX2_likes_0 7 rfl rfl)
theorem dX2_likes_8 : decode cX2_likes 8 = .ok (.invokestatic 96, 3) := dk_184 0 96 (dk_at dksX2_likes_0 8 rfl rfl)
theorem dX2_likes_11 : decode cX2_likes 11 = .ok (.ifCond .eq 13, 3) := dk_153 0 13 (dk_at dksX2_likes_0 11 rfl rfl)
theorem dX2_likes_14 : decode cX2_likes 14 = .ok (.iload_n 3, 1) := dk_29 (dk_at dksX2_likes_0 14 rfl rfl)
theorem dX2_likes_15 : decode cX2_likes 15 = .ok (.iconst 0, 1) := dk_3 (dk_at dksX2_likes_0 15 rfl rfl)
theorem dX2_likes_16 : decode cX2_likes 16 = .ok (.bipush 9, 2) := dk_16 9 (dk_at dksX2_likes_0 16 rfl rfl)
theorem dX2_likes_18 : decode cX2_likes 18 = .ok (.invokestatic 73, 3) := dk_184 0 73 (dk_at dksX2_likes_0 18 rfl rfl)
theorem dX2_likes_21 : decode cX2_likes 21 = .ok (.ifCond .ne 5, 3) := dk_154 0 5 (dk_at dksX2_likes_0 21 rfl rfl)
theorem dX2_likes_24 : decode cX2_likes 24 = .ok (.iconst 0, 1) := dk_3 (dk_at dksX2_likes_1 0 rfl rfl)
theorem dX2_likes_25 : decode cX2_likes 25 = .ok (.ireturn, 1) := dk_172 (dk_at dksX2_likes_1 1 rfl rfl)
theorem dX2_likes_26 : decode cX2_likes 26 = .ok (.aload_n 0, 1) := dk_42 (dk_at dksX2_likes_1 2 rfl rfl)
theorem dX2_likes_27 : decode cX2_likes 27 = .ok (.getfield 7, 3) := dk_180 0 7 (dk_at dksX2_likes_1 3 rfl rfl)
theorem dX2_likes_30 : decode cX2_likes 30 = .ok (.sipush 142, 3) := dk_17 0 142 (dk_at dksX2_likes_1 6 rfl rfl)
theorem dX2_likes_33 : decode cX2_likes 33 = .ok (.bipush 8, 2) := dk_16 8 (dk_at dksX2_likes_1 9 rfl rfl)
theorem dX2_likes_35 : decode cX2_likes 35 = .ok (.iload_n 1, 1) := dk_27 (dk_at dksX2_likes_1 11 rfl rfl)
theorem dX2_likes_36 : decode cX2_likes 36 = .ok (.imul, 1) := dk_104 (dk_at dksX2_likes_1 12 rfl rfl)
theorem dX2_likes_37 : decode cX2_likes 37 = .ok (.iadd, 1) := dk_96 (dk_at dksX2_likes_1 13 rfl rfl)
theorem dX2_likes_38 : decode cX2_likes 38 = .ok (.iload_n 2, 1) := dk_28 (dk_at dksX2_likes_1 14 rfl rfl)
theorem dX2_likes_39 : decode cX2_likes 39 = .ok (.iadd, 1) := dk_96 (dk_at dksX2_likes_1 15 rfl rfl)
theorem dX2_likes_40 : decode cX2_likes 40 = .ok (.iload_n 3, 1) := dk_29 (dk_at dksX2_likes_1 16 rfl rfl)
theorem dX2_likes_41 : decode cX2_likes 41 = .ok (.iastore, 1) := dk_79 (dk_at dksX2_likes_1 17 rfl rfl)
theorem dX2_likes_42 : decode cX2_likes 42 = .ok (.iconst 1, 1) := dk_4 (dk_at dksX2_likes_1 18 rfl rfl)
theorem dX2_likes_43 : decode cX2_likes 43 = .ok (.ireturn, 1) := dk_172 (dk_at dksX2_likes_1 19 rfl rfl)
abbrev cX2_traded : ByteArray := prog_19_method_138_code
def yX2_traded : MethodName := ⟨RX2, "traded", "(II)I"⟩
def dkwX2_traded_1 : List UInt8 := [27, 182, 1, 191, 42, 180, 0, 63, 28, 46, 172]
abbrev dktX2_traded_1 : List UInt8 := dkwX2_traded_1 ++ []
def dkwX2_traded_0 : List UInt8 := [27, 4, 16, 8, 184, 0, 73, 153, 0, 14, 28, 3, 27, 4, 100, 184, 0, 73, 154, 0, 5, 2, 172, 42]
abbrev dktX2_traded_0 : List UInt8 := dkwX2_traded_0 ++ dktX2_traded_1
theorem dksX2_traded_0 : cX2_traded.data.toList.drop 0 = dktX2_traded_0 := by decide +kernel
theorem dksX2_traded_1 : cX2_traded.data.toList.drop 24 = dktX2_traded_1 := dk_seg dksX2_traded_0 24 rfl rfl
theorem dX2_traded_0 : decode cX2_traded 0 = .ok (.iload_n 1, 1) := dk_27 (dk_at dksX2_traded_0 0 rfl rfl)
theorem dX2_traded_1 : decode cX2_traded 1 = .ok (.iconst 1, 1) := dk_4 (dk_at dksX2_traded_0 1 rfl rfl)
theorem dX2_traded_2 : decode cX2_traded 2 = .ok (.bipush 8, 2) := dk_16 8 (dk_at dksX2_traded_0 2 rfl rfl)
theorem dX2_traded_4 : decode cX2_traded 4 = .ok (.invokestatic 73, 3) := dk_184 0 73 (dk_at dksX2_traded_0 4 rfl rfl)
theorem dX2_traded_7 : decode cX2_traded 7 = .ok (.ifCond .eq 14, 3) := dk_153 0 14 (dk_at dksX2_traded_0 7 rfl rfl)
theorem dX2_traded_10 : decode cX2_traded 10 = .ok (.iload_n 2, 1) := dk_28 (dk_at dksX2_traded_0 10 rfl rfl)
theorem dX2_traded_11 : decode cX2_traded 11 = .ok (.iconst 0, 1) := dk_3 (dk_at dksX2_traded_0 11 rfl rfl)
theorem dX2_traded_12 : decode cX2_traded 12 = .ok (.iload_n 1, 1) := dk_27 (dk_at dksX2_traded_0 12 rfl rfl)
theorem dX2_traded_13 : decode cX2_traded 13 = .ok (.iconst 1, 1) := dk_4 (dk_at dksX2_traded_0 13 rfl rfl)
theorem dX2_traded_14 : decode cX2_traded 14 = .ok (.isub, 1) := dk_100 (dk_at dksX2_traded_0 14 rfl rfl)
theorem dX2_traded_15 : decode cX2_traded 15 = .ok (.invokestatic 73, 3) := dk_184 0 73 (dk_at dksX2_traded_0 15 rfl rfl)
theorem dX2_traded_18 : decode cX2_traded 18 = .ok (.ifCond .ne 5, 3) := dk_154 0 5 (dk_at dksX2_traded_0 18 rfl rfl)
theorem dX2_traded_21 : decode cX2_traded 21 = .ok (.iconst (-1), 1) := dk_2 (dk_at dksX2_traded_0 21 rfl rfl)
theorem dX2_traded_22 : decode cX2_traded 22 = .ok (.ireturn, 1) := dk_172 (dk_at dksX2_traded_0 22 rfl rfl)
theorem dX2_traded_23 : decode cX2_traded 23 = .ok (.aload_n 0, 1) := dk_42 (dk_at dksX2_traded_0 23 rfl rfl)
theorem dX2_traded_24 : decode cX2_traded 24 = .ok (.iload_n 1, 1) := dk_27 (dk_at dksX2_traded_1 0 rfl rfl)
theorem dX2_traded_25 : decode cX2_traded 25 = .ok (.invokevirtual 447, 3) := dk_182 1 191 (dk_at dksX2_traded_1 1 rfl rfl)
theorem dX2_traded_28 : decode cX2_traded 28 = .ok (.aload_n 0, 1) := dk_42 (dk_at dksX2_traded_1 4 rfl rfl)
theorem dX2_traded_29 : decode cX2_traded 29 = .ok (.getfield 63, 3) := dk_180 0 63 (dk_at dksX2_traded_1 5 rfl rfl)
theorem dX2_traded_32 : decode cX2_traded 32 = .ok (.iload_n 2, 1) := dk_28 (dk_at dksX2_traded_1 8 rfl rfl)
theorem dX2_traded_33 : decode cX2_traded 33 = .ok (.iaload, 1) := dk_46 (dk_at dksX2_traded_1 9 rfl rfl)
theorem dX2_traded_34 : decode cX2_traded 34 = .ok (.ireturn, 1) := dk_172 (dk_at dksX2_traded_1 10 rfl rfl)
abbrev cX2_layTrades : ByteArray := prog_19_method_137_code
def yX2_layTrades : MethodName := ⟨RX2, "layTrades", "(I)V"⟩
def dkwX2_layTrades_3 : List UInt8 := [180, 0, 63, 29, 46, 62, 167, 255, 220, 28, 21, 4, 2, 130, 126, 61, 167, 255, 176, 177]
abbrev dktX2_layTrades_3 : List UInt8 := dkwX2_layTrades_3 ++ []
def dkwX2_layTrades_2 : List UInt8 := [154, 0, 33, 21, 4, 4, 29, 120, 128, 54, 4, 42, 180, 0, 63, 29, 42, 29, 28, 182, 1, 188, 79, 42]
abbrev dktX2_layTrades_2 : List UInt8 := dkwX2_layTrades_2 ++ dktX2_layTrades_3
def dkwX2_layTrades_1 : List UInt8 := [42, 29, 28, 182, 1, 188, 62, 132, 4, 1, 167, 255, 240, 3, 54, 4, 21, 4, 29, 184, 1, 0]
abbrev dktX2_layTrades_1 : List UInt8 := dkwX2_layTrades_1 ++ dktX2_layTrades_2
def dkwX2_layTrades_0 : List UInt8 := [4, 27, 120, 4, 100, 61, 28, 153, 0, 82, 28, 184, 1, 182, 62, 3, 54, 4, 21, 4, 27, 162, 0, 16]
abbrev dktX2_layTrades_0 : List UInt8 := dkwX2_layTrades_0 ++ dktX2_layTrades_1
theorem dksX2_layTrades_0 : cX2_layTrades.data.toList.drop 0 = dktX2_layTrades_0 := by decide +kernel
theorem dksX2_layTrades_1 : cX2_layTrades.data.toList.drop 24 = dktX2_layTrades_1 := dk_seg dksX2_layTrades_0 24 rfl rfl
theorem dksX2_layTrades_2 : cX2_layTrades.data.toList.drop 46 = dktX2_layTrades_2 := dk_seg dksX2_layTrades_1 22 rfl rfl
theorem dksX2_layTrades_3 : cX2_layTrades.data.toList.drop 70 = dktX2_layTrades_3 := dk_seg dksX2_layTrades_2 24 rfl rfl
theorem dX2_layTrades_0 : decode cX2_layTrades 0 = .ok (.iconst 1, 1) := dk_4 (dk_at dksX2_layTrades_0 0 rfl rfl)
theorem dX2_layTrades_1 : decode cX2_layTrades 1 = .ok (.iload_n 1, 1) := dk_27 (dk_at dksX2_layTrades_0 1 rfl rfl)
theorem dX2_layTrades_2 : decode cX2_layTrades 2 = .ok (.ishl, 1) := dk_120 (dk_at dksX2_layTrades_0 2 rfl rfl)
theorem dX2_layTrades_3 : decode cX2_layTrades 3 = .ok (.iconst 1, 1) := dk_4 (dk_at dksX2_layTrades_0 3 rfl rfl)
theorem dX2_layTrades_4 : decode cX2_layTrades 4 = .ok (.isub, 1) := dk_100 (dk_at dksX2_layTrades_0 4 rfl rfl)
theorem dX2_layTrades_5 : decode cX2_layTrades 5 = .ok (.istore_n 2, 1) := dk_61 (dk_at dksX2_layTrades_0 5 rfl rfl)
theorem dX2_layTrades_6 : decode cX2_layTrades 6 = .ok (.iload_n 2, 1) := dk_28 (dk_at dksX2_layTrades_0 6 rfl rfl)
theorem dX2_layTrades_7 : decode cX2_layTrades 7 = .ok (.ifCond .eq 82, 3) := dk_153 0 82 (dk_at dksX2_layTrades_0 7 rfl rfl)
theorem dX2_layTrades_10 : decode cX2_layTrades 10 = .ok (.iload_n 2, 1) := dk_28 (dk_at dksX2_layTrades_0 10 rfl rfl)
theorem dX2_layTrades_11 : decode cX2_layTrades 11 = .ok (.invokestatic 438, 3) := dk_184 1 182 (dk_at dksX2_layTrades_0 11 rfl rfl)
theorem dX2_layTrades_14 : decode cX2_layTrades 14 = .ok (.istore_n 3, 1) := dk_62 (dk_at dksX2_layTrades_0 14 rfl rfl)
theorem dX2_layTrades_15 : decode cX2_layTrades 15 = .ok (.iconst 0, 1) := dk_3 (dk_at dksX2_layTrades_0 15 rfl rfl)
theorem dX2_layTrades_16 : decode cX2_layTrades 16 = .ok (.istore 4, 2) := dk_54 4 (dk_at dksX2_layTrades_0 16 rfl rfl)
theorem dX2_layTrades_18 : decode cX2_layTrades 18 = .ok (.iload 4, 2) := dk_21 4 (dk_at dksX2_layTrades_0 18 rfl rfl)
theorem dX2_layTrades_20 : decode cX2_layTrades 20 = .ok (.iload_n 1, 1) := dk_27 (dk_at dksX2_layTrades_0 20 rfl rfl)
theorem dX2_layTrades_21 : decode cX2_layTrades 21 = .ok (.if_icmp .ge 16, 3) := dk_162 0 16 (dk_at dksX2_layTrades_0 21 rfl rfl)
theorem dX2_layTrades_24 : decode cX2_layTrades 24 = .ok (.aload_n 0, 1) := dk_42 (dk_at dksX2_layTrades_1 0 rfl rfl)
theorem dX2_layTrades_25 : decode cX2_layTrades 25 = .ok (.iload_n 3, 1) := dk_29 (dk_at dksX2_layTrades_1 1 rfl rfl)
theorem dX2_layTrades_26 : decode cX2_layTrades 26 = .ok (.iload_n 2, 1) := dk_28 (dk_at dksX2_layTrades_1 2 rfl rfl)
theorem dX2_layTrades_27 : decode cX2_layTrades 27 = .ok (.invokevirtual 444, 3) := dk_182 1 188 (dk_at dksX2_layTrades_1 3 rfl rfl)
theorem dX2_layTrades_30 : decode cX2_layTrades 30 = .ok (.istore_n 3, 1) := dk_62 (dk_at dksX2_layTrades_1 6 rfl rfl)
theorem dX2_layTrades_31 : decode cX2_layTrades 31 = .ok (.iinc 4 1, 3) := dk_132 4 1 (dk_at dksX2_layTrades_1 7 rfl rfl)
theorem dX2_layTrades_34 : decode cX2_layTrades 34 = .ok (.goto (-16), 3) := dk_167 255 240 (dk_at dksX2_layTrades_1 10 rfl rfl)
theorem dX2_layTrades_37 : decode cX2_layTrades 37 = .ok (.iconst 0, 1) := dk_3 (dk_at dksX2_layTrades_1 13 rfl rfl)
theorem dX2_layTrades_38 : decode cX2_layTrades 38 = .ok (.istore 4, 2) := dk_54 4 (dk_at dksX2_layTrades_1 14 rfl rfl)
theorem dX2_layTrades_40 : decode cX2_layTrades 40 = .ok (.iload 4, 2) := dk_21 4 (dk_at dksX2_layTrades_1 16 rfl rfl)
theorem dX2_layTrades_42 : decode cX2_layTrades 42 = .ok (.iload_n 3, 1) := dk_29 (dk_at dksX2_layTrades_1 18 rfl rfl)
theorem dX2_layTrades_43 : decode cX2_layTrades 43 = .ok (.invokestatic 256, 3) := dk_184 1 0 (dk_at dksX2_layTrades_1 19 rfl rfl)
theorem dX2_layTrades_46 : decode cX2_layTrades 46 = .ok (.ifCond .ne 33, 3) := dk_154 0 33 (dk_at dksX2_layTrades_2 0 rfl rfl)
theorem dX2_layTrades_49 : decode cX2_layTrades 49 = .ok (.iload 4, 2) := dk_21 4 (dk_at dksX2_layTrades_2 3 rfl rfl)
theorem dX2_layTrades_51 : decode cX2_layTrades 51 = .ok (.iconst 1, 1) := dk_4 (dk_at dksX2_layTrades_2 5 rfl rfl)
theorem dX2_layTrades_52 : decode cX2_layTrades 52 = .ok (.iload_n 3, 1) := dk_29 (dk_at dksX2_layTrades_2 6 rfl rfl)
theorem dX2_layTrades_53 : decode cX2_layTrades 53 = .ok (.ishl, 1) := dk_120 (dk_at dksX2_layTrades_2 7 rfl rfl)
theorem dX2_layTrades_54 : decode cX2_layTrades 54 = .ok (.ior, 1) := dk_128 (dk_at dksX2_layTrades_2 8 rfl rfl)
theorem dX2_layTrades_55 : decode cX2_layTrades 55 = .ok (.istore 4, 2) := dk_54 4 (dk_at dksX2_layTrades_2 9 rfl rfl)
theorem dX2_layTrades_57 : decode cX2_layTrades 57 = .ok (.aload_n 0, 1) := dk_42 (dk_at dksX2_layTrades_2 11 rfl rfl)
theorem dX2_layTrades_58 : decode cX2_layTrades 58 = .ok (.getfield 63, 3) := dk_180 0 63 (dk_at dksX2_layTrades_2 12 rfl rfl)
theorem dX2_layTrades_61 : decode cX2_layTrades 61 = .ok (.iload_n 3, 1) := dk_29 (dk_at dksX2_layTrades_2 15 rfl rfl)
theorem dX2_layTrades_62 : decode cX2_layTrades 62 = .ok (.aload_n 0, 1) := dk_42 (dk_at dksX2_layTrades_2 16 rfl rfl)
theorem dX2_layTrades_63 : decode cX2_layTrades 63 = .ok (.iload_n 3, 1) := dk_29 (dk_at dksX2_layTrades_2 17 rfl rfl)
theorem dX2_layTrades_64 : decode cX2_layTrades 64 = .ok (.iload_n 2, 1) := dk_28 (dk_at dksX2_layTrades_2 18 rfl rfl)
theorem dX2_layTrades_65 : decode cX2_layTrades 65 = .ok (.invokevirtual 444, 3) := dk_182 1 188 (dk_at dksX2_layTrades_2 19 rfl rfl)
theorem dX2_layTrades_68 : decode cX2_layTrades 68 = .ok (.iastore, 1) := dk_79 (dk_at dksX2_layTrades_2 22 rfl rfl)
theorem dX2_layTrades_69 : decode cX2_layTrades 69 = .ok (.aload_n 0, 1) := dk_42 (dk_at dksX2_layTrades_2 23 rfl rfl)
theorem dX2_layTrades_70 : decode cX2_layTrades 70 = .ok (.getfield 63, 3) := dk_180 0 63 (dk_at dksX2_layTrades_3 0 rfl rfl)
theorem dX2_layTrades_73 : decode cX2_layTrades 73 = .ok (.iload_n 3, 1) := dk_29 (dk_at dksX2_layTrades_3 3 rfl rfl)
theorem dX2_layTrades_74 : decode cX2_layTrades 74 = .ok (.iaload, 1) := dk_46 (dk_at dksX2_layTrades_3 4 rfl rfl)
theorem dX2_layTrades_75 : decode cX2_layTrades 75 = .ok (.istore_n 3, 1) := dk_62 (dk_at dksX2_layTrades_3 5 rfl rfl)
theorem dX2_layTrades_76 : decode cX2_layTrades 76 = .ok (.goto (-36), 3) := dk_167 255 220 (dk_at dksX2_layTrades_3 6 rfl rfl)
theorem dX2_layTrades_79 : decode cX2_layTrades 79 = .ok (.iload_n 2, 1) := dk_28 (dk_at dksX2_layTrades_3 9 rfl rfl)
theorem dX2_layTrades_80 : decode cX2_layTrades 80 = .ok (.iload 4, 2) := dk_21 4 (dk_at dksX2_layTrades_3 10 rfl rfl)
theorem dX2_layTrades_82 : decode cX2_layTrades 82 = .ok (.iconst (-1), 1) := dk_2 (dk_at dksX2_layTrades_3 12 rfl rfl)
theorem dX2_layTrades_83 : decode cX2_layTrades 83 = .ok (.ixor, 1) := dk_130 (dk_at dksX2_layTrades_3 13 rfl rfl)
theorem dX2_layTrades_84 : decode cX2_layTrades 84 = .ok (.iand, 1) := dk_126 (dk_at dksX2_layTrades_3 14 rfl rfl)
theorem dX2_layTrades_85 : decode cX2_layTrades 85 = .ok (.istore_n 2, 1) := dk_61 (dk_at dksX2_layTrades_3 15 rfl rfl)
theorem dX2_layTrades_86 : decode cX2_layTrades 86 = .ok (.goto (-80), 3) := dk_167 255 176 (dk_at dksX2_layTrades_3 16 rfl rfl)
theorem dX2_layTrades_89 : decode cX2_layTrades 89 = .ok (.return_, 1) := dk_177 (dk_at dksX2_layTrades_3 19 rfl rfl)
abbrev cX2_bestOf : ByteArray := prog_19_method_136_code
def yX2_bestOf : MethodName := ⟨RX2, "bestOf", "(II)I"⟩
def dkwX2_bestOf_3 : List UInt8 := [172]
abbrev dktX2_bestOf_3 : List UInt8 := dkwX2_bestOf_3 ++ []
def dkwX2_bestOf_2 : List UInt8 := [17, 0, 142, 16, 8, 27, 104, 96, 29, 96, 46, 162, 0, 6, 21, 4, 62, 132, 4, 1, 167, 255, 195, 29]
abbrev dktX2_bestOf_2 : List UInt8 := dkwX2_bestOf_2 ++ dktX2_bestOf_3
def dkwX2_bestOf_1 : List UInt8 := [159, 0, 37, 42, 180, 0, 7, 17, 0, 142, 16, 8, 27, 104, 96, 21, 4, 96, 46, 42, 180, 0, 7]
abbrev dktX2_bestOf_1 : List UInt8 := dkwX2_bestOf_1 ++ dktX2_bestOf_2
def dkwX2_bestOf_0 : List UInt8 := [2, 62, 3, 54, 4, 21, 4, 16, 8, 162, 0, 60, 28, 21, 4, 184, 1, 0, 153, 0, 45, 29, 2]
abbrev dktX2_bestOf_0 : List UInt8 := dkwX2_bestOf_0 ++ dktX2_bestOf_1
theorem dksX2_bestOf_0 : cX2_bestOf.data.toList.drop 0 = dktX2_bestOf_0 := by decide +kernel
theorem dksX2_bestOf_1 : cX2_bestOf.data.toList.drop 23 = dktX2_bestOf_1 := dk_seg dksX2_bestOf_0 23 rfl rfl
theorem dksX2_bestOf_2 : cX2_bestOf.data.toList.drop 46 = dktX2_bestOf_2 := dk_seg dksX2_bestOf_1 23 rfl rfl
theorem dksX2_bestOf_3 : cX2_bestOf.data.toList.drop 70 = dktX2_bestOf_3 := dk_seg dksX2_bestOf_2 24 rfl rfl
theorem dX2_bestOf_0 : decode cX2_bestOf 0 = .ok (.iconst (-1), 1) := dk_2 (dk_at dksX2_bestOf_0 0 rfl rfl)
theorem dX2_bestOf_1 : decode cX2_bestOf 1 = .ok (.istore_n 3, 1) := dk_62 (dk_at dksX2_bestOf_0 1 rfl rfl)
theorem dX2_bestOf_2 : decode cX2_bestOf 2 = .ok (.iconst 0, 1) := dk_3 (dk_at dksX2_bestOf_0 2 rfl rfl)
theorem dX2_bestOf_3 : decode cX2_bestOf 3 = .ok (.istore 4, 2) := dk_54 4 (dk_at dksX2_bestOf_0 3 rfl rfl)
theorem dX2_bestOf_5 : decode cX2_bestOf 5 = .ok (.iload 4, 2) := dk_21 4 (dk_at dksX2_bestOf_0 5 rfl rfl)
theorem dX2_bestOf_7 : decode cX2_bestOf 7 = .ok (.bipush 8, 2) := dk_16 8 (dk_at dksX2_bestOf_0 7 rfl rfl)
theorem dX2_bestOf_9 : decode cX2_bestOf 9 = .ok (.if_icmp .ge 60, 3) := dk_162 0 60 (dk_at dksX2_bestOf_0 9 rfl rfl)
theorem dX2_bestOf_12 : decode cX2_bestOf 12 = .ok (.iload_n 2, 1) := dk_28 (dk_at dksX2_bestOf_0 12 rfl rfl)
theorem dX2_bestOf_13 : decode cX2_bestOf 13 = .ok (.iload 4, 2) := dk_21 4 (dk_at dksX2_bestOf_0 13 rfl rfl)
theorem dX2_bestOf_15 : decode cX2_bestOf 15 = .ok (.invokestatic 256, 3) := dk_184 1 0 (dk_at dksX2_bestOf_0 15 rfl rfl)
theorem dX2_bestOf_18 : decode cX2_bestOf 18 = .ok (.ifCond .eq 45, 3) := dk_153 0 45 (dk_at dksX2_bestOf_0 18 rfl rfl)
theorem dX2_bestOf_21 : decode cX2_bestOf 21 = .ok (.iload_n 3, 1) := dk_29 (dk_at dksX2_bestOf_0 21 rfl rfl)
theorem dX2_bestOf_22 : decode cX2_bestOf 22 = .ok (.iconst (-1), 1) := dk_2 (dk_at dksX2_bestOf_0 22 rfl rfl)
theorem dX2_bestOf_23 : decode cX2_bestOf 23 = .ok (.if_icmp .eq 37, 3) := dk_159 0 37 (dk_at dksX2_bestOf_1 0 rfl rfl)
theorem dX2_bestOf_26 : decode cX2_bestOf 26 = .ok (.aload_n 0, 1) := dk_42 (dk_at dksX2_bestOf_1 3 rfl rfl)
theorem dX2_bestOf_27 : decode cX2_bestOf 27 = .ok (.getfield 7, 3) := dk_180 0 7 (dk_at dksX2_bestOf_1 4 rfl rfl)
theorem dX2_bestOf_30 : decode cX2_bestOf 30 = .ok (.sipush 142, 3) := dk_17 0 142 (dk_at dksX2_bestOf_1 7 rfl rfl)
theorem dX2_bestOf_33 : decode cX2_bestOf 33 = .ok (.bipush 8, 2) := dk_16 8 (dk_at dksX2_bestOf_1 10 rfl rfl)
theorem dX2_bestOf_35 : decode cX2_bestOf 35 = .ok (.iload_n 1, 1) := dk_27 (dk_at dksX2_bestOf_1 12 rfl rfl)
theorem dX2_bestOf_36 : decode cX2_bestOf 36 = .ok (.imul, 1) := dk_104 (dk_at dksX2_bestOf_1 13 rfl rfl)
theorem dX2_bestOf_37 : decode cX2_bestOf 37 = .ok (.iadd, 1) := dk_96 (dk_at dksX2_bestOf_1 14 rfl rfl)
theorem dX2_bestOf_38 : decode cX2_bestOf 38 = .ok (.iload 4, 2) := dk_21 4 (dk_at dksX2_bestOf_1 15 rfl rfl)
theorem dX2_bestOf_40 : decode cX2_bestOf 40 = .ok (.iadd, 1) := dk_96 (dk_at dksX2_bestOf_1 17 rfl rfl)
theorem dX2_bestOf_41 : decode cX2_bestOf 41 = .ok (.iaload, 1) := dk_46 (dk_at dksX2_bestOf_1 18 rfl rfl)
theorem dX2_bestOf_42 : decode cX2_bestOf 42 = .ok (.aload_n 0, 1) := dk_42 (dk_at dksX2_bestOf_1 19 rfl rfl)
theorem dX2_bestOf_43 : decode cX2_bestOf 43 = .ok (.getfield 7, 3) := dk_180 0 7 (dk_at dksX2_bestOf_1 20 rfl rfl)
theorem dX2_bestOf_46 : decode cX2_bestOf 46 = .ok (.sipush 142, 3) := dk_17 0 142 (dk_at dksX2_bestOf_2 0 rfl rfl)
theorem dX2_bestOf_49 : decode cX2_bestOf 49 = .ok (.bipush 8, 2) := dk_16 8 (dk_at dksX2_bestOf_2 3 rfl rfl)
theorem dX2_bestOf_51 : decode cX2_bestOf 51 = .ok (.iload_n 1, 1) := dk_27 (dk_at dksX2_bestOf_2 5 rfl rfl)
theorem dX2_bestOf_52 : decode cX2_bestOf 52 = .ok (.imul, 1) := dk_104 (dk_at dksX2_bestOf_2 6 rfl rfl)
theorem dX2_bestOf_53 : decode cX2_bestOf 53 = .ok (.iadd, 1) := dk_96 (dk_at dksX2_bestOf_2 7 rfl rfl)
theorem dX2_bestOf_54 : decode cX2_bestOf 54 = .ok (.iload_n 3, 1) := dk_29 (dk_at dksX2_bestOf_2 8 rfl rfl)
theorem dX2_bestOf_55 : decode cX2_bestOf 55 = .ok (.iadd, 1) := dk_96 (dk_at dksX2_bestOf_2 9 rfl rfl)
theorem dX2_bestOf_56 : decode cX2_bestOf 56 = .ok (.iaload, 1) := dk_46 (dk_at dksX2_bestOf_2 10 rfl rfl)
theorem dX2_bestOf_57 : decode cX2_bestOf 57 = .ok (.if_icmp .ge 6, 3) := dk_162 0 6 (dk_at dksX2_bestOf_2 11 rfl rfl)
theorem dX2_bestOf_60 : decode cX2_bestOf 60 = .ok (.iload 4, 2) := dk_21 4 (dk_at dksX2_bestOf_2 14 rfl rfl)
theorem dX2_bestOf_62 : decode cX2_bestOf 62 = .ok (.istore_n 3, 1) := dk_62 (dk_at dksX2_bestOf_2 16 rfl rfl)
theorem dX2_bestOf_63 : decode cX2_bestOf 63 = .ok (.iinc 4 1, 3) := dk_132 4 1 (dk_at dksX2_bestOf_2 17 rfl rfl)
theorem dX2_bestOf_66 : decode cX2_bestOf 66 = .ok (.goto (-61), 3) := dk_167 255 195 (dk_at dksX2_bestOf_2 20 rfl rfl)
theorem dX2_bestOf_69 : decode cX2_bestOf 69 = .ok (.iload_n 3, 1) := dk_29 (dk_at dksX2_bestOf_2 23 rfl rfl)
theorem dX2_bestOf_70 : decode cX2_bestOf 70 = .ok (.ireturn, 1) := dk_172 (dk_at dksX2_bestOf_3 0 rfl rfl)
abbrev cX2_rather : ByteArray := prog_19_method_139_code
def yX2_rather : MethodName := ⟨RX2, "rather", "(I)I"⟩
def dkwX2_rather_2 : List UInt8 := [132, 3, 1, 167, 255, 228, 28, 172]
abbrev dktX2_rather_2 : List UInt8 := dkwX2_rather_2 ++ []
def dkwX2_rather_1 : List UInt8 := [162, 0, 29, 28, 42, 180, 0, 63, 29, 46, 29, 159, 0, 9, 4, 29, 120, 167, 0, 4, 3, 128, 61]
abbrev dktX2_rather_1 : List UInt8 := dkwX2_rather_1 ++ dktX2_rather_2
def dkwX2_rather_0 : List UInt8 := [27, 4, 16, 8, 184, 0, 73, 154, 0, 5, 2, 172, 42, 27, 182, 1, 191, 3, 61, 3, 62, 29, 27]
abbrev dktX2_rather_0 : List UInt8 := dkwX2_rather_0 ++ dktX2_rather_1
theorem dksX2_rather_0 : cX2_rather.data.toList.drop 0 = dktX2_rather_0 := by decide +kernel
theorem dksX2_rather_1 : cX2_rather.data.toList.drop 23 = dktX2_rather_1 := dk_seg dksX2_rather_0 23 rfl rfl
theorem dksX2_rather_2 : cX2_rather.data.toList.drop 46 = dktX2_rather_2 := dk_seg dksX2_rather_1 23 rfl rfl
theorem dX2_rather_0 : decode cX2_rather 0 = .ok (.iload_n 1, 1) := dk_27 (dk_at dksX2_rather_0 0 rfl rfl)
theorem dX2_rather_1 : decode cX2_rather 1 = .ok (.iconst 1, 1) := dk_4 (dk_at dksX2_rather_0 1 rfl rfl)
theorem dX2_rather_2 : decode cX2_rather 2 = .ok (.bipush 8, 2) := dk_16 8 (dk_at dksX2_rather_0 2 rfl rfl)
theorem dX2_rather_4 : decode cX2_rather 4 = .ok (.invokestatic 73, 3) := dk_184 0 73 (dk_at dksX2_rather_0 4 rfl rfl)
theorem dX2_rather_7 : decode cX2_rather 7 = .ok (.ifCond .ne 5, 3) := dk_154 0 5 (dk_at dksX2_rather_0 7 rfl rfl)
theorem dX2_rather_10 : decode cX2_rather 10 = .ok (.iconst (-1), 1) := dk_2 (dk_at dksX2_rather_0 10 rfl rfl)
theorem dX2_rather_11 : decode cX2_rather 11 = .ok (.ireturn, 1) := dk_172 (dk_at dksX2_rather_0 11 rfl rfl)
theorem dX2_rather_12 : decode cX2_rather 12 = .ok (.aload_n 0, 1) := dk_42 (dk_at dksX2_rather_0 12 rfl rfl)
theorem dX2_rather_13 : decode cX2_rather 13 = .ok (.iload_n 1, 1) := dk_27 (dk_at dksX2_rather_0 13 rfl rfl)
theorem dX2_rather_14 : decode cX2_rather 14 = .ok (.invokevirtual 447, 3) := dk_182 1 191 (dk_at dksX2_rather_0 14 rfl rfl)
theorem dX2_rather_17 : decode cX2_rather 17 = .ok (.iconst 0, 1) := dk_3 (dk_at dksX2_rather_0 17 rfl rfl)
theorem dX2_rather_18 : decode cX2_rather 18 = .ok (.istore_n 2, 1) := dk_61 (dk_at dksX2_rather_0 18 rfl rfl)
theorem dX2_rather_19 : decode cX2_rather 19 = .ok (.iconst 0, 1) := dk_3 (dk_at dksX2_rather_0 19 rfl rfl)
theorem dX2_rather_20 : decode cX2_rather 20 = .ok (.istore_n 3, 1) := dk_62 (dk_at dksX2_rather_0 20 rfl rfl)
theorem dX2_rather_21 : decode cX2_rather 21 = .ok (.iload_n 3, 1) := dk_29 (dk_at dksX2_rather_0 21 rfl rfl)
theorem dX2_rather_22 : decode cX2_rather 22 = .ok (.iload_n 1, 1) := dk_27 (dk_at dksX2_rather_0 22 rfl rfl)
theorem dX2_rather_23 : decode cX2_rather 23 = .ok (.if_icmp .ge 29, 3) := dk_162 0 29 (dk_at dksX2_rather_1 0 rfl rfl)
theorem dX2_rather_26 : decode cX2_rather 26 = .ok (.iload_n 2, 1) := dk_28 (dk_at dksX2_rather_1 3 rfl rfl)
theorem dX2_rather_27 : decode cX2_rather 27 = .ok (.aload_n 0, 1) := dk_42 (dk_at dksX2_rather_1 4 rfl rfl)
theorem dX2_rather_28 : decode cX2_rather 28 = .ok (.getfield 63, 3) := dk_180 0 63 (dk_at dksX2_rather_1 5 rfl rfl)
theorem dX2_rather_31 : decode cX2_rather 31 = .ok (.iload_n 3, 1) := dk_29 (dk_at dksX2_rather_1 8 rfl rfl)
theorem dX2_rather_32 : decode cX2_rather 32 = .ok (.iaload, 1) := dk_46 (dk_at dksX2_rather_1 9 rfl rfl)
theorem dX2_rather_33 : decode cX2_rather 33 = .ok (.iload_n 3, 1) := dk_29 (dk_at dksX2_rather_1 10 rfl rfl)
theorem dX2_rather_34 : decode cX2_rather 34 = .ok (.if_icmp .eq 9, 3) := dk_159 0 9 (dk_at dksX2_rather_1 11 rfl rfl)
theorem dX2_rather_37 : decode cX2_rather 37 = .ok (.iconst 1, 1) := dk_4 (dk_at dksX2_rather_1 14 rfl rfl)
theorem dX2_rather_38 : decode cX2_rather 38 = .ok (.iload_n 3, 1) := dk_29 (dk_at dksX2_rather_1 15 rfl rfl)
theorem dX2_rather_39 : decode cX2_rather 39 = .ok (.ishl, 1) := dk_120 (dk_at dksX2_rather_1 16 rfl rfl)
theorem dX2_rather_40 : decode cX2_rather 40 = .ok (.goto 4, 3) := dk_167 0 4 (dk_at dksX2_rather_1 17 rfl rfl)
theorem dX2_rather_43 : decode cX2_rather 43 = .ok (.iconst 0, 1) := dk_3 (dk_at dksX2_rather_1 20 rfl rfl)
theorem dX2_rather_44 : decode cX2_rather 44 = .ok (.ior, 1) := dk_128 (dk_at dksX2_rather_1 21 rfl rfl)
theorem dX2_rather_45 : decode cX2_rather 45 = .ok (.istore_n 2, 1) := dk_61 (dk_at dksX2_rather_1 22 rfl rfl)
theorem dX2_rather_46 : decode cX2_rather 46 = .ok (.iinc 3 1, 3) := dk_132 3 1 (dk_at dksX2_rather_2 0 rfl rfl)
theorem dX2_rather_49 : decode cX2_rather 49 = .ok (.goto (-28), 3) := dk_167 255 228 (dk_at dksX2_rather_2 3 rfl rfl)
theorem dX2_rather_52 : decode cX2_rather 52 = .ok (.iload_n 2, 1) := dk_28 (dk_at dksX2_rather_2 6 rfl rfl)
theorem dX2_rather_53 : decode cX2_rather 53 = .ok (.ireturn, 1) := dk_172 (dk_at dksX2_rather_2 7 rfl rfl)
abbrev cX2_slip : ByteArray := prog_19_method_140_code
def yX2_slip : MethodName := ⟨RX2, "slip", "(II)Z"⟩
def dkwX2_slip_1 : List UInt8 := [17, 0, 206, 27, 96, 28, 79, 4, 172]
abbrev dktX2_slip_1 : List UInt8 := dkwX2_slip_1 ++ []
def dkwX2_slip_0 : List UInt8 := [27, 184, 0, 96, 153, 0, 13, 28, 3, 16, 10, 184, 0, 73, 154, 0, 5, 3, 172, 42, 180, 0, 7]
abbrev dktX2_slip_0 : List UInt8 := dkwX2_slip_0 ++ dktX2_slip_1
theorem dksX2_slip_0 : cX2_slip.data.toList.drop 0 = dktX2_slip_0 := by decide +kernel
theorem dksX2_slip_1 : cX2_slip.data.toList.drop 23 = dktX2_slip_1 := dk_seg dksX2_slip_0 23 rfl rfl
theorem dX2_slip_0 : decode cX2_slip 0 = .ok (.iload_n 1, 1) := dk_27 (dk_at dksX2_slip_0 0 rfl rfl)
theorem dX2_slip_1 : decode cX2_slip 1 = .ok (.invokestatic 96, 3) := dk_184 0 96 (dk_at dksX2_slip_0 1 rfl rfl)
theorem dX2_slip_4 : decode cX2_slip 4 = .ok (.ifCond .eq 13, 3) := dk_153 0 13 (dk_at dksX2_slip_0 4 rfl rfl)
theorem dX2_slip_7 : decode cX2_slip 7 = .ok (.iload_n 2, 1) := dk_28 (dk_at dksX2_slip_0 7 rfl rfl)
theorem dX2_slip_8 : decode cX2_slip 8 = .ok (.iconst 0, 1) := dk_3 (dk_at dksX2_slip_0 8 rfl rfl)
theorem dX2_slip_9 : decode cX2_slip 9 = .ok (.bipush 10, 2) := dk_16 10 (dk_at dksX2_slip_0 9 rfl rfl)
theorem dX2_slip_11 : decode cX2_slip 11 = .ok (.invokestatic 73, 3) := dk_184 0 73 (dk_at dksX2_slip_0 11 rfl rfl)
theorem dX2_slip_14 : decode cX2_slip 14 = .ok (.ifCond .ne 5, 3) := dk_154 0 5 (dk_at dksX2_slip_0 14 rfl rfl)
theorem dX2_slip_17 : decode cX2_slip 17 = .ok (.iconst 0, 1) := dk_3 (dk_at dksX2_slip_0 17 rfl rfl)
theorem dX2_slip_18 : decode cX2_slip 18 = .ok (.ireturn, 1) := dk_172 (dk_at dksX2_slip_0 18 rfl rfl)
theorem dX2_slip_19 : decode cX2_slip 19 = .ok (.aload_n 0, 1) := dk_42 (dk_at dksX2_slip_0 19 rfl rfl)
theorem dX2_slip_20 : decode cX2_slip 20 = .ok (.getfield 7, 3) := dk_180 0 7 (dk_at dksX2_slip_0 20 rfl rfl)
theorem dX2_slip_23 : decode cX2_slip 23 = .ok (.sipush 206, 3) := dk_17 0 206 (dk_at dksX2_slip_1 0 rfl rfl)
theorem dX2_slip_26 : decode cX2_slip 26 = .ok (.iload_n 1, 1) := dk_27 (dk_at dksX2_slip_1 3 rfl rfl)
theorem dX2_slip_27 : decode cX2_slip 27 = .ok (.iadd, 1) := dk_96 (dk_at dksX2_slip_1 4 rfl rfl)
theorem dX2_slip_28 : decode cX2_slip 28 = .ok (.iload_n 2, 1) := dk_28 (dk_at dksX2_slip_1 5 rfl rfl)
theorem dX2_slip_29 : decode cX2_slip 29 = .ok (.iastore, 1) := dk_79 (dk_at dksX2_slip_1 6 rfl rfl)
theorem dX2_slip_30 : decode cX2_slip 30 = .ok (.iconst 1, 1) := dk_4 (dk_at dksX2_slip_1 7 rfl rfl)
theorem dX2_slip_31 : decode cX2_slip 31 = .ok (.ireturn, 1) := dk_172 (dk_at dksX2_slip_1 8 rfl rfl)
abbrev cX2_scars : ByteArray := prog_19_method_141_code
def yX2_scars : MethodName := ⟨RX2, "scars", "(IIZ)J"⟩
def dkwX2_scars_8 : List UInt8 := [180, 0, 66, 28, 47, 42, 180, 0, 66, 28, 47, 22, 4, 184, 1, 139, 109, 173]
abbrev dktX2_scars_8 : List UInt8 := dkwX2_scars_8 ++ []
def dkwX2_scars_7 : List UInt8 := [20, 1, 196, 105, 55, 4, 132, 6, 1, 167, 255, 149, 29, 153, 0, 8, 22, 4, 167, 0, 9, 42]
abbrev dktX2_scars_7 : List UInt8 := dkwX2_scars_7 ++ dktX2_scars_8
def dkwX2_scars_6 : List UInt8 := [17, 0, 206, 21, 6, 96, 46, 133, 105, 167, 0, 4, 9, 97, 80, 132, 7, 255, 167, 255, 186, 22, 4]
abbrev dktX2_scars_6 : List UInt8 := dkwX2_scars_6 ++ dktX2_scars_7
def dkwX2_scars_5 : List UInt8 := [96, 46, 100, 133, 105, 21, 7, 158, 0, 28, 42, 180, 0, 66, 21, 7, 4, 100, 47, 42, 180, 0, 7]
abbrev dktX2_scars_5 : List UInt8 := dkwX2_scars_5 ++ dktX2_scars_6
def dkwX2_scars_4 : List UInt8 := [42, 180, 0, 66, 21, 7, 42, 180, 0, 66, 21, 7, 47, 16, 10, 42, 180, 0, 7, 17, 0, 206, 21, 6]
abbrev dktX2_scars_4 : List UInt8 := dkwX2_scars_4 ++ dktX2_scars_5
def dkwX2_scars_3 : List UInt8 := [162, 0, 106, 27, 21, 6, 184, 1, 0, 154, 0, 6, 167, 0, 88, 16, 8, 54, 7, 21, 7, 155, 0, 71]
abbrev dktX2_scars_3 : List UInt8 := dkwX2_scars_3 ++ dktX2_scars_4
def dkwX2_scars_2 : List UInt8 := [154, 0, 7, 10, 167, 0, 4, 9, 80, 132, 6, 1, 167, 255, 229, 3, 54, 6, 21, 6, 16, 8]
abbrev dktX2_scars_2 : List UInt8 := dkwX2_scars_2 ++ dktX2_scars_3
def dkwX2_scars_1 : List UInt8 := [173, 10, 55, 4, 3, 54, 6, 21, 6, 16, 9, 162, 0, 26, 42, 180, 0, 66, 21, 6, 21, 6]
abbrev dktX2_scars_1 : List UInt8 := dkwX2_scars_1 ++ dktX2_scars_2
def dkwX2_scars_0 : List UInt8 := [27, 4, 17, 0, 255, 184, 0, 73, 153, 0, 13, 28, 3, 16, 8, 184, 0, 73, 154, 0, 7, 20, 1, 194]
abbrev dktX2_scars_0 : List UInt8 := dkwX2_scars_0 ++ dktX2_scars_1
theorem dksX2_scars_0 : cX2_scars.data.toList.drop 0 = dktX2_scars_0 := by decide +kernel
theorem dksX2_scars_1 : cX2_scars.data.toList.drop 24 = dktX2_scars_1 := dk_seg dksX2_scars_0 24 rfl rfl
theorem dksX2_scars_2 : cX2_scars.data.toList.drop 46 = dktX2_scars_2 := dk_seg dksX2_scars_1 22 rfl rfl
theorem dksX2_scars_3 : cX2_scars.data.toList.drop 68 = dktX2_scars_3 := dk_seg dksX2_scars_2 22 rfl rfl
theorem dksX2_scars_4 : cX2_scars.data.toList.drop 92 = dktX2_scars_4 := dk_seg dksX2_scars_3 24 rfl rfl
theorem dksX2_scars_5 : cX2_scars.data.toList.drop 116 = dktX2_scars_5 := dk_seg dksX2_scars_4 24 rfl rfl
theorem dksX2_scars_6 : cX2_scars.data.toList.drop 139 = dktX2_scars_6 := dk_seg dksX2_scars_5 23 rfl rfl
theorem dksX2_scars_7 : cX2_scars.data.toList.drop 162 = dktX2_scars_7 := dk_seg dksX2_scars_6 23 rfl rfl
theorem dksX2_scars_8 : cX2_scars.data.toList.drop 184 = dktX2_scars_8 := dk_seg dksX2_scars_7 22 rfl rfl
theorem dX2_scars_0 : decode cX2_scars 0 = .ok (.iload_n 1, 1) := dk_27 (dk_at dksX2_scars_0 0 rfl rfl)
theorem dX2_scars_1 : decode cX2_scars 1 = .ok (.iconst 1, 1) := dk_4 (dk_at dksX2_scars_0 1 rfl rfl)
theorem dX2_scars_2 : decode cX2_scars 2 = .ok (.sipush 255, 3) := dk_17 0 255 (dk_at dksX2_scars_0 2 rfl rfl)
theorem dX2_scars_5 : decode cX2_scars 5 = .ok (.invokestatic 73, 3) := dk_184 0 73 (dk_at dksX2_scars_0 5 rfl rfl)
theorem dX2_scars_8 : decode cX2_scars 8 = .ok (.ifCond .eq 13, 3) := dk_153 0 13 (dk_at dksX2_scars_0 8 rfl rfl)
theorem dX2_scars_11 : decode cX2_scars 11 = .ok (.iload_n 2, 1) := dk_28 (dk_at dksX2_scars_0 11 rfl rfl)
theorem dX2_scars_12 : decode cX2_scars 12 = .ok (.iconst 0, 1) := dk_3 (dk_at dksX2_scars_0 12 rfl rfl)
theorem dX2_scars_13 : decode cX2_scars 13 = .ok (.bipush 8, 2) := dk_16 8 (dk_at dksX2_scars_0 13 rfl rfl)
theorem dX2_scars_15 : decode cX2_scars 15 = .ok (.invokestatic 73, 3) := dk_184 0 73 (dk_at dksX2_scars_0 15 rfl rfl)
theorem dX2_scars_18 : decode cX2_scars 18 = .ok (.ifCond .ne 7, 3) := dk_154 0 7 (dk_at dksX2_scars_0 18 rfl rfl)
theorem dX2_scars_21 : decode cX2_scars 21 = .ok (.ldc2_w 450, 3) := dk_20 1 194 (dk_at dksX2_scars_0 21 rfl rfl)
theorem dX2_scars_24 : decode cX2_scars 24 = .ok (.lreturn, 1) := dk_173 (dk_at dksX2_scars_1 0 rfl rfl)
theorem dX2_scars_25 : decode cX2_scars 25 = .ok (.lconst 1, 1) := dk_10 (dk_at dksX2_scars_1 1 rfl rfl)
theorem dX2_scars_26 : decode cX2_scars 26 = .ok (.lstore 4, 2) := dk_55 4 (dk_at dksX2_scars_1 2 rfl rfl)
theorem dX2_scars_28 : decode cX2_scars 28 = .ok (.iconst 0, 1) := dk_3 (dk_at dksX2_scars_1 4 rfl rfl)
theorem dX2_scars_29 : decode cX2_scars 29 = .ok (.istore 6, 2) := dk_54 6 (dk_at dksX2_scars_1 5 rfl rfl)
theorem dX2_scars_31 : decode cX2_scars 31 = .ok (.iload 6, 2) := dk_21 6 (dk_at dksX2_scars_1 7 rfl rfl)
theorem dX2_scars_33 : decode cX2_scars 33 = .ok (.bipush 9, 2) := dk_16 9 (dk_at dksX2_scars_1 9 rfl rfl)
theorem dX2_scars_35 : decode cX2_scars 35 = .ok (.if_icmp .ge 26, 3) := dk_162 0 26 (dk_at dksX2_scars_1 11 rfl rfl)
theorem dX2_scars_38 : decode cX2_scars 38 = .ok (.aload_n 0, 1) := dk_42 (dk_at dksX2_scars_1 14 rfl rfl)
theorem dX2_scars_39 : decode cX2_scars 39 = .ok (.getfield 66, 3) := dk_180 0 66 (dk_at dksX2_scars_1 15 rfl rfl)
theorem dX2_scars_42 : decode cX2_scars 42 = .ok (.iload 6, 2) := dk_21 6 (dk_at dksX2_scars_1 18 rfl rfl)
theorem dX2_scars_44 : decode cX2_scars 44 = .ok (.iload 6, 2) := dk_21 6 (dk_at dksX2_scars_1 20 rfl rfl)
theorem dX2_scars_46 : decode cX2_scars 46 = .ok (.ifCond .ne 7, 3) := dk_154 0 7 (dk_at dksX2_scars_2 0 rfl rfl)
theorem dX2_scars_49 : decode cX2_scars 49 = .ok (.lconst 1, 1) := dk_10 (dk_at dksX2_scars_2 3 rfl rfl)
theorem dX2_scars_50 : decode cX2_scars 50 = .ok (.goto 4, 3) := dk_167 0 4 (dk_at dksX2_scars_2 4 rfl rfl)
theorem dX2_scars_53 : decode cX2_scars 53 = .ok (.lconst 0, 1) := dk_9 (dk_at dksX2_scars_2 7 rfl rfl)
theorem dX2_scars_54 : decode cX2_scars 54 = .ok (.lastore, 1) := dk_80 (dk_at dksX2_scars_2 8 rfl rfl)
theorem dX2_scars_55 : decode cX2_scars 55 = .ok (.iinc 6 1, 3) := dk_132 6 1 (dk_at dksX2_scars_2 9 rfl rfl)
theorem dX2_scars_58 : decode cX2_scars 58 = .ok (.goto (-27), 3) := dk_167 255 229 (dk_at dksX2_scars_2 12 rfl rfl)
theorem dX2_scars_61 : decode cX2_scars 61 = .ok (.iconst 0, 1) := dk_3 (dk_at dksX2_scars_2 15 rfl rfl)
theorem dX2_scars_62 : decode cX2_scars 62 = .ok (.istore 6, 2) := dk_54 6 (dk_at dksX2_scars_2 16 rfl rfl)
theorem dX2_scars_64 : decode cX2_scars 64 = .ok (.iload 6, 2) := dk_21 6 (dk_at dksX2_scars_2 18 rfl rfl)
theorem dX2_scars_66 : decode cX2_scars 66 = .ok (.bipush 8, 2) := dk_16 8 (dk_at dksX2_scars_2 20 rfl rfl)
theorem dX2_scars_68 : decode cX2_scars 68 = .ok (.if_icmp .ge 106, 3) := dk_162 0 106 (dk_at dksX2_scars_3 0 rfl rfl)
theorem dX2_scars_71 : decode cX2_scars 71 = .ok (.iload_n 1, 1) := dk_27 (dk_at dksX2_scars_3 3 rfl rfl)
theorem dX2_scars_72 : decode cX2_scars 72 = .ok (.iload 6, 2) := dk_21 6 (dk_at dksX2_scars_3 4 rfl rfl)
theorem dX2_scars_74 : decode cX2_scars 74 = .ok (.invokestatic 256, 3) := dk_184 1 0 (dk_at dksX2_scars_3 6 rfl rfl)
theorem dX2_scars_77 : decode cX2_scars 77 = .ok (.ifCond .ne 6, 3) := dk_154 0 6 (dk_at dksX2_scars_3 9 rfl rfl)
theorem dX2_scars_80 : decode cX2_scars 80 = .ok (.goto 88, 3) := dk_167 0 88 (dk_at dksX2_scars_3 12 rfl rfl)
theorem dX2_scars_83 : decode cX2_scars 83 = .ok (.bipush 8, 2) := dk_16 8 (dk_at dksX2_scars_3 15 rfl rfl)
theorem dX2_scars_85 : decode cX2_scars 85 = .ok (.istore 7, 2) := dk_54 7 (dk_at dksX2_scars_3 17 rfl rfl)
theorem dX2_scars_87 : decode cX2_scars 87 = .ok (.iload 7, 2) := dk_21 7 (dk_at dksX2_scars_3 19 rfl rfl)
theorem dX2_scars_89 : decode cX2_scars 89 = .ok (.ifCond .lt 71, 3) := dk_155 0 71 (dk_at dksX2_scars_3 21 rfl rfl)
theorem dX2_scars_92 : decode cX2_scars 92 = .ok (.aload_n 0, 1) := dk_42 (dk_at dksX2_scars_4 0 rfl rfl)
theorem dX2_scars_93 : decode cX2_scars 93 = .ok (.getfield 66, 3) := dk_180 0 66 (dk_at dksX2_scars_4 1 rfl rfl)
theorem dX2_scars_96 : decode cX2_scars 96 = .ok (.iload 7, 2) := dk_21 7 (dk_at dksX2_scars_4 4 rfl rfl)
theorem dX2_scars_98 : decode cX2_scars 98 = .ok (.aload_n 0, 1) := dk_42 (dk_at dksX2_scars_4 6 rfl rfl)
theorem dX2_scars_99 : decode cX2_scars 99 = .ok (.getfield 66, 3) := dk_180 0 66 (dk_at dksX2_scars_4 7 rfl rfl)
theorem dX2_scars_102 : decode cX2_scars 102 = .ok (.iload 7, 2) := dk_21 7 (dk_at dksX2_scars_4 10 rfl rfl)
theorem dX2_scars_104 : decode cX2_scars 104 = .ok (.laload, 1) := dk_47 (dk_at dksX2_scars_4 12 rfl rfl)
theorem dX2_scars_105 : decode cX2_scars 105 = .ok (.bipush 10, 2) := dk_16 10 (dk_at dksX2_scars_4 13 rfl rfl)
theorem dX2_scars_107 : decode cX2_scars 107 = .ok (.aload_n 0, 1) := dk_42 (dk_at dksX2_scars_4 15 rfl rfl)
theorem dX2_scars_108 : decode cX2_scars 108 = .ok (.getfield 7, 3) := dk_180 0 7 (dk_at dksX2_scars_4 16 rfl rfl)
theorem dX2_scars_111 : decode cX2_scars 111 = .ok (.sipush 206, 3) := dk_17 0 206 (dk_at dksX2_scars_4 19 rfl rfl)
theorem dX2_scars_114 : decode cX2_scars 114 = .ok (.iload 6, 2) := dk_21 6 (dk_at dksX2_scars_4 22 rfl rfl)
theorem dX2_scars_116 : decode cX2_scars 116 = .ok (.iadd, 1) := dk_96 (dk_at dksX2_scars_5 0 rfl rfl)
theorem dX2_scars_117 : decode cX2_scars 117 = .ok (.iaload, 1) := dk_46 (dk_at dksX2_scars_5 1 rfl rfl)
theorem dX2_scars_118 : decode cX2_scars 118 = .ok (.isub, 1) := dk_100 (dk_at dksX2_scars_5 2 rfl rfl)
theorem dX2_scars_119 : decode cX2_scars 119 = .ok (.i2l, 1) := dk_133 (dk_at dksX2_scars_5 3 rfl rfl)
theorem dX2_scars_120 : decode cX2_scars 120 = .ok (.lmul, 1) := dk_105 (dk_at dksX2_scars_5 4 rfl rfl)
theorem dX2_scars_121 : decode cX2_scars 121 = .ok (.iload 7, 2) := dk_21 7 (dk_at dksX2_scars_5 5 rfl rfl)
theorem dX2_scars_123 : decode cX2_scars 123 = .ok (.ifCond .le 28, 3) := dk_158 0 28 (dk_at dksX2_scars_5 7 rfl rfl)
theorem dX2_scars_126 : decode cX2_scars 126 = .ok (.aload_n 0, 1) := dk_42 (dk_at dksX2_scars_5 10 rfl rfl)
theorem dX2_scars_127 : decode cX2_scars 127 = .ok (.getfield 66, 3) := dk_180 0 66 (dk_at dksX2_scars_5 11 rfl rfl)
theorem dX2_scars_130 : decode cX2_scars 130 = .ok (.iload 7, 2) := dk_21 7 (dk_at dksX2_scars_5 14 rfl rfl)
theorem dX2_scars_132 : decode cX2_scars 132 = .ok (.iconst 1, 1) := dk_4 (dk_at dksX2_scars_5 16 rfl rfl)
theorem dX2_scars_133 : decode cX2_scars 133 = .ok (.isub, 1) := dk_100 (dk_at dksX2_scars_5 17 rfl rfl)
theorem dX2_scars_134 : decode cX2_scars 134 = .ok (.laload, 1) := dk_47 (dk_at dksX2_scars_5 18 rfl rfl)
theorem dX2_scars_135 : decode cX2_scars 135 = .ok (.aload_n 0, 1) := dk_42 (dk_at dksX2_scars_5 19 rfl rfl)
theorem dX2_scars_136 : decode cX2_scars 136 = .ok (.getfield 7, 3) := dk_180 0 7 (dk_at dksX2_scars_5 20 rfl rfl)
theorem dX2_scars_139 : decode cX2_scars 139 = .ok (.sipush 206, 3) := dk_17 0 206 (dk_at dksX2_scars_6 0 rfl rfl)
theorem dX2_scars_142 : decode cX2_scars 142 = .ok (.iload 6, 2) := dk_21 6 (dk_at dksX2_scars_6 3 rfl rfl)
theorem dX2_scars_144 : decode cX2_scars 144 = .ok (.iadd, 1) := dk_96 (dk_at dksX2_scars_6 5 rfl rfl)
theorem dX2_scars_145 : decode cX2_scars 145 = .ok (.iaload, 1) := dk_46 (dk_at dksX2_scars_6 6 rfl rfl)
theorem dX2_scars_146 : decode cX2_scars 146 = .ok (.i2l, 1) := dk_133 (dk_at dksX2_scars_6 7 rfl rfl)
theorem dX2_scars_147 : decode cX2_scars 147 = .ok (.lmul, 1) := dk_105 (dk_at dksX2_scars_6 8 rfl rfl)
theorem dX2_scars_148 : decode cX2_scars 148 = .ok (.goto 4, 3) := dk_167 0 4 (dk_at dksX2_scars_6 9 rfl rfl)
theorem dX2_scars_151 : decode cX2_scars 151 = .ok (.lconst 0, 1) := dk_9 (dk_at dksX2_scars_6 12 rfl rfl)
theorem dX2_scars_152 : decode cX2_scars 152 = .ok (.ladd, 1) := dk_97 (dk_at dksX2_scars_6 13 rfl rfl)
theorem dX2_scars_153 : decode cX2_scars 153 = .ok (.lastore, 1) := dk_80 (dk_at dksX2_scars_6 14 rfl rfl)
theorem dX2_scars_154 : decode cX2_scars 154 = .ok (.iinc 7 (-1), 3) := dk_132 7 255 (dk_at dksX2_scars_6 15 rfl rfl)
theorem dX2_scars_157 : decode cX2_scars 157 = .ok (.goto (-70), 3) := dk_167 255 186 (dk_at dksX2_scars_6 18 rfl rfl)
theorem dX2_scars_160 : decode cX2_scars 160 = .ok (.lload 4, 2) := dk_22 4 (dk_at dksX2_scars_6 21 rfl rfl)
theorem dX2_scars_162 : decode cX2_scars 162 = .ok (.ldc2_w 452, 3) := dk_20 1 196 (dk_at dksX2_scars_7 0 rfl rfl)
theorem dX2_scars_165 : decode cX2_scars 165 = .ok (.lmul, 1) := dk_105 (dk_at dksX2_scars_7 3 rfl rfl)
theorem dX2_scars_166 : decode cX2_scars 166 = .ok (.lstore 4, 2) := dk_55 4 (dk_at dksX2_scars_7 4 rfl rfl)
theorem dX2_scars_168 : decode cX2_scars 168 = .ok (.iinc 6 1, 3) := dk_132 6 1 (dk_at dksX2_scars_7 6 rfl rfl)
theorem dX2_scars_171 : decode cX2_scars 171 = .ok (.goto (-107), 3) := dk_167 255 149 (dk_at dksX2_scars_7 9 rfl rfl)
theorem dX2_scars_174 : decode cX2_scars 174 = .ok (.iload_n 3, 1) := dk_29 (dk_at dksX2_scars_7 12 rfl rfl)
theorem dX2_scars_175 : decode cX2_scars 175 = .ok (.ifCond .eq 8, 3) := dk_153 0 8 (dk_at dksX2_scars_7 13 rfl rfl)
theorem dX2_scars_178 : decode cX2_scars 178 = .ok (.lload 4, 2) := dk_22 4 (dk_at dksX2_scars_7 16 rfl rfl)
theorem dX2_scars_180 : decode cX2_scars 180 = .ok (.goto 9, 3) := dk_167 0 9 (dk_at dksX2_scars_7 18 rfl rfl)
theorem dX2_scars_183 : decode cX2_scars 183 = .ok (.aload_n 0, 1) := dk_42 (dk_at dksX2_scars_7 21 rfl rfl)
theorem dX2_scars_184 : decode cX2_scars 184 = .ok (.getfield 66, 3) := dk_180 0 66 (dk_at dksX2_scars_8 0 rfl rfl)
theorem dX2_scars_187 : decode cX2_scars 187 = .ok (.iload_n 2, 1) := dk_28 (dk_at dksX2_scars_8 3 rfl rfl)
theorem dX2_scars_188 : decode cX2_scars 188 = .ok (.laload, 1) := dk_47 (dk_at dksX2_scars_8 4 rfl rfl)
theorem dX2_scars_189 : decode cX2_scars 189 = .ok (.aload_n 0, 1) := dk_42 (dk_at dksX2_scars_8 5 rfl rfl)
theorem dX2_scars_190 : decode cX2_scars 190 = .ok (.getfield 66, 3) := dk_180 0 66 (dk_at dksX2_scars_8 6 rfl rfl)
theorem dX2_scars_193 : decode cX2_scars 193 = .ok (.iload_n 2, 1) := dk_28 (dk_at dksX2_scars_8 9 rfl rfl)
theorem dX2_scars_194 : decode cX2_scars 194 = .ok (.laload, 1) := dk_47 (dk_at dksX2_scars_8 10 rfl rfl)
theorem dX2_scars_195 : decode cX2_scars 195 = .ok (.lload 4, 2) := dk_22 4 (dk_at dksX2_scars_8 11 rfl rfl)
theorem dX2_scars_197 : decode cX2_scars 197 = .ok (.invokestatic 395, 3) := dk_184 1 139 (dk_at dksX2_scars_8 13 rfl rfl)
theorem dX2_scars_200 : decode cX2_scars 200 = .ok (.ldiv, 1) := dk_109 (dk_at dksX2_scars_8 16 rfl rfl)
theorem dX2_scars_201 : decode cX2_scars 201 = .ok (.lreturn, 1) := dk_173 (dk_at dksX2_scars_8 17 rfl rfl)
abbrev cX2_rate : ByteArray := prog_19_method_142_code
def yX2_rate : MethodName := ⟨RX2, "rate", "(II)I"⟩
def dkwX2_rate_4 : List UInt8 := [180, 0, 7, 8, 46, 172]
abbrev dktX2_rate_4 : List UInt8 := dkwX2_rate_4 ++ []
def dkwX2_rate_3 : List UInt8 := [5, 42, 180, 0, 7, 8, 46, 104, 96, 4, 96, 28, 79, 42, 180, 0, 7, 8, 92, 46, 4, 96, 79, 42]
abbrev dktX2_rate_3 : List UInt8 := dkwX2_rate_3 ++ dktX2_rate_4
def dkwX2_rate_2 : List UInt8 := [180, 0, 7, 17, 0, 214, 5, 42, 180, 0, 7, 8, 46, 104, 96, 27, 79, 42, 180, 0, 7, 17, 0, 214]
abbrev dktX2_rate_2 : List UInt8 := dkwX2_rate_2 ++ dktX2_rate_3
def dkwX2_rate_1 : List UInt8 := [16, 99, 184, 0, 73, 153, 0, 14, 42, 180, 0, 7, 8, 46, 16, 8, 160, 0, 6, 16, 254, 172, 42]
abbrev dktX2_rate_1 : List UInt8 := dkwX2_rate_1 ++ dktX2_rate_2
def dkwX2_rate_0 : List UInt8 := [27, 2, 160, 0, 12, 42, 180, 0, 7, 8, 3, 79, 3, 172, 42, 27, 182, 1, 57, 153, 0, 24, 28, 3]
abbrev dktX2_rate_0 : List UInt8 := dkwX2_rate_0 ++ dktX2_rate_1
theorem dksX2_rate_0 : cX2_rate.data.toList.drop 0 = dktX2_rate_0 := by decide +kernel
theorem dksX2_rate_1 : cX2_rate.data.toList.drop 24 = dktX2_rate_1 := dk_seg dksX2_rate_0 24 rfl rfl
theorem dksX2_rate_2 : cX2_rate.data.toList.drop 47 = dktX2_rate_2 := dk_seg dksX2_rate_1 23 rfl rfl
theorem dksX2_rate_3 : cX2_rate.data.toList.drop 71 = dktX2_rate_3 := dk_seg dksX2_rate_2 24 rfl rfl
theorem dksX2_rate_4 : cX2_rate.data.toList.drop 95 = dktX2_rate_4 := dk_seg dksX2_rate_3 24 rfl rfl
theorem dX2_rate_0 : decode cX2_rate 0 = .ok (.iload_n 1, 1) := dk_27 (dk_at dksX2_rate_0 0 rfl rfl)
theorem dX2_rate_1 : decode cX2_rate 1 = .ok (.iconst (-1), 1) := dk_2 (dk_at dksX2_rate_0 1 rfl rfl)
theorem dX2_rate_2 : decode cX2_rate 2 = .ok (.if_icmp .ne 12, 3) := dk_160 0 12 (dk_at dksX2_rate_0 2 rfl rfl)
theorem dX2_rate_5 : decode cX2_rate 5 = .ok (.aload_n 0, 1) := dk_42 (dk_at dksX2_rate_0 5 rfl rfl)
theorem dX2_rate_6 : decode cX2_rate 6 = .ok (.getfield 7, 3) := dk_180 0 7 (dk_at dksX2_rate_0 6 rfl rfl)
theorem dX2_rate_9 : decode cX2_rate 9 = .ok (.iconst 5, 1) := dk_8 (dk_at dksX2_rate_0 9 rfl rfl)
theorem dX2_rate_10 : decode cX2_rate 10 = .ok (.iconst 0, 1) := dk_3 (dk_at dksX2_rate_0 10 rfl rfl)
theorem dX2_rate_11 : decode cX2_rate 11 = .ok (.iastore, 1) := dk_79 (dk_at dksX2_rate_0 11 rfl rfl)
theorem dX2_rate_12 : decode cX2_rate 12 = .ok (.iconst 0, 1) := dk_3 (dk_at dksX2_rate_0 12 rfl rfl)
theorem dX2_rate_13 : decode cX2_rate 13 = .ok (.ireturn, 1) := dk_172 (dk_at dksX2_rate_0 13 rfl rfl)
theorem dX2_rate_14 : decode cX2_rate 14 = .ok (.aload_n 0, 1) := dk_42 (dk_at dksX2_rate_0 14 rfl rfl)
theorem dX2_rate_15 : decode cX2_rate 15 = .ok (.iload_n 1, 1) := dk_27 (dk_at dksX2_rate_0 15 rfl rfl)
theorem dX2_rate_16 : decode cX2_rate 16 = .ok (.invokevirtual 313, 3) := dk_182 1 57 (dk_at dksX2_rate_0 16 rfl rfl)
theorem dX2_rate_19 : decode cX2_rate 19 = .ok (.ifCond .eq 24, 3) := dk_153 0 24 (dk_at dksX2_rate_0 19 rfl rfl)
theorem dX2_rate_22 : decode cX2_rate 22 = .ok (.iload_n 2, 1) := dk_28 (dk_at dksX2_rate_0 22 rfl rfl)
theorem dX2_rate_23 : decode cX2_rate 23 = .ok (.iconst 0, 1) := dk_3 (dk_at dksX2_rate_0 23 rfl rfl)
theorem dX2_rate_24 : decode cX2_rate 24 = .ok (.bipush 99, 2) := dk_16 99 (dk_at dksX2_rate_1 0 rfl rfl)
theorem dX2_rate_26 : decode cX2_rate 26 = .ok (.invokestatic 73, 3) := dk_184 0 73 (dk_at dksX2_rate_1 2 rfl rfl)
theorem dX2_rate_29 : decode cX2_rate 29 = .ok (.ifCond .eq 14, 3) := dk_153 0 14 (dk_at dksX2_rate_1 5 rfl rfl)
theorem dX2_rate_32 : decode cX2_rate 32 = .ok (.aload_n 0, 1) := dk_42 (dk_at dksX2_rate_1 8 rfl rfl)
theorem dX2_rate_33 : decode cX2_rate 33 = .ok (.getfield 7, 3) := dk_180 0 7 (dk_at dksX2_rate_1 9 rfl rfl)
theorem dX2_rate_36 : decode cX2_rate 36 = .ok (.iconst 5, 1) := dk_8 (dk_at dksX2_rate_1 12 rfl rfl)
theorem dX2_rate_37 : decode cX2_rate 37 = .ok (.iaload, 1) := dk_46 (dk_at dksX2_rate_1 13 rfl rfl)
theorem dX2_rate_38 : decode cX2_rate 38 = .ok (.bipush 8, 2) := dk_16 8 (dk_at dksX2_rate_1 14 rfl rfl)
theorem dX2_rate_40 : decode cX2_rate 40 = .ok (.if_icmp .ne 6, 3) := dk_160 0 6 (dk_at dksX2_rate_1 16 rfl rfl)
theorem dX2_rate_43 : decode cX2_rate 43 = .ok (.bipush (-2), 2) := dk_16 254 (dk_at dksX2_rate_1 19 rfl rfl)
theorem dX2_rate_45 : decode cX2_rate 45 = .ok (.ireturn, 1) := dk_172 (dk_at dksX2_rate_1 21 rfl rfl)
theorem dX2_rate_46 : decode cX2_rate 46 = .ok (.aload_n 0, 1) := dk_42 (dk_at dksX2_rate_1 22 rfl rfl)
theorem dX2_rate_47 : decode cX2_rate 47 = .ok (.getfield 7, 3) := dk_180 0 7 (dk_at dksX2_rate_2 0 rfl rfl)
theorem dX2_rate_50 : decode cX2_rate 50 = .ok (.sipush 214, 3) := dk_17 0 214 (dk_at dksX2_rate_2 3 rfl rfl)
theorem dX2_rate_53 : decode cX2_rate 53 = .ok (.iconst 2, 1) := dk_5 (dk_at dksX2_rate_2 6 rfl rfl)
theorem dX2_rate_54 : decode cX2_rate 54 = .ok (.aload_n 0, 1) := dk_42 (dk_at dksX2_rate_2 7 rfl rfl)
theorem dX2_rate_55 : decode cX2_rate 55 = .ok (.getfield 7, 3) := dk_180 0 7 (dk_at dksX2_rate_2 8 rfl rfl)
theorem dX2_rate_58 : decode cX2_rate 58 = .ok (.iconst 5, 1) := dk_8 (dk_at dksX2_rate_2 11 rfl rfl)
theorem dX2_rate_59 : decode cX2_rate 59 = .ok (.iaload, 1) := dk_46 (dk_at dksX2_rate_2 12 rfl rfl)
theorem dX2_rate_60 : decode cX2_rate 60 = .ok (.imul, 1) := dk_104 (dk_at dksX2_rate_2 13 rfl rfl)
theorem dX2_rate_61 : decode cX2_rate 61 = .ok (.iadd, 1) := dk_96 (dk_at dksX2_rate_2 14 rfl rfl)
theorem dX2_rate_62 : decode cX2_rate 62 = .ok (.iload_n 1, 1) := dk_27 (dk_at dksX2_rate_2 15 rfl rfl)
theorem dX2_rate_63 : decode cX2_rate 63 = .ok (.iastore, 1) := dk_79 (dk_at dksX2_rate_2 16 rfl rfl)
theorem dX2_rate_64 : decode cX2_rate 64 = .ok (.aload_n 0, 1) := dk_42 (dk_at dksX2_rate_2 17 rfl rfl)
theorem dX2_rate_65 : decode cX2_rate 65 = .ok (.getfield 7, 3) := dk_180 0 7 (dk_at dksX2_rate_2 18 rfl rfl)
theorem dX2_rate_68 : decode cX2_rate 68 = .ok (.sipush 214, 3) := dk_17 0 214 (dk_at dksX2_rate_2 21 rfl rfl)
theorem dX2_rate_71 : decode cX2_rate 71 = .ok (.iconst 2, 1) := dk_5 (dk_at dksX2_rate_3 0 rfl rfl)
theorem dX2_rate_72 : decode cX2_rate 72 = .ok (.aload_n 0, 1) := dk_42 (dk_at dksX2_rate_3 1 rfl rfl)
theorem dX2_rate_73 : decode cX2_rate 73 = .ok (.getfield 7, 3) := dk_180 0 7 (dk_at dksX2_rate_3 2 rfl rfl)
theorem dX2_rate_76 : decode cX2_rate 76 = .ok (.iconst 5, 1) := dk_8 (dk_at dksX2_rate_3 5 rfl rfl)
theorem dX2_rate_77 : decode cX2_rate 77 = .ok (.iaload, 1) := dk_46 (dk_at dksX2_rate_3 6 rfl rfl)
theorem dX2_rate_78 : decode cX2_rate 78 = .ok (.imul, 1) := dk_104 (dk_at dksX2_rate_3 7 rfl rfl)
theorem dX2_rate_79 : decode cX2_rate 79 = .ok (.iadd, 1) := dk_96 (dk_at dksX2_rate_3 8 rfl rfl)
theorem dX2_rate_80 : decode cX2_rate 80 = .ok (.iconst 1, 1) := dk_4 (dk_at dksX2_rate_3 9 rfl rfl)
theorem dX2_rate_81 : decode cX2_rate 81 = .ok (.iadd, 1) := dk_96 (dk_at dksX2_rate_3 10 rfl rfl)
theorem dX2_rate_82 : decode cX2_rate 82 = .ok (.iload_n 2, 1) := dk_28 (dk_at dksX2_rate_3 11 rfl rfl)
theorem dX2_rate_83 : decode cX2_rate 83 = .ok (.iastore, 1) := dk_79 (dk_at dksX2_rate_3 12 rfl rfl)
theorem dX2_rate_84 : decode cX2_rate 84 = .ok (.aload_n 0, 1) := dk_42 (dk_at dksX2_rate_3 13 rfl rfl)
theorem dX2_rate_85 : decode cX2_rate 85 = .ok (.getfield 7, 3) := dk_180 0 7 (dk_at dksX2_rate_3 14 rfl rfl)
theorem dX2_rate_88 : decode cX2_rate 88 = .ok (.iconst 5, 1) := dk_8 (dk_at dksX2_rate_3 17 rfl rfl)
theorem dX2_rate_89 : decode cX2_rate 89 = .ok (.dup2, 1) := dk_92 (dk_at dksX2_rate_3 18 rfl rfl)
theorem dX2_rate_90 : decode cX2_rate 90 = .ok (.iaload, 1) := dk_46 (dk_at dksX2_rate_3 19 rfl rfl)
theorem dX2_rate_91 : decode cX2_rate 91 = .ok (.iconst 1, 1) := dk_4 (dk_at dksX2_rate_3 20 rfl rfl)
theorem dX2_rate_92 : decode cX2_rate 92 = .ok (.iadd, 1) := dk_96 (dk_at dksX2_rate_3 21 rfl rfl)
theorem dX2_rate_93 : decode cX2_rate 93 = .ok (.iastore, 1) := dk_79 (dk_at dksX2_rate_3 22 rfl rfl)
theorem dX2_rate_94 : decode cX2_rate 94 = .ok (.aload_n 0, 1) := dk_42 (dk_at dksX2_rate_3 23 rfl rfl)
theorem dX2_rate_95 : decode cX2_rate 95 = .ok (.getfield 7, 3) := dk_180 0 7 (dk_at dksX2_rate_4 0 rfl rfl)
theorem dX2_rate_98 : decode cX2_rate 98 = .ok (.iconst 5, 1) := dk_8 (dk_at dksX2_rate_4 3 rfl rfl)
theorem dX2_rate_99 : decode cX2_rate 99 = .ok (.iaload, 1) := dk_46 (dk_at dksX2_rate_4 4 rfl rfl)
theorem dX2_rate_100 : decode cX2_rate 100 = .ok (.ireturn, 1) := dk_172 (dk_at dksX2_rate_4 5 rfl rfl)
abbrev cX2_law : ByteArray := prog_19_method_143_code
def yX2_law : MethodName := ⟨RX2, "law", "()I"⟩
def dkwX2_law_4 : List UInt8 := [128, 60, 132, 2, 1, 167, 255, 161, 27, 172]
abbrev dktX2_law_4 : List UInt8 := dkwX2_law_4 ++ []
def dkwX2_law_3 : List UInt8 := [4, 167, 0, 4, 3, 62, 132, 4, 1, 167, 255, 196, 27, 29, 153, 0, 9, 4, 28, 120, 167, 0, 4, 3]
abbrev dktX2_law_3 : List UInt8 := dkwX2_law_3 ++ dktX2_law_4
def dkwX2_law_2 : List UInt8 := [104, 96, 46, 182, 1, 79, 42, 180, 0, 7, 17, 0, 214, 5, 21, 4, 104, 96, 4, 96, 46, 160, 0, 7]
abbrev dktX2_law_2 : List UInt8 := dkwX2_law_2 ++ dktX2_law_3
def dkwX2_law_1 : List UInt8 := [180, 0, 7, 8, 46, 162, 0, 55, 29, 153, 0, 43, 42, 28, 42, 180, 0, 7, 17, 0, 214, 5, 21, 4]
abbrev dktX2_law_1 : List UInt8 := dkwX2_law_1 ++ dktX2_law_2
def dkwX2_law_0 : List UInt8 := [3, 60, 3, 61, 28, 42, 180, 0, 7, 4, 46, 162, 0, 91, 4, 62, 3, 54, 4, 21, 4, 42]
abbrev dktX2_law_0 : List UInt8 := dkwX2_law_0 ++ dktX2_law_1
theorem dksX2_law_0 : cX2_law.data.toList.drop 0 = dktX2_law_0 := by decide +kernel
theorem dksX2_law_1 : cX2_law.data.toList.drop 22 = dktX2_law_1 := dk_seg dksX2_law_0 22 rfl rfl
theorem dksX2_law_2 : cX2_law.data.toList.drop 46 = dktX2_law_2 := dk_seg dksX2_law_1 24 rfl rfl
theorem dksX2_law_3 : cX2_law.data.toList.drop 70 = dktX2_law_3 := dk_seg dksX2_law_2 24 rfl rfl
theorem dksX2_law_4 : cX2_law.data.toList.drop 94 = dktX2_law_4 := dk_seg dksX2_law_3 24 rfl rfl
theorem dX2_law_0 : decode cX2_law 0 = .ok (.iconst 0, 1) := dk_3 (dk_at dksX2_law_0 0 rfl rfl)
theorem dX2_law_1 : decode cX2_law 1 = .ok (.istore_n 1, 1) := dk_60 (dk_at dksX2_law_0 1 rfl rfl)
theorem dX2_law_2 : decode cX2_law 2 = .ok (.iconst 0, 1) := dk_3 (dk_at dksX2_law_0 2 rfl rfl)
theorem dX2_law_3 : decode cX2_law 3 = .ok (.istore_n 2, 1) := dk_61 (dk_at dksX2_law_0 3 rfl rfl)
theorem dX2_law_4 : decode cX2_law 4 = .ok (.iload_n 2, 1) := dk_28 (dk_at dksX2_law_0 4 rfl rfl)
theorem dX2_law_5 : decode cX2_law 5 = .ok (.aload_n 0, 1) := dk_42 (dk_at dksX2_law_0 5 rfl rfl)
theorem dX2_law_6 : decode cX2_law 6 = .ok (.getfield 7, 3) := dk_180 0 7 (dk_at dksX2_law_0 6 rfl rfl)
theorem dX2_law_9 : decode cX2_law 9 = .ok (.iconst 1, 1) := dk_4 (dk_at dksX2_law_0 9 rfl rfl)
theorem dX2_law_10 : decode cX2_law 10 = .ok (.iaload, 1) := dk_46 (dk_at dksX2_law_0 10 rfl rfl)
theorem dX2_law_11 : decode cX2_law 11 = .ok (.if_icmp .ge 91, 3) := dk_162 0 91 (dk_at dksX2_law_0 11 rfl rfl)
theorem dX2_law_14 : decode cX2_law 14 = .ok (.iconst 1, 1) := dk_4 (dk_at dksX2_law_0 14 rfl rfl)
theorem dX2_law_15 : decode cX2_law 15 = .ok (.istore_n 3, 1) := dk_62 (dk_at dksX2_law_0 15 rfl rfl)
theorem dX2_law_16 : decode cX2_law 16 = .ok (.iconst 0, 1) := dk_3 (dk_at dksX2_law_0 16 rfl rfl)
theorem dX2_law_17 : decode cX2_law 17 = .ok (.istore 4, 2) := dk_54 4 (dk_at dksX2_law_0 17 rfl rfl)
theorem dX2_law_19 : decode cX2_law 19 = .ok (.iload 4, 2) := dk_21 4 (dk_at dksX2_law_0 19 rfl rfl)
theorem dX2_law_21 : decode cX2_law 21 = .ok (.aload_n 0, 1) := dk_42 (dk_at dksX2_law_0 21 rfl rfl)
theorem dX2_law_22 : decode cX2_law 22 = .ok (.getfield 7, 3) := dk_180 0 7 (dk_at dksX2_law_1 0 rfl rfl)
theorem dX2_law_25 : decode cX2_law 25 = .ok (.iconst 5, 1) := dk_8 (dk_at dksX2_law_1 3 rfl rfl)
theorem dX2_law_26 : decode cX2_law 26 = .ok (.iaload, 1) := dk_46 (dk_at dksX2_law_1 4 rfl rfl)
theorem dX2_law_27 : decode cX2_law 27 = .ok (.if_icmp .ge 55, 3) := dk_162 0 55 (dk_at dksX2_law_1 5 rfl rfl)
theorem dX2_law_30 : decode cX2_law 30 = .ok (.iload_n 3, 1) := dk_29 (dk_at dksX2_law_1 8 rfl rfl)
theorem dX2_law_31 : decode cX2_law 31 = .ok (.ifCond .eq 43, 3) := dk_153 0 43 (dk_at dksX2_law_1 9 rfl rfl)
theorem dX2_law_34 : decode cX2_law 34 = .ok (.aload_n 0, 1) := dk_42 (dk_at dksX2_law_1 12 rfl rfl)
theorem dX2_law_35 : decode cX2_law 35 = .ok (.iload_n 2, 1) := dk_28 (dk_at dksX2_law_1 13 rfl rfl)
theorem dX2_law_36 : decode cX2_law 36 = .ok (.aload_n 0, 1) := dk_42 (dk_at dksX2_law_1 14 rfl rfl)
theorem dX2_law_37 : decode cX2_law 37 = .ok (.getfield 7, 3) := dk_180 0 7 (dk_at dksX2_law_1 15 rfl rfl)
theorem dX2_law_40 : decode cX2_law 40 = .ok (.sipush 214, 3) := dk_17 0 214 (dk_at dksX2_law_1 18 rfl rfl)
theorem dX2_law_43 : decode cX2_law 43 = .ok (.iconst 2, 1) := dk_5 (dk_at dksX2_law_1 21 rfl rfl)
theorem dX2_law_44 : decode cX2_law 44 = .ok (.iload 4, 2) := dk_21 4 (dk_at dksX2_law_1 22 rfl rfl)
theorem dX2_law_46 : decode cX2_law 46 = .ok (.imul, 1) := dk_104 (dk_at dksX2_law_2 0 rfl rfl)
theorem dX2_law_47 : decode cX2_law 47 = .ok (.iadd, 1) := dk_96 (dk_at dksX2_law_2 1 rfl rfl)
theorem dX2_law_48 : decode cX2_law 48 = .ok (.iaload, 1) := dk_46 (dk_at dksX2_law_2 2 rfl rfl)
theorem dX2_law_49 : decode cX2_law 49 = .ok (.invokevirtual 335, 3) := dk_182 1 79 (dk_at dksX2_law_2 3 rfl rfl)
theorem dX2_law_52 : decode cX2_law 52 = .ok (.aload_n 0, 1) := dk_42 (dk_at dksX2_law_2 6 rfl rfl)
theorem dX2_law_53 : decode cX2_law 53 = .ok (.getfield 7, 3) := dk_180 0 7 (dk_at dksX2_law_2 7 rfl rfl)
theorem dX2_law_56 : decode cX2_law 56 = .ok (.sipush 214, 3) := dk_17 0 214 (dk_at dksX2_law_2 10 rfl rfl)
theorem dX2_law_59 : decode cX2_law 59 = .ok (.iconst 2, 1) := dk_5 (dk_at dksX2_law_2 13 rfl rfl)
theorem dX2_law_60 : decode cX2_law 60 = .ok (.iload 4, 2) := dk_21 4 (dk_at dksX2_law_2 14 rfl rfl)
theorem dX2_law_62 : decode cX2_law 62 = .ok (.imul, 1) := dk_104 (dk_at dksX2_law_2 16 rfl rfl)
theorem dX2_law_63 : decode cX2_law 63 = .ok (.iadd, 1) := dk_96 (dk_at dksX2_law_2 17 rfl rfl)
theorem dX2_law_64 : decode cX2_law 64 = .ok (.iconst 1, 1) := dk_4 (dk_at dksX2_law_2 18 rfl rfl)
theorem dX2_law_65 : decode cX2_law 65 = .ok (.iadd, 1) := dk_96 (dk_at dksX2_law_2 19 rfl rfl)
theorem dX2_law_66 : decode cX2_law 66 = .ok (.iaload, 1) := dk_46 (dk_at dksX2_law_2 20 rfl rfl)
theorem dX2_law_67 : decode cX2_law 67 = .ok (.if_icmp .ne 7, 3) := dk_160 0 7 (dk_at dksX2_law_2 21 rfl rfl)
theorem dX2_law_70 : decode cX2_law 70 = .ok (.iconst 1, 1) := dk_4 (dk_at dksX2_law_3 0 rfl rfl)
theorem dX2_law_71 : decode cX2_law 71 = .ok (.goto 4, 3) := dk_167 0 4 (dk_at dksX2_law_3 1 rfl rfl)
theorem dX2_law_74 : decode cX2_law 74 = .ok (.iconst 0, 1) := dk_3 (dk_at dksX2_law_3 4 rfl rfl)
theorem dX2_law_75 : decode cX2_law 75 = .ok (.istore_n 3, 1) := dk_62 (dk_at dksX2_law_3 5 rfl rfl)
theorem dX2_law_76 : decode cX2_law 76 = .ok (.iinc 4 1, 3) := dk_132 4 1 (dk_at dksX2_law_3 6 rfl rfl)
theorem dX2_law_79 : decode cX2_law 79 = .ok (.goto (-60), 3) := dk_167 255 196 (dk_at dksX2_law_3 9 rfl rfl)
theorem dX2_law_82 : decode cX2_law 82 = .ok (.iload_n 1, 1) := dk_27 (dk_at dksX2_law_3 12 rfl rfl)
theorem dX2_law_83 : decode cX2_law 83 = .ok (.iload_n 3, 1) := dk_29 (dk_at dksX2_law_3 13 rfl rfl)
theorem dX2_law_84 : decode cX2_law 84 = .ok (.ifCond .eq 9, 3) := dk_153 0 9 (dk_at dksX2_law_3 14 rfl rfl)
theorem dX2_law_87 : decode cX2_law 87 = .ok (.iconst 1, 1) := dk_4 (dk_at dksX2_law_3 17 rfl rfl)
theorem dX2_law_88 : decode cX2_law 88 = .ok (.iload_n 2, 1) := dk_28 (dk_at dksX2_law_3 18 rfl rfl)
theorem dX2_law_89 : decode cX2_law 89 = .ok (.ishl, 1) := dk_120 (dk_at dksX2_law_3 19 rfl rfl)
theorem dX2_law_90 : decode cX2_law 90 = .ok (.goto 4, 3) := dk_167 0 4 (dk_at dksX2_law_3 20 rfl rfl)
theorem dX2_law_93 : decode cX2_law 93 = .ok (.iconst 0, 1) := dk_3 (dk_at dksX2_law_3 23 rfl rfl)
theorem dX2_law_94 : decode cX2_law 94 = .ok (.ior, 1) := dk_128 (dk_at dksX2_law_4 0 rfl rfl)
theorem dX2_law_95 : decode cX2_law 95 = .ok (.istore_n 1, 1) := dk_60 (dk_at dksX2_law_4 1 rfl rfl)
theorem dX2_law_96 : decode cX2_law 96 = .ok (.iinc 2 1, 3) := dk_132 2 1 (dk_at dksX2_law_4 2 rfl rfl)
theorem dX2_law_99 : decode cX2_law 99 = .ok (.goto (-95), 3) := dk_167 255 161 (dk_at dksX2_law_4 5 rfl rfl)
theorem dX2_law_102 : decode cX2_law 102 = .ok (.iload_n 1, 1) := dk_27 (dk_at dksX2_law_4 8 rfl rfl)
theorem dX2_law_103 : decode cX2_law 103 = .ok (.ireturn, 1) := dk_172 (dk_at dksX2_law_4 9 rfl rfl)
abbrev cX2_image : ByteArray := prog_19_method_144_code
def yX2_image : MethodName := ⟨RX2, "image", "()I"⟩
def dkwX2_image_0 : List UInt8 := [42, 180, 0, 7, 42, 180, 0, 13, 184, 0, 69, 42, 180, 0, 7, 16, 6, 46, 172]
abbrev dktX2_image_0 : List UInt8 := dkwX2_image_0 ++ []
theorem dksX2_image_0 : cX2_image.data.toList.drop 0 = dktX2_image_0 := by decide +kernel
theorem dX2_image_0 : decode cX2_image 0 = .ok (.aload_n 0, 1) := dk_42 (dk_at dksX2_image_0 0 rfl rfl)
theorem dX2_image_1 : decode cX2_image 1 = .ok (.getfield 7, 3) := dk_180 0 7 (dk_at dksX2_image_0 1 rfl rfl)
theorem dX2_image_4 : decode cX2_image 4 = .ok (.aload_n 0, 1) := dk_42 (dk_at dksX2_image_0 4 rfl rfl)
theorem dX2_image_5 : decode cX2_image 5 = .ok (.getfield 13, 3) := dk_180 0 13 (dk_at dksX2_image_0 5 rfl rfl)
theorem dX2_image_8 : decode cX2_image 8 = .ok (.invokestatic 69, 3) := dk_184 0 69 (dk_at dksX2_image_0 8 rfl rfl)
theorem dX2_image_11 : decode cX2_image 11 = .ok (.aload_n 0, 1) := dk_42 (dk_at dksX2_image_0 11 rfl rfl)
theorem dX2_image_12 : decode cX2_image 12 = .ok (.getfield 7, 3) := dk_180 0 7 (dk_at dksX2_image_0 12 rfl rfl)
theorem dX2_image_15 : decode cX2_image 15 = .ok (.bipush 6, 2) := dk_16 6 (dk_at dksX2_image_0 15 rfl rfl)
theorem dX2_image_17 : decode cX2_image 17 = .ok (.iaload, 1) := dk_46 (dk_at dksX2_image_0 17 rfl rfl)
theorem dX2_image_18 : decode cX2_image 18 = .ok (.ireturn, 1) := dk_172 (dk_at dksX2_image_0 18 rfl rfl)
abbrev cX2_back : ByteArray := prog_19_method_145_code
def yX2_back : MethodName := ⟨RX2, "back", "()I"⟩
def dkwX2_back_0 : List UInt8 := [42, 180, 0, 13, 42, 180, 0, 7, 184, 0, 69, 42, 180, 0, 7, 16, 6, 46, 172]
abbrev dktX2_back_0 : List UInt8 := dkwX2_back_0 ++ []
theorem dksX2_back_0 : cX2_back.data.toList.drop 0 = dktX2_back_0 := by decide +kernel
theorem dX2_back_0 : decode cX2_back 0 = .ok (.aload_n 0, 1) := dk_42 (dk_at dksX2_back_0 0 rfl rfl)
theorem dX2_back_1 : decode cX2_back 1 = .ok (.getfield 13, 3) := dk_180 0 13 (dk_at dksX2_back_0 1 rfl rfl)
theorem dX2_back_4 : decode cX2_back 4 = .ok (.aload_n 0, 1) := dk_42 (dk_at dksX2_back_0 4 rfl rfl)
theorem dX2_back_5 : decode cX2_back 5 = .ok (.getfield 7, 3) := dk_180 0 7 (dk_at dksX2_back_0 5 rfl rfl)
theorem dX2_back_8 : decode cX2_back 8 = .ok (.invokestatic 69, 3) := dk_184 0 69 (dk_at dksX2_back_0 8 rfl rfl)
theorem dX2_back_11 : decode cX2_back 11 = .ok (.aload_n 0, 1) := dk_42 (dk_at dksX2_back_0 11 rfl rfl)
theorem dX2_back_12 : decode cX2_back 12 = .ok (.getfield 7, 3) := dk_180 0 7 (dk_at dksX2_back_0 12 rfl rfl)
theorem dX2_back_15 : decode cX2_back 15 = .ok (.bipush 6, 2) := dk_16 6 (dk_at dksX2_back_0 15 rfl rfl)
theorem dX2_back_17 : decode cX2_back 17 = .ok (.iaload, 1) := dk_46 (dk_at dksX2_back_0 17 rfl rfl)
theorem dX2_back_18 : decode cX2_back 18 = .ok (.ireturn, 1) := dk_172 (dk_at dksX2_back_0 18 rfl rfl)
abbrev cX2_about : ByteArray := prog_19_method_146_code
def yX2_about : MethodName := ⟨RX2, "about", "(I)I"⟩
def dkwX2_about_1 : List UInt8 := [42, 180, 0, 100, 167, 0, 5, 16, 254, 172]
abbrev dktX2_about_1 : List UInt8 := dkwX2_about_1 ++ []
def dkwX2_about_0 : List UInt8 := [27, 3, 8, 184, 0, 73, 153, 0, 12, 42, 180, 0, 7, 27, 46, 167, 0, 18, 27, 16, 6, 160, 0, 10]
abbrev dktX2_about_0 : List UInt8 := dkwX2_about_0 ++ dktX2_about_1
theorem dksX2_about_0 : cX2_about.data.toList.drop 0 = dktX2_about_0 := by decide +kernel
theorem dksX2_about_1 : cX2_about.data.toList.drop 24 = dktX2_about_1 := dk_seg dksX2_about_0 24 rfl rfl
theorem dX2_about_0 : decode cX2_about 0 = .ok (.iload_n 1, 1) := dk_27 (dk_at dksX2_about_0 0 rfl rfl)
theorem dX2_about_1 : decode cX2_about 1 = .ok (.iconst 0, 1) := dk_3 (dk_at dksX2_about_0 1 rfl rfl)
theorem dX2_about_2 : decode cX2_about 2 = .ok (.iconst 5, 1) := dk_8 (dk_at dksX2_about_0 2 rfl rfl)
theorem dX2_about_3 : decode cX2_about 3 = .ok (.invokestatic 73, 3) := dk_184 0 73 (dk_at dksX2_about_0 3 rfl rfl)
theorem dX2_about_6 : decode cX2_about 6 = .ok (.ifCond .eq 12, 3) := dk_153 0 12 (dk_at dksX2_about_0 6 rfl rfl)
theorem dX2_about_9 : decode cX2_about 9 = .ok (.aload_n 0, 1) := dk_42 (dk_at dksX2_about_0 9 rfl rfl)
theorem dX2_about_10 : decode cX2_about 10 = .ok (.getfield 7, 3) := dk_180 0 7 (dk_at dksX2_about_0 10 rfl rfl)
theorem dX2_about_13 : decode cX2_about 13 = .ok (.iload_n 1, 1) := dk_27 (dk_at dksX2_about_0 13 rfl rfl)
theorem dX2_about_14 : decode cX2_about 14 = .ok (.iaload, 1) := dk_46 (dk_at dksX2_about_0 14 rfl rfl)
theorem dX2_about_15 : decode cX2_about 15 = .ok (.goto 18, 3) := dk_167 0 18 (dk_at dksX2_about_0 15 rfl rfl)
theorem dX2_about_18 : decode cX2_about 18 = .ok (.iload_n 1, 1) := dk_27 (dk_at dksX2_about_0 18 rfl rfl)
theorem dX2_about_19 : decode cX2_about 19 = .ok (.bipush 6, 2) := dk_16 6 (dk_at dksX2_about_0 19 rfl rfl)
theorem dX2_about_21 : decode cX2_about 21 = .ok (.if_icmp .ne 10, 3) := dk_160 0 10 (dk_at dksX2_about_0 21 rfl rfl)
theorem dX2_about_24 : decode cX2_about 24 = .ok (.aload_n 0, 1) := dk_42 (dk_at dksX2_about_1 0 rfl rfl)
theorem dX2_about_25 : decode cX2_about 25 = .ok (.getfield 100, 3) := dk_180 0 100 (dk_at dksX2_about_1 1 rfl rfl)
theorem dX2_about_28 : decode cX2_about 28 = .ok (.goto 5, 3) := dk_167 0 5 (dk_at dksX2_about_1 4 rfl rfl)
theorem dX2_about_31 : decode cX2_about 31 = .ok (.bipush (-2), 2) := dk_16 254 (dk_at dksX2_about_1 7 rfl rfl)
theorem dX2_about_33 : decode cX2_about 33 = .ok (.ireturn, 1) := dk_172 (dk_at dksX2_about_1 9 rfl rfl)
theorem q128 : (Jvm.Cond.initialized "ShaveOfAnotherModel") ∈ lw_all := lw_g (lw_at lw_m1 5 rfl) rfl
theorem q677 : (Jvm.Cond.selects "ShaveOfAnotherModel" ({ cls := "java/lang/Object", name := "getClass", desc := "()Ljava/lang/Class;" } : Jvm.MethodName) ({ cls := "java/lang/Object", name := "getClass", desc := "()Ljava/lang/Class;" } : Jvm.MethodName)) ∈ lw_all := lw_g (lw_at lw_m3 74 rfl) rfl
theorem q1365 : (Jvm.Cond.instantiable "ShaveOfAnotherModel" (32 : Nat)) ∈ lw_all := lw_g (lw_at lw_m6 42 rfl) rfl
theorem q1367 : (Jvm.Cond.instanceMethod ({ cls := "ShaveOfAnotherModel", name := "<init>", desc := "()V" } : Jvm.MethodName)) ∈ lw_all := lw_g (lw_at lw_m6 44 rfl) rfl
theorem q1368 : (Jvm.Cond.code ({ cls := "ShaveOfAnotherModel", name := "<init>", desc := "()V" } : Jvm.MethodName) prog_19_method_1_code (2 : Nat) (Option.none : Option Jvm.ClassFile.FieldType)) ∈ lw_all := lw_g (lw_at lw_m6 45 rfl) rfl
theorem q1369 : (Jvm.Cond.methodLink "ShaveOfAnotherModel" (1 : Nat) ({ cls := "java/lang/Object", name := "<init>", desc := "()V" } : Jvm.MethodName)) ∈ lw_all := lw_g (lw_at lw_m6 46 rfl) rfl
theorem q1370 : (Jvm.Cond.constant "ShaveOfAnotherModel" (53 : Nat) (65536 : Int32)) ∈ lw_all := lw_g (lw_at lw_m6 47 rfl) rfl
theorem q1371 : (Jvm.Cond.methodLink "ShaveOfAnotherModel" (69 : Nat) ({ cls := "ShaveOfAnotherModel", name := "copy", desc := "([I[I)V" } : Jvm.MethodName)) ∈ lw_all := lw_g (lw_at lw_m6 48 rfl) rfl
theorem q1372 : (Jvm.Cond.static ({ cls := "ShaveOfAnotherModel", name := "copy", desc := "([I[I)V" } : Jvm.MethodName)) ∈ lw_all := lw_g (lw_at lw_m6 49 rfl) rfl
theorem q1373 : (Jvm.Cond.code ({ cls := "ShaveOfAnotherModel", name := "copy", desc := "([I[I)V" } : Jvm.MethodName) prog_19_method_2_code (3 : Nat) (Option.none : Option Jvm.ClassFile.FieldType)) ∈ lw_all := lw_g (lw_at lw_m6 50 rfl) rfl
theorem q1374 : (Jvm.Cond.fieldLink "ShaveOfAnotherModel" (7 : Nat) "ShaveOfAnotherModel" "a" "[I") ∈ lw_all := lw_g (lw_at lw_m6 51 rfl) rfl
theorem q1375 : (Jvm.Cond.fieldLink "ShaveOfAnotherModel" (13 : Nat) "ShaveOfAnotherModel" "image" "[I") ∈ lw_all := lw_g (lw_at lw_m6 52 rfl) rfl
theorem q1376 : (Jvm.Cond.fieldLink "ShaveOfAnotherModel" (16 : Nat) "ShaveOfAnotherModel" "texts" "[I") ∈ lw_all := lw_g (lw_at lw_m6 53 rfl) rfl
theorem q1377 : (Jvm.Cond.fieldLink "ShaveOfAnotherModel" (19 : Nat) "ShaveOfAnotherModel" "tape" "[I") ∈ lw_all := lw_g (lw_at lw_m6 54 rfl) rfl
theorem q1378 : (Jvm.Cond.fieldLink "ShaveOfAnotherModel" (100 : Nat) "ShaveOfAnotherModel" "taped" "I") ∈ lw_all := lw_g (lw_at lw_m6 55 rfl) rfl
theorem q1379 : (Jvm.Cond.fieldLink "ShaveOfAnotherModel" (22 : Nat) "ShaveOfAnotherModel" "fault" "I") ∈ lw_all := lw_g (lw_at lw_m6 56 rfl) rfl
theorem q1380 : (Jvm.Cond.fieldLink "ShaveOfAnotherModel" (26 : Nat) "ShaveOfAnotherModel" "faultPlace" "I") ∈ lw_all := lw_g (lw_at lw_m6 57 rfl) rfl
theorem q1381 : (Jvm.Cond.fieldLink "ShaveOfAnotherModel" (106 : Nat) "ShaveOfAnotherModel" "at" "I") ∈ lw_all := lw_g (lw_at lw_m6 58 rfl) rfl
theorem q1382 : (Jvm.Cond.fieldLink "ShaveOfAnotherModel" (112 : Nat) "ShaveOfAnotherModel" "place" "I") ∈ lw_all := lw_g (lw_at lw_m6 59 rfl) rfl
theorem q1383 : (Jvm.Cond.fieldLink "ShaveOfAnotherModel" (115 : Nat) "ShaveOfAnotherModel" "token" "I") ∈ lw_all := lw_g (lw_at lw_m6 60 rfl) rfl
theorem q1384 : (Jvm.Cond.fieldLink "ShaveOfAnotherModel" (121 : Nat) "ShaveOfAnotherModel" "number" "I") ∈ lw_all := lw_g (lw_at lw_m6 61 rfl) rfl
theorem q1385 : (Jvm.Cond.fieldLink "ShaveOfAnotherModel" (128 : Nat) "ShaveOfAnotherModel" "word" "J") ∈ lw_all := lw_g (lw_at lw_m6 62 rfl) rfl
theorem q1386 : (Jvm.Cond.fieldLink "ShaveOfAnotherModel" (153 : Nat) "ShaveOfAnotherModel" "text0" "I") ∈ lw_all := lw_g (lw_at lw_m6 63 rfl) rfl
theorem q1387 : (Jvm.Cond.fieldLink "ShaveOfAnotherModel" (156 : Nat) "ShaveOfAnotherModel" "written" "I") ∈ lw_all := lw_g (lw_at lw_m6 64 rfl) rfl
theorem q1388 : (Jvm.Cond.fieldLink "ShaveOfAnotherModel" (163 : Nat) "ShaveOfAnotherModel" "sort0" "I") ∈ lw_all := lw_g (lw_at lw_m6 65 rfl) rfl
theorem q1389 : (Jvm.Cond.fieldLink "ShaveOfAnotherModel" (29 : Nat) "ShaveOfAnotherModel" "pile" "[I") ∈ lw_all := lw_g (lw_at lw_m6 66 rfl) rfl
theorem q1390 : (Jvm.Cond.fieldLink "ShaveOfAnotherModel" (166 : Nat) "ShaveOfAnotherModel" "piled" "I") ∈ lw_all := lw_g (lw_at lw_m6 67 rfl) rfl
theorem q1391 : (Jvm.Cond.fieldLink "ShaveOfAnotherModel" (176 : Nat) "ShaveOfAnotherModel" "opens" "I") ∈ lw_all := lw_g (lw_at lw_m6 68 rfl) rfl
theorem q1392 : (Jvm.Cond.fieldLink "ShaveOfAnotherModel" (211 : Nat) "ShaveOfAnotherModel" "isWhole" "Z") ∈ lw_all := lw_g (lw_at lw_m6 69 rfl) rfl
theorem q1393 : (Jvm.Cond.fieldLink "ShaveOfAnotherModel" (253 : Nat) "ShaveOfAnotherModel" "once" "I") ∈ lw_all := lw_g (lw_at lw_m6 70 rfl) rfl
theorem q1394 : (Jvm.Cond.fieldLink "ShaveOfAnotherModel" (32 : Nat) "ShaveOfAnotherModel" "named" "[I") ∈ lw_all := lw_g (lw_at lw_m6 71 rfl) rfl
theorem q1395 : (Jvm.Cond.fieldLink "ShaveOfAnotherModel" (35 : Nat) "ShaveOfAnotherModel" "values" "[J") ∈ lw_all := lw_g (lw_at lw_m6 72 rfl) rfl
theorem q1396 : (Jvm.Cond.fieldLink "ShaveOfAnotherModel" (39 : Nat) "ShaveOfAnotherModel" "truth" "[Z") ∈ lw_all := lw_g (lw_at lw_m6 73 rfl) rfl
theorem q1397 : (Jvm.Cond.fieldLink "ShaveOfAnotherModel" (43 : Nat) "ShaveOfAnotherModel" "isWritten" "Z") ∈ lw_all := lw_g (lw_at lw_m6 74 rfl) rfl
theorem q1398 : (Jvm.Cond.fieldLink "ShaveOfAnotherModel" (47 : Nat) "ShaveOfAnotherModel" "aside" "[I") ∈ lw_all := lw_g (lw_at lw_m6 75 rfl) rfl
theorem q1399 : (Jvm.Cond.fieldLink "ShaveOfAnotherModel" (50 : Nat) "ShaveOfAnotherModel" "turn" "[I") ∈ lw_all := lw_g (lw_at lw_m6 76 rfl) rfl
theorem q1400 : (Jvm.Cond.fieldLink "ShaveOfAnotherModel" (54 : Nat) "ShaveOfAnotherModel" "sittings" "[I") ∈ lw_all := lw_g (lw_at lw_m6 77 rfl) rfl
theorem q1401 : (Jvm.Cond.fieldLink "ShaveOfAnotherModel" (429 : Nat) "ShaveOfAnotherModel" "ways" "I") ∈ lw_all := lw_g (lw_at lw_m6 78 rfl) rfl
theorem q1402 : (Jvm.Cond.fieldLink "ShaveOfAnotherModel" (57 : Nat) "ShaveOfAnotherModel" "can" "[I") ∈ lw_all := lw_g (lw_at lw_m6 79 rfl) rfl
theorem q1403 : (Jvm.Cond.fieldLink "ShaveOfAnotherModel" (60 : Nat) "ShaveOfAnotherModel" "least" "[I") ∈ lw_all := lw_g (lw_at lw_m6 80 rfl) rfl
theorem q1404 : (Jvm.Cond.fieldLink "ShaveOfAnotherModel" (63 : Nat) "ShaveOfAnotherModel" "gets" "[I") ∈ lw_all := lw_g (lw_at lw_m6 81 rfl) rfl
theorem q1405 : (Jvm.Cond.fieldLink "ShaveOfAnotherModel" (66 : Nat) "ShaveOfAnotherModel" "slipped" "[J") ∈ lw_all := lw_g (lw_at lw_m6 82 rfl) rfl
theorem q1406 : (Jvm.Cond.laysFinal "ShaveOfAnotherModel" "ShaveOfAnotherModel" "a" "[I") ∈ lw_all := lw_g (lw_at lw_m6 83 rfl) rfl
theorem q1407 : (Jvm.Cond.soleField "ShaveOfAnotherModel" "a") ∈ lw_all := lw_g (lw_at lw_m6 84 rfl) rfl
theorem q1408 : (Jvm.Cond.laysFinal "ShaveOfAnotherModel" "ShaveOfAnotherModel" "image" "[I") ∈ lw_all := lw_g (lw_at lw_m6 85 rfl) rfl
theorem q1409 : (Jvm.Cond.soleField "ShaveOfAnotherModel" "image") ∈ lw_all := lw_g (lw_at lw_m6 86 rfl) rfl
theorem q1410 : (Jvm.Cond.laysFinal "ShaveOfAnotherModel" "ShaveOfAnotherModel" "texts" "[I") ∈ lw_all := lw_g (lw_at lw_m6 87 rfl) rfl
theorem q1411 : (Jvm.Cond.soleField "ShaveOfAnotherModel" "texts") ∈ lw_all := lw_g (lw_at lw_m6 88 rfl) rfl
theorem q1412 : (Jvm.Cond.laysFinal "ShaveOfAnotherModel" "ShaveOfAnotherModel" "tape" "[I") ∈ lw_all := lw_g (lw_at lw_m6 89 rfl) rfl
theorem q1413 : (Jvm.Cond.soleField "ShaveOfAnotherModel" "tape") ∈ lw_all := lw_g (lw_at lw_m6 90 rfl) rfl
theorem q1414 : (Jvm.Cond.lays "ShaveOfAnotherModel" "ShaveOfAnotherModel" "taped" "I") ∈ lw_all := lw_g (lw_at lw_m6 91 rfl) rfl
theorem q1415 : (Jvm.Cond.soleField "ShaveOfAnotherModel" "taped") ∈ lw_all := lw_g (lw_at lw_m6 92 rfl) rfl
theorem q1416 : (Jvm.Cond.lays "ShaveOfAnotherModel" "ShaveOfAnotherModel" "fault" "I") ∈ lw_all := lw_g (lw_at lw_m6 93 rfl) rfl
theorem q1417 : (Jvm.Cond.soleField "ShaveOfAnotherModel" "fault") ∈ lw_all := lw_g (lw_at lw_m6 94 rfl) rfl
theorem q1418 : (Jvm.Cond.lays "ShaveOfAnotherModel" "ShaveOfAnotherModel" "faultPlace" "I") ∈ lw_all := lw_g (lw_at lw_m6 95 rfl) rfl
theorem q1419 : (Jvm.Cond.soleField "ShaveOfAnotherModel" "faultPlace") ∈ lw_all := lw_g (lw_at lw_m6 96 rfl) rfl
theorem q1420 : (Jvm.Cond.lays "ShaveOfAnotherModel" "ShaveOfAnotherModel" "at" "I") ∈ lw_all := lw_g (lw_at lw_m6 97 rfl) rfl
theorem q1421 : (Jvm.Cond.soleField "ShaveOfAnotherModel" "at") ∈ lw_all := lw_g (lw_at lw_m6 98 rfl) rfl
theorem q1422 : (Jvm.Cond.lays "ShaveOfAnotherModel" "ShaveOfAnotherModel" "place" "I") ∈ lw_all := lw_g (lw_at lw_m6 99 rfl) rfl
theorem q1423 : (Jvm.Cond.soleField "ShaveOfAnotherModel" "place") ∈ lw_all := lw_g (lw_at lw_m6 100 rfl) rfl
theorem q1424 : (Jvm.Cond.lays "ShaveOfAnotherModel" "ShaveOfAnotherModel" "token" "I") ∈ lw_all := lw_g (lw_at lw_m6 101 rfl) rfl
theorem q1425 : (Jvm.Cond.soleField "ShaveOfAnotherModel" "token") ∈ lw_all := lw_g (lw_at lw_m6 102 rfl) rfl
theorem q1426 : (Jvm.Cond.lays "ShaveOfAnotherModel" "ShaveOfAnotherModel" "number" "I") ∈ lw_all := lw_g (lw_at lw_m6 103 rfl) rfl
theorem q1427 : (Jvm.Cond.soleField "ShaveOfAnotherModel" "number") ∈ lw_all := lw_g (lw_at lw_m6 104 rfl) rfl
theorem q1428 : (Jvm.Cond.lays "ShaveOfAnotherModel" "ShaveOfAnotherModel" "word" "J") ∈ lw_all := lw_g (lw_at lw_m6 105 rfl) rfl
theorem q1429 : (Jvm.Cond.soleField "ShaveOfAnotherModel" "word") ∈ lw_all := lw_g (lw_at lw_m6 106 rfl) rfl
theorem q1430 : (Jvm.Cond.lays "ShaveOfAnotherModel" "ShaveOfAnotherModel" "text0" "I") ∈ lw_all := lw_g (lw_at lw_m6 107 rfl) rfl
theorem q1431 : (Jvm.Cond.soleField "ShaveOfAnotherModel" "text0") ∈ lw_all := lw_g (lw_at lw_m6 108 rfl) rfl
theorem q1432 : (Jvm.Cond.lays "ShaveOfAnotherModel" "ShaveOfAnotherModel" "written" "I") ∈ lw_all := lw_g (lw_at lw_m6 109 rfl) rfl
theorem q1433 : (Jvm.Cond.soleField "ShaveOfAnotherModel" "written") ∈ lw_all := lw_g (lw_at lw_m6 110 rfl) rfl
theorem q1434 : (Jvm.Cond.lays "ShaveOfAnotherModel" "ShaveOfAnotherModel" "sort0" "I") ∈ lw_all := lw_g (lw_at lw_m6 111 rfl) rfl
theorem q1435 : (Jvm.Cond.soleField "ShaveOfAnotherModel" "sort0") ∈ lw_all := lw_g (lw_at lw_m6 112 rfl) rfl
theorem q1436 : (Jvm.Cond.laysFinal "ShaveOfAnotherModel" "ShaveOfAnotherModel" "pile" "[I") ∈ lw_all := lw_g (lw_at lw_m6 113 rfl) rfl
theorem q1437 : (Jvm.Cond.soleField "ShaveOfAnotherModel" "pile") ∈ lw_all := lw_g (lw_at lw_m6 114 rfl) rfl
theorem q1438 : (Jvm.Cond.lays "ShaveOfAnotherModel" "ShaveOfAnotherModel" "piled" "I") ∈ lw_all := lw_g (lw_at lw_m6 115 rfl) rfl
theorem q1439 : (Jvm.Cond.soleField "ShaveOfAnotherModel" "piled") ∈ lw_all := lw_g (lw_at lw_m6 116 rfl) rfl
theorem q1440 : (Jvm.Cond.lays "ShaveOfAnotherModel" "ShaveOfAnotherModel" "opens" "I") ∈ lw_all := lw_g (lw_at lw_m6 117 rfl) rfl
theorem q1441 : (Jvm.Cond.soleField "ShaveOfAnotherModel" "opens") ∈ lw_all := lw_g (lw_at lw_m6 118 rfl) rfl
theorem q1442 : (Jvm.Cond.lays "ShaveOfAnotherModel" "ShaveOfAnotherModel" "isWhole" "Z") ∈ lw_all := lw_g (lw_at lw_m6 119 rfl) rfl
theorem q1443 : (Jvm.Cond.soleField "ShaveOfAnotherModel" "isWhole") ∈ lw_all := lw_g (lw_at lw_m6 120 rfl) rfl
theorem q1444 : (Jvm.Cond.lays "ShaveOfAnotherModel" "ShaveOfAnotherModel" "once" "I") ∈ lw_all := lw_g (lw_at lw_m6 121 rfl) rfl
theorem q1445 : (Jvm.Cond.soleField "ShaveOfAnotherModel" "once") ∈ lw_all := lw_g (lw_at lw_m6 122 rfl) rfl
theorem q1446 : (Jvm.Cond.laysFinal "ShaveOfAnotherModel" "ShaveOfAnotherModel" "named" "[I") ∈ lw_all := lw_g (lw_at lw_m6 123 rfl) rfl
theorem q1447 : (Jvm.Cond.soleField "ShaveOfAnotherModel" "named") ∈ lw_all := lw_g (lw_at lw_m6 124 rfl) rfl
theorem q1448 : (Jvm.Cond.laysFinal "ShaveOfAnotherModel" "ShaveOfAnotherModel" "values" "[J") ∈ lw_all := lw_g (lw_at lw_m6 125 rfl) rfl
theorem q1449 : (Jvm.Cond.soleField "ShaveOfAnotherModel" "values") ∈ lw_all := lw_g (lw_at lw_m6 126 rfl) rfl
theorem q1450 : (Jvm.Cond.laysFinal "ShaveOfAnotherModel" "ShaveOfAnotherModel" "truth" "[Z") ∈ lw_all := lw_g (lw_at lw_m6 127 rfl) rfl
theorem q1451 : (Jvm.Cond.soleField "ShaveOfAnotherModel" "truth") ∈ lw_all := lw_g (lw_at lw_m6 128 rfl) rfl
theorem q1452 : (Jvm.Cond.lays "ShaveOfAnotherModel" "ShaveOfAnotherModel" "isWritten" "Z") ∈ lw_all := lw_g (lw_at lw_m6 129 rfl) rfl
theorem q1453 : (Jvm.Cond.soleField "ShaveOfAnotherModel" "isWritten") ∈ lw_all := lw_g (lw_at lw_m6 130 rfl) rfl
theorem q1454 : (Jvm.Cond.laysFinal "ShaveOfAnotherModel" "ShaveOfAnotherModel" "aside" "[I") ∈ lw_all := lw_g (lw_at lw_m6 131 rfl) rfl
theorem q1455 : (Jvm.Cond.soleField "ShaveOfAnotherModel" "aside") ∈ lw_all := lw_g (lw_at lw_m6 132 rfl) rfl
theorem q1456 : (Jvm.Cond.laysFinal "ShaveOfAnotherModel" "ShaveOfAnotherModel" "turn" "[I") ∈ lw_all := lw_g (lw_at lw_m6 133 rfl) rfl
theorem q1457 : (Jvm.Cond.soleField "ShaveOfAnotherModel" "turn") ∈ lw_all := lw_g (lw_at lw_m6 134 rfl) rfl
theorem q1458 : (Jvm.Cond.laysFinal "ShaveOfAnotherModel" "ShaveOfAnotherModel" "sittings" "[I") ∈ lw_all := lw_g (lw_at lw_m6 135 rfl) rfl
theorem q1459 : (Jvm.Cond.soleField "ShaveOfAnotherModel" "sittings") ∈ lw_all := lw_g (lw_at lw_m6 136 rfl) rfl
theorem q1460 : (Jvm.Cond.lays "ShaveOfAnotherModel" "ShaveOfAnotherModel" "ways" "I") ∈ lw_all := lw_g (lw_at lw_m6 137 rfl) rfl
theorem q1461 : (Jvm.Cond.soleField "ShaveOfAnotherModel" "ways") ∈ lw_all := lw_g (lw_at lw_m6 138 rfl) rfl
theorem q1462 : (Jvm.Cond.laysFinal "ShaveOfAnotherModel" "ShaveOfAnotherModel" "can" "[I") ∈ lw_all := lw_g (lw_at lw_m6 139 rfl) rfl
theorem q1463 : (Jvm.Cond.soleField "ShaveOfAnotherModel" "can") ∈ lw_all := lw_g (lw_at lw_m6 140 rfl) rfl
theorem q1464 : (Jvm.Cond.laysFinal "ShaveOfAnotherModel" "ShaveOfAnotherModel" "least" "[I") ∈ lw_all := lw_g (lw_at lw_m6 141 rfl) rfl
theorem q1465 : (Jvm.Cond.soleField "ShaveOfAnotherModel" "least") ∈ lw_all := lw_g (lw_at lw_m6 142 rfl) rfl
theorem q1466 : (Jvm.Cond.laysFinal "ShaveOfAnotherModel" "ShaveOfAnotherModel" "gets" "[I") ∈ lw_all := lw_g (lw_at lw_m6 143 rfl) rfl
theorem q1467 : (Jvm.Cond.soleField "ShaveOfAnotherModel" "gets") ∈ lw_all := lw_g (lw_at lw_m6 144 rfl) rfl
theorem q1468 : (Jvm.Cond.laysFinal "ShaveOfAnotherModel" "ShaveOfAnotherModel" "slipped" "[J") ∈ lw_all := lw_g (lw_at lw_m6 145 rfl) rfl
theorem q1469 : (Jvm.Cond.soleField "ShaveOfAnotherModel" "slipped") ∈ lw_all := lw_g (lw_at lw_m6 146 rfl) rfl
theorem q1470 : (Jvm.Cond.superclass "ShaveOfAnotherModel" "java/lang/Object") ∈ lw_all := lw_g (lw_at lw_m6 147 rfl) rfl
theorem q1474 : (Jvm.Cond.instanceMethod ({ cls := "ShaveOfAnotherModel", name := "person", desc := "(II)I" } : Jvm.MethodName)) ∈ lw_all := lw_g (lw_at lw_m6 151 rfl) rfl
theorem q1475 : (Jvm.Cond.selects "ShaveOfAnotherModel" ({ cls := "ShaveOfAnotherModel", name := "person", desc := "(II)I" } : Jvm.MethodName) ({ cls := "ShaveOfAnotherModel", name := "person", desc := "(II)I" } : Jvm.MethodName)) ∈ lw_all := lw_g (lw_at lw_m6 152 rfl) rfl
theorem q1476 : (Jvm.Cond.code ({ cls := "ShaveOfAnotherModel", name := "person", desc := "(II)I" } : Jvm.MethodName) prog_19_method_14_code (4 : Nat) (Option.some Jvm.ClassFile.FieldType.int)) ∈ lw_all := lw_g (lw_at lw_m6 153 rfl) rfl
theorem q1477 : (Jvm.Cond.methodLink "ShaveOfAnotherModel" (73 : Nat) ({ cls := "ShaveOfAnotherModel", name := "isIn", desc := "(III)Z" } : Jvm.MethodName)) ∈ lw_all := lw_g (lw_at lw_m6 154 rfl) rfl
theorem q1478 : (Jvm.Cond.static ({ cls := "ShaveOfAnotherModel", name := "isIn", desc := "(III)Z" } : Jvm.MethodName)) ∈ lw_all := lw_g (lw_at lw_m6 155 rfl) rfl
theorem q1479 : (Jvm.Cond.code ({ cls := "ShaveOfAnotherModel", name := "isIn", desc := "(III)Z" } : Jvm.MethodName) prog_19_method_3_code (3 : Nat) (Option.some Jvm.ClassFile.FieldType.boolean)) ∈ lw_all := lw_g (lw_at lw_m6 156 rfl) rfl
theorem q1480 : (Jvm.Cond.methodLink "ShaveOfAnotherModel" (84 : Nat) ({ cls := "ShaveOfAnotherModel", name := "put", desc := "(III)V" } : Jvm.MethodName)) ∈ lw_all := lw_g (lw_at lw_m6 157 rfl) rfl
theorem q1481 : (Jvm.Cond.privateMethod ({ cls := "ShaveOfAnotherModel", name := "put", desc := "(III)V" } : Jvm.MethodName)) ∈ lw_tbl := lw_at lw_m6 158 rfl
theorem q1482 : (Jvm.Cond.instanceMethod ({ cls := "ShaveOfAnotherModel", name := "put", desc := "(III)V" } : Jvm.MethodName)) ∈ lw_all := lw_g (lw_at lw_m6 159 rfl) rfl
theorem q1483 : (Jvm.Cond.code ({ cls := "ShaveOfAnotherModel", name := "put", desc := "(III)V" } : Jvm.MethodName) prog_19_method_10_code (4 : Nat) (Option.none : Option Jvm.ClassFile.FieldType)) ∈ lw_all := lw_g (lw_at lw_m6 160 rfl) rfl
theorem q1484 : (Jvm.Cond.methodLink "ShaveOfAnotherModel" (88 : Nat) ({ cls := "ShaveOfAnotherModel", name := "begin", desc := "(I)V" } : Jvm.MethodName)) ∈ lw_all := lw_g (lw_at lw_m6 161 rfl) rfl
theorem q1485 : (Jvm.Cond.privateMethod ({ cls := "ShaveOfAnotherModel", name := "begin", desc := "(I)V" } : Jvm.MethodName)) ∈ lw_tbl := lw_at lw_m6 162 rfl
theorem q1486 : (Jvm.Cond.instanceMethod ({ cls := "ShaveOfAnotherModel", name := "begin", desc := "(I)V" } : Jvm.MethodName)) ∈ lw_all := lw_g (lw_at lw_m6 163 rfl) rfl
theorem q1487 : (Jvm.Cond.code ({ cls := "ShaveOfAnotherModel", name := "begin", desc := "(I)V" } : Jvm.MethodName) prog_19_method_15_code (2 : Nat) (Option.none : Option Jvm.ClassFile.FieldType)) ∈ lw_all := lw_g (lw_at lw_m6 164 rfl) rfl
theorem q1488 : (Jvm.Cond.methodLink "ShaveOfAnotherModel" (92 : Nat) ({ cls := "ShaveOfAnotherModel", name := "get", desc := "(II)I" } : Jvm.MethodName)) ∈ lw_all := lw_g (lw_at lw_m6 165 rfl) rfl
theorem q1489 : (Jvm.Cond.privateMethod ({ cls := "ShaveOfAnotherModel", name := "get", desc := "(II)I" } : Jvm.MethodName)) ∈ lw_tbl := lw_at lw_m6 166 rfl
theorem q1490 : (Jvm.Cond.instanceMethod ({ cls := "ShaveOfAnotherModel", name := "get", desc := "(II)I" } : Jvm.MethodName)) ∈ lw_all := lw_g (lw_at lw_m6 167 rfl) rfl
theorem q1491 : (Jvm.Cond.code ({ cls := "ShaveOfAnotherModel", name := "get", desc := "(II)I" } : Jvm.MethodName) prog_19_method_9_code (3 : Nat) (Option.some Jvm.ClassFile.FieldType.int)) ∈ lw_all := lw_g (lw_at lw_m6 168 rfl) rfl
theorem q1493 : (Jvm.Cond.instanceMethod ({ cls := "ShaveOfAnotherModel", name := "other", desc := "(II)Z" } : Jvm.MethodName)) ∈ lw_all := lw_g (lw_at lw_m6 170 rfl) rfl
theorem q1494 : (Jvm.Cond.selects "ShaveOfAnotherModel" ({ cls := "ShaveOfAnotherModel", name := "other", desc := "(II)Z" } : Jvm.MethodName) ({ cls := "ShaveOfAnotherModel", name := "other", desc := "(II)Z" } : Jvm.MethodName)) ∈ lw_all := lw_g (lw_at lw_m6 171 rfl) rfl
theorem q1495 : (Jvm.Cond.code ({ cls := "ShaveOfAnotherModel", name := "other", desc := "(II)Z" } : Jvm.MethodName) prog_19_method_16_code (3 : Nat) (Option.some Jvm.ClassFile.FieldType.boolean)) ∈ lw_all := lw_g (lw_at lw_m6 172 rfl) rfl
theorem q1496 : (Jvm.Cond.methodLink "ShaveOfAnotherModel" (96 : Nat) ({ cls := "ShaveOfAnotherModel", name := "isChair", desc := "(I)Z" } : Jvm.MethodName)) ∈ lw_all := lw_g (lw_at lw_m6 173 rfl) rfl
theorem q1497 : (Jvm.Cond.static ({ cls := "ShaveOfAnotherModel", name := "isChair", desc := "(I)Z" } : Jvm.MethodName)) ∈ lw_all := lw_g (lw_at lw_m6 174 rfl) rfl
theorem q1498 : (Jvm.Cond.code ({ cls := "ShaveOfAnotherModel", name := "isChair", desc := "(I)Z" } : Jvm.MethodName) prog_19_method_7_code (1 : Nat) (Option.some Jvm.ClassFile.FieldType.boolean)) ∈ lw_all := lw_g (lw_at lw_m6 175 rfl) rfl
theorem q1500 : (Jvm.Cond.instanceMethod ({ cls := "ShaveOfAnotherModel", name := "feed", desc := "(IIIII)I" } : Jvm.MethodName)) ∈ lw_all := lw_g (lw_at lw_m6 177 rfl) rfl
theorem q1501 : (Jvm.Cond.selects "ShaveOfAnotherModel" ({ cls := "ShaveOfAnotherModel", name := "feed", desc := "(IIIII)I" } : Jvm.MethodName) ({ cls := "ShaveOfAnotherModel", name := "feed", desc := "(IIIII)I" } : Jvm.MethodName)) ∈ lw_all := lw_g (lw_at lw_m6 178 rfl) rfl
theorem q1502 : (Jvm.Cond.code ({ cls := "ShaveOfAnotherModel", name := "feed", desc := "(IIIII)I" } : Jvm.MethodName) prog_19_method_18_code (6 : Nat) (Option.some Jvm.ClassFile.FieldType.int)) ∈ lw_all := lw_g (lw_at lw_m6 179 rfl) rfl
theorem q1503 : (Jvm.Cond.methodLink "ShaveOfAnotherModel" (103 : Nat) ({ cls := "ShaveOfAnotherModel", name := "four", desc := "(I)V" } : Jvm.MethodName)) ∈ lw_all := lw_g (lw_at lw_m6 180 rfl) rfl
theorem q1504 : (Jvm.Cond.privateMethod ({ cls := "ShaveOfAnotherModel", name := "four", desc := "(I)V" } : Jvm.MethodName)) ∈ lw_tbl := lw_at lw_m6 181 rfl
theorem q1505 : (Jvm.Cond.instanceMethod ({ cls := "ShaveOfAnotherModel", name := "four", desc := "(I)V" } : Jvm.MethodName)) ∈ lw_all := lw_g (lw_at lw_m6 182 rfl) rfl
theorem q1506 : (Jvm.Cond.code ({ cls := "ShaveOfAnotherModel", name := "four", desc := "(I)V" } : Jvm.MethodName) prog_19_method_17_code (3 : Nat) (Option.none : Option Jvm.ClassFile.FieldType)) ∈ lw_all := lw_g (lw_at lw_m6 183 rfl) rfl
theorem q1508 : (Jvm.Cond.instanceMethod ({ cls := "ShaveOfAnotherModel", name := "end", desc := "(I)I" } : Jvm.MethodName)) ∈ lw_all := lw_g (lw_at lw_m6 185 rfl) rfl
theorem q1509 : (Jvm.Cond.selects "ShaveOfAnotherModel" ({ cls := "ShaveOfAnotherModel", name := "end", desc := "(I)I" } : Jvm.MethodName) ({ cls := "ShaveOfAnotherModel", name := "end", desc := "(I)I" } : Jvm.MethodName)) ∈ lw_all := lw_g (lw_at lw_m6 186 rfl) rfl
theorem q1510 : (Jvm.Cond.code ({ cls := "ShaveOfAnotherModel", name := "end", desc := "(I)I" } : Jvm.MethodName) prog_19_method_19_code (2 : Nat) (Option.some Jvm.ClassFile.FieldType.int)) ∈ lw_all := lw_g (lw_at lw_m6 187 rfl) rfl
theorem q1512 : (Jvm.Cond.instanceMethod ({ cls := "ShaveOfAnotherModel", name := "text", desc := "()I" } : Jvm.MethodName)) ∈ lw_all := lw_g (lw_at lw_m6 189 rfl) rfl
theorem q1513 : (Jvm.Cond.selects "ShaveOfAnotherModel" ({ cls := "ShaveOfAnotherModel", name := "text", desc := "()I" } : Jvm.MethodName) ({ cls := "ShaveOfAnotherModel", name := "text", desc := "()I" } : Jvm.MethodName)) ∈ lw_all := lw_g (lw_at lw_m6 190 rfl) rfl
theorem q1514 : (Jvm.Cond.code ({ cls := "ShaveOfAnotherModel", name := "text", desc := "()I" } : Jvm.MethodName) prog_19_method_56_code (1 : Nat) (Option.some Jvm.ClassFile.FieldType.int)) ∈ lw_all := lw_g (lw_at lw_m6 191 rfl) rfl
theorem q1515 : (Jvm.Cond.methodLink "ShaveOfAnotherModel" (266 : Nat) ({ cls := "ShaveOfAnotherModel", name := "readText", desc := "()I" } : Jvm.MethodName)) ∈ lw_all := lw_g (lw_at lw_m6 192 rfl) rfl
theorem q1516 : (Jvm.Cond.privateMethod ({ cls := "ShaveOfAnotherModel", name := "readText", desc := "()I" } : Jvm.MethodName)) ∈ lw_tbl := lw_at lw_m6 193 rfl
theorem q1517 : (Jvm.Cond.instanceMethod ({ cls := "ShaveOfAnotherModel", name := "readText", desc := "()I" } : Jvm.MethodName)) ∈ lw_all := lw_g (lw_at lw_m6 194 rfl) rfl
theorem q1518 : (Jvm.Cond.code ({ cls := "ShaveOfAnotherModel", name := "readText", desc := "()I" } : Jvm.MethodName) prog_19_method_55_code (2 : Nat) (Option.some Jvm.ClassFile.FieldType.int)) ∈ lw_all := lw_g (lw_at lw_m6 195 rfl) rfl
theorem q1519 : (Jvm.Cond.methodLink "ShaveOfAnotherModel" (186 : Nat) ({ cls := "ShaveOfAnotherModel", name := "nextToken", desc := "()V" } : Jvm.MethodName)) ∈ lw_all := lw_g (lw_at lw_m6 196 rfl) rfl
theorem q1520 : (Jvm.Cond.privateMethod ({ cls := "ShaveOfAnotherModel", name := "nextToken", desc := "()V" } : Jvm.MethodName)) ∈ lw_tbl := lw_at lw_m6 197 rfl
theorem q1521 : (Jvm.Cond.instanceMethod ({ cls := "ShaveOfAnotherModel", name := "nextToken", desc := "()V" } : Jvm.MethodName)) ∈ lw_all := lw_g (lw_at lw_m6 198 rfl) rfl
theorem q1522 : (Jvm.Cond.code ({ cls := "ShaveOfAnotherModel", name := "nextToken", desc := "()V" } : Jvm.MethodName) prog_19_method_24_code (2 : Nat) (Option.none : Option Jvm.ClassFile.FieldType)) ∈ lw_all := lw_g (lw_at lw_m6 199 rfl) rfl
theorem q1523 : (Jvm.Cond.methodLink "ShaveOfAnotherModel" (109 : Nat) ({ cls := "ShaveOfAnotherModel", name := "byteAt", desc := "(I)I" } : Jvm.MethodName)) ∈ lw_all := lw_g (lw_at lw_m6 200 rfl) rfl
theorem q1524 : (Jvm.Cond.privateMethod ({ cls := "ShaveOfAnotherModel", name := "byteAt", desc := "(I)I" } : Jvm.MethodName)) ∈ lw_tbl := lw_at lw_m6 201 rfl
theorem q1525 : (Jvm.Cond.instanceMethod ({ cls := "ShaveOfAnotherModel", name := "byteAt", desc := "(I)I" } : Jvm.MethodName)) ∈ lw_all := lw_g (lw_at lw_m6 202 rfl) rfl
theorem q1526 : (Jvm.Cond.code ({ cls := "ShaveOfAnotherModel", name := "byteAt", desc := "(I)I" } : Jvm.MethodName) prog_19_method_20_code (2 : Nat) (Option.some Jvm.ClassFile.FieldType.int)) ∈ lw_all := lw_g (lw_at lw_m6 203 rfl) rfl
theorem q1527 : (Jvm.Cond.methodLink "ShaveOfAnotherModel" (118 : Nat) ({ cls := "ShaveOfAnotherModel", name := "isFigure", desc := "(I)Z" } : Jvm.MethodName)) ∈ lw_all := lw_g (lw_at lw_m6 204 rfl) rfl
theorem q1528 : (Jvm.Cond.static ({ cls := "ShaveOfAnotherModel", name := "isFigure", desc := "(I)Z" } : Jvm.MethodName)) ∈ lw_all := lw_g (lw_at lw_m6 205 rfl) rfl
theorem q1529 : (Jvm.Cond.code ({ cls := "ShaveOfAnotherModel", name := "isFigure", desc := "(I)Z" } : Jvm.MethodName) prog_19_method_22_code (1 : Nat) (Option.some Jvm.ClassFile.FieldType.boolean)) ∈ lw_all := lw_g (lw_at lw_m6 206 rfl) rfl
theorem q1530 : (Jvm.Cond.constant "ShaveOfAnotherModel" (124 : Nat) (99999 : Int32)) ∈ lw_all := lw_g (lw_at lw_m6 207 rfl) rfl
theorem q1531 : (Jvm.Cond.methodLink "ShaveOfAnotherModel" (125 : Nat) ({ cls := "ShaveOfAnotherModel", name := "isLetterByte", desc := "(I)Z" } : Jvm.MethodName)) ∈ lw_all := lw_g (lw_at lw_m6 208 rfl) rfl
theorem q1532 : (Jvm.Cond.static ({ cls := "ShaveOfAnotherModel", name := "isLetterByte", desc := "(I)Z" } : Jvm.MethodName)) ∈ lw_all := lw_g (lw_at lw_m6 209 rfl) rfl
theorem q1533 : (Jvm.Cond.code ({ cls := "ShaveOfAnotherModel", name := "isLetterByte", desc := "(I)Z" } : Jvm.MethodName) prog_19_method_21_code (1 : Nat) (Option.some Jvm.ClassFile.FieldType.boolean)) ∈ lw_all := lw_g (lw_at lw_m6 210 rfl) rfl
theorem q1534 : (Jvm.Cond.constantLong "ShaveOfAnotherModel" (132 : Nat) (1152921504606846976 : Int64)) ∈ lw_all := lw_g (lw_at lw_m6 211 rfl) rfl
theorem q1535 : (Jvm.Cond.methodLink "ShaveOfAnotherModel" (134 : Nat) ({ cls := "ShaveOfAnotherModel", name := "isSign", desc := "(I)Z" } : Jvm.MethodName)) ∈ lw_all := lw_g (lw_at lw_m6 212 rfl) rfl
theorem q1536 : (Jvm.Cond.static ({ cls := "ShaveOfAnotherModel", name := "isSign", desc := "(I)Z" } : Jvm.MethodName)) ∈ lw_all := lw_g (lw_at lw_m6 213 rfl) rfl
theorem q1537 : (Jvm.Cond.code ({ cls := "ShaveOfAnotherModel", name := "isSign", desc := "(I)Z" } : Jvm.MethodName) prog_19_method_23_code (1 : Nat) (Option.some Jvm.ClassFile.FieldType.boolean)) ∈ lw_all := lw_g (lw_at lw_m6 214 rfl) rfl
theorem q1538 : (Jvm.Cond.methodLink "ShaveOfAnotherModel" (263 : Nat) ({ cls := "ShaveOfAnotherModel", name := "clause", desc := "()I" } : Jvm.MethodName)) ∈ lw_all := lw_g (lw_at lw_m6 215 rfl) rfl
theorem q1539 : (Jvm.Cond.privateMethod ({ cls := "ShaveOfAnotherModel", name := "clause", desc := "()I" } : Jvm.MethodName)) ∈ lw_tbl := lw_at lw_m6 216 rfl
theorem q1540 : (Jvm.Cond.instanceMethod ({ cls := "ShaveOfAnotherModel", name := "clause", desc := "()I" } : Jvm.MethodName)) ∈ lw_all := lw_g (lw_at lw_m6 217 rfl) rfl
theorem q1541 : (Jvm.Cond.code ({ cls := "ShaveOfAnotherModel", name := "clause", desc := "()I" } : Jvm.MethodName) prog_19_method_54_code (5 : Nat) (Option.some Jvm.ClassFile.FieldType.int)) ∈ lw_all := lw_g (lw_at lw_m6 218 rfl) rfl
theorem q1542 : (Jvm.Cond.methodLink "ShaveOfAnotherModel" (250 : Nat) ({ cls := "ShaveOfAnotherModel", name := "sortOf", desc := "()I" } : Jvm.MethodName)) ∈ lw_all := lw_g (lw_at lw_m6 219 rfl) rfl
theorem q1543 : (Jvm.Cond.privateMethod ({ cls := "ShaveOfAnotherModel", name := "sortOf", desc := "()I" } : Jvm.MethodName)) ∈ lw_tbl := lw_at lw_m6 220 rfl
theorem q1544 : (Jvm.Cond.instanceMethod ({ cls := "ShaveOfAnotherModel", name := "sortOf", desc := "()I" } : Jvm.MethodName)) ∈ lw_all := lw_g (lw_at lw_m6 221 rfl) rfl
theorem q1545 : (Jvm.Cond.code ({ cls := "ShaveOfAnotherModel", name := "sortOf", desc := "()I" } : Jvm.MethodName) prog_19_method_53_code (1 : Nat) (Option.some Jvm.ClassFile.FieldType.int)) ∈ lw_all := lw_g (lw_at lw_m6 222 rfl) rfl
theorem q1546 : (Jvm.Cond.methodLink "ShaveOfAnotherModel" (149 : Nat) ({ cls := "ShaveOfAnotherModel", name := "w5", desc := "(IIIII)J" } : Jvm.MethodName)) ∈ lw_all := lw_g (lw_at lw_m6 223 rfl) rfl
theorem q1547 : (Jvm.Cond.static ({ cls := "ShaveOfAnotherModel", name := "w5", desc := "(IIIII)J" } : Jvm.MethodName)) ∈ lw_all := lw_g (lw_at lw_m6 224 rfl) rfl
theorem q1548 : (Jvm.Cond.code ({ cls := "ShaveOfAnotherModel", name := "w5", desc := "(IIIII)J" } : Jvm.MethodName) prog_19_method_28_code (5 : Nat) (Option.some Jvm.ClassFile.FieldType.long)) ∈ lw_all := lw_g (lw_at lw_m6 225 rfl) rfl
theorem q1549 : (Jvm.Cond.methodLink "ShaveOfAnotherModel" (145 : Nat) ({ cls := "ShaveOfAnotherModel", name := "w4", desc := "(IIII)J" } : Jvm.MethodName)) ∈ lw_all := lw_g (lw_at lw_m6 226 rfl) rfl
theorem q1550 : (Jvm.Cond.static ({ cls := "ShaveOfAnotherModel", name := "w4", desc := "(IIII)J" } : Jvm.MethodName)) ∈ lw_all := lw_g (lw_at lw_m6 227 rfl) rfl
theorem q1551 : (Jvm.Cond.code ({ cls := "ShaveOfAnotherModel", name := "w4", desc := "(IIII)J" } : Jvm.MethodName) prog_19_method_27_code (4 : Nat) (Option.some Jvm.ClassFile.FieldType.long)) ∈ lw_all := lw_g (lw_at lw_m6 228 rfl) rfl
theorem q1552 : (Jvm.Cond.methodLink "ShaveOfAnotherModel" (141 : Nat) ({ cls := "ShaveOfAnotherModel", name := "w3", desc := "(III)J" } : Jvm.MethodName)) ∈ lw_all := lw_g (lw_at lw_m6 229 rfl) rfl
theorem q1553 : (Jvm.Cond.static ({ cls := "ShaveOfAnotherModel", name := "w3", desc := "(III)J" } : Jvm.MethodName)) ∈ lw_all := lw_g (lw_at lw_m6 230 rfl) rfl
theorem q1554 : (Jvm.Cond.code ({ cls := "ShaveOfAnotherModel", name := "w3", desc := "(III)J" } : Jvm.MethodName) prog_19_method_26_code (3 : Nat) (Option.some Jvm.ClassFile.FieldType.long)) ∈ lw_all := lw_g (lw_at lw_m6 231 rfl) rfl
theorem q1555 : (Jvm.Cond.methodLink "ShaveOfAnotherModel" (137 : Nat) ({ cls := "ShaveOfAnotherModel", name := "w2", desc := "(II)J" } : Jvm.MethodName)) ∈ lw_all := lw_g (lw_at lw_m6 232 rfl) rfl
theorem q1556 : (Jvm.Cond.static ({ cls := "ShaveOfAnotherModel", name := "w2", desc := "(II)J" } : Jvm.MethodName)) ∈ lw_all := lw_g (lw_at lw_m6 233 rfl) rfl
theorem q1557 : (Jvm.Cond.code ({ cls := "ShaveOfAnotherModel", name := "w2", desc := "(II)J" } : Jvm.MethodName) prog_19_method_25_code (2 : Nat) (Option.some Jvm.ClassFile.FieldType.long)) ∈ lw_all := lw_g (lw_at lw_m6 234 rfl) rfl
theorem q1558 : (Jvm.Cond.methodLink "ShaveOfAnotherModel" (201 : Nat) ({ cls := "ShaveOfAnotherModel", name := "isWord", desc := "(J)Z" } : Jvm.MethodName)) ∈ lw_all := lw_g (lw_at lw_m6 235 rfl) rfl
theorem q1559 : (Jvm.Cond.privateMethod ({ cls := "ShaveOfAnotherModel", name := "isWord", desc := "(J)Z" } : Jvm.MethodName)) ∈ lw_tbl := lw_at lw_m6 236 rfl
theorem q1560 : (Jvm.Cond.instanceMethod ({ cls := "ShaveOfAnotherModel", name := "isWord", desc := "(J)Z" } : Jvm.MethodName)) ∈ lw_all := lw_g (lw_at lw_m6 237 rfl) rfl
theorem q1561 : (Jvm.Cond.code ({ cls := "ShaveOfAnotherModel", name := "isWord", desc := "(J)Z" } : Jvm.MethodName) prog_19_method_30_code (3 : Nat) (Option.some Jvm.ClassFile.FieldType.boolean)) ∈ lw_all := lw_g (lw_at lw_m6 238 rfl) rfl
theorem q1562 : (Jvm.Cond.methodLink "ShaveOfAnotherModel" (246 : Nat) ({ cls := "ShaveOfAnotherModel", name := "w6", desc := "(IIIIII)J" } : Jvm.MethodName)) ∈ lw_all := lw_g (lw_at lw_m6 239 rfl) rfl
theorem q1563 : (Jvm.Cond.static ({ cls := "ShaveOfAnotherModel", name := "w6", desc := "(IIIIII)J" } : Jvm.MethodName)) ∈ lw_all := lw_g (lw_at lw_m7 0 rfl) rfl
theorem q1564 : (Jvm.Cond.code ({ cls := "ShaveOfAnotherModel", name := "w6", desc := "(IIIIII)J" } : Jvm.MethodName) prog_19_method_29_code (6 : Nat) (Option.some Jvm.ClassFile.FieldType.long)) ∈ lw_all := lw_g (lw_at lw_m7 1 rfl) rfl
theorem q1565 : (Jvm.Cond.methodLink "ShaveOfAnotherModel" (256 : Nat) ({ cls := "ShaveOfAnotherModel", name := "has", desc := "(II)Z" } : Jvm.MethodName)) ∈ lw_all := lw_g (lw_at lw_m7 2 rfl) rfl
theorem q1566 : (Jvm.Cond.static ({ cls := "ShaveOfAnotherModel", name := "has", desc := "(II)Z" } : Jvm.MethodName)) ∈ lw_all := lw_g (lw_at lw_m7 3 rfl) rfl
theorem q1567 : (Jvm.Cond.code ({ cls := "ShaveOfAnotherModel", name := "has", desc := "(II)Z" } : Jvm.MethodName) prog_19_method_5_code (2 : Nat) (Option.some Jvm.ClassFile.FieldType.boolean)) ∈ lw_all := lw_g (lw_at lw_m7 4 rfl) rfl
theorem q1568 : (Jvm.Cond.methodLink "ShaveOfAnotherModel" (260 : Nat) ({ cls := "ShaveOfAnotherModel", name := "body", desc := "(II)I" } : Jvm.MethodName)) ∈ lw_all := lw_g (lw_at lw_m7 5 rfl) rfl
theorem q1569 : (Jvm.Cond.privateMethod ({ cls := "ShaveOfAnotherModel", name := "body", desc := "(II)I" } : Jvm.MethodName)) ∈ lw_tbl := lw_at lw_m7 6 rfl
theorem q1570 : (Jvm.Cond.instanceMethod ({ cls := "ShaveOfAnotherModel", name := "body", desc := "(II)I" } : Jvm.MethodName)) ∈ lw_all := lw_g (lw_at lw_m7 7 rfl) rfl
theorem q1571 : (Jvm.Cond.code ({ cls := "ShaveOfAnotherModel", name := "body", desc := "(II)I" } : Jvm.MethodName) prog_19_method_52_code (3 : Nat) (Option.some Jvm.ClassFile.FieldType.int)) ∈ lw_all := lw_g (lw_at lw_m7 8 rfl) rfl
theorem q1572 : (Jvm.Cond.methodLink "ShaveOfAnotherModel" (239 : Nat) ({ cls := "ShaveOfAnotherModel", name := "pair", desc := "(IIJI)I" } : Jvm.MethodName)) ∈ lw_all := lw_g (lw_at lw_m7 9 rfl) rfl
theorem q1573 : (Jvm.Cond.privateMethod ({ cls := "ShaveOfAnotherModel", name := "pair", desc := "(IIJI)I" } : Jvm.MethodName)) ∈ lw_tbl := lw_at lw_m7 10 rfl
theorem q1574 : (Jvm.Cond.instanceMethod ({ cls := "ShaveOfAnotherModel", name := "pair", desc := "(IIJI)I" } : Jvm.MethodName)) ∈ lw_all := lw_g (lw_at lw_m7 11 rfl) rfl
theorem q1575 : (Jvm.Cond.code ({ cls := "ShaveOfAnotherModel", name := "pair", desc := "(IIJI)I" } : Jvm.MethodName) prog_19_method_50_code (7 : Nat) (Option.some Jvm.ClassFile.FieldType.int)) ∈ lw_all := lw_g (lw_at lw_m7 12 rfl) rfl
theorem q1576 : (Jvm.Cond.methodLink "ShaveOfAnotherModel" (232 : Nat) ({ cls := "ShaveOfAnotherModel", name := "figure", desc := "(III)I" } : Jvm.MethodName)) ∈ lw_all := lw_g (lw_at lw_m7 13 rfl) rfl
theorem q1577 : (Jvm.Cond.privateMethod ({ cls := "ShaveOfAnotherModel", name := "figure", desc := "(III)I" } : Jvm.MethodName)) ∈ lw_tbl := lw_at lw_m7 14 rfl
theorem q1578 : (Jvm.Cond.instanceMethod ({ cls := "ShaveOfAnotherModel", name := "figure", desc := "(III)I" } : Jvm.MethodName)) ∈ lw_all := lw_g (lw_at lw_m7 15 rfl) rfl
theorem q1579 : (Jvm.Cond.code ({ cls := "ShaveOfAnotherModel", name := "figure", desc := "(III)I" } : Jvm.MethodName) prog_19_method_49_code (4 : Nat) (Option.some Jvm.ClassFile.FieldType.int)) ∈ lw_all := lw_g (lw_at lw_m7 16 rfl) rfl
theorem q1580 : (Jvm.Cond.methodLink "ShaveOfAnotherModel" (243 : Nat) ({ cls := "ShaveOfAnotherModel", name := "lawClause", desc := "(I)I" } : Jvm.MethodName)) ∈ lw_all := lw_g (lw_at lw_m7 17 rfl) rfl
theorem q1581 : (Jvm.Cond.privateMethod ({ cls := "ShaveOfAnotherModel", name := "lawClause", desc := "(I)I" } : Jvm.MethodName)) ∈ lw_tbl := lw_at lw_m7 18 rfl
theorem q1582 : (Jvm.Cond.instanceMethod ({ cls := "ShaveOfAnotherModel", name := "lawClause", desc := "(I)I" } : Jvm.MethodName)) ∈ lw_all := lw_g (lw_at lw_m7 19 rfl) rfl
theorem q1583 : (Jvm.Cond.code ({ cls := "ShaveOfAnotherModel", name := "lawClause", desc := "(I)I" } : Jvm.MethodName) prog_19_method_51_code (3 : Nat) (Option.some Jvm.ClassFile.FieldType.int)) ∈ lw_all := lw_g (lw_at lw_m7 20 rfl) rfl
theorem q1584 : (Jvm.Cond.methodLink "ShaveOfAnotherModel" (236 : Nat) ({ cls := "ShaveOfAnotherModel", name := "summed", desc := "()I" } : Jvm.MethodName)) ∈ lw_all := lw_g (lw_at lw_m7 21 rfl) rfl
theorem q1585 : (Jvm.Cond.privateMethod ({ cls := "ShaveOfAnotherModel", name := "summed", desc := "()I" } : Jvm.MethodName)) ∈ lw_tbl := lw_at lw_m7 22 rfl
theorem q1586 : (Jvm.Cond.instanceMethod ({ cls := "ShaveOfAnotherModel", name := "summed", desc := "()I" } : Jvm.MethodName)) ∈ lw_all := lw_g (lw_at lw_m7 23 rfl) rfl
theorem q1587 : (Jvm.Cond.code ({ cls := "ShaveOfAnotherModel", name := "summed", desc := "()I" } : Jvm.MethodName) prog_19_method_48_code (2 : Nat) (Option.some Jvm.ClassFile.FieldType.int)) ∈ lw_all := lw_g (lw_at lw_m7 24 rfl) rfl
theorem q1588 : (Jvm.Cond.methodLink "ShaveOfAnotherModel" (226 : Nat) ({ cls := "ShaveOfAnotherModel", name := "behindOne", desc := "()I" } : Jvm.MethodName)) ∈ lw_all := lw_g (lw_at lw_m7 25 rfl) rfl
theorem q1589 : (Jvm.Cond.privateMethod ({ cls := "ShaveOfAnotherModel", name := "behindOne", desc := "()I" } : Jvm.MethodName)) ∈ lw_tbl := lw_at lw_m7 26 rfl
theorem q1590 : (Jvm.Cond.instanceMethod ({ cls := "ShaveOfAnotherModel", name := "behindOne", desc := "()I" } : Jvm.MethodName)) ∈ lw_all := lw_g (lw_at lw_m7 27 rfl) rfl
theorem q1591 : (Jvm.Cond.code ({ cls := "ShaveOfAnotherModel", name := "behindOne", desc := "()I" } : Jvm.MethodName) prog_19_method_47_code (4 : Nat) (Option.some Jvm.ClassFile.FieldType.int)) ∈ lw_all := lw_g (lw_at lw_m7 28 rfl) rfl
theorem q1592 : (Jvm.Cond.methodLink "ShaveOfAnotherModel" (220 : Nat) ({ cls := "ShaveOfAnotherModel", name := "betweenOf", desc := "()I" } : Jvm.MethodName)) ∈ lw_all := lw_g (lw_at lw_m7 29 rfl) rfl
theorem q1593 : (Jvm.Cond.privateMethod ({ cls := "ShaveOfAnotherModel", name := "betweenOf", desc := "()I" } : Jvm.MethodName)) ∈ lw_tbl := lw_at lw_m7 30 rfl
theorem q1594 : (Jvm.Cond.instanceMethod ({ cls := "ShaveOfAnotherModel", name := "betweenOf", desc := "()I" } : Jvm.MethodName)) ∈ lw_all := lw_g (lw_at lw_m7 31 rfl) rfl
theorem q1595 : (Jvm.Cond.code ({ cls := "ShaveOfAnotherModel", name := "betweenOf", desc := "()I" } : Jvm.MethodName) prog_19_method_45_code (1 : Nat) (Option.some Jvm.ClassFile.FieldType.int)) ∈ lw_all := lw_g (lw_at lw_m7 32 rfl) rfl
theorem q1596 : (Jvm.Cond.methodLink "ShaveOfAnotherModel" (183 : Nat) ({ cls := "ShaveOfAnotherModel", name := "openNow", desc := "()I" } : Jvm.MethodName)) ∈ lw_all := lw_g (lw_at lw_m7 33 rfl) rfl
theorem q1597 : (Jvm.Cond.privateMethod ({ cls := "ShaveOfAnotherModel", name := "openNow", desc := "()I" } : Jvm.MethodName)) ∈ lw_tbl := lw_at lw_m7 34 rfl
theorem q1598 : (Jvm.Cond.instanceMethod ({ cls := "ShaveOfAnotherModel", name := "openNow", desc := "()I" } : Jvm.MethodName)) ∈ lw_all := lw_g (lw_at lw_m7 35 rfl) rfl
theorem q1599 : (Jvm.Cond.code ({ cls := "ShaveOfAnotherModel", name := "openNow", desc := "()I" } : Jvm.MethodName) prog_19_method_38_code (1 : Nat) (Option.some Jvm.ClassFile.FieldType.int)) ∈ lw_all := lw_g (lw_at lw_m7 36 rfl) rfl
theorem q1600 : (Jvm.Cond.methodLink "ShaveOfAnotherModel" (179 : Nat) ({ cls := "ShaveOfAnotherModel", name := "openAt", desc := "()I" } : Jvm.MethodName)) ∈ lw_all := lw_g (lw_at lw_m7 37 rfl) rfl
theorem q1601 : (Jvm.Cond.privateMethod ({ cls := "ShaveOfAnotherModel", name := "openAt", desc := "()I" } : Jvm.MethodName)) ∈ lw_tbl := lw_at lw_m7 38 rfl
theorem q1602 : (Jvm.Cond.instanceMethod ({ cls := "ShaveOfAnotherModel", name := "openAt", desc := "()I" } : Jvm.MethodName)) ∈ lw_all := lw_g (lw_at lw_m7 39 rfl) rfl
theorem q1603 : (Jvm.Cond.code ({ cls := "ShaveOfAnotherModel", name := "openAt", desc := "()I" } : Jvm.MethodName) prog_19_method_37_code (2 : Nat) (Option.some Jvm.ClassFile.FieldType.int)) ∈ lw_all := lw_g (lw_at lw_m7 40 rfl) rfl
theorem q1604 : (Jvm.Cond.methodLink "ShaveOfAnotherModel" (214 : Nat) ({ cls := "ShaveOfAnotherModel", name := "isCompared", desc := "()Z" } : Jvm.MethodName)) ∈ lw_all := lw_g (lw_at lw_m7 41 rfl) rfl
theorem q1605 : (Jvm.Cond.privateMethod ({ cls := "ShaveOfAnotherModel", name := "isCompared", desc := "()Z" } : Jvm.MethodName)) ∈ lw_tbl := lw_at lw_m7 42 rfl
theorem q1606 : (Jvm.Cond.instanceMethod ({ cls := "ShaveOfAnotherModel", name := "isCompared", desc := "()Z" } : Jvm.MethodName)) ∈ lw_all := lw_g (lw_at lw_m7 43 rfl) rfl
theorem q1607 : (Jvm.Cond.code ({ cls := "ShaveOfAnotherModel", name := "isCompared", desc := "()Z" } : Jvm.MethodName) prog_19_method_39_code (2 : Nat) (Option.some Jvm.ClassFile.FieldType.boolean)) ∈ lw_all := lw_g (lw_at lw_m7 44 rfl) rfl
theorem q1608 : (Jvm.Cond.methodLink "ShaveOfAnotherModel" (169 : Nat) ({ cls := "ShaveOfAnotherModel", name := "rank", desc := "(I)I" } : Jvm.MethodName)) ∈ lw_all := lw_g (lw_at lw_m7 45 rfl) rfl
theorem q1609 : (Jvm.Cond.static ({ cls := "ShaveOfAnotherModel", name := "rank", desc := "(I)I" } : Jvm.MethodName)) ∈ lw_all := lw_g (lw_at lw_m7 46 rfl) rfl
theorem q1610 : (Jvm.Cond.code ({ cls := "ShaveOfAnotherModel", name := "rank", desc := "(I)I" } : Jvm.MethodName) prog_19_method_35_code (1 : Nat) (Option.some Jvm.ClassFile.FieldType.int)) ∈ lw_all := lw_g (lw_at lw_m7 47 rfl) rfl
theorem q1611 : (Jvm.Cond.methodLink "ShaveOfAnotherModel" (217 : Nat) ({ cls := "ShaveOfAnotherModel", name := "compareOf", desc := "()I" } : Jvm.MethodName)) ∈ lw_all := lw_g (lw_at lw_m7 48 rfl) rfl
theorem q1612 : (Jvm.Cond.privateMethod ({ cls := "ShaveOfAnotherModel", name := "compareOf", desc := "()I" } : Jvm.MethodName)) ∈ lw_tbl := lw_at lw_m7 49 rfl
theorem q1613 : (Jvm.Cond.instanceMethod ({ cls := "ShaveOfAnotherModel", name := "compareOf", desc := "()I" } : Jvm.MethodName)) ∈ lw_all := lw_g (lw_at lw_m7 50 rfl) rfl
theorem q1614 : (Jvm.Cond.code ({ cls := "ShaveOfAnotherModel", name := "compareOf", desc := "()I" } : Jvm.MethodName) prog_19_method_44_code (1 : Nat) (Option.some Jvm.ClassFile.FieldType.int)) ∈ lw_all := lw_g (lw_at lw_m7 51 rfl) rfl
theorem q1615 : (Jvm.Cond.methodLink "ShaveOfAnotherModel" (208 : Nat) ({ cls := "ShaveOfAnotherModel", name := "settle", desc := "(I)V" } : Jvm.MethodName)) ∈ lw_all := lw_g (lw_at lw_m7 52 rfl) rfl
theorem q1616 : (Jvm.Cond.privateMethod ({ cls := "ShaveOfAnotherModel", name := "settle", desc := "(I)V" } : Jvm.MethodName)) ∈ lw_tbl := lw_at lw_m7 53 rfl
theorem q1617 : (Jvm.Cond.instanceMethod ({ cls := "ShaveOfAnotherModel", name := "settle", desc := "(I)V" } : Jvm.MethodName)) ∈ lw_all := lw_g (lw_at lw_m7 54 rfl) rfl
theorem q1618 : (Jvm.Cond.code ({ cls := "ShaveOfAnotherModel", name := "settle", desc := "(I)V" } : Jvm.MethodName) prog_19_method_36_code (2 : Nat) (Option.none : Option Jvm.ClassFile.FieldType)) ∈ lw_all := lw_g (lw_at lw_m7 55 rfl) rfl
theorem q1619 : (Jvm.Cond.methodLink "ShaveOfAnotherModel" (172 : Nat) ({ cls := "ShaveOfAnotherModel", name := "emit", desc := "(II)V" } : Jvm.MethodName)) ∈ lw_all := lw_g (lw_at lw_m7 56 rfl) rfl
theorem q1620 : (Jvm.Cond.privateMethod ({ cls := "ShaveOfAnotherModel", name := "emit", desc := "(II)V" } : Jvm.MethodName)) ∈ lw_tbl := lw_at lw_m7 57 rfl
theorem q1621 : (Jvm.Cond.instanceMethod ({ cls := "ShaveOfAnotherModel", name := "emit", desc := "(II)V" } : Jvm.MethodName)) ∈ lw_all := lw_g (lw_at lw_m7 58 rfl) rfl
theorem q1622 : (Jvm.Cond.code ({ cls := "ShaveOfAnotherModel", name := "emit", desc := "(II)V" } : Jvm.MethodName) prog_19_method_31_code (3 : Nat) (Option.none : Option Jvm.ClassFile.FieldType)) ∈ lw_all := lw_g (lw_at lw_m7 59 rfl) rfl
theorem q1623 : (Jvm.Cond.methodLink "ShaveOfAnotherModel" (223 : Nat) ({ cls := "ShaveOfAnotherModel", name := "partOf", desc := "(I)I" } : Jvm.MethodName)) ∈ lw_all := lw_g (lw_at lw_m7 60 rfl) rfl
theorem q1624 : (Jvm.Cond.privateMethod ({ cls := "ShaveOfAnotherModel", name := "partOf", desc := "(I)I" } : Jvm.MethodName)) ∈ lw_tbl := lw_at lw_m7 61 rfl
theorem q1625 : (Jvm.Cond.instanceMethod ({ cls := "ShaveOfAnotherModel", name := "partOf", desc := "(I)I" } : Jvm.MethodName)) ∈ lw_all := lw_g (lw_at lw_m7 62 rfl) rfl
theorem q1626 : (Jvm.Cond.code ({ cls := "ShaveOfAnotherModel", name := "partOf", desc := "(I)I" } : Jvm.MethodName) prog_19_method_46_code (2 : Nat) (Option.some Jvm.ClassFile.FieldType.int)) ∈ lw_all := lw_g (lw_at lw_m7 63 rfl) rfl
theorem q1627 : (Jvm.Cond.methodLink "ShaveOfAnotherModel" (195 : Nat) ({ cls := "ShaveOfAnotherModel", name := "endOne", desc := "()I" } : Jvm.MethodName)) ∈ lw_all := lw_g (lw_at lw_m7 64 rfl) rfl
theorem q1628 : (Jvm.Cond.privateMethod ({ cls := "ShaveOfAnotherModel", name := "endOne", desc := "()I" } : Jvm.MethodName)) ∈ lw_tbl := lw_at lw_m7 65 rfl
theorem q1629 : (Jvm.Cond.instanceMethod ({ cls := "ShaveOfAnotherModel", name := "endOne", desc := "()I" } : Jvm.MethodName)) ∈ lw_all := lw_g (lw_at lw_m7 66 rfl) rfl
theorem q1630 : (Jvm.Cond.code ({ cls := "ShaveOfAnotherModel", name := "endOne", desc := "()I" } : Jvm.MethodName) prog_19_method_43_code (1 : Nat) (Option.some Jvm.ClassFile.FieldType.int)) ∈ lw_all := lw_g (lw_at lw_m7 67 rfl) rfl
theorem q1631 : (Jvm.Cond.methodLink "ShaveOfAnotherModel" (229 : Nat) ({ cls := "ShaveOfAnotherModel", name := "beginOne", desc := "()I" } : Jvm.MethodName)) ∈ lw_all := lw_g (lw_at lw_m7 68 rfl) rfl
theorem q1632 : (Jvm.Cond.privateMethod ({ cls := "ShaveOfAnotherModel", name := "beginOne", desc := "()I" } : Jvm.MethodName)) ∈ lw_tbl := lw_at lw_m7 69 rfl
theorem q1633 : (Jvm.Cond.instanceMethod ({ cls := "ShaveOfAnotherModel", name := "beginOne", desc := "()I" } : Jvm.MethodName)) ∈ lw_all := lw_g (lw_at lw_m7 70 rfl) rfl
theorem q1634 : (Jvm.Cond.code ({ cls := "ShaveOfAnotherModel", name := "beginOne", desc := "()I" } : Jvm.MethodName) prog_19_method_42_code (2 : Nat) (Option.some Jvm.ClassFile.FieldType.int)) ∈ lw_all := lw_g (lw_at lw_m7 71 rfl) rfl
theorem q1635 : (Jvm.Cond.methodLink "ShaveOfAnotherModel" (189 : Nat) ({ cls := "ShaveOfAnotherModel", name := "nameOf", desc := "()I" } : Jvm.MethodName)) ∈ lw_all := lw_g (lw_at lw_m7 72 rfl) rfl
theorem q1636 : (Jvm.Cond.privateMethod ({ cls := "ShaveOfAnotherModel", name := "nameOf", desc := "()I" } : Jvm.MethodName)) ∈ lw_tbl := lw_at lw_m7 73 rfl
theorem q1637 : (Jvm.Cond.instanceMethod ({ cls := "ShaveOfAnotherModel", name := "nameOf", desc := "()I" } : Jvm.MethodName)) ∈ lw_all := lw_g (lw_at lw_m7 74 rfl) rfl
theorem q1638 : (Jvm.Cond.code ({ cls := "ShaveOfAnotherModel", name := "nameOf", desc := "()I" } : Jvm.MethodName) prog_19_method_33_code (1 : Nat) (Option.some Jvm.ClassFile.FieldType.int)) ∈ lw_all := lw_g (lw_at lw_m7 75 rfl) rfl
theorem q1639 : (Jvm.Cond.methodLink "ShaveOfAnotherModel" (159 : Nat) ({ cls := "ShaveOfAnotherModel", name := "isTakings", desc := "()Z" } : Jvm.MethodName)) ∈ lw_all := lw_g (lw_at lw_m7 76 rfl) rfl
theorem q1640 : (Jvm.Cond.privateMethod ({ cls := "ShaveOfAnotherModel", name := "isTakings", desc := "()Z" } : Jvm.MethodName)) ∈ lw_tbl := lw_at lw_m7 77 rfl
theorem q1641 : (Jvm.Cond.instanceMethod ({ cls := "ShaveOfAnotherModel", name := "isTakings", desc := "()Z" } : Jvm.MethodName)) ∈ lw_all := lw_g (lw_at lw_m7 78 rfl) rfl
theorem q1642 : (Jvm.Cond.code ({ cls := "ShaveOfAnotherModel", name := "isTakings", desc := "()Z" } : Jvm.MethodName) prog_19_method_32_code (1 : Nat) (Option.some Jvm.ClassFile.FieldType.boolean)) ∈ lw_all := lw_g (lw_at lw_m7 79 rfl) rfl
theorem q1643 : (Jvm.Cond.methodLink "ShaveOfAnotherModel" (192 : Nat) ({ cls := "ShaveOfAnotherModel", name := "isOf", desc := "(I)Z" } : Jvm.MethodName)) ∈ lw_all := lw_g (lw_at lw_m7 80 rfl) rfl
theorem q1644 : (Jvm.Cond.privateMethod ({ cls := "ShaveOfAnotherModel", name := "isOf", desc := "(I)Z" } : Jvm.MethodName)) ∈ lw_tbl := lw_at lw_m7 81 rfl
theorem q1645 : (Jvm.Cond.instanceMethod ({ cls := "ShaveOfAnotherModel", name := "isOf", desc := "(I)Z" } : Jvm.MethodName)) ∈ lw_all := lw_g (lw_at lw_m7 82 rfl) rfl
theorem q1646 : (Jvm.Cond.code ({ cls := "ShaveOfAnotherModel", name := "isOf", desc := "(I)Z" } : Jvm.MethodName) prog_19_method_34_code (2 : Nat) (Option.some Jvm.ClassFile.FieldType.boolean)) ∈ lw_all := lw_g (lw_at lw_m7 83 rfl) rfl
theorem q1647 : (Jvm.Cond.methodLink "ShaveOfAnotherModel" (198 : Nat) ({ cls := "ShaveOfAnotherModel", name := "opened", desc := "(I)I" } : Jvm.MethodName)) ∈ lw_all := lw_g (lw_at lw_m7 84 rfl) rfl
theorem q1648 : (Jvm.Cond.privateMethod ({ cls := "ShaveOfAnotherModel", name := "opened", desc := "(I)I" } : Jvm.MethodName)) ∈ lw_tbl := lw_at lw_m7 85 rfl
theorem q1649 : (Jvm.Cond.instanceMethod ({ cls := "ShaveOfAnotherModel", name := "opened", desc := "(I)I" } : Jvm.MethodName)) ∈ lw_all := lw_g (lw_at lw_m7 86 rfl) rfl
theorem q1650 : (Jvm.Cond.code ({ cls := "ShaveOfAnotherModel", name := "opened", desc := "(I)I" } : Jvm.MethodName) prog_19_method_41_code (2 : Nat) (Option.some Jvm.ClassFile.FieldType.int)) ∈ lw_all := lw_g (lw_at lw_m7 87 rfl) rfl
theorem q1651 : (Jvm.Cond.methodLink "ShaveOfAnotherModel" (205 : Nat) ({ cls := "ShaveOfAnotherModel", name := "isAskAhead", desc := "()Z" } : Jvm.MethodName)) ∈ lw_all := lw_g (lw_at lw_m7 88 rfl) rfl
theorem q1652 : (Jvm.Cond.privateMethod ({ cls := "ShaveOfAnotherModel", name := "isAskAhead", desc := "()Z" } : Jvm.MethodName)) ∈ lw_tbl := lw_at lw_m7 89 rfl
theorem q1653 : (Jvm.Cond.instanceMethod ({ cls := "ShaveOfAnotherModel", name := "isAskAhead", desc := "()Z" } : Jvm.MethodName)) ∈ lw_all := lw_g (lw_at lw_m7 90 rfl) rfl
theorem q1654 : (Jvm.Cond.code ({ cls := "ShaveOfAnotherModel", name := "isAskAhead", desc := "()Z" } : Jvm.MethodName) prog_19_method_40_code (1 : Nat) (Option.some Jvm.ClassFile.FieldType.boolean)) ∈ lw_all := lw_g (lw_at lw_m7 91 rfl) rfl
theorem q1656 : (Jvm.Cond.instanceMethod ({ cls := "ShaveOfAnotherModel", name := "fault", desc := "(I)I" } : Jvm.MethodName)) ∈ lw_all := lw_g (lw_at lw_m7 93 rfl) rfl
theorem q1657 : (Jvm.Cond.selects "ShaveOfAnotherModel" ({ cls := "ShaveOfAnotherModel", name := "fault", desc := "(I)I" } : Jvm.MethodName) ({ cls := "ShaveOfAnotherModel", name := "fault", desc := "(I)I" } : Jvm.MethodName)) ∈ lw_all := lw_g (lw_at lw_m7 94 rfl) rfl
theorem q1658 : (Jvm.Cond.code ({ cls := "ShaveOfAnotherModel", name := "fault", desc := "(I)I" } : Jvm.MethodName) prog_19_method_57_code (2 : Nat) (Option.some Jvm.ClassFile.FieldType.int)) ∈ lw_all := lw_g (lw_at lw_m7 95 rfl) rfl
theorem q1660 : (Jvm.Cond.instanceMethod ({ cls := "ShaveOfAnotherModel", name := "by", desc := "(I)Z" } : Jvm.MethodName)) ∈ lw_all := lw_g (lw_at lw_m7 97 rfl) rfl
theorem q1661 : (Jvm.Cond.selects "ShaveOfAnotherModel" ({ cls := "ShaveOfAnotherModel", name := "by", desc := "(I)Z" } : Jvm.MethodName) ({ cls := "ShaveOfAnotherModel", name := "by", desc := "(I)Z" } : Jvm.MethodName)) ∈ lw_all := lw_g (lw_at lw_m7 98 rfl) rfl
theorem q1662 : (Jvm.Cond.code ({ cls := "ShaveOfAnotherModel", name := "by", desc := "(I)Z" } : Jvm.MethodName) prog_19_method_58_code (2 : Nat) (Option.some Jvm.ClassFile.FieldType.boolean)) ∈ lw_all := lw_g (lw_at lw_m7 99 rfl) rfl
theorem q1664 : (Jvm.Cond.instanceMethod ({ cls := "ShaveOfAnotherModel", name := "undo", desc := "()I" } : Jvm.MethodName)) ∈ lw_all := lw_g (lw_at lw_m7 101 rfl) rfl
theorem q1665 : (Jvm.Cond.selects "ShaveOfAnotherModel" ({ cls := "ShaveOfAnotherModel", name := "undo", desc := "()I" } : Jvm.MethodName) ({ cls := "ShaveOfAnotherModel", name := "undo", desc := "()I" } : Jvm.MethodName)) ∈ lw_all := lw_g (lw_at lw_m7 102 rfl) rfl
theorem q1666 : (Jvm.Cond.code ({ cls := "ShaveOfAnotherModel", name := "undo", desc := "()I" } : Jvm.MethodName) prog_19_method_76_code (4 : Nat) (Option.some Jvm.ClassFile.FieldType.int)) ∈ lw_all := lw_g (lw_at lw_m7 103 rfl) rfl
theorem q1668 : (Jvm.Cond.instanceMethod ({ cls := "ShaveOfAnotherModel", name := "shave", desc := "(I)I" } : Jvm.MethodName)) ∈ lw_all := lw_g (lw_at lw_m7 105 rfl) rfl
theorem q1669 : (Jvm.Cond.selects "ShaveOfAnotherModel" ({ cls := "ShaveOfAnotherModel", name := "shave", desc := "(I)I" } : Jvm.MethodName) ({ cls := "ShaveOfAnotherModel", name := "shave", desc := "(I)I" } : Jvm.MethodName)) ∈ lw_all := lw_g (lw_at lw_m7 106 rfl) rfl
theorem q1670 : (Jvm.Cond.code ({ cls := "ShaveOfAnotherModel", name := "shave", desc := "(I)I" } : Jvm.MethodName) prog_19_method_77_code (2 : Nat) (Option.some Jvm.ClassFile.FieldType.int)) ∈ lw_all := lw_g (lw_at lw_m7 107 rfl) rfl
theorem q1671 : (Jvm.Cond.methodLink "ShaveOfAnotherModel" (313 : Nat) ({ cls := "ShaveOfAnotherModel", name := "isPerson", desc := "(I)Z" } : Jvm.MethodName)) ∈ lw_all := lw_g (lw_at lw_m7 108 rfl) rfl
theorem q1672 : (Jvm.Cond.privateMethod ({ cls := "ShaveOfAnotherModel", name := "isPerson", desc := "(I)Z" } : Jvm.MethodName)) ∈ lw_tbl := lw_at lw_m7 109 rfl
theorem q1673 : (Jvm.Cond.instanceMethod ({ cls := "ShaveOfAnotherModel", name := "isPerson", desc := "(I)Z" } : Jvm.MethodName)) ∈ lw_all := lw_g (lw_at lw_m7 110 rfl) rfl
theorem q1674 : (Jvm.Cond.code ({ cls := "ShaveOfAnotherModel", name := "isPerson", desc := "(I)Z" } : Jvm.MethodName) prog_19_method_8_code (2 : Nat) (Option.some Jvm.ClassFile.FieldType.boolean)) ∈ lw_all := lw_g (lw_at lw_m7 111 rfl) rfl
theorem q1675 : (Jvm.Cond.methodLink "ShaveOfAnotherModel" (344 : Nat) ({ cls := "ShaveOfAnotherModel", name := "keep", desc := "()V" } : Jvm.MethodName)) ∈ lw_all := lw_g (lw_at lw_m7 112 rfl) rfl
theorem q1676 : (Jvm.Cond.privateMethod ({ cls := "ShaveOfAnotherModel", name := "keep", desc := "()V" } : Jvm.MethodName)) ∈ lw_tbl := lw_at lw_m7 113 rfl
theorem q1677 : (Jvm.Cond.instanceMethod ({ cls := "ShaveOfAnotherModel", name := "keep", desc := "()V" } : Jvm.MethodName)) ∈ lw_all := lw_g (lw_at lw_m7 114 rfl) rfl
theorem q1678 : (Jvm.Cond.code ({ cls := "ShaveOfAnotherModel", name := "keep", desc := "()V" } : Jvm.MethodName) prog_19_method_75_code (4 : Nat) (Option.none : Option Jvm.ClassFile.FieldType)) ∈ lw_all := lw_g (lw_at lw_m7 115 rfl) rfl
theorem q1679 : (Jvm.Cond.methodLink "ShaveOfAnotherModel" (347 : Nat) ({ cls := "ShaveOfAnotherModel", name := "shaveNow", desc := "(I)I" } : Jvm.MethodName)) ∈ lw_all := lw_g (lw_at lw_m7 116 rfl) rfl
theorem q1680 : (Jvm.Cond.privateMethod ({ cls := "ShaveOfAnotherModel", name := "shaveNow", desc := "(I)I" } : Jvm.MethodName)) ∈ lw_tbl := lw_at lw_m7 117 rfl
theorem q1681 : (Jvm.Cond.instanceMethod ({ cls := "ShaveOfAnotherModel", name := "shaveNow", desc := "(I)I" } : Jvm.MethodName)) ∈ lw_all := lw_g (lw_at lw_m7 118 rfl) rfl
theorem q1682 : (Jvm.Cond.code ({ cls := "ShaveOfAnotherModel", name := "shaveNow", desc := "(I)I" } : Jvm.MethodName) prog_19_method_73_code (7 : Nat) (Option.some Jvm.ClassFile.FieldType.int)) ∈ lw_all := lw_g (lw_at lw_m7 119 rfl) rfl
theorem q1683 : (Jvm.Cond.methodLink "ShaveOfAnotherModel" (329 : Nat) ({ cls := "ShaveOfAnotherModel", name := "slipsOf", desc := "(I)I" } : Jvm.MethodName)) ∈ lw_all := lw_g (lw_at lw_m7 120 rfl) rfl
theorem q1684 : (Jvm.Cond.privateMethod ({ cls := "ShaveOfAnotherModel", name := "slipsOf", desc := "(I)I" } : Jvm.MethodName)) ∈ lw_tbl := lw_at lw_m7 121 rfl
theorem q1685 : (Jvm.Cond.instanceMethod ({ cls := "ShaveOfAnotherModel", name := "slipsOf", desc := "(I)I" } : Jvm.MethodName)) ∈ lw_all := lw_g (lw_at lw_m7 122 rfl) rfl
theorem q1686 : (Jvm.Cond.code ({ cls := "ShaveOfAnotherModel", name := "slipsOf", desc := "(I)I" } : Jvm.MethodName) prog_19_method_69_code (2 : Nat) (Option.some Jvm.ClassFile.FieldType.int)) ∈ lw_all := lw_g (lw_at lw_m7 123 rfl) rfl
theorem q1687 : (Jvm.Cond.methodLink "ShaveOfAnotherModel" (316 : Nat) ({ cls := "ShaveOfAnotherModel", name := "name", desc := "(I)V" } : Jvm.MethodName)) ∈ lw_all := lw_g (lw_at lw_m7 124 rfl) rfl
theorem q1688 : (Jvm.Cond.privateMethod ({ cls := "ShaveOfAnotherModel", name := "name", desc := "(I)V" } : Jvm.MethodName)) ∈ lw_tbl := lw_at lw_m7 125 rfl
theorem q1689 : (Jvm.Cond.instanceMethod ({ cls := "ShaveOfAnotherModel", name := "name", desc := "(I)V" } : Jvm.MethodName)) ∈ lw_all := lw_g (lw_at lw_m7 126 rfl) rfl
theorem q1690 : (Jvm.Cond.code ({ cls := "ShaveOfAnotherModel", name := "name", desc := "(I)V" } : Jvm.MethodName) prog_19_method_67_code (2 : Nat) (Option.none : Option Jvm.ClassFile.FieldType)) ∈ lw_all := lw_g (lw_at lw_m7 127 rfl) rfl
theorem q1691 : (Jvm.Cond.methodLink "ShaveOfAnotherModel" (77 : Nat) ({ cls := "ShaveOfAnotherModel", name := "otherOf", desc := "(I)I" } : Jvm.MethodName)) ∈ lw_all := lw_g (lw_at lw_m7 128 rfl) rfl
theorem q1692 : (Jvm.Cond.privateMethod ({ cls := "ShaveOfAnotherModel", name := "otherOf", desc := "(I)I" } : Jvm.MethodName)) ∈ lw_tbl := lw_at lw_m7 129 rfl
theorem q1693 : (Jvm.Cond.instanceMethod ({ cls := "ShaveOfAnotherModel", name := "otherOf", desc := "(I)I" } : Jvm.MethodName)) ∈ lw_all := lw_g (lw_at lw_m7 130 rfl) rfl
theorem q1694 : (Jvm.Cond.code ({ cls := "ShaveOfAnotherModel", name := "otherOf", desc := "(I)I" } : Jvm.MethodName) prog_19_method_11_code (2 : Nat) (Option.some Jvm.ClassFile.FieldType.int)) ∈ lw_all := lw_g (lw_at lw_m7 131 rfl) rfl
theorem q1695 : (Jvm.Cond.methodLink "ShaveOfAnotherModel" (319 : Nat) ({ cls := "ShaveOfAnotherModel", name := "says", desc := "(IIII)I" } : Jvm.MethodName)) ∈ lw_all := lw_g (lw_at lw_m7 132 rfl) rfl
theorem q1696 : (Jvm.Cond.privateMethod ({ cls := "ShaveOfAnotherModel", name := "says", desc := "(IIII)I" } : Jvm.MethodName)) ∈ lw_tbl := lw_at lw_m7 133 rfl
theorem q1697 : (Jvm.Cond.instanceMethod ({ cls := "ShaveOfAnotherModel", name := "says", desc := "(IIII)I" } : Jvm.MethodName)) ∈ lw_all := lw_g (lw_at lw_m7 134 rfl) rfl
theorem q1698 : (Jvm.Cond.code ({ cls := "ShaveOfAnotherModel", name := "says", desc := "(IIII)I" } : Jvm.MethodName) prog_19_method_66_code (6 : Nat) (Option.some Jvm.ClassFile.FieldType.int)) ∈ lw_all := lw_g (lw_at lw_m7 135 rfl) rfl
theorem q1699 : (Jvm.Cond.methodLink "ShaveOfAnotherModel" (306 : Nat) ({ cls := "ShaveOfAnotherModel", name := "summedUp", desc := "(II)J" } : Jvm.MethodName)) ∈ lw_all := lw_g (lw_at lw_m7 136 rfl) rfl
theorem q1700 : (Jvm.Cond.privateMethod ({ cls := "ShaveOfAnotherModel", name := "summedUp", desc := "(II)J" } : Jvm.MethodName)) ∈ lw_tbl := lw_at lw_m7 137 rfl
theorem q1701 : (Jvm.Cond.instanceMethod ({ cls := "ShaveOfAnotherModel", name := "summedUp", desc := "(II)J" } : Jvm.MethodName)) ∈ lw_all := lw_g (lw_at lw_m7 138 rfl) rfl
theorem q1702 : (Jvm.Cond.code ({ cls := "ShaveOfAnotherModel", name := "summedUp", desc := "(II)J" } : Jvm.MethodName) prog_19_method_65_code (10 : Nat) (Option.some Jvm.ClassFile.FieldType.long)) ∈ lw_all := lw_g (lw_at lw_m7 139 rfl) rfl
theorem q1703 : (Jvm.Cond.methodLink "ShaveOfAnotherModel" (287 : Nat) ({ cls := "ShaveOfAnotherModel", name := "behindBy", desc := "(JJ)J" } : Jvm.MethodName)) ∈ lw_all := lw_g (lw_at lw_m7 140 rfl) rfl
theorem q1704 : (Jvm.Cond.privateMethod ({ cls := "ShaveOfAnotherModel", name := "behindBy", desc := "(JJ)J" } : Jvm.MethodName)) ∈ lw_tbl := lw_at lw_m7 141 rfl
theorem q1705 : (Jvm.Cond.instanceMethod ({ cls := "ShaveOfAnotherModel", name := "behindBy", desc := "(JJ)J" } : Jvm.MethodName)) ∈ lw_all := lw_g (lw_at lw_m7 142 rfl) rfl
theorem q1706 : (Jvm.Cond.code ({ cls := "ShaveOfAnotherModel", name := "behindBy", desc := "(JJ)J" } : Jvm.MethodName) prog_19_method_62_code (5 : Nat) (Option.some Jvm.ClassFile.FieldType.long)) ∈ lw_all := lw_g (lw_at lw_m7 143 rfl) rfl
theorem q1707 : (Jvm.Cond.constantLong "ShaveOfAnotherModel" (277 : Nat) (8 : Int64)) ∈ lw_all := lw_g (lw_at lw_m7 144 rfl) rfl
theorem q1708 : (Jvm.Cond.methodLink "ShaveOfAnotherModel" (279 : Nat) ({ cls := "ShaveOfAnotherModel", name := "goneFrom", desc := "(IJ)I" } : Jvm.MethodName)) ∈ lw_all := lw_g (lw_at lw_m7 145 rfl) rfl
theorem q1709 : (Jvm.Cond.privateMethod ({ cls := "ShaveOfAnotherModel", name := "goneFrom", desc := "(IJ)I" } : Jvm.MethodName)) ∈ lw_tbl := lw_at lw_m7 146 rfl
theorem q1710 : (Jvm.Cond.instanceMethod ({ cls := "ShaveOfAnotherModel", name := "goneFrom", desc := "(IJ)I" } : Jvm.MethodName)) ∈ lw_all := lw_g (lw_at lw_m7 147 rfl) rfl
theorem q1711 : (Jvm.Cond.code ({ cls := "ShaveOfAnotherModel", name := "goneFrom", desc := "(IJ)I" } : Jvm.MethodName) prog_19_method_12_code (8 : Nat) (Option.some Jvm.ClassFile.FieldType.int)) ∈ lw_all := lw_g (lw_at lw_m7 148 rfl) rfl
theorem q1712 : (Jvm.Cond.methodLink "ShaveOfAnotherModel" (81 : Nat) ({ cls := "ShaveOfAnotherModel", name := "roundOf", desc := "(I)I" } : Jvm.MethodName)) ∈ lw_all := lw_g (lw_at lw_m7 149 rfl) rfl
theorem q1713 : (Jvm.Cond.privateMethod ({ cls := "ShaveOfAnotherModel", name := "roundOf", desc := "(I)I" } : Jvm.MethodName)) ∈ lw_tbl := lw_at lw_m7 150 rfl
theorem q1714 : (Jvm.Cond.instanceMethod ({ cls := "ShaveOfAnotherModel", name := "roundOf", desc := "(I)I" } : Jvm.MethodName)) ∈ lw_all := lw_g (lw_at lw_m7 151 rfl) rfl
theorem q1715 : (Jvm.Cond.code ({ cls := "ShaveOfAnotherModel", name := "roundOf", desc := "(I)I" } : Jvm.MethodName) prog_19_method_13_code (4 : Nat) (Option.some Jvm.ClassFile.FieldType.int)) ∈ lw_all := lw_g (lw_at lw_m7 152 rfl) rfl
theorem q1716 : (Jvm.Cond.methodLink "ShaveOfAnotherModel" (291 : Nat) ({ cls := "ShaveOfAnotherModel", name := "power", desc := "(JJ)J" } : Jvm.MethodName)) ∈ lw_all := lw_g (lw_at lw_m7 153 rfl) rfl
theorem q1717 : (Jvm.Cond.static ({ cls := "ShaveOfAnotherModel", name := "power", desc := "(JJ)J" } : Jvm.MethodName)) ∈ lw_all := lw_g (lw_at lw_m7 154 rfl) rfl
theorem q1718 : (Jvm.Cond.code ({ cls := "ShaveOfAnotherModel", name := "power", desc := "(JJ)J" } : Jvm.MethodName) prog_19_method_63_code (10 : Nat) (Option.some Jvm.ClassFile.FieldType.long)) ∈ lw_all := lw_g (lw_at lw_m7 155 rfl) rfl
theorem q1719 : (Jvm.Cond.constantLong "ShaveOfAnotherModel" (283 : Nat) (40 : Int64)) ∈ lw_all := lw_g (lw_at lw_m7 156 rfl) rfl
theorem q1720 : (Jvm.Cond.constantLong "ShaveOfAnotherModel" (285 : Nat) (2 : Int64)) ∈ lw_all := lw_g (lw_at lw_m7 157 rfl) rfl
theorem q1721 : (Jvm.Cond.constantLong "ShaveOfAnotherModel" (269 : Nat) (1000000 : Int64)) ∈ lw_all := lw_g (lw_at lw_m7 158 rfl) rfl
theorem q1722 : (Jvm.Cond.constantLong "ShaveOfAnotherModel" (271 : Nat) (-1000000 : Int64)) ∈ lw_all := lw_g (lw_at lw_m7 159 rfl) rfl
theorem q1723 : (Jvm.Cond.methodLink "ShaveOfAnotherModel" (294 : Nat) ({ cls := "ShaveOfAnotherModel", name := "two", desc := "(IJJ)J" } : Jvm.MethodName)) ∈ lw_all := lw_g (lw_at lw_m7 160 rfl) rfl
theorem q1724 : (Jvm.Cond.static ({ cls := "ShaveOfAnotherModel", name := "two", desc := "(IJJ)J" } : Jvm.MethodName)) ∈ lw_all := lw_g (lw_at lw_m7 161 rfl) rfl
theorem q1725 : (Jvm.Cond.code ({ cls := "ShaveOfAnotherModel", name := "two", desc := "(IJJ)J" } : Jvm.MethodName) prog_19_method_60_code (5 : Nat) (Option.some Jvm.ClassFile.FieldType.long)) ∈ lw_all := lw_g (lw_at lw_m7 162 rfl) rfl
theorem q1726 : (Jvm.Cond.methodLink "ShaveOfAnotherModel" (273 : Nat) ({ cls := "ShaveOfAnotherModel", name := "clip", desc := "(J)J" } : Jvm.MethodName)) ∈ lw_all := lw_g (lw_at lw_m7 163 rfl) rfl
theorem q1727 : (Jvm.Cond.static ({ cls := "ShaveOfAnotherModel", name := "clip", desc := "(J)J" } : Jvm.MethodName)) ∈ lw_all := lw_g (lw_at lw_m7 164 rfl) rfl
theorem q1728 : (Jvm.Cond.code ({ cls := "ShaveOfAnotherModel", name := "clip", desc := "(J)J" } : Jvm.MethodName) prog_19_method_59_code (2 : Nat) (Option.some Jvm.ClassFile.FieldType.long)) ∈ lw_all := lw_g (lw_at lw_m7 165 rfl) rfl
theorem q1729 : (Jvm.Cond.methodLink "ShaveOfAnotherModel" (298 : Nat) ({ cls := "ShaveOfAnotherModel", name := "isAsked", desc := "(IJJ)Z" } : Jvm.MethodName)) ∈ lw_all := lw_g (lw_at lw_m7 166 rfl) rfl
theorem q1730 : (Jvm.Cond.static ({ cls := "ShaveOfAnotherModel", name := "isAsked", desc := "(IJJ)Z" } : Jvm.MethodName)) ∈ lw_all := lw_g (lw_at lw_m7 167 rfl) rfl
theorem q1731 : (Jvm.Cond.code ({ cls := "ShaveOfAnotherModel", name := "isAsked", desc := "(IJJ)Z" } : Jvm.MethodName) prog_19_method_61_code (5 : Nat) (Option.some Jvm.ClassFile.FieldType.boolean)) ∈ lw_all := lw_g (lw_at lw_m7 168 rfl) rfl
theorem q1732 : (Jvm.Cond.methodLink "ShaveOfAnotherModel" (302 : Nat) ({ cls := "ShaveOfAnotherModel", name := "joined", desc := "(IZZ)Z" } : Jvm.MethodName)) ∈ lw_all := lw_g (lw_at lw_m7 169 rfl) rfl
theorem q1733 : (Jvm.Cond.static ({ cls := "ShaveOfAnotherModel", name := "joined", desc := "(IZZ)Z" } : Jvm.MethodName)) ∈ lw_all := lw_g (lw_at lw_m7 170 rfl) rfl
theorem q1734 : (Jvm.Cond.code ({ cls := "ShaveOfAnotherModel", name := "joined", desc := "(IZZ)Z" } : Jvm.MethodName) prog_19_method_64_code (3 : Nat) (Option.some Jvm.ClassFile.FieldType.boolean)) ∈ lw_all := lw_g (lw_at lw_m7 171 rfl) rfl
theorem q1735 : (Jvm.Cond.methodLink "ShaveOfAnotherModel" (309 : Nat) ({ cls := "ShaveOfAnotherModel", name := "held", desc := "(JII)I" } : Jvm.MethodName)) ∈ lw_all := lw_g (lw_at lw_m7 172 rfl) rfl
theorem q1736 : (Jvm.Cond.static ({ cls := "ShaveOfAnotherModel", name := "held", desc := "(JII)I" } : Jvm.MethodName)) ∈ lw_all := lw_g (lw_at lw_m7 173 rfl) rfl
theorem q1737 : (Jvm.Cond.code ({ cls := "ShaveOfAnotherModel", name := "held", desc := "(JII)I" } : Jvm.MethodName) prog_19_method_4_code (4 : Nat) (Option.some Jvm.ClassFile.FieldType.int)) ∈ lw_all := lw_g (lw_at lw_m7 174 rfl) rfl
theorem q1738 : (Jvm.Cond.methodLink "ShaveOfAnotherModel" (332 : Nat) ({ cls := "ShaveOfAnotherModel", name := "razesOf", desc := "(I)I" } : Jvm.MethodName)) ∈ lw_all := lw_g (lw_at lw_m7 175 rfl) rfl
theorem q1739 : (Jvm.Cond.privateMethod ({ cls := "ShaveOfAnotherModel", name := "razesOf", desc := "(I)I" } : Jvm.MethodName)) ∈ lw_tbl := lw_at lw_m7 176 rfl
theorem q1740 : (Jvm.Cond.instanceMethod ({ cls := "ShaveOfAnotherModel", name := "razesOf", desc := "(I)I" } : Jvm.MethodName)) ∈ lw_all := lw_g (lw_at lw_m7 177 rfl) rfl
theorem q1741 : (Jvm.Cond.code ({ cls := "ShaveOfAnotherModel", name := "razesOf", desc := "(I)I" } : Jvm.MethodName) prog_19_method_68_code (2 : Nat) (Option.some Jvm.ClassFile.FieldType.int)) ∈ lw_all := lw_g (lw_at lw_m7 178 rfl) rfl
theorem q1742 : (Jvm.Cond.methodLink "ShaveOfAnotherModel" (335 : Nat) ({ cls := "ShaveOfAnotherModel", name := "ratesOf", desc := "(II)I" } : Jvm.MethodName)) ∈ lw_all := lw_g (lw_at lw_m7 179 rfl) rfl
theorem q1743 : (Jvm.Cond.privateMethod ({ cls := "ShaveOfAnotherModel", name := "ratesOf", desc := "(II)I" } : Jvm.MethodName)) ∈ lw_tbl := lw_at lw_m7 180 rfl
theorem q1744 : (Jvm.Cond.instanceMethod ({ cls := "ShaveOfAnotherModel", name := "ratesOf", desc := "(II)I" } : Jvm.MethodName)) ∈ lw_all := lw_g (lw_at lw_m7 181 rfl) rfl
theorem q1745 : (Jvm.Cond.code ({ cls := "ShaveOfAnotherModel", name := "ratesOf", desc := "(II)I" } : Jvm.MethodName) prog_19_method_70_code (3 : Nat) (Option.some Jvm.ClassFile.FieldType.int)) ∈ lw_all := lw_g (lw_at lw_m7 182 rfl) rfl
theorem q1746 : (Jvm.Cond.methodLink "ShaveOfAnotherModel" (338 : Nat) ({ cls := "ShaveOfAnotherModel", name := "write", desc := "(III)V" } : Jvm.MethodName)) ∈ lw_all := lw_g (lw_at lw_m7 183 rfl) rfl
theorem q1747 : (Jvm.Cond.privateMethod ({ cls := "ShaveOfAnotherModel", name := "write", desc := "(III)V" } : Jvm.MethodName)) ∈ lw_tbl := lw_at lw_m7 184 rfl
theorem q1748 : (Jvm.Cond.instanceMethod ({ cls := "ShaveOfAnotherModel", name := "write", desc := "(III)V" } : Jvm.MethodName)) ∈ lw_all := lw_g (lw_at lw_m7 185 rfl) rfl
theorem q1749 : (Jvm.Cond.code ({ cls := "ShaveOfAnotherModel", name := "write", desc := "(III)V" } : Jvm.MethodName) prog_19_method_71_code (5 : Nat) (Option.none : Option Jvm.ClassFile.FieldType)) ∈ lw_all := lw_g (lw_at lw_m7 186 rfl) rfl
theorem q1750 : (Jvm.Cond.methodLink "ShaveOfAnotherModel" (341 : Nat) ({ cls := "ShaveOfAnotherModel", name := "anew", desc := "()V" } : Jvm.MethodName)) ∈ lw_all := lw_g (lw_at lw_m7 187 rfl) rfl
theorem q1751 : (Jvm.Cond.privateMethod ({ cls := "ShaveOfAnotherModel", name := "anew", desc := "()V" } : Jvm.MethodName)) ∈ lw_tbl := lw_at lw_m7 188 rfl
theorem q1752 : (Jvm.Cond.instanceMethod ({ cls := "ShaveOfAnotherModel", name := "anew", desc := "()V" } : Jvm.MethodName)) ∈ lw_all := lw_g (lw_at lw_m7 189 rfl) rfl
theorem q1753 : (Jvm.Cond.code ({ cls := "ShaveOfAnotherModel", name := "anew", desc := "()V" } : Jvm.MethodName) prog_19_method_72_code (1 : Nat) (Option.none : Option Jvm.ClassFile.FieldType)) ∈ lw_all := lw_g (lw_at lw_m7 190 rfl) rfl
theorem q1754 : (Jvm.Cond.constantLong "ShaveOfAnotherModel" (323 : Nat) (457 : Int64)) ∈ lw_all := lw_g (lw_at lw_m7 191 rfl) rfl
theorem q1755 : (Jvm.Cond.constantLong "ShaveOfAnotherModel" (325 : Nat) (347 : Int64)) ∈ lw_all := lw_g (lw_at lw_m7 192 rfl) rfl
theorem q1756 : (Jvm.Cond.constantLong "ShaveOfAnotherModel" (327 : Nat) (30631 : Int64)) ∈ lw_all := lw_g (lw_at lw_m7 193 rfl) rfl
theorem q1758 : (Jvm.Cond.instanceMethod ({ cls := "ShaveOfAnotherModel", name := "calm", desc := "(I)Z" } : Jvm.MethodName)) ∈ lw_all := lw_g (lw_at lw_m7 195 rfl) rfl
theorem q1759 : (Jvm.Cond.selects "ShaveOfAnotherModel" ({ cls := "ShaveOfAnotherModel", name := "calm", desc := "(I)Z" } : Jvm.MethodName) ({ cls := "ShaveOfAnotherModel", name := "calm", desc := "(I)Z" } : Jvm.MethodName)) ∈ lw_all := lw_g (lw_at lw_m7 196 rfl) rfl
theorem q1760 : (Jvm.Cond.code ({ cls := "ShaveOfAnotherModel", name := "calm", desc := "(I)Z" } : Jvm.MethodName) prog_19_method_79_code (2 : Nat) (Option.some Jvm.ClassFile.FieldType.boolean)) ∈ lw_all := lw_g (lw_at lw_m7 197 rfl) rfl
theorem q1761 : (Jvm.Cond.methodLink "ShaveOfAnotherModel" (350 : Nat) ({ cls := "ShaveOfAnotherModel", name := "canCalm", desc := "(I)Z" } : Jvm.MethodName)) ∈ lw_all := lw_g (lw_at lw_m7 198 rfl) rfl
theorem q1762 : (Jvm.Cond.privateMethod ({ cls := "ShaveOfAnotherModel", name := "canCalm", desc := "(I)Z" } : Jvm.MethodName)) ∈ lw_tbl := lw_at lw_m7 199 rfl
theorem q1763 : (Jvm.Cond.instanceMethod ({ cls := "ShaveOfAnotherModel", name := "canCalm", desc := "(I)Z" } : Jvm.MethodName)) ∈ lw_all := lw_g (lw_at lw_m7 200 rfl) rfl
theorem q1764 : (Jvm.Cond.code ({ cls := "ShaveOfAnotherModel", name := "canCalm", desc := "(I)Z" } : Jvm.MethodName) prog_19_method_78_code (2 : Nat) (Option.some Jvm.ClassFile.FieldType.boolean)) ∈ lw_all := lw_g (lw_at lw_m7 201 rfl) rfl
theorem q1766 : (Jvm.Cond.instanceMethod ({ cls := "ShaveOfAnotherModel", name := "day", desc := "(I)I" } : Jvm.MethodName)) ∈ lw_all := lw_g (lw_at lw_m7 203 rfl) rfl
theorem q1767 : (Jvm.Cond.selects "ShaveOfAnotherModel" ({ cls := "ShaveOfAnotherModel", name := "day", desc := "(I)I" } : Jvm.MethodName) ({ cls := "ShaveOfAnotherModel", name := "day", desc := "(I)I" } : Jvm.MethodName)) ∈ lw_all := lw_g (lw_at lw_m7 204 rfl) rfl
theorem q1768 : (Jvm.Cond.code ({ cls := "ShaveOfAnotherModel", name := "day", desc := "(I)I" } : Jvm.MethodName) prog_19_method_82_code (2 : Nat) (Option.some Jvm.ClassFile.FieldType.int)) ∈ lw_all := lw_g (lw_at lw_m7 205 rfl) rfl
theorem q1769 : (Jvm.Cond.methodLink "ShaveOfAnotherModel" (356 : Nat) ({ cls := "ShaveOfAnotherModel", name := "arePassed", desc := "(I)Z" } : Jvm.MethodName)) ∈ lw_all := lw_g (lw_at lw_m7 206 rfl) rfl
theorem q1770 : (Jvm.Cond.privateMethod ({ cls := "ShaveOfAnotherModel", name := "arePassed", desc := "(I)Z" } : Jvm.MethodName)) ∈ lw_tbl := lw_at lw_m7 207 rfl
theorem q1771 : (Jvm.Cond.instanceMethod ({ cls := "ShaveOfAnotherModel", name := "arePassed", desc := "(I)Z" } : Jvm.MethodName)) ∈ lw_all := lw_g (lw_at lw_m7 208 rfl) rfl
theorem q1772 : (Jvm.Cond.code ({ cls := "ShaveOfAnotherModel", name := "arePassed", desc := "(I)Z" } : Jvm.MethodName) prog_19_method_80_code (3 : Nat) (Option.some Jvm.ClassFile.FieldType.boolean)) ∈ lw_all := lw_g (lw_at lw_m7 209 rfl) rfl
theorem q1773 : (Jvm.Cond.methodLink "ShaveOfAnotherModel" (353 : Nat) ({ cls := "ShaveOfAnotherModel", name := "pass", desc := "()V" } : Jvm.MethodName)) ∈ lw_all := lw_g (lw_at lw_m7 210 rfl) rfl
theorem q1774 : (Jvm.Cond.privateMethod ({ cls := "ShaveOfAnotherModel", name := "pass", desc := "()V" } : Jvm.MethodName)) ∈ lw_tbl := lw_at lw_m7 211 rfl
theorem q1775 : (Jvm.Cond.instanceMethod ({ cls := "ShaveOfAnotherModel", name := "pass", desc := "()V" } : Jvm.MethodName)) ∈ lw_all := lw_g (lw_at lw_m7 212 rfl) rfl
theorem q1776 : (Jvm.Cond.code ({ cls := "ShaveOfAnotherModel", name := "pass", desc := "()V" } : Jvm.MethodName) prog_19_method_74_code (2 : Nat) (Option.none : Option Jvm.ClassFile.FieldType)) ∈ lw_all := lw_g (lw_at lw_m7 213 rfl) rfl
theorem q1777 : (Jvm.Cond.methodLink "ShaveOfAnotherModel" (359 : Nat) ({ cls := "ShaveOfAnotherModel", name := "sumOf", desc := "(I)I" } : Jvm.MethodName)) ∈ lw_all := lw_g (lw_at lw_m7 214 rfl) rfl
theorem q1778 : (Jvm.Cond.privateMethod ({ cls := "ShaveOfAnotherModel", name := "sumOf", desc := "(I)I" } : Jvm.MethodName)) ∈ lw_tbl := lw_at lw_m7 215 rfl
theorem q1779 : (Jvm.Cond.instanceMethod ({ cls := "ShaveOfAnotherModel", name := "sumOf", desc := "(I)I" } : Jvm.MethodName)) ∈ lw_all := lw_g (lw_at lw_m7 216 rfl) rfl
theorem q1780 : (Jvm.Cond.code ({ cls := "ShaveOfAnotherModel", name := "sumOf", desc := "(I)I" } : Jvm.MethodName) prog_19_method_81_code (4 : Nat) (Option.some Jvm.ClassFile.FieldType.int)) ∈ lw_all := lw_g (lw_at lw_m7 217 rfl) rfl
theorem q1782 : (Jvm.Cond.instanceMethod ({ cls := "ShaveOfAnotherModel", name := "played", desc := "(I)I" } : Jvm.MethodName)) ∈ lw_all := lw_g (lw_at lw_m7 219 rfl) rfl
theorem q1783 : (Jvm.Cond.selects "ShaveOfAnotherModel" ({ cls := "ShaveOfAnotherModel", name := "played", desc := "(I)I" } : Jvm.MethodName) ({ cls := "ShaveOfAnotherModel", name := "played", desc := "(I)I" } : Jvm.MethodName)) ∈ lw_all := lw_g (lw_at lw_m7 220 rfl) rfl
theorem q1784 : (Jvm.Cond.code ({ cls := "ShaveOfAnotherModel", name := "played", desc := "(I)I" } : Jvm.MethodName) prog_19_method_84_code (3 : Nat) (Option.some Jvm.ClassFile.FieldType.int)) ∈ lw_all := lw_g (lw_at lw_m7 221 rfl) rfl
theorem q1785 : (Jvm.Cond.methodLink "ShaveOfAnotherModel" (374 : Nat) ({ cls := "ShaveOfAnotherModel", name := "isPlayed", desc := "(I)Z" } : Jvm.MethodName)) ∈ lw_all := lw_g (lw_at lw_m7 222 rfl) rfl
theorem q1786 : (Jvm.Cond.privateMethod ({ cls := "ShaveOfAnotherModel", name := "isPlayed", desc := "(I)Z" } : Jvm.MethodName)) ∈ lw_tbl := lw_at lw_m7 223 rfl
theorem q1787 : (Jvm.Cond.instanceMethod ({ cls := "ShaveOfAnotherModel", name := "isPlayed", desc := "(I)Z" } : Jvm.MethodName)) ∈ lw_all := lw_g (lw_at lw_m7 224 rfl) rfl
theorem q1788 : (Jvm.Cond.code ({ cls := "ShaveOfAnotherModel", name := "isPlayed", desc := "(I)Z" } : Jvm.MethodName) prog_19_method_83_code (4 : Nat) (Option.some Jvm.ClassFile.FieldType.boolean)) ∈ lw_all := lw_g (lw_at lw_m7 225 rfl) rfl
theorem q1789 : (Jvm.Cond.methodLink "ShaveOfAnotherModel" (362 : Nat) ({ cls := "ShaveOfAnotherModel", name := "person", desc := "(II)I" } : Jvm.MethodName)) ∈ lw_all := lw_g (lw_at lw_m7 226 rfl) rfl
theorem q1790 : (Jvm.Cond.methodLink "ShaveOfAnotherModel" (365 : Nat) ({ cls := "ShaveOfAnotherModel", name := "other", desc := "(II)Z" } : Jvm.MethodName)) ∈ lw_all := lw_g (lw_at lw_m7 227 rfl) rfl
theorem q1791 : (Jvm.Cond.methodLink "ShaveOfAnotherModel" (368 : Nat) ({ cls := "ShaveOfAnotherModel", name := "shave", desc := "(I)I" } : Jvm.MethodName)) ∈ lw_all := lw_g (lw_at lw_m7 228 rfl) rfl
theorem q1792 : (Jvm.Cond.methodLink "ShaveOfAnotherModel" (371 : Nat) ({ cls := "ShaveOfAnotherModel", name := "calm", desc := "(I)Z" } : Jvm.MethodName)) ∈ lw_all := lw_g (lw_at lw_m7 229 rfl) rfl
theorem q1794 : (Jvm.Cond.instanceMethod ({ cls := "ShaveOfAnotherModel", name := "years", desc := "(II)I" } : Jvm.MethodName)) ∈ lw_all := lw_g (lw_at lw_m7 231 rfl) rfl
theorem q1795 : (Jvm.Cond.selects "ShaveOfAnotherModel" ({ cls := "ShaveOfAnotherModel", name := "years", desc := "(II)I" } : Jvm.MethodName) ({ cls := "ShaveOfAnotherModel", name := "years", desc := "(II)I" } : Jvm.MethodName)) ∈ lw_all := lw_g (lw_at lw_m7 232 rfl) rfl
theorem q1796 : (Jvm.Cond.code ({ cls := "ShaveOfAnotherModel", name := "years", desc := "(II)I" } : Jvm.MethodName) prog_19_method_86_code (5 : Nat) (Option.some Jvm.ClassFile.FieldType.int)) ∈ lw_all := lw_g (lw_at lw_m7 233 rfl) rfl
theorem q1797 : (Jvm.Cond.methodLink "ShaveOfAnotherModel" (377 : Nat) ({ cls := "ShaveOfAnotherModel", name := "happens", desc := "(I)V" } : Jvm.MethodName)) ∈ lw_all := lw_g (lw_at lw_m7 234 rfl) rfl
theorem q1798 : (Jvm.Cond.privateMethod ({ cls := "ShaveOfAnotherModel", name := "happens", desc := "(I)V" } : Jvm.MethodName)) ∈ lw_tbl := lw_at lw_m7 235 rfl
theorem q1799 : (Jvm.Cond.instanceMethod ({ cls := "ShaveOfAnotherModel", name := "happens", desc := "(I)V" } : Jvm.MethodName)) ∈ lw_all := lw_g (lw_at lw_m7 236 rfl) rfl
theorem q1800 : (Jvm.Cond.code ({ cls := "ShaveOfAnotherModel", name := "happens", desc := "(I)V" } : Jvm.MethodName) prog_19_method_85_code (3 : Nat) (Option.none : Option Jvm.ClassFile.FieldType)) ∈ lw_all := lw_g (lw_at lw_m7 237 rfl) rfl
theorem q1802 : (Jvm.Cond.instanceMethod ({ cls := "ShaveOfAnotherModel", name := "of", desc := "(II)I" } : Jvm.MethodName)) ∈ lw_all := lw_g (lw_at lw_m7 239 rfl) rfl
theorem q1803 : (Jvm.Cond.selects "ShaveOfAnotherModel" ({ cls := "ShaveOfAnotherModel", name := "of", desc := "(II)I" } : Jvm.MethodName) ({ cls := "ShaveOfAnotherModel", name := "of", desc := "(II)I" } : Jvm.MethodName)) ∈ lw_all := lw_g (lw_at lw_m8 0 rfl) rfl
theorem q1804 : (Jvm.Cond.code ({ cls := "ShaveOfAnotherModel", name := "of", desc := "(II)I" } : Jvm.MethodName) prog_19_method_87_code (3 : Nat) (Option.some Jvm.ClassFile.FieldType.int)) ∈ lw_all := lw_g (lw_at lw_m8 1 rfl) rfl
theorem q1806 : (Jvm.Cond.instanceMethod ({ cls := "ShaveOfAnotherModel", name := "told", desc := "(I)I" } : Jvm.MethodName)) ∈ lw_all := lw_g (lw_at lw_m8 3 rfl) rfl
theorem q1807 : (Jvm.Cond.selects "ShaveOfAnotherModel" ({ cls := "ShaveOfAnotherModel", name := "told", desc := "(I)I" } : Jvm.MethodName) ({ cls := "ShaveOfAnotherModel", name := "told", desc := "(I)I" } : Jvm.MethodName)) ∈ lw_all := lw_g (lw_at lw_m8 4 rfl) rfl
theorem q1808 : (Jvm.Cond.code ({ cls := "ShaveOfAnotherModel", name := "told", desc := "(I)I" } : Jvm.MethodName) prog_19_method_88_code (2 : Nat) (Option.some Jvm.ClassFile.FieldType.int)) ∈ lw_all := lw_g (lw_at lw_m8 5 rfl) rfl
theorem q1810 : (Jvm.Cond.instanceMethod ({ cls := "ShaveOfAnotherModel", name := "is", desc := "(I)I" } : Jvm.MethodName)) ∈ lw_all := lw_g (lw_at lw_m8 7 rfl) rfl
theorem q1811 : (Jvm.Cond.selects "ShaveOfAnotherModel" ({ cls := "ShaveOfAnotherModel", name := "is", desc := "(I)I" } : Jvm.MethodName) ({ cls := "ShaveOfAnotherModel", name := "is", desc := "(I)I" } : Jvm.MethodName)) ∈ lw_all := lw_g (lw_at lw_m8 8 rfl) rfl
theorem q1812 : (Jvm.Cond.code ({ cls := "ShaveOfAnotherModel", name := "is", desc := "(I)I" } : Jvm.MethodName) prog_19_method_89_code (2 : Nat) (Option.some Jvm.ClassFile.FieldType.int)) ∈ lw_all := lw_g (lw_at lw_m8 9 rfl) rfl
theorem q1814 : (Jvm.Cond.instanceMethod ({ cls := "ShaveOfAnotherModel", name := "book", desc := "(II)I" } : Jvm.MethodName)) ∈ lw_all := lw_g (lw_at lw_m8 11 rfl) rfl
theorem q1815 : (Jvm.Cond.selects "ShaveOfAnotherModel" ({ cls := "ShaveOfAnotherModel", name := "book", desc := "(II)I" } : Jvm.MethodName) ({ cls := "ShaveOfAnotherModel", name := "book", desc := "(II)I" } : Jvm.MethodName)) ∈ lw_all := lw_g (lw_at lw_m8 12 rfl) rfl
theorem q1816 : (Jvm.Cond.code ({ cls := "ShaveOfAnotherModel", name := "book", desc := "(II)I" } : Jvm.MethodName) prog_19_method_91_code (3 : Nat) (Option.some Jvm.ClassFile.FieldType.int)) ∈ lw_all := lw_g (lw_at lw_m8 13 rfl) rfl
theorem q1817 : (Jvm.Cond.methodLink "ShaveOfAnotherModel" (380 : Nat) ({ cls := "ShaveOfAnotherModel", name := "entry", desc := "(II)I" } : Jvm.MethodName)) ∈ lw_all := lw_g (lw_at lw_m8 14 rfl) rfl
theorem q1818 : (Jvm.Cond.privateMethod ({ cls := "ShaveOfAnotherModel", name := "entry", desc := "(II)I" } : Jvm.MethodName)) ∈ lw_tbl := lw_at lw_m8 15 rfl
theorem q1819 : (Jvm.Cond.instanceMethod ({ cls := "ShaveOfAnotherModel", name := "entry", desc := "(II)I" } : Jvm.MethodName)) ∈ lw_all := lw_g (lw_at lw_m8 16 rfl) rfl
theorem q1820 : (Jvm.Cond.code ({ cls := "ShaveOfAnotherModel", name := "entry", desc := "(II)I" } : Jvm.MethodName) prog_19_method_90_code (4 : Nat) (Option.some Jvm.ClassFile.FieldType.int)) ∈ lw_all := lw_g (lw_at lw_m8 17 rfl) rfl
theorem q1822 : (Jvm.Cond.instanceMethod ({ cls := "ShaveOfAnotherModel", name := "ledger", desc := "(I)I" } : Jvm.MethodName)) ∈ lw_all := lw_g (lw_at lw_m8 19 rfl) rfl
theorem q1823 : (Jvm.Cond.selects "ShaveOfAnotherModel" ({ cls := "ShaveOfAnotherModel", name := "ledger", desc := "(I)I" } : Jvm.MethodName) ({ cls := "ShaveOfAnotherModel", name := "ledger", desc := "(I)I" } : Jvm.MethodName)) ∈ lw_all := lw_g (lw_at lw_m8 20 rfl) rfl
theorem q1824 : (Jvm.Cond.code ({ cls := "ShaveOfAnotherModel", name := "ledger", desc := "(I)I" } : Jvm.MethodName) prog_19_method_92_code (4 : Nat) (Option.some Jvm.ClassFile.FieldType.int)) ∈ lw_all := lw_g (lw_at lw_m8 21 rfl) rfl
theorem q1826 : (Jvm.Cond.instanceMethod ({ cls := "ShaveOfAnotherModel", name := "hairiest", desc := "()I" } : Jvm.MethodName)) ∈ lw_all := lw_g (lw_at lw_m8 23 rfl) rfl
theorem q1827 : (Jvm.Cond.selects "ShaveOfAnotherModel" ({ cls := "ShaveOfAnotherModel", name := "hairiest", desc := "()I" } : Jvm.MethodName) ({ cls := "ShaveOfAnotherModel", name := "hairiest", desc := "()I" } : Jvm.MethodName)) ∈ lw_all := lw_g (lw_at lw_m8 24 rfl) rfl
theorem q1828 : (Jvm.Cond.code ({ cls := "ShaveOfAnotherModel", name := "hairiest", desc := "()I" } : Jvm.MethodName) prog_19_method_93_code (3 : Nat) (Option.some Jvm.ClassFile.FieldType.int)) ∈ lw_all := lw_g (lw_at lw_m8 25 rfl) rfl
theorem q1830 : (Jvm.Cond.instanceMethod ({ cls := "ShaveOfAnotherModel", name := "calmest", desc := "()I" } : Jvm.MethodName)) ∈ lw_all := lw_g (lw_at lw_m8 27 rfl) rfl
theorem q1831 : (Jvm.Cond.selects "ShaveOfAnotherModel" ({ cls := "ShaveOfAnotherModel", name := "calmest", desc := "()I" } : Jvm.MethodName) ({ cls := "ShaveOfAnotherModel", name := "calmest", desc := "()I" } : Jvm.MethodName)) ∈ lw_all := lw_g (lw_at lw_m8 28 rfl) rfl
theorem q1832 : (Jvm.Cond.code ({ cls := "ShaveOfAnotherModel", name := "calmest", desc := "()I" } : Jvm.MethodName) prog_19_method_94_code (3 : Nat) (Option.some Jvm.ClassFile.FieldType.int)) ∈ lw_all := lw_g (lw_at lw_m8 29 rfl) rfl
theorem q1834 : (Jvm.Cond.instanceMethod ({ cls := "ShaveOfAnotherModel", name := "smooth", desc := "()I" } : Jvm.MethodName)) ∈ lw_all := lw_g (lw_at lw_m8 31 rfl) rfl
theorem q1835 : (Jvm.Cond.selects "ShaveOfAnotherModel" ({ cls := "ShaveOfAnotherModel", name := "smooth", desc := "()I" } : Jvm.MethodName) ({ cls := "ShaveOfAnotherModel", name := "smooth", desc := "()I" } : Jvm.MethodName)) ∈ lw_all := lw_g (lw_at lw_m8 32 rfl) rfl
theorem q1836 : (Jvm.Cond.code ({ cls := "ShaveOfAnotherModel", name := "smooth", desc := "()I" } : Jvm.MethodName) prog_19_method_96_code (1 : Nat) (Option.some Jvm.ClassFile.FieldType.int)) ∈ lw_all := lw_g (lw_at lw_m8 33 rfl) rfl
theorem q1837 : (Jvm.Cond.methodLink "ShaveOfAnotherModel" (383 : Nat) ({ cls := "ShaveOfAnotherModel", name := "without", desc := "(I)I" } : Jvm.MethodName)) ∈ lw_all := lw_g (lw_at lw_m8 34 rfl) rfl
theorem q1838 : (Jvm.Cond.privateMethod ({ cls := "ShaveOfAnotherModel", name := "without", desc := "(I)I" } : Jvm.MethodName)) ∈ lw_tbl := lw_at lw_m8 35 rfl
theorem q1839 : (Jvm.Cond.instanceMethod ({ cls := "ShaveOfAnotherModel", name := "without", desc := "(I)I" } : Jvm.MethodName)) ∈ lw_all := lw_g (lw_at lw_m8 36 rfl) rfl
theorem q1840 : (Jvm.Cond.code ({ cls := "ShaveOfAnotherModel", name := "without", desc := "(I)I" } : Jvm.MethodName) prog_19_method_95_code (4 : Nat) (Option.some Jvm.ClassFile.FieldType.int)) ∈ lw_all := lw_g (lw_at lw_m8 37 rfl) rfl
theorem q1842 : (Jvm.Cond.instanceMethod ({ cls := "ShaveOfAnotherModel", name := "unscarred", desc := "()I" } : Jvm.MethodName)) ∈ lw_all := lw_g (lw_at lw_m8 39 rfl) rfl
theorem q1843 : (Jvm.Cond.selects "ShaveOfAnotherModel" ({ cls := "ShaveOfAnotherModel", name := "unscarred", desc := "()I" } : Jvm.MethodName) ({ cls := "ShaveOfAnotherModel", name := "unscarred", desc := "()I" } : Jvm.MethodName)) ∈ lw_all := lw_g (lw_at lw_m8 40 rfl) rfl
theorem q1844 : (Jvm.Cond.code ({ cls := "ShaveOfAnotherModel", name := "unscarred", desc := "()I" } : Jvm.MethodName) prog_19_method_97_code (1 : Nat) (Option.some Jvm.ClassFile.FieldType.int)) ∈ lw_all := lw_g (lw_at lw_m8 41 rfl) rfl
theorem q1846 : (Jvm.Cond.instanceMethod ({ cls := "ShaveOfAnotherModel", name := "alone", desc := "()I" } : Jvm.MethodName)) ∈ lw_all := lw_g (lw_at lw_m8 43 rfl) rfl
theorem q1847 : (Jvm.Cond.selects "ShaveOfAnotherModel" ({ cls := "ShaveOfAnotherModel", name := "alone", desc := "()I" } : Jvm.MethodName) ({ cls := "ShaveOfAnotherModel", name := "alone", desc := "()I" } : Jvm.MethodName)) ∈ lw_all := lw_g (lw_at lw_m8 44 rfl) rfl
theorem q1848 : (Jvm.Cond.code ({ cls := "ShaveOfAnotherModel", name := "alone", desc := "()I" } : Jvm.MethodName) prog_19_method_98_code (3 : Nat) (Option.some Jvm.ClassFile.FieldType.int)) ∈ lw_all := lw_g (lw_at lw_m8 45 rfl) rfl
theorem q1850 : (Jvm.Cond.instanceMethod ({ cls := "ShaveOfAnotherModel", name := "foretold", desc := "(II)I" } : Jvm.MethodName)) ∈ lw_all := lw_g (lw_at lw_m8 47 rfl) rfl
theorem q1851 : (Jvm.Cond.selects "ShaveOfAnotherModel" ({ cls := "ShaveOfAnotherModel", name := "foretold", desc := "(II)I" } : Jvm.MethodName) ({ cls := "ShaveOfAnotherModel", name := "foretold", desc := "(II)I" } : Jvm.MethodName)) ∈ lw_all := lw_g (lw_at lw_m8 48 rfl) rfl
theorem q1852 : (Jvm.Cond.code ({ cls := "ShaveOfAnotherModel", name := "foretold", desc := "(II)I" } : Jvm.MethodName) prog_19_method_99_code (5 : Nat) (Option.some Jvm.ClassFile.FieldType.int)) ∈ lw_all := lw_g (lw_at lw_m8 49 rfl) rfl
theorem q1854 : (Jvm.Cond.instanceMethod ({ cls := "ShaveOfAnotherModel", name := "after", desc := "(IJ)I" } : Jvm.MethodName)) ∈ lw_all := lw_g (lw_at lw_m8 51 rfl) rfl
theorem q1855 : (Jvm.Cond.selects "ShaveOfAnotherModel" ({ cls := "ShaveOfAnotherModel", name := "after", desc := "(IJ)I" } : Jvm.MethodName) ({ cls := "ShaveOfAnotherModel", name := "after", desc := "(IJ)I" } : Jvm.MethodName)) ∈ lw_all := lw_g (lw_at lw_m8 52 rfl) rfl
theorem q1856 : (Jvm.Cond.code ({ cls := "ShaveOfAnotherModel", name := "after", desc := "(IJ)I" } : Jvm.MethodName) prog_19_method_100_code (4 : Nat) (Option.some Jvm.ClassFile.FieldType.int)) ∈ lw_all := lw_g (lw_at lw_m8 53 rfl) rfl
theorem q1858 : (Jvm.Cond.instanceMethod ({ cls := "ShaveOfAnotherModel", name := "ring", desc := "(II)I" } : Jvm.MethodName)) ∈ lw_all := lw_g (lw_at lw_m8 55 rfl) rfl
theorem q1859 : (Jvm.Cond.selects "ShaveOfAnotherModel" ({ cls := "ShaveOfAnotherModel", name := "ring", desc := "(II)I" } : Jvm.MethodName) ({ cls := "ShaveOfAnotherModel", name := "ring", desc := "(II)I" } : Jvm.MethodName)) ∈ lw_all := lw_g (lw_at lw_m8 56 rfl) rfl
theorem q1860 : (Jvm.Cond.code ({ cls := "ShaveOfAnotherModel", name := "ring", desc := "(II)I" } : Jvm.MethodName) prog_19_method_103_code (3 : Nat) (Option.some Jvm.ClassFile.FieldType.int)) ∈ lw_all := lw_g (lw_at lw_m8 57 rfl) rfl
theorem q1861 : (Jvm.Cond.methodLink "ShaveOfAnotherModel" (386 : Nat) ({ cls := "ShaveOfAnotherModel", name := "ringOf", desc := "(I)I" } : Jvm.MethodName)) ∈ lw_all := lw_g (lw_at lw_m8 58 rfl) rfl
theorem q1862 : (Jvm.Cond.privateMethod ({ cls := "ShaveOfAnotherModel", name := "ringOf", desc := "(I)I" } : Jvm.MethodName)) ∈ lw_tbl := lw_at lw_m8 59 rfl
theorem q1863 : (Jvm.Cond.instanceMethod ({ cls := "ShaveOfAnotherModel", name := "ringOf", desc := "(I)I" } : Jvm.MethodName)) ∈ lw_all := lw_g (lw_at lw_m8 60 rfl) rfl
theorem q1864 : (Jvm.Cond.code ({ cls := "ShaveOfAnotherModel", name := "ringOf", desc := "(I)I" } : Jvm.MethodName) prog_19_method_101_code (4 : Nat) (Option.some Jvm.ClassFile.FieldType.int)) ∈ lw_all := lw_g (lw_at lw_m8 61 rfl) rfl
theorem q1865 : (Jvm.Cond.methodLink "ShaveOfAnotherModel" (389 : Nat) ({ cls := "ShaveOfAnotherModel", name := "bits", desc := "(I)I" } : Jvm.MethodName)) ∈ lw_all := lw_g (lw_at lw_m8 62 rfl) rfl
theorem q1866 : (Jvm.Cond.static ({ cls := "ShaveOfAnotherModel", name := "bits", desc := "(I)I" } : Jvm.MethodName)) ∈ lw_all := lw_g (lw_at lw_m8 63 rfl) rfl
theorem q1867 : (Jvm.Cond.code ({ cls := "ShaveOfAnotherModel", name := "bits", desc := "(I)I" } : Jvm.MethodName) prog_19_method_6_code (3 : Nat) (Option.some Jvm.ClassFile.FieldType.int)) ∈ lw_all := lw_g (lw_at lw_m8 64 rfl) rfl
theorem q1868 : (Jvm.Cond.methodLink "ShaveOfAnotherModel" (392 : Nat) ({ cls := "ShaveOfAnotherModel", name := "tillRing", desc := "(I)I" } : Jvm.MethodName)) ∈ lw_all := lw_g (lw_at lw_m8 65 rfl) rfl
theorem q1869 : (Jvm.Cond.privateMethod ({ cls := "ShaveOfAnotherModel", name := "tillRing", desc := "(I)I" } : Jvm.MethodName)) ∈ lw_tbl := lw_at lw_m8 66 rfl
theorem q1870 : (Jvm.Cond.instanceMethod ({ cls := "ShaveOfAnotherModel", name := "tillRing", desc := "(I)I" } : Jvm.MethodName)) ∈ lw_all := lw_g (lw_at lw_m8 67 rfl) rfl
theorem q1871 : (Jvm.Cond.code ({ cls := "ShaveOfAnotherModel", name := "tillRing", desc := "(I)I" } : Jvm.MethodName) prog_19_method_102_code (4 : Nat) (Option.some Jvm.ClassFile.FieldType.int)) ∈ lw_all := lw_g (lw_at lw_m8 68 rfl) rfl
theorem q1873 : (Jvm.Cond.instanceMethod ({ cls := "ShaveOfAnotherModel", name := "rounds", desc := "()J" } : Jvm.MethodName)) ∈ lw_all := lw_g (lw_at lw_m8 70 rfl) rfl
theorem q1874 : (Jvm.Cond.selects "ShaveOfAnotherModel" ({ cls := "ShaveOfAnotherModel", name := "rounds", desc := "()J" } : Jvm.MethodName) ({ cls := "ShaveOfAnotherModel", name := "rounds", desc := "()J" } : Jvm.MethodName)) ∈ lw_all := lw_g (lw_at lw_m8 71 rfl) rfl
theorem q1875 : (Jvm.Cond.code ({ cls := "ShaveOfAnotherModel", name := "rounds", desc := "()J" } : Jvm.MethodName) prog_19_method_105_code (4 : Nat) (Option.some Jvm.ClassFile.FieldType.long)) ∈ lw_all := lw_g (lw_at lw_m8 72 rfl) rfl
theorem q1876 : (Jvm.Cond.methodLink "ShaveOfAnotherModel" (395 : Nat) ({ cls := "ShaveOfAnotherModel", name := "divisor", desc := "(JJ)J" } : Jvm.MethodName)) ∈ lw_all := lw_g (lw_at lw_m8 73 rfl) rfl
theorem q1877 : (Jvm.Cond.static ({ cls := "ShaveOfAnotherModel", name := "divisor", desc := "(JJ)J" } : Jvm.MethodName)) ∈ lw_all := lw_g (lw_at lw_m8 74 rfl) rfl
theorem q1878 : (Jvm.Cond.code ({ cls := "ShaveOfAnotherModel", name := "divisor", desc := "(JJ)J" } : Jvm.MethodName) prog_19_method_104_code (10 : Nat) (Option.some Jvm.ClassFile.FieldType.long)) ∈ lw_all := lw_g (lw_at lw_m8 75 rfl) rfl
theorem q1880 : (Jvm.Cond.instanceMethod ({ cls := "ShaveOfAnotherModel", name := "done", desc := "(I)I" } : Jvm.MethodName)) ∈ lw_all := lw_g (lw_at lw_m8 77 rfl) rfl
theorem q1881 : (Jvm.Cond.selects "ShaveOfAnotherModel" ({ cls := "ShaveOfAnotherModel", name := "done", desc := "(I)I" } : Jvm.MethodName) ({ cls := "ShaveOfAnotherModel", name := "done", desc := "(I)I" } : Jvm.MethodName)) ∈ lw_all := lw_g (lw_at lw_m8 78 rfl) rfl
theorem q1882 : (Jvm.Cond.code ({ cls := "ShaveOfAnotherModel", name := "done", desc := "(I)I" } : Jvm.MethodName) prog_19_method_106_code (4 : Nat) (Option.some Jvm.ClassFile.FieldType.int)) ∈ lw_all := lw_g (lw_at lw_m8 79 rfl) rfl
theorem q1884 : (Jvm.Cond.instanceMethod ({ cls := "ShaveOfAnotherModel", name := "meet", desc := "(II)I" } : Jvm.MethodName)) ∈ lw_all := lw_g (lw_at lw_m8 81 rfl) rfl
theorem q1885 : (Jvm.Cond.selects "ShaveOfAnotherModel" ({ cls := "ShaveOfAnotherModel", name := "meet", desc := "(II)I" } : Jvm.MethodName) ({ cls := "ShaveOfAnotherModel", name := "meet", desc := "(II)I" } : Jvm.MethodName)) ∈ lw_all := lw_g (lw_at lw_m8 82 rfl) rfl
theorem q1886 : (Jvm.Cond.code ({ cls := "ShaveOfAnotherModel", name := "meet", desc := "(II)I" } : Jvm.MethodName) prog_19_method_107_code (6 : Nat) (Option.some Jvm.ClassFile.FieldType.int)) ∈ lw_all := lw_g (lw_at lw_m8 83 rfl) rfl
theorem q1888 : (Jvm.Cond.instanceMethod ({ cls := "ShaveOfAnotherModel", name := "outermost", desc := "()I" } : Jvm.MethodName)) ∈ lw_all := lw_g (lw_at lw_m8 85 rfl) rfl
theorem q1889 : (Jvm.Cond.selects "ShaveOfAnotherModel" ({ cls := "ShaveOfAnotherModel", name := "outermost", desc := "()I" } : Jvm.MethodName) ({ cls := "ShaveOfAnotherModel", name := "outermost", desc := "()I" } : Jvm.MethodName)) ∈ lw_all := lw_g (lw_at lw_m8 86 rfl) rfl
theorem q1890 : (Jvm.Cond.code ({ cls := "ShaveOfAnotherModel", name := "outermost", desc := "()I" } : Jvm.MethodName) prog_19_method_108_code (3 : Nat) (Option.some Jvm.ClassFile.FieldType.int)) ∈ lw_all := lw_g (lw_at lw_m8 87 rfl) rfl
theorem q1892 : (Jvm.Cond.instanceMethod ({ cls := "ShaveOfAnotherModel", name := "mirrors", desc := "()I" } : Jvm.MethodName)) ∈ lw_all := lw_g (lw_at lw_m8 89 rfl) rfl
theorem q1893 : (Jvm.Cond.selects "ShaveOfAnotherModel" ({ cls := "ShaveOfAnotherModel", name := "mirrors", desc := "()I" } : Jvm.MethodName) ({ cls := "ShaveOfAnotherModel", name := "mirrors", desc := "()I" } : Jvm.MethodName)) ∈ lw_all := lw_g (lw_at lw_m8 90 rfl) rfl
theorem q1894 : (Jvm.Cond.code ({ cls := "ShaveOfAnotherModel", name := "mirrors", desc := "()I" } : Jvm.MethodName) prog_19_method_112_code (2 : Nat) (Option.some Jvm.ClassFile.FieldType.int)) ∈ lw_all := lw_g (lw_at lw_m8 91 rfl) rfl
theorem q1895 : (Jvm.Cond.methodLink "ShaveOfAnotherModel" (401 : Nat) ({ cls := "ShaveOfAnotherModel", name := "isNextTurn", desc := "()Z" } : Jvm.MethodName)) ∈ lw_all := lw_g (lw_at lw_m8 92 rfl) rfl
theorem q1896 : (Jvm.Cond.privateMethod ({ cls := "ShaveOfAnotherModel", name := "isNextTurn", desc := "()Z" } : Jvm.MethodName)) ∈ lw_tbl := lw_at lw_m8 93 rfl
theorem q1897 : (Jvm.Cond.instanceMethod ({ cls := "ShaveOfAnotherModel", name := "isNextTurn", desc := "()Z" } : Jvm.MethodName)) ∈ lw_all := lw_g (lw_at lw_m8 94 rfl) rfl
theorem q1898 : (Jvm.Cond.code ({ cls := "ShaveOfAnotherModel", name := "isNextTurn", desc := "()Z" } : Jvm.MethodName) prog_19_method_110_code (5 : Nat) (Option.some Jvm.ClassFile.FieldType.boolean)) ∈ lw_all := lw_g (lw_at lw_m8 95 rfl) rfl
theorem q1899 : (Jvm.Cond.methodLink "ShaveOfAnotherModel" (398 : Nat) ({ cls := "ShaveOfAnotherModel", name := "swap", desc := "(II)V" } : Jvm.MethodName)) ∈ lw_all := lw_g (lw_at lw_m8 96 rfl) rfl
theorem q1900 : (Jvm.Cond.privateMethod ({ cls := "ShaveOfAnotherModel", name := "swap", desc := "(II)V" } : Jvm.MethodName)) ∈ lw_tbl := lw_at lw_m8 97 rfl
theorem q1901 : (Jvm.Cond.instanceMethod ({ cls := "ShaveOfAnotherModel", name := "swap", desc := "(II)V" } : Jvm.MethodName)) ∈ lw_all := lw_g (lw_at lw_m8 98 rfl) rfl
theorem q1902 : (Jvm.Cond.code ({ cls := "ShaveOfAnotherModel", name := "swap", desc := "(II)V" } : Jvm.MethodName) prog_19_method_109_code (4 : Nat) (Option.none : Option Jvm.ClassFile.FieldType)) ∈ lw_all := lw_g (lw_at lw_m8 99 rfl) rfl
theorem q1903 : (Jvm.Cond.methodLink "ShaveOfAnotherModel" (404 : Nat) ({ cls := "ShaveOfAnotherModel", name := "isMirror", desc := "()Z" } : Jvm.MethodName)) ∈ lw_all := lw_g (lw_at lw_m8 100 rfl) rfl
theorem q1904 : (Jvm.Cond.privateMethod ({ cls := "ShaveOfAnotherModel", name := "isMirror", desc := "()Z" } : Jvm.MethodName)) ∈ lw_tbl := lw_at lw_m8 101 rfl
theorem q1905 : (Jvm.Cond.instanceMethod ({ cls := "ShaveOfAnotherModel", name := "isMirror", desc := "()Z" } : Jvm.MethodName)) ∈ lw_all := lw_g (lw_at lw_m8 102 rfl) rfl
theorem q1906 : (Jvm.Cond.code ({ cls := "ShaveOfAnotherModel", name := "isMirror", desc := "()Z" } : Jvm.MethodName) prog_19_method_111_code (2 : Nat) (Option.some Jvm.ClassFile.FieldType.boolean)) ∈ lw_all := lw_g (lw_at lw_m8 103 rfl) rfl
theorem q1908 : (Jvm.Cond.instanceMethod ({ cls := "ShaveOfAnotherModel", name := "sham", desc := "(I)I" } : Jvm.MethodName)) ∈ lw_all := lw_g (lw_at lw_m8 105 rfl) rfl
theorem q1909 : (Jvm.Cond.selects "ShaveOfAnotherModel" ({ cls := "ShaveOfAnotherModel", name := "sham", desc := "(I)I" } : Jvm.MethodName) ({ cls := "ShaveOfAnotherModel", name := "sham", desc := "(I)I" } : Jvm.MethodName)) ∈ lw_all := lw_g (lw_at lw_m8 106 rfl) rfl
theorem q1910 : (Jvm.Cond.code ({ cls := "ShaveOfAnotherModel", name := "sham", desc := "(I)I" } : Jvm.MethodName) prog_19_method_115_code (2 : Nat) (Option.some Jvm.ClassFile.FieldType.int)) ∈ lw_all := lw_g (lw_at lw_m8 107 rfl) rfl
theorem q1911 : (Jvm.Cond.methodLink "ShaveOfAnotherModel" (410 : Nat) ({ cls := "ShaveOfAnotherModel", name := "shamOf", desc := "(I)I" } : Jvm.MethodName)) ∈ lw_all := lw_g (lw_at lw_m8 108 rfl) rfl
theorem q1912 : (Jvm.Cond.privateMethod ({ cls := "ShaveOfAnotherModel", name := "shamOf", desc := "(I)I" } : Jvm.MethodName)) ∈ lw_tbl := lw_at lw_m8 109 rfl
theorem q1913 : (Jvm.Cond.instanceMethod ({ cls := "ShaveOfAnotherModel", name := "shamOf", desc := "(I)I" } : Jvm.MethodName)) ∈ lw_all := lw_g (lw_at lw_m8 110 rfl) rfl
theorem q1914 : (Jvm.Cond.code ({ cls := "ShaveOfAnotherModel", name := "shamOf", desc := "(I)I" } : Jvm.MethodName) prog_19_method_114_code (4 : Nat) (Option.some Jvm.ClassFile.FieldType.int)) ∈ lw_all := lw_g (lw_at lw_m8 111 rfl) rfl
theorem q1915 : (Jvm.Cond.methodLink "ShaveOfAnotherModel" (407 : Nat) ({ cls := "ShaveOfAnotherModel", name := "ratesBy", desc := "(II)I" } : Jvm.MethodName)) ∈ lw_all := lw_g (lw_at lw_m8 112 rfl) rfl
theorem q1916 : (Jvm.Cond.privateMethod ({ cls := "ShaveOfAnotherModel", name := "ratesBy", desc := "(II)I" } : Jvm.MethodName)) ∈ lw_tbl := lw_at lw_m8 113 rfl
theorem q1917 : (Jvm.Cond.instanceMethod ({ cls := "ShaveOfAnotherModel", name := "ratesBy", desc := "(II)I" } : Jvm.MethodName)) ∈ lw_all := lw_g (lw_at lw_m8 114 rfl) rfl
theorem q1918 : (Jvm.Cond.code ({ cls := "ShaveOfAnotherModel", name := "ratesBy", desc := "(II)I" } : Jvm.MethodName) prog_19_method_113_code (5 : Nat) (Option.some Jvm.ClassFile.FieldType.int)) ∈ lw_all := lw_g (lw_at lw_m8 115 rfl) rfl
theorem q1920 : (Jvm.Cond.instanceMethod ({ cls := "ShaveOfAnotherModel", name := "shams", desc := "()I" } : Jvm.MethodName)) ∈ lw_all := lw_g (lw_at lw_m8 117 rfl) rfl
theorem q1921 : (Jvm.Cond.selects "ShaveOfAnotherModel" ({ cls := "ShaveOfAnotherModel", name := "shams", desc := "()I" } : Jvm.MethodName) ({ cls := "ShaveOfAnotherModel", name := "shams", desc := "()I" } : Jvm.MethodName)) ∈ lw_all := lw_g (lw_at lw_m8 118 rfl) rfl
theorem q1922 : (Jvm.Cond.code ({ cls := "ShaveOfAnotherModel", name := "shams", desc := "()I" } : Jvm.MethodName) prog_19_method_116_code (3 : Nat) (Option.some Jvm.ClassFile.FieldType.int)) ∈ lw_all := lw_g (lw_at lw_m8 119 rfl) rfl
theorem q1924 : (Jvm.Cond.instanceMethod ({ cls := "ShaveOfAnotherModel", name := "till", desc := "(II)I" } : Jvm.MethodName)) ∈ lw_all := lw_g (lw_at lw_m8 121 rfl) rfl
theorem q1925 : (Jvm.Cond.selects "ShaveOfAnotherModel" ({ cls := "ShaveOfAnotherModel", name := "till", desc := "(II)I" } : Jvm.MethodName) ({ cls := "ShaveOfAnotherModel", name := "till", desc := "(II)I" } : Jvm.MethodName)) ∈ lw_all := lw_g (lw_at lw_m8 122 rfl) rfl
theorem q1926 : (Jvm.Cond.code ({ cls := "ShaveOfAnotherModel", name := "till", desc := "(II)I" } : Jvm.MethodName) prog_19_method_117_code (3 : Nat) (Option.some Jvm.ClassFile.FieldType.int)) ∈ lw_all := lw_g (lw_at lw_m8 123 rfl) rfl
theorem q1928 : (Jvm.Cond.instanceMethod ({ cls := "ShaveOfAnotherModel", name := "need", desc := "(II)Z" } : Jvm.MethodName)) ∈ lw_all := lw_g (lw_at lw_m8 125 rfl) rfl
theorem q1929 : (Jvm.Cond.selects "ShaveOfAnotherModel" ({ cls := "ShaveOfAnotherModel", name := "need", desc := "(II)Z" } : Jvm.MethodName) ({ cls := "ShaveOfAnotherModel", name := "need", desc := "(II)Z" } : Jvm.MethodName)) ∈ lw_all := lw_g (lw_at lw_m8 126 rfl) rfl
theorem q1930 : (Jvm.Cond.code ({ cls := "ShaveOfAnotherModel", name := "need", desc := "(II)Z" } : Jvm.MethodName) prog_19_method_118_code (3 : Nat) (Option.some Jvm.ClassFile.FieldType.boolean)) ∈ lw_all := lw_g (lw_at lw_m8 127 rfl) rfl
theorem q1932 : (Jvm.Cond.instanceMethod ({ cls := "ShaveOfAnotherModel", name := "booking", desc := "(I)I" } : Jvm.MethodName)) ∈ lw_all := lw_g (lw_at lw_m8 129 rfl) rfl
theorem q1933 : (Jvm.Cond.selects "ShaveOfAnotherModel" ({ cls := "ShaveOfAnotherModel", name := "booking", desc := "(I)I" } : Jvm.MethodName) ({ cls := "ShaveOfAnotherModel", name := "booking", desc := "(I)I" } : Jvm.MethodName)) ∈ lw_all := lw_g (lw_at lw_m8 130 rfl) rfl
theorem q1934 : (Jvm.Cond.code ({ cls := "ShaveOfAnotherModel", name := "booking", desc := "(I)I" } : Jvm.MethodName) prog_19_method_123_code (6 : Nat) (Option.some Jvm.ClassFile.FieldType.int)) ∈ lw_all := lw_g (lw_at lw_m8 131 rfl) rfl
theorem q1935 : (Jvm.Cond.methodLink "ShaveOfAnotherModel" (423 : Nat) ({ cls := "ShaveOfAnotherModel", name := "laySittings", desc := "()I" } : Jvm.MethodName)) ∈ lw_all := lw_g (lw_at lw_m8 132 rfl) rfl
theorem q1936 : (Jvm.Cond.privateMethod ({ cls := "ShaveOfAnotherModel", name := "laySittings", desc := "()I" } : Jvm.MethodName)) ∈ lw_tbl := lw_at lw_m8 133 rfl
theorem q1937 : (Jvm.Cond.instanceMethod ({ cls := "ShaveOfAnotherModel", name := "laySittings", desc := "()I" } : Jvm.MethodName)) ∈ lw_all := lw_g (lw_at lw_m8 134 rfl) rfl
theorem q1938 : (Jvm.Cond.code ({ cls := "ShaveOfAnotherModel", name := "laySittings", desc := "()I" } : Jvm.MethodName) prog_19_method_122_code (6 : Nat) (Option.some Jvm.ClassFile.FieldType.int)) ∈ lw_all := lw_g (lw_at lw_m8 135 rfl) rfl
theorem q1939 : (Jvm.Cond.methodLink "ShaveOfAnotherModel" (416 : Nat) ({ cls := "ShaveOfAnotherModel", name := "isWithin", desc := "(II)Z" } : Jvm.MethodName)) ∈ lw_all := lw_g (lw_at lw_m8 136 rfl) rfl
theorem q1940 : (Jvm.Cond.static ({ cls := "ShaveOfAnotherModel", name := "isWithin", desc := "(II)Z" } : Jvm.MethodName)) ∈ lw_all := lw_g (lw_at lw_m8 137 rfl) rfl
theorem q1941 : (Jvm.Cond.code ({ cls := "ShaveOfAnotherModel", name := "isWithin", desc := "(II)Z" } : Jvm.MethodName) prog_19_method_121_code (3 : Nat) (Option.some Jvm.ClassFile.FieldType.boolean)) ∈ lw_all := lw_g (lw_at lw_m8 138 rfl) rfl
theorem q1942 : (Jvm.Cond.constant "ShaveOfAnotherModel" (419 : Nat) (1000000 : Int32)) ∈ lw_all := lw_g (lw_at lw_m8 139 rfl) rfl
theorem q1943 : (Jvm.Cond.methodLink "ShaveOfAnotherModel" (420 : Nat) ({ cls := "ShaveOfAnotherModel", name := "behindSitting", desc := "(II)I" } : Jvm.MethodName)) ∈ lw_all := lw_g (lw_at lw_m8 140 rfl) rfl
theorem q1944 : (Jvm.Cond.privateMethod ({ cls := "ShaveOfAnotherModel", name := "behindSitting", desc := "(II)I" } : Jvm.MethodName)) ∈ lw_tbl := lw_at lw_m8 141 rfl
theorem q1945 : (Jvm.Cond.instanceMethod ({ cls := "ShaveOfAnotherModel", name := "behindSitting", desc := "(II)I" } : Jvm.MethodName)) ∈ lw_all := lw_g (lw_at lw_m8 142 rfl) rfl
theorem q1946 : (Jvm.Cond.code ({ cls := "ShaveOfAnotherModel", name := "behindSitting", desc := "(II)I" } : Jvm.MethodName) prog_19_method_120_code (5 : Nat) (Option.some Jvm.ClassFile.FieldType.int)) ∈ lw_all := lw_g (lw_at lw_m8 143 rfl) rfl
theorem q1947 : (Jvm.Cond.methodLink "ShaveOfAnotherModel" (413 : Nat) ({ cls := "ShaveOfAnotherModel", name := "lessBy", desc := "(II)I" } : Jvm.MethodName)) ∈ lw_all := lw_g (lw_at lw_m8 144 rfl) rfl
theorem q1948 : (Jvm.Cond.static ({ cls := "ShaveOfAnotherModel", name := "lessBy", desc := "(II)I" } : Jvm.MethodName)) ∈ lw_all := lw_g (lw_at lw_m8 145 rfl) rfl
theorem q1949 : (Jvm.Cond.code ({ cls := "ShaveOfAnotherModel", name := "lessBy", desc := "(II)I" } : Jvm.MethodName) prog_19_method_119_code (2 : Nat) (Option.some Jvm.ClassFile.FieldType.int)) ∈ lw_all := lw_g (lw_at lw_m8 146 rfl) rfl
theorem q1951 : (Jvm.Cond.instanceMethod ({ cls := "ShaveOfAnotherModel", name := "seen", desc := "(II)I" } : Jvm.MethodName)) ∈ lw_all := lw_g (lw_at lw_m8 148 rfl) rfl
theorem q1952 : (Jvm.Cond.selects "ShaveOfAnotherModel" ({ cls := "ShaveOfAnotherModel", name := "seen", desc := "(II)I" } : Jvm.MethodName) ({ cls := "ShaveOfAnotherModel", name := "seen", desc := "(II)I" } : Jvm.MethodName)) ∈ lw_all := lw_g (lw_at lw_m8 149 rfl) rfl
theorem q1953 : (Jvm.Cond.code ({ cls := "ShaveOfAnotherModel", name := "seen", desc := "(II)I" } : Jvm.MethodName) prog_19_method_124_code (3 : Nat) (Option.some Jvm.ClassFile.FieldType.int)) ∈ lw_all := lw_g (lw_at lw_m8 150 rfl) rfl
theorem q1955 : (Jvm.Cond.instanceMethod ({ cls := "ShaveOfAnotherModel", name := "fits", desc := "(I)I" } : Jvm.MethodName)) ∈ lw_all := lw_g (lw_at lw_m8 152 rfl) rfl
theorem q1956 : (Jvm.Cond.selects "ShaveOfAnotherModel" ({ cls := "ShaveOfAnotherModel", name := "fits", desc := "(I)I" } : Jvm.MethodName) ({ cls := "ShaveOfAnotherModel", name := "fits", desc := "(I)I" } : Jvm.MethodName)) ∈ lw_all := lw_g (lw_at lw_m8 153 rfl) rfl
theorem q1957 : (Jvm.Cond.code ({ cls := "ShaveOfAnotherModel", name := "fits", desc := "(I)I" } : Jvm.MethodName) prog_19_method_128_code (2 : Nat) (Option.some Jvm.ClassFile.FieldType.int)) ∈ lw_all := lw_g (lw_at lw_m8 154 rfl) rfl
theorem q1958 : (Jvm.Cond.methodLink "ShaveOfAnotherModel" (435 : Nat) ({ cls := "ShaveOfAnotherModel", name := "layWays", desc := "(I)V" } : Jvm.MethodName)) ∈ lw_all := lw_g (lw_at lw_m8 155 rfl) rfl
theorem q1959 : (Jvm.Cond.privateMethod ({ cls := "ShaveOfAnotherModel", name := "layWays", desc := "(I)V" } : Jvm.MethodName)) ∈ lw_tbl := lw_at lw_m8 156 rfl
theorem q1960 : (Jvm.Cond.instanceMethod ({ cls := "ShaveOfAnotherModel", name := "layWays", desc := "(I)V" } : Jvm.MethodName)) ∈ lw_all := lw_g (lw_at lw_m8 157 rfl) rfl
theorem q1961 : (Jvm.Cond.code ({ cls := "ShaveOfAnotherModel", name := "layWays", desc := "(I)V" } : Jvm.MethodName) prog_19_method_127_code (5 : Nat) (Option.none : Option Jvm.ClassFile.FieldType)) ∈ lw_all := lw_g (lw_at lw_m8 158 rfl) rfl
theorem q1962 : (Jvm.Cond.methodLink "ShaveOfAnotherModel" (432 : Nat) ({ cls := "ShaveOfAnotherModel", name := "isSeenBy", desc := "(II)Z" } : Jvm.MethodName)) ∈ lw_all := lw_g (lw_at lw_m8 159 rfl) rfl
theorem q1963 : (Jvm.Cond.privateMethod ({ cls := "ShaveOfAnotherModel", name := "isSeenBy", desc := "(II)Z" } : Jvm.MethodName)) ∈ lw_tbl := lw_at lw_m8 160 rfl
theorem q1964 : (Jvm.Cond.instanceMethod ({ cls := "ShaveOfAnotherModel", name := "isSeenBy", desc := "(II)Z" } : Jvm.MethodName)) ∈ lw_all := lw_g (lw_at lw_m8 161 rfl) rfl
theorem q1965 : (Jvm.Cond.code ({ cls := "ShaveOfAnotherModel", name := "isSeenBy", desc := "(II)Z" } : Jvm.MethodName) prog_19_method_126_code (7 : Nat) (Option.some Jvm.ClassFile.FieldType.boolean)) ∈ lw_all := lw_g (lw_at lw_m8 162 rfl) rfl
theorem q1966 : (Jvm.Cond.methodLink "ShaveOfAnotherModel" (426 : Nat) ({ cls := "ShaveOfAnotherModel", name := "digitOf", desc := "(III)I" } : Jvm.MethodName)) ∈ lw_all := lw_g (lw_at lw_m8 163 rfl) rfl
theorem q1967 : (Jvm.Cond.static ({ cls := "ShaveOfAnotherModel", name := "digitOf", desc := "(III)I" } : Jvm.MethodName)) ∈ lw_all := lw_g (lw_at lw_m8 164 rfl) rfl
theorem q1968 : (Jvm.Cond.code ({ cls := "ShaveOfAnotherModel", name := "digitOf", desc := "(III)I" } : Jvm.MethodName) prog_19_method_125_code (5 : Nat) (Option.some Jvm.ClassFile.FieldType.int)) ∈ lw_all := lw_g (lw_at lw_m8 165 rfl) rfl
theorem q1970 : (Jvm.Cond.instanceMethod ({ cls := "ShaveOfAnotherModel", name := "whose", desc := "(II)I" } : Jvm.MethodName)) ∈ lw_all := lw_g (lw_at lw_m8 167 rfl) rfl
theorem q1971 : (Jvm.Cond.selects "ShaveOfAnotherModel" ({ cls := "ShaveOfAnotherModel", name := "whose", desc := "(II)I" } : Jvm.MethodName) ({ cls := "ShaveOfAnotherModel", name := "whose", desc := "(II)I" } : Jvm.MethodName)) ∈ lw_all := lw_g (lw_at lw_m8 168 rfl) rfl
theorem q1972 : (Jvm.Cond.code ({ cls := "ShaveOfAnotherModel", name := "whose", desc := "(II)I" } : Jvm.MethodName) prog_19_method_129_code (3 : Nat) (Option.some Jvm.ClassFile.FieldType.int)) ∈ lw_all := lw_g (lw_at lw_m8 169 rfl) rfl
theorem q1974 : (Jvm.Cond.instanceMethod ({ cls := "ShaveOfAnotherModel", name := "next", desc := "(I)I" } : Jvm.MethodName)) ∈ lw_all := lw_g (lw_at lw_m8 171 rfl) rfl
theorem q1975 : (Jvm.Cond.selects "ShaveOfAnotherModel" ({ cls := "ShaveOfAnotherModel", name := "next", desc := "(I)I" } : Jvm.MethodName) ({ cls := "ShaveOfAnotherModel", name := "next", desc := "(I)I" } : Jvm.MethodName)) ∈ lw_all := lw_g (lw_at lw_m8 172 rfl) rfl
theorem q1976 : (Jvm.Cond.code ({ cls := "ShaveOfAnotherModel", name := "next", desc := "(I)I" } : Jvm.MethodName) prog_19_method_130_code (5 : Nat) (Option.some Jvm.ClassFile.FieldType.int)) ∈ lw_all := lw_g (lw_at lw_m8 173 rfl) rfl
theorem q1978 : (Jvm.Cond.instanceMethod ({ cls := "ShaveOfAnotherModel", name := "cut", desc := "(III)Z" } : Jvm.MethodName)) ∈ lw_all := lw_g (lw_at lw_m8 175 rfl) rfl
theorem q1979 : (Jvm.Cond.selects "ShaveOfAnotherModel" ({ cls := "ShaveOfAnotherModel", name := "cut", desc := "(III)Z" } : Jvm.MethodName) ({ cls := "ShaveOfAnotherModel", name := "cut", desc := "(III)Z" } : Jvm.MethodName)) ∈ lw_all := lw_g (lw_at lw_m8 176 rfl) rfl
theorem q1980 : (Jvm.Cond.code ({ cls := "ShaveOfAnotherModel", name := "cut", desc := "(III)Z" } : Jvm.MethodName) prog_19_method_131_code (4 : Nat) (Option.some Jvm.ClassFile.FieldType.boolean)) ∈ lw_all := lw_g (lw_at lw_m8 177 rfl) rfl
theorem q1982 : (Jvm.Cond.instanceMethod ({ cls := "ShaveOfAnotherModel", name := "pairs", desc := "(II)I" } : Jvm.MethodName)) ∈ lw_all := lw_g (lw_at lw_m8 179 rfl) rfl
theorem q1983 : (Jvm.Cond.selects "ShaveOfAnotherModel" ({ cls := "ShaveOfAnotherModel", name := "pairs", desc := "(II)I" } : Jvm.MethodName) ({ cls := "ShaveOfAnotherModel", name := "pairs", desc := "(II)I" } : Jvm.MethodName)) ∈ lw_all := lw_g (lw_at lw_m8 180 rfl) rfl
theorem q1984 : (Jvm.Cond.code ({ cls := "ShaveOfAnotherModel", name := "pairs", desc := "(II)I" } : Jvm.MethodName) prog_19_method_134_code (6 : Nat) (Option.some Jvm.ClassFile.FieldType.int)) ∈ lw_all := lw_g (lw_at lw_m8 181 rfl) rfl
theorem q1985 : (Jvm.Cond.methodLink "ShaveOfAnotherModel" (438 : Nat) ({ cls := "ShaveOfAnotherModel", name := "lowestOf", desc := "(I)I" } : Jvm.MethodName)) ∈ lw_all := lw_g (lw_at lw_m8 182 rfl) rfl
theorem q1986 : (Jvm.Cond.static ({ cls := "ShaveOfAnotherModel", name := "lowestOf", desc := "(I)I" } : Jvm.MethodName)) ∈ lw_all := lw_g (lw_at lw_m8 183 rfl) rfl
theorem q1987 : (Jvm.Cond.code ({ cls := "ShaveOfAnotherModel", name := "lowestOf", desc := "(I)I" } : Jvm.MethodName) prog_19_method_132_code (2 : Nat) (Option.some Jvm.ClassFile.FieldType.int)) ∈ lw_all := lw_g (lw_at lw_m8 184 rfl) rfl
theorem q1988 : (Jvm.Cond.methodLink "ShaveOfAnotherModel" (441 : Nat) ({ cls := "ShaveOfAnotherModel", name := "withPair", desc := "(II)I" } : Jvm.MethodName)) ∈ lw_all := lw_g (lw_at lw_m8 185 rfl) rfl
theorem q1989 : (Jvm.Cond.privateMethod ({ cls := "ShaveOfAnotherModel", name := "withPair", desc := "(II)I" } : Jvm.MethodName)) ∈ lw_tbl := lw_at lw_m8 186 rfl
theorem q1990 : (Jvm.Cond.instanceMethod ({ cls := "ShaveOfAnotherModel", name := "withPair", desc := "(II)I" } : Jvm.MethodName)) ∈ lw_all := lw_g (lw_at lw_m8 187 rfl) rfl
theorem q1991 : (Jvm.Cond.code ({ cls := "ShaveOfAnotherModel", name := "withPair", desc := "(II)I" } : Jvm.MethodName) prog_19_method_133_code (4 : Nat) (Option.some Jvm.ClassFile.FieldType.int)) ∈ lw_all := lw_g (lw_at lw_m8 188 rfl) rfl
theorem q1993 : (Jvm.Cond.instanceMethod ({ cls := "ShaveOfAnotherModel", name := "likes", desc := "(III)Z" } : Jvm.MethodName)) ∈ lw_all := lw_g (lw_at lw_m8 190 rfl) rfl
theorem q1994 : (Jvm.Cond.selects "ShaveOfAnotherModel" ({ cls := "ShaveOfAnotherModel", name := "likes", desc := "(III)Z" } : Jvm.MethodName) ({ cls := "ShaveOfAnotherModel", name := "likes", desc := "(III)Z" } : Jvm.MethodName)) ∈ lw_all := lw_g (lw_at lw_m8 191 rfl) rfl
theorem q1995 : (Jvm.Cond.code ({ cls := "ShaveOfAnotherModel", name := "likes", desc := "(III)Z" } : Jvm.MethodName) prog_19_method_135_code (4 : Nat) (Option.some Jvm.ClassFile.FieldType.boolean)) ∈ lw_all := lw_g (lw_at lw_m8 192 rfl) rfl
theorem q1997 : (Jvm.Cond.instanceMethod ({ cls := "ShaveOfAnotherModel", name := "traded", desc := "(II)I" } : Jvm.MethodName)) ∈ lw_all := lw_g (lw_at lw_m8 194 rfl) rfl
theorem q1998 : (Jvm.Cond.selects "ShaveOfAnotherModel" ({ cls := "ShaveOfAnotherModel", name := "traded", desc := "(II)I" } : Jvm.MethodName) ({ cls := "ShaveOfAnotherModel", name := "traded", desc := "(II)I" } : Jvm.MethodName)) ∈ lw_all := lw_g (lw_at lw_m8 195 rfl) rfl
theorem q1999 : (Jvm.Cond.code ({ cls := "ShaveOfAnotherModel", name := "traded", desc := "(II)I" } : Jvm.MethodName) prog_19_method_138_code (3 : Nat) (Option.some Jvm.ClassFile.FieldType.int)) ∈ lw_all := lw_g (lw_at lw_m8 196 rfl) rfl
theorem q2000 : (Jvm.Cond.methodLink "ShaveOfAnotherModel" (447 : Nat) ({ cls := "ShaveOfAnotherModel", name := "layTrades", desc := "(I)V" } : Jvm.MethodName)) ∈ lw_all := lw_g (lw_at lw_m8 197 rfl) rfl
theorem q2001 : (Jvm.Cond.privateMethod ({ cls := "ShaveOfAnotherModel", name := "layTrades", desc := "(I)V" } : Jvm.MethodName)) ∈ lw_tbl := lw_at lw_m8 198 rfl
theorem q2002 : (Jvm.Cond.instanceMethod ({ cls := "ShaveOfAnotherModel", name := "layTrades", desc := "(I)V" } : Jvm.MethodName)) ∈ lw_all := lw_g (lw_at lw_m8 199 rfl) rfl
theorem q2003 : (Jvm.Cond.code ({ cls := "ShaveOfAnotherModel", name := "layTrades", desc := "(I)V" } : Jvm.MethodName) prog_19_method_137_code (5 : Nat) (Option.none : Option Jvm.ClassFile.FieldType)) ∈ lw_all := lw_g (lw_at lw_m8 200 rfl) rfl
theorem q2004 : (Jvm.Cond.methodLink "ShaveOfAnotherModel" (444 : Nat) ({ cls := "ShaveOfAnotherModel", name := "bestOf", desc := "(II)I" } : Jvm.MethodName)) ∈ lw_all := lw_g (lw_at lw_m8 201 rfl) rfl
theorem q2005 : (Jvm.Cond.privateMethod ({ cls := "ShaveOfAnotherModel", name := "bestOf", desc := "(II)I" } : Jvm.MethodName)) ∈ lw_tbl := lw_at lw_m8 202 rfl
theorem q2006 : (Jvm.Cond.instanceMethod ({ cls := "ShaveOfAnotherModel", name := "bestOf", desc := "(II)I" } : Jvm.MethodName)) ∈ lw_all := lw_g (lw_at lw_m8 203 rfl) rfl
theorem q2007 : (Jvm.Cond.code ({ cls := "ShaveOfAnotherModel", name := "bestOf", desc := "(II)I" } : Jvm.MethodName) prog_19_method_136_code (5 : Nat) (Option.some Jvm.ClassFile.FieldType.int)) ∈ lw_all := lw_g (lw_at lw_m8 204 rfl) rfl
theorem q2009 : (Jvm.Cond.instanceMethod ({ cls := "ShaveOfAnotherModel", name := "rather", desc := "(I)I" } : Jvm.MethodName)) ∈ lw_all := lw_g (lw_at lw_m8 206 rfl) rfl
theorem q2010 : (Jvm.Cond.selects "ShaveOfAnotherModel" ({ cls := "ShaveOfAnotherModel", name := "rather", desc := "(I)I" } : Jvm.MethodName) ({ cls := "ShaveOfAnotherModel", name := "rather", desc := "(I)I" } : Jvm.MethodName)) ∈ lw_all := lw_g (lw_at lw_m8 207 rfl) rfl
theorem q2011 : (Jvm.Cond.code ({ cls := "ShaveOfAnotherModel", name := "rather", desc := "(I)I" } : Jvm.MethodName) prog_19_method_139_code (4 : Nat) (Option.some Jvm.ClassFile.FieldType.int)) ∈ lw_all := lw_g (lw_at lw_m8 208 rfl) rfl
theorem q2013 : (Jvm.Cond.instanceMethod ({ cls := "ShaveOfAnotherModel", name := "slip", desc := "(II)Z" } : Jvm.MethodName)) ∈ lw_all := lw_g (lw_at lw_m8 210 rfl) rfl
theorem q2014 : (Jvm.Cond.selects "ShaveOfAnotherModel" ({ cls := "ShaveOfAnotherModel", name := "slip", desc := "(II)Z" } : Jvm.MethodName) ({ cls := "ShaveOfAnotherModel", name := "slip", desc := "(II)Z" } : Jvm.MethodName)) ∈ lw_all := lw_g (lw_at lw_m8 211 rfl) rfl
theorem q2015 : (Jvm.Cond.code ({ cls := "ShaveOfAnotherModel", name := "slip", desc := "(II)Z" } : Jvm.MethodName) prog_19_method_140_code (3 : Nat) (Option.some Jvm.ClassFile.FieldType.boolean)) ∈ lw_all := lw_g (lw_at lw_m8 212 rfl) rfl
theorem q2017 : (Jvm.Cond.instanceMethod ({ cls := "ShaveOfAnotherModel", name := "scars", desc := "(IIZ)J" } : Jvm.MethodName)) ∈ lw_all := lw_g (lw_at lw_m8 214 rfl) rfl
theorem q2018 : (Jvm.Cond.selects "ShaveOfAnotherModel" ({ cls := "ShaveOfAnotherModel", name := "scars", desc := "(IIZ)J" } : Jvm.MethodName) ({ cls := "ShaveOfAnotherModel", name := "scars", desc := "(IIZ)J" } : Jvm.MethodName)) ∈ lw_all := lw_g (lw_at lw_m8 215 rfl) rfl
theorem q2019 : (Jvm.Cond.code ({ cls := "ShaveOfAnotherModel", name := "scars", desc := "(IIZ)J" } : Jvm.MethodName) prog_19_method_141_code (8 : Nat) (Option.some Jvm.ClassFile.FieldType.long)) ∈ lw_all := lw_g (lw_at lw_m8 216 rfl) rfl
theorem q2020 : (Jvm.Cond.constantLong "ShaveOfAnotherModel" (450 : Nat) (-1 : Int64)) ∈ lw_all := lw_g (lw_at lw_m8 217 rfl) rfl
theorem q2021 : (Jvm.Cond.constantLong "ShaveOfAnotherModel" (452 : Nat) (10 : Int64)) ∈ lw_all := lw_g (lw_at lw_m8 218 rfl) rfl
theorem q2023 : (Jvm.Cond.instanceMethod ({ cls := "ShaveOfAnotherModel", name := "rate", desc := "(II)I" } : Jvm.MethodName)) ∈ lw_all := lw_g (lw_at lw_m8 220 rfl) rfl
theorem q2024 : (Jvm.Cond.selects "ShaveOfAnotherModel" ({ cls := "ShaveOfAnotherModel", name := "rate", desc := "(II)I" } : Jvm.MethodName) ({ cls := "ShaveOfAnotherModel", name := "rate", desc := "(II)I" } : Jvm.MethodName)) ∈ lw_all := lw_g (lw_at lw_m8 221 rfl) rfl
theorem q2025 : (Jvm.Cond.code ({ cls := "ShaveOfAnotherModel", name := "rate", desc := "(II)I" } : Jvm.MethodName) prog_19_method_142_code (3 : Nat) (Option.some Jvm.ClassFile.FieldType.int)) ∈ lw_all := lw_g (lw_at lw_m8 222 rfl) rfl
theorem q2027 : (Jvm.Cond.instanceMethod ({ cls := "ShaveOfAnotherModel", name := "law", desc := "()I" } : Jvm.MethodName)) ∈ lw_all := lw_g (lw_at lw_m8 224 rfl) rfl
theorem q2028 : (Jvm.Cond.selects "ShaveOfAnotherModel" ({ cls := "ShaveOfAnotherModel", name := "law", desc := "()I" } : Jvm.MethodName) ({ cls := "ShaveOfAnotherModel", name := "law", desc := "()I" } : Jvm.MethodName)) ∈ lw_all := lw_g (lw_at lw_m8 225 rfl) rfl
theorem q2029 : (Jvm.Cond.code ({ cls := "ShaveOfAnotherModel", name := "law", desc := "()I" } : Jvm.MethodName) prog_19_method_143_code (5 : Nat) (Option.some Jvm.ClassFile.FieldType.int)) ∈ lw_all := lw_g (lw_at lw_m8 226 rfl) rfl
theorem q2031 : (Jvm.Cond.instanceMethod ({ cls := "ShaveOfAnotherModel", name := "image", desc := "()I" } : Jvm.MethodName)) ∈ lw_all := lw_g (lw_at lw_m8 228 rfl) rfl
theorem q2032 : (Jvm.Cond.selects "ShaveOfAnotherModel" ({ cls := "ShaveOfAnotherModel", name := "image", desc := "()I" } : Jvm.MethodName) ({ cls := "ShaveOfAnotherModel", name := "image", desc := "()I" } : Jvm.MethodName)) ∈ lw_all := lw_g (lw_at lw_m8 229 rfl) rfl
theorem q2033 : (Jvm.Cond.code ({ cls := "ShaveOfAnotherModel", name := "image", desc := "()I" } : Jvm.MethodName) prog_19_method_144_code (1 : Nat) (Option.some Jvm.ClassFile.FieldType.int)) ∈ lw_all := lw_g (lw_at lw_m8 230 rfl) rfl
theorem q2035 : (Jvm.Cond.instanceMethod ({ cls := "ShaveOfAnotherModel", name := "back", desc := "()I" } : Jvm.MethodName)) ∈ lw_all := lw_g (lw_at lw_m8 232 rfl) rfl
theorem q2036 : (Jvm.Cond.selects "ShaveOfAnotherModel" ({ cls := "ShaveOfAnotherModel", name := "back", desc := "()I" } : Jvm.MethodName) ({ cls := "ShaveOfAnotherModel", name := "back", desc := "()I" } : Jvm.MethodName)) ∈ lw_all := lw_g (lw_at lw_m8 233 rfl) rfl
theorem q2037 : (Jvm.Cond.code ({ cls := "ShaveOfAnotherModel", name := "back", desc := "()I" } : Jvm.MethodName) prog_19_method_145_code (1 : Nat) (Option.some Jvm.ClassFile.FieldType.int)) ∈ lw_all := lw_g (lw_at lw_m8 234 rfl) rfl
theorem q2039 : (Jvm.Cond.instanceMethod ({ cls := "ShaveOfAnotherModel", name := "about", desc := "(I)I" } : Jvm.MethodName)) ∈ lw_all := lw_g (lw_at lw_m8 236 rfl) rfl
theorem q2040 : (Jvm.Cond.selects "ShaveOfAnotherModel" ({ cls := "ShaveOfAnotherModel", name := "about", desc := "(I)I" } : Jvm.MethodName) ({ cls := "ShaveOfAnotherModel", name := "about", desc := "(I)I" } : Jvm.MethodName)) ∈ lw_all := lw_g (lw_at lw_m8 237 rfl) rfl
theorem q2041 : (Jvm.Cond.code ({ cls := "ShaveOfAnotherModel", name := "about", desc := "(I)I" } : Jvm.MethodName) prog_19_method_146_code (2 : Nat) (Option.some Jvm.ClassFile.FieldType.int)) ∈ lw_all := lw_g (lw_at lw_m8 238 rfl) rfl
theorem q2050 : (Jvm.Cond.castable "ShaveOfAnotherModel" "java/lang/Object") ∈ lw_tbl := lw_at lw_m9 7 rfl
theorem in_X2 : ∀ w ∈ wsX20, w ∈ lw_all := lw_in wsX20 [1406, 1408, 1410, 1412, 1414, 1416, 1418, 1420, 1422, 1424, 1426, 1428, 1430, 1432, 1434, 1436, 1438, 1440, 1442, 1444, 1446, 1448, 1450, 1452, 1454, 1456, 1458, 1460, 1462, 1464, 1466, 1468] (by decide +kernel) (by decide +kernel)
