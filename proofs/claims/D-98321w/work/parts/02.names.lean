/-! DECODE ROWS BY BYTES: one lemma an opcode; a method's code is cut into short pieces once, and a row reads its own piece alone. -/
set_option maxRecDepth 100000
/-- the code has just these bytes from pc on -/
def DkAt (code : ByteArray) (pc : Nat) (bs : List UInt8) : Prop := ∀ (j : Nat) (b : UInt8), bs[j]? = some b → code.data.toList[pc + j]? = some b
/-- the piece W has the bytes bs from its place j on -/
def dkIn (W : List UInt8) (j : Nat) (bs : List UInt8) : Bool := decide ((W.drop j).take bs.length = bs)
theorem dk_seg {l W T : List UInt8} {o o2 : Nat} (h : l.drop o = W ++ T) (n : Nat) (hn : W.length = n) (ho : o + n = o2) : l.drop o2 = T := by
  subst ho
  rw [← List.drop_drop, h, List.drop_left' hn]
theorem dk_at {code : ByteArray} {W T bs : List UInt8} {o pc : Nat} (h : code.data.toList.drop o = W ++ T) (j : Nat) (hp : o + j = pc) (hw : dkIn W j bs = true) : DkAt code pc bs := by
  subst hp
  intro i b e
  have h1 := of_decide_eq_true hw
  have h2 : i < bs.length := (List.getElem?_eq_some_iff.mp e).1
  have h3 : W[j + i]? = some b := by
    rw [← h1, List.getElem?_take, if_pos h2, List.getElem?_drop] at e
    exact e
  have h4 : j + i < W.length := (List.getElem?_eq_some_iff.mp h3).1
  have h5 : (code.data.toList.drop o)[j + i]? = some b := by
    rw [h, List.getElem?_append_left h4]
    exact h3
  rw [List.getElem?_drop, ← Nat.add_assoc] at h5
  exact h5
theorem dk_u1 {A : ByteArray} {p : Nat} {b : UInt8} (h : A.data.toList[p]? = some b) : (Reader.u1 : Reader DecodeError Nat) A p = .ok (b.toNat, p + 1) := by
  obtain ⟨h1, h2⟩ := List.getElem?_eq_some_iff.mp h
  have h3 : p < A.size := by simpa using h1
  have h4 : A[p]'h3 = b := h2
  have e : (Reader.u1 : Reader DecodeError Nat) A p = (if h : p < A.size then .ok (A[p].toNat, p + 1) else .error (HasTruncated.truncated p)) := by
    show (do if h : p < A.size then do set (p + 1); Pure.pure A[p].toNat else MonadExcept.throw (HasTruncated.truncated p) : Reader DecodeError Nat) A p = _
    by_cases hi : p < A.size
    · rw [dif_pos hi, dif_pos hi]; rfl
    · rw [dif_neg hi, dif_neg hi]; rfl
  rw [e, dif_pos h3, h4]
theorem dk_bind {α β : Type} {r : Reader DecodeError α} {f : α → Reader DecodeError β} {A : ByteArray} {p s : Nat} {a : α} (h : r A p = .ok (a, s)) : (r >>= f) A p = f a A s := by
  show (do let (a, s) ← r A p; f a A s : Except DecodeError (β × Nat)) = _
  rw [h]
  rfl
theorem dk_map {α β : Type} {r : Reader DecodeError α} {g : α → β} {A : ByteArray} {p s : Nat} {a : α} (h : r A p = .ok (a, s)) : (g <$> r) A p = .ok (g a, s) := by
  show (do let (a, s) ← r A p; .ok (g a, s) : Except DecodeError (β × Nat)) = _
  rw [h]
  rfl
theorem dk_u2 {A : ByteArray} {p : Nat} {a b : UInt8} (h : A.data.toList[p]? = some a) (h2 : A.data.toList[p + 1]? = some b) : (Reader.u2 : Reader DecodeError Nat) A p = .ok (a.toNat * 256 + b.toNat, p + 2) := by
  show (Reader.u1 >>= fun hi => Reader.u1 >>= fun lo => Pure.pure (hi * 256 + lo) : Reader DecodeError Nat) A p = _
  rw [dk_bind (dk_u1 h), dk_bind (dk_u1 h2)]
  rfl
theorem dk_of {code : ByteArray} {pc n : Nat} {i : Instr} (h : Decoder.instr pc code pc = .ok (i, pc + n)) : decode code pc = .ok (i, n) := by
  have e : decode code pc = (match Decoder.instr pc code pc with | .error x => .error x | .ok (j, s) => .ok (j, s - pc)) := by
    show (do let (j, s) ← Decoder.instr pc code pc; Pure.pure (j, s - pc) : Except DecodeError (Instr × Nat)) = _
    cases Decoder.instr pc code pc <;> rfl
  rw [e, h]
  show Except.ok (i, pc + n - pc) = _
  rw [Nat.add_sub_cancel_left]
theorem dk_1 {code : ByteArray} {pc : Nat} (h : DkAt code pc [1]) : decode code pc = .ok (.aconst_null, 1) := dk_of ((dk_bind (dk_u1 (h 0 _ rfl))).trans rfl)
theorem dk_2 {code : ByteArray} {pc : Nat} (h : DkAt code pc [2]) : decode code pc = .ok (.iconst (-1), 1) := dk_of ((dk_bind (dk_u1 (h 0 _ rfl))).trans rfl)
theorem dk_3 {code : ByteArray} {pc : Nat} (h : DkAt code pc [3]) : decode code pc = .ok (.iconst 0, 1) := dk_of ((dk_bind (dk_u1 (h 0 _ rfl))).trans rfl)
theorem dk_4 {code : ByteArray} {pc : Nat} (h : DkAt code pc [4]) : decode code pc = .ok (.iconst 1, 1) := dk_of ((dk_bind (dk_u1 (h 0 _ rfl))).trans rfl)
theorem dk_5 {code : ByteArray} {pc : Nat} (h : DkAt code pc [5]) : decode code pc = .ok (.iconst 2, 1) := dk_of ((dk_bind (dk_u1 (h 0 _ rfl))).trans rfl)
theorem dk_6 {code : ByteArray} {pc : Nat} (h : DkAt code pc [6]) : decode code pc = .ok (.iconst 3, 1) := dk_of ((dk_bind (dk_u1 (h 0 _ rfl))).trans rfl)
theorem dk_7 {code : ByteArray} {pc : Nat} (h : DkAt code pc [7]) : decode code pc = .ok (.iconst 4, 1) := dk_of ((dk_bind (dk_u1 (h 0 _ rfl))).trans rfl)
theorem dk_8 {code : ByteArray} {pc : Nat} (h : DkAt code pc [8]) : decode code pc = .ok (.iconst 5, 1) := dk_of ((dk_bind (dk_u1 (h 0 _ rfl))).trans rfl)
theorem dk_9 {code : ByteArray} {pc : Nat} (h : DkAt code pc [9]) : decode code pc = .ok (.lconst 0, 1) := dk_of ((dk_bind (dk_u1 (h 0 _ rfl))).trans rfl)
theorem dk_10 {code : ByteArray} {pc : Nat} (h : DkAt code pc [10]) : decode code pc = .ok (.lconst 1, 1) := dk_of ((dk_bind (dk_u1 (h 0 _ rfl))).trans rfl)
theorem dk_16 {code : ByteArray} {pc : Nat} (a : UInt8) (h : DkAt code pc [16, a]) : decode code pc = .ok (.bipush (Reader.signed 8 a.toNat), 2) := dk_of ((dk_bind (dk_u1 (h 0 _ rfl))).trans ((dk_bind (dk_map (dk_u1 (h 1 _ rfl)))).trans rfl))
theorem dk_17 {code : ByteArray} {pc : Nat} (a b : UInt8) (h : DkAt code pc [17, a, b]) : decode code pc = .ok (.sipush (Reader.signed 16 (a.toNat * 256 + b.toNat)), 3) := dk_of ((dk_bind (dk_u1 (h 0 _ rfl))).trans ((dk_bind (dk_map (dk_u2 (h 1 _ rfl) (h 2 _ rfl)))).trans rfl))
theorem dk_18 {code : ByteArray} {pc : Nat} (a : UInt8) (h : DkAt code pc [18, a]) : decode code pc = .ok (.ldc a.toNat, 2) := dk_of ((dk_bind (dk_u1 (h 0 _ rfl))).trans ((dk_bind (dk_u1 (h 1 _ rfl))).trans rfl))
theorem dk_19 {code : ByteArray} {pc : Nat} (a b : UInt8) (h : DkAt code pc [19, a, b]) : decode code pc = .ok (.ldc_w (a.toNat * 256 + b.toNat), 3) := dk_of ((dk_bind (dk_u1 (h 0 _ rfl))).trans ((dk_bind (dk_u2 (h 1 _ rfl) (h 2 _ rfl))).trans rfl))
theorem dk_20 {code : ByteArray} {pc : Nat} (a b : UInt8) (h : DkAt code pc [20, a, b]) : decode code pc = .ok (.ldc2_w (a.toNat * 256 + b.toNat), 3) := dk_of ((dk_bind (dk_u1 (h 0 _ rfl))).trans ((dk_bind (dk_u2 (h 1 _ rfl) (h 2 _ rfl))).trans rfl))
theorem dk_21 {code : ByteArray} {pc : Nat} (a : UInt8) (h : DkAt code pc [21, a]) : decode code pc = .ok (.iload a.toNat, 2) := dk_of ((dk_bind (dk_u1 (h 0 _ rfl))).trans ((dk_bind (dk_u1 (h 1 _ rfl))).trans rfl))
theorem dk_22 {code : ByteArray} {pc : Nat} (a : UInt8) (h : DkAt code pc [22, a]) : decode code pc = .ok (.lload a.toNat, 2) := dk_of ((dk_bind (dk_u1 (h 0 _ rfl))).trans ((dk_bind (dk_u1 (h 1 _ rfl))).trans rfl))
theorem dk_25 {code : ByteArray} {pc : Nat} (a : UInt8) (h : DkAt code pc [25, a]) : decode code pc = .ok (.aload a.toNat, 2) := dk_of ((dk_bind (dk_u1 (h 0 _ rfl))).trans ((dk_bind (dk_u1 (h 1 _ rfl))).trans rfl))
theorem dk_26 {code : ByteArray} {pc : Nat} (h : DkAt code pc [26]) : decode code pc = .ok (.iload_n 0, 1) := dk_of ((dk_bind (dk_u1 (h 0 _ rfl))).trans rfl)
theorem dk_27 {code : ByteArray} {pc : Nat} (h : DkAt code pc [27]) : decode code pc = .ok (.iload_n 1, 1) := dk_of ((dk_bind (dk_u1 (h 0 _ rfl))).trans rfl)
theorem dk_28 {code : ByteArray} {pc : Nat} (h : DkAt code pc [28]) : decode code pc = .ok (.iload_n 2, 1) := dk_of ((dk_bind (dk_u1 (h 0 _ rfl))).trans rfl)
theorem dk_29 {code : ByteArray} {pc : Nat} (h : DkAt code pc [29]) : decode code pc = .ok (.iload_n 3, 1) := dk_of ((dk_bind (dk_u1 (h 0 _ rfl))).trans rfl)
theorem dk_30 {code : ByteArray} {pc : Nat} (h : DkAt code pc [30]) : decode code pc = .ok (.lload_n 0, 1) := dk_of ((dk_bind (dk_u1 (h 0 _ rfl))).trans rfl)
theorem dk_31 {code : ByteArray} {pc : Nat} (h : DkAt code pc [31]) : decode code pc = .ok (.lload_n 1, 1) := dk_of ((dk_bind (dk_u1 (h 0 _ rfl))).trans rfl)
theorem dk_32 {code : ByteArray} {pc : Nat} (h : DkAt code pc [32]) : decode code pc = .ok (.lload_n 2, 1) := dk_of ((dk_bind (dk_u1 (h 0 _ rfl))).trans rfl)
theorem dk_33 {code : ByteArray} {pc : Nat} (h : DkAt code pc [33]) : decode code pc = .ok (.lload_n 3, 1) := dk_of ((dk_bind (dk_u1 (h 0 _ rfl))).trans rfl)
theorem dk_42 {code : ByteArray} {pc : Nat} (h : DkAt code pc [42]) : decode code pc = .ok (.aload_n 0, 1) := dk_of ((dk_bind (dk_u1 (h 0 _ rfl))).trans rfl)
theorem dk_43 {code : ByteArray} {pc : Nat} (h : DkAt code pc [43]) : decode code pc = .ok (.aload_n 1, 1) := dk_of ((dk_bind (dk_u1 (h 0 _ rfl))).trans rfl)
theorem dk_44 {code : ByteArray} {pc : Nat} (h : DkAt code pc [44]) : decode code pc = .ok (.aload_n 2, 1) := dk_of ((dk_bind (dk_u1 (h 0 _ rfl))).trans rfl)
theorem dk_45 {code : ByteArray} {pc : Nat} (h : DkAt code pc [45]) : decode code pc = .ok (.aload_n 3, 1) := dk_of ((dk_bind (dk_u1 (h 0 _ rfl))).trans rfl)
theorem dk_46 {code : ByteArray} {pc : Nat} (h : DkAt code pc [46]) : decode code pc = .ok (.iaload, 1) := dk_of ((dk_bind (dk_u1 (h 0 _ rfl))).trans rfl)
theorem dk_47 {code : ByteArray} {pc : Nat} (h : DkAt code pc [47]) : decode code pc = .ok (.laload, 1) := dk_of ((dk_bind (dk_u1 (h 0 _ rfl))).trans rfl)
theorem dk_50 {code : ByteArray} {pc : Nat} (h : DkAt code pc [50]) : decode code pc = .ok (.aaload, 1) := dk_of ((dk_bind (dk_u1 (h 0 _ rfl))).trans rfl)
theorem dk_51 {code : ByteArray} {pc : Nat} (h : DkAt code pc [51]) : decode code pc = .ok (.baload, 1) := dk_of ((dk_bind (dk_u1 (h 0 _ rfl))).trans rfl)
theorem dk_54 {code : ByteArray} {pc : Nat} (a : UInt8) (h : DkAt code pc [54, a]) : decode code pc = .ok (.istore a.toNat, 2) := dk_of ((dk_bind (dk_u1 (h 0 _ rfl))).trans ((dk_bind (dk_u1 (h 1 _ rfl))).trans rfl))
theorem dk_55 {code : ByteArray} {pc : Nat} (a : UInt8) (h : DkAt code pc [55, a]) : decode code pc = .ok (.lstore a.toNat, 2) := dk_of ((dk_bind (dk_u1 (h 0 _ rfl))).trans ((dk_bind (dk_u1 (h 1 _ rfl))).trans rfl))
theorem dk_58 {code : ByteArray} {pc : Nat} (a : UInt8) (h : DkAt code pc [58, a]) : decode code pc = .ok (.astore a.toNat, 2) := dk_of ((dk_bind (dk_u1 (h 0 _ rfl))).trans ((dk_bind (dk_u1 (h 1 _ rfl))).trans rfl))
theorem dk_59 {code : ByteArray} {pc : Nat} (h : DkAt code pc [59]) : decode code pc = .ok (.istore_n 0, 1) := dk_of ((dk_bind (dk_u1 (h 0 _ rfl))).trans rfl)
theorem dk_60 {code : ByteArray} {pc : Nat} (h : DkAt code pc [60]) : decode code pc = .ok (.istore_n 1, 1) := dk_of ((dk_bind (dk_u1 (h 0 _ rfl))).trans rfl)
theorem dk_61 {code : ByteArray} {pc : Nat} (h : DkAt code pc [61]) : decode code pc = .ok (.istore_n 2, 1) := dk_of ((dk_bind (dk_u1 (h 0 _ rfl))).trans rfl)
theorem dk_62 {code : ByteArray} {pc : Nat} (h : DkAt code pc [62]) : decode code pc = .ok (.istore_n 3, 1) := dk_of ((dk_bind (dk_u1 (h 0 _ rfl))).trans rfl)
theorem dk_65 {code : ByteArray} {pc : Nat} (h : DkAt code pc [65]) : decode code pc = .ok (.lstore_n 2, 1) := dk_of ((dk_bind (dk_u1 (h 0 _ rfl))).trans rfl)
theorem dk_76 {code : ByteArray} {pc : Nat} (h : DkAt code pc [76]) : decode code pc = .ok (.astore_n 1, 1) := dk_of ((dk_bind (dk_u1 (h 0 _ rfl))).trans rfl)
theorem dk_77 {code : ByteArray} {pc : Nat} (h : DkAt code pc [77]) : decode code pc = .ok (.astore_n 2, 1) := dk_of ((dk_bind (dk_u1 (h 0 _ rfl))).trans rfl)
theorem dk_78 {code : ByteArray} {pc : Nat} (h : DkAt code pc [78]) : decode code pc = .ok (.astore_n 3, 1) := dk_of ((dk_bind (dk_u1 (h 0 _ rfl))).trans rfl)
theorem dk_79 {code : ByteArray} {pc : Nat} (h : DkAt code pc [79]) : decode code pc = .ok (.iastore, 1) := dk_of ((dk_bind (dk_u1 (h 0 _ rfl))).trans rfl)
theorem dk_80 {code : ByteArray} {pc : Nat} (h : DkAt code pc [80]) : decode code pc = .ok (.lastore, 1) := dk_of ((dk_bind (dk_u1 (h 0 _ rfl))).trans rfl)
theorem dk_83 {code : ByteArray} {pc : Nat} (h : DkAt code pc [83]) : decode code pc = .ok (.aastore, 1) := dk_of ((dk_bind (dk_u1 (h 0 _ rfl))).trans rfl)
theorem dk_84 {code : ByteArray} {pc : Nat} (h : DkAt code pc [84]) : decode code pc = .ok (.bastore, 1) := dk_of ((dk_bind (dk_u1 (h 0 _ rfl))).trans rfl)
theorem dk_87 {code : ByteArray} {pc : Nat} (h : DkAt code pc [87]) : decode code pc = .ok (.pop, 1) := dk_of ((dk_bind (dk_u1 (h 0 _ rfl))).trans rfl)
theorem dk_89 {code : ByteArray} {pc : Nat} (h : DkAt code pc [89]) : decode code pc = .ok (.dup, 1) := dk_of ((dk_bind (dk_u1 (h 0 _ rfl))).trans rfl)
theorem dk_90 {code : ByteArray} {pc : Nat} (h : DkAt code pc [90]) : decode code pc = .ok (.dup_x1, 1) := dk_of ((dk_bind (dk_u1 (h 0 _ rfl))).trans rfl)
theorem dk_92 {code : ByteArray} {pc : Nat} (h : DkAt code pc [92]) : decode code pc = .ok (.dup2, 1) := dk_of ((dk_bind (dk_u1 (h 0 _ rfl))).trans rfl)
theorem dk_96 {code : ByteArray} {pc : Nat} (h : DkAt code pc [96]) : decode code pc = .ok (.iadd, 1) := dk_of ((dk_bind (dk_u1 (h 0 _ rfl))).trans rfl)
theorem dk_97 {code : ByteArray} {pc : Nat} (h : DkAt code pc [97]) : decode code pc = .ok (.ladd, 1) := dk_of ((dk_bind (dk_u1 (h 0 _ rfl))).trans rfl)
theorem dk_100 {code : ByteArray} {pc : Nat} (h : DkAt code pc [100]) : decode code pc = .ok (.isub, 1) := dk_of ((dk_bind (dk_u1 (h 0 _ rfl))).trans rfl)
theorem dk_101 {code : ByteArray} {pc : Nat} (h : DkAt code pc [101]) : decode code pc = .ok (.lsub, 1) := dk_of ((dk_bind (dk_u1 (h 0 _ rfl))).trans rfl)
theorem dk_104 {code : ByteArray} {pc : Nat} (h : DkAt code pc [104]) : decode code pc = .ok (.imul, 1) := dk_of ((dk_bind (dk_u1 (h 0 _ rfl))).trans rfl)
theorem dk_105 {code : ByteArray} {pc : Nat} (h : DkAt code pc [105]) : decode code pc = .ok (.lmul, 1) := dk_of ((dk_bind (dk_u1 (h 0 _ rfl))).trans rfl)
theorem dk_108 {code : ByteArray} {pc : Nat} (h : DkAt code pc [108]) : decode code pc = .ok (.idiv, 1) := dk_of ((dk_bind (dk_u1 (h 0 _ rfl))).trans rfl)
theorem dk_109 {code : ByteArray} {pc : Nat} (h : DkAt code pc [109]) : decode code pc = .ok (.ldiv, 1) := dk_of ((dk_bind (dk_u1 (h 0 _ rfl))).trans rfl)
theorem dk_112 {code : ByteArray} {pc : Nat} (h : DkAt code pc [112]) : decode code pc = .ok (.irem, 1) := dk_of ((dk_bind (dk_u1 (h 0 _ rfl))).trans rfl)
theorem dk_113 {code : ByteArray} {pc : Nat} (h : DkAt code pc [113]) : decode code pc = .ok (.lrem, 1) := dk_of ((dk_bind (dk_u1 (h 0 _ rfl))).trans rfl)
theorem dk_116 {code : ByteArray} {pc : Nat} (h : DkAt code pc [116]) : decode code pc = .ok (.ineg, 1) := dk_of ((dk_bind (dk_u1 (h 0 _ rfl))).trans rfl)
theorem dk_120 {code : ByteArray} {pc : Nat} (h : DkAt code pc [120]) : decode code pc = .ok (.ishl, 1) := dk_of ((dk_bind (dk_u1 (h 0 _ rfl))).trans rfl)
theorem dk_122 {code : ByteArray} {pc : Nat} (h : DkAt code pc [122]) : decode code pc = .ok (.ishr, 1) := dk_of ((dk_bind (dk_u1 (h 0 _ rfl))).trans rfl)
theorem dk_124 {code : ByteArray} {pc : Nat} (h : DkAt code pc [124]) : decode code pc = .ok (.iushr, 1) := dk_of ((dk_bind (dk_u1 (h 0 _ rfl))).trans rfl)
theorem dk_126 {code : ByteArray} {pc : Nat} (h : DkAt code pc [126]) : decode code pc = .ok (.iand, 1) := dk_of ((dk_bind (dk_u1 (h 0 _ rfl))).trans rfl)
theorem dk_128 {code : ByteArray} {pc : Nat} (h : DkAt code pc [128]) : decode code pc = .ok (.ior, 1) := dk_of ((dk_bind (dk_u1 (h 0 _ rfl))).trans rfl)
theorem dk_130 {code : ByteArray} {pc : Nat} (h : DkAt code pc [130]) : decode code pc = .ok (.ixor, 1) := dk_of ((dk_bind (dk_u1 (h 0 _ rfl))).trans rfl)
theorem dk_132 {code : ByteArray} {pc : Nat} (a b : UInt8) (h : DkAt code pc [132, a, b]) : decode code pc = .ok (.iinc a.toNat (Reader.signed 8 b.toNat), 3) := dk_of ((dk_bind (dk_u1 (h 0 _ rfl))).trans ((dk_bind (dk_u1 (h 1 _ rfl))).trans ((dk_bind (dk_map (dk_u1 (h 2 _ rfl)))).trans rfl)))
theorem dk_133 {code : ByteArray} {pc : Nat} (h : DkAt code pc [133]) : decode code pc = .ok (.i2l, 1) := dk_of ((dk_bind (dk_u1 (h 0 _ rfl))).trans rfl)
theorem dk_136 {code : ByteArray} {pc : Nat} (h : DkAt code pc [136]) : decode code pc = .ok (.l2i, 1) := dk_of ((dk_bind (dk_u1 (h 0 _ rfl))).trans rfl)
theorem dk_145 {code : ByteArray} {pc : Nat} (h : DkAt code pc [145]) : decode code pc = .ok (.i2b, 1) := dk_of ((dk_bind (dk_u1 (h 0 _ rfl))).trans rfl)
theorem dk_146 {code : ByteArray} {pc : Nat} (h : DkAt code pc [146]) : decode code pc = .ok (.i2c, 1) := dk_of ((dk_bind (dk_u1 (h 0 _ rfl))).trans rfl)
theorem dk_148 {code : ByteArray} {pc : Nat} (h : DkAt code pc [148]) : decode code pc = .ok (.lcmp, 1) := dk_of ((dk_bind (dk_u1 (h 0 _ rfl))).trans rfl)
theorem dk_153 {code : ByteArray} {pc : Nat} (a b : UInt8) (h : DkAt code pc [153, a, b]) : decode code pc = .ok (.ifCond .eq (Reader.signed 16 (a.toNat * 256 + b.toNat)), 3) := dk_of ((dk_bind (dk_u1 (h 0 _ rfl))).trans ((dk_bind (dk_map (dk_u2 (h 1 _ rfl) (h 2 _ rfl)))).trans rfl))
theorem dk_154 {code : ByteArray} {pc : Nat} (a b : UInt8) (h : DkAt code pc [154, a, b]) : decode code pc = .ok (.ifCond .ne (Reader.signed 16 (a.toNat * 256 + b.toNat)), 3) := dk_of ((dk_bind (dk_u1 (h 0 _ rfl))).trans ((dk_bind (dk_map (dk_u2 (h 1 _ rfl) (h 2 _ rfl)))).trans rfl))
theorem dk_155 {code : ByteArray} {pc : Nat} (a b : UInt8) (h : DkAt code pc [155, a, b]) : decode code pc = .ok (.ifCond .lt (Reader.signed 16 (a.toNat * 256 + b.toNat)), 3) := dk_of ((dk_bind (dk_u1 (h 0 _ rfl))).trans ((dk_bind (dk_map (dk_u2 (h 1 _ rfl) (h 2 _ rfl)))).trans rfl))
theorem dk_156 {code : ByteArray} {pc : Nat} (a b : UInt8) (h : DkAt code pc [156, a, b]) : decode code pc = .ok (.ifCond .ge (Reader.signed 16 (a.toNat * 256 + b.toNat)), 3) := dk_of ((dk_bind (dk_u1 (h 0 _ rfl))).trans ((dk_bind (dk_map (dk_u2 (h 1 _ rfl) (h 2 _ rfl)))).trans rfl))
theorem dk_157 {code : ByteArray} {pc : Nat} (a b : UInt8) (h : DkAt code pc [157, a, b]) : decode code pc = .ok (.ifCond .gt (Reader.signed 16 (a.toNat * 256 + b.toNat)), 3) := dk_of ((dk_bind (dk_u1 (h 0 _ rfl))).trans ((dk_bind (dk_map (dk_u2 (h 1 _ rfl) (h 2 _ rfl)))).trans rfl))
theorem dk_158 {code : ByteArray} {pc : Nat} (a b : UInt8) (h : DkAt code pc [158, a, b]) : decode code pc = .ok (.ifCond .le (Reader.signed 16 (a.toNat * 256 + b.toNat)), 3) := dk_of ((dk_bind (dk_u1 (h 0 _ rfl))).trans ((dk_bind (dk_map (dk_u2 (h 1 _ rfl) (h 2 _ rfl)))).trans rfl))
theorem dk_159 {code : ByteArray} {pc : Nat} (a b : UInt8) (h : DkAt code pc [159, a, b]) : decode code pc = .ok (.if_icmp .eq (Reader.signed 16 (a.toNat * 256 + b.toNat)), 3) := dk_of ((dk_bind (dk_u1 (h 0 _ rfl))).trans ((dk_bind (dk_map (dk_u2 (h 1 _ rfl) (h 2 _ rfl)))).trans rfl))
theorem dk_160 {code : ByteArray} {pc : Nat} (a b : UInt8) (h : DkAt code pc [160, a, b]) : decode code pc = .ok (.if_icmp .ne (Reader.signed 16 (a.toNat * 256 + b.toNat)), 3) := dk_of ((dk_bind (dk_u1 (h 0 _ rfl))).trans ((dk_bind (dk_map (dk_u2 (h 1 _ rfl) (h 2 _ rfl)))).trans rfl))
theorem dk_161 {code : ByteArray} {pc : Nat} (a b : UInt8) (h : DkAt code pc [161, a, b]) : decode code pc = .ok (.if_icmp .lt (Reader.signed 16 (a.toNat * 256 + b.toNat)), 3) := dk_of ((dk_bind (dk_u1 (h 0 _ rfl))).trans ((dk_bind (dk_map (dk_u2 (h 1 _ rfl) (h 2 _ rfl)))).trans rfl))
theorem dk_162 {code : ByteArray} {pc : Nat} (a b : UInt8) (h : DkAt code pc [162, a, b]) : decode code pc = .ok (.if_icmp .ge (Reader.signed 16 (a.toNat * 256 + b.toNat)), 3) := dk_of ((dk_bind (dk_u1 (h 0 _ rfl))).trans ((dk_bind (dk_map (dk_u2 (h 1 _ rfl) (h 2 _ rfl)))).trans rfl))
theorem dk_163 {code : ByteArray} {pc : Nat} (a b : UInt8) (h : DkAt code pc [163, a, b]) : decode code pc = .ok (.if_icmp .gt (Reader.signed 16 (a.toNat * 256 + b.toNat)), 3) := dk_of ((dk_bind (dk_u1 (h 0 _ rfl))).trans ((dk_bind (dk_map (dk_u2 (h 1 _ rfl) (h 2 _ rfl)))).trans rfl))
theorem dk_164 {code : ByteArray} {pc : Nat} (a b : UInt8) (h : DkAt code pc [164, a, b]) : decode code pc = .ok (.if_icmp .le (Reader.signed 16 (a.toNat * 256 + b.toNat)), 3) := dk_of ((dk_bind (dk_u1 (h 0 _ rfl))).trans ((dk_bind (dk_map (dk_u2 (h 1 _ rfl) (h 2 _ rfl)))).trans rfl))
theorem dk_165 {code : ByteArray} {pc : Nat} (a b : UInt8) (h : DkAt code pc [165, a, b]) : decode code pc = .ok (.if_acmp .eq (Reader.signed 16 (a.toNat * 256 + b.toNat)), 3) := dk_of ((dk_bind (dk_u1 (h 0 _ rfl))).trans ((dk_bind (dk_map (dk_u2 (h 1 _ rfl) (h 2 _ rfl)))).trans rfl))
theorem dk_166 {code : ByteArray} {pc : Nat} (a b : UInt8) (h : DkAt code pc [166, a, b]) : decode code pc = .ok (.if_acmp .ne (Reader.signed 16 (a.toNat * 256 + b.toNat)), 3) := dk_of ((dk_bind (dk_u1 (h 0 _ rfl))).trans ((dk_bind (dk_map (dk_u2 (h 1 _ rfl) (h 2 _ rfl)))).trans rfl))
theorem dk_167 {code : ByteArray} {pc : Nat} (a b : UInt8) (h : DkAt code pc [167, a, b]) : decode code pc = .ok (.goto (Reader.signed 16 (a.toNat * 256 + b.toNat)), 3) := dk_of ((dk_bind (dk_u1 (h 0 _ rfl))).trans ((dk_bind (dk_map (dk_u2 (h 1 _ rfl) (h 2 _ rfl)))).trans rfl))
theorem dk_172 {code : ByteArray} {pc : Nat} (h : DkAt code pc [172]) : decode code pc = .ok (.ireturn, 1) := dk_of ((dk_bind (dk_u1 (h 0 _ rfl))).trans rfl)
theorem dk_173 {code : ByteArray} {pc : Nat} (h : DkAt code pc [173]) : decode code pc = .ok (.lreturn, 1) := dk_of ((dk_bind (dk_u1 (h 0 _ rfl))).trans rfl)
theorem dk_176 {code : ByteArray} {pc : Nat} (h : DkAt code pc [176]) : decode code pc = .ok (.areturn, 1) := dk_of ((dk_bind (dk_u1 (h 0 _ rfl))).trans rfl)
theorem dk_177 {code : ByteArray} {pc : Nat} (h : DkAt code pc [177]) : decode code pc = .ok (.return_, 1) := dk_of ((dk_bind (dk_u1 (h 0 _ rfl))).trans rfl)
theorem dk_178 {code : ByteArray} {pc : Nat} (a b : UInt8) (h : DkAt code pc [178, a, b]) : decode code pc = .ok (.getstatic (a.toNat * 256 + b.toNat), 3) := dk_of ((dk_bind (dk_u1 (h 0 _ rfl))).trans ((dk_bind (dk_u2 (h 1 _ rfl) (h 2 _ rfl))).trans rfl))
theorem dk_180 {code : ByteArray} {pc : Nat} (a b : UInt8) (h : DkAt code pc [180, a, b]) : decode code pc = .ok (.getfield (a.toNat * 256 + b.toNat), 3) := dk_of ((dk_bind (dk_u1 (h 0 _ rfl))).trans ((dk_bind (dk_u2 (h 1 _ rfl) (h 2 _ rfl))).trans rfl))
theorem dk_181 {code : ByteArray} {pc : Nat} (a b : UInt8) (h : DkAt code pc [181, a, b]) : decode code pc = .ok (.putfield (a.toNat * 256 + b.toNat), 3) := dk_of ((dk_bind (dk_u1 (h 0 _ rfl))).trans ((dk_bind (dk_u2 (h 1 _ rfl) (h 2 _ rfl))).trans rfl))
theorem dk_182 {code : ByteArray} {pc : Nat} (a b : UInt8) (h : DkAt code pc [182, a, b]) : decode code pc = .ok (.invokevirtual (a.toNat * 256 + b.toNat), 3) := dk_of ((dk_bind (dk_u1 (h 0 _ rfl))).trans ((dk_bind (dk_u2 (h 1 _ rfl) (h 2 _ rfl))).trans rfl))
theorem dk_183 {code : ByteArray} {pc : Nat} (a b : UInt8) (h : DkAt code pc [183, a, b]) : decode code pc = .ok (.invokespecial (a.toNat * 256 + b.toNat), 3) := dk_of ((dk_bind (dk_u1 (h 0 _ rfl))).trans ((dk_bind (dk_u2 (h 1 _ rfl) (h 2 _ rfl))).trans rfl))
theorem dk_184 {code : ByteArray} {pc : Nat} (a b : UInt8) (h : DkAt code pc [184, a, b]) : decode code pc = .ok (.invokestatic (a.toNat * 256 + b.toNat), 3) := dk_of ((dk_bind (dk_u1 (h 0 _ rfl))).trans ((dk_bind (dk_u2 (h 1 _ rfl) (h 2 _ rfl))).trans rfl))
theorem dk_187 {code : ByteArray} {pc : Nat} (a b : UInt8) (h : DkAt code pc [187, a, b]) : decode code pc = .ok (.new (a.toNat * 256 + b.toNat), 3) := dk_of ((dk_bind (dk_u1 (h 0 _ rfl))).trans ((dk_bind (dk_u2 (h 1 _ rfl) (h 2 _ rfl))).trans rfl))
theorem dk_188_4 {code : ByteArray} {pc : Nat} (h : DkAt code pc [188, 4]) : decode code pc = .ok (.newarray .boolean, 2) := dk_of ((dk_bind (dk_u1 (h 0 _ rfl))).trans ((dk_bind (dk_u1 (h 1 _ rfl))).trans rfl))
theorem dk_188_8 {code : ByteArray} {pc : Nat} (h : DkAt code pc [188, 8]) : decode code pc = .ok (.newarray .byte, 2) := dk_of ((dk_bind (dk_u1 (h 0 _ rfl))).trans ((dk_bind (dk_u1 (h 1 _ rfl))).trans rfl))
theorem dk_188_10 {code : ByteArray} {pc : Nat} (h : DkAt code pc [188, 10]) : decode code pc = .ok (.newarray .int, 2) := dk_of ((dk_bind (dk_u1 (h 0 _ rfl))).trans ((dk_bind (dk_u1 (h 1 _ rfl))).trans rfl))
theorem dk_188_11 {code : ByteArray} {pc : Nat} (h : DkAt code pc [188, 11]) : decode code pc = .ok (.newarray .long, 2) := dk_of ((dk_bind (dk_u1 (h 0 _ rfl))).trans ((dk_bind (dk_u1 (h 1 _ rfl))).trans rfl))
theorem dk_189 {code : ByteArray} {pc : Nat} (a b : UInt8) (h : DkAt code pc [189, a, b]) : decode code pc = .ok (.anewarray (a.toNat * 256 + b.toNat), 3) := dk_of ((dk_bind (dk_u1 (h 0 _ rfl))).trans ((dk_bind (dk_u2 (h 1 _ rfl) (h 2 _ rfl))).trans rfl))
theorem dk_190 {code : ByteArray} {pc : Nat} (h : DkAt code pc [190]) : decode code pc = .ok (.arraylength, 1) := dk_of ((dk_bind (dk_u1 (h 0 _ rfl))).trans rfl)
theorem dk_191 {code : ByteArray} {pc : Nat} (h : DkAt code pc [191]) : decode code pc = .ok (.athrow, 1) := dk_of ((dk_bind (dk_u1 (h 0 _ rfl))).trans rfl)
theorem dk_192 {code : ByteArray} {pc : Nat} (a b : UInt8) (h : DkAt code pc [192, a, b]) : decode code pc = .ok (.checkcast (a.toNat * 256 + b.toNat), 3) := dk_of ((dk_bind (dk_u1 (h 0 _ rfl))).trans ((dk_bind (dk_u2 (h 1 _ rfl) (h 2 _ rfl))).trans rfl))
theorem dk_198 {code : ByteArray} {pc : Nat} (a b : UInt8) (h : DkAt code pc [198, a, b]) : decode code pc = .ok (.ifnull (Reader.signed 16 (a.toNat * 256 + b.toNat)), 3) := dk_of ((dk_bind (dk_u1 (h 0 _ rfl))).trans ((dk_bind (dk_map (dk_u2 (h 1 _ rfl) (h 2 _ rfl)))).trans rfl))
theorem dk_199 {code : ByteArray} {pc : Nat} (a b : UInt8) (h : DkAt code pc [199, a, b]) : decode code pc = .ok (.ifnonnull (Reader.signed 16 (a.toNat * 256 + b.toNat)), 3) := dk_of ((dk_bind (dk_u1 (h 0 _ rfl))).trans ((dk_bind (dk_map (dk_u2 (h 1 _ rfl) (h 2 _ rfl)))).trans rfl))
/-! java/util/AbstractCollection -/
set_option maxRecDepth 100000
def RJ0 : String := "java/util/AbstractCollection"
abbrev cJ0_init : ByteArray := prog_50_method_1_code
def yJ0_init : MethodName := ⟨RJ0, "<init>", "()V"⟩
theorem q127 : (Jvm.Cond.initialized "java/util/AbstractCollection") ∈ lw_all := lw_g (lw_at lw_m1 3 rfl) rfl
theorem q200 : (Jvm.Cond.instanceMethod ({ cls := "java/util/AbstractCollection", name := "<init>", desc := "()V" } : Jvm.MethodName)) ∈ lw_all := lw_g (lw_at lw_m1 76 rfl) rfl
theorem q201 : (Jvm.Cond.code ({ cls := "java/util/AbstractCollection", name := "<init>", desc := "()V" } : Jvm.MethodName) prog_50_method_1_code (1 : Nat) (Option.none : Option Jvm.ClassFile.FieldType)) ∈ lw_all := lw_g (lw_at lw_m1 77 rfl) rfl
theorem q202 : (Jvm.Cond.methodLink "java/util/AbstractCollection" (1 : Nat) ({ cls := "java/lang/Object", name := "<init>", desc := "()V" } : Jvm.MethodName)) ∈ lw_all := lw_g (lw_at lw_m1 78 rfl) rfl
/-! java/util/AbstractList -/
set_option maxRecDepth 100000
def RJ1 : String := "java/util/AbstractList"
abbrev cJ1_init : ByteArray := prog_51_method_1_code
def yJ1_init : MethodName := ⟨RJ1, "<init>", "()V"⟩
theorem q128 : (Jvm.Cond.initialized "java/util/AbstractList") ∈ lw_all := lw_g (lw_at lw_m1 4 rfl) rfl
theorem q197 : (Jvm.Cond.instanceMethod ({ cls := "java/util/AbstractList", name := "<init>", desc := "()V" } : Jvm.MethodName)) ∈ lw_all := lw_g (lw_at lw_m1 73 rfl) rfl
theorem q198 : (Jvm.Cond.code ({ cls := "java/util/AbstractList", name := "<init>", desc := "()V" } : Jvm.MethodName) prog_51_method_1_code (1 : Nat) (Option.none : Option Jvm.ClassFile.FieldType)) ∈ lw_all := lw_g (lw_at lw_m1 74 rfl) rfl
theorem q199 : (Jvm.Cond.methodLink "java/util/AbstractList" (1 : Nat) ({ cls := "java/util/AbstractCollection", name := "<init>", desc := "()V" } : Jvm.MethodName)) ∈ lw_all := lw_g (lw_at lw_m1 75 rfl) rfl
theorem q207 : (Jvm.Cond.fieldLink "java/util/AbstractList" (7 : Nat) "java/util/AbstractList" "modCount" "I") ∈ lw_all := lw_g (lw_at lw_m1 83 rfl) rfl
theorem q215 : (Jvm.Cond.soleField "java/util/AbstractList" "modCount") ∈ lw_all := lw_g (lw_at lw_m1 91 rfl) rfl
/-! java/lang/ArrayIndexOutOfBoundsException -/
set_option maxRecDepth 100000
def RJ10 : String := "java/lang/ArrayIndexOutOfBoundsException"
def TJ10 : u_T := fun k => match k with
  | 0 => ("java/lang/Throwable", "backtrace", "Ljava/lang/Object;", false)
  | 1 => ("java/lang/Throwable", "detailMessage", "Ljava/lang/String;", false)
  | 2 => ("java/lang/Throwable", "cause", "Ljava/lang/Throwable;", false)
  | 3 => ("java/lang/Throwable", "stackTrace", "[Ljava/lang/StackTraceElement;", false)
  | 4 => ("java/lang/Throwable", "depth", "I", false)
  | _ => ("java/lang/Throwable", "suppressedExceptions", "Ljava/util/List;", false)
def tyJ10 : Nat → FieldType := fun k => match k with
  | 0 => .object "java/lang/Object"
  | 1 => .object "java/lang/String"
  | 2 => .object "java/lang/Throwable"
  | 3 => .array (.object "java/lang/StackTraceElement")
  | 4 => .int
  | _ => .object "java/util/List"
abbrev wsJ100 : List Cond := u_ws RJ10 TJ10 6
theorem nmJ10 : ∀ a, a < 6 → ∀ b, b < 6 → a ≠ b → (TJ10 a).2.1 ≠ (TJ10 b).2.1 := by decide +kernel
theorem tyJ10_ok : ∀ k, k < 6 → parseFieldDescriptor (TJ10 k).2.2.1 = some (tyJ10 k) := by decide +kernel
abbrev cJ10_init : ByteArray := prog_37_method_2_code
def yJ10_init : MethodName := ⟨RJ10, "<init>", "(Ljava/lang/String;)V"⟩
theorem q141 : (Jvm.Cond.initialized "java/lang/ArrayIndexOutOfBoundsException") ∈ lw_all := lw_g (lw_at lw_m1 17 rfl) rfl
theorem q621 : (Jvm.Cond.instantiable "java/lang/ArrayIndexOutOfBoundsException" (6 : Nat)) ∈ lw_all := lw_g (lw_at lw_m3 17 rfl) rfl
theorem q622 : (Jvm.Cond.instanceMethod ({ cls := "java/lang/ArrayIndexOutOfBoundsException", name := "<init>", desc := "(Ljava/lang/String;)V" } : Jvm.MethodName)) ∈ lw_all := lw_g (lw_at lw_m3 18 rfl) rfl
theorem q623 : (Jvm.Cond.code ({ cls := "java/lang/ArrayIndexOutOfBoundsException", name := "<init>", desc := "(Ljava/lang/String;)V" } : Jvm.MethodName) prog_37_method_2_code (2 : Nat) (Option.none : Option Jvm.ClassFile.FieldType)) ∈ lw_all := lw_g (lw_at lw_m3 19 rfl) rfl
theorem q624 : (Jvm.Cond.methodLink "java/lang/ArrayIndexOutOfBoundsException" (7 : Nat) ({ cls := "java/lang/IndexOutOfBoundsException", name := "<init>", desc := "(Ljava/lang/String;)V" } : Jvm.MethodName)) ∈ lw_all := lw_g (lw_at lw_m3 20 rfl) rfl
theorem q645 : (Jvm.Cond.selects "java/lang/ArrayIndexOutOfBoundsException" ({ cls := "java/lang/Throwable", name := "fillInStackTrace", desc := "()Ljava/lang/Throwable;" } : Jvm.MethodName) ({ cls := "java/lang/Throwable", name := "fillInStackTrace", desc := "()Ljava/lang/Throwable;" } : Jvm.MethodName)) ∈ lw_all := lw_g (lw_at lw_m3 41 rfl) rfl
theorem q657 : (Jvm.Cond.lays "java/lang/ArrayIndexOutOfBoundsException" "java/lang/Throwable" "backtrace" "Ljava/lang/Object;") ∈ lw_all := lw_g (lw_at lw_m3 53 rfl) rfl
theorem q659 : (Jvm.Cond.lays "java/lang/ArrayIndexOutOfBoundsException" "java/lang/Throwable" "detailMessage" "Ljava/lang/String;") ∈ lw_all := lw_g (lw_at lw_m3 55 rfl) rfl
theorem q661 : (Jvm.Cond.lays "java/lang/ArrayIndexOutOfBoundsException" "java/lang/Throwable" "cause" "Ljava/lang/Throwable;") ∈ lw_all := lw_g (lw_at lw_m3 57 rfl) rfl
theorem q663 : (Jvm.Cond.lays "java/lang/ArrayIndexOutOfBoundsException" "java/lang/Throwable" "stackTrace" "[Ljava/lang/StackTraceElement;") ∈ lw_all := lw_g (lw_at lw_m3 59 rfl) rfl
theorem q665 : (Jvm.Cond.lays "java/lang/ArrayIndexOutOfBoundsException" "java/lang/Throwable" "depth" "I") ∈ lw_all := lw_g (lw_at lw_m3 61 rfl) rfl
theorem q667 : (Jvm.Cond.lays "java/lang/ArrayIndexOutOfBoundsException" "java/lang/Throwable" "suppressedExceptions" "Ljava/util/List;") ∈ lw_all := lw_g (lw_at lw_m3 63 rfl) rfl
theorem q669 : (Jvm.Cond.superclass "java/lang/ArrayIndexOutOfBoundsException" "java/lang/IndexOutOfBoundsException") ∈ lw_all := lw_g (lw_at lw_m3 65 rfl) rfl
theorem q670 : (Jvm.Cond.castable "java/lang/ArrayIndexOutOfBoundsException" "java/lang/ArrayIndexOutOfBoundsException") ∈ lw_tbl := lw_at lw_m3 66 rfl
theorem q679 : (Jvm.Cond.selects "java/lang/ArrayIndexOutOfBoundsException" ({ cls := "java/lang/Throwable", name := "fillInStackTrace", desc := "(I)Ljava/lang/Throwable;" } : Jvm.MethodName) ({ cls := "java/lang/Throwable", name := "fillInStackTrace", desc := "(I)Ljava/lang/Throwable;" } : Jvm.MethodName)) ∈ lw_all := lw_g (lw_at lw_m3 75 rfl) rfl
theorem q1305 : (Jvm.Cond.selects "java/lang/ArrayIndexOutOfBoundsException" ({ cls := "java/lang/Object", name := "getClass", desc := "()Ljava/lang/Class;" } : Jvm.MethodName) ({ cls := "java/lang/Object", name := "getClass", desc := "()Ljava/lang/Class;" } : Jvm.MethodName)) ∈ lw_all := lw_g (lw_at lw_m5 221 rfl) rfl
theorem q2752 : (Jvm.Cond.castable "java/lang/ArrayIndexOutOfBoundsException" "java/lang/Object") ∈ lw_tbl := lw_at lw_m11 228 rfl
theorem in_J10 : ∀ w ∈ wsJ100, w ∈ lw_all := lw_in wsJ100 [657, 659, 661, 663, 665, 667] (by decide +kernel) (by decide +kernel)
/-! java/lang/String -/
set_option maxRecDepth 100000
def RJ11 : String := "java/lang/String"
def TJ11 : u_T := fun k => match k with
  | 0 => ("java/lang/String", "value", "[B", true)
  | _ => ("java/lang/String", "coder", "B", true)
def tyJ11 : Nat → FieldType := fun k => match k with
  | 0 => .array .byte
  | _ => .byte
abbrev wsJ110 : List Cond := u_ws RJ11 TJ11 2
theorem nmJ11 : ∀ a, a < 2 → ∀ b, b < 2 → a ≠ b → (TJ11 a).2.1 ≠ (TJ11 b).2.1 := by decide +kernel
theorem tyJ11_ok : ∀ k, k < 2 → parseFieldDescriptor (TJ11 k).2.2.1 = some (tyJ11 k) := by decide +kernel
abbrev cJ11_length : ByteArray := prog_45_method_54_code
def yJ11_length : MethodName := ⟨RJ11, "length", "()I"⟩
abbrev cJ11_coder : ByteArray := prog_45_method_152_code
def yJ11_coder : MethodName := ⟨RJ11, "coder", "()B"⟩
abbrev cJ11_charAt : ByteArray := prog_45_method_56_code
def yJ11_charAt : MethodName := ⟨RJ11, "charAt", "(I)C"⟩
abbrev cJ11_isLatin1 : ByteArray := prog_45_method_154_code
def yJ11_isLatin1 : MethodName := ⟨RJ11, "isLatin1", "()Z"⟩
abbrev cJ11_checkIndex : ByteArray := prog_45_method_155_code
def yJ11_checkIndex : MethodName := ⟨RJ11, "checkIndex", "(II)V"⟩
theorem q142 : (Jvm.Cond.initialized "java/lang/String") ∈ lw_all := lw_g (lw_at lw_m1 18 rfl) rfl
theorem q689 : (Jvm.Cond.instantiable "java/lang/String" (4 : Nat)) ∈ lw_all := lw_g (lw_at lw_m3 85 rfl) rfl
theorem q690 : (Jvm.Cond.laysFinal "java/lang/String" "java/lang/String" "value" "[B") ∈ lw_all := lw_g (lw_at lw_m3 86 rfl) rfl
theorem q691 : (Jvm.Cond.soleField "java/lang/String" "value") ∈ lw_all := lw_g (lw_at lw_m3 87 rfl) rfl
theorem q692 : (Jvm.Cond.laysFinal "java/lang/String" "java/lang/String" "coder" "B") ∈ lw_all := lw_g (lw_at lw_m3 88 rfl) rfl
theorem q693 : (Jvm.Cond.soleField "java/lang/String" "coder") ∈ lw_all := lw_g (lw_at lw_m3 89 rfl) rfl
theorem q850 : (Jvm.Cond.instanceMethod ({ cls := "java/lang/String", name := "length", desc := "()I" } : Jvm.MethodName)) ∈ lw_all := lw_g (lw_at lw_m4 6 rfl) rfl
theorem q851 : (Jvm.Cond.selects "java/lang/String" ({ cls := "java/lang/String", name := "length", desc := "()I" } : Jvm.MethodName) ({ cls := "java/lang/String", name := "length", desc := "()I" } : Jvm.MethodName)) ∈ lw_all := lw_g (lw_at lw_m4 7 rfl) rfl
theorem q852 : (Jvm.Cond.code ({ cls := "java/lang/String", name := "length", desc := "()I" } : Jvm.MethodName) prog_45_method_54_code (1 : Nat) (Option.some Jvm.ClassFile.FieldType.int)) ∈ lw_all := lw_g (lw_at lw_m4 8 rfl) rfl
theorem q853 : (Jvm.Cond.methodLink "java/lang/String" (335 : Nat) ({ cls := "java/lang/String", name := "coder", desc := "()B" } : Jvm.MethodName)) ∈ lw_all := lw_g (lw_at lw_m4 9 rfl) rfl
theorem q854 : (Jvm.Cond.instanceMethod ({ cls := "java/lang/String", name := "coder", desc := "()B" } : Jvm.MethodName)) ∈ lw_all := lw_g (lw_at lw_m4 10 rfl) rfl
theorem q855 : (Jvm.Cond.selects "java/lang/String" ({ cls := "java/lang/String", name := "coder", desc := "()B" } : Jvm.MethodName) ({ cls := "java/lang/String", name := "coder", desc := "()B" } : Jvm.MethodName)) ∈ lw_all := lw_g (lw_at lw_m4 11 rfl) rfl
theorem q856 : (Jvm.Cond.code ({ cls := "java/lang/String", name := "coder", desc := "()B" } : Jvm.MethodName) prog_45_method_152_code (1 : Nat) (Option.some Jvm.ClassFile.FieldType.byte)) ∈ lw_all := lw_g (lw_at lw_m4 12 rfl) rfl
theorem q857 : (Jvm.Cond.fieldLink "java/lang/String" (38 : Nat) "java/lang/String" "COMPACT_STRINGS" "Z") ∈ lw_all := lw_g (lw_at lw_m4 13 rfl) rfl
theorem q858 : (Jvm.Cond.laysStatic "java/lang/String" "COMPACT_STRINGS" "Z") ∈ lw_tbl := lw_at lw_m4 14 rfl
theorem q860 : (Jvm.Cond.instanceMethod ({ cls := "java/lang/String", name := "charAt", desc := "(I)C" } : Jvm.MethodName)) ∈ lw_all := lw_g (lw_at lw_m4 16 rfl) rfl
theorem q861 : (Jvm.Cond.selects "java/lang/String" ({ cls := "java/lang/String", name := "charAt", desc := "(I)C" } : Jvm.MethodName) ({ cls := "java/lang/String", name := "charAt", desc := "(I)C" } : Jvm.MethodName)) ∈ lw_all := lw_g (lw_at lw_m4 17 rfl) rfl
theorem q862 : (Jvm.Cond.code ({ cls := "java/lang/String", name := "charAt", desc := "(I)C" } : Jvm.MethodName) prog_45_method_56_code (2 : Nat) (Option.some Jvm.ClassFile.FieldType.char)) ∈ lw_all := lw_g (lw_at lw_m4 18 rfl) rfl
theorem q863 : (Jvm.Cond.methodLink "java/lang/String" (492 : Nat) ({ cls := "java/lang/String", name := "isLatin1", desc := "()Z" } : Jvm.MethodName)) ∈ lw_all := lw_g (lw_at lw_m4 19 rfl) rfl
theorem q864 : (Jvm.Cond.instanceMethod ({ cls := "java/lang/String", name := "isLatin1", desc := "()Z" } : Jvm.MethodName)) ∈ lw_all := lw_g (lw_at lw_m4 20 rfl) rfl
theorem q865 : (Jvm.Cond.selects "java/lang/String" ({ cls := "java/lang/String", name := "isLatin1", desc := "()Z" } : Jvm.MethodName) ({ cls := "java/lang/String", name := "isLatin1", desc := "()Z" } : Jvm.MethodName)) ∈ lw_all := lw_g (lw_at lw_m4 21 rfl) rfl
theorem q866 : (Jvm.Cond.code ({ cls := "java/lang/String", name := "isLatin1", desc := "()Z" } : Jvm.MethodName) prog_45_method_154_code (1 : Nat) (Option.some Jvm.ClassFile.FieldType.boolean)) ∈ lw_all := lw_g (lw_at lw_m4 22 rfl) rfl
theorem q867 : (Jvm.Cond.methodLink "java/lang/String" (495 : Nat) ({ cls := "java/lang/StringLatin1", name := "charAt", desc := "([BI)C" } : Jvm.MethodName)) ∈ lw_all := lw_g (lw_at lw_m4 23 rfl) rfl
theorem q871 : (Jvm.Cond.static ({ cls := "java/lang/String", name := "checkIndex", desc := "(II)V" } : Jvm.MethodName)) ∈ lw_all := lw_g (lw_at lw_m4 27 rfl) rfl
theorem q872 : (Jvm.Cond.code ({ cls := "java/lang/String", name := "checkIndex", desc := "(II)V" } : Jvm.MethodName) prog_45_method_155_code (2 : Nat) (Option.none : Option Jvm.ClassFile.FieldType)) ∈ lw_all := lw_g (lw_at lw_m4 28 rfl) rfl
theorem q873 : (Jvm.Cond.fieldLink "java/lang/String" (1053 : Nat) "jdk/internal/util/Preconditions" "SIOOBE_FORMATTER" "Ljava/util/function/BiFunction;") ∈ lw_all := lw_g (lw_at lw_m4 29 rfl) rfl
theorem q875 : (Jvm.Cond.methodLink "java/lang/String" (1059 : Nat) ({ cls := "jdk/internal/util/Preconditions", name := "checkIndex", desc := "(IILjava/util/function/BiFunction;)I" } : Jvm.MethodName)) ∈ lw_all := lw_g (lw_at lw_m4 31 rfl) rfl
theorem q876 : (Jvm.Cond.methodLink "java/lang/String" (498 : Nat) ({ cls := "java/lang/StringUTF16", name := "charAt", desc := "([BI)C" } : Jvm.MethodName)) ∈ lw_all := lw_g (lw_at lw_m4 32 rfl) rfl
theorem q2744 : (Jvm.Cond.castable "java/lang/String" "java/lang/Object") ∈ lw_tbl := lw_at lw_m11 220 rfl
theorem q2795 : (Jvm.Cond.fieldLink "java/lang/String" (9 : Nat) "java/lang/String" "value" "[B") ∈ lw_all := lw_g (lw_at lw_m12 31 rfl) rfl
theorem q2796 : (Jvm.Cond.fieldLink "java/lang/String" (15 : Nat) "java/lang/String" "coder" "B") ∈ lw_all := lw_g (lw_at lw_m12 32 rfl) rfl
theorem in_J11 : ∀ w ∈ wsJ110, w ∈ lw_all := lw_in wsJ110 [690, 692] (by decide +kernel) (by decide +kernel)
/-! java/lang/StringLatin1 -/
set_option maxRecDepth 100000
def RJ12 : String := "java/lang/StringLatin1"
abbrev cJ12_charAt : ByteArray := prog_46_method_2_code
def yJ12_charAt : MethodName := ⟨RJ12, "charAt", "([BI)C"⟩
theorem q147 : (Jvm.Cond.initialized "java/lang/StringLatin1") ∈ lw_all := lw_g (lw_at lw_m1 23 rfl) rfl
theorem q868 : (Jvm.Cond.static ({ cls := "java/lang/StringLatin1", name := "charAt", desc := "([BI)C" } : Jvm.MethodName)) ∈ lw_all := lw_g (lw_at lw_m4 24 rfl) rfl
theorem q869 : (Jvm.Cond.code ({ cls := "java/lang/StringLatin1", name := "charAt", desc := "([BI)C" } : Jvm.MethodName) prog_46_method_2_code (2 : Nat) (Option.some Jvm.ClassFile.FieldType.char)) ∈ lw_all := lw_g (lw_at lw_m4 25 rfl) rfl
theorem q870 : (Jvm.Cond.methodLink "java/lang/StringLatin1" (9 : Nat) ({ cls := "java/lang/String", name := "checkIndex", desc := "(II)V" } : Jvm.MethodName)) ∈ lw_all := lw_g (lw_at lw_m4 26 rfl) rfl
/-! java/lang/StringUTF16 -/
set_option maxRecDepth 100000
def RJ13 : String := "java/lang/StringUTF16"
abbrev cJ13_charAt : ByteArray := prog_47_method_83_code
def yJ13_charAt : MethodName := ⟨RJ13, "charAt", "([BI)C"⟩
abbrev cJ13_checkIndex : ByteArray := prog_47_method_91_code
def yJ13_checkIndex : MethodName := ⟨RJ13, "checkIndex", "(I[B)V"⟩
abbrev cJ13_length : ByteArray := prog_47_method_6_code
def yJ13_length : MethodName := ⟨RJ13, "length", "([B)I"⟩
abbrev cJ13_getChar : ByteArray := prog_47_method_5_code
def yJ13_getChar : MethodName := ⟨RJ13, "getChar", "([BI)C"⟩
theorem q148 : (Jvm.Cond.initialized "java/lang/StringUTF16") ∈ lw_all := lw_g (lw_at lw_m1 24 rfl) rfl
theorem q877 : (Jvm.Cond.static ({ cls := "java/lang/StringUTF16", name := "charAt", desc := "([BI)C" } : Jvm.MethodName)) ∈ lw_all := lw_g (lw_at lw_m4 33 rfl) rfl
theorem q878 : (Jvm.Cond.code ({ cls := "java/lang/StringUTF16", name := "charAt", desc := "([BI)C" } : Jvm.MethodName) prog_47_method_83_code (2 : Nat) (Option.some Jvm.ClassFile.FieldType.char)) ∈ lw_all := lw_g (lw_at lw_m4 34 rfl) rfl
theorem q879 : (Jvm.Cond.methodLink "java/lang/StringUTF16" (67 : Nat) ({ cls := "java/lang/StringUTF16", name := "checkIndex", desc := "(I[B)V" } : Jvm.MethodName)) ∈ lw_all := lw_g (lw_at lw_m4 35 rfl) rfl
theorem q880 : (Jvm.Cond.static ({ cls := "java/lang/StringUTF16", name := "checkIndex", desc := "(I[B)V" } : Jvm.MethodName)) ∈ lw_all := lw_g (lw_at lw_m4 36 rfl) rfl
theorem q881 : (Jvm.Cond.code ({ cls := "java/lang/StringUTF16", name := "checkIndex", desc := "(I[B)V" } : Jvm.MethodName) prog_47_method_91_code (2 : Nat) (Option.none : Option Jvm.ClassFile.FieldType)) ∈ lw_all := lw_g (lw_at lw_m4 37 rfl) rfl
theorem q882 : (Jvm.Cond.methodLink "java/lang/StringUTF16" (48 : Nat) ({ cls := "java/lang/StringUTF16", name := "length", desc := "([B)I" } : Jvm.MethodName)) ∈ lw_all := lw_g (lw_at lw_m4 38 rfl) rfl
theorem q883 : (Jvm.Cond.static ({ cls := "java/lang/StringUTF16", name := "length", desc := "([B)I" } : Jvm.MethodName)) ∈ lw_all := lw_g (lw_at lw_m4 39 rfl) rfl
theorem q884 : (Jvm.Cond.code ({ cls := "java/lang/StringUTF16", name := "length", desc := "([B)I" } : Jvm.MethodName) prog_47_method_6_code (1 : Nat) (Option.some Jvm.ClassFile.FieldType.int)) ∈ lw_all := lw_g (lw_at lw_m4 40 rfl) rfl
theorem q885 : (Jvm.Cond.methodLink "java/lang/StringUTF16" (414 : Nat) ({ cls := "java/lang/String", name := "checkIndex", desc := "(II)V" } : Jvm.MethodName)) ∈ lw_all := lw_g (lw_at lw_m4 41 rfl) rfl
theorem q886 : (Jvm.Cond.methodLink "java/lang/StringUTF16" (71 : Nat) ({ cls := "java/lang/StringUTF16", name := "getChar", desc := "([BI)C" } : Jvm.MethodName)) ∈ lw_all := lw_g (lw_at lw_m4 42 rfl) rfl
theorem q887 : (Jvm.Cond.static ({ cls := "java/lang/StringUTF16", name := "getChar", desc := "([BI)C" } : Jvm.MethodName)) ∈ lw_all := lw_g (lw_at lw_m4 43 rfl) rfl
theorem q888 : (Jvm.Cond.code ({ cls := "java/lang/StringUTF16", name := "getChar", desc := "([BI)C" } : Jvm.MethodName) prog_47_method_5_code (2 : Nat) (Option.some Jvm.ClassFile.FieldType.char)) ∈ lw_all := lw_g (lw_at lw_m4 44 rfl) rfl
theorem q889 : (Jvm.Cond.fieldLink "java/lang/StringUTF16" (44 : Nat) "java/lang/StringUTF16" "$assertionsDisabled" "Z") ∈ lw_all := lw_g (lw_at lw_m4 45 rfl) rfl
theorem q890 : (Jvm.Cond.laysStatic "java/lang/StringUTF16" "$assertionsDisabled" "Z") ∈ lw_tbl := lw_at lw_m4 46 rfl
theorem q891 : (Jvm.Cond.fieldLink "java/lang/StringUTF16" (59 : Nat) "java/lang/StringUTF16" "HI_BYTE_SHIFT" "I") ∈ lw_all := lw_g (lw_at lw_m4 47 rfl) rfl
theorem q892 : (Jvm.Cond.laysStatic "java/lang/StringUTF16" "HI_BYTE_SHIFT" "I") ∈ lw_tbl := lw_at lw_m4 48 rfl
theorem q893 : (Jvm.Cond.fieldLink "java/lang/StringUTF16" (63 : Nat) "java/lang/StringUTF16" "LO_BYTE_SHIFT" "I") ∈ lw_all := lw_g (lw_at lw_m4 49 rfl) rfl
theorem q894 : (Jvm.Cond.laysStatic "java/lang/StringUTF16" "LO_BYTE_SHIFT" "I") ∈ lw_tbl := lw_at lw_m4 50 rfl
/-! jdk/internal/util/ArraysSupport -/
set_option maxRecDepth 100000
def RJ14 : String := "jdk/internal/util/ArraysSupport"
abbrev cJ14_newLength : ByteArray := prog_59_method_27_code
def yJ14_newLength : MethodName := ⟨RJ14, "newLength", "(III)I"⟩
abbrev cJ14_hugeLength : ByteArray := prog_59_method_28_code
def yJ14_hugeLength : MethodName := ⟨RJ14, "hugeLength", "(II)I"⟩
theorem q165 : (Jvm.Cond.initialized "jdk/internal/util/ArraysSupport") ∈ lw_all := lw_g (lw_at lw_m1 41 rfl) rfl
theorem q1262 : (Jvm.Cond.static ({ cls := "jdk/internal/util/ArraysSupport", name := "newLength", desc := "(III)I" } : Jvm.MethodName)) ∈ lw_all := lw_g (lw_at lw_m5 178 rfl) rfl
theorem q1263 : (Jvm.Cond.code ({ cls := "jdk/internal/util/ArraysSupport", name := "newLength", desc := "(III)I" } : Jvm.MethodName) prog_59_method_27_code (4 : Nat) (Option.some Jvm.ClassFile.FieldType.int)) ∈ lw_all := lw_g (lw_at lw_m5 179 rfl) rfl
theorem q1264 : (Jvm.Cond.methodLink "jdk/internal/util/ArraysSupport" (194 : Nat) ({ cls := "java/lang/Math", name := "max", desc := "(II)I" } : Jvm.MethodName)) ∈ lw_all := lw_g (lw_at lw_m5 180 rfl) rfl
theorem q1267 : (Jvm.Cond.constant "jdk/internal/util/ArraysSupport" (200 : Nat) (2147483639 : Int32)) ∈ lw_all := lw_g (lw_at lw_m5 183 rfl) rfl
theorem q1268 : (Jvm.Cond.methodLink "jdk/internal/util/ArraysSupport" (201 : Nat) ({ cls := "jdk/internal/util/ArraysSupport", name := "hugeLength", desc := "(II)I" } : Jvm.MethodName)) ∈ lw_all := lw_g (lw_at lw_m5 184 rfl) rfl
theorem q1269 : (Jvm.Cond.static ({ cls := "jdk/internal/util/ArraysSupport", name := "hugeLength", desc := "(II)I" } : Jvm.MethodName)) ∈ lw_all := lw_g (lw_at lw_m5 185 rfl) rfl
theorem q1270 : (Jvm.Cond.code ({ cls := "jdk/internal/util/ArraysSupport", name := "hugeLength", desc := "(II)I" } : Jvm.MethodName) prog_59_method_28_code (3 : Nat) (Option.some Jvm.ClassFile.FieldType.int)) ∈ lw_all := lw_g (lw_at lw_m5 186 rfl) rfl
/-! java/util/Arrays -/
set_option maxRecDepth 100000
def RJ15 : String := "java/util/Arrays"
abbrev cJ15_copyOf : ByteArray := prog_53_method_119_code
def yJ15_copyOf : MethodName := ⟨RJ15, "copyOf", "([Ljava/lang/Object;I)[Ljava/lang/Object;"⟩
abbrev cJ15_copyOf_2 : ByteArray := prog_53_method_120_code
def yJ15_copyOf_2 : MethodName := ⟨RJ15, "copyOf", "([Ljava/lang/Object;ILjava/lang/Class;)[Ljava/lang/Object;"⟩
theorem q166 : (Jvm.Cond.initialized "java/util/Arrays") ∈ lw_all := lw_g (lw_at lw_m1 42 rfl) rfl
theorem q1272 : (Jvm.Cond.static ({ cls := "java/util/Arrays", name := "copyOf", desc := "([Ljava/lang/Object;I)[Ljava/lang/Object;" } : Jvm.MethodName)) ∈ lw_all := lw_g (lw_at lw_m5 188 rfl) rfl
theorem q1273 : (Jvm.Cond.code ({ cls := "java/util/Arrays", name := "copyOf", desc := "([Ljava/lang/Object;I)[Ljava/lang/Object;" } : Jvm.MethodName) prog_53_method_119_code (2 : Nat) (Option.some (Jvm.ClassFile.FieldType.array (Jvm.ClassFile.FieldType.object "java/lang/Object")))) ∈ lw_all := lw_g (lw_at lw_m5 189 rfl) rfl
theorem q1274 : (Jvm.Cond.methodLink "java/util/Arrays" (86 : Nat) ({ cls := "java/lang/Object", name := "getClass", desc := "()Ljava/lang/Class;" } : Jvm.MethodName)) ∈ lw_all := lw_g (lw_at lw_m5 190 rfl) rfl
theorem q1308 : (Jvm.Cond.methodLink "java/util/Arrays" (300 : Nat) ({ cls := "java/util/Arrays", name := "copyOf", desc := "([Ljava/lang/Object;ILjava/lang/Class;)[Ljava/lang/Object;" } : Jvm.MethodName)) ∈ lw_all := lw_g (lw_at lw_m5 224 rfl) rfl
theorem q1309 : (Jvm.Cond.static ({ cls := "java/util/Arrays", name := "copyOf", desc := "([Ljava/lang/Object;ILjava/lang/Class;)[Ljava/lang/Object;" } : Jvm.MethodName)) ∈ lw_all := lw_g (lw_at lw_m5 225 rfl) rfl
theorem q1310 : (Jvm.Cond.code ({ cls := "java/util/Arrays", name := "copyOf", desc := "([Ljava/lang/Object;ILjava/lang/Class;)[Ljava/lang/Object;" } : Jvm.MethodName) prog_53_method_120_code (4 : Nat) (Option.some (Jvm.ClassFile.FieldType.array (Jvm.ClassFile.FieldType.object "java/lang/Object")))) ∈ lw_all := lw_g (lw_at lw_m5 226 rfl) rfl
theorem q1311 : (Jvm.Cond.classLink "java/util/Arrays" (110 : Nat) "[Ljava/lang/Object;") ∈ lw_all := lw_g (lw_at lw_m5 227 rfl) rfl
theorem q1313 : (Jvm.Cond.classLink "java/util/Arrays" (2 : Nat) "java/lang/Object") ∈ lw_all := lw_g (lw_at lw_m5 229 rfl) rfl
theorem q1314 : (Jvm.Cond.methodLink "java/util/Arrays" (304 : Nat) ({ cls := "java/lang/Math", name := "min", desc := "(II)I" } : Jvm.MethodName)) ∈ lw_all := lw_g (lw_at lw_m5 230 rfl) rfl
theorem q1315 : (Jvm.Cond.methodLink "java/util/Arrays" (150 : Nat) ({ cls := "java/lang/System", name := "arraycopy", desc := "(Ljava/lang/Object;ILjava/lang/Object;II)V" } : Jvm.MethodName)) ∈ lw_all := lw_g (lw_at lw_m5 231 rfl) rfl
/-! java/lang/Integer -/
set_option maxRecDepth 100000
def RJ16 : String := "java/lang/Integer"
abbrev cJ16_bitCount : ByteArray := prog_41_method_49_code
def yJ16_bitCount : MethodName := ⟨RJ16, "bitCount", "(I)I"⟩
abbrev cJ16_numberOfTrailingZeros : ByteArray := prog_41_method_48_code
def yJ16_numberOfTrailingZeros : MethodName := ⟨RJ16, "numberOfTrailingZeros", "(I)I"⟩
theorem q174 : (Jvm.Cond.initialized "java/lang/Integer") ∈ lw_all := lw_g (lw_at lw_m1 50 rfl) rfl
theorem q1624 : (Jvm.Cond.static ({ cls := "java/lang/Integer", name := "bitCount", desc := "(I)I" } : Jvm.MethodName)) ∈ lw_all := lw_g (lw_at lw_m7 60 rfl) rfl
theorem q1625 : (Jvm.Cond.code ({ cls := "java/lang/Integer", name := "bitCount", desc := "(I)I" } : Jvm.MethodName) prog_41_method_49_code (1 : Nat) (Option.some Jvm.ClassFile.FieldType.int)) ∈ lw_all := lw_g (lw_at lw_m7 61 rfl) rfl
theorem q1626 : (Jvm.Cond.constant "java/lang/Integer" (265 : Nat) (1431655765 : Int32)) ∈ lw_all := lw_g (lw_at lw_m7 62 rfl) rfl
theorem q1627 : (Jvm.Cond.constant "java/lang/Integer" (266 : Nat) (858993459 : Int32)) ∈ lw_all := lw_g (lw_at lw_m7 63 rfl) rfl
theorem q1628 : (Jvm.Cond.constant "java/lang/Integer" (267 : Nat) (252645135 : Int32)) ∈ lw_all := lw_g (lw_at lw_m7 64 rfl) rfl
theorem q1730 : (Jvm.Cond.static ({ cls := "java/lang/Integer", name := "numberOfTrailingZeros", desc := "(I)I" } : Jvm.MethodName)) ∈ lw_all := lw_g (lw_at lw_m7 166 rfl) rfl
theorem q1731 : (Jvm.Cond.code ({ cls := "java/lang/Integer", name := "numberOfTrailingZeros", desc := "(I)I" } : Jvm.MethodName) prog_41_method_48_code (2 : Nat) (Option.some Jvm.ClassFile.FieldType.int)) ∈ lw_all := lw_g (lw_at lw_m7 167 rfl) rfl
theorem q1732 : (Jvm.Cond.constant "java/lang/Integer" (264 : Nat) (65536 : Int32)) ∈ lw_all := lw_g (lw_at lw_m7 168 rfl) rfl
/-! java/lang/Object -/
set_option maxRecDepth 100000
def RJ17 : String := "java/lang/Object"
abbrev cJ17_init : ByteArray := object_method_1_code
def yJ17_init : MethodName := ⟨RJ17, "<init>", "()V"⟩
theorem q183 : (Jvm.Cond.instanceMethod ({ cls := "java/lang/Object", name := "<init>", desc := "()V" } : Jvm.MethodName)) ∈ lw_all := lw_g (lw_at lw_m1 59 rfl) rfl
theorem q184 : (Jvm.Cond.code ({ cls := "java/lang/Object", name := "<init>", desc := "()V" } : Jvm.MethodName) object_method_1_code (1 : Nat) (Option.none : Option Jvm.ClassFile.FieldType)) ∈ lw_all := lw_g (lw_at lw_m1 60 rfl) rfl
theorem q1275 : (Jvm.Cond.instanceMethod ({ cls := "java/lang/Object", name := "getClass", desc := "()Ljava/lang/Class;" } : Jvm.MethodName)) ∈ lw_all := lw_g (lw_at lw_m5 191 rfl) rfl
theorem q1276 : (Jvm.Cond.sameMethod "java/lang/Object" "java/lang/Object" "getClass" "()Ljava/lang/Class;") ∈ lw_all := lw_g (lw_at lw_m5 192 rfl) rfl
theorem q1307 : (Jvm.Cond.native ({ cls := "java/lang/Object", name := "getClass", desc := "()Ljava/lang/Class;" } : Jvm.MethodName)) ∈ lw_all := lw_g (lw_at lw_m5 223 rfl) rfl
theorem q1833 : (Jvm.Cond.declares ({ cls := "java/lang/Object", name := "getClass", desc := "()Ljava/lang/Class;" } : Jvm.MethodName)) ∈ lw_tbl := lw_at lw_m8 29 rfl
theorem q1835 : (Jvm.Cond.publicMethod ({ cls := "java/lang/Object", name := "getClass", desc := "()Ljava/lang/Class;" } : Jvm.MethodName)) ∈ lw_tbl := lw_at lw_m8 31 rfl
theorem q2740 : (Jvm.Cond.initialized "java/lang/Object") ∈ lw_all := lw_g (lw_at lw_m11 216 rfl) rfl
/-! java/util/ArrayList -/
set_option maxRecDepth 100000
def RJ2 : String := "java/util/ArrayList"
def TJ2 : u_T := fun k => match k with
  | 0 => ("java/util/AbstractList", "modCount", "I", false)
  | 1 => ("java/util/ArrayList", "elementData", "[Ljava/lang/Object;", false)
  | _ => ("java/util/ArrayList", "size", "I", false)
def tyJ2 : Nat → FieldType := fun k => match k with
  | 0 => .int
  | 1 => .array (.object "java/lang/Object")
  | _ => .int
abbrev wsJ20 : List Cond := u_ws RJ2 TJ2 3
theorem nmJ2 : ∀ a, a < 3 → ∀ b, b < 3 → a ≠ b → (TJ2 a).2.1 ≠ (TJ2 b).2.1 := by decide +kernel
theorem tyJ2_ok : ∀ k, k < 3 → parseFieldDescriptor (TJ2 k).2.2.1 = some (tyJ2 k) := by decide +kernel
abbrev cJ2_init : ByteArray := prog_52_method_2_code
def yJ2_init : MethodName := ⟨RJ2, "<init>", "()V"⟩
abbrev cJ2_clear : ByteArray := prog_52_method_40_code
def yJ2_clear : MethodName := ⟨RJ2, "clear", "()V"⟩
abbrev cJ2_get : ByteArray := prog_52_method_20_code
def yJ2_get : MethodName := ⟨RJ2, "get", "(I)Ljava/lang/Object;"⟩
abbrev cJ2_elementData : ByteArray := prog_52_method_18_code
def yJ2_elementData : MethodName := ⟨RJ2, "elementData", "(I)Ljava/lang/Object;"⟩
abbrev cJ2_size : ByteArray := prog_52_method_8_code
def yJ2_size : MethodName := ⟨RJ2, "size", "()I"⟩
abbrev cJ2_add : ByteArray := prog_52_method_25_code
def yJ2_add : MethodName := ⟨RJ2, "add", "(Ljava/lang/Object;)Z"⟩
abbrev cJ2_add_2 : ByteArray := prog_52_method_24_code
def yJ2_add_2 : MethodName := ⟨RJ2, "add", "(Ljava/lang/Object;[Ljava/lang/Object;I)V"⟩
abbrev cJ2_grow : ByteArray := prog_52_method_7_code
def yJ2_grow : MethodName := ⟨RJ2, "grow", "()[Ljava/lang/Object;"⟩
abbrev cJ2_grow_2 : ByteArray := prog_52_method_6_code
def yJ2_grow_2 : MethodName := ⟨RJ2, "grow", "(I)[Ljava/lang/Object;"⟩
abbrev cJ2_remove : ByteArray := prog_52_method_29_code
def yJ2_remove : MethodName := ⟨RJ2, "remove", "(I)Ljava/lang/Object;"⟩
abbrev cJ2_fastRemove : ByteArray := prog_52_method_39_code
def yJ2_fastRemove : MethodName := ⟨RJ2, "fastRemove", "([Ljava/lang/Object;I)V"⟩
abbrev cJ2_isEmpty : ByteArray := prog_52_method_9_code
def yJ2_isEmpty : MethodName := ⟨RJ2, "isEmpty", "()Z"⟩
abbrev cJ2_init_2 : ByteArray := prog_52_method_3_code
def yJ2_init_2 : MethodName := ⟨RJ2, "<init>", "(Ljava/util/Collection;)V"⟩
abbrev cJ2_toArray : ByteArray := prog_52_method_16_code
def yJ2_toArray : MethodName := ⟨RJ2, "toArray", "()[Ljava/lang/Object;"⟩
abbrev cJ2_addAll : ByteArray := prog_52_method_41_code
def yJ2_addAll : MethodName := ⟨RJ2, "addAll", "(Ljava/util/Collection;)Z"⟩
theorem q129 : (Jvm.Cond.initialized "java/util/ArrayList") ∈ lw_all := lw_g (lw_at lw_m1 5 rfl) rfl
theorem q192 : (Jvm.Cond.instantiable "java/util/ArrayList" (3 : Nat)) ∈ lw_all := lw_g (lw_at lw_m1 68 rfl) rfl
theorem q194 : (Jvm.Cond.instanceMethod ({ cls := "java/util/ArrayList", name := "<init>", desc := "()V" } : Jvm.MethodName)) ∈ lw_all := lw_g (lw_at lw_m1 70 rfl) rfl
theorem q195 : (Jvm.Cond.code ({ cls := "java/util/ArrayList", name := "<init>", desc := "()V" } : Jvm.MethodName) prog_52_method_2_code (1 : Nat) (Option.none : Option Jvm.ClassFile.FieldType)) ∈ lw_all := lw_g (lw_at lw_m1 71 rfl) rfl
theorem q196 : (Jvm.Cond.methodLink "java/util/ArrayList" (1 : Nat) ({ cls := "java/util/AbstractList", name := "<init>", desc := "()V" } : Jvm.MethodName)) ∈ lw_all := lw_g (lw_at lw_m1 72 rfl) rfl
theorem q203 : (Jvm.Cond.fieldLink "java/util/ArrayList" (39 : Nat) "java/util/ArrayList" "DEFAULTCAPACITY_EMPTY_ELEMENTDATA" "[Ljava/lang/Object;") ∈ lw_all := lw_g (lw_at lw_m1 79 rfl) rfl
theorem q204 : (Jvm.Cond.laysStatic "java/util/ArrayList" "DEFAULTCAPACITY_EMPTY_ELEMENTDATA" "[Ljava/lang/Object;") ∈ lw_tbl := lw_at lw_m1 80 rfl
theorem q205 : (Jvm.Cond.fieldLink "java/util/ArrayList" (9 : Nat) "java/util/ArrayList" "elementData" "[Ljava/lang/Object;") ∈ lw_all := lw_g (lw_at lw_m1 81 rfl) rfl
theorem q206 : (Jvm.Cond.fieldLink "java/util/ArrayList" (48 : Nat) "java/util/ArrayList" "size" "I") ∈ lw_all := lw_g (lw_at lw_m1 82 rfl) rfl
theorem q208 : (Jvm.Cond.fieldLink "java/util/ArrayList" (63 : Nat) "java/util/ArrayList" "modCount" "I") ∈ lw_all := lw_g (lw_at lw_m1 84 rfl) rfl
theorem q209 : (Jvm.Cond.sameField "java/util/ArrayList" "java/util/AbstractList" "modCount" "I") ∈ lw_all := lw_g (lw_at lw_m1 85 rfl) rfl
theorem q210 : (Jvm.Cond.lays "java/util/ArrayList" "java/util/ArrayList" "elementData" "[Ljava/lang/Object;") ∈ lw_all := lw_g (lw_at lw_m1 86 rfl) rfl
theorem q211 : (Jvm.Cond.soleField "java/util/ArrayList" "elementData") ∈ lw_all := lw_g (lw_at lw_m1 87 rfl) rfl
theorem q212 : (Jvm.Cond.lays "java/util/ArrayList" "java/util/ArrayList" "size" "I") ∈ lw_all := lw_g (lw_at lw_m1 88 rfl) rfl
theorem q213 : (Jvm.Cond.soleField "java/util/ArrayList" "size") ∈ lw_all := lw_g (lw_at lw_m1 89 rfl) rfl
theorem q214 : (Jvm.Cond.lays "java/util/ArrayList" "java/util/AbstractList" "modCount" "I") ∈ lw_all := lw_g (lw_at lw_m1 90 rfl) rfl
theorem q216 : (Jvm.Cond.superclass "java/util/ArrayList" "java/util/AbstractList") ∈ lw_all := lw_g (lw_at lw_m1 92 rfl) rfl
theorem q452 : (Jvm.Cond.instanceMethod ({ cls := "java/util/ArrayList", name := "clear", desc := "()V" } : Jvm.MethodName)) ∈ lw_all := lw_g (lw_at lw_m2 88 rfl) rfl
theorem q453 : (Jvm.Cond.selects "java/util/ArrayList" ({ cls := "java/util/ArrayList", name := "clear", desc := "()V" } : Jvm.MethodName) ({ cls := "java/util/ArrayList", name := "clear", desc := "()V" } : Jvm.MethodName)) ∈ lw_all := lw_g (lw_at lw_m2 89 rfl) rfl
theorem q454 : (Jvm.Cond.code ({ cls := "java/util/ArrayList", name := "clear", desc := "()V" } : Jvm.MethodName) prog_52_method_40_code (4 : Nat) (Option.none : Option Jvm.ClassFile.FieldType)) ∈ lw_all := lw_g (lw_at lw_m2 90 rfl) rfl
theorem q525 : (Jvm.Cond.instanceMethod ({ cls := "java/util/ArrayList", name := "get", desc := "(I)Ljava/lang/Object;" } : Jvm.MethodName)) ∈ lw_all := lw_g (lw_at lw_m2 161 rfl) rfl
theorem q526 : (Jvm.Cond.selects "java/util/ArrayList" ({ cls := "java/util/ArrayList", name := "get", desc := "(I)Ljava/lang/Object;" } : Jvm.MethodName) ({ cls := "java/util/ArrayList", name := "get", desc := "(I)Ljava/lang/Object;" } : Jvm.MethodName)) ∈ lw_all := lw_g (lw_at lw_m2 162 rfl) rfl
theorem q527 : (Jvm.Cond.code ({ cls := "java/util/ArrayList", name := "get", desc := "(I)Ljava/lang/Object;" } : Jvm.MethodName) prog_52_method_20_code (2 : Nat) (Option.some (Jvm.ClassFile.FieldType.object "java/lang/Object"))) ∈ lw_all := lw_g (lw_at lw_m2 163 rfl) rfl
theorem q528 : (Jvm.Cond.methodLink "java/util/ArrayList" (118 : Nat) ({ cls := "java/util/Objects", name := "checkIndex", desc := "(II)I" } : Jvm.MethodName)) ∈ lw_all := lw_g (lw_at lw_m2 164 rfl) rfl
theorem q534 : (Jvm.Cond.methodLink "java/util/ArrayList" (123 : Nat) ({ cls := "java/util/ArrayList", name := "elementData", desc := "(I)Ljava/lang/Object;" } : Jvm.MethodName)) ∈ lw_all := lw_g (lw_at lw_m2 170 rfl) rfl
theorem q535 : (Jvm.Cond.instanceMethod ({ cls := "java/util/ArrayList", name := "elementData", desc := "(I)Ljava/lang/Object;" } : Jvm.MethodName)) ∈ lw_all := lw_g (lw_at lw_m2 171 rfl) rfl
theorem q536 : (Jvm.Cond.selects "java/util/ArrayList" ({ cls := "java/util/ArrayList", name := "elementData", desc := "(I)Ljava/lang/Object;" } : Jvm.MethodName) ({ cls := "java/util/ArrayList", name := "elementData", desc := "(I)Ljava/lang/Object;" } : Jvm.MethodName)) ∈ lw_all := lw_g (lw_at lw_m2 172 rfl) rfl
theorem q537 : (Jvm.Cond.code ({ cls := "java/util/ArrayList", name := "elementData", desc := "(I)Ljava/lang/Object;" } : Jvm.MethodName) prog_52_method_18_code (2 : Nat) (Option.some (Jvm.ClassFile.FieldType.object "java/lang/Object"))) ∈ lw_all := lw_g (lw_at lw_m2 173 rfl) rfl
theorem q710 : (Jvm.Cond.instanceMethod ({ cls := "java/util/ArrayList", name := "size", desc := "()I" } : Jvm.MethodName)) ∈ lw_all := lw_g (lw_at lw_m3 106 rfl) rfl
theorem q711 : (Jvm.Cond.selects "java/util/ArrayList" ({ cls := "java/util/ArrayList", name := "size", desc := "()I" } : Jvm.MethodName) ({ cls := "java/util/ArrayList", name := "size", desc := "()I" } : Jvm.MethodName)) ∈ lw_all := lw_g (lw_at lw_m3 107 rfl) rfl
theorem q712 : (Jvm.Cond.code ({ cls := "java/util/ArrayList", name := "size", desc := "()I" } : Jvm.MethodName) prog_52_method_8_code (1 : Nat) (Option.some Jvm.ClassFile.FieldType.int)) ∈ lw_all := lw_g (lw_at lw_m3 108 rfl) rfl
theorem q1246 : (Jvm.Cond.instanceMethod ({ cls := "java/util/ArrayList", name := "add", desc := "(Ljava/lang/Object;)Z" } : Jvm.MethodName)) ∈ lw_all := lw_g (lw_at lw_m5 162 rfl) rfl
theorem q1247 : (Jvm.Cond.selects "java/util/ArrayList" ({ cls := "java/util/ArrayList", name := "add", desc := "(Ljava/lang/Object;)Z" } : Jvm.MethodName) ({ cls := "java/util/ArrayList", name := "add", desc := "(Ljava/lang/Object;)Z" } : Jvm.MethodName)) ∈ lw_all := lw_g (lw_at lw_m5 163 rfl) rfl
theorem q1248 : (Jvm.Cond.code ({ cls := "java/util/ArrayList", name := "add", desc := "(Ljava/lang/Object;)Z" } : Jvm.MethodName) prog_52_method_25_code (2 : Nat) (Option.some Jvm.ClassFile.FieldType.boolean)) ∈ lw_all := lw_g (lw_at lw_m5 164 rfl) rfl
theorem q1249 : (Jvm.Cond.methodLink "java/util/ArrayList" (131 : Nat) ({ cls := "java/util/ArrayList", name := "add", desc := "(Ljava/lang/Object;[Ljava/lang/Object;I)V" } : Jvm.MethodName)) ∈ lw_all := lw_g (lw_at lw_m5 165 rfl) rfl
theorem q1250 : (Jvm.Cond.privateMethod ({ cls := "java/util/ArrayList", name := "add", desc := "(Ljava/lang/Object;[Ljava/lang/Object;I)V" } : Jvm.MethodName)) ∈ lw_tbl := lw_at lw_m5 166 rfl
theorem q1251 : (Jvm.Cond.instanceMethod ({ cls := "java/util/ArrayList", name := "add", desc := "(Ljava/lang/Object;[Ljava/lang/Object;I)V" } : Jvm.MethodName)) ∈ lw_all := lw_g (lw_at lw_m5 167 rfl) rfl
theorem q1252 : (Jvm.Cond.code ({ cls := "java/util/ArrayList", name := "add", desc := "(Ljava/lang/Object;[Ljava/lang/Object;I)V" } : Jvm.MethodName) prog_52_method_24_code (4 : Nat) (Option.none : Option Jvm.ClassFile.FieldType)) ∈ lw_all := lw_g (lw_at lw_m5 168 rfl) rfl
theorem q1253 : (Jvm.Cond.methodLink "java/util/ArrayList" (129 : Nat) ({ cls := "java/util/ArrayList", name := "grow", desc := "()[Ljava/lang/Object;" } : Jvm.MethodName)) ∈ lw_all := lw_g (lw_at lw_m5 169 rfl) rfl
theorem q1254 : (Jvm.Cond.privateMethod ({ cls := "java/util/ArrayList", name := "grow", desc := "()[Ljava/lang/Object;" } : Jvm.MethodName)) ∈ lw_tbl := lw_at lw_m5 170 rfl
theorem q1255 : (Jvm.Cond.instanceMethod ({ cls := "java/util/ArrayList", name := "grow", desc := "()[Ljava/lang/Object;" } : Jvm.MethodName)) ∈ lw_all := lw_g (lw_at lw_m5 171 rfl) rfl
theorem q1256 : (Jvm.Cond.code ({ cls := "java/util/ArrayList", name := "grow", desc := "()[Ljava/lang/Object;" } : Jvm.MethodName) prog_52_method_7_code (1 : Nat) (Option.some (Jvm.ClassFile.FieldType.array (Jvm.ClassFile.FieldType.object "java/lang/Object")))) ∈ lw_all := lw_g (lw_at lw_m5 172 rfl) rfl
theorem q1257 : (Jvm.Cond.methodLink "java/util/ArrayList" (69 : Nat) ({ cls := "java/util/ArrayList", name := "grow", desc := "(I)[Ljava/lang/Object;" } : Jvm.MethodName)) ∈ lw_all := lw_g (lw_at lw_m5 173 rfl) rfl
theorem q1258 : (Jvm.Cond.privateMethod ({ cls := "java/util/ArrayList", name := "grow", desc := "(I)[Ljava/lang/Object;" } : Jvm.MethodName)) ∈ lw_tbl := lw_at lw_m5 174 rfl
theorem q1259 : (Jvm.Cond.instanceMethod ({ cls := "java/util/ArrayList", name := "grow", desc := "(I)[Ljava/lang/Object;" } : Jvm.MethodName)) ∈ lw_all := lw_g (lw_at lw_m5 175 rfl) rfl
theorem q1260 : (Jvm.Cond.code ({ cls := "java/util/ArrayList", name := "grow", desc := "(I)[Ljava/lang/Object;" } : Jvm.MethodName) prog_52_method_6_code (4 : Nat) (Option.some (Jvm.ClassFile.FieldType.array (Jvm.ClassFile.FieldType.object "java/lang/Object")))) ∈ lw_all := lw_g (lw_at lw_m5 176 rfl) rfl
theorem q1261 : (Jvm.Cond.methodLink "java/util/ArrayList" (73 : Nat) ({ cls := "jdk/internal/util/ArraysSupport", name := "newLength", desc := "(III)I" } : Jvm.MethodName)) ∈ lw_all := lw_g (lw_at lw_m5 177 rfl) rfl
theorem q1271 : (Jvm.Cond.methodLink "java/util/ArrayList" (66 : Nat) ({ cls := "java/util/Arrays", name := "copyOf", desc := "([Ljava/lang/Object;I)[Ljava/lang/Object;" } : Jvm.MethodName)) ∈ lw_all := lw_g (lw_at lw_m5 187 rfl) rfl
theorem q1306 : (Jvm.Cond.selects "java/util/ArrayList" ({ cls := "java/lang/Object", name := "getClass", desc := "()Ljava/lang/Class;" } : Jvm.MethodName) ({ cls := "java/lang/Object", name := "getClass", desc := "()Ljava/lang/Class;" } : Jvm.MethodName)) ∈ lw_all := lw_g (lw_at lw_m5 222 rfl) rfl
theorem q1316 : (Jvm.Cond.methodLink "java/util/ArrayList" (79 : Nat) ({ cls := "java/lang/Math", name := "max", desc := "(II)I" } : Jvm.MethodName)) ∈ lw_all := lw_g (lw_at lw_m5 232 rfl) rfl
theorem q1317 : (Jvm.Cond.classLink "java/util/ArrayList" (7 : Nat) "java/lang/Object") ∈ lw_all := lw_g (lw_at lw_m5 233 rfl) rfl
theorem q1367 : (Jvm.Cond.instanceMethod ({ cls := "java/util/ArrayList", name := "remove", desc := "(I)Ljava/lang/Object;" } : Jvm.MethodName)) ∈ lw_all := lw_g (lw_at lw_m6 43 rfl) rfl
theorem q1368 : (Jvm.Cond.selects "java/util/ArrayList" ({ cls := "java/util/ArrayList", name := "remove", desc := "(I)Ljava/lang/Object;" } : Jvm.MethodName) ({ cls := "java/util/ArrayList", name := "remove", desc := "(I)Ljava/lang/Object;" } : Jvm.MethodName)) ∈ lw_all := lw_g (lw_at lw_m6 44 rfl) rfl
theorem q1369 : (Jvm.Cond.code ({ cls := "java/util/ArrayList", name := "remove", desc := "(I)Ljava/lang/Object;" } : Jvm.MethodName) prog_52_method_29_code (4 : Nat) (Option.some (Jvm.ClassFile.FieldType.object "java/lang/Object"))) ∈ lw_all := lw_g (lw_at lw_m6 45 rfl) rfl
theorem q1370 : (Jvm.Cond.methodLink "java/util/ArrayList" (144 : Nat) ({ cls := "java/util/ArrayList", name := "fastRemove", desc := "([Ljava/lang/Object;I)V" } : Jvm.MethodName)) ∈ lw_all := lw_g (lw_at lw_m6 46 rfl) rfl
theorem q1371 : (Jvm.Cond.privateMethod ({ cls := "java/util/ArrayList", name := "fastRemove", desc := "([Ljava/lang/Object;I)V" } : Jvm.MethodName)) ∈ lw_tbl := lw_at lw_m6 47 rfl
theorem q1372 : (Jvm.Cond.instanceMethod ({ cls := "java/util/ArrayList", name := "fastRemove", desc := "([Ljava/lang/Object;I)V" } : Jvm.MethodName)) ∈ lw_all := lw_g (lw_at lw_m6 48 rfl) rfl
theorem q1373 : (Jvm.Cond.code ({ cls := "java/util/ArrayList", name := "fastRemove", desc := "([Ljava/lang/Object;I)V" } : Jvm.MethodName) prog_52_method_39_code (4 : Nat) (Option.none : Option Jvm.ClassFile.FieldType)) ∈ lw_all := lw_g (lw_at lw_m6 49 rfl) rfl
theorem q1374 : (Jvm.Cond.methodLink "java/util/ArrayList" (112 : Nat) ({ cls := "java/lang/System", name := "arraycopy", desc := "(Ljava/lang/Object;ILjava/lang/Object;II)V" } : Jvm.MethodName)) ∈ lw_all := lw_g (lw_at lw_m6 50 rfl) rfl
theorem q1455 : (Jvm.Cond.instanceMethod ({ cls := "java/util/ArrayList", name := "isEmpty", desc := "()Z" } : Jvm.MethodName)) ∈ lw_all := lw_g (lw_at lw_m6 131 rfl) rfl
theorem q1456 : (Jvm.Cond.selects "java/util/ArrayList" ({ cls := "java/util/ArrayList", name := "isEmpty", desc := "()Z" } : Jvm.MethodName) ({ cls := "java/util/ArrayList", name := "isEmpty", desc := "()Z" } : Jvm.MethodName)) ∈ lw_all := lw_g (lw_at lw_m6 132 rfl) rfl
theorem q1457 : (Jvm.Cond.code ({ cls := "java/util/ArrayList", name := "isEmpty", desc := "()Z" } : Jvm.MethodName) prog_52_method_9_code (1 : Nat) (Option.some Jvm.ClassFile.FieldType.boolean)) ∈ lw_all := lw_g (lw_at lw_m6 133 rfl) rfl
theorem q1818 : (Jvm.Cond.instanceMethod ({ cls := "java/util/ArrayList", name := "<init>", desc := "(Ljava/util/Collection;)V" } : Jvm.MethodName)) ∈ lw_all := lw_g (lw_at lw_m8 14 rfl) rfl
theorem q1819 : (Jvm.Cond.code ({ cls := "java/util/ArrayList", name := "<init>", desc := "(Ljava/util/Collection;)V" } : Jvm.MethodName) prog_52_method_3_code (3 : Nat) (Option.none : Option Jvm.ClassFile.FieldType)) ∈ lw_all := lw_g (lw_at lw_m8 15 rfl) rfl
theorem q1820 : (Jvm.Cond.interfaceEntry "java/util/ArrayList" (42 : Nat)) ∈ lw_tbl := lw_at lw_m8 16 rfl
theorem q1821 : (Jvm.Cond.methodLink "java/util/ArrayList" (42 : Nat) ({ cls := "java/util/Collection", name := "toArray", desc := "()[Ljava/lang/Object;" } : Jvm.MethodName)) ∈ lw_all := lw_g (lw_at lw_m8 17 rfl) rfl
theorem q1824 : (Jvm.Cond.castable "java/util/ArrayList" "java/util/Collection") ∈ lw_tbl := lw_at lw_m8 20 rfl
theorem q1825 : (Jvm.Cond.selects "java/util/ArrayList" ({ cls := "java/util/Collection", name := "toArray", desc := "()[Ljava/lang/Object;" } : Jvm.MethodName) ({ cls := "java/util/ArrayList", name := "toArray", desc := "()[Ljava/lang/Object;" } : Jvm.MethodName)) ∈ lw_all := lw_g (lw_at lw_m8 21 rfl) rfl
theorem q1826 : (Jvm.Cond.unhidden "java/util/ArrayList" "toArray" "()[Ljava/lang/Object;") ∈ lw_tbl := lw_at lw_m8 22 rfl
theorem q1827 : (Jvm.Cond.instanceMethod ({ cls := "java/util/ArrayList", name := "toArray", desc := "()[Ljava/lang/Object;" } : Jvm.MethodName)) ∈ lw_all := lw_g (lw_at lw_m8 23 rfl) rfl
theorem q1828 : (Jvm.Cond.publicMethod ({ cls := "java/util/ArrayList", name := "toArray", desc := "()[Ljava/lang/Object;" } : Jvm.MethodName)) ∈ lw_tbl := lw_at lw_m8 24 rfl
theorem q1829 : (Jvm.Cond.code ({ cls := "java/util/ArrayList", name := "toArray", desc := "()[Ljava/lang/Object;" } : Jvm.MethodName) prog_52_method_16_code (1 : Nat) (Option.some (Jvm.ClassFile.FieldType.array (Jvm.ClassFile.FieldType.object "java/lang/Object")))) ∈ lw_all := lw_g (lw_at lw_m8 25 rfl) rfl
theorem q1830 : (Jvm.Cond.interfaceEntry "java/util/ArrayList" (52 : Nat)) ∈ lw_tbl := lw_at lw_m8 26 rfl
theorem q1831 : (Jvm.Cond.methodLink "java/util/ArrayList" (52 : Nat) ({ cls := "java/util/Collection", name := "getClass", desc := "()Ljava/lang/Class;" } : Jvm.MethodName)) ∈ lw_all := lw_g (lw_at lw_m8 27 rfl) rfl
theorem q1834 : (Jvm.Cond.unhidden "java/util/ArrayList" "getClass" "()Ljava/lang/Class;") ∈ lw_tbl := lw_at lw_m8 30 rfl
theorem q1836 : (Jvm.Cond.classLink "java/util/ArrayList" (10 : Nat) "java/util/ArrayList") ∈ lw_all := lw_g (lw_at lw_m8 32 rfl) rfl
theorem q1837 : (Jvm.Cond.classLink "java/util/ArrayList" (56 : Nat) "[Ljava/lang/Object;") ∈ lw_all := lw_g (lw_at lw_m8 33 rfl) rfl
theorem q1838 : (Jvm.Cond.methodLink "java/util/ArrayList" (57 : Nat) ({ cls := "java/util/Arrays", name := "copyOf", desc := "([Ljava/lang/Object;ILjava/lang/Class;)[Ljava/lang/Object;" } : Jvm.MethodName)) ∈ lw_all := lw_g (lw_at lw_m8 34 rfl) rfl
theorem q1839 : (Jvm.Cond.fieldLink "java/util/ArrayList" (15 : Nat) "java/util/ArrayList" "EMPTY_ELEMENTDATA" "[Ljava/lang/Object;") ∈ lw_all := lw_g (lw_at lw_m8 35 rfl) rfl
theorem q1840 : (Jvm.Cond.laysStatic "java/util/ArrayList" "EMPTY_ELEMENTDATA" "[Ljava/lang/Object;") ∈ lw_tbl := lw_at lw_m8 36 rfl
theorem q1896 : (Jvm.Cond.instanceMethod ({ cls := "java/util/ArrayList", name := "addAll", desc := "(Ljava/util/Collection;)Z" } : Jvm.MethodName)) ∈ lw_all := lw_g (lw_at lw_m8 92 rfl) rfl
theorem q1897 : (Jvm.Cond.selects "java/util/ArrayList" ({ cls := "java/util/ArrayList", name := "addAll", desc := "(Ljava/util/Collection;)Z" } : Jvm.MethodName) ({ cls := "java/util/ArrayList", name := "addAll", desc := "(Ljava/util/Collection;)Z" } : Jvm.MethodName)) ∈ lw_all := lw_g (lw_at lw_m8 93 rfl) rfl
theorem q1898 : (Jvm.Cond.code ({ cls := "java/util/ArrayList", name := "addAll", desc := "(Ljava/util/Collection;)Z" } : Jvm.MethodName) prog_52_method_41_code (6 : Nat) (Option.some Jvm.ClassFile.FieldType.boolean)) ∈ lw_all := lw_g (lw_at lw_m8 94 rfl) rfl
theorem q2748 : (Jvm.Cond.castable "java/util/ArrayList" "java/lang/Object") ∈ lw_tbl := lw_at lw_m11 224 rfl
theorem in_J2 : ∀ w ∈ wsJ20, w ∈ lw_all := lw_in wsJ20 [214, 210, 212] (by decide +kernel) (by decide +kernel)
/-! java/lang/Math -/
set_option maxRecDepth 100000
def RJ3 : String := "java/lang/Math"
abbrev cJ3_min : ByteArray := prog_43_method_69_code
def yJ3_min : MethodName := ⟨RJ3, "min", "(II)I"⟩
abbrev cJ3_min_2 : ByteArray := prog_43_method_70_code
def yJ3_min_2 : MethodName := ⟨RJ3, "min", "(JJ)J"⟩
abbrev cJ3_max : ByteArray := prog_43_method_66_code
def yJ3_max : MethodName := ⟨RJ3, "max", "(JJ)J"⟩
abbrev cJ3_max_2 : ByteArray := prog_43_method_65_code
def yJ3_max_2 : MethodName := ⟨RJ3, "max", "(II)I"⟩
theorem q134 : (Jvm.Cond.initialized "java/lang/Math") ∈ lw_all := lw_g (lw_at lw_m1 10 rfl) rfl
theorem q441 : (Jvm.Cond.static ({ cls := "java/lang/Math", name := "min", desc := "(II)I" } : Jvm.MethodName)) ∈ lw_all := lw_g (lw_at lw_m2 77 rfl) rfl
theorem q442 : (Jvm.Cond.code ({ cls := "java/lang/Math", name := "min", desc := "(II)I" } : Jvm.MethodName) prog_43_method_69_code (2 : Nat) (Option.some Jvm.ClassFile.FieldType.int)) ∈ lw_all := lw_g (lw_at lw_m2 78 rfl) rfl
theorem q596 : (Jvm.Cond.static ({ cls := "java/lang/Math", name := "min", desc := "(JJ)J" } : Jvm.MethodName)) ∈ lw_all := lw_g (lw_at lw_m2 232 rfl) rfl
theorem q597 : (Jvm.Cond.code ({ cls := "java/lang/Math", name := "min", desc := "(JJ)J" } : Jvm.MethodName) prog_43_method_70_code (4 : Nat) (Option.some Jvm.ClassFile.FieldType.long)) ∈ lw_all := lw_g (lw_at lw_m2 233 rfl) rfl
theorem q599 : (Jvm.Cond.static ({ cls := "java/lang/Math", name := "max", desc := "(JJ)J" } : Jvm.MethodName)) ∈ lw_all := lw_g (lw_at lw_m2 235 rfl) rfl
theorem q600 : (Jvm.Cond.code ({ cls := "java/lang/Math", name := "max", desc := "(JJ)J" } : Jvm.MethodName) prog_43_method_66_code (4 : Nat) (Option.some Jvm.ClassFile.FieldType.long)) ∈ lw_all := lw_g (lw_at lw_m2 236 rfl) rfl
theorem q1265 : (Jvm.Cond.static ({ cls := "java/lang/Math", name := "max", desc := "(II)I" } : Jvm.MethodName)) ∈ lw_all := lw_g (lw_at lw_m5 181 rfl) rfl
theorem q1266 : (Jvm.Cond.code ({ cls := "java/lang/Math", name := "max", desc := "(II)I" } : Jvm.MethodName) prog_43_method_65_code (2 : Nat) (Option.some Jvm.ClassFile.FieldType.int)) ∈ lw_all := lw_g (lw_at lw_m5 182 rfl) rfl
/-! java/util/Objects -/
set_option maxRecDepth 100000
def RJ4 : String := "java/util/Objects"
abbrev cJ4_checkIndex : ByteArray := prog_56_method_17_code
def yJ4_checkIndex : MethodName := ⟨RJ4, "checkIndex", "(II)I"⟩
theorem q135 : (Jvm.Cond.initialized "java/util/Objects") ∈ lw_all := lw_g (lw_at lw_m1 11 rfl) rfl
theorem q529 : (Jvm.Cond.static ({ cls := "java/util/Objects", name := "checkIndex", desc := "(II)I" } : Jvm.MethodName)) ∈ lw_all := lw_g (lw_at lw_m2 165 rfl) rfl
theorem q530 : (Jvm.Cond.code ({ cls := "java/util/Objects", name := "checkIndex", desc := "(II)I" } : Jvm.MethodName) prog_56_method_17_code (2 : Nat) (Option.some Jvm.ClassFile.FieldType.int)) ∈ lw_all := lw_g (lw_at lw_m2 166 rfl) rfl
theorem q531 : (Jvm.Cond.methodLink "java/util/Objects" (105 : Nat) ({ cls := "jdk/internal/util/Preconditions", name := "checkIndex", desc := "(IILjava/util/function/BiFunction;)I" } : Jvm.MethodName)) ∈ lw_all := lw_g (lw_at lw_m2 167 rfl) rfl
/-! jdk/internal/util/Preconditions -/
set_option maxRecDepth 100000
def RJ5 : String := "jdk/internal/util/Preconditions"
abbrev cJ5_checkIndex : ByteArray := prog_60_method_11_code
def yJ5_checkIndex : MethodName := ⟨RJ5, "checkIndex", "(IILjava/util/function/BiFunction;)I"⟩
theorem q136 : (Jvm.Cond.initialized "jdk/internal/util/Preconditions") ∈ lw_all := lw_g (lw_at lw_m1 12 rfl) rfl
theorem q532 : (Jvm.Cond.static ({ cls := "jdk/internal/util/Preconditions", name := "checkIndex", desc := "(IILjava/util/function/BiFunction;)I" } : Jvm.MethodName)) ∈ lw_all := lw_g (lw_at lw_m2 168 rfl) rfl
theorem q533 : (Jvm.Cond.code ({ cls := "jdk/internal/util/Preconditions", name := "checkIndex", desc := "(IILjava/util/function/BiFunction;)I" } : Jvm.MethodName) prog_60_method_11_code (3 : Nat) (Option.some Jvm.ClassFile.FieldType.int)) ∈ lw_all := lw_g (lw_at lw_m2 169 rfl) rfl
theorem q874 : (Jvm.Cond.laysStatic "jdk/internal/util/Preconditions" "SIOOBE_FORMATTER" "Ljava/util/function/BiFunction;") ∈ lw_tbl := lw_at lw_m4 30 rfl
/-! java/lang/Throwable -/
set_option maxRecDepth 100000
def RJ6 : String := "java/lang/Throwable"
def TJ6 : u_T := fun k => match k with
  | 0 => ("java/lang/Throwable", "cause", "Ljava/lang/Throwable;", false)
  | 1 => ("java/lang/Throwable", "stackTrace", "[Ljava/lang/StackTraceElement;", false)
  | 2 => ("java/lang/Throwable", "suppressedExceptions", "Ljava/util/List;", false)
  | 3 => ("java/lang/Throwable", "detailMessage", "Ljava/lang/String;", false)
  | _ => ("java/lang/Throwable", "backtrace", "Ljava/lang/Object;", false)
def tyJ6 : Nat → FieldType := fun k => match k with
  | 0 => .object "java/lang/Throwable"
  | 1 => .array (.object "java/lang/StackTraceElement")
  | 2 => .object "java/util/List"
  | 3 => .object "java/lang/String"
  | _ => .object "java/lang/Object"
abbrev wsJ60 : List Cond := u_ws RJ6 TJ6 5
theorem nmJ6 : ∀ a, a < 5 → ∀ b, b < 5 → a ≠ b → (TJ6 a).2.1 ≠ (TJ6 b).2.1 := by decide +kernel
theorem tyJ6_ok : ∀ k, k < 5 → parseFieldDescriptor (TJ6 k).2.2.1 = some (tyJ6 k) := by decide +kernel
abbrev cJ6_init : ByteArray := prog_49_method_2_code
def yJ6_init : MethodName := ⟨RJ6, "<init>", "(Ljava/lang/String;)V"⟩
abbrev cJ6_init_2 : ByteArray := prog_49_method_1_code
def yJ6_init_2 : MethodName := ⟨RJ6, "<init>", "()V"⟩
abbrev cJ6_init_3 : ByteArray := prog_49_method_5_code
def yJ6_init_3 : MethodName := ⟨RJ6, "<init>", "(Ljava/lang/String;Ljava/lang/Throwable;ZZ)V"⟩
theorem q137 : (Jvm.Cond.initialized "java/lang/Throwable") ∈ lw_all := lw_g (lw_at lw_m1 13 rfl) rfl
theorem q634 : (Jvm.Cond.instanceMethod ({ cls := "java/lang/Throwable", name := "<init>", desc := "(Ljava/lang/String;)V" } : Jvm.MethodName)) ∈ lw_all := lw_g (lw_at lw_m3 30 rfl) rfl
theorem q635 : (Jvm.Cond.code ({ cls := "java/lang/Throwable", name := "<init>", desc := "(Ljava/lang/String;)V" } : Jvm.MethodName) prog_49_method_2_code (2 : Nat) (Option.none : Option Jvm.ClassFile.FieldType)) ∈ lw_all := lw_g (lw_at lw_m3 31 rfl) rfl
theorem q636 : (Jvm.Cond.methodLink "java/lang/Throwable" (1 : Nat) ({ cls := "java/lang/Object", name := "<init>", desc := "()V" } : Jvm.MethodName)) ∈ lw_all := lw_g (lw_at lw_m3 32 rfl) rfl
theorem q637 : (Jvm.Cond.fieldLink "java/lang/Throwable" (13 : Nat) "java/lang/Throwable" "UNASSIGNED_STACK" "[Ljava/lang/StackTraceElement;") ∈ lw_all := lw_g (lw_at lw_m3 33 rfl) rfl
theorem q638 : (Jvm.Cond.laysStatic "java/lang/Throwable" "UNASSIGNED_STACK" "[Ljava/lang/StackTraceElement;") ∈ lw_tbl := lw_at lw_m3 34 rfl
theorem q639 : (Jvm.Cond.fieldLink "java/lang/Throwable" (20 : Nat) "java/lang/Throwable" "SUPPRESSED_SENTINEL" "Ljava/util/List;") ∈ lw_all := lw_g (lw_at lw_m3 35 rfl) rfl
theorem q640 : (Jvm.Cond.laysStatic "java/lang/Throwable" "SUPPRESSED_SENTINEL" "Ljava/util/List;") ∈ lw_tbl := lw_at lw_m3 36 rfl
theorem q641 : (Jvm.Cond.methodLink "java/lang/Throwable" (27 : Nat) ({ cls := "java/lang/Throwable", name := "fillInStackTrace", desc := "()Ljava/lang/Throwable;" } : Jvm.MethodName)) ∈ lw_all := lw_g (lw_at lw_m3 37 rfl) rfl
theorem q642 : (Jvm.Cond.instanceMethod ({ cls := "java/lang/Throwable", name := "fillInStackTrace", desc := "()Ljava/lang/Throwable;" } : Jvm.MethodName)) ∈ lw_all := lw_g (lw_at lw_m3 38 rfl) rfl
theorem q643 : (Jvm.Cond.sameMethod "java/lang/Throwable" "java/lang/Throwable" "fillInStackTrace" "()Ljava/lang/Throwable;") ∈ lw_all := lw_g (lw_at lw_m3 39 rfl) rfl
theorem q646 : (Jvm.Cond.codeSync ({ cls := "java/lang/Throwable", name := "fillInStackTrace", desc := "()Ljava/lang/Throwable;" } : Jvm.MethodName) prog_49_method_18_code (1 : Nat) (Option.some (Jvm.ClassFile.FieldType.object "java/lang/Throwable"))) ∈ lw_all := lw_g (lw_at lw_m3 42 rfl) rfl
theorem q647 : (Jvm.Cond.methodLink "java/lang/Throwable" (202 : Nat) ({ cls := "java/lang/Throwable", name := "fillInStackTrace", desc := "(I)Ljava/lang/Throwable;" } : Jvm.MethodName)) ∈ lw_all := lw_g (lw_at lw_m3 43 rfl) rfl
theorem q648 : (Jvm.Cond.privateMethod ({ cls := "java/lang/Throwable", name := "fillInStackTrace", desc := "(I)Ljava/lang/Throwable;" } : Jvm.MethodName)) ∈ lw_tbl := lw_at lw_m3 44 rfl
theorem q649 : (Jvm.Cond.instanceMethod ({ cls := "java/lang/Throwable", name := "fillInStackTrace", desc := "(I)Ljava/lang/Throwable;" } : Jvm.MethodName)) ∈ lw_all := lw_g (lw_at lw_m3 45 rfl) rfl
theorem q650 : (Jvm.Cond.instantiable "java/lang/Throwable" (6 : Nat)) ∈ lw_all := lw_g (lw_at lw_m3 46 rfl) rfl
theorem q651 : (Jvm.Cond.native ({ cls := "java/lang/Throwable", name := "fillInStackTrace", desc := "(I)Ljava/lang/Throwable;" } : Jvm.MethodName)) ∈ lw_all := lw_g (lw_at lw_m3 47 rfl) rfl
theorem q652 : (Jvm.Cond.fieldLink "java/lang/Throwable" (198 : Nat) "java/lang/Throwable" "backtrace" "Ljava/lang/Object;") ∈ lw_all := lw_g (lw_at lw_m3 48 rfl) rfl
theorem q653 : (Jvm.Cond.fieldLink "java/lang/Throwable" (31 : Nat) "java/lang/Throwable" "detailMessage" "Ljava/lang/String;") ∈ lw_all := lw_g (lw_at lw_m3 49 rfl) rfl
theorem q654 : (Jvm.Cond.fieldLink "java/lang/Throwable" (7 : Nat) "java/lang/Throwable" "cause" "Ljava/lang/Throwable;") ∈ lw_all := lw_g (lw_at lw_m3 50 rfl) rfl
theorem q655 : (Jvm.Cond.fieldLink "java/lang/Throwable" (17 : Nat) "java/lang/Throwable" "stackTrace" "[Ljava/lang/StackTraceElement;") ∈ lw_all := lw_g (lw_at lw_m3 51 rfl) rfl
theorem q656 : (Jvm.Cond.fieldLink "java/lang/Throwable" (24 : Nat) "java/lang/Throwable" "suppressedExceptions" "Ljava/util/List;") ∈ lw_all := lw_g (lw_at lw_m3 52 rfl) rfl
theorem q658 : (Jvm.Cond.soleField "java/lang/Throwable" "backtrace") ∈ lw_all := lw_g (lw_at lw_m3 54 rfl) rfl
theorem q660 : (Jvm.Cond.soleField "java/lang/Throwable" "detailMessage") ∈ lw_all := lw_g (lw_at lw_m3 56 rfl) rfl
theorem q662 : (Jvm.Cond.soleField "java/lang/Throwable" "cause") ∈ lw_all := lw_g (lw_at lw_m3 58 rfl) rfl
theorem q664 : (Jvm.Cond.soleField "java/lang/Throwable" "stackTrace") ∈ lw_all := lw_g (lw_at lw_m3 60 rfl) rfl
theorem q666 : (Jvm.Cond.soleField "java/lang/Throwable" "depth") ∈ lw_all := lw_g (lw_at lw_m3 62 rfl) rfl
theorem q668 : (Jvm.Cond.soleField "java/lang/Throwable" "suppressedExceptions") ∈ lw_all := lw_g (lw_at lw_m3 64 rfl) rfl
theorem q677 : (Jvm.Cond.declares ({ cls := "java/lang/Throwable", name := "<init>", desc := "()V" } : Jvm.MethodName)) ∈ lw_tbl := lw_at lw_m3 73 rfl
theorem q678 : (Jvm.Cond.declares ({ cls := "java/lang/Throwable", name := "<init>", desc := "(Ljava/lang/String;)V" } : Jvm.MethodName)) ∈ lw_tbl := lw_at lw_m3 74 rfl
theorem q680 : (Jvm.Cond.lays "java/lang/Throwable" "java/lang/Throwable" "cause" "Ljava/lang/Throwable;") ∈ lw_all := lw_g (lw_at lw_m3 76 rfl) rfl
theorem q681 : (Jvm.Cond.lays "java/lang/Throwable" "java/lang/Throwable" "stackTrace" "[Ljava/lang/StackTraceElement;") ∈ lw_all := lw_g (lw_at lw_m3 77 rfl) rfl
theorem q682 : (Jvm.Cond.lays "java/lang/Throwable" "java/lang/Throwable" "suppressedExceptions" "Ljava/util/List;") ∈ lw_all := lw_g (lw_at lw_m3 78 rfl) rfl
theorem q683 : (Jvm.Cond.lays "java/lang/Throwable" "java/lang/Throwable" "detailMessage" "Ljava/lang/String;") ∈ lw_all := lw_g (lw_at lw_m3 79 rfl) rfl
theorem q684 : (Jvm.Cond.lays "java/lang/Throwable" "java/lang/Throwable" "backtrace" "Ljava/lang/Object;") ∈ lw_all := lw_g (lw_at lw_m3 80 rfl) rfl
theorem q685 : (Jvm.Cond.fieldLink "java/lang/Throwable" (198 : Nat) "java/lang/Throwable" "backtrace" "Ljava/lang/Object;") ∈ lw_all := lw_g (lw_at lw_m3 81 rfl) rfl
theorem q686 : (Jvm.Cond.superclass "java/lang/Throwable" "java/lang/Object") ∈ lw_all := lw_g (lw_at lw_m3 82 rfl) rfl
theorem q687 : (Jvm.Cond.instanceMethod ({ cls := "java/lang/Throwable", name := "<init>", desc := "()V" } : Jvm.MethodName)) ∈ lw_all := lw_g (lw_at lw_m3 83 rfl) rfl
theorem q688 : (Jvm.Cond.code ({ cls := "java/lang/Throwable", name := "<init>", desc := "()V" } : Jvm.MethodName) prog_49_method_1_code (1 : Nat) (Option.none : Option Jvm.ClassFile.FieldType)) ∈ lw_all := lw_g (lw_at lw_m3 84 rfl) rfl
theorem q823 : (Jvm.Cond.instanceMethod ({ cls := "java/lang/Throwable", name := "<init>", desc := "(Ljava/lang/String;Ljava/lang/Throwable;ZZ)V" } : Jvm.MethodName)) ∈ lw_all := lw_g (lw_at lw_m3 219 rfl) rfl
theorem q824 : (Jvm.Cond.code ({ cls := "java/lang/Throwable", name := "<init>", desc := "(Ljava/lang/String;Ljava/lang/Throwable;ZZ)V" } : Jvm.MethodName) prog_49_method_5_code (5 : Nat) (Option.none : Option Jvm.ClassFile.FieldType)) ∈ lw_all := lw_g (lw_at lw_m3 220 rfl) rfl
theorem q2717 : (Jvm.Cond.sameMethod "java/lang/Throwable" "java/lang/Throwable" "fillInStackTrace" "(I)Ljava/lang/Throwable;") ∈ lw_all := lw_g (lw_at lw_m11 193 rfl) rfl
theorem q2774 : (Jvm.Cond.castable "java/lang/Throwable" "java/lang/Object") ∈ lw_tbl := lw_at lw_m12 10 rfl
theorem in_J6 : ∀ w ∈ wsJ60, w ∈ lw_all := lw_in wsJ60 [680, 681, 682, 683, 684] (by decide +kernel) (by decide +kernel)
/-! java/lang/Exception -/
set_option maxRecDepth 100000
def RJ7 : String := "java/lang/Exception"
abbrev cJ7_init : ByteArray := prog_39_method_2_code
def yJ7_init : MethodName := ⟨RJ7, "<init>", "(Ljava/lang/String;)V"⟩
abbrev cJ7_init_2 : ByteArray := prog_39_method_5_code
def yJ7_init_2 : MethodName := ⟨RJ7, "<init>", "(Ljava/lang/String;Ljava/lang/Throwable;ZZ)V"⟩
theorem q138 : (Jvm.Cond.initialized "java/lang/Exception") ∈ lw_all := lw_g (lw_at lw_m1 14 rfl) rfl
theorem q631 : (Jvm.Cond.instanceMethod ({ cls := "java/lang/Exception", name := "<init>", desc := "(Ljava/lang/String;)V" } : Jvm.MethodName)) ∈ lw_all := lw_g (lw_at lw_m3 27 rfl) rfl
theorem q632 : (Jvm.Cond.code ({ cls := "java/lang/Exception", name := "<init>", desc := "(Ljava/lang/String;)V" } : Jvm.MethodName) prog_39_method_2_code (2 : Nat) (Option.none : Option Jvm.ClassFile.FieldType)) ∈ lw_all := lw_g (lw_at lw_m3 28 rfl) rfl
theorem q633 : (Jvm.Cond.methodLink "java/lang/Exception" (7 : Nat) ({ cls := "java/lang/Throwable", name := "<init>", desc := "(Ljava/lang/String;)V" } : Jvm.MethodName)) ∈ lw_all := lw_g (lw_at lw_m3 29 rfl) rfl
theorem q675 : (Jvm.Cond.declares ({ cls := "java/lang/Exception", name := "<init>", desc := "()V" } : Jvm.MethodName)) ∈ lw_tbl := lw_at lw_m3 71 rfl
theorem q676 : (Jvm.Cond.declares ({ cls := "java/lang/Exception", name := "<init>", desc := "(Ljava/lang/String;)V" } : Jvm.MethodName)) ∈ lw_tbl := lw_at lw_m3 72 rfl
theorem q820 : (Jvm.Cond.instanceMethod ({ cls := "java/lang/Exception", name := "<init>", desc := "(Ljava/lang/String;Ljava/lang/Throwable;ZZ)V" } : Jvm.MethodName)) ∈ lw_all := lw_g (lw_at lw_m3 216 rfl) rfl
theorem q821 : (Jvm.Cond.code ({ cls := "java/lang/Exception", name := "<init>", desc := "(Ljava/lang/String;Ljava/lang/Throwable;ZZ)V" } : Jvm.MethodName) prog_39_method_5_code (5 : Nat) (Option.none : Option Jvm.ClassFile.FieldType)) ∈ lw_all := lw_g (lw_at lw_m3 217 rfl) rfl
theorem q822 : (Jvm.Cond.methodLink "java/lang/Exception" (16 : Nat) ({ cls := "java/lang/Throwable", name := "<init>", desc := "(Ljava/lang/String;Ljava/lang/Throwable;ZZ)V" } : Jvm.MethodName)) ∈ lw_all := lw_g (lw_at lw_m3 218 rfl) rfl
/-! java/lang/RuntimeException -/
set_option maxRecDepth 100000
def RJ8 : String := "java/lang/RuntimeException"
abbrev cJ8_init : ByteArray := prog_44_method_2_code
def yJ8_init : MethodName := ⟨RJ8, "<init>", "(Ljava/lang/String;)V"⟩
theorem q139 : (Jvm.Cond.initialized "java/lang/RuntimeException") ∈ lw_all := lw_g (lw_at lw_m1 15 rfl) rfl
theorem q628 : (Jvm.Cond.instanceMethod ({ cls := "java/lang/RuntimeException", name := "<init>", desc := "(Ljava/lang/String;)V" } : Jvm.MethodName)) ∈ lw_all := lw_g (lw_at lw_m3 24 rfl) rfl
theorem q629 : (Jvm.Cond.code ({ cls := "java/lang/RuntimeException", name := "<init>", desc := "(Ljava/lang/String;)V" } : Jvm.MethodName) prog_44_method_2_code (2 : Nat) (Option.none : Option Jvm.ClassFile.FieldType)) ∈ lw_all := lw_g (lw_at lw_m3 25 rfl) rfl
theorem q630 : (Jvm.Cond.methodLink "java/lang/RuntimeException" (7 : Nat) ({ cls := "java/lang/Exception", name := "<init>", desc := "(Ljava/lang/String;)V" } : Jvm.MethodName)) ∈ lw_all := lw_g (lw_at lw_m3 26 rfl) rfl
theorem q673 : (Jvm.Cond.declares ({ cls := "java/lang/RuntimeException", name := "<init>", desc := "()V" } : Jvm.MethodName)) ∈ lw_tbl := lw_at lw_m3 69 rfl
theorem q674 : (Jvm.Cond.declares ({ cls := "java/lang/RuntimeException", name := "<init>", desc := "(Ljava/lang/String;)V" } : Jvm.MethodName)) ∈ lw_tbl := lw_at lw_m3 70 rfl
/-! java/lang/IndexOutOfBoundsException -/
set_option maxRecDepth 100000
def RJ9 : String := "java/lang/IndexOutOfBoundsException"
abbrev cJ9_init : ByteArray := prog_40_method_2_code
def yJ9_init : MethodName := ⟨RJ9, "<init>", "(Ljava/lang/String;)V"⟩
theorem q140 : (Jvm.Cond.initialized "java/lang/IndexOutOfBoundsException") ∈ lw_all := lw_g (lw_at lw_m1 16 rfl) rfl
theorem q625 : (Jvm.Cond.instanceMethod ({ cls := "java/lang/IndexOutOfBoundsException", name := "<init>", desc := "(Ljava/lang/String;)V" } : Jvm.MethodName)) ∈ lw_all := lw_g (lw_at lw_m3 21 rfl) rfl
theorem q626 : (Jvm.Cond.code ({ cls := "java/lang/IndexOutOfBoundsException", name := "<init>", desc := "(Ljava/lang/String;)V" } : Jvm.MethodName) prog_40_method_2_code (2 : Nat) (Option.none : Option Jvm.ClassFile.FieldType)) ∈ lw_all := lw_g (lw_at lw_m3 22 rfl) rfl
theorem q627 : (Jvm.Cond.methodLink "java/lang/IndexOutOfBoundsException" (7 : Nat) ({ cls := "java/lang/RuntimeException", name := "<init>", desc := "(Ljava/lang/String;)V" } : Jvm.MethodName)) ∈ lw_all := lw_g (lw_at lw_m3 23 rfl) rfl
theorem q671 : (Jvm.Cond.declares ({ cls := "java/lang/IndexOutOfBoundsException", name := "<init>", desc := "()V" } : Jvm.MethodName)) ∈ lw_tbl := lw_at lw_m3 67 rfl
theorem q672 : (Jvm.Cond.declares ({ cls := "java/lang/IndexOutOfBoundsException", name := "<init>", desc := "(Ljava/lang/String;)V" } : Jvm.MethodName)) ∈ lw_tbl := lw_at lw_m3 68 rfl
/-! the law's own entry -/
set_option maxRecDepth 100000
abbrev cL_law : ByteArray := code
/-! DebtDoors -/
set_option maxRecDepth 100000
def RX0 : String := "DebtDoors"
def TX0 : u_T := fun k => match k with
  | 0 => ("DebtDoors", "street", "LDebtDoors$Street;", false)
  | 1 => ("DebtDoors", "images", "[LDebtDoors$Street;", true)
  | 2 => ("DebtDoors", "undos", "Ljava/util/ArrayList;", true)
  | 3 => ("DebtDoors", "asked", "LDebtDoors$Asked;", true)
  | 4 => ("DebtDoors", "inOrders", "LDebtDoors$Asked;", true)
  | 5 => ("DebtDoors", "nothingTold", "LDebtDoors$Text;", true)
  | 6 => ("DebtDoors", "refused", "[I", true)
  | 7 => ("DebtDoors", "status", "I", false)
  | 8 => ("DebtDoors", "fault", "I", false)
  | 9 => ("DebtDoors", "blots", "I", false)
  | 10 => ("DebtDoors", "stopped", "I", false)
  | 11 => ("DebtDoors", "tape", "[B", true)
  | 12 => ("DebtDoors", "taped", "I", false)
  | 13 => ("DebtDoors", "paper", "LDebtDoors$Books;", true)
  | 14 => ("DebtDoors", "states", "[LDebtDoors$Books;", true)
  | 15 => ("DebtDoors", "done", "I", false)
  | 16 => ("DebtDoors", "last", "I", false)
  | _ => ("DebtDoors", "drawn", "[[I", false)
def tyX0 : Nat → FieldType := fun k => match k with
  | 0 => .object "DebtDoors$Street"
  | 1 => .array (.object "DebtDoors$Street")
  | 2 => .object "java/util/ArrayList"
  | 3 => .object "DebtDoors$Asked"
  | 4 => .object "DebtDoors$Asked"
  | 5 => .object "DebtDoors$Text"
  | 6 => .array .int
  | 7 => .int
  | 8 => .int
  | 9 => .int
  | 10 => .int
  | 11 => .array .byte
  | 12 => .int
  | 13 => .object "DebtDoors$Books"
  | 14 => .array (.object "DebtDoors$Books")
  | 15 => .int
  | 16 => .int
  | _ => .array (.array .int)
abbrev wsX00 : List Cond := u_ws RX0 TX0 18
set_option maxRecDepth 100000 in
theorem nmX0 : ∀ a, a < 18 → ∀ b, b < 18 → a ≠ b → (TX0 a).2.1 ≠ (TX0 b).2.1 := by decide +kernel
set_option maxRecDepth 100000 in
theorem tyX0_ok : ∀ k, k < 18 → parseFieldDescriptor (TX0 k).2.2.1 = some (tyX0 k) := by decide +kernel
abbrev cX0_init : ByteArray := prog_1_method_5_code
def yX0_init : MethodName := ⟨RX0, "<init>", "()V"⟩
abbrev cX0_feed : ByteArray := prog_1_method_14_code
def yX0_feed : MethodName := ⟨RX0, "feed", "(IIIII)I"⟩
abbrev cX0_four : ByteArray := prog_1_method_13_code
def yX0_four : MethodName := ⟨RX0, "four", "(I)V"⟩
abbrev cX0_end : ByteArray := prog_1_method_15_code
def yX0_end : MethodName := ⟨RX0, "end", "(I)I"⟩
abbrev cX0_in : ByteArray := prog_1_method_1_code
def yX0_in : MethodName := ⟨RX0, "in", "(JJJ)Z"⟩
abbrev cX0_person : ByteArray := prog_1_method_19_code
def yX0_person : MethodName := ⟨RX0, "person", "(III)I"⟩
abbrev cX0_canBe : ByteArray := prog_1_method_18_code
def yX0_canBe : MethodName := ⟨RX0, "canBe", "(II)Z"⟩
abbrev cX0_isRoom : ByteArray := prog_1_method_4_code
def yX0_isRoom : MethodName := ⟨RX0, "isRoom", "(I)Z"⟩
abbrev cX0_tell : ByteArray := prog_1_method_6_code
def yX0_tell : MethodName := ⟨RX0, "tell", "(I)I"⟩
abbrev cX0_books : ByteArray := prog_1_method_9_code
def yX0_books : MethodName := ⟨RX0, "books", "()LDebtDoors$Books;"⟩
abbrev cX0_settled : ByteArray := prog_1_method_7_code
def yX0_settled : MethodName := ⟨RX0, "settled", "(I)I"⟩
abbrev cX0_put : ByteArray := prog_1_method_21_code
def yX0_put : MethodName := ⟨RX0, "put", "(III)I"⟩
abbrev cX0_isPerson : ByteArray := prog_1_method_10_code
def yX0_isPerson : MethodName := ⟨RX0, "isPerson", "(I)Z"⟩
abbrev cX0_factsOf : ByteArray := prog_1_method_20_code
def yX0_factsOf : MethodName := ⟨RX0, "factsOf", "(I)[I"⟩
abbrev cX0_was : ByteArray := prog_1_method_8_code
def yX0_was : MethodName := ⟨RX0, "was", "(I)I"⟩
abbrev cX0_of : ByteArray := prog_1_method_22_code
def yX0_of : MethodName := ⟨RX0, "of", "(II)I"⟩
abbrev cX0_debt : ByteArray := prog_1_method_24_code
def yX0_debt : MethodName := ⟨RX0, "debt", "(III)I"⟩
abbrev cX0_debtNow : ByteArray := prog_1_method_23_code
def yX0_debtNow : MethodName := ⟨RX0, "debtNow", "(III)I"⟩
abbrev cX0_isAmount : ByteArray := prog_1_method_3_code
def yX0_isAmount : MethodName := ⟨RX0, "isAmount", "(I)Z"⟩
abbrev cX0_at : ByteArray := prog_1_method_25_code
def yX0_at : MethodName := ⟨RX0, "at", "(II)I"⟩
abbrev cX0_isDebt : ByteArray := prog_1_method_11_code
def yX0_isDebt : MethodName := ⟨RX0, "isDebt", "(I)Z"⟩
abbrev cX0_soldFor : ByteArray := prog_1_method_40_code
def yX0_soldFor : MethodName := ⟨RX0, "soldFor", "(LDebtDoors$Books;I)I"⟩
abbrev cX0_tells : ByteArray := prog_1_method_38_code
def yX0_tells : MethodName := ⟨RX0, "tells", "(ILDebtDoors$Books;IJI)I"⟩
abbrev cX0_ask : ByteArray := prog_1_method_35_code
def yX0_ask : MethodName := ⟨RX0, "ask", "(IIIII)V"⟩
abbrev cX0_law1 : ByteArray := prog_1_method_34_code
def yX0_law1 : MethodName := ⟨RX0, "law1", "()LDebtDoors$Text;"⟩
abbrev cX0_areTwo : ByteArray := prog_1_method_12_code
def yX0_areTwo : MethodName := ⟨RX0, "areTwo", "(II)Z"⟩
abbrev cX0_growsBy : ByteArray := prog_1_method_39_code
def yX0_growsBy : MethodName := ⟨RX0, "growsBy", "(LDebtDoors$Books;I)I"⟩
abbrev cX0_owes : ByteArray := prog_1_method_26_code
def yX0_owes : MethodName := ⟨RX0, "owes", "(II)I"⟩
abbrev cX0_terms : ByteArray := prog_1_method_27_code
def yX0_terms : MethodName := ⟨RX0, "terms", "(II)I"⟩
abbrev cX0_row : ByteArray := prog_1_method_29_code
def yX0_row : MethodName := ⟨RX0, "row", "()I"⟩
abbrev cX0_byteAt : ByteArray := prog_1_method_28_code
def yX0_byteAt : MethodName := ⟨RX0, "byteAt", "([BI)I"⟩
abbrev cX0_blots : ByteArray := prog_1_method_30_code
def yX0_blots : MethodName := ⟨RX0, "blots", "()I"⟩
abbrev cX0_law : ByteArray := prog_1_method_31_code
def yX0_law : MethodName := ⟨RX0, "law", "()I"⟩
abbrev cX0_isLetter : ByteArray := prog_1_method_16_code
def yX0_isLetter : MethodName := ⟨RX0, "isLetter", "(I)Z"⟩
abbrev cX0_isDigit : ByteArray := prog_1_method_17_code
def yX0_isDigit : MethodName := ⟨RX0, "isDigit", "(I)Z"⟩
abbrev cX0_fault : ByteArray := prog_1_method_32_code
def yX0_fault : MethodName := ⟨RX0, "fault", "()I"⟩
abbrev cX0_force : ByteArray := prog_1_method_33_code
def yX0_force : MethodName := ⟨RX0, "force", "(I)I"⟩
abbrev cX0_deep : ByteArray := prog_1_method_41_code
def yX0_deep : MethodName := ⟨RX0, "deep", "(II)I"⟩
abbrev cX0_deepIn : ByteArray := prog_1_method_37_code
def yX0_deepIn : MethodName := ⟨RX0, "deepIn", "(LDebtDoors$Books;III)I"⟩
abbrev cX0_deepBy : ByteArray := prog_1_method_36_code
def yX0_deepBy : MethodName := ⟨RX0, "deepBy", "(IIIII)I"⟩
abbrev cX0_doors : ByteArray := prog_1_method_43_code
def yX0_doors : MethodName := ⟨RX0, "doors", "(I)I"⟩
abbrev cX0_doorsOf : ByteArray := prog_1_method_42_code
def yX0_doorsOf : MethodName := ⟨RX0, "doorsOf", "(LDebtDoors$Books;I)I"⟩
abbrev cX0_lend : ByteArray := prog_1_method_48_code
def yX0_lend : MethodName := ⟨RX0, "lend", "(III)I"⟩
abbrev cX0_lendNow : ByteArray := prog_1_method_45_code
def yX0_lendNow : MethodName := ⟨RX0, "lendNow", "(III)I"⟩
abbrev cX0_remember : ByteArray := prog_1_method_44_code
def yX0_remember : MethodName := ⟨RX0, "remember", "(I)V"⟩
abbrev cX0_lendIn : ByteArray := prog_1_method_46_code
def yX0_lendIn : MethodName := ⟨RX0, "lendIn", "(LDebtDoors$Books;III)V"⟩
abbrev cX0_repay : ByteArray := prog_1_method_49_code
def yX0_repay : MethodName := ⟨RX0, "repay", "(III)I"⟩
abbrev cX0_repayNow : ByteArray := prog_1_method_47_code
def yX0_repayNow : MethodName := ⟨RX0, "repayNow", "(III)I"⟩
abbrev cX0_forgive : ByteArray := prog_1_method_50_code
def yX0_forgive : MethodName := ⟨RX0, "forgive", "(I)I"⟩
abbrev cX0_sell : ByteArray := prog_1_method_51_code
def yX0_sell : MethodName := ⟨RX0, "sell", "(II)I"⟩
abbrev cX0_await : ByteArray := prog_1_method_54_code
def yX0_await : MethodName := ⟨RX0, "await", "()I"⟩
abbrev cX0_waitNow : ByteArray := prog_1_method_53_code
def yX0_waitNow : MethodName := ⟨RX0, "waitNow", "()I"⟩
abbrev cX0_waitIn : ByteArray := prog_1_method_52_code
def yX0_waitIn : MethodName := ⟨RX0, "waitIn", "(LDebtDoors$Books;)I"⟩
abbrev cX0_undo : ByteArray := prog_1_method_55_code
def yX0_undo : MethodName := ⟨RX0, "undo", "()I"⟩
abbrev cX0_need : ByteArray := prog_1_method_57_code
def yX0_need : MethodName := ⟨RX0, "need", "(III)I"⟩
abbrev cX0_needOf : ByteArray := prog_1_method_56_code
def yX0_needOf : MethodName := ⟨RX0, "needOf", "(III)I"⟩
abbrev cX0_visit : ByteArray := prog_1_method_58_code
def yX0_visit : MethodName := ⟨RX0, "visit", "(IIII)I"⟩
abbrev cX0_cancel : ByteArray := prog_1_method_59_code
def yX0_cancel : MethodName := ⟨RX0, "cancel", "()I"⟩
abbrev cX0_lendings : ByteArray := prog_1_method_62_code
def yX0_lendings : MethodName := ⟨RX0, "lendings", "(I)I"⟩
abbrev cX0_lendings_2 : ByteArray := prog_1_method_61_code
def yX0_lendings_2 : MethodName := ⟨RX0, "lendings", "()LDebtDoors$Lendings;"⟩
abbrev cX0_deepest : ByteArray := prog_1_method_60_code
def yX0_deepest : MethodName := ⟨RX0, "deepest", "(I)I"⟩
abbrev cX0_has : ByteArray := prog_1_method_2_code
def yX0_has : MethodName := ⟨RX0, "has", "(II)Z"⟩
abbrev cX0_plan : ByteArray := prog_1_method_63_code
def yX0_plan : MethodName := ⟨RX0, "plan", "(I)I"⟩
abbrev cX0_thief : ByteArray := prog_1_method_64_code
def yX0_thief : MethodName := ⟨RX0, "thief", "(IIII)I"⟩
abbrev cX0_shut : ByteArray := prog_1_method_66_code
def yX0_shut : MethodName := ⟨RX0, "shut", "(III)I"⟩
abbrev cX0_shutOf : ByteArray := prog_1_method_65_code
def yX0_shutOf : MethodName := ⟨RX0, "shutOf", "(III)I"⟩
abbrev cX0_ban : ByteArray := prog_1_method_67_code
def yX0_ban : MethodName := ⟨RX0, "ban", "(I)I"⟩
abbrev cX0_party : ByteArray := prog_1_method_69_code
def yX0_party : MethodName := ⟨RX0, "party", "(I)I"⟩
abbrev cX0_partyAt : ByteArray := prog_1_method_68_code
def yX0_partyAt : MethodName := ⟨RX0, "partyAt", "(I)I"⟩
abbrev cX0_ring : ByteArray := prog_1_method_70_code
def yX0_ring : MethodName := ⟨RX0, "ring", "(I)I"⟩
abbrev cX0_clear : ByteArray := prog_1_method_71_code
def yX0_clear : MethodName := ⟨RX0, "clear", "()I"⟩
abbrev cX0_cleared : ByteArray := prog_1_method_72_code
def yX0_cleared : MethodName := ⟨RX0, "cleared", "(I)I"⟩
abbrev cX0_balance : ByteArray := prog_1_method_73_code
def yX0_balance : MethodName := ⟨RX0, "balance", "(I)I"⟩
abbrev cX0_payments : ByteArray := prog_1_method_74_code
def yX0_payments : MethodName := ⟨RX0, "payments", "()I"⟩
abbrev cX0_scuff : ByteArray := prog_1_method_75_code
def yX0_scuff : MethodName := ⟨RX0, "scuff", "(IIII)I"⟩
abbrev cX0_sweep : ByteArray := prog_1_method_76_code
def yX0_sweep : MethodName := ⟨RX0, "sweep", "()I"⟩
abbrev cX0_secret : ByteArray := prog_1_method_78_code
def yX0_secret : MethodName := ⟨RX0, "secret", "(I)I"⟩
abbrev cX0_isScuffed : ByteArray := prog_1_method_77_code
def yX0_isScuffed : MethodName := ⟨RX0, "isScuffed", "(LDebtDoors$Books;)Z"⟩
abbrev cX0_denied : ByteArray := prog_1_method_79_code
def yX0_denied : MethodName := ⟨RX0, "denied", "()I"⟩
abbrev cX0_orders : ByteArray := prog_1_method_81_code
def yX0_orders : MethodName := ⟨RX0, "orders", "()I"⟩
abbrev cX0_runAll : ByteArray := prog_1_method_80_code
def yX0_runAll : MethodName := ⟨RX0, "runAll", "([LDebtDoors$Order;)I"⟩
abbrev cX0_stopped : ByteArray := prog_1_method_82_code
def yX0_stopped : MethodName := ⟨RX0, "stopped", "()I"⟩
abbrev cX0_month : ByteArray := prog_1_method_83_code
def yX0_month : MethodName := ⟨RX0, "month", "(II)I"⟩
abbrev cX0_drawn : ByteArray := prog_1_method_84_code
def yX0_drawn : MethodName := ⟨RX0, "drawn", "(II)I"⟩
abbrev cX0_image : ByteArray := prog_1_method_85_code
def yX0_image : MethodName := ⟨RX0, "image", "(I)I"⟩
abbrev cX0_back : ByteArray := prog_1_method_86_code
def yX0_back : MethodName := ⟨RX0, "back", "(I)I"⟩
abbrev cX0_count : ByteArray := prog_1_method_87_code
def yX0_count : MethodName := ⟨RX0, "count", "(I)I"⟩
abbrev cX0_status : ByteArray := prog_1_method_88_code
def yX0_status : MethodName := ⟨RX0, "status", "()I"⟩
theorem q125 : (Jvm.Cond.initialized "DebtDoors") ∈ lw_all := lw_g (lw_at lw_m1 1 rfl) rfl
theorem q178 : (Jvm.Cond.instantiable "DebtDoors" (18 : Nat)) ∈ lw_all := lw_g (lw_at lw_m1 54 rfl) rfl
theorem q180 : (Jvm.Cond.instanceMethod ({ cls := "DebtDoors", name := "<init>", desc := "()V" } : Jvm.MethodName)) ∈ lw_all := lw_g (lw_at lw_m1 56 rfl) rfl
theorem q181 : (Jvm.Cond.code ({ cls := "DebtDoors", name := "<init>", desc := "()V" } : Jvm.MethodName) prog_1_method_5_code (2 : Nat) (Option.none : Option Jvm.ClassFile.FieldType)) ∈ lw_all := lw_g (lw_at lw_m1 57 rfl) rfl
theorem q182 : (Jvm.Cond.methodLink "DebtDoors" (11 : Nat) ({ cls := "java/lang/Object", name := "<init>", desc := "()V" } : Jvm.MethodName)) ∈ lw_all := lw_g (lw_at lw_m1 58 rfl) rfl
theorem q185 : (Jvm.Cond.classLink "DebtDoors" (17 : Nat) "DebtDoors$Street") ∈ lw_all := lw_g (lw_at lw_m1 61 rfl) rfl
theorem q187 : (Jvm.Cond.methodLinkNest "DebtDoors" (19 : Nat) ({ cls := "DebtDoors$Street", name := "<init>", desc := "()V" } : Jvm.MethodName) "DebtDoors") ∈ lw_tbl := lw_at lw_m1 63 rfl
theorem q225 : (Jvm.Cond.fieldLinkNest "DebtDoors" (130 : Nat) "DebtDoors$Books" "purses" "[I" "DebtDoors") ∈ lw_tbl := lw_at lw_m1 101 rfl
theorem q228 : (Jvm.Cond.fieldLinkNest "DebtDoors" (165 : Nat) "DebtDoors$Books" "debtors" "[I" "DebtDoors") ∈ lw_tbl := lw_at lw_m1 104 rfl
theorem q231 : (Jvm.Cond.fieldLinkNest "DebtDoors" (168 : Nat) "DebtDoors$Books" "creditors" "[I" "DebtDoors") ∈ lw_tbl := lw_at lw_m1 107 rfl
theorem q234 : (Jvm.Cond.fieldLinkNest "DebtDoors" (171 : Nat) "DebtDoors$Books" "amounts" "[I" "DebtDoors") ∈ lw_tbl := lw_at lw_m1 110 rfl
theorem q236 : (Jvm.Cond.fieldLinkNest "DebtDoors" (174 : Nat) "DebtDoors$Books" "days" "[I" "DebtDoors") ∈ lw_tbl := lw_at lw_m1 112 rfl
theorem q240 : (Jvm.Cond.fieldLinkNest "DebtDoors" (107 : Nat) "DebtDoors$Books" "many" "I" "DebtDoors") ∈ lw_tbl := lw_at lw_m1 116 rfl
theorem q243 : (Jvm.Cond.fieldLinkNest "DebtDoors" (194 : Nat) "DebtDoors$Books" "day" "I" "DebtDoors") ∈ lw_tbl := lw_at lw_m1 119 rfl
theorem q261 : (Jvm.Cond.fieldLinkNest "DebtDoors" (215 : Nat) "DebtDoors$Street" "laws" "Ljava/util/ArrayList;" "DebtDoors") ∈ lw_tbl := lw_at lw_m1 137 rfl
theorem q265 : (Jvm.Cond.fieldLinkNest "DebtDoors" (343 : Nat) "DebtDoors$Street" "visits" "Ljava/util/ArrayList;" "DebtDoors") ∈ lw_tbl := lw_at lw_m1 141 rfl
theorem q267 : (Jvm.Cond.fieldLinkNest "DebtDoors" (437 : Nat) "DebtDoors$Street" "scuffs" "Ljava/util/ArrayList;" "DebtDoors") ∈ lw_tbl := lw_at lw_m1 143 rfl
theorem q269 : (Jvm.Cond.fieldLinkNest "DebtDoors" (98 : Nat) "DebtDoors$Street" "books" "LDebtDoors$Books;" "DebtDoors") ∈ lw_tbl := lw_at lw_m1 145 rfl
theorem q271 : (Jvm.Cond.fieldLinkNest "DebtDoors" (133 : Nat) "DebtDoors$Street" "rooms" "[I" "DebtDoors") ∈ lw_tbl := lw_at lw_m1 147 rfl
theorem q273 : (Jvm.Cond.fieldLinkNest "DebtDoors" (136 : Nat) "DebtDoors$Street" "wary" "[I" "DebtDoors") ∈ lw_tbl := lw_at lw_m1 149 rfl
theorem q276 : (Jvm.Cond.fieldLinkNest "DebtDoors" (101 : Nat) "DebtDoors$Street" "people" "I" "DebtDoors") ∈ lw_tbl := lw_at lw_m1 152 rfl
theorem q278 : (Jvm.Cond.fieldLinkNest "DebtDoors" (197 : Nat) "DebtDoors$Street" "mood" "I" "DebtDoors") ∈ lw_tbl := lw_at lw_m1 154 rfl
theorem q280 : (Jvm.Cond.fieldLinkNest "DebtDoors" (239 : Nat) "DebtDoors$Street" "inForce" "I" "DebtDoors") ∈ lw_tbl := lw_at lw_m1 156 rfl
theorem q301 : (Jvm.Cond.classLink "DebtDoors" (28 : Nat) "java/util/ArrayList") ∈ lw_all := lw_g (lw_at lw_m1 177 rfl) rfl
theorem q302 : (Jvm.Cond.methodLink "DebtDoors" (30 : Nat) ({ cls := "java/util/ArrayList", name := "<init>", desc := "()V" } : Jvm.MethodName)) ∈ lw_all := lw_g (lw_at lw_m1 178 rfl) rfl
theorem q303 : (Jvm.Cond.classLink "DebtDoors" (35 : Nat) "DebtDoors$Asked") ∈ lw_all := lw_g (lw_at lw_m1 179 rfl) rfl
theorem q305 : (Jvm.Cond.methodLinkNest "DebtDoors" (37 : Nat) ({ cls := "DebtDoors$Asked", name := "<init>", desc := "()V" } : Jvm.MethodName) "DebtDoors") ∈ lw_tbl := lw_at lw_m1 181 rfl
theorem q312 : (Jvm.Cond.fieldLinkNest "DebtDoors" (246 : Nat) "DebtDoors$Asked" "numbers" "[J" "DebtDoors") ∈ lw_tbl := lw_at lw_m1 188 rfl
theorem q326 : (Jvm.Cond.classLink "DebtDoors" (45 : Nat) "DebtDoors$Text") ∈ lw_all := lw_g (lw_at lw_m1 202 rfl) rfl
theorem q328 : (Jvm.Cond.classLink "DebtDoors" (47 : Nat) "DebtDoors$Clause") ∈ lw_all := lw_g (lw_at lw_m1 204 rfl) rfl
theorem q330 : (Jvm.Cond.methodLink "DebtDoors" (49 : Nat) ({ cls := "DebtDoors$Text", name := "<init>", desc := "([LDebtDoors$Clause;)V" } : Jvm.MethodName)) ∈ lw_all := lw_g (lw_at lw_m1 206 rfl) rfl
theorem q338 : (Jvm.Cond.classLink "DebtDoors" (71 : Nat) "DebtDoors$Books") ∈ lw_all := lw_g (lw_at lw_m1 214 rfl) rfl
theorem q339 : (Jvm.Cond.methodLinkNest "DebtDoors" (73 : Nat) ({ cls := "DebtDoors$Books", name := "<init>", desc := "()V" } : Jvm.MethodName) "DebtDoors") ∈ lw_tbl := lw_at lw_m1 215 rfl
theorem q344 : (Jvm.Cond.fieldLink "DebtDoors" (20 : Nat) "DebtDoors" "street" "LDebtDoors$Street;") ∈ lw_all := lw_g (lw_at lw_m1 220 rfl) rfl
theorem q345 : (Jvm.Cond.fieldLink "DebtDoors" (24 : Nat) "DebtDoors" "images" "[LDebtDoors$Street;") ∈ lw_all := lw_g (lw_at lw_m1 221 rfl) rfl
theorem q346 : (Jvm.Cond.fieldLink "DebtDoors" (31 : Nat) "DebtDoors" "undos" "Ljava/util/ArrayList;") ∈ lw_all := lw_g (lw_at lw_m1 222 rfl) rfl
theorem q347 : (Jvm.Cond.fieldLink "DebtDoors" (38 : Nat) "DebtDoors" "asked" "LDebtDoors$Asked;") ∈ lw_all := lw_g (lw_at lw_m1 223 rfl) rfl
theorem q349 : (Jvm.Cond.fieldLink "DebtDoors" (42 : Nat) "DebtDoors" "inOrders" "LDebtDoors$Asked;") ∈ lw_all := lw_g (lw_at lw_m1 225 rfl) rfl
theorem q350 : (Jvm.Cond.fieldLink "DebtDoors" (52 : Nat) "DebtDoors" "nothingTold" "LDebtDoors$Text;") ∈ lw_all := lw_g (lw_at lw_m1 226 rfl) rfl
theorem q351 : (Jvm.Cond.fieldLink "DebtDoors" (56 : Nat) "DebtDoors" "refused" "[I") ∈ lw_all := lw_g (lw_at lw_m1 227 rfl) rfl
theorem q352 : (Jvm.Cond.fieldLink "DebtDoors" (88 : Nat) "DebtDoors" "status" "I") ∈ lw_all := lw_g (lw_at lw_m1 228 rfl) rfl
theorem q353 : (Jvm.Cond.fieldLink "DebtDoors" (60 : Nat) "DebtDoors" "fault" "I") ∈ lw_all := lw_g (lw_at lw_m1 229 rfl) rfl
theorem q354 : (Jvm.Cond.fieldLink "DebtDoors" (206 : Nat) "DebtDoors" "blots" "I") ∈ lw_all := lw_g (lw_at lw_m1 230 rfl) rfl
theorem q355 : (Jvm.Cond.fieldLink "DebtDoors" (64 : Nat) "DebtDoors" "stopped" "I") ∈ lw_all := lw_g (lw_at lw_m1 231 rfl) rfl
theorem q358 : (Jvm.Cond.fieldLink "DebtDoors" (67 : Nat) "DebtDoors" "tape" "[B") ∈ lw_all := lw_g (lw_at lw_m1 234 rfl) rfl
theorem q360 : (Jvm.Cond.fieldLink "DebtDoors" (114 : Nat) "DebtDoors" "taped" "I") ∈ lw_all := lw_g (lw_at lw_m1 236 rfl) rfl
theorem q361 : (Jvm.Cond.fieldLink "DebtDoors" (74 : Nat) "DebtDoors" "paper" "LDebtDoors$Books;") ∈ lw_all := lw_g (lw_at lw_m1 237 rfl) rfl
theorem q363 : (Jvm.Cond.fieldLink "DebtDoors" (78 : Nat) "DebtDoors" "states" "[LDebtDoors$Books;") ∈ lw_all := lw_g (lw_at lw_m1 239 rfl) rfl
theorem q365 : (Jvm.Cond.fieldLink "DebtDoors" (463 : Nat) "DebtDoors" "done" "I") ∈ lw_all := lw_g (lw_at lw_m2 1 rfl) rfl
theorem q368 : (Jvm.Cond.fieldLink "DebtDoors" (475 : Nat) "DebtDoors" "last" "I") ∈ lw_all := lw_g (lw_at lw_m2 4 rfl) rfl
theorem q369 : (Jvm.Cond.fieldLink "DebtDoors" (498 : Nat) "DebtDoors" "drawn" "[[I") ∈ lw_all := lw_g (lw_at lw_m2 5 rfl) rfl
theorem q370 : (Jvm.Cond.lays "DebtDoors" "DebtDoors" "street" "LDebtDoors$Street;") ∈ lw_all := lw_g (lw_at lw_m2 6 rfl) rfl
theorem q371 : (Jvm.Cond.soleField "DebtDoors" "street") ∈ lw_all := lw_g (lw_at lw_m2 7 rfl) rfl
theorem q372 : (Jvm.Cond.laysFinal "DebtDoors" "DebtDoors" "images" "[LDebtDoors$Street;") ∈ lw_all := lw_g (lw_at lw_m2 8 rfl) rfl
theorem q373 : (Jvm.Cond.soleField "DebtDoors" "images") ∈ lw_all := lw_g (lw_at lw_m2 9 rfl) rfl
theorem q374 : (Jvm.Cond.laysFinal "DebtDoors" "DebtDoors" "undos" "Ljava/util/ArrayList;") ∈ lw_all := lw_g (lw_at lw_m2 10 rfl) rfl
theorem q375 : (Jvm.Cond.soleField "DebtDoors" "undos") ∈ lw_all := lw_g (lw_at lw_m2 11 rfl) rfl
theorem q376 : (Jvm.Cond.laysFinal "DebtDoors" "DebtDoors" "asked" "LDebtDoors$Asked;") ∈ lw_all := lw_g (lw_at lw_m2 12 rfl) rfl
theorem q377 : (Jvm.Cond.soleField "DebtDoors" "asked") ∈ lw_all := lw_g (lw_at lw_m2 13 rfl) rfl
theorem q378 : (Jvm.Cond.laysFinal "DebtDoors" "DebtDoors" "inOrders" "LDebtDoors$Asked;") ∈ lw_all := lw_g (lw_at lw_m2 14 rfl) rfl
theorem q379 : (Jvm.Cond.soleField "DebtDoors" "inOrders") ∈ lw_all := lw_g (lw_at lw_m2 15 rfl) rfl
theorem q380 : (Jvm.Cond.laysFinal "DebtDoors" "DebtDoors" "nothingTold" "LDebtDoors$Text;") ∈ lw_all := lw_g (lw_at lw_m2 16 rfl) rfl
theorem q381 : (Jvm.Cond.soleField "DebtDoors" "nothingTold") ∈ lw_all := lw_g (lw_at lw_m2 17 rfl) rfl
theorem q382 : (Jvm.Cond.laysFinal "DebtDoors" "DebtDoors" "refused" "[I") ∈ lw_all := lw_g (lw_at lw_m2 18 rfl) rfl
theorem q383 : (Jvm.Cond.soleField "DebtDoors" "refused") ∈ lw_all := lw_g (lw_at lw_m2 19 rfl) rfl
theorem q384 : (Jvm.Cond.lays "DebtDoors" "DebtDoors" "status" "I") ∈ lw_all := lw_g (lw_at lw_m2 20 rfl) rfl
theorem q385 : (Jvm.Cond.soleField "DebtDoors" "status") ∈ lw_all := lw_g (lw_at lw_m2 21 rfl) rfl
theorem q386 : (Jvm.Cond.lays "DebtDoors" "DebtDoors" "fault" "I") ∈ lw_all := lw_g (lw_at lw_m2 22 rfl) rfl
theorem q387 : (Jvm.Cond.soleField "DebtDoors" "fault") ∈ lw_all := lw_g (lw_at lw_m2 23 rfl) rfl
theorem q388 : (Jvm.Cond.lays "DebtDoors" "DebtDoors" "blots" "I") ∈ lw_all := lw_g (lw_at lw_m2 24 rfl) rfl
theorem q389 : (Jvm.Cond.soleField "DebtDoors" "blots") ∈ lw_all := lw_g (lw_at lw_m2 25 rfl) rfl
theorem q390 : (Jvm.Cond.lays "DebtDoors" "DebtDoors" "stopped" "I") ∈ lw_all := lw_g (lw_at lw_m2 26 rfl) rfl
theorem q391 : (Jvm.Cond.soleField "DebtDoors" "stopped") ∈ lw_all := lw_g (lw_at lw_m2 27 rfl) rfl
theorem q392 : (Jvm.Cond.laysFinal "DebtDoors" "DebtDoors" "tape" "[B") ∈ lw_all := lw_g (lw_at lw_m2 28 rfl) rfl
theorem q393 : (Jvm.Cond.soleField "DebtDoors" "tape") ∈ lw_all := lw_g (lw_at lw_m2 29 rfl) rfl
theorem q394 : (Jvm.Cond.lays "DebtDoors" "DebtDoors" "taped" "I") ∈ lw_all := lw_g (lw_at lw_m2 30 rfl) rfl
theorem q395 : (Jvm.Cond.soleField "DebtDoors" "taped") ∈ lw_all := lw_g (lw_at lw_m2 31 rfl) rfl
theorem q396 : (Jvm.Cond.laysFinal "DebtDoors" "DebtDoors" "paper" "LDebtDoors$Books;") ∈ lw_all := lw_g (lw_at lw_m2 32 rfl) rfl
theorem q397 : (Jvm.Cond.soleField "DebtDoors" "paper") ∈ lw_all := lw_g (lw_at lw_m2 33 rfl) rfl
theorem q398 : (Jvm.Cond.laysFinal "DebtDoors" "DebtDoors" "states" "[LDebtDoors$Books;") ∈ lw_all := lw_g (lw_at lw_m2 34 rfl) rfl
theorem q399 : (Jvm.Cond.soleField "DebtDoors" "states") ∈ lw_all := lw_g (lw_at lw_m2 35 rfl) rfl
theorem q400 : (Jvm.Cond.lays "DebtDoors" "DebtDoors" "done" "I") ∈ lw_all := lw_g (lw_at lw_m2 36 rfl) rfl
theorem q401 : (Jvm.Cond.soleField "DebtDoors" "done") ∈ lw_all := lw_g (lw_at lw_m2 37 rfl) rfl
theorem q402 : (Jvm.Cond.lays "DebtDoors" "DebtDoors" "last" "I") ∈ lw_all := lw_g (lw_at lw_m2 38 rfl) rfl
theorem q403 : (Jvm.Cond.soleField "DebtDoors" "last") ∈ lw_all := lw_g (lw_at lw_m2 39 rfl) rfl
theorem q404 : (Jvm.Cond.lays "DebtDoors" "DebtDoors" "drawn" "[[I") ∈ lw_all := lw_g (lw_at lw_m2 40 rfl) rfl
theorem q405 : (Jvm.Cond.soleField "DebtDoors" "drawn") ∈ lw_all := lw_g (lw_at lw_m2 41 rfl) rfl
theorem q406 : (Jvm.Cond.superclass "DebtDoors" "java/lang/Object") ∈ lw_all := lw_g (lw_at lw_m2 42 rfl) rfl
theorem q409 : (Jvm.Cond.instanceMethod ({ cls := "DebtDoors", name := "feed", desc := "(IIIII)I" } : Jvm.MethodName)) ∈ lw_all := lw_g (lw_at lw_m2 45 rfl) rfl
theorem q410 : (Jvm.Cond.selects "DebtDoors" ({ cls := "DebtDoors", name := "feed", desc := "(IIIII)I" } : Jvm.MethodName) ({ cls := "DebtDoors", name := "feed", desc := "(IIIII)I" } : Jvm.MethodName)) ∈ lw_all := lw_g (lw_at lw_m2 46 rfl) rfl
theorem q411 : (Jvm.Cond.code ({ cls := "DebtDoors", name := "feed", desc := "(IIIII)I" } : Jvm.MethodName) prog_1_method_14_code (6 : Nat) (Option.some Jvm.ClassFile.FieldType.int)) ∈ lw_all := lw_g (lw_at lw_m2 47 rfl) rfl
theorem q412 : (Jvm.Cond.methodLink "DebtDoors" (117 : Nat) ({ cls := "DebtDoors", name := "four", desc := "(I)V" } : Jvm.MethodName)) ∈ lw_all := lw_g (lw_at lw_m2 48 rfl) rfl
theorem q413 : (Jvm.Cond.privateMethod ({ cls := "DebtDoors", name := "four", desc := "(I)V" } : Jvm.MethodName)) ∈ lw_tbl := lw_at lw_m2 49 rfl
theorem q414 : (Jvm.Cond.instanceMethod ({ cls := "DebtDoors", name := "four", desc := "(I)V" } : Jvm.MethodName)) ∈ lw_all := lw_g (lw_at lw_m2 50 rfl) rfl
theorem q415 : (Jvm.Cond.code ({ cls := "DebtDoors", name := "four", desc := "(I)V" } : Jvm.MethodName) prog_1_method_13_code (3 : Nat) (Option.none : Option Jvm.ClassFile.FieldType)) ∈ lw_all := lw_g (lw_at lw_m2 51 rfl) rfl
theorem q417 : (Jvm.Cond.instanceMethod ({ cls := "DebtDoors", name := "end", desc := "(I)I" } : Jvm.MethodName)) ∈ lw_all := lw_g (lw_at lw_m2 53 rfl) rfl
theorem q418 : (Jvm.Cond.selects "DebtDoors" ({ cls := "DebtDoors", name := "end", desc := "(I)I" } : Jvm.MethodName) ({ cls := "DebtDoors", name := "end", desc := "(I)I" } : Jvm.MethodName)) ∈ lw_all := lw_g (lw_at lw_m2 54 rfl) rfl
theorem q419 : (Jvm.Cond.code ({ cls := "DebtDoors", name := "end", desc := "(I)I" } : Jvm.MethodName) prog_1_method_15_code (2 : Nat) (Option.some Jvm.ClassFile.FieldType.int)) ∈ lw_all := lw_g (lw_at lw_m2 55 rfl) rfl
theorem q420 : (Jvm.Cond.methodLink "DebtDoors" (5 : Nat) ({ cls := "DebtDoors", name := "in", desc := "(JJJ)Z" } : Jvm.MethodName)) ∈ lw_all := lw_g (lw_at lw_m2 56 rfl) rfl
theorem q421 : (Jvm.Cond.static ({ cls := "DebtDoors", name := "in", desc := "(JJJ)Z" } : Jvm.MethodName)) ∈ lw_all := lw_g (lw_at lw_m2 57 rfl) rfl
theorem q422 : (Jvm.Cond.code ({ cls := "DebtDoors", name := "in", desc := "(JJJ)Z" } : Jvm.MethodName) prog_1_method_1_code (6 : Nat) (Option.some Jvm.ClassFile.FieldType.boolean)) ∈ lw_all := lw_g (lw_at lw_m2 58 rfl) rfl
theorem q424 : (Jvm.Cond.instanceMethod ({ cls := "DebtDoors", name := "person", desc := "(III)I" } : Jvm.MethodName)) ∈ lw_all := lw_g (lw_at lw_m2 60 rfl) rfl
theorem q425 : (Jvm.Cond.selects "DebtDoors" ({ cls := "DebtDoors", name := "person", desc := "(III)I" } : Jvm.MethodName) ({ cls := "DebtDoors", name := "person", desc := "(III)I" } : Jvm.MethodName)) ∈ lw_all := lw_g (lw_at lw_m2 61 rfl) rfl
theorem q426 : (Jvm.Cond.code ({ cls := "DebtDoors", name := "person", desc := "(III)I" } : Jvm.MethodName) prog_1_method_19_code (5 : Nat) (Option.some Jvm.ClassFile.FieldType.int)) ∈ lw_all := lw_g (lw_at lw_m2 62 rfl) rfl
theorem q427 : (Jvm.Cond.methodLink "DebtDoors" (126 : Nat) ({ cls := "DebtDoors", name := "canBe", desc := "(II)Z" } : Jvm.MethodName)) ∈ lw_all := lw_g (lw_at lw_m2 63 rfl) rfl
theorem q428 : (Jvm.Cond.static ({ cls := "DebtDoors", name := "canBe", desc := "(II)Z" } : Jvm.MethodName)) ∈ lw_all := lw_g (lw_at lw_m2 64 rfl) rfl
theorem q429 : (Jvm.Cond.code ({ cls := "DebtDoors", name := "canBe", desc := "(II)Z" } : Jvm.MethodName) prog_1_method_18_code (2 : Nat) (Option.some Jvm.ClassFile.FieldType.boolean)) ∈ lw_all := lw_g (lw_at lw_m2 65 rfl) rfl
theorem q430 : (Jvm.Cond.constantLong "DebtDoors" (3 : Nat) (9999 : Int64)) ∈ lw_all := lw_g (lw_at lw_m2 66 rfl) rfl
theorem q431 : (Jvm.Cond.methodLink "DebtDoors" (121 : Nat) ({ cls := "DebtDoors", name := "isRoom", desc := "(I)Z" } : Jvm.MethodName)) ∈ lw_all := lw_g (lw_at lw_m2 67 rfl) rfl
theorem q432 : (Jvm.Cond.static ({ cls := "DebtDoors", name := "isRoom", desc := "(I)Z" } : Jvm.MethodName)) ∈ lw_all := lw_g (lw_at lw_m2 68 rfl) rfl
theorem q433 : (Jvm.Cond.code ({ cls := "DebtDoors", name := "isRoom", desc := "(I)Z" } : Jvm.MethodName) prog_1_method_4_code (1 : Nat) (Option.some Jvm.ClassFile.FieldType.boolean)) ∈ lw_all := lw_g (lw_at lw_m2 69 rfl) rfl
theorem q434 : (Jvm.Cond.constantLong "DebtDoors" (9 : Nat) (3 : Int64)) ∈ lw_all := lw_g (lw_at lw_m2 70 rfl) rfl
theorem q435 : (Jvm.Cond.constantLong "DebtDoors" (124 : Nat) (99 : Int64)) ∈ lw_all := lw_g (lw_at lw_m2 71 rfl) rfl
theorem q436 : (Jvm.Cond.methodLink "DebtDoors" (94 : Nat) ({ cls := "DebtDoors", name := "tell", desc := "(I)I" } : Jvm.MethodName)) ∈ lw_all := lw_g (lw_at lw_m2 72 rfl) rfl
theorem q437 : (Jvm.Cond.privateMethod ({ cls := "DebtDoors", name := "tell", desc := "(I)I" } : Jvm.MethodName)) ∈ lw_tbl := lw_at lw_m2 73 rfl
theorem q438 : (Jvm.Cond.instanceMethod ({ cls := "DebtDoors", name := "tell", desc := "(I)I" } : Jvm.MethodName)) ∈ lw_all := lw_g (lw_at lw_m2 74 rfl) rfl
theorem q439 : (Jvm.Cond.code ({ cls := "DebtDoors", name := "tell", desc := "(I)I" } : Jvm.MethodName) prog_1_method_6_code (2 : Nat) (Option.some Jvm.ClassFile.FieldType.int)) ∈ lw_all := lw_g (lw_at lw_m2 75 rfl) rfl
theorem q440 : (Jvm.Cond.methodLink "DebtDoors" (82 : Nat) ({ cls := "java/lang/Math", name := "min", desc := "(II)I" } : Jvm.MethodName)) ∈ lw_all := lw_g (lw_at lw_m2 76 rfl) rfl
theorem q443 : (Jvm.Cond.methodLink "DebtDoors" (104 : Nat) ({ cls := "DebtDoors", name := "books", desc := "()LDebtDoors$Books;" } : Jvm.MethodName)) ∈ lw_all := lw_g (lw_at lw_m2 79 rfl) rfl
theorem q444 : (Jvm.Cond.privateMethod ({ cls := "DebtDoors", name := "books", desc := "()LDebtDoors$Books;" } : Jvm.MethodName)) ∈ lw_tbl := lw_at lw_m2 80 rfl
theorem q445 : (Jvm.Cond.instanceMethod ({ cls := "DebtDoors", name := "books", desc := "()LDebtDoors$Books;" } : Jvm.MethodName)) ∈ lw_all := lw_g (lw_at lw_m2 81 rfl) rfl
theorem q446 : (Jvm.Cond.code ({ cls := "DebtDoors", name := "books", desc := "()LDebtDoors$Books;" } : Jvm.MethodName) prog_1_method_9_code (1 : Nat) (Option.some (Jvm.ClassFile.FieldType.object "DebtDoors$Books"))) ∈ lw_all := lw_g (lw_at lw_m2 82 rfl) rfl
theorem q447 : (Jvm.Cond.methodLink "DebtDoors" (139 : Nat) ({ cls := "DebtDoors", name := "settled", desc := "(I)I" } : Jvm.MethodName)) ∈ lw_all := lw_g (lw_at lw_m2 83 rfl) rfl
theorem q448 : (Jvm.Cond.privateMethod ({ cls := "DebtDoors", name := "settled", desc := "(I)I" } : Jvm.MethodName)) ∈ lw_tbl := lw_at lw_m2 84 rfl
theorem q449 : (Jvm.Cond.instanceMethod ({ cls := "DebtDoors", name := "settled", desc := "(I)I" } : Jvm.MethodName)) ∈ lw_all := lw_g (lw_at lw_m2 85 rfl) rfl
theorem q450 : (Jvm.Cond.code ({ cls := "DebtDoors", name := "settled", desc := "(I)I" } : Jvm.MethodName) prog_1_method_7_code (2 : Nat) (Option.some Jvm.ClassFile.FieldType.int)) ∈ lw_all := lw_g (lw_at lw_m2 86 rfl) rfl
theorem q451 : (Jvm.Cond.methodLink "DebtDoors" (91 : Nat) ({ cls := "java/util/ArrayList", name := "clear", desc := "()V" } : Jvm.MethodName)) ∈ lw_all := lw_g (lw_at lw_m2 87 rfl) rfl
theorem q456 : (Jvm.Cond.instanceMethod ({ cls := "DebtDoors", name := "put", desc := "(III)I" } : Jvm.MethodName)) ∈ lw_all := lw_g (lw_at lw_m2 92 rfl) rfl
theorem q457 : (Jvm.Cond.selects "DebtDoors" ({ cls := "DebtDoors", name := "put", desc := "(III)I" } : Jvm.MethodName) ({ cls := "DebtDoors", name := "put", desc := "(III)I" } : Jvm.MethodName)) ∈ lw_all := lw_g (lw_at lw_m2 93 rfl) rfl
theorem q458 : (Jvm.Cond.code ({ cls := "DebtDoors", name := "put", desc := "(III)I" } : Jvm.MethodName) prog_1_method_21_code (5 : Nat) (Option.some Jvm.ClassFile.FieldType.int)) ∈ lw_all := lw_g (lw_at lw_m2 94 rfl) rfl
theorem q459 : (Jvm.Cond.methodLink "DebtDoors" (110 : Nat) ({ cls := "DebtDoors", name := "isPerson", desc := "(I)Z" } : Jvm.MethodName)) ∈ lw_all := lw_g (lw_at lw_m2 95 rfl) rfl
theorem q460 : (Jvm.Cond.privateMethod ({ cls := "DebtDoors", name := "isPerson", desc := "(I)Z" } : Jvm.MethodName)) ∈ lw_tbl := lw_at lw_m2 96 rfl
theorem q461 : (Jvm.Cond.instanceMethod ({ cls := "DebtDoors", name := "isPerson", desc := "(I)Z" } : Jvm.MethodName)) ∈ lw_all := lw_g (lw_at lw_m2 97 rfl) rfl
theorem q462 : (Jvm.Cond.code ({ cls := "DebtDoors", name := "isPerson", desc := "(I)Z" } : Jvm.MethodName) prog_1_method_10_code (2 : Nat) (Option.some Jvm.ClassFile.FieldType.boolean)) ∈ lw_all := lw_g (lw_at lw_m2 98 rfl) rfl
theorem q463 : (Jvm.Cond.methodLink "DebtDoors" (142 : Nat) ({ cls := "DebtDoors", name := "factsOf", desc := "(I)[I" } : Jvm.MethodName)) ∈ lw_all := lw_g (lw_at lw_m2 99 rfl) rfl
theorem q464 : (Jvm.Cond.privateMethod ({ cls := "DebtDoors", name := "factsOf", desc := "(I)[I" } : Jvm.MethodName)) ∈ lw_tbl := lw_at lw_m2 100 rfl
theorem q465 : (Jvm.Cond.instanceMethod ({ cls := "DebtDoors", name := "factsOf", desc := "(I)[I" } : Jvm.MethodName)) ∈ lw_all := lw_g (lw_at lw_m2 101 rfl) rfl
theorem q466 : (Jvm.Cond.code ({ cls := "DebtDoors", name := "factsOf", desc := "(I)[I" } : Jvm.MethodName) prog_1_method_20_code (2 : Nat) (Option.some (Jvm.ClassFile.FieldType.array Jvm.ClassFile.FieldType.int))) ∈ lw_all := lw_g (lw_at lw_m2 102 rfl) rfl
theorem q467 : (Jvm.Cond.methodLink "DebtDoors" (146 : Nat) ({ cls := "DebtDoors", name := "was", desc := "(I)I" } : Jvm.MethodName)) ∈ lw_all := lw_g (lw_at lw_m2 103 rfl) rfl
theorem q468 : (Jvm.Cond.privateMethod ({ cls := "DebtDoors", name := "was", desc := "(I)I" } : Jvm.MethodName)) ∈ lw_tbl := lw_at lw_m2 104 rfl
theorem q469 : (Jvm.Cond.instanceMethod ({ cls := "DebtDoors", name := "was", desc := "(I)I" } : Jvm.MethodName)) ∈ lw_all := lw_g (lw_at lw_m2 105 rfl) rfl
theorem q470 : (Jvm.Cond.code ({ cls := "DebtDoors", name := "was", desc := "(I)I" } : Jvm.MethodName) prog_1_method_8_code (2 : Nat) (Option.some Jvm.ClassFile.FieldType.int)) ∈ lw_all := lw_g (lw_at lw_m2 106 rfl) rfl
theorem q472 : (Jvm.Cond.instanceMethod ({ cls := "DebtDoors", name := "of", desc := "(II)I" } : Jvm.MethodName)) ∈ lw_all := lw_g (lw_at lw_m2 108 rfl) rfl
theorem q473 : (Jvm.Cond.selects "DebtDoors" ({ cls := "DebtDoors", name := "of", desc := "(II)I" } : Jvm.MethodName) ({ cls := "DebtDoors", name := "of", desc := "(II)I" } : Jvm.MethodName)) ∈ lw_all := lw_g (lw_at lw_m2 109 rfl) rfl
theorem q474 : (Jvm.Cond.code ({ cls := "DebtDoors", name := "of", desc := "(II)I" } : Jvm.MethodName) prog_1_method_22_code (3 : Nat) (Option.some Jvm.ClassFile.FieldType.int)) ∈ lw_all := lw_g (lw_at lw_m2 110 rfl) rfl
theorem q475 : (Jvm.Cond.constantLong "DebtDoors" (149 : Nat) (2 : Int64)) ∈ lw_all := lw_g (lw_at lw_m2 111 rfl) rfl
theorem q477 : (Jvm.Cond.instanceMethod ({ cls := "DebtDoors", name := "debt", desc := "(III)I" } : Jvm.MethodName)) ∈ lw_all := lw_g (lw_at lw_m2 113 rfl) rfl
theorem q478 : (Jvm.Cond.selects "DebtDoors" ({ cls := "DebtDoors", name := "debt", desc := "(III)I" } : Jvm.MethodName) ({ cls := "DebtDoors", name := "debt", desc := "(III)I" } : Jvm.MethodName)) ∈ lw_all := lw_g (lw_at lw_m2 114 rfl) rfl
theorem q479 : (Jvm.Cond.code ({ cls := "DebtDoors", name := "debt", desc := "(III)I" } : Jvm.MethodName) prog_1_method_24_code (4 : Nat) (Option.some Jvm.ClassFile.FieldType.int)) ∈ lw_all := lw_g (lw_at lw_m2 115 rfl) rfl
theorem q480 : (Jvm.Cond.methodLink "DebtDoors" (158 : Nat) ({ cls := "DebtDoors", name := "debtNow", desc := "(III)I" } : Jvm.MethodName)) ∈ lw_all := lw_g (lw_at lw_m2 116 rfl) rfl
theorem q481 : (Jvm.Cond.privateMethod ({ cls := "DebtDoors", name := "debtNow", desc := "(III)I" } : Jvm.MethodName)) ∈ lw_tbl := lw_at lw_m2 117 rfl
theorem q482 : (Jvm.Cond.instanceMethod ({ cls := "DebtDoors", name := "debtNow", desc := "(III)I" } : Jvm.MethodName)) ∈ lw_all := lw_g (lw_at lw_m2 118 rfl) rfl
theorem q483 : (Jvm.Cond.code ({ cls := "DebtDoors", name := "debtNow", desc := "(III)I" } : Jvm.MethodName) prog_1_method_23_code (4 : Nat) (Option.some Jvm.ClassFile.FieldType.int)) ∈ lw_all := lw_g (lw_at lw_m2 119 rfl) rfl
theorem q484 : (Jvm.Cond.methodLink "DebtDoors" (151 : Nat) ({ cls := "DebtDoors", name := "isAmount", desc := "(I)Z" } : Jvm.MethodName)) ∈ lw_all := lw_g (lw_at lw_m2 120 rfl) rfl
theorem q485 : (Jvm.Cond.static ({ cls := "DebtDoors", name := "isAmount", desc := "(I)Z" } : Jvm.MethodName)) ∈ lw_all := lw_g (lw_at lw_m2 121 rfl) rfl
theorem q486 : (Jvm.Cond.code ({ cls := "DebtDoors", name := "isAmount", desc := "(I)Z" } : Jvm.MethodName) prog_1_method_3_code (1 : Nat) (Option.some Jvm.ClassFile.FieldType.boolean)) ∈ lw_all := lw_g (lw_at lw_m2 122 rfl) rfl
theorem q487 : (Jvm.Cond.methodLink "DebtDoors" (154 : Nat) ({ cls := "DebtDoors$Books", name := "add", desc := "(III)V" } : Jvm.MethodName)) ∈ lw_all := lw_g (lw_at lw_m2 123 rfl) rfl
theorem q492 : (Jvm.Cond.instanceMethod ({ cls := "DebtDoors", name := "at", desc := "(II)I" } : Jvm.MethodName)) ∈ lw_all := lw_g (lw_at lw_m2 128 rfl) rfl
theorem q493 : (Jvm.Cond.selects "DebtDoors" ({ cls := "DebtDoors", name := "at", desc := "(II)I" } : Jvm.MethodName) ({ cls := "DebtDoors", name := "at", desc := "(II)I" } : Jvm.MethodName)) ∈ lw_all := lw_g (lw_at lw_m2 129 rfl) rfl
theorem q494 : (Jvm.Cond.code ({ cls := "DebtDoors", name := "at", desc := "(II)I" } : Jvm.MethodName) prog_1_method_25_code (4 : Nat) (Option.some Jvm.ClassFile.FieldType.int)) ∈ lw_all := lw_g (lw_at lw_m2 130 rfl) rfl
theorem q495 : (Jvm.Cond.methodLink "DebtDoors" (162 : Nat) ({ cls := "DebtDoors", name := "isDebt", desc := "(I)Z" } : Jvm.MethodName)) ∈ lw_all := lw_g (lw_at lw_m2 131 rfl) rfl
theorem q496 : (Jvm.Cond.privateMethod ({ cls := "DebtDoors", name := "isDebt", desc := "(I)Z" } : Jvm.MethodName)) ∈ lw_tbl := lw_at lw_m2 132 rfl
theorem q497 : (Jvm.Cond.instanceMethod ({ cls := "DebtDoors", name := "isDebt", desc := "(I)Z" } : Jvm.MethodName)) ∈ lw_all := lw_g (lw_at lw_m2 133 rfl) rfl
theorem q498 : (Jvm.Cond.code ({ cls := "DebtDoors", name := "isDebt", desc := "(I)Z" } : Jvm.MethodName) prog_1_method_11_code (2 : Nat) (Option.some Jvm.ClassFile.FieldType.boolean)) ∈ lw_all := lw_g (lw_at lw_m2 134 rfl) rfl
theorem q499 : (Jvm.Cond.methodLink "DebtDoors" (177 : Nat) ({ cls := "DebtDoors", name := "soldFor", desc := "(LDebtDoors$Books;I)I" } : Jvm.MethodName)) ∈ lw_all := lw_g (lw_at lw_m2 135 rfl) rfl
theorem q500 : (Jvm.Cond.privateMethod ({ cls := "DebtDoors", name := "soldFor", desc := "(LDebtDoors$Books;I)I" } : Jvm.MethodName)) ∈ lw_tbl := lw_at lw_m2 136 rfl
theorem q501 : (Jvm.Cond.instanceMethod ({ cls := "DebtDoors", name := "soldFor", desc := "(LDebtDoors$Books;I)I" } : Jvm.MethodName)) ∈ lw_all := lw_g (lw_at lw_m2 137 rfl) rfl
theorem q502 : (Jvm.Cond.code ({ cls := "DebtDoors", name := "soldFor", desc := "(LDebtDoors$Books;I)I" } : Jvm.MethodName) prog_1_method_40_code (3 : Nat) (Option.some Jvm.ClassFile.FieldType.int)) ∈ lw_all := lw_g (lw_at lw_m2 138 rfl) rfl
theorem q503 : (Jvm.Cond.methodLink "DebtDoors" (277 : Nat) ({ cls := "DebtDoors", name := "tells", desc := "(ILDebtDoors$Books;IJI)I" } : Jvm.MethodName)) ∈ lw_all := lw_g (lw_at lw_m2 139 rfl) rfl
theorem q504 : (Jvm.Cond.privateMethod ({ cls := "DebtDoors", name := "tells", desc := "(ILDebtDoors$Books;IJI)I" } : Jvm.MethodName)) ∈ lw_tbl := lw_at lw_m2 140 rfl
theorem q505 : (Jvm.Cond.instanceMethod ({ cls := "DebtDoors", name := "tells", desc := "(ILDebtDoors$Books;IJI)I" } : Jvm.MethodName)) ∈ lw_all := lw_g (lw_at lw_m2 141 rfl) rfl
theorem q506 : (Jvm.Cond.code ({ cls := "DebtDoors", name := "tells", desc := "(ILDebtDoors$Books;IJI)I" } : Jvm.MethodName) prog_1_method_38_code (9 : Nat) (Option.some Jvm.ClassFile.FieldType.int)) ∈ lw_all := lw_g (lw_at lw_m2 142 rfl) rfl
theorem q507 : (Jvm.Cond.methodLink "DebtDoors" (187 : Nat) ({ cls := "DebtDoors$Books", name := "owes", desc := "(II)I" } : Jvm.MethodName)) ∈ lw_all := lw_g (lw_at lw_m2 143 rfl) rfl
theorem q515 : (Jvm.Cond.methodLink "DebtDoors" (252 : Nat) ({ cls := "DebtDoors", name := "ask", desc := "(IIIII)V" } : Jvm.MethodName)) ∈ lw_all := lw_g (lw_at lw_m2 151 rfl) rfl
theorem q516 : (Jvm.Cond.privateMethod ({ cls := "DebtDoors", name := "ask", desc := "(IIIII)V" } : Jvm.MethodName)) ∈ lw_tbl := lw_at lw_m2 152 rfl
theorem q517 : (Jvm.Cond.instanceMethod ({ cls := "DebtDoors", name := "ask", desc := "(IIIII)V" } : Jvm.MethodName)) ∈ lw_all := lw_g (lw_at lw_m2 153 rfl) rfl
theorem q518 : (Jvm.Cond.code ({ cls := "DebtDoors", name := "ask", desc := "(IIIII)V" } : Jvm.MethodName) prog_1_method_35_code (6 : Nat) (Option.none : Option Jvm.ClassFile.FieldType)) ∈ lw_all := lw_g (lw_at lw_m2 154 rfl) rfl
theorem q519 : (Jvm.Cond.constantLong "DebtDoors" (250 : Nat) (-1 : Int64)) ∈ lw_all := lw_g (lw_at lw_m2 155 rfl) rfl
theorem q520 : (Jvm.Cond.methodLink "DebtDoors" (256 : Nat) ({ cls := "DebtDoors", name := "law1", desc := "()LDebtDoors$Text;" } : Jvm.MethodName)) ∈ lw_all := lw_g (lw_at lw_m2 156 rfl) rfl
theorem q521 : (Jvm.Cond.privateMethod ({ cls := "DebtDoors", name := "law1", desc := "()LDebtDoors$Text;" } : Jvm.MethodName)) ∈ lw_tbl := lw_at lw_m2 157 rfl
theorem q522 : (Jvm.Cond.instanceMethod ({ cls := "DebtDoors", name := "law1", desc := "()LDebtDoors$Text;" } : Jvm.MethodName)) ∈ lw_all := lw_g (lw_at lw_m2 158 rfl) rfl
theorem q523 : (Jvm.Cond.code ({ cls := "DebtDoors", name := "law1", desc := "()LDebtDoors$Text;" } : Jvm.MethodName) prog_1_method_34_code (1 : Nat) (Option.some (Jvm.ClassFile.FieldType.object "DebtDoors$Text"))) ∈ lw_all := lw_g (lw_at lw_m2 159 rfl) rfl
theorem q524 : (Jvm.Cond.methodLink "DebtDoors" (242 : Nat) ({ cls := "java/util/ArrayList", name := "get", desc := "(I)Ljava/lang/Object;" } : Jvm.MethodName)) ∈ lw_all := lw_g (lw_at lw_m2 160 rfl) rfl
theorem q538 : (Jvm.Cond.methodLink "DebtDoors" (263 : Nat) ({ cls := "DebtDoors$Text", name := "tells", desc := "(ILDebtDoors$Asked;J)J" } : Jvm.MethodName)) ∈ lw_all := lw_g (lw_at lw_m2 174 rfl) rfl
theorem q565 : (Jvm.Cond.privateMethod ({ cls := "DebtDoors", name := "areTwo", desc := "(II)Z" } : Jvm.MethodName)) ∈ lw_tbl := lw_at lw_m2 201 rfl
theorem q566 : (Jvm.Cond.instanceMethod ({ cls := "DebtDoors", name := "areTwo", desc := "(II)Z" } : Jvm.MethodName)) ∈ lw_all := lw_g (lw_at lw_m2 202 rfl) rfl
theorem q567 : (Jvm.Cond.code ({ cls := "DebtDoors", name := "areTwo", desc := "(II)Z" } : Jvm.MethodName) prog_1_method_12_code (3 : Nat) (Option.some Jvm.ClassFile.FieldType.boolean)) ∈ lw_all := lw_g (lw_at lw_m2 203 rfl) rfl
theorem q595 : (Jvm.Cond.methodLink "DebtDoors" (267 : Nat) ({ cls := "java/lang/Math", name := "min", desc := "(JJ)J" } : Jvm.MethodName)) ∈ lw_all := lw_g (lw_at lw_m2 231 rfl) rfl
theorem q598 : (Jvm.Cond.methodLink "DebtDoors" (270 : Nat) ({ cls := "java/lang/Math", name := "max", desc := "(JJ)J" } : Jvm.MethodName)) ∈ lw_all := lw_g (lw_at lw_m2 234 rfl) rfl
theorem q601 : (Jvm.Cond.methodLink "DebtDoors" (181 : Nat) ({ cls := "DebtDoors", name := "growsBy", desc := "(LDebtDoors$Books;I)I" } : Jvm.MethodName)) ∈ lw_all := lw_g (lw_at lw_m2 237 rfl) rfl
theorem q602 : (Jvm.Cond.privateMethod ({ cls := "DebtDoors", name := "growsBy", desc := "(LDebtDoors$Books;I)I" } : Jvm.MethodName)) ∈ lw_tbl := lw_at lw_m2 238 rfl
theorem q603 : (Jvm.Cond.instanceMethod ({ cls := "DebtDoors", name := "growsBy", desc := "(LDebtDoors$Books;I)I" } : Jvm.MethodName)) ∈ lw_all := lw_g (lw_at lw_m2 239 rfl) rfl
theorem q604 : (Jvm.Cond.code ({ cls := "DebtDoors", name := "growsBy", desc := "(LDebtDoors$Books;I)I" } : Jvm.MethodName) prog_1_method_39_code (3 : Nat) (Option.some Jvm.ClassFile.FieldType.int)) ∈ lw_all := lw_g (lw_at lw_m3 0 rfl) rfl
theorem q606 : (Jvm.Cond.instanceMethod ({ cls := "DebtDoors", name := "owes", desc := "(II)I" } : Jvm.MethodName)) ∈ lw_all := lw_g (lw_at lw_m3 2 rfl) rfl
theorem q607 : (Jvm.Cond.selects "DebtDoors" ({ cls := "DebtDoors", name := "owes", desc := "(II)I" } : Jvm.MethodName) ({ cls := "DebtDoors", name := "owes", desc := "(II)I" } : Jvm.MethodName)) ∈ lw_all := lw_g (lw_at lw_m3 3 rfl) rfl
theorem q608 : (Jvm.Cond.code ({ cls := "DebtDoors", name := "owes", desc := "(II)I" } : Jvm.MethodName) prog_1_method_26_code (3 : Nat) (Option.some Jvm.ClassFile.FieldType.int)) ∈ lw_all := lw_g (lw_at lw_m3 4 rfl) rfl
theorem q609 : (Jvm.Cond.methodLink "DebtDoors" (184 : Nat) ({ cls := "DebtDoors", name := "areTwo", desc := "(II)Z" } : Jvm.MethodName)) ∈ lw_all := lw_g (lw_at lw_m3 5 rfl) rfl
theorem q611 : (Jvm.Cond.instanceMethod ({ cls := "DebtDoors", name := "terms", desc := "(II)I" } : Jvm.MethodName)) ∈ lw_all := lw_g (lw_at lw_m3 7 rfl) rfl
theorem q612 : (Jvm.Cond.selects "DebtDoors" ({ cls := "DebtDoors", name := "terms", desc := "(II)I" } : Jvm.MethodName) ({ cls := "DebtDoors", name := "terms", desc := "(II)I" } : Jvm.MethodName)) ∈ lw_all := lw_g (lw_at lw_m3 8 rfl) rfl
theorem q613 : (Jvm.Cond.code ({ cls := "DebtDoors", name := "terms", desc := "(II)I" } : Jvm.MethodName) prog_1_method_27_code (4 : Nat) (Option.some Jvm.ClassFile.FieldType.int)) ∈ lw_all := lw_g (lw_at lw_m3 9 rfl) rfl
theorem q614 : (Jvm.Cond.constantLong "DebtDoors" (190 : Nat) (999 : Int64)) ∈ lw_all := lw_g (lw_at lw_m3 10 rfl) rfl
theorem q615 : (Jvm.Cond.constantLong "DebtDoors" (192 : Nat) (9 : Int64)) ∈ lw_all := lw_g (lw_at lw_m3 11 rfl) rfl
theorem q617 : (Jvm.Cond.instanceMethod ({ cls := "DebtDoors", name := "row", desc := "()I" } : Jvm.MethodName)) ∈ lw_all := lw_g (lw_at lw_m3 13 rfl) rfl
theorem q618 : (Jvm.Cond.selects "DebtDoors" ({ cls := "DebtDoors", name := "row", desc := "()I" } : Jvm.MethodName) ({ cls := "DebtDoors", name := "row", desc := "()I" } : Jvm.MethodName)) ∈ lw_all := lw_g (lw_at lw_m3 14 rfl) rfl
theorem q619 : (Jvm.Cond.codeWith ({ cls := "DebtDoors", name := "row", desc := "()I" } : Jvm.MethodName) prog_1_method_29_code (8 : Nat) (Option.some Jvm.ClassFile.FieldType.int) [((58 : Nat), (67 : Nat), (148 : Nat), (213 : Nat)), ((58 : Nat), (67 : Nat), (234 : Nat), (0 : Nat)), ((148 : Nat), (153 : Nat), (234 : Nat), (0 : Nat)), ((234 : Nat), (236 : Nat), (234 : Nat), (0 : Nat))]) ∈ lw_all := lw_g (lw_at lw_m3 15 rfl) rfl
theorem q620 : (Jvm.Cond.classLink "DebtDoors" (213 : Nat) "java/lang/ArrayIndexOutOfBoundsException") ∈ lw_all := lw_g (lw_at lw_m3 16 rfl) rfl
theorem q694 : (Jvm.Cond.methodLink "DebtDoors" (200 : Nat) ({ cls := "java/lang/System", name := "arraycopy", desc := "(Ljava/lang/Object;ILjava/lang/Object;II)V" } : Jvm.MethodName)) ∈ lw_all := lw_g (lw_at lw_m3 90 rfl) rfl
theorem q697 : (Jvm.Cond.methodLink "DebtDoors" (209 : Nat) ({ cls := "DebtDoors", name := "byteAt", desc := "([BI)I" } : Jvm.MethodName)) ∈ lw_all := lw_g (lw_at lw_m3 93 rfl) rfl
theorem q698 : (Jvm.Cond.static ({ cls := "DebtDoors", name := "byteAt", desc := "([BI)I" } : Jvm.MethodName)) ∈ lw_all := lw_g (lw_at lw_m3 94 rfl) rfl
theorem q699 : (Jvm.Cond.code ({ cls := "DebtDoors", name := "byteAt", desc := "([BI)I" } : Jvm.MethodName) prog_1_method_28_code (2 : Nat) (Option.some Jvm.ClassFile.FieldType.int)) ∈ lw_all := lw_g (lw_at lw_m3 95 rfl) rfl
theorem q701 : (Jvm.Cond.instanceMethod ({ cls := "DebtDoors", name := "blots", desc := "()I" } : Jvm.MethodName)) ∈ lw_all := lw_g (lw_at lw_m3 97 rfl) rfl
theorem q702 : (Jvm.Cond.selects "DebtDoors" ({ cls := "DebtDoors", name := "blots", desc := "()I" } : Jvm.MethodName) ({ cls := "DebtDoors", name := "blots", desc := "()I" } : Jvm.MethodName)) ∈ lw_all := lw_g (lw_at lw_m3 98 rfl) rfl
theorem q703 : (Jvm.Cond.code ({ cls := "DebtDoors", name := "blots", desc := "()I" } : Jvm.MethodName) prog_1_method_30_code (1 : Nat) (Option.some Jvm.ClassFile.FieldType.int)) ∈ lw_all := lw_g (lw_at lw_m3 99 rfl) rfl
theorem q705 : (Jvm.Cond.instanceMethod ({ cls := "DebtDoors", name := "law", desc := "()I" } : Jvm.MethodName)) ∈ lw_all := lw_g (lw_at lw_m3 101 rfl) rfl
theorem q706 : (Jvm.Cond.selects "DebtDoors" ({ cls := "DebtDoors", name := "law", desc := "()I" } : Jvm.MethodName) ({ cls := "DebtDoors", name := "law", desc := "()I" } : Jvm.MethodName)) ∈ lw_all := lw_g (lw_at lw_m3 102 rfl) rfl
theorem q707 : (Jvm.Cond.codeWith ({ cls := "DebtDoors", name := "law", desc := "()I" } : Jvm.MethodName) prog_1_method_31_code (4 : Nat) (Option.some Jvm.ClassFile.FieldType.int) [((27 : Nat), (71 : Nat), (78 : Nat), (234 : Nat)), ((27 : Nat), (71 : Nat), (101 : Nat), (0 : Nat)), ((78 : Nat), (94 : Nat), (101 : Nat), (0 : Nat))]) ∈ lw_all := lw_g (lw_at lw_m3 103 rfl) rfl
theorem q708 : (Jvm.Cond.classLink "DebtDoors" (234 : Nat) "DebtDoors$Wrong") ∈ lw_all := lw_g (lw_at lw_m3 104 rfl) rfl
theorem q709 : (Jvm.Cond.methodLink "DebtDoors" (218 : Nat) ({ cls := "java/util/ArrayList", name := "size", desc := "()I" } : Jvm.MethodName)) ∈ lw_all := lw_g (lw_at lw_m3 105 rfl) rfl
theorem q713 : (Jvm.Cond.classLink "DebtDoors" (222 : Nat) "DebtDoors$LawReader") ∈ lw_all := lw_g (lw_at lw_m3 109 rfl) rfl
theorem q715 : (Jvm.Cond.methodLink "DebtDoors" (224 : Nat) ({ cls := "DebtDoors$LawReader", name := "<init>", desc := "(LDebtDoors;)V" } : Jvm.MethodName)) ∈ lw_all := lw_g (lw_at lw_m3 111 rfl) rfl
theorem q779 : (Jvm.Cond.methodLink "DebtDoors" (227 : Nat) ({ cls := "DebtDoors$LawReader", name := "read", desc := "()LDebtDoors$Text;" } : Jvm.MethodName)) ∈ lw_all := lw_g (lw_at lw_m3 175 rfl) rfl
theorem q796 : (Jvm.Cond.static ({ cls := "DebtDoors", name := "isLetter", desc := "(I)Z" } : Jvm.MethodName)) ∈ lw_all := lw_g (lw_at lw_m3 192 rfl) rfl
theorem q797 : (Jvm.Cond.code ({ cls := "DebtDoors", name := "isLetter", desc := "(I)Z" } : Jvm.MethodName) prog_1_method_16_code (1 : Nat) (Option.some Jvm.ClassFile.FieldType.boolean)) ∈ lw_all := lw_g (lw_at lw_m3 193 rfl) rfl
theorem q799 : (Jvm.Cond.static ({ cls := "DebtDoors", name := "isDigit", desc := "(I)Z" } : Jvm.MethodName)) ∈ lw_all := lw_g (lw_at lw_m3 195 rfl) rfl
theorem q800 : (Jvm.Cond.code ({ cls := "DebtDoors", name := "isDigit", desc := "(I)Z" } : Jvm.MethodName) prog_1_method_17_code (1 : Nat) (Option.some Jvm.ClassFile.FieldType.boolean)) ∈ lw_all := lw_g (lw_at lw_m3 196 rfl) rfl
theorem q826 : (Jvm.Cond.fieldLinkNest "DebtDoors" (236 : Nat) "DebtDoors$Wrong" "place" "I" "DebtDoors") ∈ lw_tbl := lw_at lw_m3 222 rfl
theorem q1157 : (Jvm.Cond.fieldLink "DebtDoors" (455 : Nat) "DebtDoors$Order" "times" "I") ∈ lw_all := lw_g (lw_at lw_m5 73 rfl) rfl
theorem q1245 : (Jvm.Cond.methodLink "DebtDoors" (231 : Nat) ({ cls := "java/util/ArrayList", name := "add", desc := "(Ljava/lang/Object;)Z" } : Jvm.MethodName)) ∈ lw_all := lw_g (lw_at lw_m5 161 rfl) rfl
theorem q1277 : (Jvm.Cond.selects "DebtDoors" ({ cls := "java/lang/Object", name := "getClass", desc := "()Ljava/lang/Class;" } : Jvm.MethodName) ({ cls := "java/lang/Object", name := "getClass", desc := "()Ljava/lang/Class;" } : Jvm.MethodName)) ∈ lw_all := lw_g (lw_at lw_m5 193 rfl) rfl
theorem q1319 : (Jvm.Cond.instanceMethod ({ cls := "DebtDoors", name := "fault", desc := "()I" } : Jvm.MethodName)) ∈ lw_all := lw_g (lw_at lw_m5 235 rfl) rfl
theorem q1320 : (Jvm.Cond.selects "DebtDoors" ({ cls := "DebtDoors", name := "fault", desc := "()I" } : Jvm.MethodName) ({ cls := "DebtDoors", name := "fault", desc := "()I" } : Jvm.MethodName)) ∈ lw_all := lw_g (lw_at lw_m5 236 rfl) rfl
theorem q1321 : (Jvm.Cond.code ({ cls := "DebtDoors", name := "fault", desc := "()I" } : Jvm.MethodName) prog_1_method_32_code (1 : Nat) (Option.some Jvm.ClassFile.FieldType.int)) ∈ lw_all := lw_g (lw_at lw_m5 237 rfl) rfl
theorem q1323 : (Jvm.Cond.instanceMethod ({ cls := "DebtDoors", name := "force", desc := "(I)I" } : Jvm.MethodName)) ∈ lw_all := lw_g (lw_at lw_m5 239 rfl) rfl
theorem q1324 : (Jvm.Cond.selects "DebtDoors" ({ cls := "DebtDoors", name := "force", desc := "(I)I" } : Jvm.MethodName) ({ cls := "DebtDoors", name := "force", desc := "(I)I" } : Jvm.MethodName)) ∈ lw_all := lw_g (lw_at lw_m6 0 rfl) rfl
theorem q1325 : (Jvm.Cond.code ({ cls := "DebtDoors", name := "force", desc := "(I)I" } : Jvm.MethodName) prog_1_method_33_code (3 : Nat) (Option.some Jvm.ClassFile.FieldType.int)) ∈ lw_all := lw_g (lw_at lw_m6 1 rfl) rfl
theorem q1327 : (Jvm.Cond.instanceMethod ({ cls := "DebtDoors", name := "deep", desc := "(II)I" } : Jvm.MethodName)) ∈ lw_all := lw_g (lw_at lw_m6 3 rfl) rfl
theorem q1328 : (Jvm.Cond.selects "DebtDoors" ({ cls := "DebtDoors", name := "deep", desc := "(II)I" } : Jvm.MethodName) ({ cls := "DebtDoors", name := "deep", desc := "(II)I" } : Jvm.MethodName)) ∈ lw_all := lw_g (lw_at lw_m6 4 rfl) rfl
theorem q1329 : (Jvm.Cond.code ({ cls := "DebtDoors", name := "deep", desc := "(II)I" } : Jvm.MethodName) prog_1_method_41_code (3 : Nat) (Option.some Jvm.ClassFile.FieldType.int)) ∈ lw_all := lw_g (lw_at lw_m6 5 rfl) rfl
theorem q1330 : (Jvm.Cond.methodLink "DebtDoors" (280 : Nat) ({ cls := "DebtDoors", name := "deepIn", desc := "(LDebtDoors$Books;III)I" } : Jvm.MethodName)) ∈ lw_all := lw_g (lw_at lw_m6 6 rfl) rfl
theorem q1331 : (Jvm.Cond.privateMethod ({ cls := "DebtDoors", name := "deepIn", desc := "(LDebtDoors$Books;III)I" } : Jvm.MethodName)) ∈ lw_tbl := lw_at lw_m6 7 rfl
theorem q1332 : (Jvm.Cond.instanceMethod ({ cls := "DebtDoors", name := "deepIn", desc := "(LDebtDoors$Books;III)I" } : Jvm.MethodName)) ∈ lw_all := lw_g (lw_at lw_m6 8 rfl) rfl
theorem q1333 : (Jvm.Cond.code ({ cls := "DebtDoors", name := "deepIn", desc := "(LDebtDoors$Books;III)I" } : Jvm.MethodName) prog_1_method_37_code (5 : Nat) (Option.some Jvm.ClassFile.FieldType.int)) ∈ lw_all := lw_g (lw_at lw_m6 9 rfl) rfl
theorem q1334 : (Jvm.Cond.methodLink "DebtDoors" (273 : Nat) ({ cls := "DebtDoors", name := "deepBy", desc := "(IIIII)I" } : Jvm.MethodName)) ∈ lw_all := lw_g (lw_at lw_m6 10 rfl) rfl
theorem q1335 : (Jvm.Cond.privateMethod ({ cls := "DebtDoors", name := "deepBy", desc := "(IIIII)I" } : Jvm.MethodName)) ∈ lw_tbl := lw_at lw_m6 11 rfl
theorem q1336 : (Jvm.Cond.instanceMethod ({ cls := "DebtDoors", name := "deepBy", desc := "(IIIII)I" } : Jvm.MethodName)) ∈ lw_all := lw_g (lw_at lw_m6 12 rfl) rfl
theorem q1337 : (Jvm.Cond.code ({ cls := "DebtDoors", name := "deepBy", desc := "(IIIII)I" } : Jvm.MethodName) prog_1_method_36_code (8 : Nat) (Option.some Jvm.ClassFile.FieldType.int)) ∈ lw_all := lw_g (lw_at lw_m6 13 rfl) rfl
theorem q1338 : (Jvm.Cond.methodLink "DebtDoors" (259 : Nat) ({ cls := "DebtDoors$Text", name := "has", desc := "(ILDebtDoors$Asked;)Z" } : Jvm.MethodName)) ∈ lw_all := lw_g (lw_at lw_m6 14 rfl) rfl
theorem q1343 : (Jvm.Cond.instanceMethod ({ cls := "DebtDoors", name := "doors", desc := "(I)I" } : Jvm.MethodName)) ∈ lw_all := lw_g (lw_at lw_m6 19 rfl) rfl
theorem q1344 : (Jvm.Cond.selects "DebtDoors" ({ cls := "DebtDoors", name := "doors", desc := "(I)I" } : Jvm.MethodName) ({ cls := "DebtDoors", name := "doors", desc := "(I)I" } : Jvm.MethodName)) ∈ lw_all := lw_g (lw_at lw_m6 20 rfl) rfl
theorem q1345 : (Jvm.Cond.code ({ cls := "DebtDoors", name := "doors", desc := "(I)I" } : Jvm.MethodName) prog_1_method_43_code (2 : Nat) (Option.some Jvm.ClassFile.FieldType.int)) ∈ lw_all := lw_g (lw_at lw_m6 21 rfl) rfl
theorem q1346 : (Jvm.Cond.methodLink "DebtDoors" (284 : Nat) ({ cls := "DebtDoors", name := "doorsOf", desc := "(LDebtDoors$Books;I)I" } : Jvm.MethodName)) ∈ lw_all := lw_g (lw_at lw_m6 22 rfl) rfl
theorem q1347 : (Jvm.Cond.privateMethod ({ cls := "DebtDoors", name := "doorsOf", desc := "(LDebtDoors$Books;I)I" } : Jvm.MethodName)) ∈ lw_tbl := lw_at lw_m6 23 rfl
theorem q1348 : (Jvm.Cond.instanceMethod ({ cls := "DebtDoors", name := "doorsOf", desc := "(LDebtDoors$Books;I)I" } : Jvm.MethodName)) ∈ lw_all := lw_g (lw_at lw_m6 24 rfl) rfl
theorem q1349 : (Jvm.Cond.code ({ cls := "DebtDoors", name := "doorsOf", desc := "(LDebtDoors$Books;I)I" } : Jvm.MethodName) prog_1_method_42_code (5 : Nat) (Option.some Jvm.ClassFile.FieldType.int)) ∈ lw_all := lw_g (lw_at lw_m6 25 rfl) rfl
theorem q1351 : (Jvm.Cond.instanceMethod ({ cls := "DebtDoors", name := "lend", desc := "(III)I" } : Jvm.MethodName)) ∈ lw_all := lw_g (lw_at lw_m6 27 rfl) rfl
theorem q1352 : (Jvm.Cond.selects "DebtDoors" ({ cls := "DebtDoors", name := "lend", desc := "(III)I" } : Jvm.MethodName) ({ cls := "DebtDoors", name := "lend", desc := "(III)I" } : Jvm.MethodName)) ∈ lw_all := lw_g (lw_at lw_m6 28 rfl) rfl
theorem q1353 : (Jvm.Cond.code ({ cls := "DebtDoors", name := "lend", desc := "(III)I" } : Jvm.MethodName) prog_1_method_48_code (4 : Nat) (Option.some Jvm.ClassFile.FieldType.int)) ∈ lw_all := lw_g (lw_at lw_m6 29 rfl) rfl
theorem q1354 : (Jvm.Cond.methodLink "DebtDoors" (316 : Nat) ({ cls := "DebtDoors", name := "lendNow", desc := "(III)I" } : Jvm.MethodName)) ∈ lw_all := lw_g (lw_at lw_m6 30 rfl) rfl
theorem q1355 : (Jvm.Cond.privateMethod ({ cls := "DebtDoors", name := "lendNow", desc := "(III)I" } : Jvm.MethodName)) ∈ lw_tbl := lw_at lw_m6 31 rfl
theorem q1356 : (Jvm.Cond.instanceMethod ({ cls := "DebtDoors", name := "lendNow", desc := "(III)I" } : Jvm.MethodName)) ∈ lw_all := lw_g (lw_at lw_m6 32 rfl) rfl
theorem q1357 : (Jvm.Cond.code ({ cls := "DebtDoors", name := "lendNow", desc := "(III)I" } : Jvm.MethodName) prog_1_method_45_code (4 : Nat) (Option.some Jvm.ClassFile.FieldType.int)) ∈ lw_all := lw_g (lw_at lw_m6 33 rfl) rfl
theorem q1358 : (Jvm.Cond.methodLink "DebtDoors" (299 : Nat) ({ cls := "DebtDoors$Books", name := "canPay", desc := "(III)Z" } : Jvm.MethodName)) ∈ lw_all := lw_g (lw_at lw_m6 34 rfl) rfl
theorem q1362 : (Jvm.Cond.methodLink "DebtDoors" (303 : Nat) ({ cls := "DebtDoors", name := "remember", desc := "(I)V" } : Jvm.MethodName)) ∈ lw_all := lw_g (lw_at lw_m6 38 rfl) rfl
theorem q1363 : (Jvm.Cond.privateMethod ({ cls := "DebtDoors", name := "remember", desc := "(I)V" } : Jvm.MethodName)) ∈ lw_tbl := lw_at lw_m6 39 rfl
theorem q1364 : (Jvm.Cond.instanceMethod ({ cls := "DebtDoors", name := "remember", desc := "(I)V" } : Jvm.MethodName)) ∈ lw_all := lw_g (lw_at lw_m6 40 rfl) rfl
theorem q1365 : (Jvm.Cond.code ({ cls := "DebtDoors", name := "remember", desc := "(I)V" } : Jvm.MethodName) prog_1_method_44_code (2 : Nat) (Option.none : Option Jvm.ClassFile.FieldType)) ∈ lw_all := lw_g (lw_at lw_m6 41 rfl) rfl
theorem q1366 : (Jvm.Cond.methodLink "DebtDoors" (287 : Nat) ({ cls := "java/util/ArrayList", name := "remove", desc := "(I)Ljava/lang/Object;" } : Jvm.MethodName)) ∈ lw_all := lw_g (lw_at lw_m6 42 rfl) rfl
theorem q1375 : (Jvm.Cond.classLink "DebtDoors" (290 : Nat) "DebtDoors$Done") ∈ lw_all := lw_g (lw_at lw_m6 51 rfl) rfl
theorem q1377 : (Jvm.Cond.methodLink "DebtDoors" (292 : Nat) ({ cls := "DebtDoors$Books", name := "as", desc := "(LDebtDoors$Books;)LDebtDoors$Books;" } : Jvm.MethodName)) ∈ lw_all := lw_g (lw_at lw_m6 53 rfl) rfl
theorem q1386 : (Jvm.Cond.methodLink "DebtDoors" (296 : Nat) ({ cls := "DebtDoors$Done", name := "<init>", desc := "(ILDebtDoors$Books;)V" } : Jvm.MethodName)) ∈ lw_all := lw_g (lw_at lw_m6 62 rfl) rfl
theorem q1391 : (Jvm.Cond.fieldLinkNest "DebtDoors" (337 : Nat) "DebtDoors$Done" "sort" "I" "DebtDoors") ∈ lw_tbl := lw_at lw_m6 67 rfl
theorem q1393 : (Jvm.Cond.fieldLinkNest "DebtDoors" (336 : Nat) "DebtDoors$Done" "books" "LDebtDoors$Books;" "DebtDoors") ∈ lw_tbl := lw_at lw_m6 69 rfl
theorem q1399 : (Jvm.Cond.methodLink "DebtDoors" (306 : Nat) ({ cls := "DebtDoors", name := "lendIn", desc := "(LDebtDoors$Books;III)V" } : Jvm.MethodName)) ∈ lw_all := lw_g (lw_at lw_m6 75 rfl) rfl
theorem q1400 : (Jvm.Cond.static ({ cls := "DebtDoors", name := "lendIn", desc := "(LDebtDoors$Books;III)V" } : Jvm.MethodName)) ∈ lw_all := lw_g (lw_at lw_m6 76 rfl) rfl
theorem q1401 : (Jvm.Cond.code ({ cls := "DebtDoors", name := "lendIn", desc := "(LDebtDoors$Books;III)V" } : Jvm.MethodName) prog_1_method_46_code (4 : Nat) (Option.none : Option Jvm.ClassFile.FieldType)) ∈ lw_all := lw_g (lw_at lw_m6 77 rfl) rfl
theorem q1402 : (Jvm.Cond.methodLink "DebtDoors" (310 : Nat) ({ cls := "DebtDoors$Books", name := "pay", desc := "(III)V" } : Jvm.MethodName)) ∈ lw_all := lw_g (lw_at lw_m6 78 rfl) rfl
theorem q1407 : (Jvm.Cond.instanceMethod ({ cls := "DebtDoors", name := "repay", desc := "(III)I" } : Jvm.MethodName)) ∈ lw_all := lw_g (lw_at lw_m6 83 rfl) rfl
theorem q1408 : (Jvm.Cond.selects "DebtDoors" ({ cls := "DebtDoors", name := "repay", desc := "(III)I" } : Jvm.MethodName) ({ cls := "DebtDoors", name := "repay", desc := "(III)I" } : Jvm.MethodName)) ∈ lw_all := lw_g (lw_at lw_m6 84 rfl) rfl
theorem q1409 : (Jvm.Cond.code ({ cls := "DebtDoors", name := "repay", desc := "(III)I" } : Jvm.MethodName) prog_1_method_49_code (4 : Nat) (Option.some Jvm.ClassFile.FieldType.int)) ∈ lw_all := lw_g (lw_at lw_m6 85 rfl) rfl
theorem q1410 : (Jvm.Cond.methodLink "DebtDoors" (319 : Nat) ({ cls := "DebtDoors", name := "repayNow", desc := "(III)I" } : Jvm.MethodName)) ∈ lw_all := lw_g (lw_at lw_m6 86 rfl) rfl
theorem q1411 : (Jvm.Cond.privateMethod ({ cls := "DebtDoors", name := "repayNow", desc := "(III)I" } : Jvm.MethodName)) ∈ lw_tbl := lw_at lw_m6 87 rfl
theorem q1412 : (Jvm.Cond.instanceMethod ({ cls := "DebtDoors", name := "repayNow", desc := "(III)I" } : Jvm.MethodName)) ∈ lw_all := lw_g (lw_at lw_m6 88 rfl) rfl
theorem q1413 : (Jvm.Cond.code ({ cls := "DebtDoors", name := "repayNow", desc := "(III)I" } : Jvm.MethodName) prog_1_method_47_code (4 : Nat) (Option.some Jvm.ClassFile.FieldType.int)) ∈ lw_all := lw_g (lw_at lw_m6 89 rfl) rfl
theorem q1414 : (Jvm.Cond.methodLink "DebtDoors" (313 : Nat) ({ cls := "DebtDoors$Books", name := "repay", desc := "(III)I" } : Jvm.MethodName)) ∈ lw_all := lw_g (lw_at lw_m6 90 rfl) rfl
theorem q1430 : (Jvm.Cond.instanceMethod ({ cls := "DebtDoors", name := "forgive", desc := "(I)I" } : Jvm.MethodName)) ∈ lw_all := lw_g (lw_at lw_m6 106 rfl) rfl
theorem q1431 : (Jvm.Cond.selects "DebtDoors" ({ cls := "DebtDoors", name := "forgive", desc := "(I)I" } : Jvm.MethodName) ({ cls := "DebtDoors", name := "forgive", desc := "(I)I" } : Jvm.MethodName)) ∈ lw_all := lw_g (lw_at lw_m6 107 rfl) rfl
theorem q1432 : (Jvm.Cond.code ({ cls := "DebtDoors", name := "forgive", desc := "(I)I" } : Jvm.MethodName) prog_1_method_50_code (3 : Nat) (Option.some Jvm.ClassFile.FieldType.int)) ∈ lw_all := lw_g (lw_at lw_m6 108 rfl) rfl
theorem q1433 : (Jvm.Cond.methodLink "DebtDoors" (322 : Nat) ({ cls := "DebtDoors$Books", name := "drop", desc := "(I)V" } : Jvm.MethodName)) ∈ lw_all := lw_g (lw_at lw_m6 109 rfl) rfl
theorem q1435 : (Jvm.Cond.instanceMethod ({ cls := "DebtDoors", name := "sell", desc := "(II)I" } : Jvm.MethodName)) ∈ lw_all := lw_g (lw_at lw_m6 111 rfl) rfl
theorem q1436 : (Jvm.Cond.selects "DebtDoors" ({ cls := "DebtDoors", name := "sell", desc := "(II)I" } : Jvm.MethodName) ({ cls := "DebtDoors", name := "sell", desc := "(II)I" } : Jvm.MethodName)) ∈ lw_all := lw_g (lw_at lw_m6 112 rfl) rfl
theorem q1437 : (Jvm.Cond.code ({ cls := "DebtDoors", name := "sell", desc := "(II)I" } : Jvm.MethodName) prog_1_method_51_code (5 : Nat) (Option.some Jvm.ClassFile.FieldType.int)) ∈ lw_all := lw_g (lw_at lw_m6 113 rfl) rfl
theorem q1439 : (Jvm.Cond.instanceMethod ({ cls := "DebtDoors", name := "await", desc := "()I" } : Jvm.MethodName)) ∈ lw_all := lw_g (lw_at lw_m6 115 rfl) rfl
theorem q1440 : (Jvm.Cond.selects "DebtDoors" ({ cls := "DebtDoors", name := "await", desc := "()I" } : Jvm.MethodName) ({ cls := "DebtDoors", name := "await", desc := "()I" } : Jvm.MethodName)) ∈ lw_all := lw_g (lw_at lw_m6 116 rfl) rfl
theorem q1441 : (Jvm.Cond.code ({ cls := "DebtDoors", name := "await", desc := "()I" } : Jvm.MethodName) prog_1_method_54_code (1 : Nat) (Option.some Jvm.ClassFile.FieldType.int)) ∈ lw_all := lw_g (lw_at lw_m6 117 rfl) rfl
theorem q1442 : (Jvm.Cond.methodLink "DebtDoors" (329 : Nat) ({ cls := "DebtDoors", name := "waitNow", desc := "()I" } : Jvm.MethodName)) ∈ lw_all := lw_g (lw_at lw_m6 118 rfl) rfl
theorem q1443 : (Jvm.Cond.privateMethod ({ cls := "DebtDoors", name := "waitNow", desc := "()I" } : Jvm.MethodName)) ∈ lw_tbl := lw_at lw_m6 119 rfl
theorem q1444 : (Jvm.Cond.instanceMethod ({ cls := "DebtDoors", name := "waitNow", desc := "()I" } : Jvm.MethodName)) ∈ lw_all := lw_g (lw_at lw_m6 120 rfl) rfl
theorem q1445 : (Jvm.Cond.code ({ cls := "DebtDoors", name := "waitNow", desc := "()I" } : Jvm.MethodName) prog_1_method_53_code (1 : Nat) (Option.some Jvm.ClassFile.FieldType.int)) ∈ lw_all := lw_g (lw_at lw_m6 121 rfl) rfl
theorem q1446 : (Jvm.Cond.methodLink "DebtDoors" (325 : Nat) ({ cls := "DebtDoors", name := "waitIn", desc := "(LDebtDoors$Books;)I" } : Jvm.MethodName)) ∈ lw_all := lw_g (lw_at lw_m6 122 rfl) rfl
theorem q1447 : (Jvm.Cond.privateMethod ({ cls := "DebtDoors", name := "waitIn", desc := "(LDebtDoors$Books;)I" } : Jvm.MethodName)) ∈ lw_tbl := lw_at lw_m6 123 rfl
theorem q1448 : (Jvm.Cond.instanceMethod ({ cls := "DebtDoors", name := "waitIn", desc := "(LDebtDoors$Books;)I" } : Jvm.MethodName)) ∈ lw_all := lw_g (lw_at lw_m6 124 rfl) rfl
theorem q1449 : (Jvm.Cond.code ({ cls := "DebtDoors", name := "waitIn", desc := "(LDebtDoors$Books;)I" } : Jvm.MethodName) prog_1_method_52_code (5 : Nat) (Option.some Jvm.ClassFile.FieldType.int)) ∈ lw_all := lw_g (lw_at lw_m6 125 rfl) rfl
theorem q1451 : (Jvm.Cond.instanceMethod ({ cls := "DebtDoors", name := "undo", desc := "()I" } : Jvm.MethodName)) ∈ lw_all := lw_g (lw_at lw_m6 127 rfl) rfl
theorem q1452 : (Jvm.Cond.selects "DebtDoors" ({ cls := "DebtDoors", name := "undo", desc := "()I" } : Jvm.MethodName) ({ cls := "DebtDoors", name := "undo", desc := "()I" } : Jvm.MethodName)) ∈ lw_all := lw_g (lw_at lw_m6 128 rfl) rfl
theorem q1453 : (Jvm.Cond.code ({ cls := "DebtDoors", name := "undo", desc := "()I" } : Jvm.MethodName) prog_1_method_55_code (2 : Nat) (Option.some Jvm.ClassFile.FieldType.int)) ∈ lw_all := lw_g (lw_at lw_m6 129 rfl) rfl
theorem q1454 : (Jvm.Cond.methodLink "DebtDoors" (332 : Nat) ({ cls := "java/util/ArrayList", name := "isEmpty", desc := "()Z" } : Jvm.MethodName)) ∈ lw_all := lw_g (lw_at lw_m6 130 rfl) rfl
theorem q1459 : (Jvm.Cond.instanceMethod ({ cls := "DebtDoors", name := "need", desc := "(III)I" } : Jvm.MethodName)) ∈ lw_all := lw_g (lw_at lw_m6 135 rfl) rfl
theorem q1460 : (Jvm.Cond.selects "DebtDoors" ({ cls := "DebtDoors", name := "need", desc := "(III)I" } : Jvm.MethodName) ({ cls := "DebtDoors", name := "need", desc := "(III)I" } : Jvm.MethodName)) ∈ lw_all := lw_g (lw_at lw_m6 136 rfl) rfl
theorem q1461 : (Jvm.Cond.code ({ cls := "DebtDoors", name := "need", desc := "(III)I" } : Jvm.MethodName) prog_1_method_57_code (4 : Nat) (Option.some Jvm.ClassFile.FieldType.int)) ∈ lw_all := lw_g (lw_at lw_m6 137 rfl) rfl
theorem q1462 : (Jvm.Cond.methodLink "DebtDoors" (340 : Nat) ({ cls := "DebtDoors", name := "needOf", desc := "(III)I" } : Jvm.MethodName)) ∈ lw_all := lw_g (lw_at lw_m6 138 rfl) rfl
theorem q1463 : (Jvm.Cond.privateMethod ({ cls := "DebtDoors", name := "needOf", desc := "(III)I" } : Jvm.MethodName)) ∈ lw_tbl := lw_at lw_m6 139 rfl
theorem q1464 : (Jvm.Cond.instanceMethod ({ cls := "DebtDoors", name := "needOf", desc := "(III)I" } : Jvm.MethodName)) ∈ lw_all := lw_g (lw_at lw_m6 140 rfl) rfl
theorem q1465 : (Jvm.Cond.code ({ cls := "DebtDoors", name := "needOf", desc := "(III)I" } : Jvm.MethodName) prog_1_method_56_code (7 : Nat) (Option.some Jvm.ClassFile.FieldType.int)) ∈ lw_all := lw_g (lw_at lw_m6 141 rfl) rfl
theorem q1467 : (Jvm.Cond.instanceMethod ({ cls := "DebtDoors", name := "visit", desc := "(IIII)I" } : Jvm.MethodName)) ∈ lw_all := lw_g (lw_at lw_m6 143 rfl) rfl
theorem q1468 : (Jvm.Cond.selects "DebtDoors" ({ cls := "DebtDoors", name := "visit", desc := "(IIII)I" } : Jvm.MethodName) ({ cls := "DebtDoors", name := "visit", desc := "(IIII)I" } : Jvm.MethodName)) ∈ lw_all := lw_g (lw_at lw_m6 144 rfl) rfl
theorem q1469 : (Jvm.Cond.code ({ cls := "DebtDoors", name := "visit", desc := "(IIII)I" } : Jvm.MethodName) prog_1_method_58_code (5 : Nat) (Option.some Jvm.ClassFile.FieldType.int)) ∈ lw_all := lw_g (lw_at lw_m6 145 rfl) rfl
theorem q1470 : (Jvm.Cond.classLink "DebtDoors" (346 : Nat) "DebtDoors$Visit") ∈ lw_all := lw_g (lw_at lw_m6 146 rfl) rfl
theorem q1472 : (Jvm.Cond.methodLink "DebtDoors" (348 : Nat) ({ cls := "DebtDoors$Visit", name := "<init>", desc := "(IIII)V" } : Jvm.MethodName)) ∈ lw_all := lw_g (lw_at lw_m6 148 rfl) rfl
theorem q1479 : (Jvm.Cond.fieldLinkNest "DebtDoors" (354 : Nat) "DebtDoors$Visit" "visitor" "I" "DebtDoors") ∈ lw_tbl := lw_at lw_m6 155 rfl
theorem q1483 : (Jvm.Cond.fieldLinkNest "DebtDoors" (357 : Nat) "DebtDoors$Visit" "house" "I" "DebtDoors") ∈ lw_tbl := lw_at lw_m6 159 rfl
theorem q1486 : (Jvm.Cond.fieldLinkNest "DebtDoors" (351 : Nat) "DebtDoors$Visit" "room" "I" "DebtDoors") ∈ lw_tbl := lw_at lw_m6 162 rfl
theorem q1499 : (Jvm.Cond.instanceMethod ({ cls := "DebtDoors", name := "cancel", desc := "()I" } : Jvm.MethodName)) ∈ lw_all := lw_g (lw_at lw_m6 175 rfl) rfl
theorem q1500 : (Jvm.Cond.selects "DebtDoors" ({ cls := "DebtDoors", name := "cancel", desc := "()I" } : Jvm.MethodName) ({ cls := "DebtDoors", name := "cancel", desc := "()I" } : Jvm.MethodName)) ∈ lw_all := lw_g (lw_at lw_m6 176 rfl) rfl
theorem q1501 : (Jvm.Cond.code ({ cls := "DebtDoors", name := "cancel", desc := "()I" } : Jvm.MethodName) prog_1_method_59_code (2 : Nat) (Option.some Jvm.ClassFile.FieldType.int)) ∈ lw_all := lw_g (lw_at lw_m6 177 rfl) rfl
theorem q1503 : (Jvm.Cond.instanceMethod ({ cls := "DebtDoors", name := "lendings", desc := "(I)I" } : Jvm.MethodName)) ∈ lw_all := lw_g (lw_at lw_m6 179 rfl) rfl
theorem q1504 : (Jvm.Cond.selects "DebtDoors" ({ cls := "DebtDoors", name := "lendings", desc := "(I)I" } : Jvm.MethodName) ({ cls := "DebtDoors", name := "lendings", desc := "(I)I" } : Jvm.MethodName)) ∈ lw_all := lw_g (lw_at lw_m6 180 rfl) rfl
theorem q1505 : (Jvm.Cond.code ({ cls := "DebtDoors", name := "lendings", desc := "(I)I" } : Jvm.MethodName) prog_1_method_62_code (3 : Nat) (Option.some Jvm.ClassFile.FieldType.int)) ∈ lw_all := lw_g (lw_at lw_m6 181 rfl) rfl
theorem q1506 : (Jvm.Cond.methodLink "DebtDoors" (374 : Nat) ({ cls := "DebtDoors", name := "lendings", desc := "()LDebtDoors$Lendings;" } : Jvm.MethodName)) ∈ lw_all := lw_g (lw_at lw_m6 182 rfl) rfl
theorem q1507 : (Jvm.Cond.privateMethod ({ cls := "DebtDoors", name := "lendings", desc := "()LDebtDoors$Lendings;" } : Jvm.MethodName)) ∈ lw_tbl := lw_at lw_m6 183 rfl
theorem q1508 : (Jvm.Cond.instanceMethod ({ cls := "DebtDoors", name := "lendings", desc := "()LDebtDoors$Lendings;" } : Jvm.MethodName)) ∈ lw_all := lw_g (lw_at lw_m6 184 rfl) rfl
theorem q1509 : (Jvm.Cond.code ({ cls := "DebtDoors", name := "lendings", desc := "()LDebtDoors$Lendings;" } : Jvm.MethodName) prog_1_method_61_code (7 : Nat) (Option.some (Jvm.ClassFile.FieldType.object "DebtDoors$Lendings"))) ∈ lw_all := lw_g (lw_at lw_m6 185 rfl) rfl
theorem q1510 : (Jvm.Cond.methodLink "DebtDoors" (362 : Nat) ({ cls := "DebtDoors", name := "deepest", desc := "(I)I" } : Jvm.MethodName)) ∈ lw_all := lw_g (lw_at lw_m6 186 rfl) rfl
theorem q1511 : (Jvm.Cond.privateMethod ({ cls := "DebtDoors", name := "deepest", desc := "(I)I" } : Jvm.MethodName)) ∈ lw_tbl := lw_at lw_m6 187 rfl
theorem q1512 : (Jvm.Cond.instanceMethod ({ cls := "DebtDoors", name := "deepest", desc := "(I)I" } : Jvm.MethodName)) ∈ lw_all := lw_g (lw_at lw_m6 188 rfl) rfl
theorem q1513 : (Jvm.Cond.code ({ cls := "DebtDoors", name := "deepest", desc := "(I)I" } : Jvm.MethodName) prog_1_method_60_code (6 : Nat) (Option.some Jvm.ClassFile.FieldType.int)) ∈ lw_all := lw_g (lw_at lw_m6 189 rfl) rfl
theorem q1514 : (Jvm.Cond.methodLink "DebtDoors" (360 : Nat) ({ cls := "java/lang/Math", name := "max", desc := "(II)I" } : Jvm.MethodName)) ∈ lw_all := lw_g (lw_at lw_m6 190 rfl) rfl
theorem q1515 : (Jvm.Cond.classLink "DebtDoors" (365 : Nat) "DebtDoors$Lendings") ∈ lw_all := lw_g (lw_at lw_m6 191 rfl) rfl
theorem q1517 : (Jvm.Cond.methodLink "DebtDoors" (367 : Nat) ({ cls := "DebtDoors$Lendings", name := "<init>", desc := "(LDebtDoors;[I[II)V" } : Jvm.MethodName)) ∈ lw_all := lw_g (lw_at lw_m6 193 rfl) rfl
theorem q1528 : (Jvm.Cond.fieldLinkNest "DebtDoors" (387 : Nat) "DebtDoors$Lendings" "visits" "[I" "DebtDoors") ∈ lw_tbl := lw_at lw_m6 204 rfl
theorem q1530 : (Jvm.Cond.fieldLinkNest "DebtDoors" (381 : Nat) "DebtDoors$Lendings" "total" "I" "DebtDoors") ∈ lw_tbl := lw_at lw_m6 206 rfl
theorem q1533 : (Jvm.Cond.fieldLink "DebtDoors" (378 : Nat) "DebtDoors$Lendings" "n" "I") ∈ lw_all := lw_g (lw_at lw_m6 209 rfl) rfl
theorem q1536 : (Jvm.Cond.fieldLink "DebtDoors" (389 : Nat) "DebtDoors$Lendings" "first" "[I") ∈ lw_all := lw_g (lw_at lw_m6 212 rfl) rfl
theorem q1538 : (Jvm.Cond.fieldLink "DebtDoors" (397 : Nat) "DebtDoors$Plan" "first" "[I") ∈ lw_all := lw_g (lw_at lw_m6 214 rfl) rfl
theorem q1542 : (Jvm.Cond.fieldLink "DebtDoors" (384 : Nat) "DebtDoors$Lendings" "ways" "I") ∈ lw_all := lw_g (lw_at lw_m6 218 rfl) rfl
theorem q1544 : (Jvm.Cond.fieldLink "DebtDoors" (396 : Nat) "DebtDoors$Plan" "ways" "I") ∈ lw_all := lw_g (lw_at lw_m6 220 rfl) rfl
theorem q1566 : (Jvm.Cond.methodLink "DebtDoors" (370 : Nat) ({ cls := "DebtDoors$Lendings", name := "go", desc := "(II)V" } : Jvm.MethodName)) ∈ lw_all := lw_g (lw_at lw_m7 2 rfl) rfl
theorem q1574 : (Jvm.Cond.static ({ cls := "DebtDoors", name := "has", desc := "(II)Z" } : Jvm.MethodName)) ∈ lw_all := lw_g (lw_at lw_m7 10 rfl) rfl
theorem q1575 : (Jvm.Cond.code ({ cls := "DebtDoors", name := "has", desc := "(II)Z" } : Jvm.MethodName) prog_1_method_2_code (2 : Nat) (Option.some Jvm.ClassFile.FieldType.boolean)) ∈ lw_all := lw_g (lw_at lw_m7 11 rfl) rfl
theorem q1595 : (Jvm.Cond.instanceMethod ({ cls := "DebtDoors", name := "plan", desc := "(I)I" } : Jvm.MethodName)) ∈ lw_all := lw_g (lw_at lw_m7 31 rfl) rfl
theorem q1596 : (Jvm.Cond.selects "DebtDoors" ({ cls := "DebtDoors", name := "plan", desc := "(I)I" } : Jvm.MethodName) ({ cls := "DebtDoors", name := "plan", desc := "(I)I" } : Jvm.MethodName)) ∈ lw_all := lw_g (lw_at lw_m7 32 rfl) rfl
theorem q1597 : (Jvm.Cond.code ({ cls := "DebtDoors", name := "plan", desc := "(I)I" } : Jvm.MethodName) prog_1_method_63_code (3 : Nat) (Option.some Jvm.ClassFile.FieldType.int)) ∈ lw_all := lw_g (lw_at lw_m7 33 rfl) rfl
theorem q1598 : (Jvm.Cond.classLink "DebtDoors" (392 : Nat) "DebtDoors$Plan") ∈ lw_all := lw_g (lw_at lw_m7 34 rfl) rfl
theorem q1600 : (Jvm.Cond.methodLink "DebtDoors" (394 : Nat) ({ cls := "DebtDoors$Plan", name := "<init>", desc := "(LDebtDoors;)V" } : Jvm.MethodName)) ∈ lw_all := lw_g (lw_at lw_m7 36 rfl) rfl
theorem q1614 : (Jvm.Cond.methodLink "DebtDoors" (395 : Nat) ({ cls := "DebtDoors$Plan", name := "go", desc := "(II)V" } : Jvm.MethodName)) ∈ lw_all := lw_g (lw_at lw_m7 50 rfl) rfl
theorem q1618 : (Jvm.Cond.instanceMethod ({ cls := "DebtDoors", name := "thief", desc := "(IIII)I" } : Jvm.MethodName)) ∈ lw_all := lw_g (lw_at lw_m7 54 rfl) rfl
theorem q1619 : (Jvm.Cond.selects "DebtDoors" ({ cls := "DebtDoors", name := "thief", desc := "(IIII)I" } : Jvm.MethodName) ({ cls := "DebtDoors", name := "thief", desc := "(IIII)I" } : Jvm.MethodName)) ∈ lw_all := lw_g (lw_at lw_m7 55 rfl) rfl
theorem q1620 : (Jvm.Cond.code ({ cls := "DebtDoors", name := "thief", desc := "(IIII)I" } : Jvm.MethodName) prog_1_method_64_code (16 : Nat) (Option.some Jvm.ClassFile.FieldType.int)) ∈ lw_all := lw_g (lw_at lw_m7 56 rfl) rfl
theorem q1621 : (Jvm.Cond.constant "DebtDoors" (398 : Nat) (100000000 : Int32)) ∈ lw_all := lw_g (lw_at lw_m7 57 rfl) rfl
theorem q1622 : (Jvm.Cond.methodLink "DebtDoors" (399 : Nat) ({ cls := "DebtDoors", name := "has", desc := "(II)Z" } : Jvm.MethodName)) ∈ lw_all := lw_g (lw_at lw_m7 58 rfl) rfl
theorem q1623 : (Jvm.Cond.methodLink "DebtDoors" (401 : Nat) ({ cls := "java/lang/Integer", name := "bitCount", desc := "(I)I" } : Jvm.MethodName)) ∈ lw_all := lw_g (lw_at lw_m7 59 rfl) rfl
theorem q1630 : (Jvm.Cond.instanceMethod ({ cls := "DebtDoors", name := "shut", desc := "(III)I" } : Jvm.MethodName)) ∈ lw_all := lw_g (lw_at lw_m7 66 rfl) rfl
theorem q1631 : (Jvm.Cond.selects "DebtDoors" ({ cls := "DebtDoors", name := "shut", desc := "(III)I" } : Jvm.MethodName) ({ cls := "DebtDoors", name := "shut", desc := "(III)I" } : Jvm.MethodName)) ∈ lw_all := lw_g (lw_at lw_m7 67 rfl) rfl
theorem q1632 : (Jvm.Cond.code ({ cls := "DebtDoors", name := "shut", desc := "(III)I" } : Jvm.MethodName) prog_1_method_66_code (4 : Nat) (Option.some Jvm.ClassFile.FieldType.int)) ∈ lw_all := lw_g (lw_at lw_m7 68 rfl) rfl
theorem q1633 : (Jvm.Cond.methodLink "DebtDoors" (406 : Nat) ({ cls := "DebtDoors", name := "shutOf", desc := "(III)I" } : Jvm.MethodName)) ∈ lw_all := lw_g (lw_at lw_m7 69 rfl) rfl
theorem q1634 : (Jvm.Cond.privateMethod ({ cls := "DebtDoors", name := "shutOf", desc := "(III)I" } : Jvm.MethodName)) ∈ lw_tbl := lw_at lw_m7 70 rfl
theorem q1635 : (Jvm.Cond.instanceMethod ({ cls := "DebtDoors", name := "shutOf", desc := "(III)I" } : Jvm.MethodName)) ∈ lw_all := lw_g (lw_at lw_m7 71 rfl) rfl
theorem q1636 : (Jvm.Cond.code ({ cls := "DebtDoors", name := "shutOf", desc := "(III)I" } : Jvm.MethodName) prog_1_method_65_code (7 : Nat) (Option.some Jvm.ClassFile.FieldType.int)) ∈ lw_all := lw_g (lw_at lw_m7 72 rfl) rfl
theorem q1638 : (Jvm.Cond.instanceMethod ({ cls := "DebtDoors", name := "ban", desc := "(I)I" } : Jvm.MethodName)) ∈ lw_all := lw_g (lw_at lw_m7 74 rfl) rfl
theorem q1639 : (Jvm.Cond.selects "DebtDoors" ({ cls := "DebtDoors", name := "ban", desc := "(I)I" } : Jvm.MethodName) ({ cls := "DebtDoors", name := "ban", desc := "(I)I" } : Jvm.MethodName)) ∈ lw_all := lw_g (lw_at lw_m7 75 rfl) rfl
theorem q1640 : (Jvm.Cond.code ({ cls := "DebtDoors", name := "ban", desc := "(I)I" } : Jvm.MethodName) prog_1_method_67_code (5 : Nat) (Option.some Jvm.ClassFile.FieldType.int)) ∈ lw_all := lw_g (lw_at lw_m7 76 rfl) rfl
theorem q1642 : (Jvm.Cond.instanceMethod ({ cls := "DebtDoors", name := "party", desc := "(I)I" } : Jvm.MethodName)) ∈ lw_all := lw_g (lw_at lw_m7 78 rfl) rfl
theorem q1643 : (Jvm.Cond.selects "DebtDoors" ({ cls := "DebtDoors", name := "party", desc := "(I)I" } : Jvm.MethodName) ({ cls := "DebtDoors", name := "party", desc := "(I)I" } : Jvm.MethodName)) ∈ lw_all := lw_g (lw_at lw_m7 79 rfl) rfl
theorem q1644 : (Jvm.Cond.code ({ cls := "DebtDoors", name := "party", desc := "(I)I" } : Jvm.MethodName) prog_1_method_69_code (6 : Nat) (Option.some Jvm.ClassFile.FieldType.int)) ∈ lw_all := lw_g (lw_at lw_m7 80 rfl) rfl
theorem q1645 : (Jvm.Cond.methodLink "DebtDoors" (409 : Nat) ({ cls := "DebtDoors", name := "partyAt", desc := "(I)I" } : Jvm.MethodName)) ∈ lw_all := lw_g (lw_at lw_m7 81 rfl) rfl
theorem q1646 : (Jvm.Cond.privateMethod ({ cls := "DebtDoors", name := "partyAt", desc := "(I)I" } : Jvm.MethodName)) ∈ lw_tbl := lw_at lw_m7 82 rfl
theorem q1647 : (Jvm.Cond.instanceMethod ({ cls := "DebtDoors", name := "partyAt", desc := "(I)I" } : Jvm.MethodName)) ∈ lw_all := lw_g (lw_at lw_m7 83 rfl) rfl
theorem q1648 : (Jvm.Cond.code ({ cls := "DebtDoors", name := "partyAt", desc := "(I)I" } : Jvm.MethodName) prog_1_method_68_code (5 : Nat) (Option.some Jvm.ClassFile.FieldType.int)) ∈ lw_all := lw_g (lw_at lw_m7 84 rfl) rfl
theorem q1650 : (Jvm.Cond.instanceMethod ({ cls := "DebtDoors", name := "ring", desc := "(I)I" } : Jvm.MethodName)) ∈ lw_all := lw_g (lw_at lw_m7 86 rfl) rfl
theorem q1651 : (Jvm.Cond.selects "DebtDoors" ({ cls := "DebtDoors", name := "ring", desc := "(I)I" } : Jvm.MethodName) ({ cls := "DebtDoors", name := "ring", desc := "(I)I" } : Jvm.MethodName)) ∈ lw_all := lw_g (lw_at lw_m7 87 rfl) rfl
theorem q1652 : (Jvm.Cond.code ({ cls := "DebtDoors", name := "ring", desc := "(I)I" } : Jvm.MethodName) prog_1_method_70_code (3 : Nat) (Option.some Jvm.ClassFile.FieldType.int)) ∈ lw_all := lw_g (lw_at lw_m7 88 rfl) rfl
theorem q1653 : (Jvm.Cond.classLink "DebtDoors" (412 : Nat) "DebtDoors$Ring") ∈ lw_all := lw_g (lw_at lw_m7 89 rfl) rfl
theorem q1655 : (Jvm.Cond.methodLink "DebtDoors" (414 : Nat) ({ cls := "DebtDoors$Ring", name := "<init>", desc := "(LDebtDoors;LDebtDoors$Books;)V" } : Jvm.MethodName)) ∈ lw_all := lw_g (lw_at lw_m7 91 rfl) rfl
theorem q1671 : (Jvm.Cond.fieldLinkNest "DebtDoors" (421 : Nat) "DebtDoors$Ring" "best" "[I" "DebtDoors") ∈ lw_tbl := lw_at lw_m7 107 rfl
theorem q1673 : (Jvm.Cond.fieldLinkNest "DebtDoors" (420 : Nat) "DebtDoors$Ring" "many" "I" "DebtDoors") ∈ lw_tbl := lw_at lw_m7 109 rfl
theorem q1689 : (Jvm.Cond.methodLink "DebtDoors" (417 : Nat) ({ cls := "DebtDoors$Ring", name := "is", desc := "()Z" } : Jvm.MethodName)) ∈ lw_all := lw_g (lw_at lw_m7 125 rfl) rfl
theorem q1694 : (Jvm.Cond.instanceMethod ({ cls := "DebtDoors", name := "clear", desc := "()I" } : Jvm.MethodName)) ∈ lw_all := lw_g (lw_at lw_m7 130 rfl) rfl
theorem q1695 : (Jvm.Cond.selects "DebtDoors" ({ cls := "DebtDoors", name := "clear", desc := "()I" } : Jvm.MethodName) ({ cls := "DebtDoors", name := "clear", desc := "()I" } : Jvm.MethodName)) ∈ lw_all := lw_g (lw_at lw_m7 131 rfl) rfl
theorem q1696 : (Jvm.Cond.code ({ cls := "DebtDoors", name := "clear", desc := "()I" } : Jvm.MethodName) prog_1_method_71_code (3 : Nat) (Option.some Jvm.ClassFile.FieldType.int)) ∈ lw_all := lw_g (lw_at lw_m7 132 rfl) rfl
theorem q1697 : (Jvm.Cond.methodLink "DebtDoors" (424 : Nat) ({ cls := "DebtDoors$Ring", name := "least", desc := "()I" } : Jvm.MethodName)) ∈ lw_all := lw_g (lw_at lw_m7 133 rfl) rfl
theorem q1706 : (Jvm.Cond.methodLink "DebtDoors" (427 : Nat) ({ cls := "DebtDoors$Ring", name := "clear", desc := "(LDebtDoors$Books;)V" } : Jvm.MethodName)) ∈ lw_all := lw_g (lw_at lw_m7 142 rfl) rfl
theorem q1713 : (Jvm.Cond.instanceMethod ({ cls := "DebtDoors", name := "cleared", desc := "(I)I" } : Jvm.MethodName)) ∈ lw_all := lw_g (lw_at lw_m7 149 rfl) rfl
theorem q1714 : (Jvm.Cond.selects "DebtDoors" ({ cls := "DebtDoors", name := "cleared", desc := "(I)I" } : Jvm.MethodName) ({ cls := "DebtDoors", name := "cleared", desc := "(I)I" } : Jvm.MethodName)) ∈ lw_all := lw_g (lw_at lw_m7 150 rfl) rfl
theorem q1715 : (Jvm.Cond.code ({ cls := "DebtDoors", name := "cleared", desc := "(I)I" } : Jvm.MethodName) prog_1_method_72_code (6 : Nat) (Option.some Jvm.ClassFile.FieldType.int)) ∈ lw_all := lw_g (lw_at lw_m7 151 rfl) rfl
theorem q1717 : (Jvm.Cond.instanceMethod ({ cls := "DebtDoors", name := "balance", desc := "(I)I" } : Jvm.MethodName)) ∈ lw_all := lw_g (lw_at lw_m7 153 rfl) rfl
theorem q1718 : (Jvm.Cond.selects "DebtDoors" ({ cls := "DebtDoors", name := "balance", desc := "(I)I" } : Jvm.MethodName) ({ cls := "DebtDoors", name := "balance", desc := "(I)I" } : Jvm.MethodName)) ∈ lw_all := lw_g (lw_at lw_m7 154 rfl) rfl
theorem q1719 : (Jvm.Cond.code ({ cls := "DebtDoors", name := "balance", desc := "(I)I" } : Jvm.MethodName) prog_1_method_73_code (2 : Nat) (Option.some Jvm.ClassFile.FieldType.int)) ∈ lw_all := lw_g (lw_at lw_m7 155 rfl) rfl
theorem q1720 : (Jvm.Cond.methodLink "DebtDoors" (430 : Nat) ({ cls := "DebtDoors$Books", name := "balance", desc := "(I)I" } : Jvm.MethodName)) ∈ lw_all := lw_g (lw_at lw_m7 156 rfl) rfl
theorem q1724 : (Jvm.Cond.constant "DebtDoors" (433 : Nat) (-1000000 : Int32)) ∈ lw_all := lw_g (lw_at lw_m7 160 rfl) rfl
theorem q1726 : (Jvm.Cond.instanceMethod ({ cls := "DebtDoors", name := "payments", desc := "()I" } : Jvm.MethodName)) ∈ lw_all := lw_g (lw_at lw_m7 162 rfl) rfl
theorem q1727 : (Jvm.Cond.selects "DebtDoors" ({ cls := "DebtDoors", name := "payments", desc := "()I" } : Jvm.MethodName) ({ cls := "DebtDoors", name := "payments", desc := "()I" } : Jvm.MethodName)) ∈ lw_all := lw_g (lw_at lw_m7 163 rfl) rfl
theorem q1728 : (Jvm.Cond.code ({ cls := "DebtDoors", name := "payments", desc := "()I" } : Jvm.MethodName) prog_1_method_74_code (7 : Nat) (Option.some Jvm.ClassFile.FieldType.int)) ∈ lw_all := lw_g (lw_at lw_m7 164 rfl) rfl
theorem q1729 : (Jvm.Cond.methodLink "DebtDoors" (434 : Nat) ({ cls := "java/lang/Integer", name := "numberOfTrailingZeros", desc := "(I)I" } : Jvm.MethodName)) ∈ lw_all := lw_g (lw_at lw_m7 165 rfl) rfl
theorem q1734 : (Jvm.Cond.instanceMethod ({ cls := "DebtDoors", name := "scuff", desc := "(IIII)I" } : Jvm.MethodName)) ∈ lw_all := lw_g (lw_at lw_m7 170 rfl) rfl
theorem q1735 : (Jvm.Cond.selects "DebtDoors" ({ cls := "DebtDoors", name := "scuff", desc := "(IIII)I" } : Jvm.MethodName) ({ cls := "DebtDoors", name := "scuff", desc := "(IIII)I" } : Jvm.MethodName)) ∈ lw_all := lw_g (lw_at lw_m7 171 rfl) rfl
theorem q1736 : (Jvm.Cond.code ({ cls := "DebtDoors", name := "scuff", desc := "(IIII)I" } : Jvm.MethodName) prog_1_method_75_code (5 : Nat) (Option.some Jvm.ClassFile.FieldType.int)) ∈ lw_all := lw_g (lw_at lw_m7 172 rfl) rfl
theorem q1737 : (Jvm.Cond.classLink "DebtDoors" (440 : Nat) "DebtDoors$Scuff") ∈ lw_all := lw_g (lw_at lw_m7 173 rfl) rfl
theorem q1739 : (Jvm.Cond.methodLink "DebtDoors" (442 : Nat) ({ cls := "DebtDoors$Scuff", name := "<init>", desc := "(IIIZ)V" } : Jvm.MethodName)) ∈ lw_all := lw_g (lw_at lw_m7 175 rfl) rfl
theorem q1744 : (Jvm.Cond.fieldLinkNest "DebtDoors" (446 : Nat) "DebtDoors$Scuff" "visitor" "I" "DebtDoors") ∈ lw_tbl := lw_at lw_m7 180 rfl
theorem q1746 : (Jvm.Cond.fieldLinkNest "DebtDoors" (445 : Nat) "DebtDoors$Scuff" "house" "I" "DebtDoors") ∈ lw_tbl := lw_at lw_m7 182 rfl
theorem q1748 : (Jvm.Cond.fieldLinkNest "DebtDoors" (447 : Nat) "DebtDoors$Scuff" "room" "I" "DebtDoors") ∈ lw_tbl := lw_at lw_m7 184 rfl
theorem q1750 : (Jvm.Cond.fieldLinkNest "DebtDoors" (448 : Nat) "DebtDoors$Scuff" "is" "Z" "DebtDoors") ∈ lw_tbl := lw_at lw_m7 186 rfl
theorem q1761 : (Jvm.Cond.instanceMethod ({ cls := "DebtDoors", name := "sweep", desc := "()I" } : Jvm.MethodName)) ∈ lw_all := lw_g (lw_at lw_m7 197 rfl) rfl
theorem q1762 : (Jvm.Cond.selects "DebtDoors" ({ cls := "DebtDoors", name := "sweep", desc := "()I" } : Jvm.MethodName) ({ cls := "DebtDoors", name := "sweep", desc := "()I" } : Jvm.MethodName)) ∈ lw_all := lw_g (lw_at lw_m7 198 rfl) rfl
theorem q1763 : (Jvm.Cond.code ({ cls := "DebtDoors", name := "sweep", desc := "()I" } : Jvm.MethodName) prog_1_method_76_code (2 : Nat) (Option.some Jvm.ClassFile.FieldType.int)) ∈ lw_all := lw_g (lw_at lw_m7 199 rfl) rfl
theorem q1765 : (Jvm.Cond.instanceMethod ({ cls := "DebtDoors", name := "secret", desc := "(I)I" } : Jvm.MethodName)) ∈ lw_all := lw_g (lw_at lw_m7 201 rfl) rfl
theorem q1766 : (Jvm.Cond.selects "DebtDoors" ({ cls := "DebtDoors", name := "secret", desc := "(I)I" } : Jvm.MethodName) ({ cls := "DebtDoors", name := "secret", desc := "(I)I" } : Jvm.MethodName)) ∈ lw_all := lw_g (lw_at lw_m7 202 rfl) rfl
theorem q1767 : (Jvm.Cond.code ({ cls := "DebtDoors", name := "secret", desc := "(I)I" } : Jvm.MethodName) prog_1_method_78_code (6 : Nat) (Option.some Jvm.ClassFile.FieldType.int)) ∈ lw_all := lw_g (lw_at lw_m7 203 rfl) rfl
theorem q1768 : (Jvm.Cond.methodLink "DebtDoors" (451 : Nat) ({ cls := "DebtDoors", name := "isScuffed", desc := "(LDebtDoors$Books;)Z" } : Jvm.MethodName)) ∈ lw_all := lw_g (lw_at lw_m7 204 rfl) rfl
theorem q1769 : (Jvm.Cond.privateMethod ({ cls := "DebtDoors", name := "isScuffed", desc := "(LDebtDoors$Books;)Z" } : Jvm.MethodName)) ∈ lw_tbl := lw_at lw_m7 205 rfl
theorem q1770 : (Jvm.Cond.instanceMethod ({ cls := "DebtDoors", name := "isScuffed", desc := "(LDebtDoors$Books;)Z" } : Jvm.MethodName)) ∈ lw_all := lw_g (lw_at lw_m7 206 rfl) rfl
theorem q1771 : (Jvm.Cond.code ({ cls := "DebtDoors", name := "isScuffed", desc := "(LDebtDoors$Books;)Z" } : Jvm.MethodName) prog_1_method_77_code (4 : Nat) (Option.some Jvm.ClassFile.FieldType.boolean)) ∈ lw_all := lw_g (lw_at lw_m7 207 rfl) rfl
theorem q1773 : (Jvm.Cond.instanceMethod ({ cls := "DebtDoors", name := "denied", desc := "()I" } : Jvm.MethodName)) ∈ lw_all := lw_g (lw_at lw_m7 209 rfl) rfl
theorem q1774 : (Jvm.Cond.selects "DebtDoors" ({ cls := "DebtDoors", name := "denied", desc := "()I" } : Jvm.MethodName) ({ cls := "DebtDoors", name := "denied", desc := "()I" } : Jvm.MethodName)) ∈ lw_all := lw_g (lw_at lw_m7 210 rfl) rfl
theorem q1775 : (Jvm.Cond.code ({ cls := "DebtDoors", name := "denied", desc := "()I" } : Jvm.MethodName) prog_1_method_79_code (3 : Nat) (Option.some Jvm.ClassFile.FieldType.int)) ∈ lw_all := lw_g (lw_at lw_m7 211 rfl) rfl
theorem q1777 : (Jvm.Cond.instanceMethod ({ cls := "DebtDoors", name := "orders", desc := "()I" } : Jvm.MethodName)) ∈ lw_all := lw_g (lw_at lw_m7 213 rfl) rfl
theorem q1778 : (Jvm.Cond.selects "DebtDoors" ({ cls := "DebtDoors", name := "orders", desc := "()I" } : Jvm.MethodName) ({ cls := "DebtDoors", name := "orders", desc := "()I" } : Jvm.MethodName)) ∈ lw_all := lw_g (lw_at lw_m7 214 rfl) rfl
theorem q1779 : (Jvm.Cond.codeWith ({ cls := "DebtDoors", name := "orders", desc := "()I" } : Jvm.MethodName) prog_1_method_81_code (5 : Nat) (Option.some Jvm.ClassFile.FieldType.int) [((5 : Nat), (22 : Nat), (30 : Nat), (234 : Nat)), ((5 : Nat), (22 : Nat), (53 : Nat), (0 : Nat)), ((30 : Nat), (46 : Nat), (53 : Nat), (0 : Nat)), ((53 : Nat), (55 : Nat), (53 : Nat), (0 : Nat))]) ∈ lw_all := lw_g (lw_at lw_m7 215 rfl) rfl
theorem q1780 : (Jvm.Cond.classLink "DebtDoors" (466 : Nat) "DebtDoors$OrderReader") ∈ lw_all := lw_g (lw_at lw_m7 216 rfl) rfl
theorem q1781 : (Jvm.Cond.methodLink "DebtDoors" (468 : Nat) ({ cls := "DebtDoors$OrderReader", name := "<init>", desc := "(LDebtDoors;)V" } : Jvm.MethodName)) ∈ lw_all := lw_g (lw_at lw_m7 217 rfl) rfl
theorem q1809 : (Jvm.Cond.methodLink "DebtDoors" (469 : Nat) ({ cls := "DebtDoors$OrderReader", name := "read", desc := "()[LDebtDoors$Order;" } : Jvm.MethodName)) ∈ lw_all := lw_g (lw_at lw_m8 5 rfl) rfl
theorem q1817 : (Jvm.Cond.methodLink "DebtDoors" (472 : Nat) ({ cls := "java/util/ArrayList", name := "<init>", desc := "(Ljava/util/Collection;)V" } : Jvm.MethodName)) ∈ lw_all := lw_g (lw_at lw_m8 13 rfl) rfl
theorem q1841 : (Jvm.Cond.methodLink "DebtDoors" (478 : Nat) ({ cls := "DebtDoors", name := "runAll", desc := "([LDebtDoors$Order;)I" } : Jvm.MethodName)) ∈ lw_all := lw_g (lw_at lw_m8 37 rfl) rfl
theorem q1842 : (Jvm.Cond.privateMethod ({ cls := "DebtDoors", name := "runAll", desc := "([LDebtDoors$Order;)I" } : Jvm.MethodName)) ∈ lw_tbl := lw_at lw_m8 38 rfl
theorem q1843 : (Jvm.Cond.instanceMethod ({ cls := "DebtDoors", name := "runAll", desc := "([LDebtDoors$Order;)I" } : Jvm.MethodName)) ∈ lw_all := lw_g (lw_at lw_m8 39 rfl) rfl
theorem q1844 : (Jvm.Cond.code ({ cls := "DebtDoors", name := "runAll", desc := "([LDebtDoors$Order;)I" } : Jvm.MethodName) prog_1_method_80_code (5 : Nat) (Option.some Jvm.ClassFile.FieldType.int)) ∈ lw_all := lw_g (lw_at lw_m8 40 rfl) rfl
theorem q1845 : (Jvm.Cond.methodLink "DebtDoors" (460 : Nat) ({ cls := "DebtDoors$Order", name := "run", desc := "()I" } : Jvm.MethodName)) ∈ lw_all := lw_g (lw_at lw_m8 41 rfl) rfl
theorem q1895 : (Jvm.Cond.methodLink "DebtDoors" (482 : Nat) ({ cls := "java/util/ArrayList", name := "addAll", desc := "(Ljava/util/Collection;)Z" } : Jvm.MethodName)) ∈ lw_all := lw_g (lw_at lw_m8 91 rfl) rfl
theorem q1900 : (Jvm.Cond.instanceMethod ({ cls := "DebtDoors", name := "stopped", desc := "()I" } : Jvm.MethodName)) ∈ lw_all := lw_g (lw_at lw_m8 96 rfl) rfl
theorem q1901 : (Jvm.Cond.selects "DebtDoors" ({ cls := "DebtDoors", name := "stopped", desc := "()I" } : Jvm.MethodName) ({ cls := "DebtDoors", name := "stopped", desc := "()I" } : Jvm.MethodName)) ∈ lw_all := lw_g (lw_at lw_m8 97 rfl) rfl
theorem q1902 : (Jvm.Cond.code ({ cls := "DebtDoors", name := "stopped", desc := "()I" } : Jvm.MethodName) prog_1_method_82_code (1 : Nat) (Option.some Jvm.ClassFile.FieldType.int)) ∈ lw_all := lw_g (lw_at lw_m8 98 rfl) rfl
theorem q1904 : (Jvm.Cond.instanceMethod ({ cls := "DebtDoors", name := "month", desc := "(II)I" } : Jvm.MethodName)) ∈ lw_all := lw_g (lw_at lw_m8 100 rfl) rfl
theorem q1905 : (Jvm.Cond.selects "DebtDoors" ({ cls := "DebtDoors", name := "month", desc := "(II)I" } : Jvm.MethodName) ({ cls := "DebtDoors", name := "month", desc := "(II)I" } : Jvm.MethodName)) ∈ lw_all := lw_g (lw_at lw_m8 101 rfl) rfl
theorem q1906 : (Jvm.Cond.code ({ cls := "DebtDoors", name := "month", desc := "(II)I" } : Jvm.MethodName) prog_1_method_83_code (12 : Nat) (Option.some Jvm.ClassFile.FieldType.int)) ∈ lw_all := lw_g (lw_at lw_m8 102 rfl) rfl
theorem q1907 : (Jvm.Cond.constantLong "DebtDoors" (486 : Nat) (1000000 : Int64)) ∈ lw_all := lw_g (lw_at lw_m8 103 rfl) rfl
theorem q1908 : (Jvm.Cond.constantLong "DebtDoors" (488 : Nat) (30 : Int64)) ∈ lw_all := lw_g (lw_at lw_m8 104 rfl) rfl
theorem q1909 : (Jvm.Cond.classLink "DebtDoors" (490 : Nat) "DebtDoors$Draws") ∈ lw_all := lw_g (lw_at lw_m8 105 rfl) rfl
theorem q1911 : (Jvm.Cond.methodLink "DebtDoors" (492 : Nat) ({ cls := "DebtDoors$Draws", name := "<init>", desc := "(I)V" } : Jvm.MethodName)) ∈ lw_all := lw_g (lw_at lw_m8 107 rfl) rfl
theorem q1919 : (Jvm.Cond.methodLink "DebtDoors" (494 : Nat) ({ cls := "DebtDoors$Draws", name := "of", desc := "(I)I" } : Jvm.MethodName)) ∈ lw_all := lw_g (lw_at lw_m8 115 rfl) rfl
theorem q1926 : (Jvm.Cond.classLink "DebtDoors" (497 : Nat) "[I") ∈ lw_all := lw_g (lw_at lw_m8 122 rfl) rfl
theorem q1928 : (Jvm.Cond.instanceMethod ({ cls := "DebtDoors", name := "drawn", desc := "(II)I" } : Jvm.MethodName)) ∈ lw_all := lw_g (lw_at lw_m8 124 rfl) rfl
theorem q1929 : (Jvm.Cond.selects "DebtDoors" ({ cls := "DebtDoors", name := "drawn", desc := "(II)I" } : Jvm.MethodName) ({ cls := "DebtDoors", name := "drawn", desc := "(II)I" } : Jvm.MethodName)) ∈ lw_all := lw_g (lw_at lw_m8 125 rfl) rfl
theorem q1930 : (Jvm.Cond.code ({ cls := "DebtDoors", name := "drawn", desc := "(II)I" } : Jvm.MethodName) prog_1_method_84_code (3 : Nat) (Option.some Jvm.ClassFile.FieldType.int)) ∈ lw_all := lw_g (lw_at lw_m8 126 rfl) rfl
theorem q1932 : (Jvm.Cond.instanceMethod ({ cls := "DebtDoors", name := "image", desc := "(I)I" } : Jvm.MethodName)) ∈ lw_all := lw_g (lw_at lw_m8 128 rfl) rfl
theorem q1933 : (Jvm.Cond.selects "DebtDoors" ({ cls := "DebtDoors", name := "image", desc := "(I)I" } : Jvm.MethodName) ({ cls := "DebtDoors", name := "image", desc := "(I)I" } : Jvm.MethodName)) ∈ lw_all := lw_g (lw_at lw_m8 129 rfl) rfl
theorem q1934 : (Jvm.Cond.code ({ cls := "DebtDoors", name := "image", desc := "(I)I" } : Jvm.MethodName) prog_1_method_85_code (2 : Nat) (Option.some Jvm.ClassFile.FieldType.int)) ∈ lw_all := lw_g (lw_at lw_m8 130 rfl) rfl
theorem q1935 : (Jvm.Cond.methodLink "DebtDoors" (502 : Nat) ({ cls := "DebtDoors$Street", name := "copy", desc := "()LDebtDoors$Street;" } : Jvm.MethodName)) ∈ lw_all := lw_g (lw_at lw_m8 131 rfl) rfl
theorem q1945 : (Jvm.Cond.instanceMethod ({ cls := "DebtDoors", name := "back", desc := "(I)I" } : Jvm.MethodName)) ∈ lw_all := lw_g (lw_at lw_m8 141 rfl) rfl
theorem q1946 : (Jvm.Cond.selects "DebtDoors" ({ cls := "DebtDoors", name := "back", desc := "(I)I" } : Jvm.MethodName) ({ cls := "DebtDoors", name := "back", desc := "(I)I" } : Jvm.MethodName)) ∈ lw_all := lw_g (lw_at lw_m8 142 rfl) rfl
theorem q1947 : (Jvm.Cond.code ({ cls := "DebtDoors", name := "back", desc := "(I)I" } : Jvm.MethodName) prog_1_method_86_code (2 : Nat) (Option.some Jvm.ClassFile.FieldType.int)) ∈ lw_all := lw_g (lw_at lw_m8 143 rfl) rfl
theorem q1949 : (Jvm.Cond.instanceMethod ({ cls := "DebtDoors", name := "count", desc := "(I)I" } : Jvm.MethodName)) ∈ lw_all := lw_g (lw_at lw_m8 145 rfl) rfl
theorem q1950 : (Jvm.Cond.selects "DebtDoors" ({ cls := "DebtDoors", name := "count", desc := "(I)I" } : Jvm.MethodName) ({ cls := "DebtDoors", name := "count", desc := "(I)I" } : Jvm.MethodName)) ∈ lw_all := lw_g (lw_at lw_m8 146 rfl) rfl
theorem q1951 : (Jvm.Cond.code ({ cls := "DebtDoors", name := "count", desc := "(I)I" } : Jvm.MethodName) prog_1_method_87_code (2 : Nat) (Option.some Jvm.ClassFile.FieldType.int)) ∈ lw_all := lw_g (lw_at lw_m8 147 rfl) rfl
theorem q1953 : (Jvm.Cond.instanceMethod ({ cls := "DebtDoors", name := "status", desc := "()I" } : Jvm.MethodName)) ∈ lw_all := lw_g (lw_at lw_m8 149 rfl) rfl
theorem q1954 : (Jvm.Cond.selects "DebtDoors" ({ cls := "DebtDoors", name := "status", desc := "()I" } : Jvm.MethodName) ({ cls := "DebtDoors", name := "status", desc := "()I" } : Jvm.MethodName)) ∈ lw_all := lw_g (lw_at lw_m8 150 rfl) rfl
theorem q1955 : (Jvm.Cond.code ({ cls := "DebtDoors", name := "status", desc := "()I" } : Jvm.MethodName) prog_1_method_88_code (1 : Nat) (Option.some Jvm.ClassFile.FieldType.int)) ∈ lw_all := lw_g (lw_at lw_m8 151 rfl) rfl
theorem q2747 : (Jvm.Cond.castable "DebtDoors" "java/lang/Object") ∈ lw_tbl := lw_at lw_m11 223 rfl
theorem in_X0 : ∀ w ∈ wsX00, w ∈ lw_all := lw_in wsX00 [370, 372, 374, 376, 378, 380, 382, 384, 386, 388, 390, 392, 394, 396, 398, 400, 402, 404] (by decide +kernel) (by decide +kernel)
/-! DebtDoors$Street -/
set_option maxRecDepth 100000
def RX1 : String := "DebtDoors$Street"
def TX1 : u_T := fun k => match k with
  | 0 => ("DebtDoors$Street", "laws", "Ljava/util/ArrayList;", true)
  | 1 => ("DebtDoors$Street", "visits", "Ljava/util/ArrayList;", true)
  | 2 => ("DebtDoors$Street", "scuffs", "Ljava/util/ArrayList;", true)
  | 3 => ("DebtDoors$Street", "books", "LDebtDoors$Books;", true)
  | 4 => ("DebtDoors$Street", "rooms", "[I", true)
  | 5 => ("DebtDoors$Street", "wary", "[I", true)
  | 6 => ("DebtDoors$Street", "people", "I", false)
  | 7 => ("DebtDoors$Street", "mood", "I", false)
  | _ => ("DebtDoors$Street", "inForce", "I", false)
def tyX1 : Nat → FieldType := fun k => match k with
  | 0 => .object "java/util/ArrayList"
  | 1 => .object "java/util/ArrayList"
  | 2 => .object "java/util/ArrayList"
  | 3 => .object "DebtDoors$Books"
  | 4 => .array .int
  | 5 => .array .int
  | 6 => .int
  | 7 => .int
  | _ => .int
abbrev wsX10 : List Cond := u_ws RX1 TX1 9
theorem nmX1 : ∀ a, a < 9 → ∀ b, b < 9 → a ≠ b → (TX1 a).2.1 ≠ (TX1 b).2.1 := by decide +kernel
theorem tyX1_ok : ∀ k, k < 9 → parseFieldDescriptor (TX1 k).2.2.1 = some (tyX1 k) := by decide +kernel
abbrev cX1_init : ByteArray := prog_27_method_1_code
def yX1_init : MethodName := ⟨RX1, "<init>", "()V"⟩
abbrev cX1_copy : ByteArray := prog_27_method_2_code
def yX1_copy : MethodName := ⟨RX1, "copy", "()LDebtDoors$Street;"⟩
theorem q126 : (Jvm.Cond.initialized "DebtDoors$Street") ∈ lw_all := lw_g (lw_at lw_m1 2 rfl) rfl
theorem q186 : (Jvm.Cond.instantiable "DebtDoors$Street" (9 : Nat)) ∈ lw_all := lw_g (lw_at lw_m1 62 rfl) rfl
theorem q188 : (Jvm.Cond.instanceMethod ({ cls := "DebtDoors$Street", name := "<init>", desc := "()V" } : Jvm.MethodName)) ∈ lw_all := lw_g (lw_at lw_m1 64 rfl) rfl
theorem q189 : (Jvm.Cond.code ({ cls := "DebtDoors$Street", name := "<init>", desc := "()V" } : Jvm.MethodName) prog_27_method_1_code (1 : Nat) (Option.none : Option Jvm.ClassFile.FieldType)) ∈ lw_all := lw_g (lw_at lw_m1 65 rfl) rfl
theorem q190 : (Jvm.Cond.methodLink "DebtDoors$Street" (3 : Nat) ({ cls := "java/lang/Object", name := "<init>", desc := "()V" } : Jvm.MethodName)) ∈ lw_all := lw_g (lw_at lw_m1 66 rfl) rfl
theorem q191 : (Jvm.Cond.classLink "DebtDoors$Street" (9 : Nat) "java/util/ArrayList") ∈ lw_all := lw_g (lw_at lw_m1 67 rfl) rfl
theorem q193 : (Jvm.Cond.methodLink "DebtDoors$Street" (11 : Nat) ({ cls := "java/util/ArrayList", name := "<init>", desc := "()V" } : Jvm.MethodName)) ∈ lw_all := lw_g (lw_at lw_m1 69 rfl) rfl
theorem q217 : (Jvm.Cond.classLink "DebtDoors$Street" (24 : Nat) "DebtDoors$Books") ∈ lw_all := lw_g (lw_at lw_m1 93 rfl) rfl
theorem q219 : (Jvm.Cond.methodLinkNest "DebtDoors$Street" (26 : Nat) ({ cls := "DebtDoors$Books", name := "<init>", desc := "()V" } : Jvm.MethodName) "DebtDoors") ∈ lw_tbl := lw_at lw_m1 95 rfl
theorem q260 : (Jvm.Cond.fieldLink "DebtDoors$Street" (12 : Nat) "DebtDoors$Street" "laws" "Ljava/util/ArrayList;") ∈ lw_all := lw_g (lw_at lw_m1 136 rfl) rfl
theorem q263 : (Jvm.Cond.fieldLink "DebtDoors$Street" (18 : Nat) "DebtDoors$Street" "visits" "Ljava/util/ArrayList;") ∈ lw_all := lw_g (lw_at lw_m1 139 rfl) rfl
theorem q266 : (Jvm.Cond.fieldLink "DebtDoors$Street" (21 : Nat) "DebtDoors$Street" "scuffs" "Ljava/util/ArrayList;") ∈ lw_all := lw_g (lw_at lw_m1 142 rfl) rfl
theorem q268 : (Jvm.Cond.fieldLink "DebtDoors$Street" (27 : Nat) "DebtDoors$Street" "books" "LDebtDoors$Books;") ∈ lw_all := lw_g (lw_at lw_m1 144 rfl) rfl
theorem q270 : (Jvm.Cond.fieldLink "DebtDoors$Street" (31 : Nat) "DebtDoors$Street" "rooms" "[I") ∈ lw_all := lw_g (lw_at lw_m1 146 rfl) rfl
theorem q272 : (Jvm.Cond.fieldLink "DebtDoors$Street" (35 : Nat) "DebtDoors$Street" "wary" "[I") ∈ lw_all := lw_g (lw_at lw_m1 148 rfl) rfl
theorem q275 : (Jvm.Cond.fieldLink "DebtDoors$Street" (57 : Nat) "DebtDoors$Street" "people" "I") ∈ lw_all := lw_g (lw_at lw_m1 151 rfl) rfl
theorem q277 : (Jvm.Cond.fieldLink "DebtDoors$Street" (60 : Nat) "DebtDoors$Street" "mood" "I") ∈ lw_all := lw_g (lw_at lw_m1 153 rfl) rfl
theorem q279 : (Jvm.Cond.fieldLink "DebtDoors$Street" (38 : Nat) "DebtDoors$Street" "inForce" "I") ∈ lw_all := lw_g (lw_at lw_m1 155 rfl) rfl
theorem q281 : (Jvm.Cond.laysFinal "DebtDoors$Street" "DebtDoors$Street" "laws" "Ljava/util/ArrayList;") ∈ lw_all := lw_g (lw_at lw_m1 157 rfl) rfl
theorem q282 : (Jvm.Cond.soleField "DebtDoors$Street" "laws") ∈ lw_all := lw_g (lw_at lw_m1 158 rfl) rfl
theorem q283 : (Jvm.Cond.laysFinal "DebtDoors$Street" "DebtDoors$Street" "visits" "Ljava/util/ArrayList;") ∈ lw_all := lw_g (lw_at lw_m1 159 rfl) rfl
theorem q284 : (Jvm.Cond.soleField "DebtDoors$Street" "visits") ∈ lw_all := lw_g (lw_at lw_m1 160 rfl) rfl
theorem q285 : (Jvm.Cond.laysFinal "DebtDoors$Street" "DebtDoors$Street" "scuffs" "Ljava/util/ArrayList;") ∈ lw_all := lw_g (lw_at lw_m1 161 rfl) rfl
theorem q286 : (Jvm.Cond.soleField "DebtDoors$Street" "scuffs") ∈ lw_all := lw_g (lw_at lw_m1 162 rfl) rfl
theorem q287 : (Jvm.Cond.laysFinal "DebtDoors$Street" "DebtDoors$Street" "books" "LDebtDoors$Books;") ∈ lw_all := lw_g (lw_at lw_m1 163 rfl) rfl
theorem q288 : (Jvm.Cond.soleField "DebtDoors$Street" "books") ∈ lw_all := lw_g (lw_at lw_m1 164 rfl) rfl
theorem q289 : (Jvm.Cond.laysFinal "DebtDoors$Street" "DebtDoors$Street" "rooms" "[I") ∈ lw_all := lw_g (lw_at lw_m1 165 rfl) rfl
theorem q290 : (Jvm.Cond.soleField "DebtDoors$Street" "rooms") ∈ lw_all := lw_g (lw_at lw_m1 166 rfl) rfl
theorem q291 : (Jvm.Cond.laysFinal "DebtDoors$Street" "DebtDoors$Street" "wary" "[I") ∈ lw_all := lw_g (lw_at lw_m1 167 rfl) rfl
theorem q292 : (Jvm.Cond.soleField "DebtDoors$Street" "wary") ∈ lw_all := lw_g (lw_at lw_m1 168 rfl) rfl
theorem q293 : (Jvm.Cond.lays "DebtDoors$Street" "DebtDoors$Street" "people" "I") ∈ lw_all := lw_g (lw_at lw_m1 169 rfl) rfl
theorem q294 : (Jvm.Cond.soleField "DebtDoors$Street" "people") ∈ lw_all := lw_g (lw_at lw_m1 170 rfl) rfl
theorem q295 : (Jvm.Cond.lays "DebtDoors$Street" "DebtDoors$Street" "mood" "I") ∈ lw_all := lw_g (lw_at lw_m1 171 rfl) rfl
theorem q296 : (Jvm.Cond.soleField "DebtDoors$Street" "mood") ∈ lw_all := lw_g (lw_at lw_m1 172 rfl) rfl
theorem q297 : (Jvm.Cond.lays "DebtDoors$Street" "DebtDoors$Street" "inForce" "I") ∈ lw_all := lw_g (lw_at lw_m1 173 rfl) rfl
theorem q298 : (Jvm.Cond.soleField "DebtDoors$Street" "inForce") ∈ lw_all := lw_g (lw_at lw_m1 174 rfl) rfl
theorem q299 : (Jvm.Cond.superclass "DebtDoors$Street" "java/lang/Object") ∈ lw_all := lw_g (lw_at lw_m1 175 rfl) rfl
theorem q1299 : (Jvm.Cond.selects "DebtDoors$Street" ({ cls := "java/lang/Object", name := "getClass", desc := "()Ljava/lang/Class;" } : Jvm.MethodName) ({ cls := "java/lang/Object", name := "getClass", desc := "()Ljava/lang/Class;" } : Jvm.MethodName)) ∈ lw_all := lw_g (lw_at lw_m5 215 rfl) rfl
theorem q1936 : (Jvm.Cond.instanceMethod ({ cls := "DebtDoors$Street", name := "copy", desc := "()LDebtDoors$Street;" } : Jvm.MethodName)) ∈ lw_all := lw_g (lw_at lw_m8 132 rfl) rfl
theorem q1937 : (Jvm.Cond.selects "DebtDoors$Street" ({ cls := "DebtDoors$Street", name := "copy", desc := "()LDebtDoors$Street;" } : Jvm.MethodName) ({ cls := "DebtDoors$Street", name := "copy", desc := "()LDebtDoors$Street;" } : Jvm.MethodName)) ∈ lw_all := lw_g (lw_at lw_m8 133 rfl) rfl
theorem q1938 : (Jvm.Cond.code ({ cls := "DebtDoors$Street", name := "copy", desc := "()LDebtDoors$Street;" } : Jvm.MethodName) prog_27_method_2_code (2 : Nat) (Option.some (Jvm.ClassFile.FieldType.object "DebtDoors$Street"))) ∈ lw_all := lw_g (lw_at lw_m8 134 rfl) rfl
theorem q1939 : (Jvm.Cond.classLink "DebtDoors$Street" (13 : Nat) "DebtDoors$Street") ∈ lw_all := lw_g (lw_at lw_m8 135 rfl) rfl
theorem q1940 : (Jvm.Cond.methodLink "DebtDoors$Street" (42 : Nat) ({ cls := "DebtDoors$Street", name := "<init>", desc := "()V" } : Jvm.MethodName)) ∈ lw_all := lw_g (lw_at lw_m8 136 rfl) rfl
theorem q1941 : (Jvm.Cond.methodLink "DebtDoors$Street" (43 : Nat) ({ cls := "java/util/ArrayList", name := "addAll", desc := "(Ljava/util/Collection;)Z" } : Jvm.MethodName)) ∈ lw_all := lw_g (lw_at lw_m8 137 rfl) rfl
theorem q1942 : (Jvm.Cond.methodLink "DebtDoors$Street" (47 : Nat) ({ cls := "DebtDoors$Books", name := "as", desc := "(LDebtDoors$Books;)LDebtDoors$Books;" } : Jvm.MethodName)) ∈ lw_all := lw_g (lw_at lw_m8 138 rfl) rfl
theorem q1943 : (Jvm.Cond.methodLink "DebtDoors$Street" (51 : Nat) ({ cls := "java/lang/System", name := "arraycopy", desc := "(Ljava/lang/Object;ILjava/lang/Object;II)V" } : Jvm.MethodName)) ∈ lw_all := lw_g (lw_at lw_m8 139 rfl) rfl
theorem q2741 : (Jvm.Cond.castable "DebtDoors$Street" "java/lang/Object") ∈ lw_tbl := lw_at lw_m11 217 rfl
theorem in_X1 : ∀ w ∈ wsX10, w ∈ lw_all := lw_in wsX10 [281, 283, 285, 287, 289, 291, 293, 295, 297] (by decide +kernel) (by decide +kernel)
/-! DebtDoors$Amount -/
set_option maxRecDepth 100000
def RX10 : String := "DebtDoors$Amount"
def TX10 : u_T := fun k => match k with
  | _ => ("DebtDoors$Amount", "number", "I", true)
def tyX10 : Nat → FieldType := fun k => match k with
  | _ => .int
abbrev wsX100 : List Cond := u_ws RX10 TX10 1
theorem nmX10 : ∀ a, a < 1 → ∀ b, b < 1 → a ≠ b → (TX10 a).2.1 ≠ (TX10 b).2.1 := by decide +kernel
theorem tyX10_ok : ∀ k, k < 1 → parseFieldDescriptor (TX10 k).2.2.1 = some (tyX10 k) := by decide +kernel
abbrev cX10_of : ByteArray := prog_2_method_2_code
def yX10_of : MethodName := ⟨RX10, "of", "(LDebtDoors$Asked;)J"⟩
abbrev cX10_init : ByteArray := prog_2_method_1_code
def yX10_init : MethodName := ⟨RX10, "<init>", "(I)V"⟩
theorem q150 : (Jvm.Cond.initialized "DebtDoors$Amount") ∈ lw_all := lw_g (lw_at lw_m1 26 rfl) rfl
theorem q555 : (Jvm.Cond.selects "DebtDoors$Amount" ({ cls := "DebtDoors$Sum", name := "of", desc := "(LDebtDoors$Asked;)J" } : Jvm.MethodName) ({ cls := "DebtDoors$Amount", name := "of", desc := "(LDebtDoors$Asked;)J" } : Jvm.MethodName)) ∈ lw_all := lw_g (lw_at lw_m2 191 rfl) rfl
theorem q556 : (Jvm.Cond.instanceMethod ({ cls := "DebtDoors$Amount", name := "of", desc := "(LDebtDoors$Asked;)J" } : Jvm.MethodName)) ∈ lw_all := lw_g (lw_at lw_m2 192 rfl) rfl
theorem q557 : (Jvm.Cond.code ({ cls := "DebtDoors$Amount", name := "of", desc := "(LDebtDoors$Asked;)J" } : Jvm.MethodName) prog_2_method_2_code (2 : Nat) (Option.some Jvm.ClassFile.FieldType.long)) ∈ lw_all := lw_g (lw_at lw_m2 193 rfl) rfl
theorem q940 : (Jvm.Cond.instantiable "DebtDoors$Amount" (1 : Nat)) ∈ lw_all := lw_g (lw_at lw_m4 96 rfl) rfl
theorem q948 : (Jvm.Cond.instanceMethod ({ cls := "DebtDoors$Amount", name := "<init>", desc := "(I)V" } : Jvm.MethodName)) ∈ lw_all := lw_g (lw_at lw_m4 104 rfl) rfl
theorem q949 : (Jvm.Cond.code ({ cls := "DebtDoors$Amount", name := "<init>", desc := "(I)V" } : Jvm.MethodName) prog_2_method_1_code (2 : Nat) (Option.none : Option Jvm.ClassFile.FieldType)) ∈ lw_all := lw_g (lw_at lw_m4 105 rfl) rfl
theorem q950 : (Jvm.Cond.methodLinkNest "DebtDoors$Amount" (1 : Nat) ({ cls := "DebtDoors$Sum", name := "<init>", desc := "()V" } : Jvm.MethodName) "DebtDoors") ∈ lw_tbl := lw_at lw_m4 106 rfl
theorem q954 : (Jvm.Cond.fieldLink "DebtDoors$Amount" (7 : Nat) "DebtDoors$Amount" "number" "I") ∈ lw_all := lw_g (lw_at lw_m4 110 rfl) rfl
theorem q955 : (Jvm.Cond.laysFinal "DebtDoors$Amount" "DebtDoors$Amount" "number" "I") ∈ lw_all := lw_g (lw_at lw_m4 111 rfl) rfl
theorem q956 : (Jvm.Cond.soleField "DebtDoors$Amount" "number") ∈ lw_all := lw_g (lw_at lw_m4 112 rfl) rfl
theorem q957 : (Jvm.Cond.superclass "DebtDoors$Amount" "DebtDoors$Sum") ∈ lw_all := lw_g (lw_at lw_m4 113 rfl) rfl
theorem q1278 : (Jvm.Cond.selects "DebtDoors$Amount" ({ cls := "java/lang/Object", name := "getClass", desc := "()Ljava/lang/Class;" } : Jvm.MethodName) ({ cls := "java/lang/Object", name := "getClass", desc := "()Ljava/lang/Class;" } : Jvm.MethodName)) ∈ lw_all := lw_g (lw_at lw_m5 194 rfl) rfl
theorem q2755 : (Jvm.Cond.castable "DebtDoors$Amount" "java/lang/Object") ∈ lw_tbl := lw_at lw_m11 231 rfl
theorem in_X10 : ∀ w ∈ wsX100, w ∈ lw_all := lw_in wsX100 [955] (by decide +kernel) (by decide +kernel)
/-! DebtDoors$Part -/
set_option maxRecDepth 100000
def RX11 : String := "DebtDoors$Part"
def TX11 : u_T := fun k => match k with
  | _ => ("DebtDoors$Part", "what", "I", true)
def tyX11 : Nat → FieldType := fun k => match k with
  | _ => .int
abbrev wsX110 : List Cond := u_ws RX11 TX11 1
theorem nmX11 : ∀ a, a < 1 → ∀ b, b < 1 → a ≠ b → (TX11 a).2.1 ≠ (TX11 b).2.1 := by decide +kernel
theorem tyX11_ok : ∀ k, k < 1 → parseFieldDescriptor (TX11 k).2.2.1 = some (tyX11 k) := by decide +kernel
abbrev cX11_of : ByteArray := prog_17_method_2_code
def yX11_of : MethodName := ⟨RX11, "of", "(LDebtDoors$Asked;)J"⟩
abbrev cX11_init : ByteArray := prog_17_method_1_code
def yX11_init : MethodName := ⟨RX11, "<init>", "(I)V"⟩
theorem q151 : (Jvm.Cond.initialized "DebtDoors$Part") ∈ lw_all := lw_g (lw_at lw_m1 27 rfl) rfl
theorem q310 : (Jvm.Cond.fieldLinkNest "DebtDoors$Part" (13 : Nat) "DebtDoors$Asked" "numbers" "[J" "DebtDoors") ∈ lw_tbl := lw_at lw_m1 186 rfl
theorem q570 : (Jvm.Cond.instanceMethod ({ cls := "DebtDoors$Part", name := "of", desc := "(LDebtDoors$Asked;)J" } : Jvm.MethodName)) ∈ lw_all := lw_g (lw_at lw_m2 206 rfl) rfl
theorem q571 : (Jvm.Cond.code ({ cls := "DebtDoors$Part", name := "of", desc := "(LDebtDoors$Asked;)J" } : Jvm.MethodName) prog_17_method_2_code (2 : Nat) (Option.some Jvm.ClassFile.FieldType.long)) ∈ lw_all := lw_g (lw_at lw_m2 207 rfl) rfl
theorem q584 : (Jvm.Cond.selects "DebtDoors$Part" ({ cls := "DebtDoors$Sum", name := "of", desc := "(LDebtDoors$Asked;)J" } : Jvm.MethodName) ({ cls := "DebtDoors$Part", name := "of", desc := "(LDebtDoors$Asked;)J" } : Jvm.MethodName)) ∈ lw_all := lw_g (lw_at lw_m2 220 rfl) rfl
theorem q983 : (Jvm.Cond.instantiable "DebtDoors$Part" (1 : Nat)) ∈ lw_all := lw_g (lw_at lw_m4 139 rfl) rfl
theorem q985 : (Jvm.Cond.instanceMethod ({ cls := "DebtDoors$Part", name := "<init>", desc := "(I)V" } : Jvm.MethodName)) ∈ lw_all := lw_g (lw_at lw_m4 141 rfl) rfl
theorem q986 : (Jvm.Cond.code ({ cls := "DebtDoors$Part", name := "<init>", desc := "(I)V" } : Jvm.MethodName) prog_17_method_1_code (2 : Nat) (Option.none : Option Jvm.ClassFile.FieldType)) ∈ lw_all := lw_g (lw_at lw_m4 142 rfl) rfl
theorem q987 : (Jvm.Cond.methodLinkNest "DebtDoors$Part" (1 : Nat) ({ cls := "DebtDoors$Sum", name := "<init>", desc := "()V" } : Jvm.MethodName) "DebtDoors") ∈ lw_tbl := lw_at lw_m4 143 rfl
theorem q988 : (Jvm.Cond.fieldLink "DebtDoors$Part" (7 : Nat) "DebtDoors$Part" "what" "I") ∈ lw_all := lw_g (lw_at lw_m4 144 rfl) rfl
theorem q989 : (Jvm.Cond.laysFinal "DebtDoors$Part" "DebtDoors$Part" "what" "I") ∈ lw_all := lw_g (lw_at lw_m4 145 rfl) rfl
theorem q990 : (Jvm.Cond.soleField "DebtDoors$Part" "what") ∈ lw_all := lw_g (lw_at lw_m4 146 rfl) rfl
theorem q991 : (Jvm.Cond.superclass "DebtDoors$Part" "DebtDoors$Sum") ∈ lw_all := lw_g (lw_at lw_m4 147 rfl) rfl
theorem q1292 : (Jvm.Cond.selects "DebtDoors$Part" ({ cls := "java/lang/Object", name := "getClass", desc := "()Ljava/lang/Class;" } : Jvm.MethodName) ({ cls := "java/lang/Object", name := "getClass", desc := "()Ljava/lang/Class;" } : Jvm.MethodName)) ∈ lw_all := lw_g (lw_at lw_m5 208 rfl) rfl
theorem q2756 : (Jvm.Cond.castable "DebtDoors$Part" "java/lang/Object") ∈ lw_tbl := lw_at lw_m11 232 rfl
theorem in_X11 : ∀ w ∈ wsX110, w ∈ lw_all := lw_in wsX110 [989] (by decide +kernel) (by decide +kernel)
/-! DebtDoors$Purse -/
set_option maxRecDepth 100000
def RX12 : String := "DebtDoors$Purse"
def TX12 : u_T := fun k => match k with
  | 0 => ("DebtDoors$Purse", "person", "I", true)
  | _ => ("DebtDoors$Purse", "this$0", "LDebtDoors;", true)
def tyX12 : Nat → FieldType := fun k => match k with
  | 0 => .int
  | _ => .object "DebtDoors"
abbrev wsX120 : List Cond := u_ws RX12 TX12 2
theorem nmX12 : ∀ a, a < 2 → ∀ b, b < 2 → a ≠ b → (TX12 a).2.1 ≠ (TX12 b).2.1 := by decide +kernel
theorem tyX12_ok : ∀ k, k < 2 → parseFieldDescriptor (TX12 k).2.2.1 = some (tyX12 k) := by decide +kernel
abbrev cX12_of : ByteArray := prog_20_method_2_code
def yX12_of : MethodName := ⟨RX12, "of", "(LDebtDoors$Asked;)J"⟩
abbrev cX12_init : ByteArray := prog_20_method_1_code
def yX12_init : MethodName := ⟨RX12, "<init>", "(LDebtDoors;I)V"⟩
theorem q152 : (Jvm.Cond.initialized "DebtDoors$Purse") ∈ lw_all := lw_g (lw_at lw_m1 28 rfl) rfl
theorem q224 : (Jvm.Cond.fieldLinkNest "DebtDoors$Purse" (27 : Nat) "DebtDoors$Books" "purses" "[I" "DebtDoors") ∈ lw_tbl := lw_at lw_m1 100 rfl
theorem q572 : (Jvm.Cond.instanceMethod ({ cls := "DebtDoors$Purse", name := "of", desc := "(LDebtDoors$Asked;)J" } : Jvm.MethodName)) ∈ lw_all := lw_g (lw_at lw_m2 208 rfl) rfl
theorem q573 : (Jvm.Cond.code ({ cls := "DebtDoors$Purse", name := "of", desc := "(LDebtDoors$Asked;)J" } : Jvm.MethodName) prog_20_method_2_code (2 : Nat) (Option.some Jvm.ClassFile.FieldType.long)) ∈ lw_all := lw_g (lw_at lw_m2 209 rfl) rfl
theorem q574 : (Jvm.Cond.methodLinkNest "DebtDoors$Purse" (19 : Nat) ({ cls := "DebtDoors", name := "isPerson", desc := "(I)Z" } : Jvm.MethodName) "DebtDoors") ∈ lw_tbl := lw_at lw_m2 210 rfl
theorem q575 : (Jvm.Cond.methodLinkNest "DebtDoors$Purse" (23 : Nat) ({ cls := "DebtDoors", name := "books", desc := "()LDebtDoors$Books;" } : Jvm.MethodName) "DebtDoors") ∈ lw_tbl := lw_at lw_m2 211 rfl
theorem q576 : (Jvm.Cond.constantLong "DebtDoors$Purse" (33 : Nat) (-1 : Int64)) ∈ lw_all := lw_g (lw_at lw_m2 212 rfl) rfl
theorem q585 : (Jvm.Cond.selects "DebtDoors$Purse" ({ cls := "DebtDoors$Sum", name := "of", desc := "(LDebtDoors$Asked;)J" } : Jvm.MethodName) ({ cls := "DebtDoors$Purse", name := "of", desc := "(LDebtDoors$Asked;)J" } : Jvm.MethodName)) ∈ lw_all := lw_g (lw_at lw_m2 221 rfl) rfl
theorem q966 : (Jvm.Cond.instantiable "DebtDoors$Purse" (2 : Nat)) ∈ lw_all := lw_g (lw_at lw_m4 122 rfl) rfl
theorem q972 : (Jvm.Cond.instanceMethod ({ cls := "DebtDoors$Purse", name := "<init>", desc := "(LDebtDoors;I)V" } : Jvm.MethodName)) ∈ lw_all := lw_g (lw_at lw_m4 128 rfl) rfl
theorem q973 : (Jvm.Cond.code ({ cls := "DebtDoors$Purse", name := "<init>", desc := "(LDebtDoors;I)V" } : Jvm.MethodName) prog_20_method_1_code (3 : Nat) (Option.none : Option Jvm.ClassFile.FieldType)) ∈ lw_all := lw_g (lw_at lw_m4 129 rfl) rfl
theorem q974 : (Jvm.Cond.methodLinkNest "DebtDoors$Purse" (9 : Nat) ({ cls := "DebtDoors$Sum", name := "<init>", desc := "()V" } : Jvm.MethodName) "DebtDoors") ∈ lw_tbl := lw_at lw_m4 130 rfl
theorem q975 : (Jvm.Cond.fieldLink "DebtDoors$Purse" (15 : Nat) "DebtDoors$Purse" "person" "I") ∈ lw_all := lw_g (lw_at lw_m4 131 rfl) rfl
theorem q976 : (Jvm.Cond.fieldLink "DebtDoors$Purse" (3 : Nat) "DebtDoors$Purse" "this$0" "LDebtDoors;") ∈ lw_all := lw_g (lw_at lw_m4 132 rfl) rfl
theorem q977 : (Jvm.Cond.laysFinal "DebtDoors$Purse" "DebtDoors$Purse" "person" "I") ∈ lw_all := lw_g (lw_at lw_m4 133 rfl) rfl
theorem q978 : (Jvm.Cond.soleField "DebtDoors$Purse" "person") ∈ lw_all := lw_g (lw_at lw_m4 134 rfl) rfl
theorem q979 : (Jvm.Cond.laysFinal "DebtDoors$Purse" "DebtDoors$Purse" "this$0" "LDebtDoors;") ∈ lw_all := lw_g (lw_at lw_m4 135 rfl) rfl
theorem q980 : (Jvm.Cond.soleField "DebtDoors$Purse" "this$0") ∈ lw_all := lw_g (lw_at lw_m4 136 rfl) rfl
theorem q981 : (Jvm.Cond.superclass "DebtDoors$Purse" "DebtDoors$Sum") ∈ lw_all := lw_g (lw_at lw_m4 137 rfl) rfl
theorem q1294 : (Jvm.Cond.selects "DebtDoors$Purse" ({ cls := "java/lang/Object", name := "getClass", desc := "()Ljava/lang/Class;" } : Jvm.MethodName) ({ cls := "java/lang/Object", name := "getClass", desc := "()Ljava/lang/Class;" } : Jvm.MethodName)) ∈ lw_all := lw_g (lw_at lw_m5 210 rfl) rfl
theorem q2762 : (Jvm.Cond.castable "DebtDoors$Purse" "java/lang/Object") ∈ lw_tbl := lw_at lw_m11 238 rfl
theorem in_X12 : ∀ w ∈ wsX120, w ∈ lw_all := lw_in wsX120 [977, 979] (by decide +kernel) (by decide +kernel)
/-! DebtDoors$Owed -/
set_option maxRecDepth 100000
def RX13 : String := "DebtDoors$Owed"
def TX13 : u_T := fun k => match k with
  | 0 => ("DebtDoors$Owed", "debtor", "I", true)
  | 1 => ("DebtDoors$Owed", "creditor", "I", true)
  | _ => ("DebtDoors$Owed", "this$0", "LDebtDoors;", true)
def tyX13 : Nat → FieldType := fun k => match k with
  | 0 => .int
  | 1 => .int
  | _ => .object "DebtDoors"
abbrev wsX130 : List Cond := u_ws RX13 TX13 3
theorem nmX13 : ∀ a, a < 3 → ∀ b, b < 3 → a ≠ b → (TX13 a).2.1 ≠ (TX13 b).2.1 := by decide +kernel
theorem tyX13_ok : ∀ k, k < 3 → parseFieldDescriptor (TX13 k).2.2.1 = some (tyX13 k) := by decide +kernel
abbrev cX13_of : ByteArray := prog_16_method_2_code
def yX13_of : MethodName := ⟨RX13, "of", "(LDebtDoors$Asked;)J"⟩
abbrev cX13_init : ByteArray := prog_16_method_1_code
def yX13_init : MethodName := ⟨RX13, "<init>", "(LDebtDoors;II)V"⟩
theorem q153 : (Jvm.Cond.initialized "DebtDoors$Owed") ∈ lw_all := lw_g (lw_at lw_m1 29 rfl) rfl
theorem q562 : (Jvm.Cond.instanceMethod ({ cls := "DebtDoors$Owed", name := "of", desc := "(LDebtDoors$Asked;)J" } : Jvm.MethodName)) ∈ lw_all := lw_g (lw_at lw_m2 198 rfl) rfl
theorem q563 : (Jvm.Cond.code ({ cls := "DebtDoors$Owed", name := "of", desc := "(LDebtDoors$Asked;)J" } : Jvm.MethodName) prog_16_method_2_code (2 : Nat) (Option.some Jvm.ClassFile.FieldType.long)) ∈ lw_all := lw_g (lw_at lw_m2 199 rfl) rfl
theorem q564 : (Jvm.Cond.methodLinkNest "DebtDoors$Owed" (20 : Nat) ({ cls := "DebtDoors", name := "areTwo", desc := "(II)Z" } : Jvm.MethodName) "DebtDoors") ∈ lw_tbl := lw_at lw_m2 200 rfl
theorem q568 : (Jvm.Cond.methodLinkNest "DebtDoors$Owed" (26 : Nat) ({ cls := "DebtDoors", name := "books", desc := "()LDebtDoors$Books;" } : Jvm.MethodName) "DebtDoors") ∈ lw_tbl := lw_at lw_m2 204 rfl
theorem q569 : (Jvm.Cond.methodLink "DebtDoors$Owed" (30 : Nat) ({ cls := "DebtDoors$Books", name := "owes", desc := "(II)I" } : Jvm.MethodName)) ∈ lw_all := lw_g (lw_at lw_m2 205 rfl) rfl
theorem q583 : (Jvm.Cond.selects "DebtDoors$Owed" ({ cls := "DebtDoors$Sum", name := "of", desc := "(LDebtDoors$Asked;)J" } : Jvm.MethodName) ({ cls := "DebtDoors$Owed", name := "of", desc := "(LDebtDoors$Asked;)J" } : Jvm.MethodName)) ∈ lw_all := lw_g (lw_at lw_m2 219 rfl) rfl
theorem q993 : (Jvm.Cond.instantiable "DebtDoors$Owed" (3 : Nat)) ∈ lw_all := lw_g (lw_at lw_m4 149 rfl) rfl
theorem q995 : (Jvm.Cond.instanceMethod ({ cls := "DebtDoors$Owed", name := "<init>", desc := "(LDebtDoors;II)V" } : Jvm.MethodName)) ∈ lw_all := lw_g (lw_at lw_m4 151 rfl) rfl
theorem q996 : (Jvm.Cond.code ({ cls := "DebtDoors$Owed", name := "<init>", desc := "(LDebtDoors;II)V" } : Jvm.MethodName) prog_16_method_1_code (4 : Nat) (Option.none : Option Jvm.ClassFile.FieldType)) ∈ lw_all := lw_g (lw_at lw_m4 152 rfl) rfl
theorem q997 : (Jvm.Cond.methodLinkNest "DebtDoors$Owed" (7 : Nat) ({ cls := "DebtDoors$Sum", name := "<init>", desc := "()V" } : Jvm.MethodName) "DebtDoors") ∈ lw_tbl := lw_at lw_m4 153 rfl
theorem q998 : (Jvm.Cond.fieldLink "DebtDoors$Owed" (13 : Nat) "DebtDoors$Owed" "debtor" "I") ∈ lw_all := lw_g (lw_at lw_m4 154 rfl) rfl
theorem q999 : (Jvm.Cond.fieldLink "DebtDoors$Owed" (17 : Nat) "DebtDoors$Owed" "creditor" "I") ∈ lw_all := lw_g (lw_at lw_m4 155 rfl) rfl
theorem q1000 : (Jvm.Cond.fieldLink "DebtDoors$Owed" (1 : Nat) "DebtDoors$Owed" "this$0" "LDebtDoors;") ∈ lw_all := lw_g (lw_at lw_m4 156 rfl) rfl
theorem q1001 : (Jvm.Cond.laysFinal "DebtDoors$Owed" "DebtDoors$Owed" "debtor" "I") ∈ lw_all := lw_g (lw_at lw_m4 157 rfl) rfl
theorem q1002 : (Jvm.Cond.soleField "DebtDoors$Owed" "debtor") ∈ lw_all := lw_g (lw_at lw_m4 158 rfl) rfl
theorem q1003 : (Jvm.Cond.laysFinal "DebtDoors$Owed" "DebtDoors$Owed" "creditor" "I") ∈ lw_all := lw_g (lw_at lw_m4 159 rfl) rfl
theorem q1004 : (Jvm.Cond.soleField "DebtDoors$Owed" "creditor") ∈ lw_all := lw_g (lw_at lw_m4 160 rfl) rfl
theorem q1005 : (Jvm.Cond.laysFinal "DebtDoors$Owed" "DebtDoors$Owed" "this$0" "LDebtDoors;") ∈ lw_all := lw_g (lw_at lw_m4 161 rfl) rfl
theorem q1006 : (Jvm.Cond.soleField "DebtDoors$Owed" "this$0") ∈ lw_all := lw_g (lw_at lw_m4 162 rfl) rfl
theorem q1007 : (Jvm.Cond.superclass "DebtDoors$Owed" "DebtDoors$Sum") ∈ lw_all := lw_g (lw_at lw_m4 163 rfl) rfl
theorem q1291 : (Jvm.Cond.selects "DebtDoors$Owed" ({ cls := "java/lang/Object", name := "getClass", desc := "()Ljava/lang/Class;" } : Jvm.MethodName) ({ cls := "java/lang/Object", name := "getClass", desc := "()Ljava/lang/Class;" } : Jvm.MethodName)) ∈ lw_all := lw_g (lw_at lw_m5 207 rfl) rfl
theorem q2763 : (Jvm.Cond.castable "DebtDoors$Owed" "java/lang/Object") ∈ lw_tbl := lw_at lw_m11 239 rfl
theorem in_X13 : ∀ w ∈ wsX130, w ∈ lw_all := lw_in wsX130 [1001, 1003, 1005] (by decide +kernel) (by decide +kernel)
/-! DebtDoors$Joined -/
set_option maxRecDepth 100000
def RX14 : String := "DebtDoors$Joined"
def TX14 : u_T := fun k => match k with
  | 0 => ("DebtDoors$Joined", "one", "LDebtDoors$Sum;", true)
  | 1 => ("DebtDoors$Joined", "other", "LDebtDoors$Sum;", true)
  | _ => ("DebtDoors$Joined", "sign", "I", true)
def tyX14 : Nat → FieldType := fun k => match k with
  | 0 => .object "DebtDoors$Sum"
  | 1 => .object "DebtDoors$Sum"
  | _ => .int
abbrev wsX140 : List Cond := u_ws RX14 TX14 3
theorem nmX14 : ∀ a, a < 3 → ∀ b, b < 3 → a ≠ b → (TX14 a).2.1 ≠ (TX14 b).2.1 := by decide +kernel
theorem tyX14_ok : ∀ k, k < 3 → parseFieldDescriptor (TX14 k).2.2.1 = some (tyX14 k) := by decide +kernel
abbrev cX14_of : ByteArray := prog_9_method_2_code
def yX14_of : MethodName := ⟨RX14, "of", "(LDebtDoors$Asked;)J"⟩
abbrev cX14_init : ByteArray := prog_9_method_1_code
def yX14_init : MethodName := ⟨RX14, "<init>", "(LDebtDoors$Sum;ILDebtDoors$Sum;)V"⟩
theorem q154 : (Jvm.Cond.initialized "DebtDoors$Joined") ∈ lw_all := lw_g (lw_at lw_m1 30 rfl) rfl
theorem q315 : (Jvm.Cond.fieldLinkNest "DebtDoors$Joined" (24 : Nat) "DebtDoors$Asked" "isBroken" "Z" "DebtDoors") ∈ lw_tbl := lw_at lw_m1 191 rfl
theorem q558 : (Jvm.Cond.selects "DebtDoors$Joined" ({ cls := "DebtDoors$Sum", name := "of", desc := "(LDebtDoors$Asked;)J" } : Jvm.MethodName) ({ cls := "DebtDoors$Joined", name := "of", desc := "(LDebtDoors$Asked;)J" } : Jvm.MethodName)) ∈ lw_all := lw_g (lw_at lw_m2 194 rfl) rfl
theorem q559 : (Jvm.Cond.instanceMethod ({ cls := "DebtDoors$Joined", name := "of", desc := "(LDebtDoors$Asked;)J" } : Jvm.MethodName)) ∈ lw_all := lw_g (lw_at lw_m2 195 rfl) rfl
theorem q560 : (Jvm.Cond.code ({ cls := "DebtDoors$Joined", name := "of", desc := "(LDebtDoors$Asked;)J" } : Jvm.MethodName) prog_9_method_2_code (6 : Nat) (Option.some Jvm.ClassFile.FieldType.long)) ∈ lw_all := lw_g (lw_at lw_m2 196 rfl) rfl
theorem q561 : (Jvm.Cond.methodLink "DebtDoors$Joined" (20 : Nat) ({ cls := "DebtDoors$Sum", name := "of", desc := "(LDebtDoors$Asked;)J" } : Jvm.MethodName)) ∈ lw_all := lw_g (lw_at lw_m2 197 rfl) rfl
theorem q577 : (Jvm.Cond.methodLink "DebtDoors$Joined" (30 : Nat) ({ cls := "DebtDoors$Asked", name := "within", desc := "(J)J" } : Jvm.MethodName)) ∈ lw_all := lw_g (lw_at lw_m2 213 rfl) rfl
theorem q1015 : (Jvm.Cond.instantiable "DebtDoors$Joined" (3 : Nat)) ∈ lw_all := lw_g (lw_at lw_m4 171 rfl) rfl
theorem q1017 : (Jvm.Cond.instanceMethod ({ cls := "DebtDoors$Joined", name := "<init>", desc := "(LDebtDoors$Sum;ILDebtDoors$Sum;)V" } : Jvm.MethodName)) ∈ lw_all := lw_g (lw_at lw_m4 173 rfl) rfl
theorem q1018 : (Jvm.Cond.code ({ cls := "DebtDoors$Joined", name := "<init>", desc := "(LDebtDoors$Sum;ILDebtDoors$Sum;)V" } : Jvm.MethodName) prog_9_method_1_code (4 : Nat) (Option.none : Option Jvm.ClassFile.FieldType)) ∈ lw_all := lw_g (lw_at lw_m4 174 rfl) rfl
theorem q1019 : (Jvm.Cond.methodLinkNest "DebtDoors$Joined" (1 : Nat) ({ cls := "DebtDoors$Sum", name := "<init>", desc := "()V" } : Jvm.MethodName) "DebtDoors") ∈ lw_tbl := lw_at lw_m4 175 rfl
theorem q1020 : (Jvm.Cond.fieldLink "DebtDoors$Joined" (7 : Nat) "DebtDoors$Joined" "one" "LDebtDoors$Sum;") ∈ lw_all := lw_g (lw_at lw_m4 176 rfl) rfl
theorem q1021 : (Jvm.Cond.fieldLink "DebtDoors$Joined" (17 : Nat) "DebtDoors$Joined" "other" "LDebtDoors$Sum;") ∈ lw_all := lw_g (lw_at lw_m4 177 rfl) rfl
theorem q1022 : (Jvm.Cond.fieldLink "DebtDoors$Joined" (13 : Nat) "DebtDoors$Joined" "sign" "I") ∈ lw_all := lw_g (lw_at lw_m4 178 rfl) rfl
theorem q1023 : (Jvm.Cond.laysFinal "DebtDoors$Joined" "DebtDoors$Joined" "one" "LDebtDoors$Sum;") ∈ lw_all := lw_g (lw_at lw_m4 179 rfl) rfl
theorem q1024 : (Jvm.Cond.soleField "DebtDoors$Joined" "one") ∈ lw_all := lw_g (lw_at lw_m4 180 rfl) rfl
theorem q1025 : (Jvm.Cond.laysFinal "DebtDoors$Joined" "DebtDoors$Joined" "other" "LDebtDoors$Sum;") ∈ lw_all := lw_g (lw_at lw_m4 181 rfl) rfl
theorem q1026 : (Jvm.Cond.soleField "DebtDoors$Joined" "other") ∈ lw_all := lw_g (lw_at lw_m4 182 rfl) rfl
theorem q1027 : (Jvm.Cond.laysFinal "DebtDoors$Joined" "DebtDoors$Joined" "sign" "I") ∈ lw_all := lw_g (lw_at lw_m4 183 rfl) rfl
theorem q1028 : (Jvm.Cond.soleField "DebtDoors$Joined" "sign") ∈ lw_all := lw_g (lw_at lw_m4 184 rfl) rfl
theorem q1029 : (Jvm.Cond.superclass "DebtDoors$Joined" "DebtDoors$Sum") ∈ lw_all := lw_g (lw_at lw_m4 185 rfl) rfl
theorem q1285 : (Jvm.Cond.selects "DebtDoors$Joined" ({ cls := "java/lang/Object", name := "getClass", desc := "()Ljava/lang/Class;" } : Jvm.MethodName) ({ cls := "java/lang/Object", name := "getClass", desc := "()Ljava/lang/Class;" } : Jvm.MethodName)) ∈ lw_all := lw_g (lw_at lw_m5 201 rfl) rfl
theorem q2757 : (Jvm.Cond.castable "DebtDoors$Joined" "java/lang/Object") ∈ lw_tbl := lw_at lw_m11 233 rfl
theorem in_X14 : ∀ w ∈ wsX140, w ∈ lw_all := lw_in wsX140 [1023, 1025, 1027] (by decide +kernel) (by decide +kernel)
/-! DebtDoors$Clause -/
set_option maxRecDepth 100000
def RX15 : String := "DebtDoors$Clause"
def TX15 : u_T := fun k => match k with
  | 0 => ("DebtDoors$Clause", "head", "I", true)
  | 1 => ("DebtDoors$Clause", "sum", "LDebtDoors$Sum;", true)
  | 2 => ("DebtDoors$Clause", "test", "LDebtDoors$Test;", true)
  | _ => ("DebtDoors$Clause", "told", "J", false)
def tyX15 : Nat → FieldType := fun k => match k with
  | 0 => .int
  | 1 => .object "DebtDoors$Sum"
  | 2 => .object "DebtDoors$Test"
  | _ => .long
abbrev wsX150 : List Cond := u_ws RX15 TX15 4
theorem nmX15 : ∀ a, a < 4 → ∀ b, b < 4 → a ≠ b → (TX15 a).2.1 ≠ (TX15 b).2.1 := by decide +kernel
theorem tyX15_ok : ∀ k, k < 4 → parseFieldDescriptor (TX15 k).2.2.1 = some (tyX15 k) := by decide +kernel
abbrev cX15_holds : ByteArray := prog_5_method_2_code
def yX15_holds : MethodName := ⟨RX15, "holds", "(LDebtDoors$Asked;)Z"⟩
abbrev cX15_init : ByteArray := prog_5_method_1_code
def yX15_init : MethodName := ⟨RX15, "<init>", "(ILDebtDoors$Sum;LDebtDoors$Test;)V"⟩
theorem q155 : (Jvm.Cond.initialized "DebtDoors$Clause") ∈ lw_all := lw_g (lw_at lw_m1 31 rfl) rfl
theorem q313 : (Jvm.Cond.fieldLinkNest "DebtDoors$Clause" (21 : Nat) "DebtDoors$Asked" "isBroken" "Z" "DebtDoors") ∈ lw_tbl := lw_at lw_m1 189 rfl
theorem q543 : (Jvm.Cond.instanceMethod ({ cls := "DebtDoors$Clause", name := "holds", desc := "(LDebtDoors$Asked;)Z" } : Jvm.MethodName)) ∈ lw_all := lw_g (lw_at lw_m2 179 rfl) rfl
theorem q544 : (Jvm.Cond.selects "DebtDoors$Clause" ({ cls := "DebtDoors$Clause", name := "holds", desc := "(LDebtDoors$Asked;)Z" } : Jvm.MethodName) ({ cls := "DebtDoors$Clause", name := "holds", desc := "(LDebtDoors$Asked;)Z" } : Jvm.MethodName)) ∈ lw_all := lw_g (lw_at lw_m2 180 rfl) rfl
theorem q545 : (Jvm.Cond.code ({ cls := "DebtDoors$Clause", name := "holds", desc := "(LDebtDoors$Asked;)Z" } : Jvm.MethodName) prog_5_method_2_code (2 : Nat) (Option.some Jvm.ClassFile.FieldType.boolean)) ∈ lw_all := lw_g (lw_at lw_m2 181 rfl) rfl
theorem q546 : (Jvm.Cond.methodLink "DebtDoors$Clause" (27 : Nat) ({ cls := "DebtDoors$Test", name := "of", desc := "(LDebtDoors$Asked;)Z" } : Jvm.MethodName)) ∈ lw_all := lw_g (lw_at lw_m2 182 rfl) rfl
theorem q594 : (Jvm.Cond.methodLink "DebtDoors$Clause" (33 : Nat) ({ cls := "DebtDoors$Sum", name := "of", desc := "(LDebtDoors$Asked;)J" } : Jvm.MethodName)) ∈ lw_all := lw_g (lw_at lw_m2 230 rfl) rfl
theorem q1032 : (Jvm.Cond.instantiable "DebtDoors$Clause" (4 : Nat)) ∈ lw_all := lw_g (lw_at lw_m4 188 rfl) rfl
theorem q1113 : (Jvm.Cond.instanceMethod ({ cls := "DebtDoors$Clause", name := "<init>", desc := "(ILDebtDoors$Sum;LDebtDoors$Test;)V" } : Jvm.MethodName)) ∈ lw_all := lw_g (lw_at lw_m5 29 rfl) rfl
theorem q1114 : (Jvm.Cond.code ({ cls := "DebtDoors$Clause", name := "<init>", desc := "(ILDebtDoors$Sum;LDebtDoors$Test;)V" } : Jvm.MethodName) prog_5_method_1_code (4 : Nat) (Option.none : Option Jvm.ClassFile.FieldType)) ∈ lw_all := lw_g (lw_at lw_m5 30 rfl) rfl
theorem q1115 : (Jvm.Cond.methodLink "DebtDoors$Clause" (1 : Nat) ({ cls := "java/lang/Object", name := "<init>", desc := "()V" } : Jvm.MethodName)) ∈ lw_all := lw_g (lw_at lw_m5 31 rfl) rfl
theorem q1116 : (Jvm.Cond.fieldLink "DebtDoors$Clause" (7 : Nat) "DebtDoors$Clause" "head" "I") ∈ lw_all := lw_g (lw_at lw_m5 32 rfl) rfl
theorem q1118 : (Jvm.Cond.fieldLink "DebtDoors$Clause" (13 : Nat) "DebtDoors$Clause" "sum" "LDebtDoors$Sum;") ∈ lw_all := lw_g (lw_at lw_m5 34 rfl) rfl
theorem q1119 : (Jvm.Cond.fieldLink "DebtDoors$Clause" (17 : Nat) "DebtDoors$Clause" "test" "LDebtDoors$Test;") ∈ lw_all := lw_g (lw_at lw_m5 35 rfl) rfl
theorem q1120 : (Jvm.Cond.fieldLink "DebtDoors$Clause" (38 : Nat) "DebtDoors$Clause" "told" "J") ∈ lw_all := lw_g (lw_at lw_m5 36 rfl) rfl
theorem q1122 : (Jvm.Cond.laysFinal "DebtDoors$Clause" "DebtDoors$Clause" "head" "I") ∈ lw_all := lw_g (lw_at lw_m5 38 rfl) rfl
theorem q1123 : (Jvm.Cond.soleField "DebtDoors$Clause" "head") ∈ lw_all := lw_g (lw_at lw_m5 39 rfl) rfl
theorem q1124 : (Jvm.Cond.laysFinal "DebtDoors$Clause" "DebtDoors$Clause" "sum" "LDebtDoors$Sum;") ∈ lw_all := lw_g (lw_at lw_m5 40 rfl) rfl
theorem q1125 : (Jvm.Cond.soleField "DebtDoors$Clause" "sum") ∈ lw_all := lw_g (lw_at lw_m5 41 rfl) rfl
theorem q1126 : (Jvm.Cond.laysFinal "DebtDoors$Clause" "DebtDoors$Clause" "test" "LDebtDoors$Test;") ∈ lw_all := lw_g (lw_at lw_m5 42 rfl) rfl
theorem q1127 : (Jvm.Cond.soleField "DebtDoors$Clause" "test") ∈ lw_all := lw_g (lw_at lw_m5 43 rfl) rfl
theorem q1128 : (Jvm.Cond.lays "DebtDoors$Clause" "DebtDoors$Clause" "told" "J") ∈ lw_all := lw_g (lw_at lw_m5 44 rfl) rfl
theorem q1129 : (Jvm.Cond.soleField "DebtDoors$Clause" "told") ∈ lw_all := lw_g (lw_at lw_m5 45 rfl) rfl
theorem q1130 : (Jvm.Cond.superclass "DebtDoors$Clause" "java/lang/Object") ∈ lw_all := lw_g (lw_at lw_m5 46 rfl) rfl
theorem q1281 : (Jvm.Cond.selects "DebtDoors$Clause" ({ cls := "java/lang/Object", name := "getClass", desc := "()Ljava/lang/Class;" } : Jvm.MethodName) ({ cls := "java/lang/Object", name := "getClass", desc := "()Ljava/lang/Class;" } : Jvm.MethodName)) ∈ lw_all := lw_g (lw_at lw_m5 197 rfl) rfl
theorem q2742 : (Jvm.Cond.castable "DebtDoors$Clause" "java/lang/Object") ∈ lw_tbl := lw_at lw_m11 218 rfl
theorem in_X15 : ∀ w ∈ wsX150, w ∈ lw_all := lw_in wsX150 [1122, 1124, 1126, 1128] (by decide +kernel) (by decide +kernel)
/-! DebtDoors$Test -/
set_option maxRecDepth 100000
def RX16 : String := "DebtDoors$Test"
abbrev cX16_init : ByteArray := prog_29_method_1_code
def yX16_init : MethodName := ⟨RX16, "<init>", "()V"⟩
theorem q156 : (Jvm.Cond.initialized "DebtDoors$Test") ∈ lw_all := lw_g (lw_at lw_m1 32 rfl) rfl
theorem q547 : (Jvm.Cond.declares ({ cls := "DebtDoors$Test", name := "of", desc := "(LDebtDoors$Asked;)Z" } : Jvm.MethodName)) ∈ lw_tbl := lw_at lw_m2 183 rfl
theorem q548 : (Jvm.Cond.sameMethod "DebtDoors$Test" "DebtDoors$Test" "of" "(LDebtDoors$Asked;)Z") ∈ lw_all := lw_g (lw_at lw_m2 184 rfl) rfl
theorem q1065 : (Jvm.Cond.instanceMethod ({ cls := "DebtDoors$Test", name := "<init>", desc := "()V" } : Jvm.MethodName)) ∈ lw_all := lw_g (lw_at lw_m4 221 rfl) rfl
theorem q1066 : (Jvm.Cond.code ({ cls := "DebtDoors$Test", name := "<init>", desc := "()V" } : Jvm.MethodName) prog_29_method_1_code (1 : Nat) (Option.none : Option Jvm.ClassFile.FieldType)) ∈ lw_all := lw_g (lw_at lw_m4 222 rfl) rfl
theorem q1067 : (Jvm.Cond.methodLink "DebtDoors$Test" (1 : Nat) ({ cls := "java/lang/Object", name := "<init>", desc := "()V" } : Jvm.MethodName)) ∈ lw_all := lw_g (lw_at lw_m4 223 rfl) rfl
theorem q2745 : (Jvm.Cond.castable "DebtDoors$Test" "java/lang/Object") ∈ lw_tbl := lw_at lw_m11 221 rfl
/-! DebtDoors$Compared -/
set_option maxRecDepth 100000
def RX17 : String := "DebtDoors$Compared"
def TX17 : u_T := fun k => match k with
  | 0 => ("DebtDoors$Compared", "one", "LDebtDoors$Sum;", true)
  | 1 => ("DebtDoors$Compared", "other", "LDebtDoors$Sum;", true)
  | _ => ("DebtDoors$Compared", "sign", "I", true)
def tyX17 : Nat → FieldType := fun k => match k with
  | 0 => .object "DebtDoors$Sum"
  | 1 => .object "DebtDoors$Sum"
  | _ => .int
abbrev wsX170 : List Cond := u_ws RX17 TX17 3
theorem nmX17 : ∀ a, a < 3 → ∀ b, b < 3 → a ≠ b → (TX17 a).2.1 ≠ (TX17 b).2.1 := by decide +kernel
theorem tyX17_ok : ∀ k, k < 3 → parseFieldDescriptor (TX17 k).2.2.1 = some (tyX17 k) := by decide +kernel
abbrev cX17_of : ByteArray := prog_6_method_2_code
def yX17_of : MethodName := ⟨RX17, "of", "(LDebtDoors$Asked;)Z"⟩
abbrev cX17_init : ByteArray := prog_6_method_1_code
def yX17_init : MethodName := ⟨RX17, "<init>", "(LDebtDoors$Sum;ILDebtDoors$Sum;)V"⟩
theorem q157 : (Jvm.Cond.initialized "DebtDoors$Compared") ∈ lw_all := lw_g (lw_at lw_m1 33 rfl) rfl
theorem q316 : (Jvm.Cond.fieldLinkNest "DebtDoors$Compared" (26 : Nat) "DebtDoors$Asked" "isBroken" "Z" "DebtDoors") ∈ lw_tbl := lw_at lw_m1 192 rfl
theorem q549 : (Jvm.Cond.selects "DebtDoors$Compared" ({ cls := "DebtDoors$Test", name := "of", desc := "(LDebtDoors$Asked;)Z" } : Jvm.MethodName) ({ cls := "DebtDoors$Compared", name := "of", desc := "(LDebtDoors$Asked;)Z" } : Jvm.MethodName)) ∈ lw_all := lw_g (lw_at lw_m2 185 rfl) rfl
theorem q550 : (Jvm.Cond.instanceMethod ({ cls := "DebtDoors$Compared", name := "of", desc := "(LDebtDoors$Asked;)Z" } : Jvm.MethodName)) ∈ lw_all := lw_g (lw_at lw_m2 186 rfl) rfl
theorem q551 : (Jvm.Cond.code ({ cls := "DebtDoors$Compared", name := "of", desc := "(LDebtDoors$Asked;)Z" } : Jvm.MethodName) prog_6_method_2_code (6 : Nat) (Option.some Jvm.ClassFile.FieldType.boolean)) ∈ lw_all := lw_g (lw_at lw_m2 187 rfl) rfl
theorem q552 : (Jvm.Cond.methodLink "DebtDoors$Compared" (20 : Nat) ({ cls := "DebtDoors$Sum", name := "of", desc := "(LDebtDoors$Asked;)J" } : Jvm.MethodName)) ∈ lw_all := lw_g (lw_at lw_m2 188 rfl) rfl
theorem q1060 : (Jvm.Cond.instantiable "DebtDoors$Compared" (3 : Nat)) ∈ lw_all := lw_g (lw_at lw_m4 216 rfl) rfl
theorem q1062 : (Jvm.Cond.instanceMethod ({ cls := "DebtDoors$Compared", name := "<init>", desc := "(LDebtDoors$Sum;ILDebtDoors$Sum;)V" } : Jvm.MethodName)) ∈ lw_all := lw_g (lw_at lw_m4 218 rfl) rfl
theorem q1063 : (Jvm.Cond.code ({ cls := "DebtDoors$Compared", name := "<init>", desc := "(LDebtDoors$Sum;ILDebtDoors$Sum;)V" } : Jvm.MethodName) prog_6_method_1_code (4 : Nat) (Option.none : Option Jvm.ClassFile.FieldType)) ∈ lw_all := lw_g (lw_at lw_m4 219 rfl) rfl
theorem q1064 : (Jvm.Cond.methodLinkNest "DebtDoors$Compared" (1 : Nat) ({ cls := "DebtDoors$Test", name := "<init>", desc := "()V" } : Jvm.MethodName) "DebtDoors") ∈ lw_tbl := lw_at lw_m4 220 rfl
theorem q1068 : (Jvm.Cond.fieldLink "DebtDoors$Compared" (7 : Nat) "DebtDoors$Compared" "one" "LDebtDoors$Sum;") ∈ lw_all := lw_g (lw_at lw_m4 224 rfl) rfl
theorem q1069 : (Jvm.Cond.fieldLink "DebtDoors$Compared" (17 : Nat) "DebtDoors$Compared" "other" "LDebtDoors$Sum;") ∈ lw_all := lw_g (lw_at lw_m4 225 rfl) rfl
theorem q1070 : (Jvm.Cond.fieldLink "DebtDoors$Compared" (13 : Nat) "DebtDoors$Compared" "sign" "I") ∈ lw_all := lw_g (lw_at lw_m4 226 rfl) rfl
theorem q1071 : (Jvm.Cond.laysFinal "DebtDoors$Compared" "DebtDoors$Compared" "one" "LDebtDoors$Sum;") ∈ lw_all := lw_g (lw_at lw_m4 227 rfl) rfl
theorem q1072 : (Jvm.Cond.soleField "DebtDoors$Compared" "one") ∈ lw_all := lw_g (lw_at lw_m4 228 rfl) rfl
theorem q1073 : (Jvm.Cond.laysFinal "DebtDoors$Compared" "DebtDoors$Compared" "other" "LDebtDoors$Sum;") ∈ lw_all := lw_g (lw_at lw_m4 229 rfl) rfl
theorem q1074 : (Jvm.Cond.soleField "DebtDoors$Compared" "other") ∈ lw_all := lw_g (lw_at lw_m4 230 rfl) rfl
theorem q1075 : (Jvm.Cond.laysFinal "DebtDoors$Compared" "DebtDoors$Compared" "sign" "I") ∈ lw_all := lw_g (lw_at lw_m4 231 rfl) rfl
theorem q1076 : (Jvm.Cond.soleField "DebtDoors$Compared" "sign") ∈ lw_all := lw_g (lw_at lw_m4 232 rfl) rfl
theorem q1077 : (Jvm.Cond.superclass "DebtDoors$Compared" "DebtDoors$Test") ∈ lw_all := lw_g (lw_at lw_m4 233 rfl) rfl
theorem q1282 : (Jvm.Cond.selects "DebtDoors$Compared" ({ cls := "java/lang/Object", name := "getClass", desc := "()Ljava/lang/Class;" } : Jvm.MethodName) ({ cls := "java/lang/Object", name := "getClass", desc := "()Ljava/lang/Class;" } : Jvm.MethodName)) ∈ lw_all := lw_g (lw_at lw_m5 198 rfl) rfl
theorem q2758 : (Jvm.Cond.castable "DebtDoors$Compared" "java/lang/Object") ∈ lw_tbl := lw_at lw_m11 234 rfl
theorem q2775 : (Jvm.Cond.castable "DebtDoors$Compared" "DebtDoors$Test") ∈ lw_tbl := lw_at lw_m12 11 rfl
theorem in_X17 : ∀ w ∈ wsX170, w ∈ lw_all := lw_in wsX170 [1071, 1073, 1075] (by decide +kernel) (by decide +kernel)
/-! DebtDoors$Not -/
set_option maxRecDepth 100000
def RX18 : String := "DebtDoors$Not"
def TX18 : u_T := fun k => match k with
  | _ => ("DebtDoors$Not", "test", "LDebtDoors$Test;", true)
def tyX18 : Nat → FieldType := fun k => match k with
  | _ => .object "DebtDoors$Test"
abbrev wsX180 : List Cond := u_ws RX18 TX18 1
theorem nmX18 : ∀ a, a < 1 → ∀ b, b < 1 → a ≠ b → (TX18 a).2.1 ≠ (TX18 b).2.1 := by decide +kernel
theorem tyX18_ok : ∀ k, k < 1 → parseFieldDescriptor (TX18 k).2.2.1 = some (tyX18 k) := by decide +kernel
abbrev cX18_of : ByteArray := prog_13_method_2_code
def yX18_of : MethodName := ⟨RX18, "of", "(LDebtDoors$Asked;)Z"⟩
abbrev cX18_init : ByteArray := prog_13_method_1_code
def yX18_init : MethodName := ⟨RX18, "<init>", "(LDebtDoors$Test;)V"⟩
theorem q158 : (Jvm.Cond.initialized "DebtDoors$Not") ∈ lw_all := lw_g (lw_at lw_m1 34 rfl) rfl
theorem q317 : (Jvm.Cond.fieldLinkNest "DebtDoors$Not" (17 : Nat) "DebtDoors$Asked" "isBroken" "Z" "DebtDoors") ∈ lw_tbl := lw_at lw_m1 193 rfl
theorem q586 : (Jvm.Cond.selects "DebtDoors$Not" ({ cls := "DebtDoors$Test", name := "of", desc := "(LDebtDoors$Asked;)Z" } : Jvm.MethodName) ({ cls := "DebtDoors$Not", name := "of", desc := "(LDebtDoors$Asked;)Z" } : Jvm.MethodName)) ∈ lw_all := lw_g (lw_at lw_m2 222 rfl) rfl
theorem q587 : (Jvm.Cond.instanceMethod ({ cls := "DebtDoors$Not", name := "of", desc := "(LDebtDoors$Asked;)Z" } : Jvm.MethodName)) ∈ lw_all := lw_g (lw_at lw_m2 223 rfl) rfl
theorem q588 : (Jvm.Cond.code ({ cls := "DebtDoors$Not", name := "of", desc := "(LDebtDoors$Asked;)Z" } : Jvm.MethodName) prog_13_method_2_code (2 : Nat) (Option.some Jvm.ClassFile.FieldType.boolean)) ∈ lw_all := lw_g (lw_at lw_m2 224 rfl) rfl
theorem q589 : (Jvm.Cond.methodLink "DebtDoors$Not" (13 : Nat) ({ cls := "DebtDoors$Test", name := "of", desc := "(LDebtDoors$Asked;)Z" } : Jvm.MethodName)) ∈ lw_all := lw_g (lw_at lw_m2 225 rfl) rfl
theorem q1079 : (Jvm.Cond.instantiable "DebtDoors$Not" (1 : Nat)) ∈ lw_all := lw_g (lw_at lw_m4 235 rfl) rfl
theorem q1081 : (Jvm.Cond.instanceMethod ({ cls := "DebtDoors$Not", name := "<init>", desc := "(LDebtDoors$Test;)V" } : Jvm.MethodName)) ∈ lw_all := lw_g (lw_at lw_m4 237 rfl) rfl
theorem q1082 : (Jvm.Cond.code ({ cls := "DebtDoors$Not", name := "<init>", desc := "(LDebtDoors$Test;)V" } : Jvm.MethodName) prog_13_method_1_code (2 : Nat) (Option.none : Option Jvm.ClassFile.FieldType)) ∈ lw_all := lw_g (lw_at lw_m4 238 rfl) rfl
theorem q1083 : (Jvm.Cond.methodLinkNest "DebtDoors$Not" (1 : Nat) ({ cls := "DebtDoors$Test", name := "<init>", desc := "()V" } : Jvm.MethodName) "DebtDoors") ∈ lw_tbl := lw_at lw_m4 239 rfl
theorem q1084 : (Jvm.Cond.fieldLink "DebtDoors$Not" (7 : Nat) "DebtDoors$Not" "test" "LDebtDoors$Test;") ∈ lw_all := lw_g (lw_at lw_m5 0 rfl) rfl
theorem q1085 : (Jvm.Cond.laysFinal "DebtDoors$Not" "DebtDoors$Not" "test" "LDebtDoors$Test;") ∈ lw_all := lw_g (lw_at lw_m5 1 rfl) rfl
theorem q1086 : (Jvm.Cond.soleField "DebtDoors$Not" "test") ∈ lw_all := lw_g (lw_at lw_m5 2 rfl) rfl
theorem q1087 : (Jvm.Cond.superclass "DebtDoors$Not" "DebtDoors$Test") ∈ lw_all := lw_g (lw_at lw_m5 3 rfl) rfl
theorem q1289 : (Jvm.Cond.selects "DebtDoors$Not" ({ cls := "java/lang/Object", name := "getClass", desc := "()Ljava/lang/Class;" } : Jvm.MethodName) ({ cls := "java/lang/Object", name := "getClass", desc := "()Ljava/lang/Class;" } : Jvm.MethodName)) ∈ lw_all := lw_g (lw_at lw_m5 205 rfl) rfl
theorem q2759 : (Jvm.Cond.castable "DebtDoors$Not" "java/lang/Object") ∈ lw_tbl := lw_at lw_m11 235 rfl
theorem q2776 : (Jvm.Cond.castable "DebtDoors$Not" "DebtDoors$Test") ∈ lw_tbl := lw_at lw_m12 12 rfl
theorem in_X18 : ∀ w ∈ wsX180, w ∈ lw_all := lw_in wsX180 [1085] (by decide +kernel) (by decide +kernel)
/-! DebtDoors$Row -/
set_option maxRecDepth 100000
def RX19 : String := "DebtDoors$Row"
def TX19 : u_T := fun k => match k with
  | 0 => ("DebtDoors$Row", "all", "Z", true)
  | _ => ("DebtDoors$Row", "tests", "[LDebtDoors$Test;", true)
def tyX19 : Nat → FieldType := fun k => match k with
  | 0 => .boolean
  | _ => .array (.object "DebtDoors$Test")
abbrev wsX190 : List Cond := u_ws RX19 TX19 2
theorem nmX19 : ∀ a, a < 2 → ∀ b, b < 2 → a ≠ b → (TX19 a).2.1 ≠ (TX19 b).2.1 := by decide +kernel
theorem tyX19_ok : ∀ k, k < 2 → parseFieldDescriptor (TX19 k).2.2.1 = some (tyX19 k) := by decide +kernel
abbrev cX19_of : ByteArray := prog_24_method_2_code
def yX19_of : MethodName := ⟨RX19, "of", "(LDebtDoors$Asked;)Z"⟩
abbrev cX19_init : ByteArray := prog_24_method_1_code
def yX19_init : MethodName := ⟨RX19, "<init>", "(Z[LDebtDoors$Test;)V"⟩
theorem q159 : (Jvm.Cond.initialized "DebtDoors$Row") ∈ lw_all := lw_g (lw_at lw_m1 35 rfl) rfl
theorem q318 : (Jvm.Cond.fieldLinkNest "DebtDoors$Row" (21 : Nat) "DebtDoors$Asked" "isBroken" "Z" "DebtDoors") ∈ lw_tbl := lw_at lw_m1 194 rfl
theorem q590 : (Jvm.Cond.instanceMethod ({ cls := "DebtDoors$Row", name := "of", desc := "(LDebtDoors$Asked;)Z" } : Jvm.MethodName)) ∈ lw_all := lw_g (lw_at lw_m2 226 rfl) rfl
theorem q591 : (Jvm.Cond.code ({ cls := "DebtDoors$Row", name := "of", desc := "(LDebtDoors$Asked;)Z" } : Jvm.MethodName) prog_24_method_2_code (7 : Nat) (Option.some Jvm.ClassFile.FieldType.boolean)) ∈ lw_all := lw_g (lw_at lw_m2 227 rfl) rfl
theorem q592 : (Jvm.Cond.methodLink "DebtDoors$Row" (17 : Nat) ({ cls := "DebtDoors$Test", name := "of", desc := "(LDebtDoors$Asked;)Z" } : Jvm.MethodName)) ∈ lw_all := lw_g (lw_at lw_m2 228 rfl) rfl
theorem q593 : (Jvm.Cond.selects "DebtDoors$Row" ({ cls := "DebtDoors$Test", name := "of", desc := "(LDebtDoors$Asked;)Z" } : Jvm.MethodName) ({ cls := "DebtDoors$Row", name := "of", desc := "(LDebtDoors$Asked;)Z" } : Jvm.MethodName)) ∈ lw_all := lw_g (lw_at lw_m2 229 rfl) rfl
theorem q1099 : (Jvm.Cond.instantiable "DebtDoors$Row" (2 : Nat)) ∈ lw_all := lw_g (lw_at lw_m5 15 rfl) rfl
theorem q1101 : (Jvm.Cond.instanceMethod ({ cls := "DebtDoors$Row", name := "<init>", desc := "(Z[LDebtDoors$Test;)V" } : Jvm.MethodName)) ∈ lw_all := lw_g (lw_at lw_m5 17 rfl) rfl
theorem q1102 : (Jvm.Cond.code ({ cls := "DebtDoors$Row", name := "<init>", desc := "(Z[LDebtDoors$Test;)V" } : Jvm.MethodName) prog_24_method_1_code (3 : Nat) (Option.none : Option Jvm.ClassFile.FieldType)) ∈ lw_all := lw_g (lw_at lw_m5 18 rfl) rfl
theorem q1103 : (Jvm.Cond.methodLinkNest "DebtDoors$Row" (1 : Nat) ({ cls := "DebtDoors$Test", name := "<init>", desc := "()V" } : Jvm.MethodName) "DebtDoors") ∈ lw_tbl := lw_at lw_m5 19 rfl
theorem q1104 : (Jvm.Cond.fieldLink "DebtDoors$Row" (7 : Nat) "DebtDoors$Row" "all" "Z") ∈ lw_all := lw_g (lw_at lw_m5 20 rfl) rfl
theorem q1105 : (Jvm.Cond.fieldLink "DebtDoors$Row" (13 : Nat) "DebtDoors$Row" "tests" "[LDebtDoors$Test;") ∈ lw_all := lw_g (lw_at lw_m5 21 rfl) rfl
theorem q1106 : (Jvm.Cond.laysFinal "DebtDoors$Row" "DebtDoors$Row" "all" "Z") ∈ lw_all := lw_g (lw_at lw_m5 22 rfl) rfl
theorem q1107 : (Jvm.Cond.soleField "DebtDoors$Row" "all") ∈ lw_all := lw_g (lw_at lw_m5 23 rfl) rfl
theorem q1108 : (Jvm.Cond.laysFinal "DebtDoors$Row" "DebtDoors$Row" "tests" "[LDebtDoors$Test;") ∈ lw_all := lw_g (lw_at lw_m5 24 rfl) rfl
theorem q1109 : (Jvm.Cond.soleField "DebtDoors$Row" "tests") ∈ lw_all := lw_g (lw_at lw_m5 25 rfl) rfl
theorem q1110 : (Jvm.Cond.superclass "DebtDoors$Row" "DebtDoors$Test") ∈ lw_all := lw_g (lw_at lw_m5 26 rfl) rfl
theorem q1297 : (Jvm.Cond.selects "DebtDoors$Row" ({ cls := "java/lang/Object", name := "getClass", desc := "()Ljava/lang/Class;" } : Jvm.MethodName) ({ cls := "java/lang/Object", name := "getClass", desc := "()Ljava/lang/Class;" } : Jvm.MethodName)) ∈ lw_all := lw_g (lw_at lw_m5 213 rfl) rfl
theorem q2760 : (Jvm.Cond.castable "DebtDoors$Row" "java/lang/Object") ∈ lw_tbl := lw_at lw_m11 236 rfl
theorem q2777 : (Jvm.Cond.castable "DebtDoors$Row" "DebtDoors$Test") ∈ lw_tbl := lw_at lw_m12 13 rfl
theorem in_X19 : ∀ w ∈ wsX190, w ∈ lw_all := lw_in wsX190 [1106, 1108] (by decide +kernel) (by decide +kernel)
/-! DebtDoors$Books -/
set_option maxRecDepth 100000
def RX2 : String := "DebtDoors$Books"
def TX2 : u_T := fun k => match k with
  | 0 => ("DebtDoors$Books", "purses", "[I", true)
  | 1 => ("DebtDoors$Books", "debtors", "[I", true)
  | 2 => ("DebtDoors$Books", "creditors", "[I", true)
  | 3 => ("DebtDoors$Books", "amounts", "[I", true)
  | 4 => ("DebtDoors$Books", "days", "[I", true)
  | 5 => ("DebtDoors$Books", "many", "I", false)
  | _ => ("DebtDoors$Books", "day", "I", false)
def tyX2 : Nat → FieldType := fun k => match k with
  | 0 => .array .int
  | 1 => .array .int
  | 2 => .array .int
  | 3 => .array .int
  | 4 => .array .int
  | 5 => .int
  | _ => .int
abbrev wsX20 : List Cond := u_ws RX2 TX2 7
theorem nmX2 : ∀ a, a < 7 → ∀ b, b < 7 → a ≠ b → (TX2 a).2.1 ≠ (TX2 b).2.1 := by decide +kernel
theorem tyX2_ok : ∀ k, k < 7 → parseFieldDescriptor (TX2 k).2.2.1 = some (tyX2 k) := by decide +kernel
abbrev cX2_init : ByteArray := prog_4_method_1_code
def yX2_init : MethodName := ⟨RX2, "<init>", "()V"⟩
abbrev cX2_add : ByteArray := prog_4_method_6_code
def yX2_add : MethodName := ⟨RX2, "add", "(III)V"⟩
abbrev cX2_owes : ByteArray := prog_4_method_5_code
def yX2_owes : MethodName := ⟨RX2, "owes", "(II)I"⟩
abbrev cX2_is : ByteArray := prog_4_method_4_code
def yX2_is : MethodName := ⟨RX2, "is", "(III)Z"⟩
abbrev cX2_canPay : ByteArray := prog_4_method_9_code
def yX2_canPay : MethodName := ⟨RX2, "canPay", "(III)Z"⟩
abbrev cX2_as : ByteArray := prog_4_method_2_code
def yX2_as : MethodName := ⟨RX2, "as", "(LDebtDoors$Books;)LDebtDoors$Books;"⟩
abbrev cX2_move : ByteArray := prog_4_method_3_code
def yX2_move : MethodName := ⟨RX2, "move", "(LDebtDoors$Books;III)V"⟩
abbrev cX2_pay : ByteArray := prog_4_method_10_code
def yX2_pay : MethodName := ⟨RX2, "pay", "(III)V"⟩
abbrev cX2_repay : ByteArray := prog_4_method_11_code
def yX2_repay : MethodName := ⟨RX2, "repay", "(III)I"⟩
abbrev cX2_lessen : ByteArray := prog_4_method_8_code
def yX2_lessen : MethodName := ⟨RX2, "lessen", "(III)V"⟩
abbrev cX2_drop : ByteArray := prog_4_method_7_code
def yX2_drop : MethodName := ⟨RX2, "drop", "(I)V"⟩
abbrev cX2_balance : ByteArray := prog_4_method_12_code
def yX2_balance : MethodName := ⟨RX2, "balance", "(I)I"⟩
theorem q130 : (Jvm.Cond.initialized "DebtDoors$Books") ∈ lw_all := lw_g (lw_at lw_m1 6 rfl) rfl
theorem q218 : (Jvm.Cond.instantiable "DebtDoors$Books" (7 : Nat)) ∈ lw_all := lw_g (lw_at lw_m1 94 rfl) rfl
theorem q220 : (Jvm.Cond.instanceMethod ({ cls := "DebtDoors$Books", name := "<init>", desc := "()V" } : Jvm.MethodName)) ∈ lw_all := lw_g (lw_at lw_m1 96 rfl) rfl
theorem q221 : (Jvm.Cond.code ({ cls := "DebtDoors$Books", name := "<init>", desc := "()V" } : Jvm.MethodName) prog_4_method_1_code (1 : Nat) (Option.none : Option Jvm.ClassFile.FieldType)) ∈ lw_all := lw_g (lw_at lw_m1 97 rfl) rfl
theorem q222 : (Jvm.Cond.methodLink "DebtDoors$Books" (3 : Nat) ({ cls := "java/lang/Object", name := "<init>", desc := "()V" } : Jvm.MethodName)) ∈ lw_all := lw_g (lw_at lw_m1 98 rfl) rfl
theorem q223 : (Jvm.Cond.fieldLink "DebtDoors$Books" (9 : Nat) "DebtDoors$Books" "purses" "[I") ∈ lw_all := lw_g (lw_at lw_m1 99 rfl) rfl
theorem q226 : (Jvm.Cond.fieldLink "DebtDoors$Books" (15 : Nat) "DebtDoors$Books" "debtors" "[I") ∈ lw_all := lw_g (lw_at lw_m1 102 rfl) rfl
theorem q229 : (Jvm.Cond.fieldLink "DebtDoors$Books" (18 : Nat) "DebtDoors$Books" "creditors" "[I") ∈ lw_all := lw_g (lw_at lw_m1 105 rfl) rfl
theorem q232 : (Jvm.Cond.fieldLink "DebtDoors$Books" (21 : Nat) "DebtDoors$Books" "amounts" "[I") ∈ lw_all := lw_g (lw_at lw_m1 108 rfl) rfl
theorem q235 : (Jvm.Cond.fieldLink "DebtDoors$Books" (24 : Nat) "DebtDoors$Books" "days" "[I") ∈ lw_all := lw_g (lw_at lw_m1 111 rfl) rfl
theorem q238 : (Jvm.Cond.fieldLink "DebtDoors$Books" (33 : Nat) "DebtDoors$Books" "many" "I") ∈ lw_all := lw_g (lw_at lw_m1 114 rfl) rfl
theorem q241 : (Jvm.Cond.fieldLink "DebtDoors$Books" (41 : Nat) "DebtDoors$Books" "day" "I") ∈ lw_all := lw_g (lw_at lw_m1 117 rfl) rfl
theorem q244 : (Jvm.Cond.laysFinal "DebtDoors$Books" "DebtDoors$Books" "purses" "[I") ∈ lw_all := lw_g (lw_at lw_m1 120 rfl) rfl
theorem q245 : (Jvm.Cond.soleField "DebtDoors$Books" "purses") ∈ lw_all := lw_g (lw_at lw_m1 121 rfl) rfl
theorem q246 : (Jvm.Cond.laysFinal "DebtDoors$Books" "DebtDoors$Books" "debtors" "[I") ∈ lw_all := lw_g (lw_at lw_m1 122 rfl) rfl
theorem q247 : (Jvm.Cond.soleField "DebtDoors$Books" "debtors") ∈ lw_all := lw_g (lw_at lw_m1 123 rfl) rfl
theorem q248 : (Jvm.Cond.laysFinal "DebtDoors$Books" "DebtDoors$Books" "creditors" "[I") ∈ lw_all := lw_g (lw_at lw_m1 124 rfl) rfl
theorem q249 : (Jvm.Cond.soleField "DebtDoors$Books" "creditors") ∈ lw_all := lw_g (lw_at lw_m1 125 rfl) rfl
theorem q250 : (Jvm.Cond.laysFinal "DebtDoors$Books" "DebtDoors$Books" "amounts" "[I") ∈ lw_all := lw_g (lw_at lw_m1 126 rfl) rfl
theorem q251 : (Jvm.Cond.soleField "DebtDoors$Books" "amounts") ∈ lw_all := lw_g (lw_at lw_m1 127 rfl) rfl
theorem q252 : (Jvm.Cond.laysFinal "DebtDoors$Books" "DebtDoors$Books" "days" "[I") ∈ lw_all := lw_g (lw_at lw_m1 128 rfl) rfl
theorem q253 : (Jvm.Cond.soleField "DebtDoors$Books" "days") ∈ lw_all := lw_g (lw_at lw_m1 129 rfl) rfl
theorem q254 : (Jvm.Cond.lays "DebtDoors$Books" "DebtDoors$Books" "many" "I") ∈ lw_all := lw_g (lw_at lw_m1 130 rfl) rfl
theorem q255 : (Jvm.Cond.soleField "DebtDoors$Books" "many") ∈ lw_all := lw_g (lw_at lw_m1 131 rfl) rfl
theorem q256 : (Jvm.Cond.lays "DebtDoors$Books" "DebtDoors$Books" "day" "I") ∈ lw_all := lw_g (lw_at lw_m1 132 rfl) rfl
theorem q257 : (Jvm.Cond.soleField "DebtDoors$Books" "day") ∈ lw_all := lw_g (lw_at lw_m1 133 rfl) rfl
theorem q258 : (Jvm.Cond.superclass "DebtDoors$Books" "java/lang/Object") ∈ lw_all := lw_g (lw_at lw_m1 134 rfl) rfl
theorem q488 : (Jvm.Cond.instanceMethod ({ cls := "DebtDoors$Books", name := "add", desc := "(III)V" } : Jvm.MethodName)) ∈ lw_all := lw_g (lw_at lw_m2 124 rfl) rfl
theorem q489 : (Jvm.Cond.selects "DebtDoors$Books" ({ cls := "DebtDoors$Books", name := "add", desc := "(III)V" } : Jvm.MethodName) ({ cls := "DebtDoors$Books", name := "add", desc := "(III)V" } : Jvm.MethodName)) ∈ lw_all := lw_g (lw_at lw_m2 125 rfl) rfl
theorem q490 : (Jvm.Cond.code ({ cls := "DebtDoors$Books", name := "add", desc := "(III)V" } : Jvm.MethodName) prog_4_method_6_code (4 : Nat) (Option.none : Option Jvm.ClassFile.FieldType)) ∈ lw_all := lw_g (lw_at lw_m2 126 rfl) rfl
theorem q508 : (Jvm.Cond.instanceMethod ({ cls := "DebtDoors$Books", name := "owes", desc := "(II)I" } : Jvm.MethodName)) ∈ lw_all := lw_g (lw_at lw_m2 144 rfl) rfl
theorem q509 : (Jvm.Cond.selects "DebtDoors$Books" ({ cls := "DebtDoors$Books", name := "owes", desc := "(II)I" } : Jvm.MethodName) ({ cls := "DebtDoors$Books", name := "owes", desc := "(II)I" } : Jvm.MethodName)) ∈ lw_all := lw_g (lw_at lw_m2 145 rfl) rfl
theorem q510 : (Jvm.Cond.code ({ cls := "DebtDoors$Books", name := "owes", desc := "(II)I" } : Jvm.MethodName) prog_4_method_5_code (5 : Nat) (Option.some Jvm.ClassFile.FieldType.int)) ∈ lw_all := lw_g (lw_at lw_m2 146 rfl) rfl
theorem q511 : (Jvm.Cond.methodLink "DebtDoors$Books" (44 : Nat) ({ cls := "DebtDoors$Books", name := "is", desc := "(III)Z" } : Jvm.MethodName)) ∈ lw_all := lw_g (lw_at lw_m2 147 rfl) rfl
theorem q512 : (Jvm.Cond.instanceMethod ({ cls := "DebtDoors$Books", name := "is", desc := "(III)Z" } : Jvm.MethodName)) ∈ lw_all := lw_g (lw_at lw_m2 148 rfl) rfl
theorem q513 : (Jvm.Cond.selects "DebtDoors$Books" ({ cls := "DebtDoors$Books", name := "is", desc := "(III)Z" } : Jvm.MethodName) ({ cls := "DebtDoors$Books", name := "is", desc := "(III)Z" } : Jvm.MethodName)) ∈ lw_all := lw_g (lw_at lw_m2 149 rfl) rfl
theorem q514 : (Jvm.Cond.code ({ cls := "DebtDoors$Books", name := "is", desc := "(III)Z" } : Jvm.MethodName) prog_4_method_4_code (4 : Nat) (Option.some Jvm.ClassFile.FieldType.boolean)) ∈ lw_all := lw_g (lw_at lw_m2 150 rfl) rfl
theorem q1280 : (Jvm.Cond.selects "DebtDoors$Books" ({ cls := "java/lang/Object", name := "getClass", desc := "()Ljava/lang/Class;" } : Jvm.MethodName) ({ cls := "java/lang/Object", name := "getClass", desc := "()Ljava/lang/Class;" } : Jvm.MethodName)) ∈ lw_all := lw_g (lw_at lw_m5 196 rfl) rfl
theorem q1359 : (Jvm.Cond.instanceMethod ({ cls := "DebtDoors$Books", name := "canPay", desc := "(III)Z" } : Jvm.MethodName)) ∈ lw_all := lw_g (lw_at lw_m6 35 rfl) rfl
theorem q1360 : (Jvm.Cond.selects "DebtDoors$Books" ({ cls := "DebtDoors$Books", name := "canPay", desc := "(III)Z" } : Jvm.MethodName) ({ cls := "DebtDoors$Books", name := "canPay", desc := "(III)Z" } : Jvm.MethodName)) ∈ lw_all := lw_g (lw_at lw_m6 36 rfl) rfl
theorem q1361 : (Jvm.Cond.code ({ cls := "DebtDoors$Books", name := "canPay", desc := "(III)Z" } : Jvm.MethodName) prog_4_method_9_code (4 : Nat) (Option.some Jvm.ClassFile.FieldType.boolean)) ∈ lw_all := lw_g (lw_at lw_m6 37 rfl) rfl
theorem q1378 : (Jvm.Cond.instanceMethod ({ cls := "DebtDoors$Books", name := "as", desc := "(LDebtDoors$Books;)LDebtDoors$Books;" } : Jvm.MethodName)) ∈ lw_all := lw_g (lw_at lw_m6 54 rfl) rfl
theorem q1379 : (Jvm.Cond.selects "DebtDoors$Books" ({ cls := "DebtDoors$Books", name := "as", desc := "(LDebtDoors$Books;)LDebtDoors$Books;" } : Jvm.MethodName) ({ cls := "DebtDoors$Books", name := "as", desc := "(LDebtDoors$Books;)LDebtDoors$Books;" } : Jvm.MethodName)) ∈ lw_all := lw_g (lw_at lw_m6 55 rfl) rfl
theorem q1380 : (Jvm.Cond.code ({ cls := "DebtDoors$Books", name := "as", desc := "(LDebtDoors$Books;)LDebtDoors$Books;" } : Jvm.MethodName) prog_4_method_2_code (2 : Nat) (Option.some (Jvm.ClassFile.FieldType.object "DebtDoors$Books"))) ∈ lw_all := lw_g (lw_at lw_m6 56 rfl) rfl
theorem q1381 : (Jvm.Cond.methodLink "DebtDoors$Books" (27 : Nat) ({ cls := "java/lang/System", name := "arraycopy", desc := "(Ljava/lang/Object;ILjava/lang/Object;II)V" } : Jvm.MethodName)) ∈ lw_all := lw_g (lw_at lw_m6 57 rfl) rfl
theorem q1382 : (Jvm.Cond.methodLink "DebtDoors$Books" (37 : Nat) ({ cls := "DebtDoors$Books", name := "move", desc := "(LDebtDoors$Books;III)V" } : Jvm.MethodName)) ∈ lw_all := lw_g (lw_at lw_m6 58 rfl) rfl
theorem q1383 : (Jvm.Cond.privateMethod ({ cls := "DebtDoors$Books", name := "move", desc := "(LDebtDoors$Books;III)V" } : Jvm.MethodName)) ∈ lw_tbl := lw_at lw_m6 59 rfl
theorem q1384 : (Jvm.Cond.instanceMethod ({ cls := "DebtDoors$Books", name := "move", desc := "(LDebtDoors$Books;III)V" } : Jvm.MethodName)) ∈ lw_all := lw_g (lw_at lw_m6 60 rfl) rfl
theorem q1385 : (Jvm.Cond.code ({ cls := "DebtDoors$Books", name := "move", desc := "(LDebtDoors$Books;III)V" } : Jvm.MethodName) prog_4_method_3_code (5 : Nat) (Option.none : Option Jvm.ClassFile.FieldType)) ∈ lw_all := lw_g (lw_at lw_m6 61 rfl) rfl
theorem q1403 : (Jvm.Cond.instanceMethod ({ cls := "DebtDoors$Books", name := "pay", desc := "(III)V" } : Jvm.MethodName)) ∈ lw_all := lw_g (lw_at lw_m6 79 rfl) rfl
theorem q1404 : (Jvm.Cond.selects "DebtDoors$Books" ({ cls := "DebtDoors$Books", name := "pay", desc := "(III)V" } : Jvm.MethodName) ({ cls := "DebtDoors$Books", name := "pay", desc := "(III)V" } : Jvm.MethodName)) ∈ lw_all := lw_g (lw_at lw_m6 80 rfl) rfl
theorem q1405 : (Jvm.Cond.code ({ cls := "DebtDoors$Books", name := "pay", desc := "(III)V" } : Jvm.MethodName) prog_4_method_10_code (4 : Nat) (Option.none : Option Jvm.ClassFile.FieldType)) ∈ lw_all := lw_g (lw_at lw_m6 81 rfl) rfl
theorem q1415 : (Jvm.Cond.instanceMethod ({ cls := "DebtDoors$Books", name := "repay", desc := "(III)I" } : Jvm.MethodName)) ∈ lw_all := lw_g (lw_at lw_m6 91 rfl) rfl
theorem q1416 : (Jvm.Cond.selects "DebtDoors$Books" ({ cls := "DebtDoors$Books", name := "repay", desc := "(III)I" } : Jvm.MethodName) ({ cls := "DebtDoors$Books", name := "repay", desc := "(III)I" } : Jvm.MethodName)) ∈ lw_all := lw_g (lw_at lw_m6 92 rfl) rfl
theorem q1417 : (Jvm.Cond.code ({ cls := "DebtDoors$Books", name := "repay", desc := "(III)I" } : Jvm.MethodName) prog_4_method_11_code (5 : Nat) (Option.some Jvm.ClassFile.FieldType.int)) ∈ lw_all := lw_g (lw_at lw_m6 93 rfl) rfl
theorem q1418 : (Jvm.Cond.methodLink "DebtDoors$Books" (58 : Nat) ({ cls := "DebtDoors$Books", name := "owes", desc := "(II)I" } : Jvm.MethodName)) ∈ lw_all := lw_g (lw_at lw_m6 94 rfl) rfl
theorem q1419 : (Jvm.Cond.methodLink "DebtDoors$Books" (48 : Nat) ({ cls := "java/lang/Math", name := "min", desc := "(II)I" } : Jvm.MethodName)) ∈ lw_all := lw_g (lw_at lw_m6 95 rfl) rfl
theorem q1420 : (Jvm.Cond.methodLink "DebtDoors$Books" (61 : Nat) ({ cls := "DebtDoors$Books", name := "pay", desc := "(III)V" } : Jvm.MethodName)) ∈ lw_all := lw_g (lw_at lw_m6 96 rfl) rfl
theorem q1421 : (Jvm.Cond.methodLink "DebtDoors$Books" (65 : Nat) ({ cls := "DebtDoors$Books", name := "lessen", desc := "(III)V" } : Jvm.MethodName)) ∈ lw_all := lw_g (lw_at lw_m6 97 rfl) rfl
theorem q1422 : (Jvm.Cond.instanceMethod ({ cls := "DebtDoors$Books", name := "lessen", desc := "(III)V" } : Jvm.MethodName)) ∈ lw_all := lw_g (lw_at lw_m6 98 rfl) rfl
theorem q1423 : (Jvm.Cond.selects "DebtDoors$Books" ({ cls := "DebtDoors$Books", name := "lessen", desc := "(III)V" } : Jvm.MethodName) ({ cls := "DebtDoors$Books", name := "lessen", desc := "(III)V" } : Jvm.MethodName)) ∈ lw_all := lw_g (lw_at lw_m6 99 rfl) rfl
theorem q1424 : (Jvm.Cond.code ({ cls := "DebtDoors$Books", name := "lessen", desc := "(III)V" } : Jvm.MethodName) prog_4_method_8_code (7 : Nat) (Option.none : Option Jvm.ClassFile.FieldType)) ∈ lw_all := lw_g (lw_at lw_m6 100 rfl) rfl
theorem q1425 : (Jvm.Cond.methodLink "DebtDoors$Books" (54 : Nat) ({ cls := "DebtDoors$Books", name := "drop", desc := "(I)V" } : Jvm.MethodName)) ∈ lw_all := lw_g (lw_at lw_m6 101 rfl) rfl
theorem q1426 : (Jvm.Cond.instanceMethod ({ cls := "DebtDoors$Books", name := "drop", desc := "(I)V" } : Jvm.MethodName)) ∈ lw_all := lw_g (lw_at lw_m6 102 rfl) rfl
theorem q1427 : (Jvm.Cond.selects "DebtDoors$Books" ({ cls := "DebtDoors$Books", name := "drop", desc := "(I)V" } : Jvm.MethodName) ({ cls := "DebtDoors$Books", name := "drop", desc := "(I)V" } : Jvm.MethodName)) ∈ lw_all := lw_g (lw_at lw_m6 103 rfl) rfl
theorem q1428 : (Jvm.Cond.code ({ cls := "DebtDoors$Books", name := "drop", desc := "(I)V" } : Jvm.MethodName) prog_4_method_7_code (2 : Nat) (Option.none : Option Jvm.ClassFile.FieldType)) ∈ lw_all := lw_g (lw_at lw_m6 104 rfl) rfl
theorem q1721 : (Jvm.Cond.instanceMethod ({ cls := "DebtDoors$Books", name := "balance", desc := "(I)I" } : Jvm.MethodName)) ∈ lw_all := lw_g (lw_at lw_m7 157 rfl) rfl
theorem q1722 : (Jvm.Cond.selects "DebtDoors$Books" ({ cls := "DebtDoors$Books", name := "balance", desc := "(I)I" } : Jvm.MethodName) ({ cls := "DebtDoors$Books", name := "balance", desc := "(I)I" } : Jvm.MethodName)) ∈ lw_all := lw_g (lw_at lw_m7 158 rfl) rfl
theorem q1723 : (Jvm.Cond.code ({ cls := "DebtDoors$Books", name := "balance", desc := "(I)I" } : Jvm.MethodName) prog_4_method_12_code (4 : Nat) (Option.some Jvm.ClassFile.FieldType.int)) ∈ lw_all := lw_g (lw_at lw_m7 159 rfl) rfl
theorem q2743 : (Jvm.Cond.castable "DebtDoors$Books" "java/lang/Object") ∈ lw_tbl := lw_at lw_m11 219 rfl
theorem in_X2 : ∀ w ∈ wsX20, w ∈ lw_all := lw_in wsX20 [244, 246, 248, 250, 252, 254, 256] (by decide +kernel) (by decide +kernel)
/-! DebtDoors$Order -/
set_option maxRecDepth 100000
def RX20 : String := "DebtDoors$Order"
abbrev cX20_init : ByteArray := prog_14_method_1_code
def yX20_init : MethodName := ⟨RX20, "<init>", "(LDebtDoors;)V"⟩
abbrev cX20_run : ByteArray := prog_14_method_5_code
def yX20_run : MethodName := ⟨RX20, "run", "()I"⟩
abbrev cX20_setNow : ByteArray := prog_14_method_3_code
def yX20_setNow : MethodName := ⟨RX20, "setNow", "()V"⟩
abbrev cX20_of : ByteArray := prog_14_method_4_code
def yX20_of : MethodName := ⟨RX20, "of", "(LDebtDoors$Sum;)I"⟩
abbrev cX20_isOff : ByteArray := prog_14_method_6_code
def yX20_isOff : MethodName := ⟨RX20, "isOff", "()Z"⟩
theorem q160 : (Jvm.Cond.initialized "DebtDoors$Order") ∈ lw_all := lw_g (lw_at lw_m1 36 rfl) rfl
theorem q239 : (Jvm.Cond.fieldLinkNest "DebtDoors$Order" (38 : Nat) "DebtDoors$Books" "many" "I" "DebtDoors") ∈ lw_tbl := lw_at lw_m1 115 rfl
theorem q242 : (Jvm.Cond.fieldLinkNest "DebtDoors$Order" (33 : Nat) "DebtDoors$Books" "day" "I" "DebtDoors") ∈ lw_tbl := lw_at lw_m1 118 rfl
theorem q311 : (Jvm.Cond.fieldLinkNest "DebtDoors$Order" (23 : Nat) "DebtDoors$Asked" "numbers" "[J" "DebtDoors") ∈ lw_tbl := lw_at lw_m1 187 rfl
theorem q319 : (Jvm.Cond.fieldLinkNest "DebtDoors$Order" (47 : Nat) "DebtDoors$Asked" "isBroken" "Z" "DebtDoors") ∈ lw_tbl := lw_at lw_m1 195 rfl
theorem q348 : (Jvm.Cond.fieldLinkNest "DebtDoors$Order" (19 : Nat) "DebtDoors" "inOrders" "LDebtDoors$Asked;" "DebtDoors") ∈ lw_tbl := lw_at lw_m1 224 rfl
theorem q364 : (Jvm.Cond.fieldLinkNest "DebtDoors$Order" (41 : Nat) "DebtDoors" "done" "I" "DebtDoors") ∈ lw_tbl := lw_at lw_m2 0 rfl
theorem q367 : (Jvm.Cond.fieldLinkNest "DebtDoors$Order" (44 : Nat) "DebtDoors" "last" "I" "DebtDoors") ∈ lw_tbl := lw_at lw_m2 3 rfl
theorem q1149 : (Jvm.Cond.instanceMethod ({ cls := "DebtDoors$Order", name := "<init>", desc := "(LDebtDoors;)V" } : Jvm.MethodName)) ∈ lw_all := lw_g (lw_at lw_m5 65 rfl) rfl
theorem q1150 : (Jvm.Cond.code ({ cls := "DebtDoors$Order", name := "<init>", desc := "(LDebtDoors;)V" } : Jvm.MethodName) prog_14_method_1_code (2 : Nat) (Option.none : Option Jvm.ClassFile.FieldType)) ∈ lw_all := lw_g (lw_at lw_m5 66 rfl) rfl
theorem q1151 : (Jvm.Cond.methodLink "DebtDoors$Order" (9 : Nat) ({ cls := "java/lang/Object", name := "<init>", desc := "()V" } : Jvm.MethodName)) ∈ lw_all := lw_g (lw_at lw_m5 67 rfl) rfl
theorem q1153 : (Jvm.Cond.fieldLink "DebtDoors$Order" (63 : Nat) "DebtDoors$Order" "test" "LDebtDoors$Test;") ∈ lw_all := lw_g (lw_at lw_m5 69 rfl) rfl
theorem q1155 : (Jvm.Cond.fieldLink "DebtDoors$Order" (15 : Nat) "DebtDoors$Order" "times" "I") ∈ lw_all := lw_g (lw_at lw_m5 71 rfl) rfl
theorem q1158 : (Jvm.Cond.fieldLink "DebtDoors$Order" (51 : Nat) "DebtDoors$Order" "off" "Z") ∈ lw_all := lw_g (lw_at lw_m5 74 rfl) rfl
theorem q1159 : (Jvm.Cond.fieldLink "DebtDoors$Order" (3 : Nat) "DebtDoors$Order" "this$0" "LDebtDoors;") ∈ lw_all := lw_g (lw_at lw_m5 75 rfl) rfl
theorem q1163 : (Jvm.Cond.soleField "DebtDoors$Order" "test") ∈ lw_all := lw_g (lw_at lw_m5 79 rfl) rfl
theorem q1165 : (Jvm.Cond.soleField "DebtDoors$Order" "times") ∈ lw_all := lw_g (lw_at lw_m5 81 rfl) rfl
theorem q1167 : (Jvm.Cond.soleField "DebtDoors$Order" "off") ∈ lw_all := lw_g (lw_at lw_m5 83 rfl) rfl
theorem q1169 : (Jvm.Cond.soleField "DebtDoors$Order" "this$0") ∈ lw_all := lw_g (lw_at lw_m5 85 rfl) rfl
theorem q1846 : (Jvm.Cond.instanceMethod ({ cls := "DebtDoors$Order", name := "run", desc := "()I" } : Jvm.MethodName)) ∈ lw_all := lw_g (lw_at lw_m8 42 rfl) rfl
theorem q1847 : (Jvm.Cond.sameMethod "DebtDoors$Order" "DebtDoors$Order" "run" "()I") ∈ lw_all := lw_g (lw_at lw_m8 43 rfl) rfl
theorem q1851 : (Jvm.Cond.code ({ cls := "DebtDoors$Order", name := "run", desc := "()I" } : Jvm.MethodName) prog_14_method_5_code (2 : Nat) (Option.some Jvm.ClassFile.FieldType.int)) ∈ lw_all := lw_g (lw_at lw_m8 47 rfl) rfl
theorem q1852 : (Jvm.Cond.methodLink "DebtDoors$Order" (54 : Nat) ({ cls := "DebtDoors$Order", name := "setNow", desc := "()V" } : Jvm.MethodName)) ∈ lw_all := lw_g (lw_at lw_m8 48 rfl) rfl
theorem q1853 : (Jvm.Cond.privateMethod ({ cls := "DebtDoors$Order", name := "setNow", desc := "()V" } : Jvm.MethodName)) ∈ lw_tbl := lw_at lw_m8 49 rfl
theorem q1854 : (Jvm.Cond.instanceMethod ({ cls := "DebtDoors$Order", name := "setNow", desc := "()V" } : Jvm.MethodName)) ∈ lw_all := lw_g (lw_at lw_m8 50 rfl) rfl
theorem q1855 : (Jvm.Cond.code ({ cls := "DebtDoors$Order", name := "setNow", desc := "()V" } : Jvm.MethodName) prog_14_method_3_code (1 : Nat) (Option.none : Option Jvm.ClassFile.FieldType)) ∈ lw_all := lw_g (lw_at lw_m8 51 rfl) rfl
theorem q1856 : (Jvm.Cond.methodLinkNest "DebtDoors$Order" (29 : Nat) ({ cls := "DebtDoors", name := "books", desc := "()LDebtDoors$Books;" } : Jvm.MethodName) "DebtDoors") ∈ lw_tbl := lw_at lw_m8 52 rfl
theorem q1857 : (Jvm.Cond.methodLink "DebtDoors$Order" (67 : Nat) ({ cls := "DebtDoors$Test", name := "of", desc := "(LDebtDoors$Asked;)Z" } : Jvm.MethodName)) ∈ lw_all := lw_g (lw_at lw_m8 53 rfl) rfl
theorem q1858 : (Jvm.Cond.methodLink "DebtDoors$Order" (72 : Nat) ({ cls := "DebtDoors$Order", name := "does", desc := "()I" } : Jvm.MethodName)) ∈ lw_all := lw_g (lw_at lw_m8 54 rfl) rfl
theorem q1859 : (Jvm.Cond.declares ({ cls := "DebtDoors$Order", name := "does", desc := "()I" } : Jvm.MethodName)) ∈ lw_tbl := lw_at lw_m8 55 rfl
theorem q1860 : (Jvm.Cond.sameMethod "DebtDoors$Order" "DebtDoors$Order" "does" "()I") ∈ lw_all := lw_g (lw_at lw_m8 56 rfl) rfl
theorem q1866 : (Jvm.Cond.declares ({ cls := "DebtDoors$Order", name := "of", desc := "(LDebtDoors$Sum;)I" } : Jvm.MethodName)) ∈ lw_tbl := lw_at lw_m8 62 rfl
theorem q1869 : (Jvm.Cond.instanceMethod ({ cls := "DebtDoors$Order", name := "of", desc := "(LDebtDoors$Sum;)I" } : Jvm.MethodName)) ∈ lw_all := lw_g (lw_at lw_m8 65 rfl) rfl
theorem q1870 : (Jvm.Cond.code ({ cls := "DebtDoors$Order", name := "of", desc := "(LDebtDoors$Sum;)I" } : Jvm.MethodName) prog_14_method_4_code (4 : Nat) (Option.some Jvm.ClassFile.FieldType.int)) ∈ lw_all := lw_g (lw_at lw_m8 66 rfl) rfl
theorem q1871 : (Jvm.Cond.methodLink "DebtDoors$Order" (57 : Nat) ({ cls := "DebtDoors$Sum", name := "of", desc := "(LDebtDoors$Asked;)J" } : Jvm.MethodName)) ∈ lw_all := lw_g (lw_at lw_m8 67 rfl) rfl
theorem q1874 : (Jvm.Cond.declares ({ cls := "DebtDoors$Order", name := "isOff", desc := "()Z" } : Jvm.MethodName)) ∈ lw_tbl := lw_at lw_m8 70 rfl
theorem q1877 : (Jvm.Cond.instanceMethod ({ cls := "DebtDoors$Order", name := "isOff", desc := "()Z" } : Jvm.MethodName)) ∈ lw_all := lw_g (lw_at lw_m8 73 rfl) rfl
theorem q1878 : (Jvm.Cond.code ({ cls := "DebtDoors$Order", name := "isOff", desc := "()Z" } : Jvm.MethodName) prog_14_method_6_code (1 : Nat) (Option.some Jvm.ClassFile.FieldType.boolean)) ∈ lw_all := lw_g (lw_at lw_m8 74 rfl) rfl
theorem q2739 : (Jvm.Cond.sameMethod "DebtDoors$Order" "DebtDoors$Order" "setNow" "()V") ∈ lw_all := lw_g (lw_at lw_m11 215 rfl) rfl
theorem q2746 : (Jvm.Cond.castable "DebtDoors$Order" "java/lang/Object") ∈ lw_tbl := lw_at lw_m11 222 rfl
/-! DebtDoors$Wait -/
set_option maxRecDepth 100000
def RX21 : String := "DebtDoors$Wait"
def TX21 : u_T := fun k => match k with
  | 0 => ("DebtDoors$Order", "test", "LDebtDoors$Test;", false)
  | 1 => ("DebtDoors$Order", "times", "I", false)
  | 2 => ("DebtDoors$Order", "off", "Z", false)
  | 3 => ("DebtDoors$Order", "this$0", "LDebtDoors;", true)
  | _ => ("DebtDoors$Wait", "this$0", "LDebtDoors;", true)
def tyX21 : Nat → FieldType := fun k => match k with
  | 0 => .object "DebtDoors$Test"
  | 1 => .int
  | 2 => .boolean
  | 3 => .object "DebtDoors"
  | _ => .object "DebtDoors"
abbrev wsX210 : List Cond := u_ws RX21 TX21 5
-- two fields of one name: no nmX21
theorem tyX21_ok : ∀ k, k < 5 → parseFieldDescriptor (TX21 k).2.2.1 = some (tyX21 k) := by decide +kernel
abbrev cX21_init : ByteArray := prog_32_method_1_code
def yX21_init : MethodName := ⟨RX21, "<init>", "(LDebtDoors;)V"⟩
abbrev cX21_does : ByteArray := prog_32_method_2_code
def yX21_does : MethodName := ⟨RX21, "does", "()I"⟩
theorem q161 : (Jvm.Cond.initialized "DebtDoors$Wait") ∈ lw_all := lw_g (lw_at lw_m1 37 rfl) rfl
theorem q1144 : (Jvm.Cond.instantiable "DebtDoors$Wait" (5 : Nat)) ∈ lw_all := lw_g (lw_at lw_m5 60 rfl) rfl
theorem q1146 : (Jvm.Cond.instanceMethod ({ cls := "DebtDoors$Wait", name := "<init>", desc := "(LDebtDoors;)V" } : Jvm.MethodName)) ∈ lw_all := lw_g (lw_at lw_m5 62 rfl) rfl
theorem q1147 : (Jvm.Cond.code ({ cls := "DebtDoors$Wait", name := "<init>", desc := "(LDebtDoors;)V" } : Jvm.MethodName) prog_32_method_1_code (2 : Nat) (Option.none : Option Jvm.ClassFile.FieldType)) ∈ lw_all := lw_g (lw_at lw_m5 63 rfl) rfl
theorem q1148 : (Jvm.Cond.methodLinkNest "DebtDoors$Wait" (7 : Nat) ({ cls := "DebtDoors$Order", name := "<init>", desc := "(LDebtDoors;)V" } : Jvm.MethodName) "DebtDoors") ∈ lw_tbl := lw_at lw_m5 64 rfl
theorem q1152 : (Jvm.Cond.fieldLink "DebtDoors$Wait" (1 : Nat) "DebtDoors$Wait" "this$0" "LDebtDoors;") ∈ lw_all := lw_g (lw_at lw_m5 68 rfl) rfl
theorem q1160 : (Jvm.Cond.laysFinal "DebtDoors$Wait" "DebtDoors$Wait" "this$0" "LDebtDoors;") ∈ lw_all := lw_g (lw_at lw_m5 76 rfl) rfl
theorem q1161 : (Jvm.Cond.soleField "DebtDoors$Wait" "this$0") ∈ lw_all := lw_g (lw_at lw_m5 77 rfl) rfl
theorem q1162 : (Jvm.Cond.lays "DebtDoors$Wait" "DebtDoors$Order" "test" "LDebtDoors$Test;") ∈ lw_all := lw_g (lw_at lw_m5 78 rfl) rfl
theorem q1164 : (Jvm.Cond.lays "DebtDoors$Wait" "DebtDoors$Order" "times" "I") ∈ lw_all := lw_g (lw_at lw_m5 80 rfl) rfl
theorem q1166 : (Jvm.Cond.lays "DebtDoors$Wait" "DebtDoors$Order" "off" "Z") ∈ lw_all := lw_g (lw_at lw_m5 82 rfl) rfl
theorem q1168 : (Jvm.Cond.laysFinal "DebtDoors$Wait" "DebtDoors$Order" "this$0" "LDebtDoors;") ∈ lw_all := lw_g (lw_at lw_m5 84 rfl) rfl
theorem q1170 : (Jvm.Cond.superclass "DebtDoors$Wait" "DebtDoors$Order") ∈ lw_all := lw_g (lw_at lw_m5 86 rfl) rfl
theorem q1302 : (Jvm.Cond.selects "DebtDoors$Wait" ({ cls := "java/lang/Object", name := "getClass", desc := "()Ljava/lang/Class;" } : Jvm.MethodName) ({ cls := "java/lang/Object", name := "getClass", desc := "()Ljava/lang/Class;" } : Jvm.MethodName)) ∈ lw_all := lw_g (lw_at lw_m5 218 rfl) rfl
theorem q1850 : (Jvm.Cond.selects "DebtDoors$Wait" ({ cls := "DebtDoors$Order", name := "run", desc := "()I" } : Jvm.MethodName) ({ cls := "DebtDoors$Order", name := "run", desc := "()I" } : Jvm.MethodName)) ∈ lw_all := lw_g (lw_at lw_m8 46 rfl) rfl
theorem q1891 : (Jvm.Cond.selects "DebtDoors$Wait" ({ cls := "DebtDoors$Order", name := "does", desc := "()I" } : Jvm.MethodName) ({ cls := "DebtDoors$Wait", name := "does", desc := "()I" } : Jvm.MethodName)) ∈ lw_all := lw_g (lw_at lw_m8 87 rfl) rfl
theorem q1892 : (Jvm.Cond.instanceMethod ({ cls := "DebtDoors$Wait", name := "does", desc := "()I" } : Jvm.MethodName)) ∈ lw_all := lw_g (lw_at lw_m8 88 rfl) rfl
theorem q1893 : (Jvm.Cond.code ({ cls := "DebtDoors$Wait", name := "does", desc := "()I" } : Jvm.MethodName) prog_32_method_2_code (1 : Nat) (Option.some Jvm.ClassFile.FieldType.int)) ∈ lw_all := lw_g (lw_at lw_m8 89 rfl) rfl
theorem q1894 : (Jvm.Cond.methodLinkNest "DebtDoors$Wait" (13 : Nat) ({ cls := "DebtDoors", name := "waitNow", desc := "()I" } : Jvm.MethodName) "DebtDoors") ∈ lw_tbl := lw_at lw_m8 90 rfl
theorem q2764 : (Jvm.Cond.castable "DebtDoors$Wait" "java/lang/Object") ∈ lw_tbl := lw_at lw_m12 0 rfl
theorem q2778 : (Jvm.Cond.castable "DebtDoors$Wait" "DebtDoors$Order") ∈ lw_tbl := lw_at lw_m12 14 rfl
theorem in_X21 : ∀ w ∈ wsX210, w ∈ lw_all := lw_in wsX210 [1162, 1164, 1166, 1168, 1160] (by decide +kernel) (by decide +kernel)
/-! DebtDoors$Payment -/
set_option maxRecDepth 100000
def RX22 : String := "DebtDoors$Payment"
abbrev cX22_init : ByteArray := prog_18_method_1_code
def yX22_init : MethodName := ⟨RX22, "<init>", "(LDebtDoors;LDebtDoors$Sum;LDebtDoors$Sum;LDebtDoors$Sum;)V"⟩
abbrev cX22_does : ByteArray := prog_18_method_3_code
def yX22_does : MethodName := ⟨RX22, "does", "()I"⟩
theorem q162 : (Jvm.Cond.initialized "DebtDoors$Payment") ∈ lw_all := lw_g (lw_at lw_m1 38 rfl) rfl
theorem q366 : (Jvm.Cond.fieldLinkNest "DebtDoors$Payment" (35 : Nat) "DebtDoors" "last" "I" "DebtDoors") ∈ lw_tbl := lw_at lw_m2 2 rfl
theorem q1191 : (Jvm.Cond.instanceMethod ({ cls := "DebtDoors$Payment", name := "<init>", desc := "(LDebtDoors;LDebtDoors$Sum;LDebtDoors$Sum;LDebtDoors$Sum;)V" } : Jvm.MethodName)) ∈ lw_all := lw_g (lw_at lw_m5 107 rfl) rfl
theorem q1192 : (Jvm.Cond.code ({ cls := "DebtDoors$Payment", name := "<init>", desc := "(LDebtDoors;LDebtDoors$Sum;LDebtDoors$Sum;LDebtDoors$Sum;)V" } : Jvm.MethodName) prog_18_method_1_code (5 : Nat) (Option.none : Option Jvm.ClassFile.FieldType)) ∈ lw_all := lw_g (lw_at lw_m5 108 rfl) rfl
theorem q1193 : (Jvm.Cond.methodLinkNest "DebtDoors$Payment" (7 : Nat) ({ cls := "DebtDoors$Order", name := "<init>", desc := "(LDebtDoors;)V" } : Jvm.MethodName) "DebtDoors") ∈ lw_tbl := lw_at lw_m5 109 rfl
theorem q1195 : (Jvm.Cond.fieldLink "DebtDoors$Payment" (13 : Nat) "DebtDoors$Payment" "one" "LDebtDoors$Sum;") ∈ lw_all := lw_g (lw_at lw_m5 111 rfl) rfl
theorem q1196 : (Jvm.Cond.fieldLink "DebtDoors$Payment" (17 : Nat) "DebtDoors$Payment" "other" "LDebtDoors$Sum;") ∈ lw_all := lw_g (lw_at lw_m5 112 rfl) rfl
theorem q1197 : (Jvm.Cond.fieldLink "DebtDoors$Payment" (20 : Nat) "DebtDoors$Payment" "amount" "LDebtDoors$Sum;") ∈ lw_all := lw_g (lw_at lw_m5 113 rfl) rfl
theorem q1198 : (Jvm.Cond.fieldLink "DebtDoors$Payment" (1 : Nat) "DebtDoors$Payment" "this$0" "LDebtDoors;") ∈ lw_all := lw_g (lw_at lw_m5 114 rfl) rfl
theorem q1202 : (Jvm.Cond.soleField "DebtDoors$Payment" "one") ∈ lw_all := lw_g (lw_at lw_m5 118 rfl) rfl
theorem q1204 : (Jvm.Cond.soleField "DebtDoors$Payment" "other") ∈ lw_all := lw_g (lw_at lw_m5 120 rfl) rfl
theorem q1206 : (Jvm.Cond.soleField "DebtDoors$Payment" "amount") ∈ lw_all := lw_g (lw_at lw_m5 122 rfl) rfl
theorem q1208 : (Jvm.Cond.soleField "DebtDoors$Payment" "this$0") ∈ lw_all := lw_g (lw_at lw_m5 124 rfl) rfl
theorem q1862 : (Jvm.Cond.instanceMethod ({ cls := "DebtDoors$Payment", name := "does", desc := "()I" } : Jvm.MethodName)) ∈ lw_all := lw_g (lw_at lw_m8 58 rfl) rfl
theorem q1863 : (Jvm.Cond.code ({ cls := "DebtDoors$Payment", name := "does", desc := "()I" } : Jvm.MethodName) prog_18_method_3_code (5 : Nat) (Option.some Jvm.ClassFile.FieldType.int)) ∈ lw_all := lw_g (lw_at lw_m8 59 rfl) rfl
theorem q1864 : (Jvm.Cond.methodLink "DebtDoors$Payment" (23 : Nat) ({ cls := "DebtDoors$Payment", name := "of", desc := "(LDebtDoors$Sum;)I" } : Jvm.MethodName)) ∈ lw_all := lw_g (lw_at lw_m8 60 rfl) rfl
theorem q1865 : (Jvm.Cond.sameMethod "DebtDoors$Payment" "DebtDoors$Order" "of" "(LDebtDoors$Sum;)I") ∈ lw_all := lw_g (lw_at lw_m8 61 rfl) rfl
theorem q1872 : (Jvm.Cond.methodLink "DebtDoors$Payment" (27 : Nat) ({ cls := "DebtDoors$Payment", name := "isOff", desc := "()Z" } : Jvm.MethodName)) ∈ lw_all := lw_g (lw_at lw_m8 68 rfl) rfl
theorem q1873 : (Jvm.Cond.sameMethod "DebtDoors$Payment" "DebtDoors$Order" "isOff" "()Z") ∈ lw_all := lw_g (lw_at lw_m8 69 rfl) rfl
theorem q1879 : (Jvm.Cond.methodLink "DebtDoors$Payment" (31 : Nat) ({ cls := "DebtDoors$Payment", name := "does", desc := "(III)I" } : Jvm.MethodName)) ∈ lw_all := lw_g (lw_at lw_m8 75 rfl) rfl
theorem q1880 : (Jvm.Cond.declares ({ cls := "DebtDoors$Payment", name := "does", desc := "(III)I" } : Jvm.MethodName)) ∈ lw_tbl := lw_at lw_m8 76 rfl
theorem q1881 : (Jvm.Cond.sameMethod "DebtDoors$Payment" "DebtDoors$Payment" "does" "(III)I") ∈ lw_all := lw_g (lw_at lw_m8 77 rfl) rfl
/-! DebtDoors$Lend -/
set_option maxRecDepth 100000
def RX23 : String := "DebtDoors$Lend"
def TX23 : u_T := fun k => match k with
  | 0 => ("DebtDoors$Payment", "one", "LDebtDoors$Sum;", true)
  | 1 => ("DebtDoors$Payment", "other", "LDebtDoors$Sum;", true)
  | 2 => ("DebtDoors$Payment", "amount", "LDebtDoors$Sum;", true)
  | 3 => ("DebtDoors$Payment", "this$0", "LDebtDoors;", true)
  | 4 => ("DebtDoors$Order", "test", "LDebtDoors$Test;", false)
  | 5 => ("DebtDoors$Order", "times", "I", false)
  | 6 => ("DebtDoors$Order", "off", "Z", false)
  | 7 => ("DebtDoors$Order", "this$0", "LDebtDoors;", true)
  | _ => ("DebtDoors$Lend", "this$0", "LDebtDoors;", true)
def tyX23 : Nat → FieldType := fun k => match k with
  | 0 => .object "DebtDoors$Sum"
  | 1 => .object "DebtDoors$Sum"
  | 2 => .object "DebtDoors$Sum"
  | 3 => .object "DebtDoors"
  | 4 => .object "DebtDoors$Test"
  | 5 => .int
  | 6 => .boolean
  | 7 => .object "DebtDoors"
  | _ => .object "DebtDoors"
abbrev wsX230 : List Cond := u_ws RX23 TX23 9
-- two fields of one name: no nmX23
theorem tyX23_ok : ∀ k, k < 9 → parseFieldDescriptor (TX23 k).2.2.1 = some (tyX23 k) := by decide +kernel
abbrev cX23_init : ByteArray := prog_11_method_1_code
def yX23_init : MethodName := ⟨RX23, "<init>", "(LDebtDoors;LDebtDoors$Sum;LDebtDoors$Sum;LDebtDoors$Sum;)V"⟩
abbrev cX23_does : ByteArray := prog_11_method_2_code
def yX23_does : MethodName := ⟨RX23, "does", "(III)I"⟩
theorem q163 : (Jvm.Cond.initialized "DebtDoors$Lend") ∈ lw_all := lw_g (lw_at lw_m1 39 rfl) rfl
theorem q1186 : (Jvm.Cond.instantiable "DebtDoors$Lend" (9 : Nat)) ∈ lw_all := lw_g (lw_at lw_m5 102 rfl) rfl
theorem q1188 : (Jvm.Cond.instanceMethod ({ cls := "DebtDoors$Lend", name := "<init>", desc := "(LDebtDoors;LDebtDoors$Sum;LDebtDoors$Sum;LDebtDoors$Sum;)V" } : Jvm.MethodName)) ∈ lw_all := lw_g (lw_at lw_m5 104 rfl) rfl
theorem q1189 : (Jvm.Cond.code ({ cls := "DebtDoors$Lend", name := "<init>", desc := "(LDebtDoors;LDebtDoors$Sum;LDebtDoors$Sum;LDebtDoors$Sum;)V" } : Jvm.MethodName) prog_11_method_1_code (5 : Nat) (Option.none : Option Jvm.ClassFile.FieldType)) ∈ lw_all := lw_g (lw_at lw_m5 105 rfl) rfl
theorem q1190 : (Jvm.Cond.methodLink "DebtDoors$Lend" (7 : Nat) ({ cls := "DebtDoors$Payment", name := "<init>", desc := "(LDebtDoors;LDebtDoors$Sum;LDebtDoors$Sum;LDebtDoors$Sum;)V" } : Jvm.MethodName)) ∈ lw_all := lw_g (lw_at lw_m5 106 rfl) rfl
theorem q1194 : (Jvm.Cond.fieldLink "DebtDoors$Lend" (1 : Nat) "DebtDoors$Lend" "this$0" "LDebtDoors;") ∈ lw_all := lw_g (lw_at lw_m5 110 rfl) rfl
theorem q1199 : (Jvm.Cond.laysFinal "DebtDoors$Lend" "DebtDoors$Lend" "this$0" "LDebtDoors;") ∈ lw_all := lw_g (lw_at lw_m5 115 rfl) rfl
theorem q1200 : (Jvm.Cond.soleField "DebtDoors$Lend" "this$0") ∈ lw_all := lw_g (lw_at lw_m5 116 rfl) rfl
theorem q1201 : (Jvm.Cond.laysFinal "DebtDoors$Lend" "DebtDoors$Payment" "one" "LDebtDoors$Sum;") ∈ lw_all := lw_g (lw_at lw_m5 117 rfl) rfl
theorem q1203 : (Jvm.Cond.laysFinal "DebtDoors$Lend" "DebtDoors$Payment" "other" "LDebtDoors$Sum;") ∈ lw_all := lw_g (lw_at lw_m5 119 rfl) rfl
theorem q1205 : (Jvm.Cond.laysFinal "DebtDoors$Lend" "DebtDoors$Payment" "amount" "LDebtDoors$Sum;") ∈ lw_all := lw_g (lw_at lw_m5 121 rfl) rfl
theorem q1207 : (Jvm.Cond.laysFinal "DebtDoors$Lend" "DebtDoors$Payment" "this$0" "LDebtDoors;") ∈ lw_all := lw_g (lw_at lw_m5 123 rfl) rfl
theorem q1209 : (Jvm.Cond.lays "DebtDoors$Lend" "DebtDoors$Order" "test" "LDebtDoors$Test;") ∈ lw_all := lw_g (lw_at lw_m5 125 rfl) rfl
theorem q1210 : (Jvm.Cond.lays "DebtDoors$Lend" "DebtDoors$Order" "times" "I") ∈ lw_all := lw_g (lw_at lw_m5 126 rfl) rfl
theorem q1211 : (Jvm.Cond.lays "DebtDoors$Lend" "DebtDoors$Order" "off" "Z") ∈ lw_all := lw_g (lw_at lw_m5 127 rfl) rfl
theorem q1212 : (Jvm.Cond.laysFinal "DebtDoors$Lend" "DebtDoors$Order" "this$0" "LDebtDoors;") ∈ lw_all := lw_g (lw_at lw_m5 128 rfl) rfl
theorem q1213 : (Jvm.Cond.superclass "DebtDoors$Lend" "DebtDoors$Payment") ∈ lw_all := lw_g (lw_at lw_m5 129 rfl) rfl
theorem q1287 : (Jvm.Cond.selects "DebtDoors$Lend" ({ cls := "java/lang/Object", name := "getClass", desc := "()Ljava/lang/Class;" } : Jvm.MethodName) ({ cls := "java/lang/Object", name := "getClass", desc := "()Ljava/lang/Class;" } : Jvm.MethodName)) ∈ lw_all := lw_g (lw_at lw_m5 203 rfl) rfl
theorem q1848 : (Jvm.Cond.selects "DebtDoors$Lend" ({ cls := "DebtDoors$Order", name := "run", desc := "()I" } : Jvm.MethodName) ({ cls := "DebtDoors$Order", name := "run", desc := "()I" } : Jvm.MethodName)) ∈ lw_all := lw_g (lw_at lw_m8 44 rfl) rfl
theorem q1861 : (Jvm.Cond.selects "DebtDoors$Lend" ({ cls := "DebtDoors$Order", name := "does", desc := "()I" } : Jvm.MethodName) ({ cls := "DebtDoors$Payment", name := "does", desc := "()I" } : Jvm.MethodName)) ∈ lw_all := lw_g (lw_at lw_m8 57 rfl) rfl
theorem q1867 : (Jvm.Cond.selects "DebtDoors$Lend" ({ cls := "DebtDoors$Payment", name := "of", desc := "(LDebtDoors$Sum;)I" } : Jvm.MethodName) ({ cls := "DebtDoors$Order", name := "of", desc := "(LDebtDoors$Sum;)I" } : Jvm.MethodName)) ∈ lw_all := lw_g (lw_at lw_m8 63 rfl) rfl
theorem q1875 : (Jvm.Cond.selects "DebtDoors$Lend" ({ cls := "DebtDoors$Payment", name := "isOff", desc := "()Z" } : Jvm.MethodName) ({ cls := "DebtDoors$Order", name := "isOff", desc := "()Z" } : Jvm.MethodName)) ∈ lw_all := lw_g (lw_at lw_m8 71 rfl) rfl
theorem q1882 : (Jvm.Cond.selects "DebtDoors$Lend" ({ cls := "DebtDoors$Payment", name := "does", desc := "(III)I" } : Jvm.MethodName) ({ cls := "DebtDoors$Lend", name := "does", desc := "(III)I" } : Jvm.MethodName)) ∈ lw_all := lw_g (lw_at lw_m8 78 rfl) rfl
theorem q1883 : (Jvm.Cond.instanceMethod ({ cls := "DebtDoors$Lend", name := "does", desc := "(III)I" } : Jvm.MethodName)) ∈ lw_all := lw_g (lw_at lw_m8 79 rfl) rfl
theorem q1884 : (Jvm.Cond.code ({ cls := "DebtDoors$Lend", name := "does", desc := "(III)I" } : Jvm.MethodName) prog_11_method_2_code (4 : Nat) (Option.some Jvm.ClassFile.FieldType.int)) ∈ lw_all := lw_g (lw_at lw_m8 80 rfl) rfl
theorem q1885 : (Jvm.Cond.methodLinkNest "DebtDoors$Lend" (13 : Nat) ({ cls := "DebtDoors", name := "lendNow", desc := "(III)I" } : Jvm.MethodName) "DebtDoors") ∈ lw_tbl := lw_at lw_m8 81 rfl
theorem q2765 : (Jvm.Cond.castable "DebtDoors$Lend" "java/lang/Object") ∈ lw_tbl := lw_at lw_m12 1 rfl
theorem q2779 : (Jvm.Cond.castable "DebtDoors$Lend" "DebtDoors$Order") ∈ lw_tbl := lw_at lw_m12 15 rfl
theorem in_X23 : ∀ w ∈ wsX230, w ∈ lw_all := lw_in wsX230 [1201, 1203, 1205, 1207, 1209, 1210, 1211, 1212, 1199] (by decide +kernel) (by decide +kernel)
/-! DebtDoors$Repay -/
set_option maxRecDepth 100000
def RX24 : String := "DebtDoors$Repay"
def TX24 : u_T := fun k => match k with
  | 0 => ("DebtDoors$Payment", "one", "LDebtDoors$Sum;", true)
  | 1 => ("DebtDoors$Payment", "other", "LDebtDoors$Sum;", true)
  | 2 => ("DebtDoors$Payment", "amount", "LDebtDoors$Sum;", true)
  | 3 => ("DebtDoors$Payment", "this$0", "LDebtDoors;", true)
  | 4 => ("DebtDoors$Order", "test", "LDebtDoors$Test;", false)
  | 5 => ("DebtDoors$Order", "times", "I", false)
  | 6 => ("DebtDoors$Order", "off", "Z", false)
  | 7 => ("DebtDoors$Order", "this$0", "LDebtDoors;", true)
  | _ => ("DebtDoors$Repay", "this$0", "LDebtDoors;", true)
def tyX24 : Nat → FieldType := fun k => match k with
  | 0 => .object "DebtDoors$Sum"
  | 1 => .object "DebtDoors$Sum"
  | 2 => .object "DebtDoors$Sum"
  | 3 => .object "DebtDoors"
  | 4 => .object "DebtDoors$Test"
  | 5 => .int
  | 6 => .boolean
  | 7 => .object "DebtDoors"
  | _ => .object "DebtDoors"
abbrev wsX240 : List Cond := u_ws RX24 TX24 9
-- two fields of one name: no nmX24
theorem tyX24_ok : ∀ k, k < 9 → parseFieldDescriptor (TX24 k).2.2.1 = some (tyX24 k) := by decide +kernel
abbrev cX24_init : ByteArray := prog_22_method_1_code
def yX24_init : MethodName := ⟨RX24, "<init>", "(LDebtDoors;LDebtDoors$Sum;LDebtDoors$Sum;LDebtDoors$Sum;)V"⟩
abbrev cX24_does : ByteArray := prog_22_method_2_code
def yX24_does : MethodName := ⟨RX24, "does", "(III)I"⟩
theorem q164 : (Jvm.Cond.initialized "DebtDoors$Repay") ∈ lw_all := lw_g (lw_at lw_m1 40 rfl) rfl
theorem q1215 : (Jvm.Cond.instantiable "DebtDoors$Repay" (9 : Nat)) ∈ lw_all := lw_g (lw_at lw_m5 131 rfl) rfl
theorem q1217 : (Jvm.Cond.instanceMethod ({ cls := "DebtDoors$Repay", name := "<init>", desc := "(LDebtDoors;LDebtDoors$Sum;LDebtDoors$Sum;LDebtDoors$Sum;)V" } : Jvm.MethodName)) ∈ lw_all := lw_g (lw_at lw_m5 133 rfl) rfl
theorem q1218 : (Jvm.Cond.code ({ cls := "DebtDoors$Repay", name := "<init>", desc := "(LDebtDoors;LDebtDoors$Sum;LDebtDoors$Sum;LDebtDoors$Sum;)V" } : Jvm.MethodName) prog_22_method_1_code (5 : Nat) (Option.none : Option Jvm.ClassFile.FieldType)) ∈ lw_all := lw_g (lw_at lw_m5 134 rfl) rfl
theorem q1219 : (Jvm.Cond.methodLink "DebtDoors$Repay" (7 : Nat) ({ cls := "DebtDoors$Payment", name := "<init>", desc := "(LDebtDoors;LDebtDoors$Sum;LDebtDoors$Sum;LDebtDoors$Sum;)V" } : Jvm.MethodName)) ∈ lw_all := lw_g (lw_at lw_m5 135 rfl) rfl
theorem q1220 : (Jvm.Cond.fieldLink "DebtDoors$Repay" (1 : Nat) "DebtDoors$Repay" "this$0" "LDebtDoors;") ∈ lw_all := lw_g (lw_at lw_m5 136 rfl) rfl
theorem q1221 : (Jvm.Cond.laysFinal "DebtDoors$Repay" "DebtDoors$Repay" "this$0" "LDebtDoors;") ∈ lw_all := lw_g (lw_at lw_m5 137 rfl) rfl
theorem q1222 : (Jvm.Cond.soleField "DebtDoors$Repay" "this$0") ∈ lw_all := lw_g (lw_at lw_m5 138 rfl) rfl
theorem q1223 : (Jvm.Cond.laysFinal "DebtDoors$Repay" "DebtDoors$Payment" "one" "LDebtDoors$Sum;") ∈ lw_all := lw_g (lw_at lw_m5 139 rfl) rfl
theorem q1224 : (Jvm.Cond.laysFinal "DebtDoors$Repay" "DebtDoors$Payment" "other" "LDebtDoors$Sum;") ∈ lw_all := lw_g (lw_at lw_m5 140 rfl) rfl
theorem q1225 : (Jvm.Cond.laysFinal "DebtDoors$Repay" "DebtDoors$Payment" "amount" "LDebtDoors$Sum;") ∈ lw_all := lw_g (lw_at lw_m5 141 rfl) rfl
theorem q1226 : (Jvm.Cond.laysFinal "DebtDoors$Repay" "DebtDoors$Payment" "this$0" "LDebtDoors;") ∈ lw_all := lw_g (lw_at lw_m5 142 rfl) rfl
theorem q1227 : (Jvm.Cond.lays "DebtDoors$Repay" "DebtDoors$Order" "test" "LDebtDoors$Test;") ∈ lw_all := lw_g (lw_at lw_m5 143 rfl) rfl
theorem q1228 : (Jvm.Cond.lays "DebtDoors$Repay" "DebtDoors$Order" "times" "I") ∈ lw_all := lw_g (lw_at lw_m5 144 rfl) rfl
theorem q1229 : (Jvm.Cond.lays "DebtDoors$Repay" "DebtDoors$Order" "off" "Z") ∈ lw_all := lw_g (lw_at lw_m5 145 rfl) rfl
theorem q1230 : (Jvm.Cond.laysFinal "DebtDoors$Repay" "DebtDoors$Order" "this$0" "LDebtDoors;") ∈ lw_all := lw_g (lw_at lw_m5 146 rfl) rfl
theorem q1231 : (Jvm.Cond.superclass "DebtDoors$Repay" "DebtDoors$Payment") ∈ lw_all := lw_g (lw_at lw_m5 147 rfl) rfl
theorem q1295 : (Jvm.Cond.selects "DebtDoors$Repay" ({ cls := "java/lang/Object", name := "getClass", desc := "()Ljava/lang/Class;" } : Jvm.MethodName) ({ cls := "java/lang/Object", name := "getClass", desc := "()Ljava/lang/Class;" } : Jvm.MethodName)) ∈ lw_all := lw_g (lw_at lw_m5 211 rfl) rfl
theorem q1849 : (Jvm.Cond.selects "DebtDoors$Repay" ({ cls := "DebtDoors$Order", name := "run", desc := "()I" } : Jvm.MethodName) ({ cls := "DebtDoors$Order", name := "run", desc := "()I" } : Jvm.MethodName)) ∈ lw_all := lw_g (lw_at lw_m8 45 rfl) rfl
theorem q1868 : (Jvm.Cond.selects "DebtDoors$Repay" ({ cls := "DebtDoors$Payment", name := "of", desc := "(LDebtDoors$Sum;)I" } : Jvm.MethodName) ({ cls := "DebtDoors$Order", name := "of", desc := "(LDebtDoors$Sum;)I" } : Jvm.MethodName)) ∈ lw_all := lw_g (lw_at lw_m8 64 rfl) rfl
theorem q1876 : (Jvm.Cond.selects "DebtDoors$Repay" ({ cls := "DebtDoors$Payment", name := "isOff", desc := "()Z" } : Jvm.MethodName) ({ cls := "DebtDoors$Order", name := "isOff", desc := "()Z" } : Jvm.MethodName)) ∈ lw_all := lw_g (lw_at lw_m8 72 rfl) rfl
theorem q1886 : (Jvm.Cond.selects "DebtDoors$Repay" ({ cls := "DebtDoors$Payment", name := "does", desc := "(III)I" } : Jvm.MethodName) ({ cls := "DebtDoors$Repay", name := "does", desc := "(III)I" } : Jvm.MethodName)) ∈ lw_all := lw_g (lw_at lw_m8 82 rfl) rfl
theorem q1887 : (Jvm.Cond.instanceMethod ({ cls := "DebtDoors$Repay", name := "does", desc := "(III)I" } : Jvm.MethodName)) ∈ lw_all := lw_g (lw_at lw_m8 83 rfl) rfl
theorem q1888 : (Jvm.Cond.code ({ cls := "DebtDoors$Repay", name := "does", desc := "(III)I" } : Jvm.MethodName) prog_22_method_2_code (4 : Nat) (Option.some Jvm.ClassFile.FieldType.int)) ∈ lw_all := lw_g (lw_at lw_m8 84 rfl) rfl
theorem q1889 : (Jvm.Cond.methodLinkNest "DebtDoors$Repay" (13 : Nat) ({ cls := "DebtDoors", name := "repayNow", desc := "(III)I" } : Jvm.MethodName) "DebtDoors") ∈ lw_tbl := lw_at lw_m8 85 rfl
theorem q1890 : (Jvm.Cond.selects "DebtDoors$Repay" ({ cls := "DebtDoors$Order", name := "does", desc := "()I" } : Jvm.MethodName) ({ cls := "DebtDoors$Payment", name := "does", desc := "()I" } : Jvm.MethodName)) ∈ lw_all := lw_g (lw_at lw_m8 86 rfl) rfl
theorem q2766 : (Jvm.Cond.castable "DebtDoors$Repay" "java/lang/Object") ∈ lw_tbl := lw_at lw_m12 2 rfl
theorem q2780 : (Jvm.Cond.castable "DebtDoors$Repay" "DebtDoors$Order") ∈ lw_tbl := lw_at lw_m12 16 rfl
theorem in_X24 : ∀ w ∈ wsX240, w ∈ lw_all := lw_in wsX240 [1223, 1224, 1225, 1226, 1227, 1228, 1229, 1230, 1221] (by decide +kernel) (by decide +kernel)
/-! DebtDoors$OrderReader -/
set_option maxRecDepth 100000
def RX25 : String := "DebtDoors$OrderReader"
def TX25 : u_T := fun k => match k with
  | 0 => ("DebtDoors$Reader", "from", "I", false)
  | 1 => ("DebtDoors$Reader", "to", "I", false)
  | 2 => ("DebtDoors$Reader", "leaves", "I", false)
  | 3 => ("DebtDoors$Reader", "deep", "I", false)
  | 4 => ("DebtDoors$Reader", "piled", "I", false)
  | 5 => ("DebtDoors$Reader", "pile", "[LDebtDoors$Test;", true)
  | 6 => ("DebtDoors$Reader", "words", "[Ljava/lang/String;", true)
  | 7 => ("DebtDoors$Reader", "this$0", "LDebtDoors;", true)
  | 8 => ("DebtDoors$OrderReader", "row", "[LDebtDoors$Order;", true)
  | _ => ("DebtDoors$OrderReader", "this$0", "LDebtDoors;", true)
def tyX25 : Nat → FieldType := fun k => match k with
  | 0 => .int
  | 1 => .int
  | 2 => .int
  | 3 => .int
  | 4 => .int
  | 5 => .array (.object "DebtDoors$Test")
  | 6 => .array (.object "java/lang/String")
  | 7 => .object "DebtDoors"
  | 8 => .array (.object "DebtDoors$Order")
  | _ => .object "DebtDoors"
abbrev wsX250 : List Cond := u_ws RX25 TX25 10
-- two fields of one name: no nmX25
theorem tyX25_ok : ∀ k, k < 10 → parseFieldDescriptor (TX25 k).2.2.1 = some (tyX25 k) := by decide +kernel
abbrev cX25_behindWord : ByteArray := prog_15_method_5_code
def yX25_behindWord : MethodName := ⟨RX25, "behindWord", "(I)LDebtDoors$Sum;"⟩
abbrev cX25_read : ByteArray := prog_15_method_7_code
def yX25_read : MethodName := ⟨RX25, "read", "(I)V"⟩
abbrev cX25_act : ByteArray := prog_15_method_6_code
def yX25_act : MethodName := ⟨RX25, "act", "()LDebtDoors$Order;"⟩
abbrev cX25_behind : ByteArray := prog_15_method_3_code
def yX25_behind : MethodName := ⟨RX25, "behind", "(Ljava/lang/String;)LDebtDoors$Sum;"⟩
abbrev cX25_isNought : ByteArray := prog_15_method_4_code
def yX25_isNought : MethodName := ⟨RX25, "isNought", "()Z"⟩
abbrev cX25_init : ByteArray := prog_15_method_1_code
def yX25_init : MethodName := ⟨RX25, "<init>", "(LDebtDoors;)V"⟩
abbrev cX25_read_2 : ByteArray := prog_15_method_2_code
def yX25_read_2 : MethodName := ⟨RX25, "read", "()[LDebtDoors$Order;"⟩
theorem q167 : (Jvm.Cond.initialized "DebtDoors$OrderReader") ∈ lw_all := lw_g (lw_at lw_m1 43 rfl) rfl
theorem q357 : (Jvm.Cond.fieldLinkNest "DebtDoors$OrderReader" (64 : Nat) "DebtDoors" "tape" "[B" "DebtDoors") ∈ lw_tbl := lw_at lw_m1 233 rfl
theorem q745 : (Jvm.Cond.fieldLink "DebtDoors$OrderReader" (57 : Nat) "DebtDoors$OrderReader" "from" "I") ∈ lw_all := lw_g (lw_at lw_m3 141 rfl) rfl
theorem q746 : (Jvm.Cond.sameField "DebtDoors$OrderReader" "DebtDoors$Reader" "from" "I") ∈ lw_all := lw_g (lw_at lw_m3 142 rfl) rfl
theorem q748 : (Jvm.Cond.fieldLink "DebtDoors$OrderReader" (61 : Nat) "DebtDoors$OrderReader" "to" "I") ∈ lw_all := lw_g (lw_at lw_m3 144 rfl) rfl
theorem q749 : (Jvm.Cond.sameField "DebtDoors$OrderReader" "DebtDoors$Reader" "to" "I") ∈ lw_all := lw_g (lw_at lw_m3 145 rfl) rfl
theorem q793 : (Jvm.Cond.selects "DebtDoors$OrderReader" ({ cls := "DebtDoors$Reader", name := "next", desc := "()V" } : Jvm.MethodName) ({ cls := "DebtDoors$Reader", name := "next", desc := "()V" } : Jvm.MethodName)) ∈ lw_all := lw_g (lw_at lw_m3 189 rfl) rfl
theorem q805 : (Jvm.Cond.selects "DebtDoors$OrderReader" ({ cls := "DebtDoors$Reader", name := "must", desc := "(Z)V" } : Jvm.MethodName) ({ cls := "DebtDoors$Reader", name := "must", desc := "(Z)V" } : Jvm.MethodName)) ∈ lw_all := lw_g (lw_at lw_m3 201 rfl) rfl
theorem q847 : (Jvm.Cond.selects "DebtDoors$OrderReader" ({ cls := "DebtDoors$Reader", name := "isWord", desc := "(Ljava/lang/String;)Z" } : Jvm.MethodName) ({ cls := "DebtDoors$Reader", name := "isWord", desc := "(Ljava/lang/String;)Z" } : Jvm.MethodName)) ∈ lw_all := lw_g (lw_at lw_m4 3 rfl) rfl
theorem q932 : (Jvm.Cond.selects "DebtDoors$OrderReader" ({ cls := "DebtDoors$Reader", name := "accept", desc := "(Ljava/lang/String;)Z" } : Jvm.MethodName) ({ cls := "DebtDoors$Reader", name := "accept", desc := "(Ljava/lang/String;)Z" } : Jvm.MethodName)) ∈ lw_all := lw_g (lw_at lw_m4 88 rfl) rfl
theorem q945 : (Jvm.Cond.selects "DebtDoors$OrderReader" ({ cls := "DebtDoors$Reader", name := "number", desc := "(I)I" } : Jvm.MethodName) ({ cls := "DebtDoors$Reader", name := "number", desc := "(I)I" } : Jvm.MethodName)) ∈ lw_all := lw_g (lw_at lw_m4 101 rfl) rfl
theorem q962 : (Jvm.Cond.selects "DebtDoors$OrderReader" ({ cls := "DebtDoors$Reader", name := "behindWord", desc := "(I)LDebtDoors$Sum;" } : Jvm.MethodName) ({ cls := "DebtDoors$OrderReader", name := "behindWord", desc := "(I)LDebtDoors$Sum;" } : Jvm.MethodName)) ∈ lw_all := lw_g (lw_at lw_m4 118 rfl) rfl
theorem q963 : (Jvm.Cond.instanceMethod ({ cls := "DebtDoors$OrderReader", name := "behindWord", desc := "(I)LDebtDoors$Sum;" } : Jvm.MethodName)) ∈ lw_all := lw_g (lw_at lw_m4 119 rfl) rfl
theorem q964 : (Jvm.Cond.code ({ cls := "DebtDoors$OrderReader", name := "behindWord", desc := "(I)LDebtDoors$Sum;" } : Jvm.MethodName) prog_15_method_5_code (3 : Nat) (Option.some (Jvm.ClassFile.FieldType.object "DebtDoors$Sum"))) ∈ lw_all := lw_g (lw_at lw_m4 120 rfl) rfl
theorem q965 : (Jvm.Cond.classLink "DebtDoors$OrderReader" (70 : Nat) "DebtDoors$Purse") ∈ lw_all := lw_g (lw_at lw_m4 121 rfl) rfl
theorem q967 : (Jvm.Cond.methodLink "DebtDoors$OrderReader" (72 : Nat) ({ cls := "DebtDoors$OrderReader", name := "number", desc := "(I)I" } : Jvm.MethodName)) ∈ lw_all := lw_g (lw_at lw_m4 123 rfl) rfl
theorem q968 : (Jvm.Cond.sameMethod "DebtDoors$OrderReader" "DebtDoors$Reader" "number" "(I)I") ∈ lw_all := lw_g (lw_at lw_m4 124 rfl) rfl
theorem q970 : (Jvm.Cond.selects "DebtDoors$OrderReader" ({ cls := "DebtDoors$OrderReader", name := "number", desc := "(I)I" } : Jvm.MethodName) ({ cls := "DebtDoors$Reader", name := "number", desc := "(I)I" } : Jvm.MethodName)) ∈ lw_all := lw_g (lw_at lw_m4 126 rfl) rfl
theorem q971 : (Jvm.Cond.methodLink "DebtDoors$OrderReader" (76 : Nat) ({ cls := "DebtDoors$Purse", name := "<init>", desc := "(LDebtDoors;I)V" } : Jvm.MethodName)) ∈ lw_all := lw_g (lw_at lw_m4 127 rfl) rfl
theorem q982 : (Jvm.Cond.classLink "DebtDoors$OrderReader" (79 : Nat) "DebtDoors$Part") ∈ lw_all := lw_g (lw_at lw_m4 138 rfl) rfl
theorem q984 : (Jvm.Cond.methodLink "DebtDoors$OrderReader" (81 : Nat) ({ cls := "DebtDoors$Part", name := "<init>", desc := "(I)V" } : Jvm.MethodName)) ∈ lw_all := lw_g (lw_at lw_m4 140 rfl) rfl
theorem q992 : (Jvm.Cond.classLink "DebtDoors$OrderReader" (84 : Nat) "DebtDoors$Owed") ∈ lw_all := lw_g (lw_at lw_m4 148 rfl) rfl
theorem q994 : (Jvm.Cond.methodLink "DebtDoors$OrderReader" (86 : Nat) ({ cls := "DebtDoors$Owed", name := "<init>", desc := "(LDebtDoors;II)V" } : Jvm.MethodName)) ∈ lw_all := lw_g (lw_at lw_m4 150 rfl) rfl
theorem q1131 : (Jvm.Cond.selects "DebtDoors$OrderReader" ({ cls := "DebtDoors$Reader", name := "read", desc := "(I)V" } : Jvm.MethodName) ({ cls := "DebtDoors$OrderReader", name := "read", desc := "(I)V" } : Jvm.MethodName)) ∈ lw_all := lw_g (lw_at lw_m5 47 rfl) rfl
theorem q1132 : (Jvm.Cond.instanceMethod ({ cls := "DebtDoors$OrderReader", name := "read", desc := "(I)V" } : Jvm.MethodName)) ∈ lw_all := lw_g (lw_at lw_m5 48 rfl) rfl
theorem q1133 : (Jvm.Cond.code ({ cls := "DebtDoors$OrderReader", name := "read", desc := "(I)V" } : Jvm.MethodName) prog_15_method_7_code (3 : Nat) (Option.none : Option Jvm.ClassFile.FieldType)) ∈ lw_all := lw_g (lw_at lw_m5 49 rfl) rfl
theorem q1134 : (Jvm.Cond.methodLink "DebtDoors$OrderReader" (115 : Nat) ({ cls := "DebtDoors$OrderReader", name := "act", desc := "()LDebtDoors$Order;" } : Jvm.MethodName)) ∈ lw_all := lw_g (lw_at lw_m5 50 rfl) rfl
theorem q1135 : (Jvm.Cond.privateMethod ({ cls := "DebtDoors$OrderReader", name := "act", desc := "()LDebtDoors$Order;" } : Jvm.MethodName)) ∈ lw_tbl := lw_at lw_m5 51 rfl
theorem q1136 : (Jvm.Cond.instanceMethod ({ cls := "DebtDoors$OrderReader", name := "act", desc := "()LDebtDoors$Order;" } : Jvm.MethodName)) ∈ lw_all := lw_g (lw_at lw_m5 52 rfl) rfl
theorem q1137 : (Jvm.Cond.instantiable "DebtDoors$OrderReader" (10 : Nat)) ∈ lw_all := lw_g (lw_at lw_m5 53 rfl) rfl
theorem q1138 : (Jvm.Cond.code ({ cls := "DebtDoors$OrderReader", name := "act", desc := "()LDebtDoors$Order;" } : Jvm.MethodName) prog_15_method_6_code (5 : Nat) (Option.some (Jvm.ClassFile.FieldType.object "DebtDoors$Order"))) ∈ lw_all := lw_g (lw_at lw_m5 54 rfl) rfl
theorem q1139 : (Jvm.Cond.stringRef "DebtDoors$OrderReader" (89 : Nat) "wait") ∈ lw_tbl := lw_at lw_m5 55 rfl
theorem q1140 : (Jvm.Cond.methodLink "DebtDoors$OrderReader" (45 : Nat) ({ cls := "DebtDoors$OrderReader", name := "accept", desc := "(Ljava/lang/String;)Z" } : Jvm.MethodName)) ∈ lw_all := lw_g (lw_at lw_m5 56 rfl) rfl
theorem q1141 : (Jvm.Cond.sameMethod "DebtDoors$OrderReader" "DebtDoors$Reader" "accept" "(Ljava/lang/String;)Z") ∈ lw_all := lw_g (lw_at lw_m5 57 rfl) rfl
theorem q1142 : (Jvm.Cond.selects "DebtDoors$OrderReader" ({ cls := "DebtDoors$OrderReader", name := "accept", desc := "(Ljava/lang/String;)Z" } : Jvm.MethodName) ({ cls := "DebtDoors$Reader", name := "accept", desc := "(Ljava/lang/String;)Z" } : Jvm.MethodName)) ∈ lw_all := lw_g (lw_at lw_m5 58 rfl) rfl
theorem q1143 : (Jvm.Cond.classLink "DebtDoors$OrderReader" (91 : Nat) "DebtDoors$Wait") ∈ lw_all := lw_g (lw_at lw_m5 59 rfl) rfl
theorem q1145 : (Jvm.Cond.methodLinkNest "DebtDoors$OrderReader" (93 : Nat) ({ cls := "DebtDoors$Wait", name := "<init>", desc := "(LDebtDoors;)V" } : Jvm.MethodName) "DebtDoors") ∈ lw_tbl := lw_at lw_m5 61 rfl
theorem q1154 : (Jvm.Cond.fieldLink "DebtDoors$OrderReader" (133 : Nat) "DebtDoors$Order" "test" "LDebtDoors$Test;") ∈ lw_all := lw_g (lw_at lw_m5 70 rfl) rfl
theorem q1156 : (Jvm.Cond.fieldLink "DebtDoors$OrderReader" (125 : Nat) "DebtDoors$Order" "times" "I") ∈ lw_all := lw_g (lw_at lw_m5 72 rfl) rfl
theorem q1171 : (Jvm.Cond.stringRef "DebtDoors$OrderReader" (96 : Nat) "lend") ∈ lw_tbl := lw_at lw_m5 87 rfl
theorem q1172 : (Jvm.Cond.stringRef "DebtDoors$OrderReader" (98 : Nat) "repay") ∈ lw_tbl := lw_at lw_m5 88 rfl
theorem q1173 : (Jvm.Cond.methodLink "DebtDoors$OrderReader" (49 : Nat) ({ cls := "DebtDoors$OrderReader", name := "must", desc := "(Z)V" } : Jvm.MethodName)) ∈ lw_all := lw_g (lw_at lw_m5 89 rfl) rfl
theorem q1174 : (Jvm.Cond.sameMethod "DebtDoors$OrderReader" "DebtDoors$Reader" "must" "(Z)V") ∈ lw_all := lw_g (lw_at lw_m5 90 rfl) rfl
theorem q1175 : (Jvm.Cond.selects "DebtDoors$OrderReader" ({ cls := "DebtDoors$OrderReader", name := "must", desc := "(Z)V" } : Jvm.MethodName) ({ cls := "DebtDoors$Reader", name := "must", desc := "(Z)V" } : Jvm.MethodName)) ∈ lw_all := lw_g (lw_at lw_m5 91 rfl) rfl
theorem q1176 : (Jvm.Cond.methodLink "DebtDoors$OrderReader" (53 : Nat) ({ cls := "DebtDoors$OrderReader", name := "sum", desc := "()LDebtDoors$Sum;" } : Jvm.MethodName)) ∈ lw_all := lw_g (lw_at lw_m5 92 rfl) rfl
theorem q1177 : (Jvm.Cond.sameMethod "DebtDoors$OrderReader" "DebtDoors$Reader" "sum" "()LDebtDoors$Sum;") ∈ lw_all := lw_g (lw_at lw_m5 93 rfl) rfl
theorem q1178 : (Jvm.Cond.selects "DebtDoors$OrderReader" ({ cls := "DebtDoors$OrderReader", name := "sum", desc := "()LDebtDoors$Sum;" } : Jvm.MethodName) ({ cls := "DebtDoors$Reader", name := "sum", desc := "()LDebtDoors$Sum;" } : Jvm.MethodName)) ∈ lw_all := lw_g (lw_at lw_m5 94 rfl) rfl
theorem q1179 : (Jvm.Cond.stringRef "DebtDoors$OrderReader" (100 : Nat) "to") ∈ lw_tbl := lw_at lw_m5 95 rfl
theorem q1180 : (Jvm.Cond.methodLink "DebtDoors$OrderReader" (101 : Nat) ({ cls := "DebtDoors$OrderReader", name := "behind", desc := "(Ljava/lang/String;)LDebtDoors$Sum;" } : Jvm.MethodName)) ∈ lw_all := lw_g (lw_at lw_m5 96 rfl) rfl
theorem q1181 : (Jvm.Cond.privateMethod ({ cls := "DebtDoors$OrderReader", name := "behind", desc := "(Ljava/lang/String;)LDebtDoors$Sum;" } : Jvm.MethodName)) ∈ lw_tbl := lw_at lw_m5 97 rfl
theorem q1182 : (Jvm.Cond.instanceMethod ({ cls := "DebtDoors$OrderReader", name := "behind", desc := "(Ljava/lang/String;)LDebtDoors$Sum;" } : Jvm.MethodName)) ∈ lw_all := lw_g (lw_at lw_m5 98 rfl) rfl
theorem q1183 : (Jvm.Cond.code ({ cls := "DebtDoors$OrderReader", name := "behind", desc := "(Ljava/lang/String;)LDebtDoors$Sum;" } : Jvm.MethodName) prog_15_method_3_code (2 : Nat) (Option.some (Jvm.ClassFile.FieldType.object "DebtDoors$Sum"))) ∈ lw_all := lw_g (lw_at lw_m5 99 rfl) rfl
theorem q1184 : (Jvm.Cond.stringRef "DebtDoors$OrderReader" (105 : Nat) "of") ∈ lw_tbl := lw_at lw_m5 100 rfl
theorem q1185 : (Jvm.Cond.classLink "DebtDoors$OrderReader" (107 : Nat) "DebtDoors$Lend") ∈ lw_all := lw_g (lw_at lw_m5 101 rfl) rfl
theorem q1187 : (Jvm.Cond.methodLink "DebtDoors$OrderReader" (109 : Nat) ({ cls := "DebtDoors$Lend", name := "<init>", desc := "(LDebtDoors;LDebtDoors$Sum;LDebtDoors$Sum;LDebtDoors$Sum;)V" } : Jvm.MethodName)) ∈ lw_all := lw_g (lw_at lw_m5 103 rfl) rfl
theorem q1214 : (Jvm.Cond.classLink "DebtDoors$OrderReader" (112 : Nat) "DebtDoors$Repay") ∈ lw_all := lw_g (lw_at lw_m5 130 rfl) rfl
theorem q1216 : (Jvm.Cond.methodLink "DebtDoors$OrderReader" (114 : Nat) ({ cls := "DebtDoors$Repay", name := "<init>", desc := "(LDebtDoors;LDebtDoors$Sum;LDebtDoors$Sum;LDebtDoors$Sum;)V" } : Jvm.MethodName)) ∈ lw_all := lw_g (lw_at lw_m5 132 rfl) rfl
theorem q1232 : (Jvm.Cond.stringRef "DebtDoors$OrderReader" (119 : Nat) "times") ∈ lw_tbl := lw_at lw_m5 148 rfl
theorem q1233 : (Jvm.Cond.methodLink "DebtDoors$OrderReader" (121 : Nat) ({ cls := "DebtDoors$OrderReader", name := "isNought", desc := "()Z" } : Jvm.MethodName)) ∈ lw_all := lw_g (lw_at lw_m5 149 rfl) rfl
theorem q1234 : (Jvm.Cond.privateMethod ({ cls := "DebtDoors$OrderReader", name := "isNought", desc := "()Z" } : Jvm.MethodName)) ∈ lw_tbl := lw_at lw_m5 150 rfl
theorem q1235 : (Jvm.Cond.instanceMethod ({ cls := "DebtDoors$OrderReader", name := "isNought", desc := "()Z" } : Jvm.MethodName)) ∈ lw_all := lw_g (lw_at lw_m5 151 rfl) rfl
theorem q1236 : (Jvm.Cond.code ({ cls := "DebtDoors$OrderReader", name := "isNought", desc := "()Z" } : Jvm.MethodName) prog_15_method_4_code (3 : Nat) (Option.some Jvm.ClassFile.FieldType.boolean)) ∈ lw_all := lw_g (lw_at lw_m5 152 rfl) rfl
theorem q1237 : (Jvm.Cond.stringRef "DebtDoors$OrderReader" (127 : Nat) "if") ∈ lw_tbl := lw_at lw_m5 153 rfl
theorem q1238 : (Jvm.Cond.methodLink "DebtDoors$OrderReader" (129 : Nat) ({ cls := "DebtDoors$OrderReader", name := "test", desc := "()LDebtDoors$Test;" } : Jvm.MethodName)) ∈ lw_all := lw_g (lw_at lw_m5 154 rfl) rfl
theorem q1239 : (Jvm.Cond.sameMethod "DebtDoors$OrderReader" "DebtDoors$Reader" "test" "()LDebtDoors$Test;") ∈ lw_all := lw_g (lw_at lw_m5 155 rfl) rfl
theorem q1240 : (Jvm.Cond.selects "DebtDoors$OrderReader" ({ cls := "DebtDoors$OrderReader", name := "test", desc := "()LDebtDoors$Test;" } : Jvm.MethodName) ({ cls := "DebtDoors$Reader", name := "test", desc := "()LDebtDoors$Test;" } : Jvm.MethodName)) ∈ lw_all := lw_g (lw_at lw_m5 156 rfl) rfl
theorem q1290 : (Jvm.Cond.selects "DebtDoors$OrderReader" ({ cls := "java/lang/Object", name := "getClass", desc := "()Ljava/lang/Class;" } : Jvm.MethodName) ({ cls := "java/lang/Object", name := "getClass", desc := "()Ljava/lang/Class;" } : Jvm.MethodName)) ∈ lw_all := lw_g (lw_at lw_m5 206 rfl) rfl
theorem q1782 : (Jvm.Cond.instanceMethod ({ cls := "DebtDoors$OrderReader", name := "<init>", desc := "(LDebtDoors;)V" } : Jvm.MethodName)) ∈ lw_all := lw_g (lw_at lw_m7 218 rfl) rfl
theorem q1783 : (Jvm.Cond.code ({ cls := "DebtDoors$OrderReader", name := "<init>", desc := "(LDebtDoors;)V" } : Jvm.MethodName) prog_15_method_1_code (2 : Nat) (Option.none : Option Jvm.ClassFile.FieldType)) ∈ lw_all := lw_g (lw_at lw_m7 219 rfl) rfl
theorem q1784 : (Jvm.Cond.classLink "DebtDoors$OrderReader" (9 : Nat) "java/lang/String") ∈ lw_all := lw_g (lw_at lw_m7 220 rfl) rfl
theorem q1785 : (Jvm.Cond.stringRef "DebtDoors$OrderReader" (11 : Nat) "day") ∈ lw_tbl := lw_at lw_m7 221 rfl
theorem q1786 : (Jvm.Cond.stringRef "DebtDoors$OrderReader" (13 : Nat) "debts") ∈ lw_tbl := lw_at lw_m7 222 rfl
theorem q1787 : (Jvm.Cond.stringRef "DebtDoors$OrderReader" (15 : Nat) "done") ∈ lw_tbl := lw_at lw_m7 223 rfl
theorem q1788 : (Jvm.Cond.stringRef "DebtDoors$OrderReader" (17 : Nat) "last") ∈ lw_tbl := lw_at lw_m7 224 rfl
theorem q1789 : (Jvm.Cond.stringRef "DebtDoors$OrderReader" (19 : Nat) "purse") ∈ lw_tbl := lw_at lw_m7 225 rfl
theorem q1790 : (Jvm.Cond.stringRef "DebtDoors$OrderReader" (21 : Nat) "owed") ∈ lw_tbl := lw_at lw_m7 226 rfl
theorem q1791 : (Jvm.Cond.methodLink "DebtDoors$OrderReader" (23 : Nat) ({ cls := "DebtDoors$Reader", name := "<init>", desc := "(LDebtDoors;[Ljava/lang/String;)V" } : Jvm.MethodName)) ∈ lw_all := lw_g (lw_at lw_m7 227 rfl) rfl
theorem q1792 : (Jvm.Cond.classLink "DebtDoors$OrderReader" (29 : Nat) "DebtDoors$Order") ∈ lw_all := lw_g (lw_at lw_m7 228 rfl) rfl
theorem q1794 : (Jvm.Cond.fieldLink "DebtDoors$OrderReader" (31 : Nat) "DebtDoors$OrderReader" "row" "[LDebtDoors$Order;") ∈ lw_all := lw_g (lw_at lw_m7 230 rfl) rfl
theorem q1795 : (Jvm.Cond.fieldLink "DebtDoors$OrderReader" (3 : Nat) "DebtDoors$OrderReader" "this$0" "LDebtDoors;") ∈ lw_all := lw_g (lw_at lw_m7 231 rfl) rfl
theorem q1796 : (Jvm.Cond.laysFinal "DebtDoors$OrderReader" "DebtDoors$OrderReader" "row" "[LDebtDoors$Order;") ∈ lw_all := lw_g (lw_at lw_m7 232 rfl) rfl
theorem q1797 : (Jvm.Cond.soleField "DebtDoors$OrderReader" "row") ∈ lw_all := lw_g (lw_at lw_m7 233 rfl) rfl
theorem q1798 : (Jvm.Cond.laysFinal "DebtDoors$OrderReader" "DebtDoors$OrderReader" "this$0" "LDebtDoors;") ∈ lw_all := lw_g (lw_at lw_m7 234 rfl) rfl
theorem q1799 : (Jvm.Cond.soleField "DebtDoors$OrderReader" "this$0") ∈ lw_all := lw_g (lw_at lw_m7 235 rfl) rfl
theorem q1800 : (Jvm.Cond.lays "DebtDoors$OrderReader" "DebtDoors$Reader" "from" "I") ∈ lw_all := lw_g (lw_at lw_m7 236 rfl) rfl
theorem q1801 : (Jvm.Cond.lays "DebtDoors$OrderReader" "DebtDoors$Reader" "to" "I") ∈ lw_all := lw_g (lw_at lw_m7 237 rfl) rfl
theorem q1802 : (Jvm.Cond.lays "DebtDoors$OrderReader" "DebtDoors$Reader" "leaves" "I") ∈ lw_all := lw_g (lw_at lw_m7 238 rfl) rfl
theorem q1803 : (Jvm.Cond.lays "DebtDoors$OrderReader" "DebtDoors$Reader" "deep" "I") ∈ lw_all := lw_g (lw_at lw_m7 239 rfl) rfl
theorem q1804 : (Jvm.Cond.lays "DebtDoors$OrderReader" "DebtDoors$Reader" "piled" "I") ∈ lw_all := lw_g (lw_at lw_m8 0 rfl) rfl
theorem q1805 : (Jvm.Cond.laysFinal "DebtDoors$OrderReader" "DebtDoors$Reader" "pile" "[LDebtDoors$Test;") ∈ lw_all := lw_g (lw_at lw_m8 1 rfl) rfl
theorem q1806 : (Jvm.Cond.laysFinal "DebtDoors$OrderReader" "DebtDoors$Reader" "words" "[Ljava/lang/String;") ∈ lw_all := lw_g (lw_at lw_m8 2 rfl) rfl
theorem q1807 : (Jvm.Cond.laysFinal "DebtDoors$OrderReader" "DebtDoors$Reader" "this$0" "LDebtDoors;") ∈ lw_all := lw_g (lw_at lw_m8 3 rfl) rfl
theorem q1808 : (Jvm.Cond.superclass "DebtDoors$OrderReader" "DebtDoors$Reader") ∈ lw_all := lw_g (lw_at lw_m8 4 rfl) rfl
theorem q1810 : (Jvm.Cond.instanceMethod ({ cls := "DebtDoors$OrderReader", name := "read", desc := "()[LDebtDoors$Order;" } : Jvm.MethodName)) ∈ lw_all := lw_g (lw_at lw_m8 6 rfl) rfl
theorem q1811 : (Jvm.Cond.selects "DebtDoors$OrderReader" ({ cls := "DebtDoors$OrderReader", name := "read", desc := "()[LDebtDoors$Order;" } : Jvm.MethodName) ({ cls := "DebtDoors$OrderReader", name := "read", desc := "()[LDebtDoors$Order;" } : Jvm.MethodName)) ∈ lw_all := lw_g (lw_at lw_m8 7 rfl) rfl
theorem q1812 : (Jvm.Cond.code ({ cls := "DebtDoors$OrderReader", name := "read", desc := "()[LDebtDoors$Order;" } : Jvm.MethodName) prog_15_method_2_code (2 : Nat) (Option.some (Jvm.ClassFile.FieldType.array (Jvm.ClassFile.FieldType.object "DebtDoors$Order")))) ∈ lw_all := lw_g (lw_at lw_m8 8 rfl) rfl
theorem q1813 : (Jvm.Cond.methodLink "DebtDoors$OrderReader" (35 : Nat) ({ cls := "DebtDoors$OrderReader", name := "readAll", desc := "()I" } : Jvm.MethodName)) ∈ lw_all := lw_g (lw_at lw_m8 9 rfl) rfl
theorem q1814 : (Jvm.Cond.sameMethod "DebtDoors$OrderReader" "DebtDoors$Reader" "readAll" "()I") ∈ lw_all := lw_g (lw_at lw_m8 10 rfl) rfl
theorem q1815 : (Jvm.Cond.selects "DebtDoors$OrderReader" ({ cls := "DebtDoors$OrderReader", name := "readAll", desc := "()I" } : Jvm.MethodName) ({ cls := "DebtDoors$Reader", name := "readAll", desc := "()I" } : Jvm.MethodName)) ∈ lw_all := lw_g (lw_at lw_m8 11 rfl) rfl
theorem q1816 : (Jvm.Cond.methodLink "DebtDoors$OrderReader" (39 : Nat) ({ cls := "java/lang/System", name := "arraycopy", desc := "(Ljava/lang/Object;ILjava/lang/Object;II)V" } : Jvm.MethodName)) ∈ lw_all := lw_g (lw_at lw_m8 12 rfl) rfl
theorem q2723 : (Jvm.Cond.selects "DebtDoors$OrderReader" ({ cls := "DebtDoors$Reader", name := "sum", desc := "()LDebtDoors$Sum;" } : Jvm.MethodName) ({ cls := "DebtDoors$Reader", name := "sum", desc := "()LDebtDoors$Sum;" } : Jvm.MethodName)) ∈ lw_all := lw_g (lw_at lw_m11 199 rfl) rfl
theorem q2727 : (Jvm.Cond.selects "DebtDoors$OrderReader" ({ cls := "DebtDoors$Reader", name := "which", desc := "([Ljava/lang/String;)I" } : Jvm.MethodName) ({ cls := "DebtDoors$Reader", name := "which", desc := "([Ljava/lang/String;)I" } : Jvm.MethodName)) ∈ lw_all := lw_g (lw_at lw_m11 203 rfl) rfl
theorem q2733 : (Jvm.Cond.selects "DebtDoors$OrderReader" ({ cls := "DebtDoors$Reader", name := "test", desc := "()LDebtDoors$Test;" } : Jvm.MethodName) ({ cls := "DebtDoors$Reader", name := "test", desc := "()LDebtDoors$Test;" } : Jvm.MethodName)) ∈ lw_all := lw_g (lw_at lw_m11 209 rfl) rfl
theorem q2761 : (Jvm.Cond.castable "DebtDoors$OrderReader" "java/lang/Object") ∈ lw_tbl := lw_at lw_m11 237 rfl
theorem in_X25 : ∀ w ∈ wsX250, w ∈ lw_all := lw_in wsX250 [1800, 1801, 1802, 1803, 1804, 1805, 1806, 1807, 1796, 1798] (by decide +kernel) (by decide +kernel)
/-! DebtDoors$Done -/
set_option maxRecDepth 100000
def RX26 : String := "DebtDoors$Done"
def TX26 : u_T := fun k => match k with
  | 0 => ("DebtDoors$Done", "sort", "I", true)
  | _ => ("DebtDoors$Done", "books", "LDebtDoors$Books;", true)
def tyX26 : Nat → FieldType := fun k => match k with
  | 0 => .int
  | _ => .object "DebtDoors$Books"
abbrev wsX260 : List Cond := u_ws RX26 TX26 2
theorem nmX26 : ∀ a, a < 2 → ∀ b, b < 2 → a ≠ b → (TX26 a).2.1 ≠ (TX26 b).2.1 := by decide +kernel
theorem tyX26_ok : ∀ k, k < 2 → parseFieldDescriptor (TX26 k).2.2.1 = some (tyX26 k) := by decide +kernel
abbrev cX26_init : ByteArray := prog_7_method_1_code
def yX26_init : MethodName := ⟨RX26, "<init>", "(ILDebtDoors$Books;)V"⟩
theorem q168 : (Jvm.Cond.initialized "DebtDoors$Done") ∈ lw_all := lw_g (lw_at lw_m1 44 rfl) rfl
theorem q1283 : (Jvm.Cond.selects "DebtDoors$Done" ({ cls := "java/lang/Object", name := "getClass", desc := "()Ljava/lang/Class;" } : Jvm.MethodName) ({ cls := "java/lang/Object", name := "getClass", desc := "()Ljava/lang/Class;" } : Jvm.MethodName)) ∈ lw_all := lw_g (lw_at lw_m5 199 rfl) rfl
theorem q1376 : (Jvm.Cond.instantiable "DebtDoors$Done" (2 : Nat)) ∈ lw_all := lw_g (lw_at lw_m6 52 rfl) rfl
theorem q1387 : (Jvm.Cond.instanceMethod ({ cls := "DebtDoors$Done", name := "<init>", desc := "(ILDebtDoors$Books;)V" } : Jvm.MethodName)) ∈ lw_all := lw_g (lw_at lw_m6 63 rfl) rfl
theorem q1388 : (Jvm.Cond.code ({ cls := "DebtDoors$Done", name := "<init>", desc := "(ILDebtDoors$Books;)V" } : Jvm.MethodName) prog_7_method_1_code (3 : Nat) (Option.none : Option Jvm.ClassFile.FieldType)) ∈ lw_all := lw_g (lw_at lw_m6 64 rfl) rfl
theorem q1389 : (Jvm.Cond.methodLink "DebtDoors$Done" (1 : Nat) ({ cls := "java/lang/Object", name := "<init>", desc := "()V" } : Jvm.MethodName)) ∈ lw_all := lw_g (lw_at lw_m6 65 rfl) rfl
theorem q1390 : (Jvm.Cond.fieldLink "DebtDoors$Done" (7 : Nat) "DebtDoors$Done" "sort" "I") ∈ lw_all := lw_g (lw_at lw_m6 66 rfl) rfl
theorem q1392 : (Jvm.Cond.fieldLink "DebtDoors$Done" (13 : Nat) "DebtDoors$Done" "books" "LDebtDoors$Books;") ∈ lw_all := lw_g (lw_at lw_m6 68 rfl) rfl
theorem q1394 : (Jvm.Cond.laysFinal "DebtDoors$Done" "DebtDoors$Done" "sort" "I") ∈ lw_all := lw_g (lw_at lw_m6 70 rfl) rfl
theorem q1395 : (Jvm.Cond.soleField "DebtDoors$Done" "sort") ∈ lw_all := lw_g (lw_at lw_m6 71 rfl) rfl
theorem q1396 : (Jvm.Cond.laysFinal "DebtDoors$Done" "DebtDoors$Done" "books" "LDebtDoors$Books;") ∈ lw_all := lw_g (lw_at lw_m6 72 rfl) rfl
theorem q1397 : (Jvm.Cond.soleField "DebtDoors$Done" "books") ∈ lw_all := lw_g (lw_at lw_m6 73 rfl) rfl
theorem q1398 : (Jvm.Cond.superclass "DebtDoors$Done" "java/lang/Object") ∈ lw_all := lw_g (lw_at lw_m6 74 rfl) rfl
theorem q2767 : (Jvm.Cond.castable "DebtDoors$Done" "java/lang/Object") ∈ lw_tbl := lw_at lw_m12 3 rfl
theorem in_X26 : ∀ w ∈ wsX260, w ∈ lw_all := lw_in wsX260 [1394, 1396] (by decide +kernel) (by decide +kernel)
/-! DebtDoors$Ring -/
set_option maxRecDepth 100000
def RX27 : String := "DebtDoors$Ring"
def TX27 : u_T := fun k => match k with
  | 0 => ("DebtDoors$Ring", "owes", "[[I", true)
  | 1 => ("DebtDoors$Ring", "row", "[I", true)
  | 2 => ("DebtDoors$Ring", "best", "[I", true)
  | 3 => ("DebtDoors$Ring", "many", "I", false)
  | 4 => ("DebtDoors$Ring", "set", "I", false)
  | _ => ("DebtDoors$Ring", "this$0", "LDebtDoors;", true)
def tyX27 : Nat → FieldType := fun k => match k with
  | 0 => .array (.array .int)
  | 1 => .array .int
  | 2 => .array .int
  | 3 => .int
  | 4 => .int
  | _ => .object "DebtDoors"
abbrev wsX270 : List Cond := u_ws RX27 TX27 6
theorem nmX27 : ∀ a, a < 6 → ∀ b, b < 6 → a ≠ b → (TX27 a).2.1 ≠ (TX27 b).2.1 := by decide +kernel
theorem tyX27_ok : ∀ k, k < 6 → parseFieldDescriptor (TX27 k).2.2.1 = some (tyX27 k) := by decide +kernel
abbrev cX27_init : ByteArray := prog_23_method_1_code
def yX27_init : MethodName := ⟨RX27, "<init>", "(LDebtDoors;LDebtDoors$Books;)V"⟩
abbrev cX27_go : ByteArray := prog_23_method_2_code
def yX27_go : MethodName := ⟨RX27, "go", "(II)V"⟩
abbrev cX27_is : ByteArray := prog_23_method_3_code
def yX27_is : MethodName := ⟨RX27, "is", "()Z"⟩
abbrev cX27_least : ByteArray := prog_23_method_5_code
def yX27_least : MethodName := ⟨RX27, "least", "()I"⟩
abbrev cX27_next : ByteArray := prog_23_method_4_code
def yX27_next : MethodName := ⟨RX27, "next", "(I)I"⟩
abbrev cX27_clear : ByteArray := prog_23_method_6_code
def yX27_clear : MethodName := ⟨RX27, "clear", "(LDebtDoors$Books;)V"⟩
theorem q169 : (Jvm.Cond.initialized "DebtDoors$Ring") ∈ lw_all := lw_g (lw_at lw_m1 45 rfl) rfl
theorem q227 : (Jvm.Cond.fieldLinkNest "DebtDoors$Ring" (35 : Nat) "DebtDoors$Books" "debtors" "[I" "DebtDoors") ∈ lw_tbl := lw_at lw_m1 103 rfl
theorem q230 : (Jvm.Cond.fieldLinkNest "DebtDoors$Ring" (38 : Nat) "DebtDoors$Books" "creditors" "[I" "DebtDoors") ∈ lw_tbl := lw_at lw_m1 106 rfl
theorem q233 : (Jvm.Cond.fieldLinkNest "DebtDoors$Ring" (41 : Nat) "DebtDoors$Books" "amounts" "[I" "DebtDoors") ∈ lw_tbl := lw_at lw_m1 109 rfl
theorem q237 : (Jvm.Cond.fieldLinkNest "DebtDoors$Ring" (32 : Nat) "DebtDoors$Books" "many" "I" "DebtDoors") ∈ lw_tbl := lw_at lw_m1 113 rfl
theorem q274 : (Jvm.Cond.fieldLinkNest "DebtDoors$Ring" (48 : Nat) "DebtDoors$Street" "people" "I" "DebtDoors") ∈ lw_tbl := lw_at lw_m1 150 rfl
theorem q342 : (Jvm.Cond.fieldLinkNest "DebtDoors$Ring" (44 : Nat) "DebtDoors" "street" "LDebtDoors$Street;" "DebtDoors") ∈ lw_tbl := lw_at lw_m1 218 rfl
theorem q1296 : (Jvm.Cond.selects "DebtDoors$Ring" ({ cls := "java/lang/Object", name := "getClass", desc := "()Ljava/lang/Class;" } : Jvm.MethodName) ({ cls := "java/lang/Object", name := "getClass", desc := "()Ljava/lang/Class;" } : Jvm.MethodName)) ∈ lw_all := lw_g (lw_at lw_m5 212 rfl) rfl
theorem q1654 : (Jvm.Cond.instantiable "DebtDoors$Ring" (6 : Nat)) ∈ lw_all := lw_g (lw_at lw_m7 90 rfl) rfl
theorem q1656 : (Jvm.Cond.instanceMethod ({ cls := "DebtDoors$Ring", name := "<init>", desc := "(LDebtDoors;LDebtDoors$Books;)V" } : Jvm.MethodName)) ∈ lw_all := lw_g (lw_at lw_m7 92 rfl) rfl
theorem q1657 : (Jvm.Cond.code ({ cls := "DebtDoors$Ring", name := "<init>", desc := "(LDebtDoors;LDebtDoors$Books;)V" } : Jvm.MethodName) prog_23_method_1_code (4 : Nat) (Option.none : Option Jvm.ClassFile.FieldType)) ∈ lw_all := lw_g (lw_at lw_m7 93 rfl) rfl
theorem q1658 : (Jvm.Cond.methodLink "DebtDoors$Ring" (9 : Nat) ({ cls := "java/lang/Object", name := "<init>", desc := "()V" } : Jvm.MethodName)) ∈ lw_all := lw_g (lw_at lw_m7 94 rfl) rfl
theorem q1659 : (Jvm.Cond.classLink "DebtDoors$Ring" (15 : Nat) "[[I") ∈ lw_all := lw_g (lw_at lw_m7 95 rfl) rfl
theorem q1661 : (Jvm.Cond.constant "DebtDoors$Ring" (27 : Nat) (100000000 : Int32)) ∈ lw_all := lw_g (lw_at lw_m7 97 rfl) rfl
theorem q1662 : (Jvm.Cond.methodLink "DebtDoors$Ring" (53 : Nat) ({ cls := "DebtDoors$Ring", name := "go", desc := "(II)V" } : Jvm.MethodName)) ∈ lw_all := lw_g (lw_at lw_m7 98 rfl) rfl
theorem q1663 : (Jvm.Cond.privateMethod ({ cls := "DebtDoors$Ring", name := "go", desc := "(II)V" } : Jvm.MethodName)) ∈ lw_tbl := lw_at lw_m7 99 rfl
theorem q1664 : (Jvm.Cond.instanceMethod ({ cls := "DebtDoors$Ring", name := "go", desc := "(II)V" } : Jvm.MethodName)) ∈ lw_all := lw_g (lw_at lw_m7 100 rfl) rfl
theorem q1665 : (Jvm.Cond.code ({ cls := "DebtDoors$Ring", name := "go", desc := "(II)V" } : Jvm.MethodName) prog_23_method_2_code (4 : Nat) (Option.none : Option Jvm.ClassFile.FieldType)) ∈ lw_all := lw_g (lw_at lw_m7 101 rfl) rfl
theorem q1666 : (Jvm.Cond.methodLink "DebtDoors$Ring" (60 : Nat) ({ cls := "java/lang/System", name := "arraycopy", desc := "(Ljava/lang/Object;ILjava/lang/Object;II)V" } : Jvm.MethodName)) ∈ lw_all := lw_g (lw_at lw_m7 102 rfl) rfl
theorem q1667 : (Jvm.Cond.methodLinkNest "DebtDoors$Ring" (66 : Nat) ({ cls := "DebtDoors", name := "has", desc := "(II)Z" } : Jvm.MethodName) "DebtDoors") ∈ lw_tbl := lw_at lw_m7 103 rfl
theorem q1668 : (Jvm.Cond.fieldLink "DebtDoors$Ring" (17 : Nat) "DebtDoors$Ring" "owes" "[[I") ∈ lw_all := lw_g (lw_at lw_m7 104 rfl) rfl
theorem q1669 : (Jvm.Cond.fieldLink "DebtDoors$Ring" (20 : Nat) "DebtDoors$Ring" "row" "[I") ∈ lw_all := lw_g (lw_at lw_m7 105 rfl) rfl
theorem q1670 : (Jvm.Cond.fieldLink "DebtDoors$Ring" (24 : Nat) "DebtDoors$Ring" "best" "[I") ∈ lw_all := lw_g (lw_at lw_m7 106 rfl) rfl
theorem q1672 : (Jvm.Cond.fieldLink "DebtDoors$Ring" (28 : Nat) "DebtDoors$Ring" "many" "I") ∈ lw_all := lw_g (lw_at lw_m7 108 rfl) rfl
theorem q1674 : (Jvm.Cond.fieldLink "DebtDoors$Ring" (57 : Nat) "DebtDoors$Ring" "set" "I") ∈ lw_all := lw_g (lw_at lw_m7 110 rfl) rfl
theorem q1675 : (Jvm.Cond.fieldLink "DebtDoors$Ring" (3 : Nat) "DebtDoors$Ring" "this$0" "LDebtDoors;") ∈ lw_all := lw_g (lw_at lw_m7 111 rfl) rfl
theorem q1676 : (Jvm.Cond.laysFinal "DebtDoors$Ring" "DebtDoors$Ring" "owes" "[[I") ∈ lw_all := lw_g (lw_at lw_m7 112 rfl) rfl
theorem q1677 : (Jvm.Cond.soleField "DebtDoors$Ring" "owes") ∈ lw_all := lw_g (lw_at lw_m7 113 rfl) rfl
theorem q1678 : (Jvm.Cond.laysFinal "DebtDoors$Ring" "DebtDoors$Ring" "row" "[I") ∈ lw_all := lw_g (lw_at lw_m7 114 rfl) rfl
theorem q1679 : (Jvm.Cond.soleField "DebtDoors$Ring" "row") ∈ lw_all := lw_g (lw_at lw_m7 115 rfl) rfl
theorem q1680 : (Jvm.Cond.laysFinal "DebtDoors$Ring" "DebtDoors$Ring" "best" "[I") ∈ lw_all := lw_g (lw_at lw_m7 116 rfl) rfl
theorem q1681 : (Jvm.Cond.soleField "DebtDoors$Ring" "best") ∈ lw_all := lw_g (lw_at lw_m7 117 rfl) rfl
theorem q1682 : (Jvm.Cond.lays "DebtDoors$Ring" "DebtDoors$Ring" "many" "I") ∈ lw_all := lw_g (lw_at lw_m7 118 rfl) rfl
theorem q1683 : (Jvm.Cond.soleField "DebtDoors$Ring" "many") ∈ lw_all := lw_g (lw_at lw_m7 119 rfl) rfl
theorem q1684 : (Jvm.Cond.lays "DebtDoors$Ring" "DebtDoors$Ring" "set" "I") ∈ lw_all := lw_g (lw_at lw_m7 120 rfl) rfl
theorem q1685 : (Jvm.Cond.soleField "DebtDoors$Ring" "set") ∈ lw_all := lw_g (lw_at lw_m7 121 rfl) rfl
theorem q1686 : (Jvm.Cond.laysFinal "DebtDoors$Ring" "DebtDoors$Ring" "this$0" "LDebtDoors;") ∈ lw_all := lw_g (lw_at lw_m7 122 rfl) rfl
theorem q1687 : (Jvm.Cond.soleField "DebtDoors$Ring" "this$0") ∈ lw_all := lw_g (lw_at lw_m7 123 rfl) rfl
theorem q1688 : (Jvm.Cond.superclass "DebtDoors$Ring" "java/lang/Object") ∈ lw_all := lw_g (lw_at lw_m7 124 rfl) rfl
theorem q1690 : (Jvm.Cond.instanceMethod ({ cls := "DebtDoors$Ring", name := "is", desc := "()Z" } : Jvm.MethodName)) ∈ lw_all := lw_g (lw_at lw_m7 126 rfl) rfl
theorem q1691 : (Jvm.Cond.selects "DebtDoors$Ring" ({ cls := "DebtDoors$Ring", name := "is", desc := "()Z" } : Jvm.MethodName) ({ cls := "DebtDoors$Ring", name := "is", desc := "()Z" } : Jvm.MethodName)) ∈ lw_all := lw_g (lw_at lw_m7 127 rfl) rfl
theorem q1692 : (Jvm.Cond.code ({ cls := "DebtDoors$Ring", name := "is", desc := "()Z" } : Jvm.MethodName) prog_23_method_3_code (1 : Nat) (Option.some Jvm.ClassFile.FieldType.boolean)) ∈ lw_all := lw_g (lw_at lw_m7 128 rfl) rfl
theorem q1698 : (Jvm.Cond.instanceMethod ({ cls := "DebtDoors$Ring", name := "least", desc := "()I" } : Jvm.MethodName)) ∈ lw_all := lw_g (lw_at lw_m7 134 rfl) rfl
theorem q1699 : (Jvm.Cond.selects "DebtDoors$Ring" ({ cls := "DebtDoors$Ring", name := "least", desc := "()I" } : Jvm.MethodName) ({ cls := "DebtDoors$Ring", name := "least", desc := "()I" } : Jvm.MethodName)) ∈ lw_all := lw_g (lw_at lw_m7 135 rfl) rfl
theorem q1700 : (Jvm.Cond.code ({ cls := "DebtDoors$Ring", name := "least", desc := "()I" } : Jvm.MethodName) prog_23_method_5_code (3 : Nat) (Option.some Jvm.ClassFile.FieldType.int)) ∈ lw_all := lw_g (lw_at lw_m7 136 rfl) rfl
theorem q1701 : (Jvm.Cond.methodLink "DebtDoors$Ring" (70 : Nat) ({ cls := "DebtDoors$Ring", name := "next", desc := "(I)I" } : Jvm.MethodName)) ∈ lw_all := lw_g (lw_at lw_m7 137 rfl) rfl
theorem q1702 : (Jvm.Cond.privateMethod ({ cls := "DebtDoors$Ring", name := "next", desc := "(I)I" } : Jvm.MethodName)) ∈ lw_tbl := lw_at lw_m7 138 rfl
theorem q1703 : (Jvm.Cond.instanceMethod ({ cls := "DebtDoors$Ring", name := "next", desc := "(I)I" } : Jvm.MethodName)) ∈ lw_all := lw_g (lw_at lw_m7 139 rfl) rfl
theorem q1704 : (Jvm.Cond.code ({ cls := "DebtDoors$Ring", name := "next", desc := "(I)I" } : Jvm.MethodName) prog_23_method_4_code (2 : Nat) (Option.some Jvm.ClassFile.FieldType.int)) ∈ lw_all := lw_g (lw_at lw_m7 140 rfl) rfl
theorem q1705 : (Jvm.Cond.methodLink "DebtDoors$Ring" (74 : Nat) ({ cls := "java/lang/Math", name := "min", desc := "(II)I" } : Jvm.MethodName)) ∈ lw_all := lw_g (lw_at lw_m7 141 rfl) rfl
theorem q1707 : (Jvm.Cond.instanceMethod ({ cls := "DebtDoors$Ring", name := "clear", desc := "(LDebtDoors$Books;)V" } : Jvm.MethodName)) ∈ lw_all := lw_g (lw_at lw_m7 143 rfl) rfl
theorem q1708 : (Jvm.Cond.selects "DebtDoors$Ring" ({ cls := "DebtDoors$Ring", name := "clear", desc := "(LDebtDoors$Books;)V" } : Jvm.MethodName) ({ cls := "DebtDoors$Ring", name := "clear", desc := "(LDebtDoors$Books;)V" } : Jvm.MethodName)) ∈ lw_all := lw_g (lw_at lw_m7 144 rfl) rfl
theorem q1709 : (Jvm.Cond.code ({ cls := "DebtDoors$Ring", name := "clear", desc := "(LDebtDoors$Books;)V" } : Jvm.MethodName) prog_23_method_6_code (4 : Nat) (Option.none : Option Jvm.ClassFile.FieldType)) ∈ lw_all := lw_g (lw_at lw_m7 145 rfl) rfl
theorem q1710 : (Jvm.Cond.methodLink "DebtDoors$Ring" (80 : Nat) ({ cls := "DebtDoors$Ring", name := "least", desc := "()I" } : Jvm.MethodName)) ∈ lw_all := lw_g (lw_at lw_m7 146 rfl) rfl
theorem q1711 : (Jvm.Cond.methodLink "DebtDoors$Ring" (84 : Nat) ({ cls := "DebtDoors$Books", name := "lessen", desc := "(III)V" } : Jvm.MethodName)) ∈ lw_all := lw_g (lw_at lw_m7 147 rfl) rfl
theorem q2768 : (Jvm.Cond.castable "DebtDoors$Ring" "java/lang/Object") ∈ lw_tbl := lw_at lw_m12 4 rfl
theorem in_X27 : ∀ w ∈ wsX270, w ∈ lw_all := lw_in wsX270 [1676, 1678, 1680, 1682, 1684, 1686] (by decide +kernel) (by decide +kernel)
/-! DebtDoors$Visit -/
set_option maxRecDepth 100000
def RX28 : String := "DebtDoors$Visit"
def TX28 : u_T := fun k => match k with
  | 0 => ("DebtDoors$Visit", "visitor", "I", true)
  | 1 => ("DebtDoors$Visit", "house", "I", true)
  | 2 => ("DebtDoors$Visit", "room", "I", true)
  | _ => ("DebtDoors$Visit", "settle", "I", true)
def tyX28 : Nat → FieldType := fun k => match k with
  | 0 => .int
  | 1 => .int
  | 2 => .int
  | _ => .int
abbrev wsX280 : List Cond := u_ws RX28 TX28 4
theorem nmX28 : ∀ a, a < 4 → ∀ b, b < 4 → a ≠ b → (TX28 a).2.1 ≠ (TX28 b).2.1 := by decide +kernel
theorem tyX28_ok : ∀ k, k < 4 → parseFieldDescriptor (TX28 k).2.2.1 = some (tyX28 k) := by decide +kernel
abbrev cX28_init : ByteArray := prog_31_method_1_code
def yX28_init : MethodName := ⟨RX28, "<init>", "(IIII)V"⟩
theorem q170 : (Jvm.Cond.initialized "DebtDoors$Visit") ∈ lw_all := lw_g (lw_at lw_m1 46 rfl) rfl
theorem q1301 : (Jvm.Cond.selects "DebtDoors$Visit" ({ cls := "java/lang/Object", name := "getClass", desc := "()Ljava/lang/Class;" } : Jvm.MethodName) ({ cls := "java/lang/Object", name := "getClass", desc := "()Ljava/lang/Class;" } : Jvm.MethodName)) ∈ lw_all := lw_g (lw_at lw_m5 217 rfl) rfl
theorem q1471 : (Jvm.Cond.instantiable "DebtDoors$Visit" (4 : Nat)) ∈ lw_all := lw_g (lw_at lw_m6 147 rfl) rfl
theorem q1473 : (Jvm.Cond.instanceMethod ({ cls := "DebtDoors$Visit", name := "<init>", desc := "(IIII)V" } : Jvm.MethodName)) ∈ lw_all := lw_g (lw_at lw_m6 149 rfl) rfl
theorem q1474 : (Jvm.Cond.code ({ cls := "DebtDoors$Visit", name := "<init>", desc := "(IIII)V" } : Jvm.MethodName) prog_31_method_1_code (5 : Nat) (Option.none : Option Jvm.ClassFile.FieldType)) ∈ lw_all := lw_g (lw_at lw_m6 150 rfl) rfl
theorem q1475 : (Jvm.Cond.methodLink "DebtDoors$Visit" (1 : Nat) ({ cls := "java/lang/Object", name := "<init>", desc := "()V" } : Jvm.MethodName)) ∈ lw_all := lw_g (lw_at lw_m6 151 rfl) rfl
theorem q1476 : (Jvm.Cond.fieldLink "DebtDoors$Visit" (7 : Nat) "DebtDoors$Visit" "visitor" "I") ∈ lw_all := lw_g (lw_at lw_m6 152 rfl) rfl
theorem q1480 : (Jvm.Cond.fieldLink "DebtDoors$Visit" (13 : Nat) "DebtDoors$Visit" "house" "I") ∈ lw_all := lw_g (lw_at lw_m6 156 rfl) rfl
theorem q1484 : (Jvm.Cond.fieldLink "DebtDoors$Visit" (16 : Nat) "DebtDoors$Visit" "room" "I") ∈ lw_all := lw_g (lw_at lw_m6 160 rfl) rfl
theorem q1487 : (Jvm.Cond.fieldLink "DebtDoors$Visit" (19 : Nat) "DebtDoors$Visit" "settle" "I") ∈ lw_all := lw_g (lw_at lw_m6 163 rfl) rfl
theorem q1489 : (Jvm.Cond.laysFinal "DebtDoors$Visit" "DebtDoors$Visit" "visitor" "I") ∈ lw_all := lw_g (lw_at lw_m6 165 rfl) rfl
theorem q1490 : (Jvm.Cond.soleField "DebtDoors$Visit" "visitor") ∈ lw_all := lw_g (lw_at lw_m6 166 rfl) rfl
theorem q1491 : (Jvm.Cond.laysFinal "DebtDoors$Visit" "DebtDoors$Visit" "house" "I") ∈ lw_all := lw_g (lw_at lw_m6 167 rfl) rfl
theorem q1492 : (Jvm.Cond.soleField "DebtDoors$Visit" "house") ∈ lw_all := lw_g (lw_at lw_m6 168 rfl) rfl
theorem q1493 : (Jvm.Cond.laysFinal "DebtDoors$Visit" "DebtDoors$Visit" "room" "I") ∈ lw_all := lw_g (lw_at lw_m6 169 rfl) rfl
theorem q1494 : (Jvm.Cond.soleField "DebtDoors$Visit" "room") ∈ lw_all := lw_g (lw_at lw_m6 170 rfl) rfl
theorem q1495 : (Jvm.Cond.laysFinal "DebtDoors$Visit" "DebtDoors$Visit" "settle" "I") ∈ lw_all := lw_g (lw_at lw_m6 171 rfl) rfl
theorem q1496 : (Jvm.Cond.soleField "DebtDoors$Visit" "settle") ∈ lw_all := lw_g (lw_at lw_m6 172 rfl) rfl
theorem q1497 : (Jvm.Cond.superclass "DebtDoors$Visit" "java/lang/Object") ∈ lw_all := lw_g (lw_at lw_m6 173 rfl) rfl
theorem q2769 : (Jvm.Cond.castable "DebtDoors$Visit" "java/lang/Object") ∈ lw_tbl := lw_at lw_m12 5 rfl
theorem in_X28 : ∀ w ∈ wsX280, w ∈ lw_all := lw_in wsX280 [1489, 1491, 1493, 1495] (by decide +kernel) (by decide +kernel)
/-! DebtDoors$Rows -/
set_option maxRecDepth 100000
def RX29 : String := "DebtDoors$Rows"
abbrev cX29_init : ByteArray := prog_25_method_1_code
def yX29_init : MethodName := ⟨RX29, "<init>", "(LDebtDoors;I)V"⟩
abbrev cX29_go : ByteArray := prog_25_method_3_code
def yX29_go : MethodName := ⟨RX29, "go", "(II)V"⟩
theorem q171 : (Jvm.Cond.initialized "DebtDoors$Rows") ∈ lw_all := lw_g (lw_at lw_m1 47 rfl) rfl
theorem q362 : (Jvm.Cond.fieldLinkNest "DebtDoors$Rows" (24 : Nat) "DebtDoors" "states" "[LDebtDoors$Books;" "DebtDoors") ∈ lw_tbl := lw_at lw_m1 238 rfl
theorem q1521 : (Jvm.Cond.instanceMethod ({ cls := "DebtDoors$Rows", name := "<init>", desc := "(LDebtDoors;I)V" } : Jvm.MethodName)) ∈ lw_all := lw_g (lw_at lw_m6 197 rfl) rfl
theorem q1522 : (Jvm.Cond.code ({ cls := "DebtDoors$Rows", name := "<init>", desc := "(LDebtDoors;I)V" } : Jvm.MethodName) prog_25_method_1_code (3 : Nat) (Option.none : Option Jvm.ClassFile.FieldType)) ∈ lw_all := lw_g (lw_at lw_m6 198 rfl) rfl
theorem q1523 : (Jvm.Cond.methodLink "DebtDoors$Rows" (7 : Nat) ({ cls := "java/lang/Object", name := "<init>", desc := "()V" } : Jvm.MethodName)) ∈ lw_all := lw_g (lw_at lw_m6 199 rfl) rfl
theorem q1524 : (Jvm.Cond.methodLinkNest "DebtDoors$Rows" (30 : Nat) ({ cls := "DebtDoors", name := "books", desc := "()LDebtDoors$Books;" } : Jvm.MethodName) "DebtDoors") ∈ lw_tbl := lw_at lw_m6 200 rfl
theorem q1525 : (Jvm.Cond.methodLink "DebtDoors$Rows" (34 : Nat) ({ cls := "DebtDoors$Books", name := "as", desc := "(LDebtDoors$Books;)LDebtDoors$Books;" } : Jvm.MethodName)) ∈ lw_all := lw_g (lw_at lw_m6 201 rfl) rfl
theorem q1532 : (Jvm.Cond.fieldLink "DebtDoors$Rows" (13 : Nat) "DebtDoors$Rows" "n" "I") ∈ lw_all := lw_g (lw_at lw_m6 208 rfl) rfl
theorem q1535 : (Jvm.Cond.fieldLink "DebtDoors$Rows" (21 : Nat) "DebtDoors$Rows" "first" "[I") ∈ lw_all := lw_g (lw_at lw_m6 211 rfl) rfl
theorem q1540 : (Jvm.Cond.fieldLink "DebtDoors$Rows" (17 : Nat) "DebtDoors$Rows" "row" "[I") ∈ lw_all := lw_g (lw_at lw_m6 216 rfl) rfl
theorem q1541 : (Jvm.Cond.fieldLink "DebtDoors$Rows" (40 : Nat) "DebtDoors$Rows" "ways" "I") ∈ lw_all := lw_g (lw_at lw_m6 217 rfl) rfl
theorem q1546 : (Jvm.Cond.fieldLink "DebtDoors$Rows" (1 : Nat) "DebtDoors$Rows" "this$0" "LDebtDoors;") ∈ lw_all := lw_g (lw_at lw_m6 222 rfl) rfl
theorem q1556 : (Jvm.Cond.soleField "DebtDoors$Rows" "n") ∈ lw_all := lw_g (lw_at lw_m6 232 rfl) rfl
theorem q1558 : (Jvm.Cond.soleField "DebtDoors$Rows" "first") ∈ lw_all := lw_g (lw_at lw_m6 234 rfl) rfl
theorem q1560 : (Jvm.Cond.soleField "DebtDoors$Rows" "row") ∈ lw_all := lw_g (lw_at lw_m6 236 rfl) rfl
theorem q1562 : (Jvm.Cond.soleField "DebtDoors$Rows" "ways") ∈ lw_all := lw_g (lw_at lw_m6 238 rfl) rfl
theorem q1564 : (Jvm.Cond.soleField "DebtDoors$Rows" "this$0") ∈ lw_all := lw_g (lw_at lw_m7 0 rfl) rfl
theorem q1568 : (Jvm.Cond.declares ({ cls := "DebtDoors$Rows", name := "go", desc := "(II)V" } : Jvm.MethodName)) ∈ lw_tbl := lw_at lw_m7 4 rfl
theorem q1570 : (Jvm.Cond.instanceMethod ({ cls := "DebtDoors$Rows", name := "go", desc := "(II)V" } : Jvm.MethodName)) ∈ lw_all := lw_g (lw_at lw_m7 6 rfl) rfl
theorem q1571 : (Jvm.Cond.code ({ cls := "DebtDoors$Rows", name := "go", desc := "(II)V" } : Jvm.MethodName) prog_25_method_3_code (4 : Nat) (Option.none : Option Jvm.ClassFile.FieldType)) ∈ lw_all := lw_g (lw_at lw_m7 7 rfl) rfl
theorem q1572 : (Jvm.Cond.methodLink "DebtDoors$Rows" (43 : Nat) ({ cls := "java/lang/System", name := "arraycopy", desc := "(Ljava/lang/Object;ILjava/lang/Object;II)V" } : Jvm.MethodName)) ∈ lw_all := lw_g (lw_at lw_m7 8 rfl) rfl
theorem q1573 : (Jvm.Cond.methodLinkNest "DebtDoors$Rows" (49 : Nat) ({ cls := "DebtDoors", name := "has", desc := "(II)Z" } : Jvm.MethodName) "DebtDoors") ∈ lw_tbl := lw_at lw_m7 9 rfl
theorem q1576 : (Jvm.Cond.methodLink "DebtDoors$Rows" (53 : Nat) ({ cls := "DebtDoors$Rows", name := "does", desc := "(LDebtDoors$Books;I)Z" } : Jvm.MethodName)) ∈ lw_all := lw_g (lw_at lw_m7 12 rfl) rfl
theorem q1577 : (Jvm.Cond.declares ({ cls := "DebtDoors$Rows", name := "does", desc := "(LDebtDoors$Books;I)Z" } : Jvm.MethodName)) ∈ lw_tbl := lw_at lw_m7 13 rfl
theorem q1578 : (Jvm.Cond.sameMethod "DebtDoors$Rows" "DebtDoors$Rows" "does" "(LDebtDoors$Books;I)Z") ∈ lw_all := lw_g (lw_at lw_m7 14 rfl) rfl
theorem q1593 : (Jvm.Cond.methodLink "DebtDoors$Rows" (57 : Nat) ({ cls := "DebtDoors$Rows", name := "go", desc := "(II)V" } : Jvm.MethodName)) ∈ lw_all := lw_g (lw_at lw_m7 29 rfl) rfl
theorem q2736 : (Jvm.Cond.sameMethod "DebtDoors$Rows" "DebtDoors$Rows" "go" "(II)V") ∈ lw_all := lw_g (lw_at lw_m11 212 rfl) rfl
/-! DebtDoors$Asked -/
set_option maxRecDepth 100000
def RX3 : String := "DebtDoors$Asked"
def TX3 : u_T := fun k => match k with
  | 0 => ("DebtDoors$Asked", "numbers", "[J", true)
  | _ => ("DebtDoors$Asked", "isBroken", "Z", false)
def tyX3 : Nat → FieldType := fun k => match k with
  | 0 => .array .long
  | _ => .boolean
abbrev wsX30 : List Cond := u_ws RX3 TX3 2
theorem nmX3 : ∀ a, a < 2 → ∀ b, b < 2 → a ≠ b → (TX3 a).2.1 ≠ (TX3 b).2.1 := by decide +kernel
theorem tyX3_ok : ∀ k, k < 2 → parseFieldDescriptor (TX3 k).2.2.1 = some (tyX3 k) := by decide +kernel
abbrev cX3_init : ByteArray := prog_3_method_1_code
def yX3_init : MethodName := ⟨RX3, "<init>", "()V"⟩
abbrev cX3_within : ByteArray := prog_3_method_2_code
def yX3_within : MethodName := ⟨RX3, "within", "(J)J"⟩
theorem q131 : (Jvm.Cond.initialized "DebtDoors$Asked") ∈ lw_all := lw_g (lw_at lw_m1 7 rfl) rfl
theorem q304 : (Jvm.Cond.instantiable "DebtDoors$Asked" (2 : Nat)) ∈ lw_all := lw_g (lw_at lw_m1 180 rfl) rfl
theorem q306 : (Jvm.Cond.instanceMethod ({ cls := "DebtDoors$Asked", name := "<init>", desc := "()V" } : Jvm.MethodName)) ∈ lw_all := lw_g (lw_at lw_m1 182 rfl) rfl
theorem q307 : (Jvm.Cond.code ({ cls := "DebtDoors$Asked", name := "<init>", desc := "()V" } : Jvm.MethodName) prog_3_method_1_code (1 : Nat) (Option.none : Option Jvm.ClassFile.FieldType)) ∈ lw_all := lw_g (lw_at lw_m1 183 rfl) rfl
theorem q308 : (Jvm.Cond.methodLink "DebtDoors$Asked" (1 : Nat) ({ cls := "java/lang/Object", name := "<init>", desc := "()V" } : Jvm.MethodName)) ∈ lw_all := lw_g (lw_at lw_m1 184 rfl) rfl
theorem q309 : (Jvm.Cond.fieldLink "DebtDoors$Asked" (7 : Nat) "DebtDoors$Asked" "numbers" "[J") ∈ lw_all := lw_g (lw_at lw_m1 185 rfl) rfl
theorem q314 : (Jvm.Cond.fieldLink "DebtDoors$Asked" (13 : Nat) "DebtDoors$Asked" "isBroken" "Z") ∈ lw_all := lw_g (lw_at lw_m1 190 rfl) rfl
theorem q320 : (Jvm.Cond.laysFinal "DebtDoors$Asked" "DebtDoors$Asked" "numbers" "[J") ∈ lw_all := lw_g (lw_at lw_m1 196 rfl) rfl
theorem q321 : (Jvm.Cond.soleField "DebtDoors$Asked" "numbers") ∈ lw_all := lw_g (lw_at lw_m1 197 rfl) rfl
theorem q322 : (Jvm.Cond.lays "DebtDoors$Asked" "DebtDoors$Asked" "isBroken" "Z") ∈ lw_all := lw_g (lw_at lw_m1 198 rfl) rfl
theorem q323 : (Jvm.Cond.soleField "DebtDoors$Asked" "isBroken") ∈ lw_all := lw_g (lw_at lw_m1 199 rfl) rfl
theorem q324 : (Jvm.Cond.superclass "DebtDoors$Asked" "java/lang/Object") ∈ lw_all := lw_g (lw_at lw_m1 200 rfl) rfl
theorem q578 : (Jvm.Cond.instanceMethod ({ cls := "DebtDoors$Asked", name := "within", desc := "(J)J" } : Jvm.MethodName)) ∈ lw_all := lw_g (lw_at lw_m2 214 rfl) rfl
theorem q579 : (Jvm.Cond.selects "DebtDoors$Asked" ({ cls := "DebtDoors$Asked", name := "within", desc := "(J)J" } : Jvm.MethodName) ({ cls := "DebtDoors$Asked", name := "within", desc := "(J)J" } : Jvm.MethodName)) ∈ lw_all := lw_g (lw_at lw_m2 215 rfl) rfl
theorem q580 : (Jvm.Cond.code ({ cls := "DebtDoors$Asked", name := "within", desc := "(J)J" } : Jvm.MethodName) prog_3_method_2_code (3 : Nat) (Option.some Jvm.ClassFile.FieldType.long)) ∈ lw_all := lw_g (lw_at lw_m2 216 rfl) rfl
theorem q581 : (Jvm.Cond.constantLong "DebtDoors$Asked" (17 : Nat) (1000000000 : Int64)) ∈ lw_all := lw_g (lw_at lw_m2 217 rfl) rfl
theorem q582 : (Jvm.Cond.constantLong "DebtDoors$Asked" (19 : Nat) (-1000000000 : Int64)) ∈ lw_all := lw_g (lw_at lw_m2 218 rfl) rfl
theorem q1279 : (Jvm.Cond.selects "DebtDoors$Asked" ({ cls := "java/lang/Object", name := "getClass", desc := "()Ljava/lang/Class;" } : Jvm.MethodName) ({ cls := "java/lang/Object", name := "getClass", desc := "()Ljava/lang/Class;" } : Jvm.MethodName)) ∈ lw_all := lw_g (lw_at lw_m5 195 rfl) rfl
theorem q2749 : (Jvm.Cond.castable "DebtDoors$Asked" "java/lang/Object") ∈ lw_tbl := lw_at lw_m11 225 rfl
theorem in_X3 : ∀ w ∈ wsX30, w ∈ lw_all := lw_in wsX30 [320, 322] (by decide +kernel) (by decide +kernel)
/-! DebtDoors$Lendings -/
set_option maxRecDepth 100000
def RX30 : String := "DebtDoors$Lendings"
def TX30 : u_T := fun k => match k with
  | 0 => ("DebtDoors$Rows", "n", "I", true)
  | 1 => ("DebtDoors$Rows", "first", "[I", true)
  | 2 => ("DebtDoors$Rows", "row", "[I", true)
  | 3 => ("DebtDoors$Rows", "ways", "I", false)
  | 4 => ("DebtDoors$Rows", "this$0", "LDebtDoors;", true)
  | 5 => ("DebtDoors$Lendings", "needs", "[I", true)
  | 6 => ("DebtDoors$Lendings", "visits", "[I", true)
  | 7 => ("DebtDoors$Lendings", "total", "I", true)
  | _ => ("DebtDoors$Lendings", "this$0", "LDebtDoors;", true)
def tyX30 : Nat → FieldType := fun k => match k with
  | 0 => .int
  | 1 => .array .int
  | 2 => .array .int
  | 3 => .int
  | 4 => .object "DebtDoors"
  | 5 => .array .int
  | 6 => .array .int
  | 7 => .int
  | _ => .object "DebtDoors"
abbrev wsX300 : List Cond := u_ws RX30 TX30 9
-- two fields of one name: no nmX30
theorem tyX30_ok : ∀ k, k < 9 → parseFieldDescriptor (TX30 k).2.2.1 = some (tyX30 k) := by decide +kernel
abbrev cX30_init : ByteArray := prog_12_method_1_code
def yX30_init : MethodName := ⟨RX30, "<init>", "(LDebtDoors;[I[II)V"⟩
abbrev cX30_does : ByteArray := prog_12_method_2_code
def yX30_does : MethodName := ⟨RX30, "does", "(LDebtDoors$Books;I)Z"⟩
theorem q172 : (Jvm.Cond.initialized "DebtDoors$Lendings") ∈ lw_all := lw_g (lw_at lw_m1 48 rfl) rfl
theorem q264 : (Jvm.Cond.fieldLinkNest "DebtDoors$Lendings" (30 : Nat) "DebtDoors$Street" "visits" "Ljava/util/ArrayList;" "DebtDoors") ∈ lw_tbl := lw_at lw_m1 140 rfl
theorem q343 : (Jvm.Cond.fieldLinkNest "DebtDoors$Lendings" (24 : Nat) "DebtDoors" "street" "LDebtDoors$Street;" "DebtDoors") ∈ lw_tbl := lw_at lw_m1 219 rfl
theorem q1288 : (Jvm.Cond.selects "DebtDoors$Lendings" ({ cls := "java/lang/Object", name := "getClass", desc := "()Ljava/lang/Class;" } : Jvm.MethodName) ({ cls := "java/lang/Object", name := "getClass", desc := "()Ljava/lang/Class;" } : Jvm.MethodName)) ∈ lw_all := lw_g (lw_at lw_m5 204 rfl) rfl
theorem q1477 : (Jvm.Cond.fieldLinkNest "DebtDoors$Lendings" (43 : Nat) "DebtDoors$Visit" "visitor" "I" "DebtDoors") ∈ lw_tbl := lw_at lw_m6 153 rfl
theorem q1482 : (Jvm.Cond.fieldLinkNest "DebtDoors$Lendings" (46 : Nat) "DebtDoors$Visit" "house" "I" "DebtDoors") ∈ lw_tbl := lw_at lw_m6 158 rfl
theorem q1516 : (Jvm.Cond.instantiable "DebtDoors$Lendings" (9 : Nat)) ∈ lw_all := lw_g (lw_at lw_m6 192 rfl) rfl
theorem q1518 : (Jvm.Cond.instanceMethod ({ cls := "DebtDoors$Lendings", name := "<init>", desc := "(LDebtDoors;[I[II)V" } : Jvm.MethodName)) ∈ lw_all := lw_g (lw_at lw_m6 194 rfl) rfl
theorem q1519 : (Jvm.Cond.code ({ cls := "DebtDoors$Lendings", name := "<init>", desc := "(LDebtDoors;[I[II)V" } : Jvm.MethodName) prog_12_method_1_code (7 : Nat) (Option.none : Option Jvm.ClassFile.FieldType)) ∈ lw_all := lw_g (lw_at lw_m6 195 rfl) rfl
theorem q1520 : (Jvm.Cond.methodLink "DebtDoors$Lendings" (7 : Nat) ({ cls := "DebtDoors$Rows", name := "<init>", desc := "(LDebtDoors;I)V" } : Jvm.MethodName)) ∈ lw_all := lw_g (lw_at lw_m6 196 rfl) rfl
theorem q1526 : (Jvm.Cond.fieldLink "DebtDoors$Lendings" (13 : Nat) "DebtDoors$Lendings" "needs" "[I") ∈ lw_all := lw_g (lw_at lw_m6 202 rfl) rfl
theorem q1527 : (Jvm.Cond.fieldLink "DebtDoors$Lendings" (17 : Nat) "DebtDoors$Lendings" "visits" "[I") ∈ lw_all := lw_g (lw_at lw_m6 203 rfl) rfl
theorem q1529 : (Jvm.Cond.fieldLink "DebtDoors$Lendings" (20 : Nat) "DebtDoors$Lendings" "total" "I") ∈ lw_all := lw_g (lw_at lw_m6 205 rfl) rfl
theorem q1531 : (Jvm.Cond.fieldLink "DebtDoors$Lendings" (1 : Nat) "DebtDoors$Lendings" "this$0" "LDebtDoors;") ∈ lw_all := lw_g (lw_at lw_m6 207 rfl) rfl
theorem q1534 : (Jvm.Cond.sameField "DebtDoors$Lendings" "DebtDoors$Rows" "n" "I") ∈ lw_all := lw_g (lw_at lw_m6 210 rfl) rfl
theorem q1537 : (Jvm.Cond.sameField "DebtDoors$Lendings" "DebtDoors$Rows" "first" "[I") ∈ lw_all := lw_g (lw_at lw_m6 213 rfl) rfl
theorem q1543 : (Jvm.Cond.sameField "DebtDoors$Lendings" "DebtDoors$Rows" "ways" "I") ∈ lw_all := lw_g (lw_at lw_m6 219 rfl) rfl
theorem q1547 : (Jvm.Cond.laysFinal "DebtDoors$Lendings" "DebtDoors$Lendings" "needs" "[I") ∈ lw_all := lw_g (lw_at lw_m6 223 rfl) rfl
theorem q1548 : (Jvm.Cond.soleField "DebtDoors$Lendings" "needs") ∈ lw_all := lw_g (lw_at lw_m6 224 rfl) rfl
theorem q1549 : (Jvm.Cond.laysFinal "DebtDoors$Lendings" "DebtDoors$Lendings" "visits" "[I") ∈ lw_all := lw_g (lw_at lw_m6 225 rfl) rfl
theorem q1550 : (Jvm.Cond.soleField "DebtDoors$Lendings" "visits") ∈ lw_all := lw_g (lw_at lw_m6 226 rfl) rfl
theorem q1551 : (Jvm.Cond.laysFinal "DebtDoors$Lendings" "DebtDoors$Lendings" "total" "I") ∈ lw_all := lw_g (lw_at lw_m6 227 rfl) rfl
theorem q1552 : (Jvm.Cond.soleField "DebtDoors$Lendings" "total") ∈ lw_all := lw_g (lw_at lw_m6 228 rfl) rfl
theorem q1553 : (Jvm.Cond.laysFinal "DebtDoors$Lendings" "DebtDoors$Lendings" "this$0" "LDebtDoors;") ∈ lw_all := lw_g (lw_at lw_m6 229 rfl) rfl
theorem q1554 : (Jvm.Cond.soleField "DebtDoors$Lendings" "this$0") ∈ lw_all := lw_g (lw_at lw_m6 230 rfl) rfl
theorem q1555 : (Jvm.Cond.laysFinal "DebtDoors$Lendings" "DebtDoors$Rows" "n" "I") ∈ lw_all := lw_g (lw_at lw_m6 231 rfl) rfl
theorem q1557 : (Jvm.Cond.laysFinal "DebtDoors$Lendings" "DebtDoors$Rows" "first" "[I") ∈ lw_all := lw_g (lw_at lw_m6 233 rfl) rfl
theorem q1559 : (Jvm.Cond.laysFinal "DebtDoors$Lendings" "DebtDoors$Rows" "row" "[I") ∈ lw_all := lw_g (lw_at lw_m6 235 rfl) rfl
theorem q1561 : (Jvm.Cond.lays "DebtDoors$Lendings" "DebtDoors$Rows" "ways" "I") ∈ lw_all := lw_g (lw_at lw_m6 237 rfl) rfl
theorem q1563 : (Jvm.Cond.laysFinal "DebtDoors$Lendings" "DebtDoors$Rows" "this$0" "LDebtDoors;") ∈ lw_all := lw_g (lw_at lw_m6 239 rfl) rfl
theorem q1565 : (Jvm.Cond.superclass "DebtDoors$Lendings" "DebtDoors$Rows") ∈ lw_all := lw_g (lw_at lw_m7 1 rfl) rfl
theorem q1567 : (Jvm.Cond.sameMethod "DebtDoors$Lendings" "DebtDoors$Rows" "go" "(II)V") ∈ lw_all := lw_g (lw_at lw_m7 3 rfl) rfl
theorem q1569 : (Jvm.Cond.selects "DebtDoors$Lendings" ({ cls := "DebtDoors$Lendings", name := "go", desc := "(II)V" } : Jvm.MethodName) ({ cls := "DebtDoors$Rows", name := "go", desc := "(II)V" } : Jvm.MethodName)) ∈ lw_all := lw_g (lw_at lw_m7 5 rfl) rfl
theorem q1579 : (Jvm.Cond.selects "DebtDoors$Lendings" ({ cls := "DebtDoors$Rows", name := "does", desc := "(LDebtDoors$Books;I)Z" } : Jvm.MethodName) ({ cls := "DebtDoors$Lendings", name := "does", desc := "(LDebtDoors$Books;I)Z" } : Jvm.MethodName)) ∈ lw_all := lw_g (lw_at lw_m7 15 rfl) rfl
theorem q1580 : (Jvm.Cond.instanceMethod ({ cls := "DebtDoors$Lendings", name := "does", desc := "(LDebtDoors$Books;I)Z" } : Jvm.MethodName)) ∈ lw_all := lw_g (lw_at lw_m7 16 rfl) rfl
theorem q1581 : (Jvm.Cond.code ({ cls := "DebtDoors$Lendings", name := "does", desc := "(LDebtDoors$Books;I)Z" } : Jvm.MethodName) prog_12_method_2_code (4 : Nat) (Option.some Jvm.ClassFile.FieldType.boolean)) ∈ lw_all := lw_g (lw_at lw_m7 17 rfl) rfl
theorem q1582 : (Jvm.Cond.methodLink "DebtDoors$Lendings" (35 : Nat) ({ cls := "java/util/ArrayList", name := "get", desc := "(I)Ljava/lang/Object;" } : Jvm.MethodName)) ∈ lw_all := lw_g (lw_at lw_m7 18 rfl) rfl
theorem q1583 : (Jvm.Cond.classLink "DebtDoors$Lendings" (41 : Nat) "DebtDoors$Visit") ∈ lw_all := lw_g (lw_at lw_m7 19 rfl) rfl
theorem q1584 : (Jvm.Cond.methodLink "DebtDoors$Lendings" (49 : Nat) ({ cls := "DebtDoors$Books", name := "canPay", desc := "(III)Z" } : Jvm.MethodName)) ∈ lw_all := lw_g (lw_at lw_m7 20 rfl) rfl
theorem q1585 : (Jvm.Cond.methodLink "DebtDoors$Lendings" (55 : Nat) ({ cls := "DebtDoors$Books", name := "pay", desc := "(III)V" } : Jvm.MethodName)) ∈ lw_all := lw_g (lw_at lw_m7 21 rfl) rfl
theorem q2737 : (Jvm.Cond.selects "DebtDoors$Lendings" ({ cls := "DebtDoors$Rows", name := "go", desc := "(II)V" } : Jvm.MethodName) ({ cls := "DebtDoors$Rows", name := "go", desc := "(II)V" } : Jvm.MethodName)) ∈ lw_all := lw_g (lw_at lw_m11 213 rfl) rfl
theorem q2770 : (Jvm.Cond.castable "DebtDoors$Lendings" "java/lang/Object") ∈ lw_tbl := lw_at lw_m12 6 rfl
theorem in_X30 : ∀ w ∈ wsX300, w ∈ lw_all := lw_in wsX300 [1555, 1557, 1559, 1561, 1563, 1547, 1549, 1551, 1553] (by decide +kernel) (by decide +kernel)
/-! DebtDoors$Plan -/
set_option maxRecDepth 100000
def RX31 : String := "DebtDoors$Plan"
def TX31 : u_T := fun k => match k with
  | 0 => ("DebtDoors$Rows", "n", "I", true)
  | 1 => ("DebtDoors$Rows", "first", "[I", true)
  | 2 => ("DebtDoors$Rows", "row", "[I", true)
  | 3 => ("DebtDoors$Rows", "ways", "I", false)
  | 4 => ("DebtDoors$Rows", "this$0", "LDebtDoors;", true)
  | _ => ("DebtDoors$Plan", "this$0", "LDebtDoors;", true)
def tyX31 : Nat → FieldType := fun k => match k with
  | 0 => .int
  | 1 => .array .int
  | 2 => .array .int
  | 3 => .int
  | 4 => .object "DebtDoors"
  | _ => .object "DebtDoors"
abbrev wsX310 : List Cond := u_ws RX31 TX31 6
-- two fields of one name: no nmX31
theorem tyX31_ok : ∀ k, k < 6 → parseFieldDescriptor (TX31 k).2.2.1 = some (tyX31 k) := by decide +kernel
abbrev cX31_does : ByteArray := prog_19_method_2_code
def yX31_does : MethodName := ⟨RX31, "does", "(LDebtDoors$Books;I)Z"⟩
abbrev cX31_init : ByteArray := prog_19_method_1_code
def yX31_init : MethodName := ⟨RX31, "<init>", "(LDebtDoors;)V"⟩
theorem q173 : (Jvm.Cond.initialized "DebtDoors$Plan") ∈ lw_all := lw_g (lw_at lw_m1 49 rfl) rfl
theorem q262 : (Jvm.Cond.fieldLinkNest "DebtDoors$Plan" (13 : Nat) "DebtDoors$Street" "visits" "Ljava/util/ArrayList;" "DebtDoors") ∈ lw_tbl := lw_at lw_m1 138 rfl
theorem q341 : (Jvm.Cond.fieldLinkNest "DebtDoors$Plan" (7 : Nat) "DebtDoors" "street" "LDebtDoors$Street;" "DebtDoors") ∈ lw_tbl := lw_at lw_m1 217 rfl
theorem q1293 : (Jvm.Cond.selects "DebtDoors$Plan" ({ cls := "java/lang/Object", name := "getClass", desc := "()Ljava/lang/Class;" } : Jvm.MethodName) ({ cls := "java/lang/Object", name := "getClass", desc := "()Ljava/lang/Class;" } : Jvm.MethodName)) ∈ lw_all := lw_g (lw_at lw_m5 209 rfl) rfl
theorem q1478 : (Jvm.Cond.fieldLinkNest "DebtDoors$Plan" (41 : Nat) "DebtDoors$Visit" "visitor" "I" "DebtDoors") ∈ lw_tbl := lw_at lw_m6 154 rfl
theorem q1481 : (Jvm.Cond.fieldLinkNest "DebtDoors$Plan" (37 : Nat) "DebtDoors$Visit" "house" "I" "DebtDoors") ∈ lw_tbl := lw_at lw_m6 157 rfl
theorem q1485 : (Jvm.Cond.fieldLinkNest "DebtDoors$Plan" (48 : Nat) "DebtDoors$Visit" "room" "I" "DebtDoors") ∈ lw_tbl := lw_at lw_m6 161 rfl
theorem q1488 : (Jvm.Cond.fieldLinkNest "DebtDoors$Plan" (51 : Nat) "DebtDoors$Visit" "settle" "I" "DebtDoors") ∈ lw_tbl := lw_at lw_m6 164 rfl
theorem q1539 : (Jvm.Cond.sameField "DebtDoors$Plan" "DebtDoors$Rows" "first" "[I") ∈ lw_all := lw_g (lw_at lw_m6 215 rfl) rfl
theorem q1545 : (Jvm.Cond.sameField "DebtDoors$Plan" "DebtDoors$Rows" "ways" "I") ∈ lw_all := lw_g (lw_at lw_m6 221 rfl) rfl
theorem q1586 : (Jvm.Cond.selects "DebtDoors$Plan" ({ cls := "DebtDoors$Rows", name := "does", desc := "(LDebtDoors$Books;I)Z" } : Jvm.MethodName) ({ cls := "DebtDoors$Plan", name := "does", desc := "(LDebtDoors$Books;I)Z" } : Jvm.MethodName)) ∈ lw_all := lw_g (lw_at lw_m7 22 rfl) rfl
theorem q1587 : (Jvm.Cond.instanceMethod ({ cls := "DebtDoors$Plan", name := "does", desc := "(LDebtDoors$Books;I)Z" } : Jvm.MethodName)) ∈ lw_all := lw_g (lw_at lw_m7 23 rfl) rfl
theorem q1588 : (Jvm.Cond.code ({ cls := "DebtDoors$Plan", name := "does", desc := "(LDebtDoors$Books;I)Z" } : Jvm.MethodName) prog_19_method_2_code (4 : Nat) (Option.some Jvm.ClassFile.FieldType.boolean)) ∈ lw_all := lw_g (lw_at lw_m7 24 rfl) rfl
theorem q1589 : (Jvm.Cond.methodLink "DebtDoors$Plan" (31 : Nat) ({ cls := "java/util/ArrayList", name := "get", desc := "(I)Ljava/lang/Object;" } : Jvm.MethodName)) ∈ lw_all := lw_g (lw_at lw_m7 25 rfl) rfl
theorem q1590 : (Jvm.Cond.classLink "DebtDoors$Plan" (35 : Nat) "DebtDoors$Visit") ∈ lw_all := lw_g (lw_at lw_m7 26 rfl) rfl
theorem q1591 : (Jvm.Cond.methodLinkNest "DebtDoors$Plan" (44 : Nat) ({ cls := "DebtDoors", name := "deepIn", desc := "(LDebtDoors$Books;III)I" } : Jvm.MethodName) "DebtDoors") ∈ lw_tbl := lw_at lw_m7 27 rfl
theorem q1592 : (Jvm.Cond.methodLink "DebtDoors$Plan" (54 : Nat) ({ cls := "DebtDoors$Books", name := "repay", desc := "(III)I" } : Jvm.MethodName)) ∈ lw_all := lw_g (lw_at lw_m7 28 rfl) rfl
theorem q1599 : (Jvm.Cond.instantiable "DebtDoors$Plan" (6 : Nat)) ∈ lw_all := lw_g (lw_at lw_m7 35 rfl) rfl
theorem q1601 : (Jvm.Cond.instanceMethod ({ cls := "DebtDoors$Plan", name := "<init>", desc := "(LDebtDoors;)V" } : Jvm.MethodName)) ∈ lw_all := lw_g (lw_at lw_m7 37 rfl) rfl
theorem q1602 : (Jvm.Cond.code ({ cls := "DebtDoors$Plan", name := "<init>", desc := "(LDebtDoors;)V" } : Jvm.MethodName) prog_19_method_1_code (2 : Nat) (Option.none : Option Jvm.ClassFile.FieldType)) ∈ lw_all := lw_g (lw_at lw_m7 38 rfl) rfl
theorem q1603 : (Jvm.Cond.methodLink "DebtDoors$Plan" (19 : Nat) ({ cls := "java/util/ArrayList", name := "size", desc := "()I" } : Jvm.MethodName)) ∈ lw_all := lw_g (lw_at lw_m7 39 rfl) rfl
theorem q1604 : (Jvm.Cond.methodLink "DebtDoors$Plan" (25 : Nat) ({ cls := "DebtDoors$Rows", name := "<init>", desc := "(LDebtDoors;I)V" } : Jvm.MethodName)) ∈ lw_all := lw_g (lw_at lw_m7 40 rfl) rfl
theorem q1605 : (Jvm.Cond.fieldLink "DebtDoors$Plan" (1 : Nat) "DebtDoors$Plan" "this$0" "LDebtDoors;") ∈ lw_all := lw_g (lw_at lw_m7 41 rfl) rfl
theorem q1606 : (Jvm.Cond.laysFinal "DebtDoors$Plan" "DebtDoors$Plan" "this$0" "LDebtDoors;") ∈ lw_all := lw_g (lw_at lw_m7 42 rfl) rfl
theorem q1607 : (Jvm.Cond.soleField "DebtDoors$Plan" "this$0") ∈ lw_all := lw_g (lw_at lw_m7 43 rfl) rfl
theorem q1608 : (Jvm.Cond.laysFinal "DebtDoors$Plan" "DebtDoors$Rows" "n" "I") ∈ lw_all := lw_g (lw_at lw_m7 44 rfl) rfl
theorem q1609 : (Jvm.Cond.laysFinal "DebtDoors$Plan" "DebtDoors$Rows" "first" "[I") ∈ lw_all := lw_g (lw_at lw_m7 45 rfl) rfl
theorem q1610 : (Jvm.Cond.laysFinal "DebtDoors$Plan" "DebtDoors$Rows" "row" "[I") ∈ lw_all := lw_g (lw_at lw_m7 46 rfl) rfl
theorem q1611 : (Jvm.Cond.lays "DebtDoors$Plan" "DebtDoors$Rows" "ways" "I") ∈ lw_all := lw_g (lw_at lw_m7 47 rfl) rfl
theorem q1612 : (Jvm.Cond.laysFinal "DebtDoors$Plan" "DebtDoors$Rows" "this$0" "LDebtDoors;") ∈ lw_all := lw_g (lw_at lw_m7 48 rfl) rfl
theorem q1613 : (Jvm.Cond.superclass "DebtDoors$Plan" "DebtDoors$Rows") ∈ lw_all := lw_g (lw_at lw_m7 49 rfl) rfl
theorem q1615 : (Jvm.Cond.sameMethod "DebtDoors$Plan" "DebtDoors$Rows" "go" "(II)V") ∈ lw_all := lw_g (lw_at lw_m7 51 rfl) rfl
theorem q1616 : (Jvm.Cond.selects "DebtDoors$Plan" ({ cls := "DebtDoors$Plan", name := "go", desc := "(II)V" } : Jvm.MethodName) ({ cls := "DebtDoors$Rows", name := "go", desc := "(II)V" } : Jvm.MethodName)) ∈ lw_all := lw_g (lw_at lw_m7 52 rfl) rfl
theorem q2738 : (Jvm.Cond.selects "DebtDoors$Plan" ({ cls := "DebtDoors$Rows", name := "go", desc := "(II)V" } : Jvm.MethodName) ({ cls := "DebtDoors$Rows", name := "go", desc := "(II)V" } : Jvm.MethodName)) ∈ lw_all := lw_g (lw_at lw_m11 214 rfl) rfl
theorem q2771 : (Jvm.Cond.castable "DebtDoors$Plan" "java/lang/Object") ∈ lw_tbl := lw_at lw_m12 7 rfl
theorem in_X31 : ∀ w ∈ wsX310, w ∈ lw_all := lw_in wsX310 [1608, 1609, 1610, 1611, 1612, 1606] (by decide +kernel) (by decide +kernel)
/-! DebtDoors$Scuff -/
set_option maxRecDepth 100000
def RX32 : String := "DebtDoors$Scuff"
def TX32 : u_T := fun k => match k with
  | 0 => ("DebtDoors$Scuff", "visitor", "I", true)
  | 1 => ("DebtDoors$Scuff", "house", "I", true)
  | 2 => ("DebtDoors$Scuff", "room", "I", true)
  | _ => ("DebtDoors$Scuff", "is", "Z", true)
def tyX32 : Nat → FieldType := fun k => match k with
  | 0 => .int
  | 1 => .int
  | 2 => .int
  | _ => .boolean
abbrev wsX320 : List Cond := u_ws RX32 TX32 4
theorem nmX32 : ∀ a, a < 4 → ∀ b, b < 4 → a ≠ b → (TX32 a).2.1 ≠ (TX32 b).2.1 := by decide +kernel
theorem tyX32_ok : ∀ k, k < 4 → parseFieldDescriptor (TX32 k).2.2.1 = some (tyX32 k) := by decide +kernel
abbrev cX32_init : ByteArray := prog_26_method_1_code
def yX32_init : MethodName := ⟨RX32, "<init>", "(IIIZ)V"⟩
theorem q175 : (Jvm.Cond.initialized "DebtDoors$Scuff") ∈ lw_all := lw_g (lw_at lw_m1 51 rfl) rfl
theorem q1298 : (Jvm.Cond.selects "DebtDoors$Scuff" ({ cls := "java/lang/Object", name := "getClass", desc := "()Ljava/lang/Class;" } : Jvm.MethodName) ({ cls := "java/lang/Object", name := "getClass", desc := "()Ljava/lang/Class;" } : Jvm.MethodName)) ∈ lw_all := lw_g (lw_at lw_m5 214 rfl) rfl
theorem q1738 : (Jvm.Cond.instantiable "DebtDoors$Scuff" (4 : Nat)) ∈ lw_all := lw_g (lw_at lw_m7 174 rfl) rfl
theorem q1740 : (Jvm.Cond.instanceMethod ({ cls := "DebtDoors$Scuff", name := "<init>", desc := "(IIIZ)V" } : Jvm.MethodName)) ∈ lw_all := lw_g (lw_at lw_m7 176 rfl) rfl
theorem q1741 : (Jvm.Cond.code ({ cls := "DebtDoors$Scuff", name := "<init>", desc := "(IIIZ)V" } : Jvm.MethodName) prog_26_method_1_code (5 : Nat) (Option.none : Option Jvm.ClassFile.FieldType)) ∈ lw_all := lw_g (lw_at lw_m7 177 rfl) rfl
theorem q1742 : (Jvm.Cond.methodLink "DebtDoors$Scuff" (1 : Nat) ({ cls := "java/lang/Object", name := "<init>", desc := "()V" } : Jvm.MethodName)) ∈ lw_all := lw_g (lw_at lw_m7 178 rfl) rfl
theorem q1743 : (Jvm.Cond.fieldLink "DebtDoors$Scuff" (7 : Nat) "DebtDoors$Scuff" "visitor" "I") ∈ lw_all := lw_g (lw_at lw_m7 179 rfl) rfl
theorem q1745 : (Jvm.Cond.fieldLink "DebtDoors$Scuff" (13 : Nat) "DebtDoors$Scuff" "house" "I") ∈ lw_all := lw_g (lw_at lw_m7 181 rfl) rfl
theorem q1747 : (Jvm.Cond.fieldLink "DebtDoors$Scuff" (16 : Nat) "DebtDoors$Scuff" "room" "I") ∈ lw_all := lw_g (lw_at lw_m7 183 rfl) rfl
theorem q1749 : (Jvm.Cond.fieldLink "DebtDoors$Scuff" (19 : Nat) "DebtDoors$Scuff" "is" "Z") ∈ lw_all := lw_g (lw_at lw_m7 185 rfl) rfl
theorem q1751 : (Jvm.Cond.laysFinal "DebtDoors$Scuff" "DebtDoors$Scuff" "visitor" "I") ∈ lw_all := lw_g (lw_at lw_m7 187 rfl) rfl
theorem q1752 : (Jvm.Cond.soleField "DebtDoors$Scuff" "visitor") ∈ lw_all := lw_g (lw_at lw_m7 188 rfl) rfl
theorem q1753 : (Jvm.Cond.laysFinal "DebtDoors$Scuff" "DebtDoors$Scuff" "house" "I") ∈ lw_all := lw_g (lw_at lw_m7 189 rfl) rfl
theorem q1754 : (Jvm.Cond.soleField "DebtDoors$Scuff" "house") ∈ lw_all := lw_g (lw_at lw_m7 190 rfl) rfl
theorem q1755 : (Jvm.Cond.laysFinal "DebtDoors$Scuff" "DebtDoors$Scuff" "room" "I") ∈ lw_all := lw_g (lw_at lw_m7 191 rfl) rfl
theorem q1756 : (Jvm.Cond.soleField "DebtDoors$Scuff" "room") ∈ lw_all := lw_g (lw_at lw_m7 192 rfl) rfl
theorem q1757 : (Jvm.Cond.laysFinal "DebtDoors$Scuff" "DebtDoors$Scuff" "is" "Z") ∈ lw_all := lw_g (lw_at lw_m7 193 rfl) rfl
theorem q1758 : (Jvm.Cond.soleField "DebtDoors$Scuff" "is") ∈ lw_all := lw_g (lw_at lw_m7 194 rfl) rfl
theorem q1759 : (Jvm.Cond.superclass "DebtDoors$Scuff" "java/lang/Object") ∈ lw_all := lw_g (lw_at lw_m7 195 rfl) rfl
theorem q2772 : (Jvm.Cond.castable "DebtDoors$Scuff" "java/lang/Object") ∈ lw_tbl := lw_at lw_m12 8 rfl
theorem in_X32 : ∀ w ∈ wsX320, w ∈ lw_all := lw_in wsX320 [1751, 1753, 1755, 1757] (by decide +kernel) (by decide +kernel)
/-! DebtDoors$Draws -/
set_option maxRecDepth 100000
def RX33 : String := "DebtDoors$Draws"
def TX33 : u_T := fun k => match k with
  | _ => ("DebtDoors$Draws", "state", "J", false)
def tyX33 : Nat → FieldType := fun k => match k with
  | _ => .long
abbrev wsX330 : List Cond := u_ws RX33 TX33 1
theorem nmX33 : ∀ a, a < 1 → ∀ b, b < 1 → a ≠ b → (TX33 a).2.1 ≠ (TX33 b).2.1 := by decide +kernel
theorem tyX33_ok : ∀ k, k < 1 → parseFieldDescriptor (TX33 k).2.2.1 = some (tyX33 k) := by decide +kernel
abbrev cX33_init : ByteArray := prog_8_method_1_code
def yX33_init : MethodName := ⟨RX33, "<init>", "(I)V"⟩
abbrev cX33_of : ByteArray := prog_8_method_2_code
def yX33_of : MethodName := ⟨RX33, "of", "(I)I"⟩
theorem q176 : (Jvm.Cond.initialized "DebtDoors$Draws") ∈ lw_all := lw_g (lw_at lw_m1 52 rfl) rfl
theorem q1284 : (Jvm.Cond.selects "DebtDoors$Draws" ({ cls := "java/lang/Object", name := "getClass", desc := "()Ljava/lang/Class;" } : Jvm.MethodName) ({ cls := "java/lang/Object", name := "getClass", desc := "()Ljava/lang/Class;" } : Jvm.MethodName)) ∈ lw_all := lw_g (lw_at lw_m5 200 rfl) rfl
theorem q1910 : (Jvm.Cond.instantiable "DebtDoors$Draws" (1 : Nat)) ∈ lw_all := lw_g (lw_at lw_m8 106 rfl) rfl
theorem q1912 : (Jvm.Cond.instanceMethod ({ cls := "DebtDoors$Draws", name := "<init>", desc := "(I)V" } : Jvm.MethodName)) ∈ lw_all := lw_g (lw_at lw_m8 108 rfl) rfl
theorem q1913 : (Jvm.Cond.code ({ cls := "DebtDoors$Draws", name := "<init>", desc := "(I)V" } : Jvm.MethodName) prog_8_method_1_code (2 : Nat) (Option.none : Option Jvm.ClassFile.FieldType)) ∈ lw_all := lw_g (lw_at lw_m8 109 rfl) rfl
theorem q1914 : (Jvm.Cond.methodLink "DebtDoors$Draws" (1 : Nat) ({ cls := "java/lang/Object", name := "<init>", desc := "()V" } : Jvm.MethodName)) ∈ lw_all := lw_g (lw_at lw_m8 110 rfl) rfl
theorem q1915 : (Jvm.Cond.fieldLink "DebtDoors$Draws" (7 : Nat) "DebtDoors$Draws" "state" "J") ∈ lw_all := lw_g (lw_at lw_m8 111 rfl) rfl
theorem q1916 : (Jvm.Cond.lays "DebtDoors$Draws" "DebtDoors$Draws" "state" "J") ∈ lw_all := lw_g (lw_at lw_m8 112 rfl) rfl
theorem q1917 : (Jvm.Cond.soleField "DebtDoors$Draws" "state") ∈ lw_all := lw_g (lw_at lw_m8 113 rfl) rfl
theorem q1918 : (Jvm.Cond.superclass "DebtDoors$Draws" "java/lang/Object") ∈ lw_all := lw_g (lw_at lw_m8 114 rfl) rfl
theorem q1920 : (Jvm.Cond.instanceMethod ({ cls := "DebtDoors$Draws", name := "of", desc := "(I)I" } : Jvm.MethodName)) ∈ lw_all := lw_g (lw_at lw_m8 116 rfl) rfl
theorem q1921 : (Jvm.Cond.selects "DebtDoors$Draws" ({ cls := "DebtDoors$Draws", name := "of", desc := "(I)I" } : Jvm.MethodName) ({ cls := "DebtDoors$Draws", name := "of", desc := "(I)I" } : Jvm.MethodName)) ∈ lw_all := lw_g (lw_at lw_m8 117 rfl) rfl
theorem q1922 : (Jvm.Cond.code ({ cls := "DebtDoors$Draws", name := "of", desc := "(I)I" } : Jvm.MethodName) prog_8_method_2_code (2 : Nat) (Option.some Jvm.ClassFile.FieldType.int)) ∈ lw_all := lw_g (lw_at lw_m8 118 rfl) rfl
theorem q1923 : (Jvm.Cond.constantLong "DebtDoors$Draws" (13 : Nat) (1103 : Int64)) ∈ lw_all := lw_g (lw_at lw_m8 119 rfl) rfl
theorem q1924 : (Jvm.Cond.constantLong "DebtDoors$Draws" (15 : Nat) (12345 : Int64)) ∈ lw_all := lw_g (lw_at lw_m8 120 rfl) rfl
theorem q1925 : (Jvm.Cond.constantLong "DebtDoors$Draws" (17 : Nat) (1000003 : Int64)) ∈ lw_all := lw_g (lw_at lw_m8 121 rfl) rfl
theorem q2773 : (Jvm.Cond.castable "DebtDoors$Draws" "java/lang/Object") ∈ lw_tbl := lw_at lw_m12 9 rfl
theorem in_X33 : ∀ w ∈ wsX330, w ∈ lw_all := lw_in wsX330 [1916] (by decide +kernel) (by decide +kernel)
/-! DebtDoors$Text -/
set_option maxRecDepth 100000
def RX4 : String := "DebtDoors$Text"
def TX4 : u_T := fun k => match k with
  | _ => ("DebtDoors$Text", "clauses", "[LDebtDoors$Clause;", true)
def tyX4 : Nat → FieldType := fun k => match k with
  | _ => .array (.object "DebtDoors$Clause")
abbrev wsX40 : List Cond := u_ws RX4 TX4 1
theorem nmX4 : ∀ a, a < 1 → ∀ b, b < 1 → a ≠ b → (TX4 a).2.1 ≠ (TX4 b).2.1 := by decide +kernel
theorem tyX4_ok : ∀ k, k < 1 → parseFieldDescriptor (TX4 k).2.2.1 = some (tyX4 k) := by decide +kernel
abbrev cX4_init : ByteArray := prog_30_method_1_code
def yX4_init : MethodName := ⟨RX4, "<init>", "([LDebtDoors$Clause;)V"⟩
abbrev cX4_tells : ByteArray := prog_30_method_3_code
def yX4_tells : MethodName := ⟨RX4, "tells", "(ILDebtDoors$Asked;J)J"⟩
abbrev cX4_has : ByteArray := prog_30_method_2_code
def yX4_has : MethodName := ⟨RX4, "has", "(ILDebtDoors$Asked;)Z"⟩
theorem q132 : (Jvm.Cond.initialized "DebtDoors$Text") ∈ lw_all := lw_g (lw_at lw_m1 8 rfl) rfl
theorem q327 : (Jvm.Cond.instantiable "DebtDoors$Text" (1 : Nat)) ∈ lw_all := lw_g (lw_at lw_m1 203 rfl) rfl
theorem q331 : (Jvm.Cond.instanceMethod ({ cls := "DebtDoors$Text", name := "<init>", desc := "([LDebtDoors$Clause;)V" } : Jvm.MethodName)) ∈ lw_all := lw_g (lw_at lw_m1 207 rfl) rfl
theorem q332 : (Jvm.Cond.code ({ cls := "DebtDoors$Text", name := "<init>", desc := "([LDebtDoors$Clause;)V" } : Jvm.MethodName) prog_30_method_1_code (2 : Nat) (Option.none : Option Jvm.ClassFile.FieldType)) ∈ lw_all := lw_g (lw_at lw_m1 208 rfl) rfl
theorem q333 : (Jvm.Cond.methodLink "DebtDoors$Text" (1 : Nat) ({ cls := "java/lang/Object", name := "<init>", desc := "()V" } : Jvm.MethodName)) ∈ lw_all := lw_g (lw_at lw_m1 209 rfl) rfl
theorem q334 : (Jvm.Cond.fieldLink "DebtDoors$Text" (7 : Nat) "DebtDoors$Text" "clauses" "[LDebtDoors$Clause;") ∈ lw_all := lw_g (lw_at lw_m1 210 rfl) rfl
theorem q335 : (Jvm.Cond.laysFinal "DebtDoors$Text" "DebtDoors$Text" "clauses" "[LDebtDoors$Clause;") ∈ lw_all := lw_g (lw_at lw_m1 211 rfl) rfl
theorem q336 : (Jvm.Cond.soleField "DebtDoors$Text" "clauses") ∈ lw_all := lw_g (lw_at lw_m1 212 rfl) rfl
theorem q337 : (Jvm.Cond.superclass "DebtDoors$Text" "java/lang/Object") ∈ lw_all := lw_g (lw_at lw_m1 213 rfl) rfl
theorem q539 : (Jvm.Cond.instanceMethod ({ cls := "DebtDoors$Text", name := "tells", desc := "(ILDebtDoors$Asked;J)J" } : Jvm.MethodName)) ∈ lw_all := lw_g (lw_at lw_m2 175 rfl) rfl
theorem q540 : (Jvm.Cond.selects "DebtDoors$Text" ({ cls := "DebtDoors$Text", name := "tells", desc := "(ILDebtDoors$Asked;J)J" } : Jvm.MethodName) ({ cls := "DebtDoors$Text", name := "tells", desc := "(ILDebtDoors$Asked;J)J" } : Jvm.MethodName)) ∈ lw_all := lw_g (lw_at lw_m2 176 rfl) rfl
theorem q541 : (Jvm.Cond.code ({ cls := "DebtDoors$Text", name := "tells", desc := "(ILDebtDoors$Asked;J)J" } : Jvm.MethodName) prog_30_method_3_code (8 : Nat) (Option.some Jvm.ClassFile.FieldType.long)) ∈ lw_all := lw_g (lw_at lw_m2 177 rfl) rfl
theorem q542 : (Jvm.Cond.methodLink "DebtDoors$Text" (19 : Nat) ({ cls := "DebtDoors$Clause", name := "holds", desc := "(LDebtDoors$Asked;)Z" } : Jvm.MethodName)) ∈ lw_all := lw_g (lw_at lw_m2 178 rfl) rfl
theorem q1117 : (Jvm.Cond.fieldLinkNest "DebtDoors$Text" (13 : Nat) "DebtDoors$Clause" "head" "I" "DebtDoors") ∈ lw_tbl := lw_at lw_m5 33 rfl
theorem q1121 : (Jvm.Cond.fieldLinkNest "DebtDoors$Text" (23 : Nat) "DebtDoors$Clause" "told" "J" "DebtDoors") ∈ lw_tbl := lw_at lw_m5 37 rfl
theorem q1300 : (Jvm.Cond.selects "DebtDoors$Text" ({ cls := "java/lang/Object", name := "getClass", desc := "()Ljava/lang/Class;" } : Jvm.MethodName) ({ cls := "java/lang/Object", name := "getClass", desc := "()Ljava/lang/Class;" } : Jvm.MethodName)) ∈ lw_all := lw_g (lw_at lw_m5 216 rfl) rfl
theorem q1339 : (Jvm.Cond.instanceMethod ({ cls := "DebtDoors$Text", name := "has", desc := "(ILDebtDoors$Asked;)Z" } : Jvm.MethodName)) ∈ lw_all := lw_g (lw_at lw_m6 15 rfl) rfl
theorem q1340 : (Jvm.Cond.selects "DebtDoors$Text" ({ cls := "DebtDoors$Text", name := "has", desc := "(ILDebtDoors$Asked;)Z" } : Jvm.MethodName) ({ cls := "DebtDoors$Text", name := "has", desc := "(ILDebtDoors$Asked;)Z" } : Jvm.MethodName)) ∈ lw_all := lw_g (lw_at lw_m6 16 rfl) rfl
theorem q1341 : (Jvm.Cond.code ({ cls := "DebtDoors$Text", name := "has", desc := "(ILDebtDoors$Asked;)Z" } : Jvm.MethodName) prog_30_method_2_code (4 : Nat) (Option.some Jvm.ClassFile.FieldType.boolean)) ∈ lw_all := lw_g (lw_at lw_m6 17 rfl) rfl
theorem q2750 : (Jvm.Cond.castable "DebtDoors$Text" "java/lang/Object") ∈ lw_tbl := lw_at lw_m11 226 rfl
theorem in_X4 : ∀ w ∈ wsX40, w ∈ lw_all := lw_in wsX40 [335] (by decide +kernel) (by decide +kernel)
/-! DebtDoorsModel -/
set_option maxRecDepth 100000
def RX5 : String := "DebtDoorsModel"
def TX5 : u_T := fun k => match k with
  | 0 => ("DebtDoorsModel", "status", "I", false)
  | 1 => ("DebtDoorsModel", "refused", "[I", true)
  | 2 => ("DebtDoorsModel", "kept", "[I", true)
  | 3 => ("DebtDoorsModel", "images", "[I", true)
  | 4 => ("DebtDoorsModel", "hasImage", "[Z", true)
  | 5 => ("DebtDoorsModel", "aside", "[I", true)
  | 6 => ("DebtDoorsModel", "blots0", "I", false)
  | 7 => ("DebtDoorsModel", "words", "[B", true)
  | 8 => ("DebtDoorsModel", "isOrders", "Z", false)
  | 9 => ("DebtDoorsModel", "tape", "[B", true)
  | 10 => ("DebtDoorsModel", "five", "[I", true)
  | 11 => ("DebtDoorsModel", "taped", "I", false)
  | 12 => ("DebtDoorsModel", "fault", "I", false)
  | 13 => ("DebtDoorsModel", "code", "[I", true)
  | 14 => ("DebtDoorsModel", "value", "[I", true)
  | 15 => ("DebtDoorsModel", "placed", "[I", true)
  | 16 => ("DebtDoorsModel", "tokens", "I", false)
  | 17 => ("DebtDoorsModel", "token", "I", false)
  | 18 => ("DebtDoorsModel", "leaves", "I", false)
  | 19 => ("DebtDoorsModel", "bad", "I", false)
  | 20 => ("DebtDoorsModel", "go", "I", false)
  | 21 => ("DebtDoorsModel", "goEnd", "I", false)
  | 22 => ("DebtDoorsModel", "broken", "Z", false)
  | 23 => ("DebtDoorsModel", "inOrders", "Z", false)
  | 24 => ("DebtDoorsModel", "asked", "[I", true)
  | 25 => ("DebtDoorsModel", "orderValues", "[I", true)
  | 26 => ("DebtDoorsModel", "left", "[I", true)
  | 27 => ("DebtDoorsModel", "leftAhead", "[I", true)
  | 28 => ("DebtDoorsModel", "undoMany", "I", false)
  | 29 => ("DebtDoorsModel", "lender", "[I", true)
  | 30 => ("DebtDoorsModel", "taker", "[I", true)
  | 31 => ("DebtDoorsModel", "needed", "[I", true)
  | 32 => ("DebtDoorsModel", "told0", "[I", true)
  | 33 => ("DebtDoorsModel", "rows", "[I", true)
  | 34 => ("DebtDoorsModel", "lendMany", "I", false)
  | 35 => ("DebtDoorsModel", "planRow", "[I", true)
  | 36 => ("DebtDoorsModel", "firstPlan", "[I", true)
  | 37 => ("DebtDoorsModel", "plans", "I", false)
  | 38 => ("DebtDoorsModel", "thiefCost", "I", false)
  | 39 => ("DebtDoorsModel", "thiefSet", "I", false)
  | 40 => ("DebtDoorsModel", "prices", "[I", true)
  | 41 => ("DebtDoorsModel", "ringRow", "[I", true)
  | 42 => ("DebtDoorsModel", "ringFirst", "[I", true)
  | 43 => ("DebtDoorsModel", "ringSize", "I", false)
  | 44 => ("DebtDoorsModel", "ringBits", "I", false)
  | 45 => ("DebtDoorsModel", "deeps", "[I", true)
  | 46 => ("DebtDoorsModel", "groups", "[I", true)
  | 47 => ("DebtDoorsModel", "stopped0", "I", false)
  | 48 => ("DebtDoorsModel", "orderDone", "I", false)
  | 49 => ("DebtDoorsModel", "orderLast", "I", false)
  | 50 => ("DebtDoorsModel", "orderAt", "I", false)
  | 51 => ("DebtDoorsModel", "timesOf", "I", false)
  | 52 => ("DebtDoorsModel", "head", "I", false)
  | 53 => ("DebtDoorsModel", "sumsAre", "Z", false)
  | 54 => ("DebtDoorsModel", "testIs", "Z", false)
  | 55 => ("DebtDoorsModel", "sums", "[J", true)
  | 56 => ("DebtDoorsModel", "drawnPurse", "[I", true)
  | 57 => ("DebtDoorsModel", "drawnBalance", "[I", true)
  | 58 => ("DebtDoorsModel", "drawnDoors", "[I", true)
  | 59 => ("DebtDoorsModel", "drawnMany", "I", false)
  | _ => ("DebtDoorsModel", "latest", "I", false)
def tyX5 : Nat → FieldType := fun k => match k with
  | 0 => .int
  | 1 => .array .int
  | 2 => .array .int
  | 3 => .array .int
  | 4 => .array .boolean
  | 5 => .array .int
  | 6 => .int
  | 7 => .array .byte
  | 8 => .boolean
  | 9 => .array .byte
  | 10 => .array .int
  | 11 => .int
  | 12 => .int
  | 13 => .array .int
  | 14 => .array .int
  | 15 => .array .int
  | 16 => .int
  | 17 => .int
  | 18 => .int
  | 19 => .int
  | 20 => .int
  | 21 => .int
  | 22 => .boolean
  | 23 => .boolean
  | 24 => .array .int
  | 25 => .array .int
  | 26 => .array .int
  | 27 => .array .int
  | 28 => .int
  | 29 => .array .int
  | 30 => .array .int
  | 31 => .array .int
  | 32 => .array .int
  | 33 => .array .int
  | 34 => .int
  | 35 => .array .int
  | 36 => .array .int
  | 37 => .int
  | 38 => .int
  | 39 => .int
  | 40 => .array .int
  | 41 => .array .int
  | 42 => .array .int
  | 43 => .int
  | 44 => .int
  | 45 => .array .int
  | 46 => .array .int
  | 47 => .int
  | 48 => .int
  | 49 => .int
  | 50 => .int
  | 51 => .int
  | 52 => .int
  | 53 => .boolean
  | 54 => .boolean
  | 55 => .array .long
  | 56 => .array .int
  | 57 => .array .int
  | 58 => .array .int
  | 59 => .int
  | _ => .int
abbrev wsX50 : List Cond := u_ws RX5 TX5 61
set_option maxRecDepth 100000 in
theorem nmX5 : ∀ a, a < 61 → ∀ b, b < 61 → a ≠ b → (TX5 a).2.1 ≠ (TX5 b).2.1 := by decide +kernel
set_option maxRecDepth 100000 in
theorem tyX5_ok : ∀ k, k < 61 → parseFieldDescriptor (TX5 k).2.2.1 = some (tyX5 k) := by decide +kernel
abbrev cX5_init : ByteArray := prog_35_method_8_code
def yX5_init : MethodName := ⟨RX5, "<init>", "()V"⟩
abbrev cX5_image : ByteArray := prog_35_method_11_code
def yX5_image : MethodName := ⟨RX5, "image", "(I)I"⟩
abbrev cX5_lies : ByteArray := prog_35_method_1_code
def yX5_lies : MethodName := ⟨RX5, "lies", "(III)Z"⟩
abbrev cX5_refuses : ByteArray := prog_35_method_2_code
def yX5_refuses : MethodName := ⟨RX5, "refuses", "(I)I"⟩
abbrev cX5_good : ByteArray := prog_35_method_3_code
def yX5_good : MethodName := ⟨RX5, "good", "(I)I"⟩
abbrev cX5_back : ByteArray := prog_35_method_12_code
def yX5_back : MethodName := ⟨RX5, "back", "(I)I"⟩
abbrev cX5_settled : ByteArray := prog_35_method_4_code
def yX5_settled : MethodName := ⟨RX5, "settled", "(I)I"⟩
abbrev cX5_person : ByteArray := prog_35_method_21_code
def yX5_person : MethodName := ⟨RX5, "person", "(III)I"⟩
abbrev cX5_isFact : ByteArray := prog_35_method_19_code
def yX5_isFact : MethodName := ⟨RX5, "isFact", "(II)Z"⟩
abbrev cX5_isRoom : ByteArray := prog_35_method_17_code
def yX5_isRoom : MethodName := ⟨RX5, "isRoom", "(I)Z"⟩
abbrev cX5_people : ByteArray := prog_35_method_13_code
def yX5_people : MethodName := ⟨RX5, "people", "()I"⟩
abbrev cX5_placeOf : ByteArray := prog_35_method_20_code
def yX5_placeOf : MethodName := ⟨RX5, "placeOf", "(II)I"⟩
abbrev cX5_put : ByteArray := prog_35_method_22_code
def yX5_put : MethodName := ⟨RX5, "put", "(III)I"⟩
abbrev cX5_isPerson : ByteArray := prog_35_method_15_code
def yX5_isPerson : MethodName := ⟨RX5, "isPerson", "(I)Z"⟩
abbrev cX5_of : ByteArray := prog_35_method_23_code
def yX5_of : MethodName := ⟨RX5, "of", "(II)I"⟩
abbrev cX5_debt : ByteArray := prog_35_method_26_code
def yX5_debt : MethodName := ⟨RX5, "debt", "(III)I"⟩
abbrev cX5_whyNot : ByteArray := prog_35_method_25_code
def yX5_whyNot : MethodName := ⟨RX5, "whyNot", "(III)I"⟩
abbrev cX5_isAmount : ByteArray := prog_35_method_18_code
def yX5_isAmount : MethodName := ⟨RX5, "isAmount", "(I)Z"⟩
abbrev cX5_debts : ByteArray := prog_35_method_14_code
def yX5_debts : MethodName := ⟨RX5, "debts", "()I"⟩
abbrev cX5_adds : ByteArray := prog_35_method_24_code
def yX5_adds : MethodName := ⟨RX5, "adds", "(III)V"⟩
abbrev cX5_at : ByteArray := prog_35_method_30_code
def yX5_at : MethodName := ⟨RX5, "at", "(II)I"⟩
abbrev cX5_isDebt : ByteArray := prog_35_method_16_code
def yX5_isDebt : MethodName := ⟨RX5, "isDebt", "(I)Z"⟩
abbrev cX5_soldFor : ByteArray := prog_35_method_79_code
def yX5_soldFor : MethodName := ⟨RX5, "soldFor", "(I)I"⟩
abbrev cX5_setsDebt : ByteArray := prog_35_method_77_code
def yX5_setsDebt : MethodName := ⟨RX5, "setsDebt", "(I)V"⟩
abbrev cX5_owed : ByteArray := prog_35_method_29_code
def yX5_owed : MethodName := ⟨RX5, "owed", "(II)I"⟩
abbrev cX5_isOf : ByteArray := prog_35_method_28_code
def yX5_isOf : MethodName := ⟨RX5, "isOf", "(III)Z"⟩
abbrev cX5_sets : ByteArray := prog_35_method_74_code
def yX5_sets : MethodName := ⟨RX5, "sets", "(IIIIII)V"⟩
abbrev cX5_tells : ByteArray := prog_35_method_73_code
def yX5_tells : MethodName := ⟨RX5, "tells", "(III)I"⟩
abbrev cX5_codeAt : ByteArray := prog_35_method_63_code
def yX5_codeAt : MethodName := ⟨RX5, "codeAt", "(I)I"⟩
abbrev cX5_sumOf : ByteArray := prog_35_method_66_code
def yX5_sumOf : MethodName := ⟨RX5, "sumOf", "(Z)J"⟩
abbrev cX5_termOf : ByteArray := prog_35_method_67_code
def yX5_termOf : MethodName := ⟨RX5, "termOf", "(Z)J"⟩
abbrev cX5_partOf : ByteArray := prog_35_method_68_code
def yX5_partOf : MethodName := ⟨RX5, "partOf", "(Z)J"⟩
abbrev cX5_sign : ByteArray := prog_35_method_46_code
def yX5_sign : MethodName := ⟨RX5, "sign", "(C)I"⟩
abbrev cX5_passes0 : ByteArray := prog_35_method_64_code
def yX5_passes0 : MethodName := ⟨RX5, "passes0", "(I)Z"⟩
abbrev cX5_bounded : ByteArray := prog_35_method_65_code
def yX5_bounded : MethodName := ⟨RX5, "bounded", "(JZ)J"⟩
abbrev cX5_testOf : ByteArray := prog_35_method_69_code
def yX5_testOf : MethodName := ⟨RX5, "testOf", "(Z)Z"⟩
abbrev cX5_bothOf : ByteArray := prog_35_method_70_code
def yX5_bothOf : MethodName := ⟨RX5, "bothOf", "(Z)Z"⟩
abbrev cX5_plainOf : ByteArray := prog_35_method_71_code
def yX5_plainOf : MethodName := ⟨RX5, "plainOf", "(Z)Z"⟩
abbrev cX5_positiveOf : ByteArray := prog_35_method_72_code
def yX5_positiveOf : MethodName := ⟨RX5, "positiveOf", "(Z)Z"⟩
abbrev cX5_growsBy : ByteArray := prog_35_method_78_code
def yX5_growsBy : MethodName := ⟨RX5, "growsBy", "(I)I"⟩
abbrev cX5_owes : ByteArray := prog_35_method_31_code
def yX5_owes : MethodName := ⟨RX5, "owes", "(II)I"⟩
abbrev cX5_terms : ByteArray := prog_35_method_32_code
def yX5_terms : MethodName := ⟨RX5, "terms", "(II)I"⟩
abbrev cX5_row : ByteArray := prog_35_method_33_code
def yX5_row : MethodName := ⟨RX5, "row", "()I"⟩
abbrev cX5_blots : ByteArray := prog_35_method_34_code
def yX5_blots : MethodName := ⟨RX5, "blots", "()I"⟩
abbrev cX5_feed : ByteArray := prog_35_method_35_code
def yX5_feed : MethodName := ⟨RX5, "feed", "(IIIII)I"⟩
abbrev cX5_end : ByteArray := prog_35_method_36_code
def yX5_end : MethodName := ⟨RX5, "end", "(I)I"⟩
abbrev cX5_law : ByteArray := prog_35_method_60_code
def yX5_law : MethodName := ⟨RX5, "law", "()I"⟩
abbrev cX5_reads : ByteArray := prog_35_method_58_code
def yX5_reads : MethodName := ⟨RX5, "reads", "()Z"⟩
abbrev cX5_splits : ByteArray := prog_35_method_40_code
def yX5_splits : MethodName := ⟨RX5, "splits", "(I)V"⟩
abbrev cX5_isSmall : ByteArray := prog_35_method_37_code
def yX5_isSmall : MethodName := ⟨RX5, "isSmall", "(I)Z"⟩
abbrev cX5_isDigit : ByteArray := prog_35_method_38_code
def yX5_isDigit : MethodName := ⟨RX5, "isDigit", "(I)Z"⟩
abbrev cX5_wordOf : ByteArray := prog_35_method_39_code
def yX5_wordOf : MethodName := ⟨RX5, "wordOf", "(II)I"⟩
abbrev cX5_readOne : ByteArray := prog_35_method_51_code
def yX5_readOne : MethodName := ⟨RX5, "readOne", "()V"⟩
abbrev cX5_readOrder : ByteArray := prog_35_method_50_code
def yX5_readOrder : MethodName := ⟨RX5, "readOrder", "()V"⟩
abbrev cX5_takes0 : ByteArray := prog_35_method_43_code
def yX5_takes0 : MethodName := ⟨RX5, "takes0", "(I)Z"⟩
abbrev cX5_fine : ByteArray := prog_35_method_41_code
def yX5_fine : MethodName := ⟨RX5, "fine", "()Z"⟩
abbrev cX5_readSum : ByteArray := prog_35_method_55_code
def yX5_readSum : MethodName := ⟨RX5, "readSum", "(I)V"⟩
abbrev cX5_readTerm : ByteArray := prog_35_method_56_code
def yX5_readTerm : MethodName := ⟨RX5, "readTerm", "(I)V"⟩
abbrev cX5_readPart : ByteArray := prog_35_method_57_code
def yX5_readPart : MethodName := ⟨RX5, "readPart", "(I)V"⟩
abbrev cX5_faults : ByteArray := prog_35_method_42_code
def yX5_faults : MethodName := ⟨RX5, "faults", "()V"⟩
abbrev cX5_must : ByteArray := prog_35_method_44_code
def yX5_must : MethodName := ⟨RX5, "must", "(I)V"⟩
abbrev cX5_isValue : ByteArray := prog_35_method_47_code
def yX5_isValue : MethodName := ⟨RX5, "isValue", "(I)Z"⟩
abbrev cX5_leaf : ByteArray := prog_35_method_45_code
def yX5_leaf : MethodName := ⟨RX5, "leaf", "()V"⟩
abbrev cX5_mustNumber : ByteArray := prog_35_method_48_code
def yX5_mustNumber : MethodName := ⟨RX5, "mustNumber", "(II)V"⟩
abbrev cX5_readTest : ByteArray := prog_35_method_52_code
def yX5_readTest : MethodName := ⟨RX5, "readTest", "(I)V"⟩
abbrev cX5_readBoth : ByteArray := prog_35_method_53_code
def yX5_readBoth : MethodName := ⟨RX5, "readBoth", "(I)V"⟩
abbrev cX5_readPlain : ByteArray := prog_35_method_54_code
def yX5_readPlain : MethodName := ⟨RX5, "readPlain", "(I)V"⟩
abbrev cX5_readClause : ByteArray := prog_35_method_49_code
def yX5_readClause : MethodName := ⟨RX5, "readClause", "()V"⟩
abbrev cX5_lays : ByteArray := prog_35_method_59_code
def yX5_lays : MethodName := ⟨RX5, "lays", "(I)V"⟩
abbrev cX5_fault : ByteArray := prog_35_method_61_code
def yX5_fault : MethodName := ⟨RX5, "fault", "()I"⟩
abbrev cX5_force : ByteArray := prog_35_method_62_code
def yX5_force : MethodName := ⟨RX5, "force", "(I)I"⟩
abbrev cX5_deep : ByteArray := prog_35_method_81_code
def yX5_deep : MethodName := ⟨RX5, "deep", "(II)I"⟩
abbrev cX5_areTwo : ByteArray := prog_35_method_80_code
def yX5_areTwo : MethodName := ⟨RX5, "areTwo", "(II)Z"⟩
abbrev cX5_deepNow : ByteArray := prog_35_method_76_code
def yX5_deepNow : MethodName := ⟨RX5, "deepNow", "(II)I"⟩
abbrev cX5_deepBy : ByteArray := prog_35_method_75_code
def yX5_deepBy : MethodName := ⟨RX5, "deepBy", "(IIII)I"⟩
abbrev cX5_lesser : ByteArray := prog_35_method_7_code
def yX5_lesser : MethodName := ⟨RX5, "lesser", "(II)I"⟩
abbrev cX5_doors : ByteArray := prog_35_method_83_code
def yX5_doors : MethodName := ⟨RX5, "doors", "(I)I"⟩
abbrev cX5_doorsOf : ByteArray := prog_35_method_82_code
def yX5_doorsOf : MethodName := ⟨RX5, "doorsOf", "(I)I"⟩
abbrev cX5_undo : ByteArray := prog_35_method_85_code
def yX5_undo : MethodName := ⟨RX5, "undo", "()I"⟩
abbrev cX5_lend : ByteArray := prog_35_method_96_code
def yX5_lend : MethodName := ⟨RX5, "lend", "(III)I"⟩
abbrev cX5_lendsKept : ByteArray := prog_35_method_88_code
def yX5_lendsKept : MethodName := ⟨RX5, "lendsKept", "(III)I"⟩
abbrev cX5_canLend : ByteArray := prog_35_method_86_code
def yX5_canLend : MethodName := ⟨RX5, "canLend", "(III)Z"⟩
abbrev cX5_keeps : ByteArray := prog_35_method_84_code
def yX5_keeps : MethodName := ⟨RX5, "keeps", "(I)V"⟩
abbrev cX5_lends : ByteArray := prog_35_method_87_code
def yX5_lends : MethodName := ⟨RX5, "lends", "(III)V"⟩
abbrev cX5_goodOr : ByteArray := prog_35_method_95_code
def yX5_goodOr : MethodName := ⟨RX5, "goodOr", "(I)I"⟩
abbrev cX5_repay : ByteArray := prog_35_method_97_code
def yX5_repay : MethodName := ⟨RX5, "repay", "(III)I"⟩
abbrev cX5_repaysKept : ByteArray := prog_35_method_92_code
def yX5_repaysKept : MethodName := ⟨RX5, "repaysKept", "(III)I"⟩
abbrev cX5_canRepay : ByteArray := prog_35_method_89_code
def yX5_canRepay : MethodName := ⟨RX5, "canRepay", "(III)I"⟩
abbrev cX5_repays : ByteArray := prog_35_method_91_code
def yX5_repays : MethodName := ⟨RX5, "repays", "(III)V"⟩
abbrev cX5_lowers : ByteArray := prog_35_method_90_code
def yX5_lowers : MethodName := ⟨RX5, "lowers", "(III)V"⟩
abbrev cX5_removes : ByteArray := prog_35_method_27_code
def yX5_removes : MethodName := ⟨RX5, "removes", "(I)V"⟩
abbrev cX5_await : ByteArray := prog_35_method_98_code
def yX5_await : MethodName := ⟨RX5, "await", "()I"⟩
abbrev cX5_waitsKept : ByteArray := prog_35_method_94_code
def yX5_waitsKept : MethodName := ⟨RX5, "waitsKept", "()I"⟩
abbrev cX5_waits : ByteArray := prog_35_method_93_code
def yX5_waits : MethodName := ⟨RX5, "waits", "()I"⟩
abbrev cX5_forgive : ByteArray := prog_35_method_99_code
def yX5_forgive : MethodName := ⟨RX5, "forgive", "(I)I"⟩
abbrev cX5_sell : ByteArray := prog_35_method_100_code
def yX5_sell : MethodName := ⟨RX5, "sell", "(II)I"⟩
abbrev cX5_need : ByteArray := prog_35_method_102_code
def yX5_need : MethodName := ⟨RX5, "need", "(III)I"⟩
abbrev cX5_needOf : ByteArray := prog_35_method_101_code
def yX5_needOf : MethodName := ⟨RX5, "needOf", "(III)I"⟩
abbrev cX5_visit : ByteArray := prog_35_method_103_code
def yX5_visit : MethodName := ⟨RX5, "visit", "(IIII)I"⟩
abbrev cX5_tellsFour : ByteArray := prog_35_method_104_code
def yX5_tellsFour : MethodName := ⟨RX5, "tellsFour", "(IIIIIII)I"⟩
abbrev cX5_cancel : ByteArray := prog_35_method_106_code
def yX5_cancel : MethodName := ⟨RX5, "cancel", "()I"⟩
abbrev cX5_goAll : ByteArray := prog_35_method_105_code
def yX5_goAll : MethodName := ⟨RX5, "goAll", "(I)I"⟩
abbrev cX5_lendings : ByteArray := prog_35_method_111_code
def yX5_lendings : MethodName := ⟨RX5, "lendings", "(I)I"⟩
abbrev cX5_listsLendings : ByteArray := prog_35_method_108_code
def yX5_listsLendings : MethodName := ⟨RX5, "listsLendings", "()Z"⟩
abbrev cX5_isAlike : ByteArray := prog_35_method_107_code
def yX5_isAlike : MethodName := ⟨RX5, "isAlike", "(II)Z"⟩
abbrev cX5_mayLend : ByteArray := prog_35_method_110_code
def yX5_mayLend : MethodName := ⟨RX5, "mayLend", "(II)Z"⟩
abbrev cX5_isIn : ByteArray := prog_35_method_5_code
def yX5_isIn : MethodName := ⟨RX5, "isIn", "(II)Z"⟩
abbrev cX5_purseBehind : ByteArray := prog_35_method_109_code
def yX5_purseBehind : MethodName := ⟨RX5, "purseBehind", "(II)I"⟩
abbrev cX5_plan : ByteArray := prog_35_method_113_code
def yX5_plan : MethodName := ⟨RX5, "plan", "(I)I"⟩
abbrev cX5_triesVisits : ByteArray := prog_35_method_112_code
def yX5_triesVisits : MethodName := ⟨RX5, "triesVisits", "(II)V"⟩
abbrev cX5_laysAside : ByteArray := prog_35_method_9_code
def yX5_laysAside : MethodName := ⟨RX5, "laysAside", "(I)V"⟩
abbrev cX5_takesBack : ByteArray := prog_35_method_10_code
def yX5_takesBack : MethodName := ⟨RX5, "takesBack", "(I)V"⟩
abbrev cX5_thief : ByteArray := prog_35_method_115_code
def yX5_thief : MethodName := ⟨RX5, "thief", "(IIII)I"⟩
abbrev cX5_findsThief : ByteArray := prog_35_method_114_code
def yX5_findsThief : MethodName := ⟨RX5, "findsThief", "(III)V"⟩
abbrev cX5_ones : ByteArray := prog_35_method_6_code
def yX5_ones : MethodName := ⟨RX5, "ones", "(I)I"⟩
abbrev cX5_shut : ByteArray := prog_35_method_117_code
def yX5_shut : MethodName := ⟨RX5, "shut", "(III)I"⟩
abbrev cX5_shutBy : ByteArray := prog_35_method_116_code
def yX5_shutBy : MethodName := ⟨RX5, "shutBy", "(III)I"⟩
abbrev cX5_ban : ByteArray := prog_35_method_118_code
def yX5_ban : MethodName := ⟨RX5, "ban", "(I)I"⟩
abbrev cX5_party : ByteArray := prog_35_method_119_code
def yX5_party : MethodName := ⟨RX5, "party", "(I)I"⟩
abbrev cX5_ring : ByteArray := prog_35_method_122_code
def yX5_ring : MethodName := ⟨RX5, "ring", "(I)I"⟩
abbrev cX5_findsRing : ByteArray := prog_35_method_121_code
def yX5_findsRing : MethodName := ⟨RX5, "findsRing", "()V"⟩
abbrev cX5_triesRing : ByteArray := prog_35_method_120_code
def yX5_triesRing : MethodName := ⟨RX5, "triesRing", "(II)V"⟩
abbrev cX5_clear : ByteArray := prog_35_method_125_code
def yX5_clear : MethodName := ⟨RX5, "clear", "()I"⟩
abbrev cX5_ringLeast : ByteArray := prog_35_method_123_code
def yX5_ringLeast : MethodName := ⟨RX5, "ringLeast", "()I"⟩
abbrev cX5_clears : ByteArray := prog_35_method_124_code
def yX5_clears : MethodName := ⟨RX5, "clears", "(I)V"⟩
abbrev cX5_cleared : ByteArray := prog_35_method_126_code
def yX5_cleared : MethodName := ⟨RX5, "cleared", "(I)I"⟩
abbrev cX5_balance : ByteArray := prog_35_method_128_code
def yX5_balance : MethodName := ⟨RX5, "balance", "(I)I"⟩
abbrev cX5_balanceOf : ByteArray := prog_35_method_127_code
def yX5_balanceOf : MethodName := ⟨RX5, "balanceOf", "(I)I"⟩
abbrev cX5_payments : ByteArray := prog_35_method_129_code
def yX5_payments : MethodName := ⟨RX5, "payments", "()I"⟩
abbrev cX5_scuff : ByteArray := prog_35_method_130_code
def yX5_scuff : MethodName := ⟨RX5, "scuff", "(IIII)I"⟩
abbrev cX5_sweep : ByteArray := prog_35_method_131_code
def yX5_sweep : MethodName := ⟨RX5, "sweep", "()I"⟩
abbrev cX5_secret : ByteArray := prog_35_method_133_code
def yX5_secret : MethodName := ⟨RX5, "secret", "(I)I"⟩
abbrev cX5_areSo : ByteArray := prog_35_method_132_code
def yX5_areSo : MethodName := ⟨RX5, "areSo", "(III)Z"⟩
abbrev cX5_denied : ByteArray := prog_35_method_134_code
def yX5_denied : MethodName := ⟨RX5, "denied", "()I"⟩
abbrev cX5_stopped : ByteArray := prog_35_method_135_code
def yX5_stopped : MethodName := ⟨RX5, "stopped", "()I"⟩
abbrev cX5_orders : ByteArray := prog_35_method_136_code
def yX5_orders : MethodName := ⟨RX5, "orders", "()I"⟩
abbrev cX5_runs : ByteArray := prog_35_method_139_code
def yX5_runs : MethodName := ⟨RX5, "runs", "(I)I"⟩
abbrev cX5_goesAlong : ByteArray := prog_35_method_137_code
def yX5_goesAlong : MethodName := ⟨RX5, "goesAlong", "(IZ)V"⟩
abbrev cX5_small : ByteArray := prog_35_method_138_code
def yX5_small : MethodName := ⟨RX5, "small", "(J)I"⟩
abbrev cX5_month : ByteArray := prog_35_method_141_code
def yX5_month : MethodName := ⟨RX5, "month", "(II)I"⟩
abbrev cX5_draws : ByteArray := prog_35_method_140_code
def yX5_draws : MethodName := ⟨RX5, "draws", "(I)I"⟩
abbrev cX5_drawn : ByteArray := prog_35_method_142_code
def yX5_drawn : MethodName := ⟨RX5, "drawn", "(II)I"⟩
abbrev cX5_count : ByteArray := prog_35_method_143_code
def yX5_count : MethodName := ⟨RX5, "count", "(I)I"⟩
abbrev cX5_status : ByteArray := prog_35_method_144_code
def yX5_status : MethodName := ⟨RX5, "status", "()I"⟩
theorem q133 : (Jvm.Cond.initialized "DebtDoorsModel") ∈ lw_all := lw_g (lw_at lw_m1 9 rfl) rfl
theorem q1304 : (Jvm.Cond.selects "DebtDoorsModel" ({ cls := "java/lang/Object", name := "getClass", desc := "()Ljava/lang/Class;" } : Jvm.MethodName) ({ cls := "java/lang/Object", name := "getClass", desc := "()Ljava/lang/Class;" } : Jvm.MethodName)) ∈ lw_all := lw_g (lw_at lw_m5 220 rfl) rfl
theorem q1957 : (Jvm.Cond.instantiable "DebtDoorsModel" (61 : Nat)) ∈ lw_all := lw_g (lw_at lw_m8 153 rfl) rfl
theorem q1959 : (Jvm.Cond.instanceMethod ({ cls := "DebtDoorsModel", name := "<init>", desc := "()V" } : Jvm.MethodName)) ∈ lw_all := lw_g (lw_at lw_m8 155 rfl) rfl
theorem q1960 : (Jvm.Cond.code ({ cls := "DebtDoorsModel", name := "<init>", desc := "()V" } : Jvm.MethodName) prog_35_method_8_code (1 : Nat) (Option.none : Option Jvm.ClassFile.FieldType)) ∈ lw_all := lw_g (lw_at lw_m8 156 rfl) rfl
theorem q1961 : (Jvm.Cond.methodLink "DebtDoorsModel" (18 : Nat) ({ cls := "java/lang/Object", name := "<init>", desc := "()V" } : Jvm.MethodName)) ∈ lw_all := lw_g (lw_at lw_m8 157 rfl) rfl
theorem q1962 : (Jvm.Cond.fieldLink "DebtDoorsModel" (3 : Nat) "DebtDoorsModel" "status" "I") ∈ lw_all := lw_g (lw_at lw_m8 158 rfl) rfl
theorem q1963 : (Jvm.Cond.fieldLink "DebtDoorsModel" (7 : Nat) "DebtDoorsModel" "refused" "[I") ∈ lw_all := lw_g (lw_at lw_m8 159 rfl) rfl
theorem q1964 : (Jvm.Cond.fieldLink "DebtDoorsModel" (24 : Nat) "DebtDoorsModel" "kept" "[I") ∈ lw_all := lw_g (lw_at lw_m8 160 rfl) rfl
theorem q1965 : (Jvm.Cond.fieldLink "DebtDoorsModel" (27 : Nat) "DebtDoorsModel" "images" "[I") ∈ lw_all := lw_g (lw_at lw_m8 161 rfl) rfl
theorem q1966 : (Jvm.Cond.fieldLink "DebtDoorsModel" (30 : Nat) "DebtDoorsModel" "hasImage" "[Z") ∈ lw_all := lw_g (lw_at lw_m8 162 rfl) rfl
theorem q1967 : (Jvm.Cond.fieldLink "DebtDoorsModel" (34 : Nat) "DebtDoorsModel" "aside" "[I") ∈ lw_all := lw_g (lw_at lw_m8 163 rfl) rfl
theorem q1968 : (Jvm.Cond.fieldLink "DebtDoorsModel" (184 : Nat) "DebtDoorsModel" "blots0" "I") ∈ lw_all := lw_g (lw_at lw_m8 164 rfl) rfl
theorem q1969 : (Jvm.Cond.fieldLink "DebtDoorsModel" (37 : Nat) "DebtDoorsModel" "words" "[B") ∈ lw_all := lw_g (lw_at lw_m8 165 rfl) rfl
theorem q1970 : (Jvm.Cond.fieldLink "DebtDoorsModel" (219 : Nat) "DebtDoorsModel" "isOrders" "Z") ∈ lw_all := lw_g (lw_at lw_m8 166 rfl) rfl
theorem q1971 : (Jvm.Cond.fieldLink "DebtDoorsModel" (41 : Nat) "DebtDoorsModel" "tape" "[B") ∈ lw_all := lw_g (lw_at lw_m8 167 rfl) rfl
theorem q1972 : (Jvm.Cond.fieldLink "DebtDoorsModel" (44 : Nat) "DebtDoorsModel" "five" "[I") ∈ lw_all := lw_g (lw_at lw_m8 168 rfl) rfl
theorem q1973 : (Jvm.Cond.fieldLink "DebtDoorsModel" (181 : Nat) "DebtDoorsModel" "taped" "I") ∈ lw_all := lw_g (lw_at lw_m8 169 rfl) rfl
theorem q1974 : (Jvm.Cond.fieldLink "DebtDoorsModel" (47 : Nat) "DebtDoorsModel" "fault" "I") ∈ lw_all := lw_g (lw_at lw_m8 170 rfl) rfl
theorem q1975 : (Jvm.Cond.fieldLink "DebtDoorsModel" (50 : Nat) "DebtDoorsModel" "code" "[I") ∈ lw_all := lw_g (lw_at lw_m8 171 rfl) rfl
theorem q1976 : (Jvm.Cond.fieldLink "DebtDoorsModel" (53 : Nat) "DebtDoorsModel" "value" "[I") ∈ lw_all := lw_g (lw_at lw_m8 172 rfl) rfl
theorem q1977 : (Jvm.Cond.fieldLink "DebtDoorsModel" (56 : Nat) "DebtDoorsModel" "placed" "[I") ∈ lw_all := lw_g (lw_at lw_m8 173 rfl) rfl
theorem q1978 : (Jvm.Cond.fieldLink "DebtDoorsModel" (187 : Nat) "DebtDoorsModel" "tokens" "I") ∈ lw_all := lw_g (lw_at lw_m8 174 rfl) rfl
theorem q1979 : (Jvm.Cond.fieldLink "DebtDoorsModel" (207 : Nat) "DebtDoorsModel" "token" "I") ∈ lw_all := lw_g (lw_at lw_m8 175 rfl) rfl
theorem q1980 : (Jvm.Cond.fieldLink "DebtDoorsModel" (216 : Nat) "DebtDoorsModel" "leaves" "I") ∈ lw_all := lw_g (lw_at lw_m8 176 rfl) rfl
theorem q1981 : (Jvm.Cond.fieldLink "DebtDoorsModel" (200 : Nat) "DebtDoorsModel" "bad" "I") ∈ lw_all := lw_g (lw_at lw_m8 177 rfl) rfl
theorem q1982 : (Jvm.Cond.fieldLink "DebtDoorsModel" (280 : Nat) "DebtDoorsModel" "go" "I") ∈ lw_all := lw_g (lw_at lw_m8 178 rfl) rfl
theorem q1983 : (Jvm.Cond.fieldLink "DebtDoorsModel" (277 : Nat) "DebtDoorsModel" "goEnd" "I") ∈ lw_all := lw_g (lw_at lw_m8 179 rfl) rfl
theorem q1984 : (Jvm.Cond.fieldLink "DebtDoorsModel" (290 : Nat) "DebtDoorsModel" "broken" "Z") ∈ lw_all := lw_g (lw_at lw_m8 180 rfl) rfl
theorem q1985 : (Jvm.Cond.fieldLink "DebtDoorsModel" (310 : Nat) "DebtDoorsModel" "inOrders" "Z") ∈ lw_all := lw_g (lw_at lw_m8 181 rfl) rfl
theorem q1986 : (Jvm.Cond.fieldLink "DebtDoorsModel" (59 : Nat) "DebtDoorsModel" "asked" "[I") ∈ lw_all := lw_g (lw_at lw_m8 182 rfl) rfl
theorem q1987 : (Jvm.Cond.fieldLink "DebtDoorsModel" (62 : Nat) "DebtDoorsModel" "orderValues" "[I") ∈ lw_all := lw_g (lw_at lw_m8 183 rfl) rfl
theorem q1988 : (Jvm.Cond.fieldLink "DebtDoorsModel" (65 : Nat) "DebtDoorsModel" "left" "[I") ∈ lw_all := lw_g (lw_at lw_m8 184 rfl) rfl
theorem q1989 : (Jvm.Cond.fieldLink "DebtDoorsModel" (68 : Nat) "DebtDoorsModel" "leftAhead" "[I") ∈ lw_all := lw_g (lw_at lw_m8 185 rfl) rfl
theorem q1990 : (Jvm.Cond.fieldLink "DebtDoorsModel" (11 : Nat) "DebtDoorsModel" "undoMany" "I") ∈ lw_all := lw_g (lw_at lw_m8 186 rfl) rfl
theorem q1991 : (Jvm.Cond.fieldLink "DebtDoorsModel" (71 : Nat) "DebtDoorsModel" "lender" "[I") ∈ lw_all := lw_g (lw_at lw_m8 187 rfl) rfl
theorem q1992 : (Jvm.Cond.fieldLink "DebtDoorsModel" (74 : Nat) "DebtDoorsModel" "taker" "[I") ∈ lw_all := lw_g (lw_at lw_m8 188 rfl) rfl
theorem q1993 : (Jvm.Cond.fieldLink "DebtDoorsModel" (77 : Nat) "DebtDoorsModel" "needed" "[I") ∈ lw_all := lw_g (lw_at lw_m8 189 rfl) rfl
theorem q1994 : (Jvm.Cond.fieldLink "DebtDoorsModel" (80 : Nat) "DebtDoorsModel" "told0" "[I") ∈ lw_all := lw_g (lw_at lw_m8 190 rfl) rfl
theorem q1995 : (Jvm.Cond.fieldLink "DebtDoorsModel" (83 : Nat) "DebtDoorsModel" "rows" "[I") ∈ lw_all := lw_g (lw_at lw_m8 191 rfl) rfl
theorem q1996 : (Jvm.Cond.fieldLink "DebtDoorsModel" (400 : Nat) "DebtDoorsModel" "lendMany" "I") ∈ lw_all := lw_g (lw_at lw_m8 192 rfl) rfl
theorem q1997 : (Jvm.Cond.fieldLink "DebtDoorsModel" (86 : Nat) "DebtDoorsModel" "planRow" "[I") ∈ lw_all := lw_g (lw_at lw_m8 193 rfl) rfl
theorem q1998 : (Jvm.Cond.fieldLink "DebtDoorsModel" (89 : Nat) "DebtDoorsModel" "firstPlan" "[I") ∈ lw_all := lw_g (lw_at lw_m8 194 rfl) rfl
theorem q1999 : (Jvm.Cond.fieldLink "DebtDoorsModel" (418 : Nat) "DebtDoorsModel" "plans" "I") ∈ lw_all := lw_g (lw_at lw_m8 195 rfl) rfl
theorem q2000 : (Jvm.Cond.fieldLink "DebtDoorsModel" (433 : Nat) "DebtDoorsModel" "thiefCost" "I") ∈ lw_all := lw_g (lw_at lw_m8 196 rfl) rfl
theorem q2001 : (Jvm.Cond.fieldLink "DebtDoorsModel" (430 : Nat) "DebtDoorsModel" "thiefSet" "I") ∈ lw_all := lw_g (lw_at lw_m8 197 rfl) rfl
theorem q2002 : (Jvm.Cond.fieldLink "DebtDoorsModel" (92 : Nat) "DebtDoorsModel" "prices" "[I") ∈ lw_all := lw_g (lw_at lw_m8 198 rfl) rfl
theorem q2003 : (Jvm.Cond.fieldLink "DebtDoorsModel" (95 : Nat) "DebtDoorsModel" "ringRow" "[I") ∈ lw_all := lw_g (lw_at lw_m8 199 rfl) rfl
theorem q2004 : (Jvm.Cond.fieldLink "DebtDoorsModel" (98 : Nat) "DebtDoorsModel" "ringFirst" "[I") ∈ lw_all := lw_g (lw_at lw_m8 200 rfl) rfl
theorem q2005 : (Jvm.Cond.fieldLink "DebtDoorsModel" (446 : Nat) "DebtDoorsModel" "ringSize" "I") ∈ lw_all := lw_g (lw_at lw_m8 201 rfl) rfl
theorem q2006 : (Jvm.Cond.fieldLink "DebtDoorsModel" (449 : Nat) "DebtDoorsModel" "ringBits" "I") ∈ lw_all := lw_g (lw_at lw_m8 202 rfl) rfl
theorem q2007 : (Jvm.Cond.fieldLink "DebtDoorsModel" (101 : Nat) "DebtDoorsModel" "deeps" "[I") ∈ lw_all := lw_g (lw_at lw_m8 203 rfl) rfl
theorem q2008 : (Jvm.Cond.fieldLink "DebtDoorsModel" (104 : Nat) "DebtDoorsModel" "groups" "[I") ∈ lw_all := lw_g (lw_at lw_m8 204 rfl) rfl
theorem q2009 : (Jvm.Cond.fieldLink "DebtDoorsModel" (107 : Nat) "DebtDoorsModel" "stopped0" "I") ∈ lw_all := lw_g (lw_at lw_m8 205 rfl) rfl
theorem q2010 : (Jvm.Cond.fieldLink "DebtDoorsModel" (471 : Nat) "DebtDoorsModel" "orderDone" "I") ∈ lw_all := lw_g (lw_at lw_m8 206 rfl) rfl
theorem q2011 : (Jvm.Cond.fieldLink "DebtDoorsModel" (474 : Nat) "DebtDoorsModel" "orderLast" "I") ∈ lw_all := lw_g (lw_at lw_m8 207 rfl) rfl
theorem q2012 : (Jvm.Cond.fieldLink "DebtDoorsModel" (477 : Nat) "DebtDoorsModel" "orderAt" "I") ∈ lw_all := lw_g (lw_at lw_m8 208 rfl) rfl
theorem q2013 : (Jvm.Cond.fieldLink "DebtDoorsModel" (489 : Nat) "DebtDoorsModel" "timesOf" "I") ∈ lw_all := lw_g (lw_at lw_m8 209 rfl) rfl
theorem q2014 : (Jvm.Cond.fieldLink "DebtDoorsModel" (483 : Nat) "DebtDoorsModel" "head" "I") ∈ lw_all := lw_g (lw_at lw_m8 210 rfl) rfl
theorem q2015 : (Jvm.Cond.fieldLink "DebtDoorsModel" (486 : Nat) "DebtDoorsModel" "sumsAre" "Z") ∈ lw_all := lw_g (lw_at lw_m8 211 rfl) rfl
theorem q2016 : (Jvm.Cond.fieldLink "DebtDoorsModel" (492 : Nat) "DebtDoorsModel" "testIs" "Z") ∈ lw_all := lw_g (lw_at lw_m8 212 rfl) rfl
theorem q2017 : (Jvm.Cond.fieldLink "DebtDoorsModel" (110 : Nat) "DebtDoorsModel" "sums" "[J") ∈ lw_all := lw_g (lw_at lw_m8 213 rfl) rfl
theorem q2018 : (Jvm.Cond.fieldLink "DebtDoorsModel" (114 : Nat) "DebtDoorsModel" "drawnPurse" "[I") ∈ lw_all := lw_g (lw_at lw_m8 214 rfl) rfl
theorem q2019 : (Jvm.Cond.fieldLink "DebtDoorsModel" (117 : Nat) "DebtDoorsModel" "drawnBalance" "[I") ∈ lw_all := lw_g (lw_at lw_m8 215 rfl) rfl
theorem q2020 : (Jvm.Cond.fieldLink "DebtDoorsModel" (120 : Nat) "DebtDoorsModel" "drawnDoors" "[I") ∈ lw_all := lw_g (lw_at lw_m8 216 rfl) rfl
theorem q2021 : (Jvm.Cond.fieldLink "DebtDoorsModel" (514 : Nat) "DebtDoorsModel" "drawnMany" "I") ∈ lw_all := lw_g (lw_at lw_m8 217 rfl) rfl
theorem q2022 : (Jvm.Cond.fieldLink "DebtDoorsModel" (507 : Nat) "DebtDoorsModel" "latest" "I") ∈ lw_all := lw_g (lw_at lw_m8 218 rfl) rfl
theorem q2023 : (Jvm.Cond.lays "DebtDoorsModel" "DebtDoorsModel" "status" "I") ∈ lw_all := lw_g (lw_at lw_m8 219 rfl) rfl
theorem q2024 : (Jvm.Cond.soleField "DebtDoorsModel" "status") ∈ lw_all := lw_g (lw_at lw_m8 220 rfl) rfl
theorem q2025 : (Jvm.Cond.laysFinal "DebtDoorsModel" "DebtDoorsModel" "refused" "[I") ∈ lw_all := lw_g (lw_at lw_m8 221 rfl) rfl
theorem q2026 : (Jvm.Cond.soleField "DebtDoorsModel" "refused") ∈ lw_all := lw_g (lw_at lw_m8 222 rfl) rfl
theorem q2027 : (Jvm.Cond.laysFinal "DebtDoorsModel" "DebtDoorsModel" "kept" "[I") ∈ lw_all := lw_g (lw_at lw_m8 223 rfl) rfl
theorem q2028 : (Jvm.Cond.soleField "DebtDoorsModel" "kept") ∈ lw_all := lw_g (lw_at lw_m8 224 rfl) rfl
theorem q2029 : (Jvm.Cond.laysFinal "DebtDoorsModel" "DebtDoorsModel" "images" "[I") ∈ lw_all := lw_g (lw_at lw_m8 225 rfl) rfl
theorem q2030 : (Jvm.Cond.soleField "DebtDoorsModel" "images") ∈ lw_all := lw_g (lw_at lw_m8 226 rfl) rfl
theorem q2031 : (Jvm.Cond.laysFinal "DebtDoorsModel" "DebtDoorsModel" "hasImage" "[Z") ∈ lw_all := lw_g (lw_at lw_m8 227 rfl) rfl
theorem q2032 : (Jvm.Cond.soleField "DebtDoorsModel" "hasImage") ∈ lw_all := lw_g (lw_at lw_m8 228 rfl) rfl
theorem q2033 : (Jvm.Cond.laysFinal "DebtDoorsModel" "DebtDoorsModel" "aside" "[I") ∈ lw_all := lw_g (lw_at lw_m8 229 rfl) rfl
theorem q2034 : (Jvm.Cond.soleField "DebtDoorsModel" "aside") ∈ lw_all := lw_g (lw_at lw_m8 230 rfl) rfl
theorem q2035 : (Jvm.Cond.lays "DebtDoorsModel" "DebtDoorsModel" "blots0" "I") ∈ lw_all := lw_g (lw_at lw_m8 231 rfl) rfl
theorem q2036 : (Jvm.Cond.soleField "DebtDoorsModel" "blots0") ∈ lw_all := lw_g (lw_at lw_m8 232 rfl) rfl
theorem q2037 : (Jvm.Cond.laysFinal "DebtDoorsModel" "DebtDoorsModel" "words" "[B") ∈ lw_all := lw_g (lw_at lw_m8 233 rfl) rfl
theorem q2038 : (Jvm.Cond.soleField "DebtDoorsModel" "words") ∈ lw_all := lw_g (lw_at lw_m8 234 rfl) rfl
theorem q2039 : (Jvm.Cond.lays "DebtDoorsModel" "DebtDoorsModel" "isOrders" "Z") ∈ lw_all := lw_g (lw_at lw_m8 235 rfl) rfl
theorem q2040 : (Jvm.Cond.soleField "DebtDoorsModel" "isOrders") ∈ lw_all := lw_g (lw_at lw_m8 236 rfl) rfl
theorem q2041 : (Jvm.Cond.laysFinal "DebtDoorsModel" "DebtDoorsModel" "tape" "[B") ∈ lw_all := lw_g (lw_at lw_m8 237 rfl) rfl
theorem q2042 : (Jvm.Cond.soleField "DebtDoorsModel" "tape") ∈ lw_all := lw_g (lw_at lw_m8 238 rfl) rfl
theorem q2043 : (Jvm.Cond.laysFinal "DebtDoorsModel" "DebtDoorsModel" "five" "[I") ∈ lw_all := lw_g (lw_at lw_m8 239 rfl) rfl
theorem q2044 : (Jvm.Cond.soleField "DebtDoorsModel" "five") ∈ lw_all := lw_g (lw_at lw_m9 0 rfl) rfl
theorem q2045 : (Jvm.Cond.lays "DebtDoorsModel" "DebtDoorsModel" "taped" "I") ∈ lw_all := lw_g (lw_at lw_m9 1 rfl) rfl
theorem q2046 : (Jvm.Cond.soleField "DebtDoorsModel" "taped") ∈ lw_all := lw_g (lw_at lw_m9 2 rfl) rfl
theorem q2047 : (Jvm.Cond.lays "DebtDoorsModel" "DebtDoorsModel" "fault" "I") ∈ lw_all := lw_g (lw_at lw_m9 3 rfl) rfl
theorem q2048 : (Jvm.Cond.soleField "DebtDoorsModel" "fault") ∈ lw_all := lw_g (lw_at lw_m9 4 rfl) rfl
theorem q2049 : (Jvm.Cond.laysFinal "DebtDoorsModel" "DebtDoorsModel" "code" "[I") ∈ lw_all := lw_g (lw_at lw_m9 5 rfl) rfl
theorem q2050 : (Jvm.Cond.soleField "DebtDoorsModel" "code") ∈ lw_all := lw_g (lw_at lw_m9 6 rfl) rfl
theorem q2051 : (Jvm.Cond.laysFinal "DebtDoorsModel" "DebtDoorsModel" "value" "[I") ∈ lw_all := lw_g (lw_at lw_m9 7 rfl) rfl
theorem q2052 : (Jvm.Cond.soleField "DebtDoorsModel" "value") ∈ lw_all := lw_g (lw_at lw_m9 8 rfl) rfl
theorem q2053 : (Jvm.Cond.laysFinal "DebtDoorsModel" "DebtDoorsModel" "placed" "[I") ∈ lw_all := lw_g (lw_at lw_m9 9 rfl) rfl
theorem q2054 : (Jvm.Cond.soleField "DebtDoorsModel" "placed") ∈ lw_all := lw_g (lw_at lw_m9 10 rfl) rfl
theorem q2055 : (Jvm.Cond.lays "DebtDoorsModel" "DebtDoorsModel" "tokens" "I") ∈ lw_all := lw_g (lw_at lw_m9 11 rfl) rfl
theorem q2056 : (Jvm.Cond.soleField "DebtDoorsModel" "tokens") ∈ lw_all := lw_g (lw_at lw_m9 12 rfl) rfl
theorem q2057 : (Jvm.Cond.lays "DebtDoorsModel" "DebtDoorsModel" "token" "I") ∈ lw_all := lw_g (lw_at lw_m9 13 rfl) rfl
theorem q2058 : (Jvm.Cond.soleField "DebtDoorsModel" "token") ∈ lw_all := lw_g (lw_at lw_m9 14 rfl) rfl
theorem q2059 : (Jvm.Cond.lays "DebtDoorsModel" "DebtDoorsModel" "leaves" "I") ∈ lw_all := lw_g (lw_at lw_m9 15 rfl) rfl
theorem q2060 : (Jvm.Cond.soleField "DebtDoorsModel" "leaves") ∈ lw_all := lw_g (lw_at lw_m9 16 rfl) rfl
theorem q2061 : (Jvm.Cond.lays "DebtDoorsModel" "DebtDoorsModel" "bad" "I") ∈ lw_all := lw_g (lw_at lw_m9 17 rfl) rfl
theorem q2062 : (Jvm.Cond.soleField "DebtDoorsModel" "bad") ∈ lw_all := lw_g (lw_at lw_m9 18 rfl) rfl
theorem q2063 : (Jvm.Cond.lays "DebtDoorsModel" "DebtDoorsModel" "go" "I") ∈ lw_all := lw_g (lw_at lw_m9 19 rfl) rfl
theorem q2064 : (Jvm.Cond.soleField "DebtDoorsModel" "go") ∈ lw_all := lw_g (lw_at lw_m9 20 rfl) rfl
theorem q2065 : (Jvm.Cond.lays "DebtDoorsModel" "DebtDoorsModel" "goEnd" "I") ∈ lw_all := lw_g (lw_at lw_m9 21 rfl) rfl
theorem q2066 : (Jvm.Cond.soleField "DebtDoorsModel" "goEnd") ∈ lw_all := lw_g (lw_at lw_m9 22 rfl) rfl
theorem q2067 : (Jvm.Cond.lays "DebtDoorsModel" "DebtDoorsModel" "broken" "Z") ∈ lw_all := lw_g (lw_at lw_m9 23 rfl) rfl
theorem q2068 : (Jvm.Cond.soleField "DebtDoorsModel" "broken") ∈ lw_all := lw_g (lw_at lw_m9 24 rfl) rfl
theorem q2069 : (Jvm.Cond.lays "DebtDoorsModel" "DebtDoorsModel" "inOrders" "Z") ∈ lw_all := lw_g (lw_at lw_m9 25 rfl) rfl
theorem q2070 : (Jvm.Cond.soleField "DebtDoorsModel" "inOrders") ∈ lw_all := lw_g (lw_at lw_m9 26 rfl) rfl
theorem q2071 : (Jvm.Cond.laysFinal "DebtDoorsModel" "DebtDoorsModel" "asked" "[I") ∈ lw_all := lw_g (lw_at lw_m9 27 rfl) rfl
theorem q2072 : (Jvm.Cond.soleField "DebtDoorsModel" "asked") ∈ lw_all := lw_g (lw_at lw_m9 28 rfl) rfl
theorem q2073 : (Jvm.Cond.laysFinal "DebtDoorsModel" "DebtDoorsModel" "orderValues" "[I") ∈ lw_all := lw_g (lw_at lw_m9 29 rfl) rfl
theorem q2074 : (Jvm.Cond.soleField "DebtDoorsModel" "orderValues") ∈ lw_all := lw_g (lw_at lw_m9 30 rfl) rfl
theorem q2075 : (Jvm.Cond.laysFinal "DebtDoorsModel" "DebtDoorsModel" "left" "[I") ∈ lw_all := lw_g (lw_at lw_m9 31 rfl) rfl
theorem q2076 : (Jvm.Cond.soleField "DebtDoorsModel" "left") ∈ lw_all := lw_g (lw_at lw_m9 32 rfl) rfl
theorem q2077 : (Jvm.Cond.laysFinal "DebtDoorsModel" "DebtDoorsModel" "leftAhead" "[I") ∈ lw_all := lw_g (lw_at lw_m9 33 rfl) rfl
theorem q2078 : (Jvm.Cond.soleField "DebtDoorsModel" "leftAhead") ∈ lw_all := lw_g (lw_at lw_m9 34 rfl) rfl
theorem q2079 : (Jvm.Cond.lays "DebtDoorsModel" "DebtDoorsModel" "undoMany" "I") ∈ lw_all := lw_g (lw_at lw_m9 35 rfl) rfl
theorem q2080 : (Jvm.Cond.soleField "DebtDoorsModel" "undoMany") ∈ lw_all := lw_g (lw_at lw_m9 36 rfl) rfl
theorem q2081 : (Jvm.Cond.laysFinal "DebtDoorsModel" "DebtDoorsModel" "lender" "[I") ∈ lw_all := lw_g (lw_at lw_m9 37 rfl) rfl
theorem q2082 : (Jvm.Cond.soleField "DebtDoorsModel" "lender") ∈ lw_all := lw_g (lw_at lw_m9 38 rfl) rfl
theorem q2083 : (Jvm.Cond.laysFinal "DebtDoorsModel" "DebtDoorsModel" "taker" "[I") ∈ lw_all := lw_g (lw_at lw_m9 39 rfl) rfl
theorem q2084 : (Jvm.Cond.soleField "DebtDoorsModel" "taker") ∈ lw_all := lw_g (lw_at lw_m9 40 rfl) rfl
theorem q2085 : (Jvm.Cond.laysFinal "DebtDoorsModel" "DebtDoorsModel" "needed" "[I") ∈ lw_all := lw_g (lw_at lw_m9 41 rfl) rfl
theorem q2086 : (Jvm.Cond.soleField "DebtDoorsModel" "needed") ∈ lw_all := lw_g (lw_at lw_m9 42 rfl) rfl
theorem q2087 : (Jvm.Cond.laysFinal "DebtDoorsModel" "DebtDoorsModel" "told0" "[I") ∈ lw_all := lw_g (lw_at lw_m9 43 rfl) rfl
theorem q2088 : (Jvm.Cond.soleField "DebtDoorsModel" "told0") ∈ lw_all := lw_g (lw_at lw_m9 44 rfl) rfl
theorem q2089 : (Jvm.Cond.laysFinal "DebtDoorsModel" "DebtDoorsModel" "rows" "[I") ∈ lw_all := lw_g (lw_at lw_m9 45 rfl) rfl
theorem q2090 : (Jvm.Cond.soleField "DebtDoorsModel" "rows") ∈ lw_all := lw_g (lw_at lw_m9 46 rfl) rfl
theorem q2091 : (Jvm.Cond.lays "DebtDoorsModel" "DebtDoorsModel" "lendMany" "I") ∈ lw_all := lw_g (lw_at lw_m9 47 rfl) rfl
theorem q2092 : (Jvm.Cond.soleField "DebtDoorsModel" "lendMany") ∈ lw_all := lw_g (lw_at lw_m9 48 rfl) rfl
theorem q2093 : (Jvm.Cond.laysFinal "DebtDoorsModel" "DebtDoorsModel" "planRow" "[I") ∈ lw_all := lw_g (lw_at lw_m9 49 rfl) rfl
theorem q2094 : (Jvm.Cond.soleField "DebtDoorsModel" "planRow") ∈ lw_all := lw_g (lw_at lw_m9 50 rfl) rfl
theorem q2095 : (Jvm.Cond.laysFinal "DebtDoorsModel" "DebtDoorsModel" "firstPlan" "[I") ∈ lw_all := lw_g (lw_at lw_m9 51 rfl) rfl
theorem q2096 : (Jvm.Cond.soleField "DebtDoorsModel" "firstPlan") ∈ lw_all := lw_g (lw_at lw_m9 52 rfl) rfl
theorem q2097 : (Jvm.Cond.lays "DebtDoorsModel" "DebtDoorsModel" "plans" "I") ∈ lw_all := lw_g (lw_at lw_m9 53 rfl) rfl
theorem q2098 : (Jvm.Cond.soleField "DebtDoorsModel" "plans") ∈ lw_all := lw_g (lw_at lw_m9 54 rfl) rfl
theorem q2099 : (Jvm.Cond.lays "DebtDoorsModel" "DebtDoorsModel" "thiefCost" "I") ∈ lw_all := lw_g (lw_at lw_m9 55 rfl) rfl
theorem q2100 : (Jvm.Cond.soleField "DebtDoorsModel" "thiefCost") ∈ lw_all := lw_g (lw_at lw_m9 56 rfl) rfl
theorem q2101 : (Jvm.Cond.lays "DebtDoorsModel" "DebtDoorsModel" "thiefSet" "I") ∈ lw_all := lw_g (lw_at lw_m9 57 rfl) rfl
theorem q2102 : (Jvm.Cond.soleField "DebtDoorsModel" "thiefSet") ∈ lw_all := lw_g (lw_at lw_m9 58 rfl) rfl
theorem q2103 : (Jvm.Cond.laysFinal "DebtDoorsModel" "DebtDoorsModel" "prices" "[I") ∈ lw_all := lw_g (lw_at lw_m9 59 rfl) rfl
theorem q2104 : (Jvm.Cond.soleField "DebtDoorsModel" "prices") ∈ lw_all := lw_g (lw_at lw_m9 60 rfl) rfl
theorem q2105 : (Jvm.Cond.laysFinal "DebtDoorsModel" "DebtDoorsModel" "ringRow" "[I") ∈ lw_all := lw_g (lw_at lw_m9 61 rfl) rfl
theorem q2106 : (Jvm.Cond.soleField "DebtDoorsModel" "ringRow") ∈ lw_all := lw_g (lw_at lw_m9 62 rfl) rfl
theorem q2107 : (Jvm.Cond.laysFinal "DebtDoorsModel" "DebtDoorsModel" "ringFirst" "[I") ∈ lw_all := lw_g (lw_at lw_m9 63 rfl) rfl
theorem q2108 : (Jvm.Cond.soleField "DebtDoorsModel" "ringFirst") ∈ lw_all := lw_g (lw_at lw_m9 64 rfl) rfl
theorem q2109 : (Jvm.Cond.lays "DebtDoorsModel" "DebtDoorsModel" "ringSize" "I") ∈ lw_all := lw_g (lw_at lw_m9 65 rfl) rfl
theorem q2110 : (Jvm.Cond.soleField "DebtDoorsModel" "ringSize") ∈ lw_all := lw_g (lw_at lw_m9 66 rfl) rfl
theorem q2111 : (Jvm.Cond.lays "DebtDoorsModel" "DebtDoorsModel" "ringBits" "I") ∈ lw_all := lw_g (lw_at lw_m9 67 rfl) rfl
theorem q2112 : (Jvm.Cond.soleField "DebtDoorsModel" "ringBits") ∈ lw_all := lw_g (lw_at lw_m9 68 rfl) rfl
theorem q2113 : (Jvm.Cond.laysFinal "DebtDoorsModel" "DebtDoorsModel" "deeps" "[I") ∈ lw_all := lw_g (lw_at lw_m9 69 rfl) rfl
theorem q2114 : (Jvm.Cond.soleField "DebtDoorsModel" "deeps") ∈ lw_all := lw_g (lw_at lw_m9 70 rfl) rfl
theorem q2115 : (Jvm.Cond.laysFinal "DebtDoorsModel" "DebtDoorsModel" "groups" "[I") ∈ lw_all := lw_g (lw_at lw_m9 71 rfl) rfl
theorem q2116 : (Jvm.Cond.soleField "DebtDoorsModel" "groups") ∈ lw_all := lw_g (lw_at lw_m9 72 rfl) rfl
theorem q2117 : (Jvm.Cond.lays "DebtDoorsModel" "DebtDoorsModel" "stopped0" "I") ∈ lw_all := lw_g (lw_at lw_m9 73 rfl) rfl
theorem q2118 : (Jvm.Cond.soleField "DebtDoorsModel" "stopped0") ∈ lw_all := lw_g (lw_at lw_m9 74 rfl) rfl
theorem q2119 : (Jvm.Cond.lays "DebtDoorsModel" "DebtDoorsModel" "orderDone" "I") ∈ lw_all := lw_g (lw_at lw_m9 75 rfl) rfl
theorem q2120 : (Jvm.Cond.soleField "DebtDoorsModel" "orderDone") ∈ lw_all := lw_g (lw_at lw_m9 76 rfl) rfl
theorem q2121 : (Jvm.Cond.lays "DebtDoorsModel" "DebtDoorsModel" "orderLast" "I") ∈ lw_all := lw_g (lw_at lw_m9 77 rfl) rfl
theorem q2122 : (Jvm.Cond.soleField "DebtDoorsModel" "orderLast") ∈ lw_all := lw_g (lw_at lw_m9 78 rfl) rfl
theorem q2123 : (Jvm.Cond.lays "DebtDoorsModel" "DebtDoorsModel" "orderAt" "I") ∈ lw_all := lw_g (lw_at lw_m9 79 rfl) rfl
theorem q2124 : (Jvm.Cond.soleField "DebtDoorsModel" "orderAt") ∈ lw_all := lw_g (lw_at lw_m9 80 rfl) rfl
theorem q2125 : (Jvm.Cond.lays "DebtDoorsModel" "DebtDoorsModel" "timesOf" "I") ∈ lw_all := lw_g (lw_at lw_m9 81 rfl) rfl
theorem q2126 : (Jvm.Cond.soleField "DebtDoorsModel" "timesOf") ∈ lw_all := lw_g (lw_at lw_m9 82 rfl) rfl
theorem q2127 : (Jvm.Cond.lays "DebtDoorsModel" "DebtDoorsModel" "head" "I") ∈ lw_all := lw_g (lw_at lw_m9 83 rfl) rfl
theorem q2128 : (Jvm.Cond.soleField "DebtDoorsModel" "head") ∈ lw_all := lw_g (lw_at lw_m9 84 rfl) rfl
theorem q2129 : (Jvm.Cond.lays "DebtDoorsModel" "DebtDoorsModel" "sumsAre" "Z") ∈ lw_all := lw_g (lw_at lw_m9 85 rfl) rfl
theorem q2130 : (Jvm.Cond.soleField "DebtDoorsModel" "sumsAre") ∈ lw_all := lw_g (lw_at lw_m9 86 rfl) rfl
theorem q2131 : (Jvm.Cond.lays "DebtDoorsModel" "DebtDoorsModel" "testIs" "Z") ∈ lw_all := lw_g (lw_at lw_m9 87 rfl) rfl
theorem q2132 : (Jvm.Cond.soleField "DebtDoorsModel" "testIs") ∈ lw_all := lw_g (lw_at lw_m9 88 rfl) rfl
theorem q2133 : (Jvm.Cond.laysFinal "DebtDoorsModel" "DebtDoorsModel" "sums" "[J") ∈ lw_all := lw_g (lw_at lw_m9 89 rfl) rfl
theorem q2134 : (Jvm.Cond.soleField "DebtDoorsModel" "sums") ∈ lw_all := lw_g (lw_at lw_m9 90 rfl) rfl
theorem q2135 : (Jvm.Cond.laysFinal "DebtDoorsModel" "DebtDoorsModel" "drawnPurse" "[I") ∈ lw_all := lw_g (lw_at lw_m9 91 rfl) rfl
theorem q2136 : (Jvm.Cond.soleField "DebtDoorsModel" "drawnPurse") ∈ lw_all := lw_g (lw_at lw_m9 92 rfl) rfl
theorem q2137 : (Jvm.Cond.laysFinal "DebtDoorsModel" "DebtDoorsModel" "drawnBalance" "[I") ∈ lw_all := lw_g (lw_at lw_m9 93 rfl) rfl
theorem q2138 : (Jvm.Cond.soleField "DebtDoorsModel" "drawnBalance") ∈ lw_all := lw_g (lw_at lw_m9 94 rfl) rfl
theorem q2139 : (Jvm.Cond.laysFinal "DebtDoorsModel" "DebtDoorsModel" "drawnDoors" "[I") ∈ lw_all := lw_g (lw_at lw_m9 95 rfl) rfl
theorem q2140 : (Jvm.Cond.soleField "DebtDoorsModel" "drawnDoors") ∈ lw_all := lw_g (lw_at lw_m9 96 rfl) rfl
theorem q2141 : (Jvm.Cond.lays "DebtDoorsModel" "DebtDoorsModel" "drawnMany" "I") ∈ lw_all := lw_g (lw_at lw_m9 97 rfl) rfl
theorem q2142 : (Jvm.Cond.soleField "DebtDoorsModel" "drawnMany") ∈ lw_all := lw_g (lw_at lw_m9 98 rfl) rfl
theorem q2143 : (Jvm.Cond.lays "DebtDoorsModel" "DebtDoorsModel" "latest" "I") ∈ lw_all := lw_g (lw_at lw_m9 99 rfl) rfl
theorem q2144 : (Jvm.Cond.soleField "DebtDoorsModel" "latest") ∈ lw_all := lw_g (lw_at lw_m9 100 rfl) rfl
theorem q2145 : (Jvm.Cond.superclass "DebtDoorsModel" "java/lang/Object") ∈ lw_all := lw_g (lw_at lw_m9 101 rfl) rfl
theorem q2148 : (Jvm.Cond.instanceMethod ({ cls := "DebtDoorsModel", name := "image", desc := "(I)I" } : Jvm.MethodName)) ∈ lw_all := lw_g (lw_at lw_m9 104 rfl) rfl
theorem q2149 : (Jvm.Cond.selects "DebtDoorsModel" ({ cls := "DebtDoorsModel", name := "image", desc := "(I)I" } : Jvm.MethodName) ({ cls := "DebtDoorsModel", name := "image", desc := "(I)I" } : Jvm.MethodName)) ∈ lw_all := lw_g (lw_at lw_m9 105 rfl) rfl
theorem q2150 : (Jvm.Cond.code ({ cls := "DebtDoorsModel", name := "image", desc := "(I)I" } : Jvm.MethodName) prog_35_method_11_code (3 : Nat) (Option.some Jvm.ClassFile.FieldType.int)) ∈ lw_all := lw_g (lw_at lw_m9 106 rfl) rfl
theorem q2151 : (Jvm.Cond.methodLink "DebtDoorsModel" (123 : Nat) ({ cls := "DebtDoorsModel", name := "lies", desc := "(III)Z" } : Jvm.MethodName)) ∈ lw_all := lw_g (lw_at lw_m9 107 rfl) rfl
theorem q2152 : (Jvm.Cond.static ({ cls := "DebtDoorsModel", name := "lies", desc := "(III)Z" } : Jvm.MethodName)) ∈ lw_all := lw_g (lw_at lw_m9 108 rfl) rfl
theorem q2153 : (Jvm.Cond.code ({ cls := "DebtDoorsModel", name := "lies", desc := "(III)Z" } : Jvm.MethodName) prog_35_method_1_code (3 : Nat) (Option.some Jvm.ClassFile.FieldType.boolean)) ∈ lw_all := lw_g (lw_at lw_m9 109 rfl) rfl
theorem q2154 : (Jvm.Cond.methodLink "DebtDoorsModel" (127 : Nat) ({ cls := "DebtDoorsModel", name := "refuses", desc := "(I)I" } : Jvm.MethodName)) ∈ lw_all := lw_g (lw_at lw_m9 110 rfl) rfl
theorem q2155 : (Jvm.Cond.privateMethod ({ cls := "DebtDoorsModel", name := "refuses", desc := "(I)I" } : Jvm.MethodName)) ∈ lw_tbl := lw_at lw_m9 111 rfl
theorem q2156 : (Jvm.Cond.instanceMethod ({ cls := "DebtDoorsModel", name := "refuses", desc := "(I)I" } : Jvm.MethodName)) ∈ lw_all := lw_g (lw_at lw_m9 112 rfl) rfl
theorem q2157 : (Jvm.Cond.code ({ cls := "DebtDoorsModel", name := "refuses", desc := "(I)I" } : Jvm.MethodName) prog_35_method_2_code (2 : Nat) (Option.some Jvm.ClassFile.FieldType.int)) ∈ lw_all := lw_g (lw_at lw_m9 113 rfl) rfl
theorem q2158 : (Jvm.Cond.methodLink "DebtDoorsModel" (14 : Nat) ({ cls := "DebtDoorsModel", name := "good", desc := "(I)I" } : Jvm.MethodName)) ∈ lw_all := lw_g (lw_at lw_m9 114 rfl) rfl
theorem q2159 : (Jvm.Cond.privateMethod ({ cls := "DebtDoorsModel", name := "good", desc := "(I)I" } : Jvm.MethodName)) ∈ lw_tbl := lw_at lw_m9 115 rfl
theorem q2160 : (Jvm.Cond.instanceMethod ({ cls := "DebtDoorsModel", name := "good", desc := "(I)I" } : Jvm.MethodName)) ∈ lw_all := lw_g (lw_at lw_m9 116 rfl) rfl
theorem q2161 : (Jvm.Cond.code ({ cls := "DebtDoorsModel", name := "good", desc := "(I)I" } : Jvm.MethodName) prog_35_method_3_code (2 : Nat) (Option.some Jvm.ClassFile.FieldType.int)) ∈ lw_all := lw_g (lw_at lw_m9 117 rfl) rfl
theorem q2163 : (Jvm.Cond.instanceMethod ({ cls := "DebtDoorsModel", name := "back", desc := "(I)I" } : Jvm.MethodName)) ∈ lw_all := lw_g (lw_at lw_m9 119 rfl) rfl
theorem q2164 : (Jvm.Cond.selects "DebtDoorsModel" ({ cls := "DebtDoorsModel", name := "back", desc := "(I)I" } : Jvm.MethodName) ({ cls := "DebtDoorsModel", name := "back", desc := "(I)I" } : Jvm.MethodName)) ∈ lw_all := lw_g (lw_at lw_m9 120 rfl) rfl
theorem q2165 : (Jvm.Cond.code ({ cls := "DebtDoorsModel", name := "back", desc := "(I)I" } : Jvm.MethodName) prog_35_method_12_code (3 : Nat) (Option.some Jvm.ClassFile.FieldType.int)) ∈ lw_all := lw_g (lw_at lw_m9 121 rfl) rfl
theorem q2166 : (Jvm.Cond.methodLink "DebtDoorsModel" (130 : Nat) ({ cls := "DebtDoorsModel", name := "settled", desc := "(I)I" } : Jvm.MethodName)) ∈ lw_all := lw_g (lw_at lw_m9 122 rfl) rfl
theorem q2167 : (Jvm.Cond.privateMethod ({ cls := "DebtDoorsModel", name := "settled", desc := "(I)I" } : Jvm.MethodName)) ∈ lw_tbl := lw_at lw_m9 123 rfl
theorem q2168 : (Jvm.Cond.instanceMethod ({ cls := "DebtDoorsModel", name := "settled", desc := "(I)I" } : Jvm.MethodName)) ∈ lw_all := lw_g (lw_at lw_m9 124 rfl) rfl
theorem q2169 : (Jvm.Cond.code ({ cls := "DebtDoorsModel", name := "settled", desc := "(I)I" } : Jvm.MethodName) prog_35_method_4_code (2 : Nat) (Option.some Jvm.ClassFile.FieldType.int)) ∈ lw_all := lw_g (lw_at lw_m9 125 rfl) rfl
theorem q2171 : (Jvm.Cond.instanceMethod ({ cls := "DebtDoorsModel", name := "person", desc := "(III)I" } : Jvm.MethodName)) ∈ lw_all := lw_g (lw_at lw_m9 127 rfl) rfl
theorem q2172 : (Jvm.Cond.selects "DebtDoorsModel" ({ cls := "DebtDoorsModel", name := "person", desc := "(III)I" } : Jvm.MethodName) ({ cls := "DebtDoorsModel", name := "person", desc := "(III)I" } : Jvm.MethodName)) ∈ lw_all := lw_g (lw_at lw_m9 128 rfl) rfl
theorem q2173 : (Jvm.Cond.code ({ cls := "DebtDoorsModel", name := "person", desc := "(III)I" } : Jvm.MethodName) prog_35_method_21_code (5 : Nat) (Option.some Jvm.ClassFile.FieldType.int)) ∈ lw_all := lw_g (lw_at lw_m9 129 rfl) rfl
theorem q2174 : (Jvm.Cond.methodLink "DebtDoorsModel" (144 : Nat) ({ cls := "DebtDoorsModel", name := "isFact", desc := "(II)Z" } : Jvm.MethodName)) ∈ lw_all := lw_g (lw_at lw_m9 130 rfl) rfl
theorem q2175 : (Jvm.Cond.static ({ cls := "DebtDoorsModel", name := "isFact", desc := "(II)Z" } : Jvm.MethodName)) ∈ lw_all := lw_g (lw_at lw_m9 131 rfl) rfl
theorem q2176 : (Jvm.Cond.code ({ cls := "DebtDoorsModel", name := "isFact", desc := "(II)Z" } : Jvm.MethodName) prog_35_method_19_code (2 : Nat) (Option.some Jvm.ClassFile.FieldType.boolean)) ∈ lw_all := lw_g (lw_at lw_m9 132 rfl) rfl
theorem q2177 : (Jvm.Cond.methodLink "DebtDoorsModel" (140 : Nat) ({ cls := "DebtDoorsModel", name := "isRoom", desc := "(I)Z" } : Jvm.MethodName)) ∈ lw_all := lw_g (lw_at lw_m9 133 rfl) rfl
theorem q2178 : (Jvm.Cond.static ({ cls := "DebtDoorsModel", name := "isRoom", desc := "(I)Z" } : Jvm.MethodName)) ∈ lw_all := lw_g (lw_at lw_m9 134 rfl) rfl
theorem q2179 : (Jvm.Cond.code ({ cls := "DebtDoorsModel", name := "isRoom", desc := "(I)Z" } : Jvm.MethodName) prog_35_method_17_code (1 : Nat) (Option.some Jvm.ClassFile.FieldType.boolean)) ∈ lw_all := lw_g (lw_at lw_m9 135 rfl) rfl
theorem q2180 : (Jvm.Cond.methodLink "DebtDoorsModel" (133 : Nat) ({ cls := "DebtDoorsModel", name := "people", desc := "()I" } : Jvm.MethodName)) ∈ lw_all := lw_g (lw_at lw_m9 136 rfl) rfl
theorem q2181 : (Jvm.Cond.privateMethod ({ cls := "DebtDoorsModel", name := "people", desc := "()I" } : Jvm.MethodName)) ∈ lw_tbl := lw_at lw_m9 137 rfl
theorem q2182 : (Jvm.Cond.instanceMethod ({ cls := "DebtDoorsModel", name := "people", desc := "()I" } : Jvm.MethodName)) ∈ lw_all := lw_g (lw_at lw_m9 138 rfl) rfl
theorem q2183 : (Jvm.Cond.code ({ cls := "DebtDoorsModel", name := "people", desc := "()I" } : Jvm.MethodName) prog_35_method_13_code (1 : Nat) (Option.some Jvm.ClassFile.FieldType.int)) ∈ lw_all := lw_g (lw_at lw_m9 139 rfl) rfl
theorem q2184 : (Jvm.Cond.methodLink "DebtDoorsModel" (148 : Nat) ({ cls := "DebtDoorsModel", name := "placeOf", desc := "(II)I" } : Jvm.MethodName)) ∈ lw_all := lw_g (lw_at lw_m9 140 rfl) rfl
theorem q2185 : (Jvm.Cond.static ({ cls := "DebtDoorsModel", name := "placeOf", desc := "(II)I" } : Jvm.MethodName)) ∈ lw_all := lw_g (lw_at lw_m9 141 rfl) rfl
theorem q2186 : (Jvm.Cond.code ({ cls := "DebtDoorsModel", name := "placeOf", desc := "(II)I" } : Jvm.MethodName) prog_35_method_20_code (2 : Nat) (Option.some Jvm.ClassFile.FieldType.int)) ∈ lw_all := lw_g (lw_at lw_m9 142 rfl) rfl
theorem q2188 : (Jvm.Cond.instanceMethod ({ cls := "DebtDoorsModel", name := "put", desc := "(III)I" } : Jvm.MethodName)) ∈ lw_all := lw_g (lw_at lw_m9 144 rfl) rfl
theorem q2189 : (Jvm.Cond.selects "DebtDoorsModel" ({ cls := "DebtDoorsModel", name := "put", desc := "(III)I" } : Jvm.MethodName) ({ cls := "DebtDoorsModel", name := "put", desc := "(III)I" } : Jvm.MethodName)) ∈ lw_all := lw_g (lw_at lw_m9 145 rfl) rfl
theorem q2190 : (Jvm.Cond.code ({ cls := "DebtDoorsModel", name := "put", desc := "(III)I" } : Jvm.MethodName) prog_35_method_22_code (5 : Nat) (Option.some Jvm.ClassFile.FieldType.int)) ∈ lw_all := lw_g (lw_at lw_m9 146 rfl) rfl
theorem q2191 : (Jvm.Cond.methodLink "DebtDoorsModel" (152 : Nat) ({ cls := "DebtDoorsModel", name := "isPerson", desc := "(I)Z" } : Jvm.MethodName)) ∈ lw_all := lw_g (lw_at lw_m9 147 rfl) rfl
theorem q2192 : (Jvm.Cond.privateMethod ({ cls := "DebtDoorsModel", name := "isPerson", desc := "(I)Z" } : Jvm.MethodName)) ∈ lw_tbl := lw_at lw_m9 148 rfl
theorem q2193 : (Jvm.Cond.instanceMethod ({ cls := "DebtDoorsModel", name := "isPerson", desc := "(I)Z" } : Jvm.MethodName)) ∈ lw_all := lw_g (lw_at lw_m9 149 rfl) rfl
theorem q2194 : (Jvm.Cond.code ({ cls := "DebtDoorsModel", name := "isPerson", desc := "(I)Z" } : Jvm.MethodName) prog_35_method_15_code (2 : Nat) (Option.some Jvm.ClassFile.FieldType.boolean)) ∈ lw_all := lw_g (lw_at lw_m9 150 rfl) rfl
theorem q2196 : (Jvm.Cond.instanceMethod ({ cls := "DebtDoorsModel", name := "of", desc := "(II)I" } : Jvm.MethodName)) ∈ lw_all := lw_g (lw_at lw_m9 152 rfl) rfl
theorem q2197 : (Jvm.Cond.selects "DebtDoorsModel" ({ cls := "DebtDoorsModel", name := "of", desc := "(II)I" } : Jvm.MethodName) ({ cls := "DebtDoorsModel", name := "of", desc := "(II)I" } : Jvm.MethodName)) ∈ lw_all := lw_g (lw_at lw_m9 153 rfl) rfl
theorem q2198 : (Jvm.Cond.code ({ cls := "DebtDoorsModel", name := "of", desc := "(II)I" } : Jvm.MethodName) prog_35_method_23_code (3 : Nat) (Option.some Jvm.ClassFile.FieldType.int)) ∈ lw_all := lw_g (lw_at lw_m9 154 rfl) rfl
theorem q2200 : (Jvm.Cond.instanceMethod ({ cls := "DebtDoorsModel", name := "debt", desc := "(III)I" } : Jvm.MethodName)) ∈ lw_all := lw_g (lw_at lw_m9 156 rfl) rfl
theorem q2201 : (Jvm.Cond.selects "DebtDoorsModel" ({ cls := "DebtDoorsModel", name := "debt", desc := "(III)I" } : Jvm.MethodName) ({ cls := "DebtDoorsModel", name := "debt", desc := "(III)I" } : Jvm.MethodName)) ∈ lw_all := lw_g (lw_at lw_m9 157 rfl) rfl
theorem q2202 : (Jvm.Cond.code ({ cls := "DebtDoorsModel", name := "debt", desc := "(III)I" } : Jvm.MethodName) prog_35_method_26_code (5 : Nat) (Option.some Jvm.ClassFile.FieldType.int)) ∈ lw_all := lw_g (lw_at lw_m9 158 rfl) rfl
theorem q2203 : (Jvm.Cond.methodLink "DebtDoorsModel" (158 : Nat) ({ cls := "DebtDoorsModel", name := "whyNot", desc := "(III)I" } : Jvm.MethodName)) ∈ lw_all := lw_g (lw_at lw_m9 159 rfl) rfl
theorem q2204 : (Jvm.Cond.privateMethod ({ cls := "DebtDoorsModel", name := "whyNot", desc := "(III)I" } : Jvm.MethodName)) ∈ lw_tbl := lw_at lw_m9 160 rfl
theorem q2205 : (Jvm.Cond.instanceMethod ({ cls := "DebtDoorsModel", name := "whyNot", desc := "(III)I" } : Jvm.MethodName)) ∈ lw_all := lw_g (lw_at lw_m9 161 rfl) rfl
theorem q2206 : (Jvm.Cond.code ({ cls := "DebtDoorsModel", name := "whyNot", desc := "(III)I" } : Jvm.MethodName) prog_35_method_25_code (4 : Nat) (Option.some Jvm.ClassFile.FieldType.int)) ∈ lw_all := lw_g (lw_at lw_m9 162 rfl) rfl
theorem q2207 : (Jvm.Cond.methodLink "DebtDoorsModel" (155 : Nat) ({ cls := "DebtDoorsModel", name := "isAmount", desc := "(I)Z" } : Jvm.MethodName)) ∈ lw_all := lw_g (lw_at lw_m9 163 rfl) rfl
theorem q2208 : (Jvm.Cond.static ({ cls := "DebtDoorsModel", name := "isAmount", desc := "(I)Z" } : Jvm.MethodName)) ∈ lw_all := lw_g (lw_at lw_m9 164 rfl) rfl
theorem q2209 : (Jvm.Cond.code ({ cls := "DebtDoorsModel", name := "isAmount", desc := "(I)Z" } : Jvm.MethodName) prog_35_method_18_code (1 : Nat) (Option.some Jvm.ClassFile.FieldType.boolean)) ∈ lw_all := lw_g (lw_at lw_m9 165 rfl) rfl
theorem q2210 : (Jvm.Cond.methodLink "DebtDoorsModel" (137 : Nat) ({ cls := "DebtDoorsModel", name := "debts", desc := "()I" } : Jvm.MethodName)) ∈ lw_all := lw_g (lw_at lw_m9 166 rfl) rfl
theorem q2211 : (Jvm.Cond.privateMethod ({ cls := "DebtDoorsModel", name := "debts", desc := "()I" } : Jvm.MethodName)) ∈ lw_tbl := lw_at lw_m9 167 rfl
theorem q2212 : (Jvm.Cond.instanceMethod ({ cls := "DebtDoorsModel", name := "debts", desc := "()I" } : Jvm.MethodName)) ∈ lw_all := lw_g (lw_at lw_m9 168 rfl) rfl
theorem q2213 : (Jvm.Cond.code ({ cls := "DebtDoorsModel", name := "debts", desc := "()I" } : Jvm.MethodName) prog_35_method_14_code (1 : Nat) (Option.some Jvm.ClassFile.FieldType.int)) ∈ lw_all := lw_g (lw_at lw_m9 169 rfl) rfl
theorem q2214 : (Jvm.Cond.methodLink "DebtDoorsModel" (162 : Nat) ({ cls := "DebtDoorsModel", name := "adds", desc := "(III)V" } : Jvm.MethodName)) ∈ lw_all := lw_g (lw_at lw_m9 170 rfl) rfl
theorem q2215 : (Jvm.Cond.privateMethod ({ cls := "DebtDoorsModel", name := "adds", desc := "(III)V" } : Jvm.MethodName)) ∈ lw_tbl := lw_at lw_m9 171 rfl
theorem q2216 : (Jvm.Cond.instanceMethod ({ cls := "DebtDoorsModel", name := "adds", desc := "(III)V" } : Jvm.MethodName)) ∈ lw_all := lw_g (lw_at lw_m9 172 rfl) rfl
theorem q2217 : (Jvm.Cond.code ({ cls := "DebtDoorsModel", name := "adds", desc := "(III)V" } : Jvm.MethodName) prog_35_method_24_code (5 : Nat) (Option.none : Option Jvm.ClassFile.FieldType)) ∈ lw_all := lw_g (lw_at lw_m9 173 rfl) rfl
theorem q2219 : (Jvm.Cond.instanceMethod ({ cls := "DebtDoorsModel", name := "at", desc := "(II)I" } : Jvm.MethodName)) ∈ lw_all := lw_g (lw_at lw_m9 175 rfl) rfl
theorem q2220 : (Jvm.Cond.selects "DebtDoorsModel" ({ cls := "DebtDoorsModel", name := "at", desc := "(II)I" } : Jvm.MethodName) ({ cls := "DebtDoorsModel", name := "at", desc := "(II)I" } : Jvm.MethodName)) ∈ lw_all := lw_g (lw_at lw_m9 176 rfl) rfl
theorem q2221 : (Jvm.Cond.code ({ cls := "DebtDoorsModel", name := "at", desc := "(II)I" } : Jvm.MethodName) prog_35_method_30_code (3 : Nat) (Option.some Jvm.ClassFile.FieldType.int)) ∈ lw_all := lw_g (lw_at lw_m9 177 rfl) rfl
theorem q2222 : (Jvm.Cond.methodLink "DebtDoorsModel" (169 : Nat) ({ cls := "DebtDoorsModel", name := "isDebt", desc := "(I)Z" } : Jvm.MethodName)) ∈ lw_all := lw_g (lw_at lw_m9 178 rfl) rfl
theorem q2223 : (Jvm.Cond.privateMethod ({ cls := "DebtDoorsModel", name := "isDebt", desc := "(I)Z" } : Jvm.MethodName)) ∈ lw_tbl := lw_at lw_m9 179 rfl
theorem q2224 : (Jvm.Cond.instanceMethod ({ cls := "DebtDoorsModel", name := "isDebt", desc := "(I)Z" } : Jvm.MethodName)) ∈ lw_all := lw_g (lw_at lw_m9 180 rfl) rfl
theorem q2225 : (Jvm.Cond.code ({ cls := "DebtDoorsModel", name := "isDebt", desc := "(I)Z" } : Jvm.MethodName) prog_35_method_16_code (2 : Nat) (Option.some Jvm.ClassFile.FieldType.boolean)) ∈ lw_all := lw_g (lw_at lw_m9 181 rfl) rfl
theorem q2226 : (Jvm.Cond.methodLink "DebtDoorsModel" (172 : Nat) ({ cls := "DebtDoorsModel", name := "soldFor", desc := "(I)I" } : Jvm.MethodName)) ∈ lw_all := lw_g (lw_at lw_m9 182 rfl) rfl
theorem q2227 : (Jvm.Cond.privateMethod ({ cls := "DebtDoorsModel", name := "soldFor", desc := "(I)I" } : Jvm.MethodName)) ∈ lw_tbl := lw_at lw_m9 183 rfl
theorem q2228 : (Jvm.Cond.instanceMethod ({ cls := "DebtDoorsModel", name := "soldFor", desc := "(I)I" } : Jvm.MethodName)) ∈ lw_all := lw_g (lw_at lw_m9 184 rfl) rfl
theorem q2229 : (Jvm.Cond.code ({ cls := "DebtDoorsModel", name := "soldFor", desc := "(I)I" } : Jvm.MethodName) prog_35_method_79_code (2 : Nat) (Option.some Jvm.ClassFile.FieldType.int)) ∈ lw_all := lw_g (lw_at lw_m9 185 rfl) rfl
theorem q2230 : (Jvm.Cond.methodLink "DebtDoorsModel" (342 : Nat) ({ cls := "DebtDoorsModel", name := "setsDebt", desc := "(I)V" } : Jvm.MethodName)) ∈ lw_all := lw_g (lw_at lw_m9 186 rfl) rfl
theorem q2231 : (Jvm.Cond.privateMethod ({ cls := "DebtDoorsModel", name := "setsDebt", desc := "(I)V" } : Jvm.MethodName)) ∈ lw_tbl := lw_at lw_m9 187 rfl
theorem q2232 : (Jvm.Cond.instanceMethod ({ cls := "DebtDoorsModel", name := "setsDebt", desc := "(I)V" } : Jvm.MethodName)) ∈ lw_all := lw_g (lw_at lw_m9 188 rfl) rfl
theorem q2233 : (Jvm.Cond.code ({ cls := "DebtDoorsModel", name := "setsDebt", desc := "(I)V" } : Jvm.MethodName) prog_35_method_77_code (3 : Nat) (Option.none : Option Jvm.ClassFile.FieldType)) ∈ lw_all := lw_g (lw_at lw_m9 189 rfl) rfl
theorem q2234 : (Jvm.Cond.methodLink "DebtDoorsModel" (178 : Nat) ({ cls := "DebtDoorsModel", name := "owed", desc := "(II)I" } : Jvm.MethodName)) ∈ lw_all := lw_g (lw_at lw_m9 190 rfl) rfl
theorem q2235 : (Jvm.Cond.privateMethod ({ cls := "DebtDoorsModel", name := "owed", desc := "(II)I" } : Jvm.MethodName)) ∈ lw_tbl := lw_at lw_m9 191 rfl
theorem q2236 : (Jvm.Cond.instanceMethod ({ cls := "DebtDoorsModel", name := "owed", desc := "(II)I" } : Jvm.MethodName)) ∈ lw_all := lw_g (lw_at lw_m9 192 rfl) rfl
theorem q2237 : (Jvm.Cond.code ({ cls := "DebtDoorsModel", name := "owed", desc := "(II)I" } : Jvm.MethodName) prog_35_method_29_code (5 : Nat) (Option.some Jvm.ClassFile.FieldType.int)) ∈ lw_all := lw_g (lw_at lw_m9 193 rfl) rfl
theorem q2238 : (Jvm.Cond.methodLink "DebtDoorsModel" (166 : Nat) ({ cls := "DebtDoorsModel", name := "isOf", desc := "(III)Z" } : Jvm.MethodName)) ∈ lw_all := lw_g (lw_at lw_m9 194 rfl) rfl
theorem q2239 : (Jvm.Cond.privateMethod ({ cls := "DebtDoorsModel", name := "isOf", desc := "(III)Z" } : Jvm.MethodName)) ∈ lw_tbl := lw_at lw_m9 195 rfl
theorem q2240 : (Jvm.Cond.instanceMethod ({ cls := "DebtDoorsModel", name := "isOf", desc := "(III)Z" } : Jvm.MethodName)) ∈ lw_all := lw_g (lw_at lw_m9 196 rfl) rfl
theorem q2241 : (Jvm.Cond.code ({ cls := "DebtDoorsModel", name := "isOf", desc := "(III)Z" } : Jvm.MethodName) prog_35_method_28_code (4 : Nat) (Option.some Jvm.ClassFile.FieldType.boolean)) ∈ lw_all := lw_g (lw_at lw_m9 197 rfl) rfl
theorem q2242 : (Jvm.Cond.methodLink "DebtDoorsModel" (328 : Nat) ({ cls := "DebtDoorsModel", name := "sets", desc := "(IIIIII)V" } : Jvm.MethodName)) ∈ lw_all := lw_g (lw_at lw_m9 198 rfl) rfl
theorem q2243 : (Jvm.Cond.privateMethod ({ cls := "DebtDoorsModel", name := "sets", desc := "(IIIIII)V" } : Jvm.MethodName)) ∈ lw_tbl := lw_at lw_m9 199 rfl
theorem q2244 : (Jvm.Cond.instanceMethod ({ cls := "DebtDoorsModel", name := "sets", desc := "(IIIIII)V" } : Jvm.MethodName)) ∈ lw_all := lw_g (lw_at lw_m9 200 rfl) rfl
theorem q2245 : (Jvm.Cond.code ({ cls := "DebtDoorsModel", name := "sets", desc := "(IIIIII)V" } : Jvm.MethodName) prog_35_method_74_code (7 : Nat) (Option.none : Option Jvm.ClassFile.FieldType)) ∈ lw_all := lw_g (lw_at lw_m9 201 rfl) rfl
theorem q2246 : (Jvm.Cond.methodLink "DebtDoorsModel" (332 : Nat) ({ cls := "DebtDoorsModel", name := "tells", desc := "(III)I" } : Jvm.MethodName)) ∈ lw_all := lw_g (lw_at lw_m9 202 rfl) rfl
theorem q2247 : (Jvm.Cond.privateMethod ({ cls := "DebtDoorsModel", name := "tells", desc := "(III)I" } : Jvm.MethodName)) ∈ lw_tbl := lw_at lw_m9 203 rfl
theorem q2248 : (Jvm.Cond.instanceMethod ({ cls := "DebtDoorsModel", name := "tells", desc := "(III)I" } : Jvm.MethodName)) ∈ lw_all := lw_g (lw_at lw_m9 204 rfl) rfl
theorem q2249 : (Jvm.Cond.code ({ cls := "DebtDoorsModel", name := "tells", desc := "(III)I" } : Jvm.MethodName) prog_35_method_73_code (11 : Nat) (Option.some Jvm.ClassFile.FieldType.int)) ∈ lw_all := lw_g (lw_at lw_m9 205 rfl) rfl
theorem q2250 : (Jvm.Cond.methodLink "DebtDoorsModel" (283 : Nat) ({ cls := "DebtDoorsModel", name := "codeAt", desc := "(I)I" } : Jvm.MethodName)) ∈ lw_all := lw_g (lw_at lw_m9 206 rfl) rfl
theorem q2251 : (Jvm.Cond.privateMethod ({ cls := "DebtDoorsModel", name := "codeAt", desc := "(I)I" } : Jvm.MethodName)) ∈ lw_tbl := lw_at lw_m9 207 rfl
theorem q2252 : (Jvm.Cond.instanceMethod ({ cls := "DebtDoorsModel", name := "codeAt", desc := "(I)I" } : Jvm.MethodName)) ∈ lw_all := lw_g (lw_at lw_m9 208 rfl) rfl
theorem q2253 : (Jvm.Cond.code ({ cls := "DebtDoorsModel", name := "codeAt", desc := "(I)I" } : Jvm.MethodName) prog_35_method_63_code (2 : Nat) (Option.some Jvm.ClassFile.FieldType.int)) ∈ lw_all := lw_g (lw_at lw_m9 209 rfl) rfl
theorem q2254 : (Jvm.Cond.methodLink "DebtDoorsModel" (307 : Nat) ({ cls := "DebtDoorsModel", name := "sumOf", desc := "(Z)J" } : Jvm.MethodName)) ∈ lw_all := lw_g (lw_at lw_m9 210 rfl) rfl
theorem q2255 : (Jvm.Cond.privateMethod ({ cls := "DebtDoorsModel", name := "sumOf", desc := "(Z)J" } : Jvm.MethodName)) ∈ lw_tbl := lw_at lw_m9 211 rfl
theorem q2256 : (Jvm.Cond.instanceMethod ({ cls := "DebtDoorsModel", name := "sumOf", desc := "(Z)J" } : Jvm.MethodName)) ∈ lw_all := lw_g (lw_at lw_m9 212 rfl) rfl
theorem q2257 : (Jvm.Cond.code ({ cls := "DebtDoorsModel", name := "sumOf", desc := "(Z)J" } : Jvm.MethodName) prog_35_method_66_code (7 : Nat) (Option.some Jvm.ClassFile.FieldType.long)) ∈ lw_all := lw_g (lw_at lw_m9 213 rfl) rfl
theorem q2258 : (Jvm.Cond.methodLink "DebtDoorsModel" (293 : Nat) ({ cls := "DebtDoorsModel", name := "termOf", desc := "(Z)J" } : Jvm.MethodName)) ∈ lw_all := lw_g (lw_at lw_m9 214 rfl) rfl
theorem q2259 : (Jvm.Cond.privateMethod ({ cls := "DebtDoorsModel", name := "termOf", desc := "(Z)J" } : Jvm.MethodName)) ∈ lw_tbl := lw_at lw_m9 215 rfl
theorem q2260 : (Jvm.Cond.instanceMethod ({ cls := "DebtDoorsModel", name := "termOf", desc := "(Z)J" } : Jvm.MethodName)) ∈ lw_all := lw_g (lw_at lw_m9 216 rfl) rfl
theorem q2261 : (Jvm.Cond.code ({ cls := "DebtDoorsModel", name := "termOf", desc := "(Z)J" } : Jvm.MethodName) prog_35_method_67_code (7 : Nat) (Option.some Jvm.ClassFile.FieldType.long)) ∈ lw_all := lw_g (lw_at lw_m9 217 rfl) rfl
theorem q2262 : (Jvm.Cond.methodLink "DebtDoorsModel" (301 : Nat) ({ cls := "DebtDoorsModel", name := "partOf", desc := "(Z)J" } : Jvm.MethodName)) ∈ lw_all := lw_g (lw_at lw_m9 218 rfl) rfl
theorem q2263 : (Jvm.Cond.privateMethod ({ cls := "DebtDoorsModel", name := "partOf", desc := "(Z)J" } : Jvm.MethodName)) ∈ lw_tbl := lw_at lw_m9 219 rfl
theorem q2264 : (Jvm.Cond.instanceMethod ({ cls := "DebtDoorsModel", name := "partOf", desc := "(Z)J" } : Jvm.MethodName)) ∈ lw_all := lw_g (lw_at lw_m9 220 rfl) rfl
theorem q2265 : (Jvm.Cond.code ({ cls := "DebtDoorsModel", name := "partOf", desc := "(Z)J" } : Jvm.MethodName) prog_35_method_68_code (5 : Nat) (Option.some Jvm.ClassFile.FieldType.long)) ∈ lw_all := lw_g (lw_at lw_m9 221 rfl) rfl
theorem q2266 : (Jvm.Cond.methodLink "DebtDoorsModel" (249 : Nat) ({ cls := "DebtDoorsModel", name := "sign", desc := "(C)I" } : Jvm.MethodName)) ∈ lw_all := lw_g (lw_at lw_m9 222 rfl) rfl
theorem q2267 : (Jvm.Cond.static ({ cls := "DebtDoorsModel", name := "sign", desc := "(C)I" } : Jvm.MethodName)) ∈ lw_all := lw_g (lw_at lw_m9 223 rfl) rfl
theorem q2268 : (Jvm.Cond.code ({ cls := "DebtDoorsModel", name := "sign", desc := "(C)I" } : Jvm.MethodName) prog_35_method_46_code (1 : Nat) (Option.some Jvm.ClassFile.FieldType.int)) ∈ lw_all := lw_g (lw_at lw_m9 224 rfl) rfl
theorem q2269 : (Jvm.Cond.methodLink "DebtDoorsModel" (304 : Nat) ({ cls := "DebtDoorsModel", name := "passes0", desc := "(I)Z" } : Jvm.MethodName)) ∈ lw_all := lw_g (lw_at lw_m9 225 rfl) rfl
theorem q2270 : (Jvm.Cond.privateMethod ({ cls := "DebtDoorsModel", name := "passes0", desc := "(I)Z" } : Jvm.MethodName)) ∈ lw_tbl := lw_at lw_m9 226 rfl
theorem q2271 : (Jvm.Cond.instanceMethod ({ cls := "DebtDoorsModel", name := "passes0", desc := "(I)Z" } : Jvm.MethodName)) ∈ lw_all := lw_g (lw_at lw_m9 227 rfl) rfl
theorem q2272 : (Jvm.Cond.code ({ cls := "DebtDoorsModel", name := "passes0", desc := "(I)Z" } : Jvm.MethodName) prog_35_method_64_code (3 : Nat) (Option.some Jvm.ClassFile.FieldType.boolean)) ∈ lw_all := lw_g (lw_at lw_m9 228 rfl) rfl
theorem q2273 : (Jvm.Cond.constantLong "DebtDoorsModel" (313 : Nat) (-1 : Int64)) ∈ lw_all := lw_g (lw_at lw_m9 229 rfl) rfl
theorem q2274 : (Jvm.Cond.methodLink "DebtDoorsModel" (297 : Nat) ({ cls := "DebtDoorsModel", name := "bounded", desc := "(JZ)J" } : Jvm.MethodName)) ∈ lw_all := lw_g (lw_at lw_m9 230 rfl) rfl
theorem q2275 : (Jvm.Cond.privateMethod ({ cls := "DebtDoorsModel", name := "bounded", desc := "(JZ)J" } : Jvm.MethodName)) ∈ lw_tbl := lw_at lw_m9 231 rfl
theorem q2276 : (Jvm.Cond.instanceMethod ({ cls := "DebtDoorsModel", name := "bounded", desc := "(JZ)J" } : Jvm.MethodName)) ∈ lw_all := lw_g (lw_at lw_m9 232 rfl) rfl
theorem q2277 : (Jvm.Cond.code ({ cls := "DebtDoorsModel", name := "bounded", desc := "(JZ)J" } : Jvm.MethodName) prog_35_method_65_code (4 : Nat) (Option.some Jvm.ClassFile.FieldType.long)) ∈ lw_all := lw_g (lw_at lw_m9 233 rfl) rfl
theorem q2278 : (Jvm.Cond.constantLong "DebtDoorsModel" (286 : Nat) (1000000000 : Int64)) ∈ lw_all := lw_g (lw_at lw_m9 234 rfl) rfl
theorem q2279 : (Jvm.Cond.constantLong "DebtDoorsModel" (288 : Nat) (-1000000000 : Int64)) ∈ lw_all := lw_g (lw_at lw_m9 235 rfl) rfl
theorem q2280 : (Jvm.Cond.methodLink "DebtDoorsModel" (325 : Nat) ({ cls := "DebtDoorsModel", name := "testOf", desc := "(Z)Z" } : Jvm.MethodName)) ∈ lw_all := lw_g (lw_at lw_m9 236 rfl) rfl
theorem q2281 : (Jvm.Cond.privateMethod ({ cls := "DebtDoorsModel", name := "testOf", desc := "(Z)Z" } : Jvm.MethodName)) ∈ lw_tbl := lw_at lw_m9 237 rfl
theorem q2282 : (Jvm.Cond.instanceMethod ({ cls := "DebtDoorsModel", name := "testOf", desc := "(Z)Z" } : Jvm.MethodName)) ∈ lw_all := lw_g (lw_at lw_m9 238 rfl) rfl
theorem q2283 : (Jvm.Cond.code ({ cls := "DebtDoorsModel", name := "testOf", desc := "(Z)Z" } : Jvm.MethodName) prog_35_method_69_code (4 : Nat) (Option.some Jvm.ClassFile.FieldType.boolean)) ∈ lw_all := lw_g (lw_at lw_m9 239 rfl) rfl
theorem q2284 : (Jvm.Cond.methodLink "DebtDoorsModel" (315 : Nat) ({ cls := "DebtDoorsModel", name := "bothOf", desc := "(Z)Z" } : Jvm.MethodName)) ∈ lw_all := lw_g (lw_at lw_m10 0 rfl) rfl
theorem q2285 : (Jvm.Cond.privateMethod ({ cls := "DebtDoorsModel", name := "bothOf", desc := "(Z)Z" } : Jvm.MethodName)) ∈ lw_tbl := lw_at lw_m10 1 rfl
theorem q2286 : (Jvm.Cond.instanceMethod ({ cls := "DebtDoorsModel", name := "bothOf", desc := "(Z)Z" } : Jvm.MethodName)) ∈ lw_all := lw_g (lw_at lw_m10 2 rfl) rfl
theorem q2287 : (Jvm.Cond.code ({ cls := "DebtDoorsModel", name := "bothOf", desc := "(Z)Z" } : Jvm.MethodName) prog_35_method_70_code (4 : Nat) (Option.some Jvm.ClassFile.FieldType.boolean)) ∈ lw_all := lw_g (lw_at lw_m10 3 rfl) rfl
theorem q2288 : (Jvm.Cond.methodLink "DebtDoorsModel" (319 : Nat) ({ cls := "DebtDoorsModel", name := "plainOf", desc := "(Z)Z" } : Jvm.MethodName)) ∈ lw_all := lw_g (lw_at lw_m10 4 rfl) rfl
theorem q2289 : (Jvm.Cond.privateMethod ({ cls := "DebtDoorsModel", name := "plainOf", desc := "(Z)Z" } : Jvm.MethodName)) ∈ lw_tbl := lw_at lw_m10 5 rfl
theorem q2290 : (Jvm.Cond.instanceMethod ({ cls := "DebtDoorsModel", name := "plainOf", desc := "(Z)Z" } : Jvm.MethodName)) ∈ lw_all := lw_g (lw_at lw_m10 6 rfl) rfl
theorem q2291 : (Jvm.Cond.code ({ cls := "DebtDoorsModel", name := "plainOf", desc := "(Z)Z" } : Jvm.MethodName) prog_35_method_71_code (3 : Nat) (Option.some Jvm.ClassFile.FieldType.boolean)) ∈ lw_all := lw_g (lw_at lw_m10 7 rfl) rfl
theorem q2292 : (Jvm.Cond.methodLink "DebtDoorsModel" (322 : Nat) ({ cls := "DebtDoorsModel", name := "positiveOf", desc := "(Z)Z" } : Jvm.MethodName)) ∈ lw_all := lw_g (lw_at lw_m10 8 rfl) rfl
theorem q2293 : (Jvm.Cond.privateMethod ({ cls := "DebtDoorsModel", name := "positiveOf", desc := "(Z)Z" } : Jvm.MethodName)) ∈ lw_tbl := lw_at lw_m10 9 rfl
theorem q2294 : (Jvm.Cond.instanceMethod ({ cls := "DebtDoorsModel", name := "positiveOf", desc := "(Z)Z" } : Jvm.MethodName)) ∈ lw_all := lw_g (lw_at lw_m10 10 rfl) rfl
theorem q2295 : (Jvm.Cond.code ({ cls := "DebtDoorsModel", name := "positiveOf", desc := "(Z)Z" } : Jvm.MethodName) prog_35_method_72_code (7 : Nat) (Option.some Jvm.ClassFile.FieldType.boolean)) ∈ lw_all := lw_g (lw_at lw_m10 11 rfl) rfl
theorem q2296 : (Jvm.Cond.methodLink "DebtDoorsModel" (175 : Nat) ({ cls := "DebtDoorsModel", name := "growsBy", desc := "(I)I" } : Jvm.MethodName)) ∈ lw_all := lw_g (lw_at lw_m10 12 rfl) rfl
theorem q2297 : (Jvm.Cond.privateMethod ({ cls := "DebtDoorsModel", name := "growsBy", desc := "(I)I" } : Jvm.MethodName)) ∈ lw_tbl := lw_at lw_m10 13 rfl
theorem q2298 : (Jvm.Cond.instanceMethod ({ cls := "DebtDoorsModel", name := "growsBy", desc := "(I)I" } : Jvm.MethodName)) ∈ lw_all := lw_g (lw_at lw_m10 14 rfl) rfl
theorem q2299 : (Jvm.Cond.code ({ cls := "DebtDoorsModel", name := "growsBy", desc := "(I)I" } : Jvm.MethodName) prog_35_method_78_code (2 : Nat) (Option.some Jvm.ClassFile.FieldType.int)) ∈ lw_all := lw_g (lw_at lw_m10 15 rfl) rfl
theorem q2301 : (Jvm.Cond.instanceMethod ({ cls := "DebtDoorsModel", name := "owes", desc := "(II)I" } : Jvm.MethodName)) ∈ lw_all := lw_g (lw_at lw_m10 17 rfl) rfl
theorem q2302 : (Jvm.Cond.selects "DebtDoorsModel" ({ cls := "DebtDoorsModel", name := "owes", desc := "(II)I" } : Jvm.MethodName) ({ cls := "DebtDoorsModel", name := "owes", desc := "(II)I" } : Jvm.MethodName)) ∈ lw_all := lw_g (lw_at lw_m10 18 rfl) rfl
theorem q2303 : (Jvm.Cond.code ({ cls := "DebtDoorsModel", name := "owes", desc := "(II)I" } : Jvm.MethodName) prog_35_method_31_code (3 : Nat) (Option.some Jvm.ClassFile.FieldType.int)) ∈ lw_all := lw_g (lw_at lw_m10 19 rfl) rfl
theorem q2305 : (Jvm.Cond.instanceMethod ({ cls := "DebtDoorsModel", name := "terms", desc := "(II)I" } : Jvm.MethodName)) ∈ lw_all := lw_g (lw_at lw_m10 21 rfl) rfl
theorem q2306 : (Jvm.Cond.selects "DebtDoorsModel" ({ cls := "DebtDoorsModel", name := "terms", desc := "(II)I" } : Jvm.MethodName) ({ cls := "DebtDoorsModel", name := "terms", desc := "(II)I" } : Jvm.MethodName)) ∈ lw_all := lw_g (lw_at lw_m10 22 rfl) rfl
theorem q2307 : (Jvm.Cond.code ({ cls := "DebtDoorsModel", name := "terms", desc := "(II)I" } : Jvm.MethodName) prog_35_method_32_code (5 : Nat) (Option.some Jvm.ClassFile.FieldType.int)) ∈ lw_all := lw_g (lw_at lw_m10 23 rfl) rfl
theorem q2309 : (Jvm.Cond.instanceMethod ({ cls := "DebtDoorsModel", name := "row", desc := "()I" } : Jvm.MethodName)) ∈ lw_all := lw_g (lw_at lw_m10 25 rfl) rfl
theorem q2310 : (Jvm.Cond.selects "DebtDoorsModel" ({ cls := "DebtDoorsModel", name := "row", desc := "()I" } : Jvm.MethodName) ({ cls := "DebtDoorsModel", name := "row", desc := "()I" } : Jvm.MethodName)) ∈ lw_all := lw_g (lw_at lw_m10 26 rfl) rfl
theorem q2311 : (Jvm.Cond.code ({ cls := "DebtDoorsModel", name := "row", desc := "()I" } : Jvm.MethodName) prog_35_method_33_code (6 : Nat) (Option.some Jvm.ClassFile.FieldType.int)) ∈ lw_all := lw_g (lw_at lw_m10 27 rfl) rfl
theorem q2313 : (Jvm.Cond.instanceMethod ({ cls := "DebtDoorsModel", name := "blots", desc := "()I" } : Jvm.MethodName)) ∈ lw_all := lw_g (lw_at lw_m10 29 rfl) rfl
theorem q2314 : (Jvm.Cond.selects "DebtDoorsModel" ({ cls := "DebtDoorsModel", name := "blots", desc := "()I" } : Jvm.MethodName) ({ cls := "DebtDoorsModel", name := "blots", desc := "()I" } : Jvm.MethodName)) ∈ lw_all := lw_g (lw_at lw_m10 30 rfl) rfl
theorem q2315 : (Jvm.Cond.code ({ cls := "DebtDoorsModel", name := "blots", desc := "()I" } : Jvm.MethodName) prog_35_method_34_code (1 : Nat) (Option.some Jvm.ClassFile.FieldType.int)) ∈ lw_all := lw_g (lw_at lw_m10 31 rfl) rfl
theorem q2317 : (Jvm.Cond.instanceMethod ({ cls := "DebtDoorsModel", name := "feed", desc := "(IIIII)I" } : Jvm.MethodName)) ∈ lw_all := lw_g (lw_at lw_m10 33 rfl) rfl
theorem q2318 : (Jvm.Cond.selects "DebtDoorsModel" ({ cls := "DebtDoorsModel", name := "feed", desc := "(IIIII)I" } : Jvm.MethodName) ({ cls := "DebtDoorsModel", name := "feed", desc := "(IIIII)I" } : Jvm.MethodName)) ∈ lw_all := lw_g (lw_at lw_m10 34 rfl) rfl
theorem q2319 : (Jvm.Cond.code ({ cls := "DebtDoorsModel", name := "feed", desc := "(IIIII)I" } : Jvm.MethodName) prog_35_method_35_code (7 : Nat) (Option.some Jvm.ClassFile.FieldType.int)) ∈ lw_all := lw_g (lw_at lw_m10 35 rfl) rfl
theorem q2321 : (Jvm.Cond.instanceMethod ({ cls := "DebtDoorsModel", name := "end", desc := "(I)I" } : Jvm.MethodName)) ∈ lw_all := lw_g (lw_at lw_m10 37 rfl) rfl
theorem q2322 : (Jvm.Cond.selects "DebtDoorsModel" ({ cls := "DebtDoorsModel", name := "end", desc := "(I)I" } : Jvm.MethodName) ({ cls := "DebtDoorsModel", name := "end", desc := "(I)I" } : Jvm.MethodName)) ∈ lw_all := lw_g (lw_at lw_m10 38 rfl) rfl
theorem q2323 : (Jvm.Cond.code ({ cls := "DebtDoorsModel", name := "end", desc := "(I)I" } : Jvm.MethodName) prog_35_method_36_code (2 : Nat) (Option.some Jvm.ClassFile.FieldType.int)) ∈ lw_all := lw_g (lw_at lw_m10 39 rfl) rfl
theorem q2325 : (Jvm.Cond.instanceMethod ({ cls := "DebtDoorsModel", name := "law", desc := "()I" } : Jvm.MethodName)) ∈ lw_all := lw_g (lw_at lw_m10 41 rfl) rfl
theorem q2326 : (Jvm.Cond.selects "DebtDoorsModel" ({ cls := "DebtDoorsModel", name := "law", desc := "()I" } : Jvm.MethodName) ({ cls := "DebtDoorsModel", name := "law", desc := "()I" } : Jvm.MethodName)) ∈ lw_all := lw_g (lw_at lw_m10 42 rfl) rfl
theorem q2327 : (Jvm.Cond.code ({ cls := "DebtDoorsModel", name := "law", desc := "()I" } : Jvm.MethodName) prog_35_method_60_code (1 : Nat) (Option.some Jvm.ClassFile.FieldType.int)) ∈ lw_all := lw_g (lw_at lw_m10 43 rfl) rfl
theorem q2328 : (Jvm.Cond.methodLink "DebtDoorsModel" (271 : Nat) ({ cls := "DebtDoorsModel", name := "reads", desc := "()Z" } : Jvm.MethodName)) ∈ lw_all := lw_g (lw_at lw_m10 44 rfl) rfl
theorem q2329 : (Jvm.Cond.privateMethod ({ cls := "DebtDoorsModel", name := "reads", desc := "()Z" } : Jvm.MethodName)) ∈ lw_tbl := lw_at lw_m10 45 rfl
theorem q2330 : (Jvm.Cond.instanceMethod ({ cls := "DebtDoorsModel", name := "reads", desc := "()Z" } : Jvm.MethodName)) ∈ lw_all := lw_g (lw_at lw_m10 46 rfl) rfl
theorem q2331 : (Jvm.Cond.code ({ cls := "DebtDoorsModel", name := "reads", desc := "()Z" } : Jvm.MethodName) prog_35_method_58_code (2 : Nat) (Option.some Jvm.ClassFile.FieldType.boolean)) ∈ lw_all := lw_g (lw_at lw_m10 47 rfl) rfl
theorem q2332 : (Jvm.Cond.methodLink "DebtDoorsModel" (265 : Nat) ({ cls := "DebtDoorsModel", name := "splits", desc := "(I)V" } : Jvm.MethodName)) ∈ lw_all := lw_g (lw_at lw_m10 48 rfl) rfl
theorem q2333 : (Jvm.Cond.privateMethod ({ cls := "DebtDoorsModel", name := "splits", desc := "(I)V" } : Jvm.MethodName)) ∈ lw_tbl := lw_at lw_m10 49 rfl
theorem q2334 : (Jvm.Cond.instanceMethod ({ cls := "DebtDoorsModel", name := "splits", desc := "(I)V" } : Jvm.MethodName)) ∈ lw_all := lw_g (lw_at lw_m10 50 rfl) rfl
theorem q2335 : (Jvm.Cond.code ({ cls := "DebtDoorsModel", name := "splits", desc := "(I)V" } : Jvm.MethodName) prog_35_method_40_code (6 : Nat) (Option.none : Option Jvm.ClassFile.FieldType)) ∈ lw_all := lw_g (lw_at lw_m10 51 rfl) rfl
theorem q2336 : (Jvm.Cond.methodLink "DebtDoorsModel" (190 : Nat) ({ cls := "DebtDoorsModel", name := "isSmall", desc := "(I)Z" } : Jvm.MethodName)) ∈ lw_all := lw_g (lw_at lw_m10 52 rfl) rfl
theorem q2337 : (Jvm.Cond.static ({ cls := "DebtDoorsModel", name := "isSmall", desc := "(I)Z" } : Jvm.MethodName)) ∈ lw_all := lw_g (lw_at lw_m10 53 rfl) rfl
theorem q2338 : (Jvm.Cond.code ({ cls := "DebtDoorsModel", name := "isSmall", desc := "(I)Z" } : Jvm.MethodName) prog_35_method_37_code (1 : Nat) (Option.some Jvm.ClassFile.FieldType.boolean)) ∈ lw_all := lw_g (lw_at lw_m10 54 rfl) rfl
theorem q2339 : (Jvm.Cond.methodLink "DebtDoorsModel" (193 : Nat) ({ cls := "DebtDoorsModel", name := "isDigit", desc := "(I)Z" } : Jvm.MethodName)) ∈ lw_all := lw_g (lw_at lw_m10 55 rfl) rfl
theorem q2340 : (Jvm.Cond.static ({ cls := "DebtDoorsModel", name := "isDigit", desc := "(I)Z" } : Jvm.MethodName)) ∈ lw_all := lw_g (lw_at lw_m10 56 rfl) rfl
theorem q2341 : (Jvm.Cond.code ({ cls := "DebtDoorsModel", name := "isDigit", desc := "(I)Z" } : Jvm.MethodName) prog_35_method_38_code (1 : Nat) (Option.some Jvm.ClassFile.FieldType.boolean)) ∈ lw_all := lw_g (lw_at lw_m10 57 rfl) rfl
theorem q2342 : (Jvm.Cond.methodLink "DebtDoorsModel" (196 : Nat) ({ cls := "DebtDoorsModel", name := "wordOf", desc := "(II)I" } : Jvm.MethodName)) ∈ lw_all := lw_g (lw_at lw_m10 58 rfl) rfl
theorem q2343 : (Jvm.Cond.privateMethod ({ cls := "DebtDoorsModel", name := "wordOf", desc := "(II)I" } : Jvm.MethodName)) ∈ lw_tbl := lw_at lw_m10 59 rfl
theorem q2344 : (Jvm.Cond.instanceMethod ({ cls := "DebtDoorsModel", name := "wordOf", desc := "(II)I" } : Jvm.MethodName)) ∈ lw_all := lw_g (lw_at lw_m10 60 rfl) rfl
theorem q2345 : (Jvm.Cond.code ({ cls := "DebtDoorsModel", name := "wordOf", desc := "(II)I" } : Jvm.MethodName) prog_35_method_39_code (8 : Nat) (Option.some Jvm.ClassFile.FieldType.int)) ∈ lw_all := lw_g (lw_at lw_m10 61 rfl) rfl
theorem q2346 : (Jvm.Cond.constant "DebtDoorsModel" (199 : Nat) (1000000 : Int32)) ∈ lw_all := lw_g (lw_at lw_m10 62 rfl) rfl
theorem q2347 : (Jvm.Cond.methodLink "DebtDoorsModel" (268 : Nat) ({ cls := "DebtDoorsModel", name := "readOne", desc := "()V" } : Jvm.MethodName)) ∈ lw_all := lw_g (lw_at lw_m10 63 rfl) rfl
theorem q2348 : (Jvm.Cond.privateMethod ({ cls := "DebtDoorsModel", name := "readOne", desc := "()V" } : Jvm.MethodName)) ∈ lw_tbl := lw_at lw_m10 64 rfl
theorem q2349 : (Jvm.Cond.instanceMethod ({ cls := "DebtDoorsModel", name := "readOne", desc := "()V" } : Jvm.MethodName)) ∈ lw_all := lw_g (lw_at lw_m10 65 rfl) rfl
theorem q2350 : (Jvm.Cond.code ({ cls := "DebtDoorsModel", name := "readOne", desc := "()V" } : Jvm.MethodName) prog_35_method_51_code (1 : Nat) (Option.none : Option Jvm.ClassFile.FieldType)) ∈ lw_all := lw_g (lw_at lw_m10 66 rfl) rfl
theorem q2351 : (Jvm.Cond.methodLink "DebtDoorsModel" (237 : Nat) ({ cls := "DebtDoorsModel", name := "readOrder", desc := "()V" } : Jvm.MethodName)) ∈ lw_all := lw_g (lw_at lw_m10 67 rfl) rfl
theorem q2352 : (Jvm.Cond.privateMethod ({ cls := "DebtDoorsModel", name := "readOrder", desc := "()V" } : Jvm.MethodName)) ∈ lw_tbl := lw_at lw_m10 68 rfl
theorem q2353 : (Jvm.Cond.instanceMethod ({ cls := "DebtDoorsModel", name := "readOrder", desc := "()V" } : Jvm.MethodName)) ∈ lw_all := lw_g (lw_at lw_m10 69 rfl) rfl
theorem q2354 : (Jvm.Cond.code ({ cls := "DebtDoorsModel", name := "readOrder", desc := "()V" } : Jvm.MethodName) prog_35_method_50_code (1 : Nat) (Option.none : Option Jvm.ClassFile.FieldType)) ∈ lw_all := lw_g (lw_at lw_m10 70 rfl) rfl
theorem q2355 : (Jvm.Cond.methodLink "DebtDoorsModel" (210 : Nat) ({ cls := "DebtDoorsModel", name := "takes0", desc := "(I)Z" } : Jvm.MethodName)) ∈ lw_all := lw_g (lw_at lw_m10 71 rfl) rfl
theorem q2356 : (Jvm.Cond.privateMethod ({ cls := "DebtDoorsModel", name := "takes0", desc := "(I)Z" } : Jvm.MethodName)) ∈ lw_tbl := lw_at lw_m10 72 rfl
theorem q2357 : (Jvm.Cond.instanceMethod ({ cls := "DebtDoorsModel", name := "takes0", desc := "(I)Z" } : Jvm.MethodName)) ∈ lw_all := lw_g (lw_at lw_m10 73 rfl) rfl
theorem q2358 : (Jvm.Cond.code ({ cls := "DebtDoorsModel", name := "takes0", desc := "(I)Z" } : Jvm.MethodName) prog_35_method_43_code (3 : Nat) (Option.some Jvm.ClassFile.FieldType.boolean)) ∈ lw_all := lw_g (lw_at lw_m10 74 rfl) rfl
theorem q2359 : (Jvm.Cond.methodLink "DebtDoorsModel" (203 : Nat) ({ cls := "DebtDoorsModel", name := "fine", desc := "()Z" } : Jvm.MethodName)) ∈ lw_all := lw_g (lw_at lw_m10 75 rfl) rfl
theorem q2360 : (Jvm.Cond.privateMethod ({ cls := "DebtDoorsModel", name := "fine", desc := "()Z" } : Jvm.MethodName)) ∈ lw_tbl := lw_at lw_m10 76 rfl
theorem q2361 : (Jvm.Cond.instanceMethod ({ cls := "DebtDoorsModel", name := "fine", desc := "()Z" } : Jvm.MethodName)) ∈ lw_all := lw_g (lw_at lw_m10 77 rfl) rfl
theorem q2362 : (Jvm.Cond.code ({ cls := "DebtDoorsModel", name := "fine", desc := "()Z" } : Jvm.MethodName) prog_35_method_41_code (1 : Nat) (Option.some Jvm.ClassFile.FieldType.boolean)) ∈ lw_all := lw_g (lw_at lw_m10 78 rfl) rfl
theorem q2363 : (Jvm.Cond.methodLink "DebtDoorsModel" (223 : Nat) ({ cls := "DebtDoorsModel", name := "readSum", desc := "(I)V" } : Jvm.MethodName)) ∈ lw_all := lw_g (lw_at lw_m10 79 rfl) rfl
theorem q2364 : (Jvm.Cond.privateMethod ({ cls := "DebtDoorsModel", name := "readSum", desc := "(I)V" } : Jvm.MethodName)) ∈ lw_tbl := lw_at lw_m10 80 rfl
theorem q2365 : (Jvm.Cond.instanceMethod ({ cls := "DebtDoorsModel", name := "readSum", desc := "(I)V" } : Jvm.MethodName)) ∈ lw_all := lw_g (lw_at lw_m10 81 rfl) rfl
theorem q2366 : (Jvm.Cond.code ({ cls := "DebtDoorsModel", name := "readSum", desc := "(I)V" } : Jvm.MethodName) prog_35_method_55_code (2 : Nat) (Option.none : Option Jvm.ClassFile.FieldType)) ∈ lw_all := lw_g (lw_at lw_m10 82 rfl) rfl
theorem q2367 : (Jvm.Cond.methodLink "DebtDoorsModel" (253 : Nat) ({ cls := "DebtDoorsModel", name := "readTerm", desc := "(I)V" } : Jvm.MethodName)) ∈ lw_all := lw_g (lw_at lw_m10 83 rfl) rfl
theorem q2368 : (Jvm.Cond.privateMethod ({ cls := "DebtDoorsModel", name := "readTerm", desc := "(I)V" } : Jvm.MethodName)) ∈ lw_tbl := lw_at lw_m10 84 rfl
theorem q2369 : (Jvm.Cond.instanceMethod ({ cls := "DebtDoorsModel", name := "readTerm", desc := "(I)V" } : Jvm.MethodName)) ∈ lw_all := lw_g (lw_at lw_m10 85 rfl) rfl
theorem q2370 : (Jvm.Cond.code ({ cls := "DebtDoorsModel", name := "readTerm", desc := "(I)V" } : Jvm.MethodName) prog_35_method_56_code (2 : Nat) (Option.none : Option Jvm.ClassFile.FieldType)) ∈ lw_all := lw_g (lw_at lw_m10 86 rfl) rfl
theorem q2371 : (Jvm.Cond.methodLink "DebtDoorsModel" (256 : Nat) ({ cls := "DebtDoorsModel", name := "readPart", desc := "(I)V" } : Jvm.MethodName)) ∈ lw_all := lw_g (lw_at lw_m10 87 rfl) rfl
theorem q2372 : (Jvm.Cond.privateMethod ({ cls := "DebtDoorsModel", name := "readPart", desc := "(I)V" } : Jvm.MethodName)) ∈ lw_tbl := lw_at lw_m10 88 rfl
theorem q2373 : (Jvm.Cond.instanceMethod ({ cls := "DebtDoorsModel", name := "readPart", desc := "(I)V" } : Jvm.MethodName)) ∈ lw_all := lw_g (lw_at lw_m10 89 rfl) rfl
theorem q2374 : (Jvm.Cond.code ({ cls := "DebtDoorsModel", name := "readPart", desc := "(I)V" } : Jvm.MethodName) prog_35_method_57_code (3 : Nat) (Option.none : Option Jvm.ClassFile.FieldType)) ∈ lw_all := lw_g (lw_at lw_m10 90 rfl) rfl
theorem q2375 : (Jvm.Cond.methodLink "DebtDoorsModel" (213 : Nat) ({ cls := "DebtDoorsModel", name := "faults", desc := "()V" } : Jvm.MethodName)) ∈ lw_all := lw_g (lw_at lw_m10 91 rfl) rfl
theorem q2376 : (Jvm.Cond.privateMethod ({ cls := "DebtDoorsModel", name := "faults", desc := "()V" } : Jvm.MethodName)) ∈ lw_tbl := lw_at lw_m10 92 rfl
theorem q2377 : (Jvm.Cond.instanceMethod ({ cls := "DebtDoorsModel", name := "faults", desc := "()V" } : Jvm.MethodName)) ∈ lw_all := lw_g (lw_at lw_m10 93 rfl) rfl
theorem q2378 : (Jvm.Cond.code ({ cls := "DebtDoorsModel", name := "faults", desc := "()V" } : Jvm.MethodName) prog_35_method_42_code (1 : Nat) (Option.none : Option Jvm.ClassFile.FieldType)) ∈ lw_all := lw_g (lw_at lw_m10 94 rfl) rfl
theorem q2379 : (Jvm.Cond.methodLink "DebtDoorsModel" (227 : Nat) ({ cls := "DebtDoorsModel", name := "must", desc := "(I)V" } : Jvm.MethodName)) ∈ lw_all := lw_g (lw_at lw_m10 95 rfl) rfl
theorem q2380 : (Jvm.Cond.privateMethod ({ cls := "DebtDoorsModel", name := "must", desc := "(I)V" } : Jvm.MethodName)) ∈ lw_tbl := lw_at lw_m10 96 rfl
theorem q2381 : (Jvm.Cond.instanceMethod ({ cls := "DebtDoorsModel", name := "must", desc := "(I)V" } : Jvm.MethodName)) ∈ lw_all := lw_g (lw_at lw_m10 97 rfl) rfl
theorem q2382 : (Jvm.Cond.code ({ cls := "DebtDoorsModel", name := "must", desc := "(I)V" } : Jvm.MethodName) prog_35_method_44_code (2 : Nat) (Option.none : Option Jvm.ClassFile.FieldType)) ∈ lw_all := lw_g (lw_at lw_m10 98 rfl) rfl
theorem q2383 : (Jvm.Cond.methodLink "DebtDoorsModel" (259 : Nat) ({ cls := "DebtDoorsModel", name := "isValue", desc := "(I)Z" } : Jvm.MethodName)) ∈ lw_all := lw_g (lw_at lw_m10 99 rfl) rfl
theorem q2384 : (Jvm.Cond.privateMethod ({ cls := "DebtDoorsModel", name := "isValue", desc := "(I)Z" } : Jvm.MethodName)) ∈ lw_tbl := lw_at lw_m10 100 rfl
theorem q2385 : (Jvm.Cond.instanceMethod ({ cls := "DebtDoorsModel", name := "isValue", desc := "(I)Z" } : Jvm.MethodName)) ∈ lw_all := lw_g (lw_at lw_m10 101 rfl) rfl
theorem q2386 : (Jvm.Cond.code ({ cls := "DebtDoorsModel", name := "isValue", desc := "(I)Z" } : Jvm.MethodName) prog_35_method_47_code (2 : Nat) (Option.some Jvm.ClassFile.FieldType.boolean)) ∈ lw_all := lw_g (lw_at lw_m10 102 rfl) rfl
theorem q2387 : (Jvm.Cond.methodLink "DebtDoorsModel" (262 : Nat) ({ cls := "DebtDoorsModel", name := "leaf", desc := "()V" } : Jvm.MethodName)) ∈ lw_all := lw_g (lw_at lw_m10 103 rfl) rfl
theorem q2388 : (Jvm.Cond.privateMethod ({ cls := "DebtDoorsModel", name := "leaf", desc := "()V" } : Jvm.MethodName)) ∈ lw_tbl := lw_at lw_m10 104 rfl
theorem q2389 : (Jvm.Cond.instanceMethod ({ cls := "DebtDoorsModel", name := "leaf", desc := "()V" } : Jvm.MethodName)) ∈ lw_all := lw_g (lw_at lw_m10 105 rfl) rfl
theorem q2390 : (Jvm.Cond.code ({ cls := "DebtDoorsModel", name := "leaf", desc := "()V" } : Jvm.MethodName) prog_35_method_45_code (1 : Nat) (Option.none : Option Jvm.ClassFile.FieldType)) ∈ lw_all := lw_g (lw_at lw_m10 106 rfl) rfl
theorem q2391 : (Jvm.Cond.methodLink "DebtDoorsModel" (233 : Nat) ({ cls := "DebtDoorsModel", name := "mustNumber", desc := "(II)V" } : Jvm.MethodName)) ∈ lw_all := lw_g (lw_at lw_m10 107 rfl) rfl
theorem q2392 : (Jvm.Cond.privateMethod ({ cls := "DebtDoorsModel", name := "mustNumber", desc := "(II)V" } : Jvm.MethodName)) ∈ lw_tbl := lw_at lw_m10 108 rfl
theorem q2393 : (Jvm.Cond.instanceMethod ({ cls := "DebtDoorsModel", name := "mustNumber", desc := "(II)V" } : Jvm.MethodName)) ∈ lw_all := lw_g (lw_at lw_m10 109 rfl) rfl
theorem q2394 : (Jvm.Cond.code ({ cls := "DebtDoorsModel", name := "mustNumber", desc := "(II)V" } : Jvm.MethodName) prog_35_method_48_code (3 : Nat) (Option.none : Option Jvm.ClassFile.FieldType)) ∈ lw_all := lw_g (lw_at lw_m10 110 rfl) rfl
theorem q2395 : (Jvm.Cond.methodLink "DebtDoorsModel" (230 : Nat) ({ cls := "DebtDoorsModel", name := "readTest", desc := "(I)V" } : Jvm.MethodName)) ∈ lw_all := lw_g (lw_at lw_m10 111 rfl) rfl
theorem q2396 : (Jvm.Cond.privateMethod ({ cls := "DebtDoorsModel", name := "readTest", desc := "(I)V" } : Jvm.MethodName)) ∈ lw_tbl := lw_at lw_m10 112 rfl
theorem q2397 : (Jvm.Cond.instanceMethod ({ cls := "DebtDoorsModel", name := "readTest", desc := "(I)V" } : Jvm.MethodName)) ∈ lw_all := lw_g (lw_at lw_m10 113 rfl) rfl
theorem q2398 : (Jvm.Cond.code ({ cls := "DebtDoorsModel", name := "readTest", desc := "(I)V" } : Jvm.MethodName) prog_35_method_52_code (2 : Nat) (Option.none : Option Jvm.ClassFile.FieldType)) ∈ lw_all := lw_g (lw_at lw_m10 114 rfl) rfl
theorem q2399 : (Jvm.Cond.methodLink "DebtDoorsModel" (243 : Nat) ({ cls := "DebtDoorsModel", name := "readBoth", desc := "(I)V" } : Jvm.MethodName)) ∈ lw_all := lw_g (lw_at lw_m10 115 rfl) rfl
theorem q2400 : (Jvm.Cond.privateMethod ({ cls := "DebtDoorsModel", name := "readBoth", desc := "(I)V" } : Jvm.MethodName)) ∈ lw_tbl := lw_at lw_m10 116 rfl
theorem q2401 : (Jvm.Cond.instanceMethod ({ cls := "DebtDoorsModel", name := "readBoth", desc := "(I)V" } : Jvm.MethodName)) ∈ lw_all := lw_g (lw_at lw_m10 117 rfl) rfl
theorem q2402 : (Jvm.Cond.code ({ cls := "DebtDoorsModel", name := "readBoth", desc := "(I)V" } : Jvm.MethodName) prog_35_method_53_code (2 : Nat) (Option.none : Option Jvm.ClassFile.FieldType)) ∈ lw_all := lw_g (lw_at lw_m10 118 rfl) rfl
theorem q2403 : (Jvm.Cond.methodLink "DebtDoorsModel" (246 : Nat) ({ cls := "DebtDoorsModel", name := "readPlain", desc := "(I)V" } : Jvm.MethodName)) ∈ lw_all := lw_g (lw_at lw_m10 119 rfl) rfl
theorem q2404 : (Jvm.Cond.privateMethod ({ cls := "DebtDoorsModel", name := "readPlain", desc := "(I)V" } : Jvm.MethodName)) ∈ lw_tbl := lw_at lw_m10 120 rfl
theorem q2405 : (Jvm.Cond.instanceMethod ({ cls := "DebtDoorsModel", name := "readPlain", desc := "(I)V" } : Jvm.MethodName)) ∈ lw_all := lw_g (lw_at lw_m10 121 rfl) rfl
theorem q2406 : (Jvm.Cond.code ({ cls := "DebtDoorsModel", name := "readPlain", desc := "(I)V" } : Jvm.MethodName) prog_35_method_54_code (4 : Nat) (Option.none : Option Jvm.ClassFile.FieldType)) ∈ lw_all := lw_g (lw_at lw_m10 122 rfl) rfl
theorem q2407 : (Jvm.Cond.methodLink "DebtDoorsModel" (240 : Nat) ({ cls := "DebtDoorsModel", name := "readClause", desc := "()V" } : Jvm.MethodName)) ∈ lw_all := lw_g (lw_at lw_m10 123 rfl) rfl
theorem q2408 : (Jvm.Cond.privateMethod ({ cls := "DebtDoorsModel", name := "readClause", desc := "()V" } : Jvm.MethodName)) ∈ lw_tbl := lw_at lw_m10 124 rfl
theorem q2409 : (Jvm.Cond.instanceMethod ({ cls := "DebtDoorsModel", name := "readClause", desc := "()V" } : Jvm.MethodName)) ∈ lw_all := lw_g (lw_at lw_m10 125 rfl) rfl
theorem q2410 : (Jvm.Cond.code ({ cls := "DebtDoorsModel", name := "readClause", desc := "()V" } : Jvm.MethodName) prog_35_method_49_code (1 : Nat) (Option.none : Option Jvm.ClassFile.FieldType)) ∈ lw_all := lw_g (lw_at lw_m10 126 rfl) rfl
theorem q2411 : (Jvm.Cond.methodLink "DebtDoorsModel" (274 : Nat) ({ cls := "DebtDoorsModel", name := "lays", desc := "(I)V" } : Jvm.MethodName)) ∈ lw_all := lw_g (lw_at lw_m10 127 rfl) rfl
theorem q2412 : (Jvm.Cond.privateMethod ({ cls := "DebtDoorsModel", name := "lays", desc := "(I)V" } : Jvm.MethodName)) ∈ lw_tbl := lw_at lw_m10 128 rfl
theorem q2413 : (Jvm.Cond.instanceMethod ({ cls := "DebtDoorsModel", name := "lays", desc := "(I)V" } : Jvm.MethodName)) ∈ lw_all := lw_g (lw_at lw_m10 129 rfl) rfl
theorem q2414 : (Jvm.Cond.code ({ cls := "DebtDoorsModel", name := "lays", desc := "(I)V" } : Jvm.MethodName) prog_35_method_59_code (3 : Nat) (Option.none : Option Jvm.ClassFile.FieldType)) ∈ lw_all := lw_g (lw_at lw_m10 130 rfl) rfl
theorem q2416 : (Jvm.Cond.instanceMethod ({ cls := "DebtDoorsModel", name := "fault", desc := "()I" } : Jvm.MethodName)) ∈ lw_all := lw_g (lw_at lw_m10 132 rfl) rfl
theorem q2417 : (Jvm.Cond.selects "DebtDoorsModel" ({ cls := "DebtDoorsModel", name := "fault", desc := "()I" } : Jvm.MethodName) ({ cls := "DebtDoorsModel", name := "fault", desc := "()I" } : Jvm.MethodName)) ∈ lw_all := lw_g (lw_at lw_m10 133 rfl) rfl
theorem q2418 : (Jvm.Cond.code ({ cls := "DebtDoorsModel", name := "fault", desc := "()I" } : Jvm.MethodName) prog_35_method_61_code (1 : Nat) (Option.some Jvm.ClassFile.FieldType.int)) ∈ lw_all := lw_g (lw_at lw_m10 134 rfl) rfl
theorem q2420 : (Jvm.Cond.instanceMethod ({ cls := "DebtDoorsModel", name := "force", desc := "(I)I" } : Jvm.MethodName)) ∈ lw_all := lw_g (lw_at lw_m10 136 rfl) rfl
theorem q2421 : (Jvm.Cond.selects "DebtDoorsModel" ({ cls := "DebtDoorsModel", name := "force", desc := "(I)I" } : Jvm.MethodName) ({ cls := "DebtDoorsModel", name := "force", desc := "(I)I" } : Jvm.MethodName)) ∈ lw_all := lw_g (lw_at lw_m10 137 rfl) rfl
theorem q2422 : (Jvm.Cond.code ({ cls := "DebtDoorsModel", name := "force", desc := "(I)I" } : Jvm.MethodName) prog_35_method_62_code (3 : Nat) (Option.some Jvm.ClassFile.FieldType.int)) ∈ lw_all := lw_g (lw_at lw_m10 138 rfl) rfl
theorem q2424 : (Jvm.Cond.instanceMethod ({ cls := "DebtDoorsModel", name := "deep", desc := "(II)I" } : Jvm.MethodName)) ∈ lw_all := lw_g (lw_at lw_m10 140 rfl) rfl
theorem q2425 : (Jvm.Cond.selects "DebtDoorsModel" ({ cls := "DebtDoorsModel", name := "deep", desc := "(II)I" } : Jvm.MethodName) ({ cls := "DebtDoorsModel", name := "deep", desc := "(II)I" } : Jvm.MethodName)) ∈ lw_all := lw_g (lw_at lw_m10 141 rfl) rfl
theorem q2426 : (Jvm.Cond.code ({ cls := "DebtDoorsModel", name := "deep", desc := "(II)I" } : Jvm.MethodName) prog_35_method_81_code (3 : Nat) (Option.some Jvm.ClassFile.FieldType.int)) ∈ lw_all := lw_g (lw_at lw_m10 142 rfl) rfl
theorem q2427 : (Jvm.Cond.methodLink "DebtDoorsModel" (345 : Nat) ({ cls := "DebtDoorsModel", name := "areTwo", desc := "(II)Z" } : Jvm.MethodName)) ∈ lw_all := lw_g (lw_at lw_m10 143 rfl) rfl
theorem q2428 : (Jvm.Cond.privateMethod ({ cls := "DebtDoorsModel", name := "areTwo", desc := "(II)Z" } : Jvm.MethodName)) ∈ lw_tbl := lw_at lw_m10 144 rfl
theorem q2429 : (Jvm.Cond.instanceMethod ({ cls := "DebtDoorsModel", name := "areTwo", desc := "(II)Z" } : Jvm.MethodName)) ∈ lw_all := lw_g (lw_at lw_m10 145 rfl) rfl
theorem q2430 : (Jvm.Cond.code ({ cls := "DebtDoorsModel", name := "areTwo", desc := "(II)Z" } : Jvm.MethodName) prog_35_method_80_code (3 : Nat) (Option.some Jvm.ClassFile.FieldType.boolean)) ∈ lw_all := lw_g (lw_at lw_m10 146 rfl) rfl
theorem q2431 : (Jvm.Cond.methodLink "DebtDoorsModel" (348 : Nat) ({ cls := "DebtDoorsModel", name := "deepNow", desc := "(II)I" } : Jvm.MethodName)) ∈ lw_all := lw_g (lw_at lw_m10 147 rfl) rfl
theorem q2432 : (Jvm.Cond.privateMethod ({ cls := "DebtDoorsModel", name := "deepNow", desc := "(II)I" } : Jvm.MethodName)) ∈ lw_tbl := lw_at lw_m10 148 rfl
theorem q2433 : (Jvm.Cond.instanceMethod ({ cls := "DebtDoorsModel", name := "deepNow", desc := "(II)I" } : Jvm.MethodName)) ∈ lw_all := lw_g (lw_at lw_m10 149 rfl) rfl
theorem q2434 : (Jvm.Cond.code ({ cls := "DebtDoorsModel", name := "deepNow", desc := "(II)I" } : Jvm.MethodName) prog_35_method_76_code (3 : Nat) (Option.some Jvm.ClassFile.FieldType.int)) ∈ lw_all := lw_g (lw_at lw_m10 150 rfl) rfl
theorem q2435 : (Jvm.Cond.methodLink "DebtDoorsModel" (338 : Nat) ({ cls := "DebtDoorsModel", name := "deepBy", desc := "(IIII)I" } : Jvm.MethodName)) ∈ lw_all := lw_g (lw_at lw_m10 151 rfl) rfl
theorem q2436 : (Jvm.Cond.privateMethod ({ cls := "DebtDoorsModel", name := "deepBy", desc := "(IIII)I" } : Jvm.MethodName)) ∈ lw_tbl := lw_at lw_m10 152 rfl
theorem q2437 : (Jvm.Cond.instanceMethod ({ cls := "DebtDoorsModel", name := "deepBy", desc := "(IIII)I" } : Jvm.MethodName)) ∈ lw_all := lw_g (lw_at lw_m10 153 rfl) rfl
theorem q2438 : (Jvm.Cond.code ({ cls := "DebtDoorsModel", name := "deepBy", desc := "(IIII)I" } : Jvm.MethodName) prog_35_method_75_code (6 : Nat) (Option.some Jvm.ClassFile.FieldType.int)) ∈ lw_all := lw_g (lw_at lw_m10 154 rfl) rfl
theorem q2439 : (Jvm.Cond.methodLink "DebtDoorsModel" (335 : Nat) ({ cls := "DebtDoorsModel", name := "lesser", desc := "(II)I" } : Jvm.MethodName)) ∈ lw_all := lw_g (lw_at lw_m10 155 rfl) rfl
theorem q2440 : (Jvm.Cond.static ({ cls := "DebtDoorsModel", name := "lesser", desc := "(II)I" } : Jvm.MethodName)) ∈ lw_all := lw_g (lw_at lw_m10 156 rfl) rfl
theorem q2441 : (Jvm.Cond.code ({ cls := "DebtDoorsModel", name := "lesser", desc := "(II)I" } : Jvm.MethodName) prog_35_method_7_code (2 : Nat) (Option.some Jvm.ClassFile.FieldType.int)) ∈ lw_all := lw_g (lw_at lw_m10 157 rfl) rfl
theorem q2443 : (Jvm.Cond.instanceMethod ({ cls := "DebtDoorsModel", name := "doors", desc := "(I)I" } : Jvm.MethodName)) ∈ lw_all := lw_g (lw_at lw_m10 159 rfl) rfl
theorem q2444 : (Jvm.Cond.selects "DebtDoorsModel" ({ cls := "DebtDoorsModel", name := "doors", desc := "(I)I" } : Jvm.MethodName) ({ cls := "DebtDoorsModel", name := "doors", desc := "(I)I" } : Jvm.MethodName)) ∈ lw_all := lw_g (lw_at lw_m10 160 rfl) rfl
theorem q2445 : (Jvm.Cond.code ({ cls := "DebtDoorsModel", name := "doors", desc := "(I)I" } : Jvm.MethodName) prog_35_method_83_code (2 : Nat) (Option.some Jvm.ClassFile.FieldType.int)) ∈ lw_all := lw_g (lw_at lw_m10 161 rfl) rfl
theorem q2446 : (Jvm.Cond.methodLink "DebtDoorsModel" (351 : Nat) ({ cls := "DebtDoorsModel", name := "doorsOf", desc := "(I)I" } : Jvm.MethodName)) ∈ lw_all := lw_g (lw_at lw_m10 162 rfl) rfl
theorem q2447 : (Jvm.Cond.privateMethod ({ cls := "DebtDoorsModel", name := "doorsOf", desc := "(I)I" } : Jvm.MethodName)) ∈ lw_tbl := lw_at lw_m10 163 rfl
theorem q2448 : (Jvm.Cond.instanceMethod ({ cls := "DebtDoorsModel", name := "doorsOf", desc := "(I)I" } : Jvm.MethodName)) ∈ lw_all := lw_g (lw_at lw_m10 164 rfl) rfl
theorem q2449 : (Jvm.Cond.code ({ cls := "DebtDoorsModel", name := "doorsOf", desc := "(I)I" } : Jvm.MethodName) prog_35_method_82_code (4 : Nat) (Option.some Jvm.ClassFile.FieldType.int)) ∈ lw_all := lw_g (lw_at lw_m10 165 rfl) rfl
theorem q2451 : (Jvm.Cond.instanceMethod ({ cls := "DebtDoorsModel", name := "undo", desc := "()I" } : Jvm.MethodName)) ∈ lw_all := lw_g (lw_at lw_m10 167 rfl) rfl
theorem q2452 : (Jvm.Cond.selects "DebtDoorsModel" ({ cls := "DebtDoorsModel", name := "undo", desc := "()I" } : Jvm.MethodName) ({ cls := "DebtDoorsModel", name := "undo", desc := "()I" } : Jvm.MethodName)) ∈ lw_all := lw_g (lw_at lw_m10 168 rfl) rfl
theorem q2453 : (Jvm.Cond.code ({ cls := "DebtDoorsModel", name := "undo", desc := "()I" } : Jvm.MethodName) prog_35_method_85_code (3 : Nat) (Option.some Jvm.ClassFile.FieldType.int)) ∈ lw_all := lw_g (lw_at lw_m10 169 rfl) rfl
theorem q2455 : (Jvm.Cond.instanceMethod ({ cls := "DebtDoorsModel", name := "lend", desc := "(III)I" } : Jvm.MethodName)) ∈ lw_all := lw_g (lw_at lw_m10 171 rfl) rfl
theorem q2456 : (Jvm.Cond.selects "DebtDoorsModel" ({ cls := "DebtDoorsModel", name := "lend", desc := "(III)I" } : Jvm.MethodName) ({ cls := "DebtDoorsModel", name := "lend", desc := "(III)I" } : Jvm.MethodName)) ∈ lw_all := lw_g (lw_at lw_m10 172 rfl) rfl
theorem q2457 : (Jvm.Cond.code ({ cls := "DebtDoorsModel", name := "lend", desc := "(III)I" } : Jvm.MethodName) prog_35_method_96_code (4 : Nat) (Option.some Jvm.ClassFile.FieldType.int)) ∈ lw_all := lw_g (lw_at lw_m10 173 rfl) rfl
theorem q2458 : (Jvm.Cond.methodLink "DebtDoorsModel" (378 : Nat) ({ cls := "DebtDoorsModel", name := "lendsKept", desc := "(III)I" } : Jvm.MethodName)) ∈ lw_all := lw_g (lw_at lw_m10 174 rfl) rfl
theorem q2459 : (Jvm.Cond.privateMethod ({ cls := "DebtDoorsModel", name := "lendsKept", desc := "(III)I" } : Jvm.MethodName)) ∈ lw_tbl := lw_at lw_m10 175 rfl
theorem q2460 : (Jvm.Cond.instanceMethod ({ cls := "DebtDoorsModel", name := "lendsKept", desc := "(III)I" } : Jvm.MethodName)) ∈ lw_all := lw_g (lw_at lw_m10 176 rfl) rfl
theorem q2461 : (Jvm.Cond.code ({ cls := "DebtDoorsModel", name := "lendsKept", desc := "(III)I" } : Jvm.MethodName) prog_35_method_88_code (4 : Nat) (Option.some Jvm.ClassFile.FieldType.int)) ∈ lw_all := lw_g (lw_at lw_m10 177 rfl) rfl
theorem q2462 : (Jvm.Cond.methodLink "DebtDoorsModel" (354 : Nat) ({ cls := "DebtDoorsModel", name := "canLend", desc := "(III)Z" } : Jvm.MethodName)) ∈ lw_all := lw_g (lw_at lw_m10 178 rfl) rfl
theorem q2463 : (Jvm.Cond.privateMethod ({ cls := "DebtDoorsModel", name := "canLend", desc := "(III)Z" } : Jvm.MethodName)) ∈ lw_tbl := lw_at lw_m10 179 rfl
theorem q2464 : (Jvm.Cond.instanceMethod ({ cls := "DebtDoorsModel", name := "canLend", desc := "(III)Z" } : Jvm.MethodName)) ∈ lw_all := lw_g (lw_at lw_m10 180 rfl) rfl
theorem q2465 : (Jvm.Cond.code ({ cls := "DebtDoorsModel", name := "canLend", desc := "(III)Z" } : Jvm.MethodName) prog_35_method_86_code (4 : Nat) (Option.some Jvm.ClassFile.FieldType.boolean)) ∈ lw_all := lw_g (lw_at lw_m10 181 rfl) rfl
theorem q2466 : (Jvm.Cond.methodLink "DebtDoorsModel" (357 : Nat) ({ cls := "DebtDoorsModel", name := "keeps", desc := "(I)V" } : Jvm.MethodName)) ∈ lw_all := lw_g (lw_at lw_m10 182 rfl) rfl
theorem q2467 : (Jvm.Cond.privateMethod ({ cls := "DebtDoorsModel", name := "keeps", desc := "(I)V" } : Jvm.MethodName)) ∈ lw_tbl := lw_at lw_m10 183 rfl
theorem q2468 : (Jvm.Cond.instanceMethod ({ cls := "DebtDoorsModel", name := "keeps", desc := "(I)V" } : Jvm.MethodName)) ∈ lw_all := lw_g (lw_at lw_m10 184 rfl) rfl
theorem q2469 : (Jvm.Cond.code ({ cls := "DebtDoorsModel", name := "keeps", desc := "(I)V" } : Jvm.MethodName) prog_35_method_84_code (4 : Nat) (Option.none : Option Jvm.ClassFile.FieldType)) ∈ lw_all := lw_g (lw_at lw_m10 185 rfl) rfl
theorem q2470 : (Jvm.Cond.methodLink "DebtDoorsModel" (360 : Nat) ({ cls := "DebtDoorsModel", name := "lends", desc := "(III)V" } : Jvm.MethodName)) ∈ lw_all := lw_g (lw_at lw_m10 186 rfl) rfl
theorem q2471 : (Jvm.Cond.privateMethod ({ cls := "DebtDoorsModel", name := "lends", desc := "(III)V" } : Jvm.MethodName)) ∈ lw_tbl := lw_at lw_m10 187 rfl
theorem q2472 : (Jvm.Cond.instanceMethod ({ cls := "DebtDoorsModel", name := "lends", desc := "(III)V" } : Jvm.MethodName)) ∈ lw_all := lw_g (lw_at lw_m10 188 rfl) rfl
theorem q2473 : (Jvm.Cond.code ({ cls := "DebtDoorsModel", name := "lends", desc := "(III)V" } : Jvm.MethodName) prog_35_method_87_code (4 : Nat) (Option.none : Option Jvm.ClassFile.FieldType)) ∈ lw_all := lw_g (lw_at lw_m10 189 rfl) rfl
theorem q2474 : (Jvm.Cond.methodLink "DebtDoorsModel" (381 : Nat) ({ cls := "DebtDoorsModel", name := "goodOr", desc := "(I)I" } : Jvm.MethodName)) ∈ lw_all := lw_g (lw_at lw_m10 190 rfl) rfl
theorem q2475 : (Jvm.Cond.privateMethod ({ cls := "DebtDoorsModel", name := "goodOr", desc := "(I)I" } : Jvm.MethodName)) ∈ lw_tbl := lw_at lw_m10 191 rfl
theorem q2476 : (Jvm.Cond.instanceMethod ({ cls := "DebtDoorsModel", name := "goodOr", desc := "(I)I" } : Jvm.MethodName)) ∈ lw_all := lw_g (lw_at lw_m10 192 rfl) rfl
theorem q2477 : (Jvm.Cond.code ({ cls := "DebtDoorsModel", name := "goodOr", desc := "(I)I" } : Jvm.MethodName) prog_35_method_95_code (2 : Nat) (Option.some Jvm.ClassFile.FieldType.int)) ∈ lw_all := lw_g (lw_at lw_m10 193 rfl) rfl
theorem q2479 : (Jvm.Cond.instanceMethod ({ cls := "DebtDoorsModel", name := "repay", desc := "(III)I" } : Jvm.MethodName)) ∈ lw_all := lw_g (lw_at lw_m10 195 rfl) rfl
theorem q2480 : (Jvm.Cond.selects "DebtDoorsModel" ({ cls := "DebtDoorsModel", name := "repay", desc := "(III)I" } : Jvm.MethodName) ({ cls := "DebtDoorsModel", name := "repay", desc := "(III)I" } : Jvm.MethodName)) ∈ lw_all := lw_g (lw_at lw_m10 196 rfl) rfl
theorem q2481 : (Jvm.Cond.code ({ cls := "DebtDoorsModel", name := "repay", desc := "(III)I" } : Jvm.MethodName) prog_35_method_97_code (4 : Nat) (Option.some Jvm.ClassFile.FieldType.int)) ∈ lw_all := lw_g (lw_at lw_m10 197 rfl) rfl
theorem q2482 : (Jvm.Cond.methodLink "DebtDoorsModel" (384 : Nat) ({ cls := "DebtDoorsModel", name := "repaysKept", desc := "(III)I" } : Jvm.MethodName)) ∈ lw_all := lw_g (lw_at lw_m10 198 rfl) rfl
theorem q2483 : (Jvm.Cond.privateMethod ({ cls := "DebtDoorsModel", name := "repaysKept", desc := "(III)I" } : Jvm.MethodName)) ∈ lw_tbl := lw_at lw_m10 199 rfl
theorem q2484 : (Jvm.Cond.instanceMethod ({ cls := "DebtDoorsModel", name := "repaysKept", desc := "(III)I" } : Jvm.MethodName)) ∈ lw_all := lw_g (lw_at lw_m10 200 rfl) rfl
theorem q2485 : (Jvm.Cond.code ({ cls := "DebtDoorsModel", name := "repaysKept", desc := "(III)I" } : Jvm.MethodName) prog_35_method_92_code (5 : Nat) (Option.some Jvm.ClassFile.FieldType.int)) ∈ lw_all := lw_g (lw_at lw_m10 201 rfl) rfl
theorem q2486 : (Jvm.Cond.methodLink "DebtDoorsModel" (369 : Nat) ({ cls := "DebtDoorsModel", name := "canRepay", desc := "(III)I" } : Jvm.MethodName)) ∈ lw_all := lw_g (lw_at lw_m10 202 rfl) rfl
theorem q2487 : (Jvm.Cond.privateMethod ({ cls := "DebtDoorsModel", name := "canRepay", desc := "(III)I" } : Jvm.MethodName)) ∈ lw_tbl := lw_at lw_m10 203 rfl
theorem q2488 : (Jvm.Cond.instanceMethod ({ cls := "DebtDoorsModel", name := "canRepay", desc := "(III)I" } : Jvm.MethodName)) ∈ lw_all := lw_g (lw_at lw_m10 204 rfl) rfl
theorem q2489 : (Jvm.Cond.code ({ cls := "DebtDoorsModel", name := "canRepay", desc := "(III)I" } : Jvm.MethodName) prog_35_method_89_code (4 : Nat) (Option.some Jvm.ClassFile.FieldType.int)) ∈ lw_all := lw_g (lw_at lw_m10 205 rfl) rfl
theorem q2490 : (Jvm.Cond.methodLink "DebtDoorsModel" (372 : Nat) ({ cls := "DebtDoorsModel", name := "repays", desc := "(III)V" } : Jvm.MethodName)) ∈ lw_all := lw_g (lw_at lw_m10 206 rfl) rfl
theorem q2491 : (Jvm.Cond.privateMethod ({ cls := "DebtDoorsModel", name := "repays", desc := "(III)V" } : Jvm.MethodName)) ∈ lw_tbl := lw_at lw_m10 207 rfl
theorem q2492 : (Jvm.Cond.instanceMethod ({ cls := "DebtDoorsModel", name := "repays", desc := "(III)V" } : Jvm.MethodName)) ∈ lw_all := lw_g (lw_at lw_m10 208 rfl) rfl
theorem q2493 : (Jvm.Cond.code ({ cls := "DebtDoorsModel", name := "repays", desc := "(III)V" } : Jvm.MethodName) prog_35_method_91_code (4 : Nat) (Option.none : Option Jvm.ClassFile.FieldType)) ∈ lw_all := lw_g (lw_at lw_m10 209 rfl) rfl
theorem q2494 : (Jvm.Cond.methodLink "DebtDoorsModel" (366 : Nat) ({ cls := "DebtDoorsModel", name := "lowers", desc := "(III)V" } : Jvm.MethodName)) ∈ lw_all := lw_g (lw_at lw_m10 210 rfl) rfl
theorem q2495 : (Jvm.Cond.privateMethod ({ cls := "DebtDoorsModel", name := "lowers", desc := "(III)V" } : Jvm.MethodName)) ∈ lw_tbl := lw_at lw_m10 211 rfl
theorem q2496 : (Jvm.Cond.instanceMethod ({ cls := "DebtDoorsModel", name := "lowers", desc := "(III)V" } : Jvm.MethodName)) ∈ lw_all := lw_g (lw_at lw_m10 212 rfl) rfl
theorem q2497 : (Jvm.Cond.code ({ cls := "DebtDoorsModel", name := "lowers", desc := "(III)V" } : Jvm.MethodName) prog_35_method_90_code (7 : Nat) (Option.none : Option Jvm.ClassFile.FieldType)) ∈ lw_all := lw_g (lw_at lw_m10 213 rfl) rfl
theorem q2498 : (Jvm.Cond.methodLink "DebtDoorsModel" (363 : Nat) ({ cls := "DebtDoorsModel", name := "removes", desc := "(I)V" } : Jvm.MethodName)) ∈ lw_all := lw_g (lw_at lw_m10 214 rfl) rfl
theorem q2499 : (Jvm.Cond.privateMethod ({ cls := "DebtDoorsModel", name := "removes", desc := "(I)V" } : Jvm.MethodName)) ∈ lw_tbl := lw_at lw_m10 215 rfl
theorem q2500 : (Jvm.Cond.instanceMethod ({ cls := "DebtDoorsModel", name := "removes", desc := "(I)V" } : Jvm.MethodName)) ∈ lw_all := lw_g (lw_at lw_m10 216 rfl) rfl
theorem q2501 : (Jvm.Cond.code ({ cls := "DebtDoorsModel", name := "removes", desc := "(I)V" } : Jvm.MethodName) prog_35_method_27_code (3 : Nat) (Option.none : Option Jvm.ClassFile.FieldType)) ∈ lw_all := lw_g (lw_at lw_m10 217 rfl) rfl
theorem q2503 : (Jvm.Cond.instanceMethod ({ cls := "DebtDoorsModel", name := "await", desc := "()I" } : Jvm.MethodName)) ∈ lw_all := lw_g (lw_at lw_m10 219 rfl) rfl
theorem q2504 : (Jvm.Cond.selects "DebtDoorsModel" ({ cls := "DebtDoorsModel", name := "await", desc := "()I" } : Jvm.MethodName) ({ cls := "DebtDoorsModel", name := "await", desc := "()I" } : Jvm.MethodName)) ∈ lw_all := lw_g (lw_at lw_m10 220 rfl) rfl
theorem q2505 : (Jvm.Cond.code ({ cls := "DebtDoorsModel", name := "await", desc := "()I" } : Jvm.MethodName) prog_35_method_98_code (1 : Nat) (Option.some Jvm.ClassFile.FieldType.int)) ∈ lw_all := lw_g (lw_at lw_m10 221 rfl) rfl
theorem q2506 : (Jvm.Cond.methodLink "DebtDoorsModel" (387 : Nat) ({ cls := "DebtDoorsModel", name := "waitsKept", desc := "()I" } : Jvm.MethodName)) ∈ lw_all := lw_g (lw_at lw_m10 222 rfl) rfl
theorem q2507 : (Jvm.Cond.privateMethod ({ cls := "DebtDoorsModel", name := "waitsKept", desc := "()I" } : Jvm.MethodName)) ∈ lw_tbl := lw_at lw_m10 223 rfl
theorem q2508 : (Jvm.Cond.instanceMethod ({ cls := "DebtDoorsModel", name := "waitsKept", desc := "()I" } : Jvm.MethodName)) ∈ lw_all := lw_g (lw_at lw_m10 224 rfl) rfl
theorem q2509 : (Jvm.Cond.code ({ cls := "DebtDoorsModel", name := "waitsKept", desc := "()I" } : Jvm.MethodName) prog_35_method_94_code (1 : Nat) (Option.some Jvm.ClassFile.FieldType.int)) ∈ lw_all := lw_g (lw_at lw_m10 225 rfl) rfl
theorem q2510 : (Jvm.Cond.methodLink "DebtDoorsModel" (375 : Nat) ({ cls := "DebtDoorsModel", name := "waits", desc := "()I" } : Jvm.MethodName)) ∈ lw_all := lw_g (lw_at lw_m10 226 rfl) rfl
theorem q2511 : (Jvm.Cond.privateMethod ({ cls := "DebtDoorsModel", name := "waits", desc := "()I" } : Jvm.MethodName)) ∈ lw_tbl := lw_at lw_m10 227 rfl
theorem q2512 : (Jvm.Cond.instanceMethod ({ cls := "DebtDoorsModel", name := "waits", desc := "()I" } : Jvm.MethodName)) ∈ lw_all := lw_g (lw_at lw_m10 228 rfl) rfl
theorem q2513 : (Jvm.Cond.code ({ cls := "DebtDoorsModel", name := "waits", desc := "()I" } : Jvm.MethodName) prog_35_method_93_code (5 : Nat) (Option.some Jvm.ClassFile.FieldType.int)) ∈ lw_all := lw_g (lw_at lw_m10 229 rfl) rfl
theorem q2515 : (Jvm.Cond.instanceMethod ({ cls := "DebtDoorsModel", name := "forgive", desc := "(I)I" } : Jvm.MethodName)) ∈ lw_all := lw_g (lw_at lw_m10 231 rfl) rfl
theorem q2516 : (Jvm.Cond.selects "DebtDoorsModel" ({ cls := "DebtDoorsModel", name := "forgive", desc := "(I)I" } : Jvm.MethodName) ({ cls := "DebtDoorsModel", name := "forgive", desc := "(I)I" } : Jvm.MethodName)) ∈ lw_all := lw_g (lw_at lw_m10 232 rfl) rfl
theorem q2517 : (Jvm.Cond.code ({ cls := "DebtDoorsModel", name := "forgive", desc := "(I)I" } : Jvm.MethodName) prog_35_method_99_code (3 : Nat) (Option.some Jvm.ClassFile.FieldType.int)) ∈ lw_all := lw_g (lw_at lw_m10 233 rfl) rfl
theorem q2519 : (Jvm.Cond.instanceMethod ({ cls := "DebtDoorsModel", name := "sell", desc := "(II)I" } : Jvm.MethodName)) ∈ lw_all := lw_g (lw_at lw_m10 235 rfl) rfl
theorem q2520 : (Jvm.Cond.selects "DebtDoorsModel" ({ cls := "DebtDoorsModel", name := "sell", desc := "(II)I" } : Jvm.MethodName) ({ cls := "DebtDoorsModel", name := "sell", desc := "(II)I" } : Jvm.MethodName)) ∈ lw_all := lw_g (lw_at lw_m10 236 rfl) rfl
theorem q2521 : (Jvm.Cond.code ({ cls := "DebtDoorsModel", name := "sell", desc := "(II)I" } : Jvm.MethodName) prog_35_method_100_code (5 : Nat) (Option.some Jvm.ClassFile.FieldType.int)) ∈ lw_all := lw_g (lw_at lw_m10 237 rfl) rfl
theorem q2523 : (Jvm.Cond.instanceMethod ({ cls := "DebtDoorsModel", name := "need", desc := "(III)I" } : Jvm.MethodName)) ∈ lw_all := lw_g (lw_at lw_m10 239 rfl) rfl
theorem q2524 : (Jvm.Cond.selects "DebtDoorsModel" ({ cls := "DebtDoorsModel", name := "need", desc := "(III)I" } : Jvm.MethodName) ({ cls := "DebtDoorsModel", name := "need", desc := "(III)I" } : Jvm.MethodName)) ∈ lw_all := lw_g (lw_at lw_m11 0 rfl) rfl
theorem q2525 : (Jvm.Cond.code ({ cls := "DebtDoorsModel", name := "need", desc := "(III)I" } : Jvm.MethodName) prog_35_method_102_code (4 : Nat) (Option.some Jvm.ClassFile.FieldType.int)) ∈ lw_all := lw_g (lw_at lw_m11 1 rfl) rfl
theorem q2526 : (Jvm.Cond.methodLink "DebtDoorsModel" (390 : Nat) ({ cls := "DebtDoorsModel", name := "needOf", desc := "(III)I" } : Jvm.MethodName)) ∈ lw_all := lw_g (lw_at lw_m11 2 rfl) rfl
theorem q2527 : (Jvm.Cond.privateMethod ({ cls := "DebtDoorsModel", name := "needOf", desc := "(III)I" } : Jvm.MethodName)) ∈ lw_tbl := lw_at lw_m11 3 rfl
theorem q2528 : (Jvm.Cond.instanceMethod ({ cls := "DebtDoorsModel", name := "needOf", desc := "(III)I" } : Jvm.MethodName)) ∈ lw_all := lw_g (lw_at lw_m11 4 rfl) rfl
theorem q2529 : (Jvm.Cond.code ({ cls := "DebtDoorsModel", name := "needOf", desc := "(III)I" } : Jvm.MethodName) prog_35_method_101_code (7 : Nat) (Option.some Jvm.ClassFile.FieldType.int)) ∈ lw_all := lw_g (lw_at lw_m11 5 rfl) rfl
theorem q2531 : (Jvm.Cond.instanceMethod ({ cls := "DebtDoorsModel", name := "visit", desc := "(IIII)I" } : Jvm.MethodName)) ∈ lw_all := lw_g (lw_at lw_m11 7 rfl) rfl
theorem q2532 : (Jvm.Cond.selects "DebtDoorsModel" ({ cls := "DebtDoorsModel", name := "visit", desc := "(IIII)I" } : Jvm.MethodName) ({ cls := "DebtDoorsModel", name := "visit", desc := "(IIII)I" } : Jvm.MethodName)) ∈ lw_all := lw_g (lw_at lw_m11 8 rfl) rfl
theorem q2533 : (Jvm.Cond.code ({ cls := "DebtDoorsModel", name := "visit", desc := "(IIII)I" } : Jvm.MethodName) prog_35_method_103_code (5 : Nat) (Option.some Jvm.ClassFile.FieldType.int)) ∈ lw_all := lw_g (lw_at lw_m11 9 rfl) rfl
theorem q2534 : (Jvm.Cond.methodLink "DebtDoorsModel" (393 : Nat) ({ cls := "DebtDoorsModel", name := "tellsFour", desc := "(IIIIIII)I" } : Jvm.MethodName)) ∈ lw_all := lw_g (lw_at lw_m11 10 rfl) rfl
theorem q2535 : (Jvm.Cond.privateMethod ({ cls := "DebtDoorsModel", name := "tellsFour", desc := "(IIIIIII)I" } : Jvm.MethodName)) ∈ lw_tbl := lw_at lw_m11 11 rfl
theorem q2536 : (Jvm.Cond.instanceMethod ({ cls := "DebtDoorsModel", name := "tellsFour", desc := "(IIIIIII)I" } : Jvm.MethodName)) ∈ lw_all := lw_g (lw_at lw_m11 12 rfl) rfl
theorem q2537 : (Jvm.Cond.code ({ cls := "DebtDoorsModel", name := "tellsFour", desc := "(IIIIIII)I" } : Jvm.MethodName) prog_35_method_104_code (9 : Nat) (Option.some Jvm.ClassFile.FieldType.int)) ∈ lw_all := lw_g (lw_at lw_m11 13 rfl) rfl
theorem q2539 : (Jvm.Cond.instanceMethod ({ cls := "DebtDoorsModel", name := "cancel", desc := "()I" } : Jvm.MethodName)) ∈ lw_all := lw_g (lw_at lw_m11 15 rfl) rfl
theorem q2540 : (Jvm.Cond.selects "DebtDoorsModel" ({ cls := "DebtDoorsModel", name := "cancel", desc := "()I" } : Jvm.MethodName) ({ cls := "DebtDoorsModel", name := "cancel", desc := "()I" } : Jvm.MethodName)) ∈ lw_all := lw_g (lw_at lw_m11 16 rfl) rfl
theorem q2541 : (Jvm.Cond.code ({ cls := "DebtDoorsModel", name := "cancel", desc := "()I" } : Jvm.MethodName) prog_35_method_106_code (1 : Nat) (Option.some Jvm.ClassFile.FieldType.int)) ∈ lw_all := lw_g (lw_at lw_m11 17 rfl) rfl
theorem q2542 : (Jvm.Cond.methodLink "DebtDoorsModel" (397 : Nat) ({ cls := "DebtDoorsModel", name := "goAll", desc := "(I)I" } : Jvm.MethodName)) ∈ lw_all := lw_g (lw_at lw_m11 18 rfl) rfl
theorem q2543 : (Jvm.Cond.privateMethod ({ cls := "DebtDoorsModel", name := "goAll", desc := "(I)I" } : Jvm.MethodName)) ∈ lw_tbl := lw_at lw_m11 19 rfl
theorem q2544 : (Jvm.Cond.instanceMethod ({ cls := "DebtDoorsModel", name := "goAll", desc := "(I)I" } : Jvm.MethodName)) ∈ lw_all := lw_g (lw_at lw_m11 20 rfl) rfl
theorem q2545 : (Jvm.Cond.code ({ cls := "DebtDoorsModel", name := "goAll", desc := "(I)I" } : Jvm.MethodName) prog_35_method_105_code (3 : Nat) (Option.some Jvm.ClassFile.FieldType.int)) ∈ lw_all := lw_g (lw_at lw_m11 21 rfl) rfl
theorem q2547 : (Jvm.Cond.instanceMethod ({ cls := "DebtDoorsModel", name := "lendings", desc := "(I)I" } : Jvm.MethodName)) ∈ lw_all := lw_g (lw_at lw_m11 23 rfl) rfl
theorem q2548 : (Jvm.Cond.selects "DebtDoorsModel" ({ cls := "DebtDoorsModel", name := "lendings", desc := "(I)I" } : Jvm.MethodName) ({ cls := "DebtDoorsModel", name := "lendings", desc := "(I)I" } : Jvm.MethodName)) ∈ lw_all := lw_g (lw_at lw_m11 24 rfl) rfl
theorem q2549 : (Jvm.Cond.code ({ cls := "DebtDoorsModel", name := "lendings", desc := "(I)I" } : Jvm.MethodName) prog_35_method_111_code (7 : Nat) (Option.some Jvm.ClassFile.FieldType.int)) ∈ lw_all := lw_g (lw_at lw_m11 25 rfl) rfl
theorem q2550 : (Jvm.Cond.methodLink "DebtDoorsModel" (412 : Nat) ({ cls := "DebtDoorsModel", name := "listsLendings", desc := "()Z" } : Jvm.MethodName)) ∈ lw_all := lw_g (lw_at lw_m11 26 rfl) rfl
theorem q2551 : (Jvm.Cond.privateMethod ({ cls := "DebtDoorsModel", name := "listsLendings", desc := "()Z" } : Jvm.MethodName)) ∈ lw_tbl := lw_at lw_m11 27 rfl
theorem q2552 : (Jvm.Cond.instanceMethod ({ cls := "DebtDoorsModel", name := "listsLendings", desc := "()Z" } : Jvm.MethodName)) ∈ lw_all := lw_g (lw_at lw_m11 28 rfl) rfl
theorem q2553 : (Jvm.Cond.code ({ cls := "DebtDoorsModel", name := "listsLendings", desc := "()Z" } : Jvm.MethodName) prog_35_method_108_code (5 : Nat) (Option.some Jvm.ClassFile.FieldType.boolean)) ∈ lw_all := lw_g (lw_at lw_m11 29 rfl) rfl
theorem q2554 : (Jvm.Cond.methodLink "DebtDoorsModel" (403 : Nat) ({ cls := "DebtDoorsModel", name := "isAlike", desc := "(II)Z" } : Jvm.MethodName)) ∈ lw_all := lw_g (lw_at lw_m11 30 rfl) rfl
theorem q2555 : (Jvm.Cond.privateMethod ({ cls := "DebtDoorsModel", name := "isAlike", desc := "(II)Z" } : Jvm.MethodName)) ∈ lw_tbl := lw_at lw_m11 31 rfl
theorem q2556 : (Jvm.Cond.instanceMethod ({ cls := "DebtDoorsModel", name := "isAlike", desc := "(II)Z" } : Jvm.MethodName)) ∈ lw_all := lw_g (lw_at lw_m11 32 rfl) rfl
theorem q2557 : (Jvm.Cond.code ({ cls := "DebtDoorsModel", name := "isAlike", desc := "(II)Z" } : Jvm.MethodName) prog_35_method_107_code (3 : Nat) (Option.some Jvm.ClassFile.FieldType.boolean)) ∈ lw_all := lw_g (lw_at lw_m11 33 rfl) rfl
theorem q2558 : (Jvm.Cond.methodLink "DebtDoorsModel" (415 : Nat) ({ cls := "DebtDoorsModel", name := "mayLend", desc := "(II)Z" } : Jvm.MethodName)) ∈ lw_all := lw_g (lw_at lw_m11 34 rfl) rfl
theorem q2559 : (Jvm.Cond.privateMethod ({ cls := "DebtDoorsModel", name := "mayLend", desc := "(II)Z" } : Jvm.MethodName)) ∈ lw_tbl := lw_at lw_m11 35 rfl
theorem q2560 : (Jvm.Cond.instanceMethod ({ cls := "DebtDoorsModel", name := "mayLend", desc := "(II)Z" } : Jvm.MethodName)) ∈ lw_all := lw_g (lw_at lw_m11 36 rfl) rfl
theorem q2561 : (Jvm.Cond.code ({ cls := "DebtDoorsModel", name := "mayLend", desc := "(II)Z" } : Jvm.MethodName) prog_35_method_110_code (3 : Nat) (Option.some Jvm.ClassFile.FieldType.boolean)) ∈ lw_all := lw_g (lw_at lw_m11 37 rfl) rfl
theorem q2562 : (Jvm.Cond.methodLink "DebtDoorsModel" (406 : Nat) ({ cls := "DebtDoorsModel", name := "isIn", desc := "(II)Z" } : Jvm.MethodName)) ∈ lw_all := lw_g (lw_at lw_m11 38 rfl) rfl
theorem q2563 : (Jvm.Cond.static ({ cls := "DebtDoorsModel", name := "isIn", desc := "(II)Z" } : Jvm.MethodName)) ∈ lw_all := lw_g (lw_at lw_m11 39 rfl) rfl
theorem q2564 : (Jvm.Cond.code ({ cls := "DebtDoorsModel", name := "isIn", desc := "(II)Z" } : Jvm.MethodName) prog_35_method_5_code (2 : Nat) (Option.some Jvm.ClassFile.FieldType.boolean)) ∈ lw_all := lw_g (lw_at lw_m11 40 rfl) rfl
theorem q2565 : (Jvm.Cond.methodLink "DebtDoorsModel" (409 : Nat) ({ cls := "DebtDoorsModel", name := "purseBehind", desc := "(II)I" } : Jvm.MethodName)) ∈ lw_all := lw_g (lw_at lw_m11 41 rfl) rfl
theorem q2566 : (Jvm.Cond.privateMethod ({ cls := "DebtDoorsModel", name := "purseBehind", desc := "(II)I" } : Jvm.MethodName)) ∈ lw_tbl := lw_at lw_m11 42 rfl
theorem q2567 : (Jvm.Cond.instanceMethod ({ cls := "DebtDoorsModel", name := "purseBehind", desc := "(II)I" } : Jvm.MethodName)) ∈ lw_all := lw_g (lw_at lw_m11 43 rfl) rfl
theorem q2568 : (Jvm.Cond.code ({ cls := "DebtDoorsModel", name := "purseBehind", desc := "(II)I" } : Jvm.MethodName) prog_35_method_109_code (5 : Nat) (Option.some Jvm.ClassFile.FieldType.int)) ∈ lw_all := lw_g (lw_at lw_m11 44 rfl) rfl
theorem q2570 : (Jvm.Cond.instanceMethod ({ cls := "DebtDoorsModel", name := "plan", desc := "(I)I" } : Jvm.MethodName)) ∈ lw_all := lw_g (lw_at lw_m11 46 rfl) rfl
theorem q2571 : (Jvm.Cond.selects "DebtDoorsModel" ({ cls := "DebtDoorsModel", name := "plan", desc := "(I)I" } : Jvm.MethodName) ({ cls := "DebtDoorsModel", name := "plan", desc := "(I)I" } : Jvm.MethodName)) ∈ lw_all := lw_g (lw_at lw_m11 47 rfl) rfl
theorem q2572 : (Jvm.Cond.code ({ cls := "DebtDoorsModel", name := "plan", desc := "(I)I" } : Jvm.MethodName) prog_35_method_113_code (2 : Nat) (Option.some Jvm.ClassFile.FieldType.int)) ∈ lw_all := lw_g (lw_at lw_m11 48 rfl) rfl
theorem q2573 : (Jvm.Cond.methodLink "DebtDoorsModel" (424 : Nat) ({ cls := "DebtDoorsModel", name := "triesVisits", desc := "(II)V" } : Jvm.MethodName)) ∈ lw_all := lw_g (lw_at lw_m11 49 rfl) rfl
theorem q2574 : (Jvm.Cond.privateMethod ({ cls := "DebtDoorsModel", name := "triesVisits", desc := "(II)V" } : Jvm.MethodName)) ∈ lw_tbl := lw_at lw_m11 50 rfl
theorem q2575 : (Jvm.Cond.instanceMethod ({ cls := "DebtDoorsModel", name := "triesVisits", desc := "(II)V" } : Jvm.MethodName)) ∈ lw_all := lw_g (lw_at lw_m11 51 rfl) rfl
theorem q2576 : (Jvm.Cond.code ({ cls := "DebtDoorsModel", name := "triesVisits", desc := "(II)V" } : Jvm.MethodName) prog_35_method_112_code (7 : Nat) (Option.none : Option Jvm.ClassFile.FieldType)) ∈ lw_all := lw_g (lw_at lw_m11 52 rfl) rfl
theorem q2577 : (Jvm.Cond.methodLink "DebtDoorsModel" (421 : Nat) ({ cls := "DebtDoorsModel", name := "laysAside", desc := "(I)V" } : Jvm.MethodName)) ∈ lw_all := lw_g (lw_at lw_m11 53 rfl) rfl
theorem q2578 : (Jvm.Cond.privateMethod ({ cls := "DebtDoorsModel", name := "laysAside", desc := "(I)V" } : Jvm.MethodName)) ∈ lw_tbl := lw_at lw_m11 54 rfl
theorem q2579 : (Jvm.Cond.instanceMethod ({ cls := "DebtDoorsModel", name := "laysAside", desc := "(I)V" } : Jvm.MethodName)) ∈ lw_all := lw_g (lw_at lw_m11 55 rfl) rfl
theorem q2580 : (Jvm.Cond.code ({ cls := "DebtDoorsModel", name := "laysAside", desc := "(I)V" } : Jvm.MethodName) prog_35_method_9_code (3 : Nat) (Option.none : Option Jvm.ClassFile.FieldType)) ∈ lw_all := lw_g (lw_at lw_m11 56 rfl) rfl
theorem q2581 : (Jvm.Cond.methodLink "DebtDoorsModel" (427 : Nat) ({ cls := "DebtDoorsModel", name := "takesBack", desc := "(I)V" } : Jvm.MethodName)) ∈ lw_all := lw_g (lw_at lw_m11 57 rfl) rfl
theorem q2582 : (Jvm.Cond.privateMethod ({ cls := "DebtDoorsModel", name := "takesBack", desc := "(I)V" } : Jvm.MethodName)) ∈ lw_tbl := lw_at lw_m11 58 rfl
theorem q2583 : (Jvm.Cond.instanceMethod ({ cls := "DebtDoorsModel", name := "takesBack", desc := "(I)V" } : Jvm.MethodName)) ∈ lw_all := lw_g (lw_at lw_m11 59 rfl) rfl
theorem q2584 : (Jvm.Cond.code ({ cls := "DebtDoorsModel", name := "takesBack", desc := "(I)V" } : Jvm.MethodName) prog_35_method_10_code (3 : Nat) (Option.none : Option Jvm.ClassFile.FieldType)) ∈ lw_all := lw_g (lw_at lw_m11 60 rfl) rfl
theorem q2586 : (Jvm.Cond.instanceMethod ({ cls := "DebtDoorsModel", name := "thief", desc := "(IIII)I" } : Jvm.MethodName)) ∈ lw_all := lw_g (lw_at lw_m11 62 rfl) rfl
theorem q2587 : (Jvm.Cond.selects "DebtDoorsModel" ({ cls := "DebtDoorsModel", name := "thief", desc := "(IIII)I" } : Jvm.MethodName) ({ cls := "DebtDoorsModel", name := "thief", desc := "(IIII)I" } : Jvm.MethodName)) ∈ lw_all := lw_g (lw_at lw_m11 63 rfl) rfl
theorem q2588 : (Jvm.Cond.code ({ cls := "DebtDoorsModel", name := "thief", desc := "(IIII)I" } : Jvm.MethodName) prog_35_method_115_code (5 : Nat) (Option.some Jvm.ClassFile.FieldType.int)) ∈ lw_all := lw_g (lw_at lw_m11 64 rfl) rfl
theorem q2589 : (Jvm.Cond.methodLink "DebtDoorsModel" (439 : Nat) ({ cls := "DebtDoorsModel", name := "findsThief", desc := "(III)V" } : Jvm.MethodName)) ∈ lw_all := lw_g (lw_at lw_m11 65 rfl) rfl
theorem q2590 : (Jvm.Cond.privateMethod ({ cls := "DebtDoorsModel", name := "findsThief", desc := "(III)V" } : Jvm.MethodName)) ∈ lw_tbl := lw_at lw_m11 66 rfl
theorem q2591 : (Jvm.Cond.instanceMethod ({ cls := "DebtDoorsModel", name := "findsThief", desc := "(III)V" } : Jvm.MethodName)) ∈ lw_all := lw_g (lw_at lw_m11 67 rfl) rfl
theorem q2592 : (Jvm.Cond.code ({ cls := "DebtDoorsModel", name := "findsThief", desc := "(III)V" } : Jvm.MethodName) prog_35_method_114_code (11 : Nat) (Option.none : Option Jvm.ClassFile.FieldType)) ∈ lw_all := lw_g (lw_at lw_m11 68 rfl) rfl
theorem q2593 : (Jvm.Cond.methodLink "DebtDoorsModel" (436 : Nat) ({ cls := "DebtDoorsModel", name := "ones", desc := "(I)I" } : Jvm.MethodName)) ∈ lw_all := lw_g (lw_at lw_m11 69 rfl) rfl
theorem q2594 : (Jvm.Cond.static ({ cls := "DebtDoorsModel", name := "ones", desc := "(I)I" } : Jvm.MethodName)) ∈ lw_all := lw_g (lw_at lw_m11 70 rfl) rfl
theorem q2595 : (Jvm.Cond.code ({ cls := "DebtDoorsModel", name := "ones", desc := "(I)I" } : Jvm.MethodName) prog_35_method_6_code (3 : Nat) (Option.some Jvm.ClassFile.FieldType.int)) ∈ lw_all := lw_g (lw_at lw_m11 71 rfl) rfl
theorem q2597 : (Jvm.Cond.instanceMethod ({ cls := "DebtDoorsModel", name := "shut", desc := "(III)I" } : Jvm.MethodName)) ∈ lw_all := lw_g (lw_at lw_m11 73 rfl) rfl
theorem q2598 : (Jvm.Cond.selects "DebtDoorsModel" ({ cls := "DebtDoorsModel", name := "shut", desc := "(III)I" } : Jvm.MethodName) ({ cls := "DebtDoorsModel", name := "shut", desc := "(III)I" } : Jvm.MethodName)) ∈ lw_all := lw_g (lw_at lw_m11 74 rfl) rfl
theorem q2599 : (Jvm.Cond.code ({ cls := "DebtDoorsModel", name := "shut", desc := "(III)I" } : Jvm.MethodName) prog_35_method_117_code (4 : Nat) (Option.some Jvm.ClassFile.FieldType.int)) ∈ lw_all := lw_g (lw_at lw_m11 75 rfl) rfl
theorem q2600 : (Jvm.Cond.methodLink "DebtDoorsModel" (442 : Nat) ({ cls := "DebtDoorsModel", name := "shutBy", desc := "(III)I" } : Jvm.MethodName)) ∈ lw_all := lw_g (lw_at lw_m11 76 rfl) rfl
theorem q2601 : (Jvm.Cond.privateMethod ({ cls := "DebtDoorsModel", name := "shutBy", desc := "(III)I" } : Jvm.MethodName)) ∈ lw_tbl := lw_at lw_m11 77 rfl
theorem q2602 : (Jvm.Cond.instanceMethod ({ cls := "DebtDoorsModel", name := "shutBy", desc := "(III)I" } : Jvm.MethodName)) ∈ lw_all := lw_g (lw_at lw_m11 78 rfl) rfl
theorem q2603 : (Jvm.Cond.code ({ cls := "DebtDoorsModel", name := "shutBy", desc := "(III)I" } : Jvm.MethodName) prog_35_method_116_code (7 : Nat) (Option.some Jvm.ClassFile.FieldType.int)) ∈ lw_all := lw_g (lw_at lw_m11 79 rfl) rfl
theorem q2605 : (Jvm.Cond.instanceMethod ({ cls := "DebtDoorsModel", name := "ban", desc := "(I)I" } : Jvm.MethodName)) ∈ lw_all := lw_g (lw_at lw_m11 81 rfl) rfl
theorem q2606 : (Jvm.Cond.selects "DebtDoorsModel" ({ cls := "DebtDoorsModel", name := "ban", desc := "(I)I" } : Jvm.MethodName) ({ cls := "DebtDoorsModel", name := "ban", desc := "(I)I" } : Jvm.MethodName)) ∈ lw_all := lw_g (lw_at lw_m11 82 rfl) rfl
theorem q2607 : (Jvm.Cond.code ({ cls := "DebtDoorsModel", name := "ban", desc := "(I)I" } : Jvm.MethodName) prog_35_method_118_code (5 : Nat) (Option.some Jvm.ClassFile.FieldType.int)) ∈ lw_all := lw_g (lw_at lw_m11 83 rfl) rfl
theorem q2609 : (Jvm.Cond.instanceMethod ({ cls := "DebtDoorsModel", name := "party", desc := "(I)I" } : Jvm.MethodName)) ∈ lw_all := lw_g (lw_at lw_m11 85 rfl) rfl
theorem q2610 : (Jvm.Cond.selects "DebtDoorsModel" ({ cls := "DebtDoorsModel", name := "party", desc := "(I)I" } : Jvm.MethodName) ({ cls := "DebtDoorsModel", name := "party", desc := "(I)I" } : Jvm.MethodName)) ∈ lw_all := lw_g (lw_at lw_m11 86 rfl) rfl
theorem q2611 : (Jvm.Cond.code ({ cls := "DebtDoorsModel", name := "party", desc := "(I)I" } : Jvm.MethodName) prog_35_method_119_code (8 : Nat) (Option.some Jvm.ClassFile.FieldType.int)) ∈ lw_all := lw_g (lw_at lw_m11 87 rfl) rfl
theorem q2612 : (Jvm.Cond.constant "DebtDoorsModel" (445 : Nat) (1000000000 : Int32)) ∈ lw_all := lw_g (lw_at lw_m11 88 rfl) rfl
theorem q2614 : (Jvm.Cond.instanceMethod ({ cls := "DebtDoorsModel", name := "ring", desc := "(I)I" } : Jvm.MethodName)) ∈ lw_all := lw_g (lw_at lw_m11 90 rfl) rfl
theorem q2615 : (Jvm.Cond.selects "DebtDoorsModel" ({ cls := "DebtDoorsModel", name := "ring", desc := "(I)I" } : Jvm.MethodName) ({ cls := "DebtDoorsModel", name := "ring", desc := "(I)I" } : Jvm.MethodName)) ∈ lw_all := lw_g (lw_at lw_m11 91 rfl) rfl
theorem q2616 : (Jvm.Cond.code ({ cls := "DebtDoorsModel", name := "ring", desc := "(I)I" } : Jvm.MethodName) prog_35_method_122_code (2 : Nat) (Option.some Jvm.ClassFile.FieldType.int)) ∈ lw_all := lw_g (lw_at lw_m11 92 rfl) rfl
theorem q2617 : (Jvm.Cond.methodLink "DebtDoorsModel" (455 : Nat) ({ cls := "DebtDoorsModel", name := "findsRing", desc := "()V" } : Jvm.MethodName)) ∈ lw_all := lw_g (lw_at lw_m11 93 rfl) rfl
theorem q2618 : (Jvm.Cond.privateMethod ({ cls := "DebtDoorsModel", name := "findsRing", desc := "()V" } : Jvm.MethodName)) ∈ lw_tbl := lw_at lw_m11 94 rfl
theorem q2619 : (Jvm.Cond.instanceMethod ({ cls := "DebtDoorsModel", name := "findsRing", desc := "()V" } : Jvm.MethodName)) ∈ lw_all := lw_g (lw_at lw_m11 95 rfl) rfl
theorem q2620 : (Jvm.Cond.code ({ cls := "DebtDoorsModel", name := "findsRing", desc := "()V" } : Jvm.MethodName) prog_35_method_121_code (2 : Nat) (Option.none : Option Jvm.ClassFile.FieldType)) ∈ lw_all := lw_g (lw_at lw_m11 96 rfl) rfl
theorem q2621 : (Jvm.Cond.methodLink "DebtDoorsModel" (452 : Nat) ({ cls := "DebtDoorsModel", name := "triesRing", desc := "(II)V" } : Jvm.MethodName)) ∈ lw_all := lw_g (lw_at lw_m11 97 rfl) rfl
theorem q2622 : (Jvm.Cond.privateMethod ({ cls := "DebtDoorsModel", name := "triesRing", desc := "(II)V" } : Jvm.MethodName)) ∈ lw_tbl := lw_at lw_m11 98 rfl
theorem q2623 : (Jvm.Cond.instanceMethod ({ cls := "DebtDoorsModel", name := "triesRing", desc := "(II)V" } : Jvm.MethodName)) ∈ lw_all := lw_g (lw_at lw_m11 99 rfl) rfl
theorem q2624 : (Jvm.Cond.code ({ cls := "DebtDoorsModel", name := "triesRing", desc := "(II)V" } : Jvm.MethodName) prog_35_method_120_code (5 : Nat) (Option.none : Option Jvm.ClassFile.FieldType)) ∈ lw_all := lw_g (lw_at lw_m11 100 rfl) rfl
theorem q2626 : (Jvm.Cond.instanceMethod ({ cls := "DebtDoorsModel", name := "clear", desc := "()I" } : Jvm.MethodName)) ∈ lw_all := lw_g (lw_at lw_m11 102 rfl) rfl
theorem q2627 : (Jvm.Cond.selects "DebtDoorsModel" ({ cls := "DebtDoorsModel", name := "clear", desc := "()I" } : Jvm.MethodName) ({ cls := "DebtDoorsModel", name := "clear", desc := "()I" } : Jvm.MethodName)) ∈ lw_all := lw_g (lw_at lw_m11 103 rfl) rfl
theorem q2628 : (Jvm.Cond.code ({ cls := "DebtDoorsModel", name := "clear", desc := "()I" } : Jvm.MethodName) prog_35_method_125_code (2 : Nat) (Option.some Jvm.ClassFile.FieldType.int)) ∈ lw_all := lw_g (lw_at lw_m11 104 rfl) rfl
theorem q2629 : (Jvm.Cond.methodLink "DebtDoorsModel" (458 : Nat) ({ cls := "DebtDoorsModel", name := "ringLeast", desc := "()I" } : Jvm.MethodName)) ∈ lw_all := lw_g (lw_at lw_m11 105 rfl) rfl
theorem q2630 : (Jvm.Cond.privateMethod ({ cls := "DebtDoorsModel", name := "ringLeast", desc := "()I" } : Jvm.MethodName)) ∈ lw_tbl := lw_at lw_m11 106 rfl
theorem q2631 : (Jvm.Cond.instanceMethod ({ cls := "DebtDoorsModel", name := "ringLeast", desc := "()I" } : Jvm.MethodName)) ∈ lw_all := lw_g (lw_at lw_m11 107 rfl) rfl
theorem q2632 : (Jvm.Cond.code ({ cls := "DebtDoorsModel", name := "ringLeast", desc := "()I" } : Jvm.MethodName) prog_35_method_123_code (3 : Nat) (Option.some Jvm.ClassFile.FieldType.int)) ∈ lw_all := lw_g (lw_at lw_m11 108 rfl) rfl
theorem q2633 : (Jvm.Cond.methodLink "DebtDoorsModel" (461 : Nat) ({ cls := "DebtDoorsModel", name := "clears", desc := "(I)V" } : Jvm.MethodName)) ∈ lw_all := lw_g (lw_at lw_m11 109 rfl) rfl
theorem q2634 : (Jvm.Cond.privateMethod ({ cls := "DebtDoorsModel", name := "clears", desc := "(I)V" } : Jvm.MethodName)) ∈ lw_tbl := lw_at lw_m11 110 rfl
theorem q2635 : (Jvm.Cond.instanceMethod ({ cls := "DebtDoorsModel", name := "clears", desc := "(I)V" } : Jvm.MethodName)) ∈ lw_all := lw_g (lw_at lw_m11 111 rfl) rfl
theorem q2636 : (Jvm.Cond.code ({ cls := "DebtDoorsModel", name := "clears", desc := "(I)V" } : Jvm.MethodName) prog_35_method_124_code (3 : Nat) (Option.none : Option Jvm.ClassFile.FieldType)) ∈ lw_all := lw_g (lw_at lw_m11 112 rfl) rfl
theorem q2638 : (Jvm.Cond.instanceMethod ({ cls := "DebtDoorsModel", name := "cleared", desc := "(I)I" } : Jvm.MethodName)) ∈ lw_all := lw_g (lw_at lw_m11 114 rfl) rfl
theorem q2639 : (Jvm.Cond.selects "DebtDoorsModel" ({ cls := "DebtDoorsModel", name := "cleared", desc := "(I)I" } : Jvm.MethodName) ({ cls := "DebtDoorsModel", name := "cleared", desc := "(I)I" } : Jvm.MethodName)) ∈ lw_all := lw_g (lw_at lw_m11 115 rfl) rfl
theorem q2640 : (Jvm.Cond.code ({ cls := "DebtDoorsModel", name := "cleared", desc := "(I)I" } : Jvm.MethodName) prog_35_method_126_code (6 : Nat) (Option.some Jvm.ClassFile.FieldType.int)) ∈ lw_all := lw_g (lw_at lw_m11 116 rfl) rfl
theorem q2642 : (Jvm.Cond.instanceMethod ({ cls := "DebtDoorsModel", name := "balance", desc := "(I)I" } : Jvm.MethodName)) ∈ lw_all := lw_g (lw_at lw_m11 118 rfl) rfl
theorem q2643 : (Jvm.Cond.selects "DebtDoorsModel" ({ cls := "DebtDoorsModel", name := "balance", desc := "(I)I" } : Jvm.MethodName) ({ cls := "DebtDoorsModel", name := "balance", desc := "(I)I" } : Jvm.MethodName)) ∈ lw_all := lw_g (lw_at lw_m11 119 rfl) rfl
theorem q2644 : (Jvm.Cond.code ({ cls := "DebtDoorsModel", name := "balance", desc := "(I)I" } : Jvm.MethodName) prog_35_method_128_code (2 : Nat) (Option.some Jvm.ClassFile.FieldType.int)) ∈ lw_all := lw_g (lw_at lw_m11 120 rfl) rfl
theorem q2645 : (Jvm.Cond.methodLink "DebtDoorsModel" (464 : Nat) ({ cls := "DebtDoorsModel", name := "balanceOf", desc := "(I)I" } : Jvm.MethodName)) ∈ lw_all := lw_g (lw_at lw_m11 121 rfl) rfl
theorem q2646 : (Jvm.Cond.privateMethod ({ cls := "DebtDoorsModel", name := "balanceOf", desc := "(I)I" } : Jvm.MethodName)) ∈ lw_tbl := lw_at lw_m11 122 rfl
theorem q2647 : (Jvm.Cond.instanceMethod ({ cls := "DebtDoorsModel", name := "balanceOf", desc := "(I)I" } : Jvm.MethodName)) ∈ lw_all := lw_g (lw_at lw_m11 123 rfl) rfl
theorem q2648 : (Jvm.Cond.code ({ cls := "DebtDoorsModel", name := "balanceOf", desc := "(I)I" } : Jvm.MethodName) prog_35_method_127_code (4 : Nat) (Option.some Jvm.ClassFile.FieldType.int)) ∈ lw_all := lw_g (lw_at lw_m11 124 rfl) rfl
theorem q2649 : (Jvm.Cond.constant "DebtDoorsModel" (467 : Nat) (-1000000 : Int32)) ∈ lw_all := lw_g (lw_at lw_m11 125 rfl) rfl
theorem q2651 : (Jvm.Cond.instanceMethod ({ cls := "DebtDoorsModel", name := "payments", desc := "()I" } : Jvm.MethodName)) ∈ lw_all := lw_g (lw_at lw_m11 127 rfl) rfl
theorem q2652 : (Jvm.Cond.selects "DebtDoorsModel" ({ cls := "DebtDoorsModel", name := "payments", desc := "()I" } : Jvm.MethodName) ({ cls := "DebtDoorsModel", name := "payments", desc := "()I" } : Jvm.MethodName)) ∈ lw_all := lw_g (lw_at lw_m11 128 rfl) rfl
theorem q2653 : (Jvm.Cond.code ({ cls := "DebtDoorsModel", name := "payments", desc := "()I" } : Jvm.MethodName) prog_35_method_129_code (7 : Nat) (Option.some Jvm.ClassFile.FieldType.int)) ∈ lw_all := lw_g (lw_at lw_m11 129 rfl) rfl
theorem q2655 : (Jvm.Cond.instanceMethod ({ cls := "DebtDoorsModel", name := "scuff", desc := "(IIII)I" } : Jvm.MethodName)) ∈ lw_all := lw_g (lw_at lw_m11 131 rfl) rfl
theorem q2656 : (Jvm.Cond.selects "DebtDoorsModel" ({ cls := "DebtDoorsModel", name := "scuff", desc := "(IIII)I" } : Jvm.MethodName) ({ cls := "DebtDoorsModel", name := "scuff", desc := "(IIII)I" } : Jvm.MethodName)) ∈ lw_all := lw_g (lw_at lw_m11 132 rfl) rfl
theorem q2657 : (Jvm.Cond.code ({ cls := "DebtDoorsModel", name := "scuff", desc := "(IIII)I" } : Jvm.MethodName) prog_35_method_130_code (5 : Nat) (Option.some Jvm.ClassFile.FieldType.int)) ∈ lw_all := lw_g (lw_at lw_m11 133 rfl) rfl
theorem q2659 : (Jvm.Cond.instanceMethod ({ cls := "DebtDoorsModel", name := "sweep", desc := "()I" } : Jvm.MethodName)) ∈ lw_all := lw_g (lw_at lw_m11 135 rfl) rfl
theorem q2660 : (Jvm.Cond.selects "DebtDoorsModel" ({ cls := "DebtDoorsModel", name := "sweep", desc := "()I" } : Jvm.MethodName) ({ cls := "DebtDoorsModel", name := "sweep", desc := "()I" } : Jvm.MethodName)) ∈ lw_all := lw_g (lw_at lw_m11 136 rfl) rfl
theorem q2661 : (Jvm.Cond.code ({ cls := "DebtDoorsModel", name := "sweep", desc := "()I" } : Jvm.MethodName) prog_35_method_131_code (1 : Nat) (Option.some Jvm.ClassFile.FieldType.int)) ∈ lw_all := lw_g (lw_at lw_m11 137 rfl) rfl
theorem q2663 : (Jvm.Cond.instanceMethod ({ cls := "DebtDoorsModel", name := "secret", desc := "(I)I" } : Jvm.MethodName)) ∈ lw_all := lw_g (lw_at lw_m11 139 rfl) rfl
theorem q2664 : (Jvm.Cond.selects "DebtDoorsModel" ({ cls := "DebtDoorsModel", name := "secret", desc := "(I)I" } : Jvm.MethodName) ({ cls := "DebtDoorsModel", name := "secret", desc := "(I)I" } : Jvm.MethodName)) ∈ lw_all := lw_g (lw_at lw_m11 140 rfl) rfl
theorem q2665 : (Jvm.Cond.code ({ cls := "DebtDoorsModel", name := "secret", desc := "(I)I" } : Jvm.MethodName) prog_35_method_133_code (6 : Nat) (Option.some Jvm.ClassFile.FieldType.int)) ∈ lw_all := lw_g (lw_at lw_m11 141 rfl) rfl
theorem q2666 : (Jvm.Cond.methodLink "DebtDoorsModel" (468 : Nat) ({ cls := "DebtDoorsModel", name := "areSo", desc := "(III)Z" } : Jvm.MethodName)) ∈ lw_all := lw_g (lw_at lw_m11 142 rfl) rfl
theorem q2667 : (Jvm.Cond.privateMethod ({ cls := "DebtDoorsModel", name := "areSo", desc := "(III)Z" } : Jvm.MethodName)) ∈ lw_tbl := lw_at lw_m11 143 rfl
theorem q2668 : (Jvm.Cond.instanceMethod ({ cls := "DebtDoorsModel", name := "areSo", desc := "(III)Z" } : Jvm.MethodName)) ∈ lw_all := lw_g (lw_at lw_m11 144 rfl) rfl
theorem q2669 : (Jvm.Cond.code ({ cls := "DebtDoorsModel", name := "areSo", desc := "(III)Z" } : Jvm.MethodName) prog_35_method_132_code (9 : Nat) (Option.some Jvm.ClassFile.FieldType.boolean)) ∈ lw_all := lw_g (lw_at lw_m11 145 rfl) rfl
theorem q2671 : (Jvm.Cond.instanceMethod ({ cls := "DebtDoorsModel", name := "denied", desc := "()I" } : Jvm.MethodName)) ∈ lw_all := lw_g (lw_at lw_m11 147 rfl) rfl
theorem q2672 : (Jvm.Cond.selects "DebtDoorsModel" ({ cls := "DebtDoorsModel", name := "denied", desc := "()I" } : Jvm.MethodName) ({ cls := "DebtDoorsModel", name := "denied", desc := "()I" } : Jvm.MethodName)) ∈ lw_all := lw_g (lw_at lw_m11 148 rfl) rfl
theorem q2673 : (Jvm.Cond.code ({ cls := "DebtDoorsModel", name := "denied", desc := "()I" } : Jvm.MethodName) prog_35_method_134_code (3 : Nat) (Option.some Jvm.ClassFile.FieldType.int)) ∈ lw_all := lw_g (lw_at lw_m11 149 rfl) rfl
theorem q2675 : (Jvm.Cond.instanceMethod ({ cls := "DebtDoorsModel", name := "stopped", desc := "()I" } : Jvm.MethodName)) ∈ lw_all := lw_g (lw_at lw_m11 151 rfl) rfl
theorem q2676 : (Jvm.Cond.selects "DebtDoorsModel" ({ cls := "DebtDoorsModel", name := "stopped", desc := "()I" } : Jvm.MethodName) ({ cls := "DebtDoorsModel", name := "stopped", desc := "()I" } : Jvm.MethodName)) ∈ lw_all := lw_g (lw_at lw_m11 152 rfl) rfl
theorem q2677 : (Jvm.Cond.code ({ cls := "DebtDoorsModel", name := "stopped", desc := "()I" } : Jvm.MethodName) prog_35_method_135_code (1 : Nat) (Option.some Jvm.ClassFile.FieldType.int)) ∈ lw_all := lw_g (lw_at lw_m11 153 rfl) rfl
theorem q2679 : (Jvm.Cond.instanceMethod ({ cls := "DebtDoorsModel", name := "orders", desc := "()I" } : Jvm.MethodName)) ∈ lw_all := lw_g (lw_at lw_m11 155 rfl) rfl
theorem q2680 : (Jvm.Cond.selects "DebtDoorsModel" ({ cls := "DebtDoorsModel", name := "orders", desc := "()I" } : Jvm.MethodName) ({ cls := "DebtDoorsModel", name := "orders", desc := "()I" } : Jvm.MethodName)) ∈ lw_all := lw_g (lw_at lw_m11 156 rfl) rfl
theorem q2681 : (Jvm.Cond.code ({ cls := "DebtDoorsModel", name := "orders", desc := "()I" } : Jvm.MethodName) prog_35_method_136_code (6 : Nat) (Option.some Jvm.ClassFile.FieldType.int)) ∈ lw_all := lw_g (lw_at lw_m11 157 rfl) rfl
theorem q2682 : (Jvm.Cond.methodLink "DebtDoorsModel" (480 : Nat) ({ cls := "DebtDoorsModel", name := "runs", desc := "(I)I" } : Jvm.MethodName)) ∈ lw_all := lw_g (lw_at lw_m11 158 rfl) rfl
theorem q2683 : (Jvm.Cond.privateMethod ({ cls := "DebtDoorsModel", name := "runs", desc := "(I)I" } : Jvm.MethodName)) ∈ lw_tbl := lw_at lw_m11 159 rfl
theorem q2684 : (Jvm.Cond.instanceMethod ({ cls := "DebtDoorsModel", name := "runs", desc := "(I)I" } : Jvm.MethodName)) ∈ lw_all := lw_g (lw_at lw_m11 160 rfl) rfl
theorem q2685 : (Jvm.Cond.code ({ cls := "DebtDoorsModel", name := "runs", desc := "(I)I" } : Jvm.MethodName) prog_35_method_139_code (6 : Nat) (Option.some Jvm.ClassFile.FieldType.int)) ∈ lw_all := lw_g (lw_at lw_m11 161 rfl) rfl
theorem q2686 : (Jvm.Cond.methodLink "DebtDoorsModel" (497 : Nat) ({ cls := "DebtDoorsModel", name := "goesAlong", desc := "(IZ)V" } : Jvm.MethodName)) ∈ lw_all := lw_g (lw_at lw_m11 162 rfl) rfl
theorem q2687 : (Jvm.Cond.privateMethod ({ cls := "DebtDoorsModel", name := "goesAlong", desc := "(IZ)V" } : Jvm.MethodName)) ∈ lw_tbl := lw_at lw_m11 163 rfl
theorem q2688 : (Jvm.Cond.instanceMethod ({ cls := "DebtDoorsModel", name := "goesAlong", desc := "(IZ)V" } : Jvm.MethodName)) ∈ lw_all := lw_g (lw_at lw_m11 164 rfl) rfl
theorem q2689 : (Jvm.Cond.code ({ cls := "DebtDoorsModel", name := "goesAlong", desc := "(IZ)V" } : Jvm.MethodName) prog_35_method_137_code (5 : Nat) (Option.none : Option Jvm.ClassFile.FieldType)) ∈ lw_all := lw_g (lw_at lw_m11 165 rfl) rfl
theorem q2690 : (Jvm.Cond.methodLink "DebtDoorsModel" (501 : Nat) ({ cls := "DebtDoorsModel", name := "small", desc := "(J)I" } : Jvm.MethodName)) ∈ lw_all := lw_g (lw_at lw_m11 166 rfl) rfl
theorem q2691 : (Jvm.Cond.static ({ cls := "DebtDoorsModel", name := "small", desc := "(J)I" } : Jvm.MethodName)) ∈ lw_all := lw_g (lw_at lw_m11 167 rfl) rfl
theorem q2692 : (Jvm.Cond.code ({ cls := "DebtDoorsModel", name := "small", desc := "(J)I" } : Jvm.MethodName) prog_35_method_138_code (2 : Nat) (Option.some Jvm.ClassFile.FieldType.int)) ∈ lw_all := lw_g (lw_at lw_m11 168 rfl) rfl
theorem q2693 : (Jvm.Cond.constantLong "DebtDoorsModel" (495 : Nat) (1000000 : Int64)) ∈ lw_all := lw_g (lw_at lw_m11 169 rfl) rfl
theorem q2695 : (Jvm.Cond.instanceMethod ({ cls := "DebtDoorsModel", name := "month", desc := "(II)I" } : Jvm.MethodName)) ∈ lw_all := lw_g (lw_at lw_m11 171 rfl) rfl
theorem q2696 : (Jvm.Cond.selects "DebtDoorsModel" ({ cls := "DebtDoorsModel", name := "month", desc := "(II)I" } : Jvm.MethodName) ({ cls := "DebtDoorsModel", name := "month", desc := "(II)I" } : Jvm.MethodName)) ∈ lw_all := lw_g (lw_at lw_m11 172 rfl) rfl
theorem q2697 : (Jvm.Cond.code ({ cls := "DebtDoorsModel", name := "month", desc := "(II)I" } : Jvm.MethodName) prog_35_method_141_code (12 : Nat) (Option.some Jvm.ClassFile.FieldType.int)) ∈ lw_all := lw_g (lw_at lw_m11 173 rfl) rfl
theorem q2698 : (Jvm.Cond.methodLink "DebtDoorsModel" (517 : Nat) ({ cls := "DebtDoorsModel", name := "draws", desc := "(I)I" } : Jvm.MethodName)) ∈ lw_all := lw_g (lw_at lw_m11 174 rfl) rfl
theorem q2699 : (Jvm.Cond.privateMethod ({ cls := "DebtDoorsModel", name := "draws", desc := "(I)I" } : Jvm.MethodName)) ∈ lw_tbl := lw_at lw_m11 175 rfl
theorem q2700 : (Jvm.Cond.instanceMethod ({ cls := "DebtDoorsModel", name := "draws", desc := "(I)I" } : Jvm.MethodName)) ∈ lw_all := lw_g (lw_at lw_m11 176 rfl) rfl
theorem q2701 : (Jvm.Cond.code ({ cls := "DebtDoorsModel", name := "draws", desc := "(I)I" } : Jvm.MethodName) prog_35_method_140_code (2 : Nat) (Option.some Jvm.ClassFile.FieldType.int)) ∈ lw_all := lw_g (lw_at lw_m11 177 rfl) rfl
theorem q2702 : (Jvm.Cond.constantLong "DebtDoorsModel" (505 : Nat) (1103 : Int64)) ∈ lw_all := lw_g (lw_at lw_m11 178 rfl) rfl
theorem q2703 : (Jvm.Cond.constantLong "DebtDoorsModel" (510 : Nat) (12345 : Int64)) ∈ lw_all := lw_g (lw_at lw_m11 179 rfl) rfl
theorem q2704 : (Jvm.Cond.constantLong "DebtDoorsModel" (512 : Nat) (1000003 : Int64)) ∈ lw_all := lw_g (lw_at lw_m11 180 rfl) rfl
theorem q2706 : (Jvm.Cond.instanceMethod ({ cls := "DebtDoorsModel", name := "drawn", desc := "(II)I" } : Jvm.MethodName)) ∈ lw_all := lw_g (lw_at lw_m11 182 rfl) rfl
theorem q2707 : (Jvm.Cond.selects "DebtDoorsModel" ({ cls := "DebtDoorsModel", name := "drawn", desc := "(II)I" } : Jvm.MethodName) ({ cls := "DebtDoorsModel", name := "drawn", desc := "(II)I" } : Jvm.MethodName)) ∈ lw_all := lw_g (lw_at lw_m11 183 rfl) rfl
theorem q2708 : (Jvm.Cond.code ({ cls := "DebtDoorsModel", name := "drawn", desc := "(II)I" } : Jvm.MethodName) prog_35_method_142_code (3 : Nat) (Option.some Jvm.ClassFile.FieldType.int)) ∈ lw_all := lw_g (lw_at lw_m11 184 rfl) rfl
theorem q2710 : (Jvm.Cond.instanceMethod ({ cls := "DebtDoorsModel", name := "count", desc := "(I)I" } : Jvm.MethodName)) ∈ lw_all := lw_g (lw_at lw_m11 186 rfl) rfl
theorem q2711 : (Jvm.Cond.selects "DebtDoorsModel" ({ cls := "DebtDoorsModel", name := "count", desc := "(I)I" } : Jvm.MethodName) ({ cls := "DebtDoorsModel", name := "count", desc := "(I)I" } : Jvm.MethodName)) ∈ lw_all := lw_g (lw_at lw_m11 187 rfl) rfl
theorem q2712 : (Jvm.Cond.code ({ cls := "DebtDoorsModel", name := "count", desc := "(I)I" } : Jvm.MethodName) prog_35_method_143_code (2 : Nat) (Option.some Jvm.ClassFile.FieldType.int)) ∈ lw_all := lw_g (lw_at lw_m11 188 rfl) rfl
theorem q2714 : (Jvm.Cond.instanceMethod ({ cls := "DebtDoorsModel", name := "status", desc := "()I" } : Jvm.MethodName)) ∈ lw_all := lw_g (lw_at lw_m11 190 rfl) rfl
theorem q2715 : (Jvm.Cond.selects "DebtDoorsModel" ({ cls := "DebtDoorsModel", name := "status", desc := "()I" } : Jvm.MethodName) ({ cls := "DebtDoorsModel", name := "status", desc := "()I" } : Jvm.MethodName)) ∈ lw_all := lw_g (lw_at lw_m11 191 rfl) rfl
theorem q2716 : (Jvm.Cond.code ({ cls := "DebtDoorsModel", name := "status", desc := "()I" } : Jvm.MethodName) prog_35_method_144_code (1 : Nat) (Option.some Jvm.ClassFile.FieldType.int)) ∈ lw_all := lw_g (lw_at lw_m11 192 rfl) rfl
theorem q2751 : (Jvm.Cond.castable "DebtDoorsModel" "java/lang/Object") ∈ lw_tbl := lw_at lw_m11 227 rfl
theorem in_X5 : ∀ w ∈ wsX50, w ∈ lw_all := lw_in wsX50 [2023, 2025, 2027, 2029, 2031, 2033, 2035, 2037, 2039, 2041, 2043, 2045, 2047, 2049, 2051, 2053, 2055, 2057, 2059, 2061, 2063, 2065, 2067, 2069, 2071, 2073, 2075, 2077, 2079, 2081, 2083, 2085, 2087, 2089, 2091, 2093, 2095, 2097, 2099, 2101, 2103, 2105, 2107, 2109, 2111, 2113, 2115, 2117, 2119, 2121, 2123, 2125, 2127, 2129, 2131, 2133, 2135, 2137, 2139, 2141, 2143] (by decide +kernel) (by decide +kernel)
/-! DebtDoors$Reader -/
set_option maxRecDepth 100000
def RX6 : String := "DebtDoors$Reader"
abbrev cX6_init : ByteArray := prog_21_method_1_code
def yX6_init : MethodName := ⟨RX6, "<init>", "(LDebtDoors;[Ljava/lang/String;)V"⟩
abbrev cX6_readAll : ByteArray := prog_21_method_2_code
def yX6_readAll : MethodName := ⟨RX6, "readAll", "()I"⟩
abbrev cX6_next : ByteArray := prog_21_method_4_code
def yX6_next : MethodName := ⟨RX6, "next", "()V"⟩
abbrev cX6_must : ByteArray := prog_21_method_8_code
def yX6_must : MethodName := ⟨RX6, "must", "(Z)V"⟩
abbrev cX6_which : ByteArray := prog_21_method_6_code
def yX6_which : MethodName := ⟨RX6, "which", "([Ljava/lang/String;)I"⟩
abbrev cX6_isWord : ByteArray := prog_21_method_5_code
def yX6_isWord : MethodName := ⟨RX6, "isWord", "(Ljava/lang/String;)Z"⟩
abbrev cX6_sum : ByteArray := prog_21_method_18_code
def yX6_sum : MethodName := ⟨RX6, "sum", "()LDebtDoors$Sum;"⟩
abbrev cX6_term : ByteArray := prog_21_method_19_code
def yX6_term : MethodName := ⟨RX6, "term", "()LDebtDoors$Sum;"⟩
abbrev cX6_part : ByteArray := prog_21_method_20_code
def yX6_part : MethodName := ⟨RX6, "part", "()LDebtDoors$Sum;"⟩
abbrev cX6_open : ByteArray := prog_21_method_14_code
def yX6_open : MethodName := ⟨RX6, "open", "()V"⟩
abbrev cX6_close : ByteArray := prog_21_method_15_code
def yX6_close : MethodName := ⟨RX6, "close", "(Ljava/lang/String;)V"⟩
abbrev cX6_accept : ByteArray := prog_21_method_7_code
def yX6_accept : MethodName := ⟨RX6, "accept", "(Ljava/lang/String;)Z"⟩
abbrev cX6_leaf : ByteArray := prog_21_method_16_code
def yX6_leaf : MethodName := ⟨RX6, "leaf", "()V"⟩
abbrev cX6_number : ByteArray := prog_21_method_9_code
def yX6_number : MethodName := ⟨RX6, "number", "(I)I"⟩
abbrev cX6_behindWord : ByteArray := prog_21_method_21_code
def yX6_behindWord : MethodName := ⟨RX6, "behindWord", "(I)LDebtDoors$Sum;"⟩
abbrev cX6_test : ByteArray := prog_21_method_10_code
def yX6_test : MethodName := ⟨RX6, "test", "()LDebtDoors$Test;"⟩
abbrev cX6_both : ByteArray := prog_21_method_11_code
def yX6_both : MethodName := ⟨RX6, "both", "()LDebtDoors$Test;"⟩
abbrev cX6_plain : ByteArray := prog_21_method_17_code
def yX6_plain : MethodName := ⟨RX6, "plain", "()LDebtDoors$Test;"⟩
abbrev cX6_add : ByteArray := prog_21_method_12_code
def yX6_add : MethodName := ⟨RX6, "add", "(LDebtDoors$Test;)V"⟩
abbrev cX6_row : ByteArray := prog_21_method_13_code
def yX6_row : MethodName := ⟨RX6, "row", "(ZI)LDebtDoors$Test;"⟩
theorem q144 : (Jvm.Cond.initialized "DebtDoors$Reader") ∈ lw_all := lw_g (lw_at lw_m1 20 rfl) rfl
theorem q356 : (Jvm.Cond.fieldLinkNest "DebtDoors$Reader" (52 : Nat) "DebtDoors" "tape" "[B" "DebtDoors") ∈ lw_tbl := lw_at lw_m1 232 rfl
theorem q359 : (Jvm.Cond.fieldLinkNest "DebtDoors$Reader" (46 : Nat) "DebtDoors" "taped" "I" "DebtDoors") ∈ lw_tbl := lw_at lw_m1 235 rfl
theorem q731 : (Jvm.Cond.instanceMethod ({ cls := "DebtDoors$Reader", name := "<init>", desc := "(LDebtDoors;[Ljava/lang/String;)V" } : Jvm.MethodName)) ∈ lw_all := lw_g (lw_at lw_m3 127 rfl) rfl
theorem q732 : (Jvm.Cond.code ({ cls := "DebtDoors$Reader", name := "<init>", desc := "(LDebtDoors;[Ljava/lang/String;)V" } : Jvm.MethodName) prog_21_method_1_code (3 : Nat) (Option.none : Option Jvm.ClassFile.FieldType)) ∈ lw_all := lw_g (lw_at lw_m3 128 rfl) rfl
theorem q733 : (Jvm.Cond.methodLink "DebtDoors$Reader" (9 : Nat) ({ cls := "java/lang/Object", name := "<init>", desc := "()V" } : Jvm.MethodName)) ∈ lw_all := lw_g (lw_at lw_m3 129 rfl) rfl
theorem q734 : (Jvm.Cond.classLink "DebtDoors$Reader" (15 : Nat) "DebtDoors$Test") ∈ lw_all := lw_g (lw_at lw_m3 130 rfl) rfl
theorem q744 : (Jvm.Cond.fieldLink "DebtDoors$Reader" (42 : Nat) "DebtDoors$Reader" "from" "I") ∈ lw_all := lw_g (lw_at lw_m3 140 rfl) rfl
theorem q747 : (Jvm.Cond.fieldLink "DebtDoors$Reader" (49 : Nat) "DebtDoors$Reader" "to" "I") ∈ lw_all := lw_g (lw_at lw_m3 143 rfl) rfl
theorem q750 : (Jvm.Cond.fieldLink "DebtDoors$Reader" (116 : Nat) "DebtDoors$Reader" "leaves" "I") ∈ lw_all := lw_g (lw_at lw_m3 146 rfl) rfl
theorem q751 : (Jvm.Cond.fieldLink "DebtDoors$Reader" (113 : Nat) "DebtDoors$Reader" "deep" "I") ∈ lw_all := lw_g (lw_at lw_m3 147 rfl) rfl
theorem q752 : (Jvm.Cond.fieldLink "DebtDoors$Reader" (80 : Nat) "DebtDoors$Reader" "piled" "I") ∈ lw_all := lw_g (lw_at lw_m3 148 rfl) rfl
theorem q753 : (Jvm.Cond.fieldLink "DebtDoors$Reader" (17 : Nat) "DebtDoors$Reader" "pile" "[LDebtDoors$Test;") ∈ lw_all := lw_g (lw_at lw_m3 149 rfl) rfl
theorem q754 : (Jvm.Cond.fieldLink "DebtDoors$Reader" (21 : Nat) "DebtDoors$Reader" "words" "[Ljava/lang/String;") ∈ lw_all := lw_g (lw_at lw_m3 150 rfl) rfl
theorem q755 : (Jvm.Cond.fieldLink "DebtDoors$Reader" (3 : Nat) "DebtDoors$Reader" "this$0" "LDebtDoors;") ∈ lw_all := lw_g (lw_at lw_m3 151 rfl) rfl
theorem q763 : (Jvm.Cond.soleField "DebtDoors$Reader" "from") ∈ lw_all := lw_g (lw_at lw_m3 159 rfl) rfl
theorem q765 : (Jvm.Cond.soleField "DebtDoors$Reader" "to") ∈ lw_all := lw_g (lw_at lw_m3 161 rfl) rfl
theorem q767 : (Jvm.Cond.soleField "DebtDoors$Reader" "leaves") ∈ lw_all := lw_g (lw_at lw_m3 163 rfl) rfl
theorem q769 : (Jvm.Cond.soleField "DebtDoors$Reader" "deep") ∈ lw_all := lw_g (lw_at lw_m3 165 rfl) rfl
theorem q771 : (Jvm.Cond.soleField "DebtDoors$Reader" "piled") ∈ lw_all := lw_g (lw_at lw_m3 167 rfl) rfl
theorem q773 : (Jvm.Cond.soleField "DebtDoors$Reader" "pile") ∈ lw_all := lw_g (lw_at lw_m3 169 rfl) rfl
theorem q775 : (Jvm.Cond.soleField "DebtDoors$Reader" "words") ∈ lw_all := lw_g (lw_at lw_m3 171 rfl) rfl
theorem q777 : (Jvm.Cond.soleField "DebtDoors$Reader" "this$0") ∈ lw_all := lw_g (lw_at lw_m3 173 rfl) rfl
theorem q785 : (Jvm.Cond.declares ({ cls := "DebtDoors$Reader", name := "readAll", desc := "()I" } : Jvm.MethodName)) ∈ lw_tbl := lw_at lw_m3 181 rfl
theorem q787 : (Jvm.Cond.instanceMethod ({ cls := "DebtDoors$Reader", name := "readAll", desc := "()I" } : Jvm.MethodName)) ∈ lw_all := lw_g (lw_at lw_m3 183 rfl) rfl
theorem q788 : (Jvm.Cond.code ({ cls := "DebtDoors$Reader", name := "readAll", desc := "()I" } : Jvm.MethodName) prog_21_method_2_code (2 : Nat) (Option.some Jvm.ClassFile.FieldType.int)) ∈ lw_all := lw_g (lw_at lw_m3 184 rfl) rfl
theorem q789 : (Jvm.Cond.methodLink "DebtDoors$Reader" (25 : Nat) ({ cls := "DebtDoors$Reader", name := "next", desc := "()V" } : Jvm.MethodName)) ∈ lw_all := lw_g (lw_at lw_m3 185 rfl) rfl
theorem q790 : (Jvm.Cond.instanceMethod ({ cls := "DebtDoors$Reader", name := "next", desc := "()V" } : Jvm.MethodName)) ∈ lw_all := lw_g (lw_at lw_m3 186 rfl) rfl
theorem q791 : (Jvm.Cond.sameMethod "DebtDoors$Reader" "DebtDoors$Reader" "next" "()V") ∈ lw_all := lw_g (lw_at lw_m3 187 rfl) rfl
theorem q794 : (Jvm.Cond.code ({ cls := "DebtDoors$Reader", name := "next", desc := "()V" } : Jvm.MethodName) prog_21_method_4_code (3 : Nat) (Option.none : Option Jvm.ClassFile.FieldType)) ∈ lw_all := lw_g (lw_at lw_m3 190 rfl) rfl
theorem q795 : (Jvm.Cond.methodLinkNest "DebtDoors$Reader" (56 : Nat) ({ cls := "DebtDoors", name := "isLetter", desc := "(I)Z" } : Jvm.MethodName) "DebtDoors") ∈ lw_tbl := lw_at lw_m3 191 rfl
theorem q798 : (Jvm.Cond.methodLinkNest "DebtDoors$Reader" (60 : Nat) ({ cls := "DebtDoors", name := "isDigit", desc := "(I)Z" } : Jvm.MethodName) "DebtDoors") ∈ lw_tbl := lw_at lw_m3 194 rfl
theorem q801 : (Jvm.Cond.methodLink "DebtDoors$Reader" (28 : Nat) ({ cls := "DebtDoors$Reader", name := "must", desc := "(Z)V" } : Jvm.MethodName)) ∈ lw_all := lw_g (lw_at lw_m3 197 rfl) rfl
theorem q802 : (Jvm.Cond.instanceMethod ({ cls := "DebtDoors$Reader", name := "must", desc := "(Z)V" } : Jvm.MethodName)) ∈ lw_all := lw_g (lw_at lw_m3 198 rfl) rfl
theorem q803 : (Jvm.Cond.sameMethod "DebtDoors$Reader" "DebtDoors$Reader" "must" "(Z)V") ∈ lw_all := lw_g (lw_at lw_m3 199 rfl) rfl
theorem q806 : (Jvm.Cond.code ({ cls := "DebtDoors$Reader", name := "must", desc := "(Z)V" } : Jvm.MethodName) prog_21_method_8_code (2 : Nat) (Option.none : Option Jvm.ClassFile.FieldType)) ∈ lw_all := lw_g (lw_at lw_m3 202 rfl) rfl
theorem q807 : (Jvm.Cond.classLink "DebtDoors$Reader" (76 : Nat) "DebtDoors$Wrong") ∈ lw_all := lw_g (lw_at lw_m3 203 rfl) rfl
theorem q816 : (Jvm.Cond.methodLink "DebtDoors$Reader" (78 : Nat) ({ cls := "DebtDoors$Wrong", name := "<init>", desc := "(I)V" } : Jvm.MethodName)) ∈ lw_all := lw_g (lw_at lw_m3 212 rfl) rfl
theorem q831 : (Jvm.Cond.methodLink "DebtDoors$Reader" (32 : Nat) ({ cls := "DebtDoors$Reader", name := "read", desc := "(I)V" } : Jvm.MethodName)) ∈ lw_all := lw_g (lw_at lw_m3 227 rfl) rfl
theorem q832 : (Jvm.Cond.declares ({ cls := "DebtDoors$Reader", name := "read", desc := "(I)V" } : Jvm.MethodName)) ∈ lw_tbl := lw_at lw_m3 228 rfl
theorem q833 : (Jvm.Cond.sameMethod "DebtDoors$Reader" "DebtDoors$Reader" "read" "(I)V") ∈ lw_all := lw_g (lw_at lw_m3 229 rfl) rfl
theorem q839 : (Jvm.Cond.declares ({ cls := "DebtDoors$Reader", name := "which", desc := "([Ljava/lang/String;)I" } : Jvm.MethodName)) ∈ lw_tbl := lw_at lw_m3 235 rfl
theorem q841 : (Jvm.Cond.instanceMethod ({ cls := "DebtDoors$Reader", name := "which", desc := "([Ljava/lang/String;)I" } : Jvm.MethodName)) ∈ lw_all := lw_g (lw_at lw_m3 237 rfl) rfl
theorem q842 : (Jvm.Cond.code ({ cls := "DebtDoors$Reader", name := "which", desc := "([Ljava/lang/String;)I" } : Jvm.MethodName) prog_21_method_6_code (3 : Nat) (Option.some Jvm.ClassFile.FieldType.int)) ∈ lw_all := lw_g (lw_at lw_m3 238 rfl) rfl
theorem q843 : (Jvm.Cond.methodLink "DebtDoors$Reader" (73 : Nat) ({ cls := "DebtDoors$Reader", name := "isWord", desc := "(Ljava/lang/String;)Z" } : Jvm.MethodName)) ∈ lw_all := lw_g (lw_at lw_m3 239 rfl) rfl
theorem q844 : (Jvm.Cond.instanceMethod ({ cls := "DebtDoors$Reader", name := "isWord", desc := "(Ljava/lang/String;)Z" } : Jvm.MethodName)) ∈ lw_all := lw_g (lw_at lw_m4 0 rfl) rfl
theorem q845 : (Jvm.Cond.sameMethod "DebtDoors$Reader" "DebtDoors$Reader" "isWord" "(Ljava/lang/String;)Z") ∈ lw_all := lw_g (lw_at lw_m4 1 rfl) rfl
theorem q848 : (Jvm.Cond.code ({ cls := "DebtDoors$Reader", name := "isWord", desc := "(Ljava/lang/String;)Z" } : Jvm.MethodName) prog_21_method_5_code (3 : Nat) (Option.some Jvm.ClassFile.FieldType.boolean)) ∈ lw_all := lw_g (lw_at lw_m4 4 rfl) rfl
theorem q849 : (Jvm.Cond.methodLink "DebtDoors$Reader" (63 : Nat) ({ cls := "java/lang/String", name := "length", desc := "()I" } : Jvm.MethodName)) ∈ lw_all := lw_g (lw_at lw_m4 5 rfl) rfl
theorem q859 : (Jvm.Cond.methodLink "DebtDoors$Reader" (69 : Nat) ({ cls := "java/lang/String", name := "charAt", desc := "(I)C" } : Jvm.MethodName)) ∈ lw_all := lw_g (lw_at lw_m4 15 rfl) rfl
theorem q897 : (Jvm.Cond.declares ({ cls := "DebtDoors$Reader", name := "must", desc := "(Z)V" } : Jvm.MethodName)) ∈ lw_tbl := lw_at lw_m4 53 rfl
theorem q901 : (Jvm.Cond.declares ({ cls := "DebtDoors$Reader", name := "next", desc := "()V" } : Jvm.MethodName)) ∈ lw_tbl := lw_at lw_m4 57 rfl
theorem q905 : (Jvm.Cond.declares ({ cls := "DebtDoors$Reader", name := "sum", desc := "()LDebtDoors$Sum;" } : Jvm.MethodName)) ∈ lw_tbl := lw_at lw_m4 61 rfl
theorem q907 : (Jvm.Cond.instanceMethod ({ cls := "DebtDoors$Reader", name := "sum", desc := "()LDebtDoors$Sum;" } : Jvm.MethodName)) ∈ lw_all := lw_g (lw_at lw_m4 63 rfl) rfl
theorem q908 : (Jvm.Cond.code ({ cls := "DebtDoors$Reader", name := "sum", desc := "()LDebtDoors$Sum;" } : Jvm.MethodName) prog_21_method_18_code (3 : Nat) (Option.some (Jvm.ClassFile.FieldType.object "DebtDoors$Sum"))) ∈ lw_all := lw_g (lw_at lw_m4 64 rfl) rfl
theorem q909 : (Jvm.Cond.methodLink "DebtDoors$Reader" (154 : Nat) ({ cls := "DebtDoors$Reader", name := "term", desc := "()LDebtDoors$Sum;" } : Jvm.MethodName)) ∈ lw_all := lw_g (lw_at lw_m4 65 rfl) rfl
theorem q910 : (Jvm.Cond.privateMethod ({ cls := "DebtDoors$Reader", name := "term", desc := "()LDebtDoors$Sum;" } : Jvm.MethodName)) ∈ lw_tbl := lw_at lw_m4 66 rfl
theorem q911 : (Jvm.Cond.instanceMethod ({ cls := "DebtDoors$Reader", name := "term", desc := "()LDebtDoors$Sum;" } : Jvm.MethodName)) ∈ lw_all := lw_g (lw_at lw_m4 67 rfl) rfl
theorem q912 : (Jvm.Cond.code ({ cls := "DebtDoors$Reader", name := "term", desc := "()LDebtDoors$Sum;" } : Jvm.MethodName) prog_21_method_19_code (3 : Nat) (Option.some (Jvm.ClassFile.FieldType.object "DebtDoors$Sum"))) ∈ lw_all := lw_g (lw_at lw_m4 68 rfl) rfl
theorem q913 : (Jvm.Cond.methodLink "DebtDoors$Reader" (164 : Nat) ({ cls := "DebtDoors$Reader", name := "part", desc := "()LDebtDoors$Sum;" } : Jvm.MethodName)) ∈ lw_all := lw_g (lw_at lw_m4 69 rfl) rfl
theorem q914 : (Jvm.Cond.privateMethod ({ cls := "DebtDoors$Reader", name := "part", desc := "()LDebtDoors$Sum;" } : Jvm.MethodName)) ∈ lw_tbl := lw_at lw_m4 70 rfl
theorem q915 : (Jvm.Cond.instanceMethod ({ cls := "DebtDoors$Reader", name := "part", desc := "()LDebtDoors$Sum;" } : Jvm.MethodName)) ∈ lw_all := lw_g (lw_at lw_m4 71 rfl) rfl
theorem q916 : (Jvm.Cond.code ({ cls := "DebtDoors$Reader", name := "part", desc := "()LDebtDoors$Sum;" } : Jvm.MethodName) prog_21_method_20_code (2 : Nat) (Option.some (Jvm.ClassFile.FieldType.object "DebtDoors$Sum"))) ∈ lw_all := lw_g (lw_at lw_m4 72 rfl) rfl
theorem q917 : (Jvm.Cond.stringRef "DebtDoors$Reader" (173 : Nat) "[") ∈ lw_tbl := lw_at lw_m4 73 rfl
theorem q918 : (Jvm.Cond.methodLink "DebtDoors$Reader" (123 : Nat) ({ cls := "DebtDoors$Reader", name := "open", desc := "()V" } : Jvm.MethodName)) ∈ lw_all := lw_g (lw_at lw_m4 74 rfl) rfl
theorem q919 : (Jvm.Cond.privateMethod ({ cls := "DebtDoors$Reader", name := "open", desc := "()V" } : Jvm.MethodName)) ∈ lw_tbl := lw_at lw_m4 75 rfl
theorem q920 : (Jvm.Cond.instanceMethod ({ cls := "DebtDoors$Reader", name := "open", desc := "()V" } : Jvm.MethodName)) ∈ lw_all := lw_g (lw_at lw_m4 76 rfl) rfl
theorem q921 : (Jvm.Cond.code ({ cls := "DebtDoors$Reader", name := "open", desc := "()V" } : Jvm.MethodName) prog_21_method_14_code (1 : Nat) (Option.none : Option Jvm.ClassFile.FieldType)) ∈ lw_all := lw_g (lw_at lw_m4 77 rfl) rfl
theorem q922 : (Jvm.Cond.methodLink "DebtDoors$Reader" (135 : Nat) ({ cls := "DebtDoors$Reader", name := "sum", desc := "()LDebtDoors$Sum;" } : Jvm.MethodName)) ∈ lw_all := lw_g (lw_at lw_m4 78 rfl) rfl
theorem q923 : (Jvm.Cond.stringRef "DebtDoors$Reader" (175 : Nat) "]") ∈ lw_tbl := lw_at lw_m4 79 rfl
theorem q924 : (Jvm.Cond.methodLink "DebtDoors$Reader" (131 : Nat) ({ cls := "DebtDoors$Reader", name := "close", desc := "(Ljava/lang/String;)V" } : Jvm.MethodName)) ∈ lw_all := lw_g (lw_at lw_m4 80 rfl) rfl
theorem q925 : (Jvm.Cond.privateMethod ({ cls := "DebtDoors$Reader", name := "close", desc := "(Ljava/lang/String;)V" } : Jvm.MethodName)) ∈ lw_tbl := lw_at lw_m4 81 rfl
theorem q926 : (Jvm.Cond.instanceMethod ({ cls := "DebtDoors$Reader", name := "close", desc := "(Ljava/lang/String;)V" } : Jvm.MethodName)) ∈ lw_all := lw_g (lw_at lw_m4 82 rfl) rfl
theorem q927 : (Jvm.Cond.code ({ cls := "DebtDoors$Reader", name := "close", desc := "(Ljava/lang/String;)V" } : Jvm.MethodName) prog_21_method_15_code (2 : Nat) (Option.none : Option Jvm.ClassFile.FieldType)) ∈ lw_all := lw_g (lw_at lw_m4 83 rfl) rfl
theorem q928 : (Jvm.Cond.methodLink "DebtDoors$Reader" (38 : Nat) ({ cls := "DebtDoors$Reader", name := "accept", desc := "(Ljava/lang/String;)Z" } : Jvm.MethodName)) ∈ lw_all := lw_g (lw_at lw_m4 84 rfl) rfl
theorem q929 : (Jvm.Cond.instanceMethod ({ cls := "DebtDoors$Reader", name := "accept", desc := "(Ljava/lang/String;)Z" } : Jvm.MethodName)) ∈ lw_all := lw_g (lw_at lw_m4 85 rfl) rfl
theorem q930 : (Jvm.Cond.sameMethod "DebtDoors$Reader" "DebtDoors$Reader" "accept" "(Ljava/lang/String;)Z") ∈ lw_all := lw_g (lw_at lw_m4 86 rfl) rfl
theorem q933 : (Jvm.Cond.code ({ cls := "DebtDoors$Reader", name := "accept", desc := "(Ljava/lang/String;)Z" } : Jvm.MethodName) prog_21_method_7_code (3 : Nat) (Option.some Jvm.ClassFile.FieldType.boolean)) ∈ lw_all := lw_g (lw_at lw_m4 89 rfl) rfl
theorem q934 : (Jvm.Cond.methodLink "DebtDoors$Reader" (177 : Nat) ({ cls := "DebtDoors$Reader", name := "which", desc := "([Ljava/lang/String;)I" } : Jvm.MethodName)) ∈ lw_all := lw_g (lw_at lw_m4 90 rfl) rfl
theorem q935 : (Jvm.Cond.methodLink "DebtDoors$Reader" (181 : Nat) ({ cls := "DebtDoors$Reader", name := "leaf", desc := "()V" } : Jvm.MethodName)) ∈ lw_all := lw_g (lw_at lw_m4 91 rfl) rfl
theorem q936 : (Jvm.Cond.privateMethod ({ cls := "DebtDoors$Reader", name := "leaf", desc := "()V" } : Jvm.MethodName)) ∈ lw_tbl := lw_at lw_m4 92 rfl
theorem q937 : (Jvm.Cond.instanceMethod ({ cls := "DebtDoors$Reader", name := "leaf", desc := "()V" } : Jvm.MethodName)) ∈ lw_all := lw_g (lw_at lw_m4 93 rfl) rfl
theorem q938 : (Jvm.Cond.code ({ cls := "DebtDoors$Reader", name := "leaf", desc := "()V" } : Jvm.MethodName) prog_21_method_16_code (1 : Nat) (Option.none : Option Jvm.ClassFile.FieldType)) ∈ lw_all := lw_g (lw_at lw_m4 94 rfl) rfl
theorem q939 : (Jvm.Cond.classLink "DebtDoors$Reader" (184 : Nat) "DebtDoors$Amount") ∈ lw_all := lw_g (lw_at lw_m4 95 rfl) rfl
theorem q941 : (Jvm.Cond.methodLink "DebtDoors$Reader" (186 : Nat) ({ cls := "DebtDoors$Reader", name := "number", desc := "(I)I" } : Jvm.MethodName)) ∈ lw_all := lw_g (lw_at lw_m4 97 rfl) rfl
theorem q942 : (Jvm.Cond.instanceMethod ({ cls := "DebtDoors$Reader", name := "number", desc := "(I)I" } : Jvm.MethodName)) ∈ lw_all := lw_g (lw_at lw_m4 98 rfl) rfl
theorem q943 : (Jvm.Cond.sameMethod "DebtDoors$Reader" "DebtDoors$Reader" "number" "(I)I") ∈ lw_all := lw_g (lw_at lw_m4 99 rfl) rfl
theorem q946 : (Jvm.Cond.code ({ cls := "DebtDoors$Reader", name := "number", desc := "(I)I" } : Jvm.MethodName) prog_21_method_9_code (4 : Nat) (Option.some Jvm.ClassFile.FieldType.int)) ∈ lw_all := lw_g (lw_at lw_m4 102 rfl) rfl
theorem q947 : (Jvm.Cond.methodLink "DebtDoors$Reader" (190 : Nat) ({ cls := "DebtDoors$Amount", name := "<init>", desc := "(I)V" } : Jvm.MethodName)) ∈ lw_all := lw_g (lw_at lw_m4 103 rfl) rfl
theorem q958 : (Jvm.Cond.methodLink "DebtDoors$Reader" (191 : Nat) ({ cls := "DebtDoors$Reader", name := "behindWord", desc := "(I)LDebtDoors$Sum;" } : Jvm.MethodName)) ∈ lw_all := lw_g (lw_at lw_m4 114 rfl) rfl
theorem q959 : (Jvm.Cond.instanceMethod ({ cls := "DebtDoors$Reader", name := "behindWord", desc := "(I)LDebtDoors$Sum;" } : Jvm.MethodName)) ∈ lw_all := lw_g (lw_at lw_m4 115 rfl) rfl
theorem q960 : (Jvm.Cond.sameMethod "DebtDoors$Reader" "DebtDoors$Reader" "behindWord" "(I)LDebtDoors$Sum;") ∈ lw_all := lw_g (lw_at lw_m4 116 rfl) rfl
theorem q969 : (Jvm.Cond.declares ({ cls := "DebtDoors$Reader", name := "number", desc := "(I)I" } : Jvm.MethodName)) ∈ lw_tbl := lw_at lw_m4 125 rfl
theorem q1008 : (Jvm.Cond.code ({ cls := "DebtDoors$Reader", name := "behindWord", desc := "(I)LDebtDoors$Sum;" } : Jvm.MethodName) prog_21_method_21_code (2 : Nat) (Option.some (Jvm.ClassFile.FieldType.object "DebtDoors$Sum"))) ∈ lw_all := lw_g (lw_at lw_m4 164 rfl) rfl
theorem q1009 : (Jvm.Cond.classLink "DebtDoors$Reader" (195 : Nat) "DebtDoors$Part") ∈ lw_all := lw_g (lw_at lw_m4 165 rfl) rfl
theorem q1010 : (Jvm.Cond.methodLink "DebtDoors$Reader" (197 : Nat) ({ cls := "DebtDoors$Part", name := "<init>", desc := "(I)V" } : Jvm.MethodName)) ∈ lw_all := lw_g (lw_at lw_m4 166 rfl) rfl
theorem q1011 : (Jvm.Cond.stringRef "DebtDoors$Reader" (167 : Nat) "*") ∈ lw_tbl := lw_at lw_m4 167 rfl
theorem q1012 : (Jvm.Cond.stringRef "DebtDoors$Reader" (169 : Nat) "/") ∈ lw_tbl := lw_at lw_m4 168 rfl
theorem q1013 : (Jvm.Cond.stringRef "DebtDoors$Reader" (171 : Nat) "%") ∈ lw_tbl := lw_at lw_m4 169 rfl
theorem q1014 : (Jvm.Cond.classLink "DebtDoors$Reader" (161 : Nat) "DebtDoors$Joined") ∈ lw_all := lw_g (lw_at lw_m4 170 rfl) rfl
theorem q1016 : (Jvm.Cond.methodLink "DebtDoors$Reader" (163 : Nat) ({ cls := "DebtDoors$Joined", name := "<init>", desc := "(LDebtDoors$Sum;ILDebtDoors$Sum;)V" } : Jvm.MethodName)) ∈ lw_all := lw_g (lw_at lw_m4 172 rfl) rfl
theorem q1030 : (Jvm.Cond.stringRef "DebtDoors$Reader" (157 : Nat) "+") ∈ lw_tbl := lw_at lw_m4 186 rfl
theorem q1031 : (Jvm.Cond.stringRef "DebtDoors$Reader" (159 : Nat) "-") ∈ lw_tbl := lw_at lw_m4 187 rfl
theorem q1036 : (Jvm.Cond.declares ({ cls := "DebtDoors$Reader", name := "accept", desc := "(Ljava/lang/String;)Z" } : Jvm.MethodName)) ∈ lw_tbl := lw_at lw_m4 192 rfl
theorem q1040 : (Jvm.Cond.declares ({ cls := "DebtDoors$Reader", name := "test", desc := "()LDebtDoors$Test;" } : Jvm.MethodName)) ∈ lw_tbl := lw_at lw_m4 196 rfl
theorem q1042 : (Jvm.Cond.instanceMethod ({ cls := "DebtDoors$Reader", name := "test", desc := "()LDebtDoors$Test;" } : Jvm.MethodName)) ∈ lw_all := lw_g (lw_at lw_m4 198 rfl) rfl
theorem q1043 : (Jvm.Cond.code ({ cls := "DebtDoors$Reader", name := "test", desc := "()LDebtDoors$Test;" } : Jvm.MethodName) prog_21_method_10_code (2 : Nat) (Option.some (Jvm.ClassFile.FieldType.object "DebtDoors$Test"))) ∈ lw_all := lw_g (lw_at lw_m4 199 rfl) rfl
theorem q1044 : (Jvm.Cond.methodLink "DebtDoors$Reader" (83 : Nat) ({ cls := "DebtDoors$Reader", name := "both", desc := "()LDebtDoors$Test;" } : Jvm.MethodName)) ∈ lw_all := lw_g (lw_at lw_m4 200 rfl) rfl
theorem q1045 : (Jvm.Cond.privateMethod ({ cls := "DebtDoors$Reader", name := "both", desc := "()LDebtDoors$Test;" } : Jvm.MethodName)) ∈ lw_tbl := lw_at lw_m4 201 rfl
theorem q1046 : (Jvm.Cond.instanceMethod ({ cls := "DebtDoors$Reader", name := "both", desc := "()LDebtDoors$Test;" } : Jvm.MethodName)) ∈ lw_all := lw_g (lw_at lw_m4 202 rfl) rfl
theorem q1047 : (Jvm.Cond.code ({ cls := "DebtDoors$Reader", name := "both", desc := "()LDebtDoors$Test;" } : Jvm.MethodName) prog_21_method_11_code (2 : Nat) (Option.some (Jvm.ClassFile.FieldType.object "DebtDoors$Test"))) ∈ lw_all := lw_g (lw_at lw_m4 203 rfl) rfl
theorem q1048 : (Jvm.Cond.methodLink "DebtDoors$Reader" (97 : Nat) ({ cls := "DebtDoors$Reader", name := "plain", desc := "()LDebtDoors$Test;" } : Jvm.MethodName)) ∈ lw_all := lw_g (lw_at lw_m4 204 rfl) rfl
theorem q1049 : (Jvm.Cond.privateMethod ({ cls := "DebtDoors$Reader", name := "plain", desc := "()LDebtDoors$Test;" } : Jvm.MethodName)) ∈ lw_tbl := lw_at lw_m4 205 rfl
theorem q1050 : (Jvm.Cond.instanceMethod ({ cls := "DebtDoors$Reader", name := "plain", desc := "()LDebtDoors$Test;" } : Jvm.MethodName)) ∈ lw_all := lw_g (lw_at lw_m4 206 rfl) rfl
theorem q1051 : (Jvm.Cond.code ({ cls := "DebtDoors$Reader", name := "plain", desc := "()LDebtDoors$Test;" } : Jvm.MethodName) prog_21_method_17_code (5 : Nat) (Option.some (Jvm.ClassFile.FieldType.object "DebtDoors$Test"))) ∈ lw_all := lw_g (lw_at lw_m4 207 rfl) rfl
theorem q1052 : (Jvm.Cond.stringRef "DebtDoors$Reader" (119 : Nat) "not") ∈ lw_tbl := lw_at lw_m4 208 rfl
theorem q1053 : (Jvm.Cond.stringRef "DebtDoors$Reader" (121 : Nat) "(") ∈ lw_tbl := lw_at lw_m4 209 rfl
theorem q1054 : (Jvm.Cond.methodLink "DebtDoors$Reader" (126 : Nat) ({ cls := "DebtDoors$Reader", name := "test", desc := "()LDebtDoors$Test;" } : Jvm.MethodName)) ∈ lw_all := lw_g (lw_at lw_m4 210 rfl) rfl
theorem q1055 : (Jvm.Cond.stringRef "DebtDoors$Reader" (129 : Nat) ")") ∈ lw_tbl := lw_at lw_m4 211 rfl
theorem q1056 : (Jvm.Cond.stringRef "DebtDoors$Reader" (139 : Nat) "<") ∈ lw_tbl := lw_at lw_m4 212 rfl
theorem q1057 : (Jvm.Cond.stringRef "DebtDoors$Reader" (141 : Nat) ">") ∈ lw_tbl := lw_at lw_m4 213 rfl
theorem q1058 : (Jvm.Cond.stringRef "DebtDoors$Reader" (143 : Nat) "=") ∈ lw_tbl := lw_at lw_m4 214 rfl
theorem q1059 : (Jvm.Cond.classLink "DebtDoors$Reader" (145 : Nat) "DebtDoors$Compared") ∈ lw_all := lw_g (lw_at lw_m4 215 rfl) rfl
theorem q1061 : (Jvm.Cond.methodLink "DebtDoors$Reader" (147 : Nat) ({ cls := "DebtDoors$Compared", name := "<init>", desc := "(LDebtDoors$Sum;ILDebtDoors$Sum;)V" } : Jvm.MethodName)) ∈ lw_all := lw_g (lw_at lw_m4 217 rfl) rfl
theorem q1078 : (Jvm.Cond.classLink "DebtDoors$Reader" (150 : Nat) "DebtDoors$Not") ∈ lw_all := lw_g (lw_at lw_m4 234 rfl) rfl
theorem q1080 : (Jvm.Cond.methodLink "DebtDoors$Reader" (152 : Nat) ({ cls := "DebtDoors$Not", name := "<init>", desc := "(LDebtDoors$Test;)V" } : Jvm.MethodName)) ∈ lw_all := lw_g (lw_at lw_m4 236 rfl) rfl
theorem q1088 : (Jvm.Cond.methodLink "DebtDoors$Reader" (87 : Nat) ({ cls := "DebtDoors$Reader", name := "add", desc := "(LDebtDoors$Test;)V" } : Jvm.MethodName)) ∈ lw_all := lw_g (lw_at lw_m5 4 rfl) rfl
theorem q1089 : (Jvm.Cond.privateMethod ({ cls := "DebtDoors$Reader", name := "add", desc := "(LDebtDoors$Test;)V" } : Jvm.MethodName)) ∈ lw_tbl := lw_at lw_m5 5 rfl
theorem q1090 : (Jvm.Cond.instanceMethod ({ cls := "DebtDoors$Reader", name := "add", desc := "(LDebtDoors$Test;)V" } : Jvm.MethodName)) ∈ lw_all := lw_g (lw_at lw_m5 6 rfl) rfl
theorem q1091 : (Jvm.Cond.code ({ cls := "DebtDoors$Reader", name := "add", desc := "(LDebtDoors$Test;)V" } : Jvm.MethodName) prog_21_method_12_code (2 : Nat) (Option.none : Option Jvm.ClassFile.FieldType)) ∈ lw_all := lw_g (lw_at lw_m5 7 rfl) rfl
theorem q1092 : (Jvm.Cond.stringRef "DebtDoors$Reader" (100 : Nat) "and") ∈ lw_tbl := lw_at lw_m5 8 rfl
theorem q1093 : (Jvm.Cond.methodLink "DebtDoors$Reader" (93 : Nat) ({ cls := "DebtDoors$Reader", name := "row", desc := "(ZI)LDebtDoors$Test;" } : Jvm.MethodName)) ∈ lw_all := lw_g (lw_at lw_m5 9 rfl) rfl
theorem q1094 : (Jvm.Cond.privateMethod ({ cls := "DebtDoors$Reader", name := "row", desc := "(ZI)LDebtDoors$Test;" } : Jvm.MethodName)) ∈ lw_tbl := lw_at lw_m5 10 rfl
theorem q1095 : (Jvm.Cond.instanceMethod ({ cls := "DebtDoors$Reader", name := "row", desc := "(ZI)LDebtDoors$Test;" } : Jvm.MethodName)) ∈ lw_all := lw_g (lw_at lw_m5 11 rfl) rfl
theorem q1096 : (Jvm.Cond.code ({ cls := "DebtDoors$Reader", name := "row", desc := "(ZI)LDebtDoors$Test;" } : Jvm.MethodName) prog_21_method_13_code (5 : Nat) (Option.some (Jvm.ClassFile.FieldType.object "DebtDoors$Test"))) ∈ lw_all := lw_g (lw_at lw_m5 12 rfl) rfl
theorem q1097 : (Jvm.Cond.methodLink "DebtDoors$Reader" (102 : Nat) ({ cls := "java/lang/System", name := "arraycopy", desc := "(Ljava/lang/Object;ILjava/lang/Object;II)V" } : Jvm.MethodName)) ∈ lw_all := lw_g (lw_at lw_m5 13 rfl) rfl
theorem q1098 : (Jvm.Cond.classLink "DebtDoors$Reader" (108 : Nat) "DebtDoors$Row") ∈ lw_all := lw_g (lw_at lw_m5 14 rfl) rfl
theorem q1100 : (Jvm.Cond.methodLink "DebtDoors$Reader" (110 : Nat) ({ cls := "DebtDoors$Row", name := "<init>", desc := "(Z[LDebtDoors$Test;)V" } : Jvm.MethodName)) ∈ lw_all := lw_g (lw_at lw_m5 16 rfl) rfl
theorem q1111 : (Jvm.Cond.stringRef "DebtDoors$Reader" (91 : Nat) "or") ∈ lw_tbl := lw_at lw_m5 27 rfl
theorem q1241 : (Jvm.Cond.stringRef "DebtDoors$Reader" (36 : Nat) ";") ∈ lw_tbl := lw_at lw_m5 157 rfl
theorem q2718 : (Jvm.Cond.sameMethod "DebtDoors$Reader" "DebtDoors$Reader" "term" "()LDebtDoors$Sum;") ∈ lw_all := lw_g (lw_at lw_m11 194 rfl) rfl
theorem q2719 : (Jvm.Cond.sameMethod "DebtDoors$Reader" "DebtDoors$Reader" "part" "()LDebtDoors$Sum;") ∈ lw_all := lw_g (lw_at lw_m11 195 rfl) rfl
theorem q2720 : (Jvm.Cond.sameMethod "DebtDoors$Reader" "DebtDoors$Reader" "open" "()V") ∈ lw_all := lw_g (lw_at lw_m11 196 rfl) rfl
theorem q2721 : (Jvm.Cond.sameMethod "DebtDoors$Reader" "DebtDoors$Reader" "sum" "()LDebtDoors$Sum;") ∈ lw_all := lw_g (lw_at lw_m11 197 rfl) rfl
theorem q2724 : (Jvm.Cond.sameMethod "DebtDoors$Reader" "DebtDoors$Reader" "close" "(Ljava/lang/String;)V") ∈ lw_all := lw_g (lw_at lw_m11 200 rfl) rfl
theorem q2725 : (Jvm.Cond.sameMethod "DebtDoors$Reader" "DebtDoors$Reader" "which" "([Ljava/lang/String;)I") ∈ lw_all := lw_g (lw_at lw_m11 201 rfl) rfl
theorem q2728 : (Jvm.Cond.sameMethod "DebtDoors$Reader" "DebtDoors$Reader" "leaf" "()V") ∈ lw_all := lw_g (lw_at lw_m11 204 rfl) rfl
theorem q2729 : (Jvm.Cond.sameMethod "DebtDoors$Reader" "DebtDoors$Reader" "both" "()LDebtDoors$Test;") ∈ lw_all := lw_g (lw_at lw_m11 205 rfl) rfl
theorem q2730 : (Jvm.Cond.sameMethod "DebtDoors$Reader" "DebtDoors$Reader" "plain" "()LDebtDoors$Test;") ∈ lw_all := lw_g (lw_at lw_m11 206 rfl) rfl
theorem q2731 : (Jvm.Cond.sameMethod "DebtDoors$Reader" "DebtDoors$Reader" "test" "()LDebtDoors$Test;") ∈ lw_all := lw_g (lw_at lw_m11 207 rfl) rfl
theorem q2734 : (Jvm.Cond.sameMethod "DebtDoors$Reader" "DebtDoors$Reader" "add" "(LDebtDoors$Test;)V") ∈ lw_all := lw_g (lw_at lw_m11 210 rfl) rfl
theorem q2735 : (Jvm.Cond.sameMethod "DebtDoors$Reader" "DebtDoors$Reader" "row" "(ZI)LDebtDoors$Test;") ∈ lw_all := lw_g (lw_at lw_m11 211 rfl) rfl
/-! DebtDoors$LawReader -/
set_option maxRecDepth 100000
def RX7 : String := "DebtDoors$LawReader"
def TX7 : u_T := fun k => match k with
  | 0 => ("DebtDoors$Reader", "from", "I", false)
  | 1 => ("DebtDoors$Reader", "to", "I", false)
  | 2 => ("DebtDoors$Reader", "leaves", "I", false)
  | 3 => ("DebtDoors$Reader", "deep", "I", false)
  | 4 => ("DebtDoors$Reader", "piled", "I", false)
  | 5 => ("DebtDoors$Reader", "pile", "[LDebtDoors$Test;", true)
  | 6 => ("DebtDoors$Reader", "words", "[Ljava/lang/String;", true)
  | 7 => ("DebtDoors$Reader", "this$0", "LDebtDoors;", true)
  | 8 => ("DebtDoors$LawReader", "row", "[LDebtDoors$Clause;", true)
  | 9 => ("DebtDoors$LawReader", "heads", "[Ljava/lang/String;", true)
  | _ => ("DebtDoors$LawReader", "this$0", "LDebtDoors;", true)
def tyX7 : Nat → FieldType := fun k => match k with
  | 0 => .int
  | 1 => .int
  | 2 => .int
  | 3 => .int
  | 4 => .int
  | 5 => .array (.object "DebtDoors$Test")
  | 6 => .array (.object "java/lang/String")
  | 7 => .object "DebtDoors"
  | 8 => .array (.object "DebtDoors$Clause")
  | 9 => .array (.object "java/lang/String")
  | _ => .object "DebtDoors"
abbrev wsX70 : List Cond := u_ws RX7 TX7 11
-- two fields of one name: no nmX7
theorem tyX7_ok : ∀ k, k < 11 → parseFieldDescriptor (TX7 k).2.2.1 = some (tyX7 k) := by decide +kernel
abbrev cX7_init : ByteArray := prog_10_method_1_code
def yX7_init : MethodName := ⟨RX7, "<init>", "(LDebtDoors;)V"⟩
abbrev cX7_read : ByteArray := prog_10_method_2_code
def yX7_read : MethodName := ⟨RX7, "read", "()LDebtDoors$Text;"⟩
abbrev cX7_read_2 : ByteArray := prog_10_method_3_code
def yX7_read_2 : MethodName := ⟨RX7, "read", "(I)V"⟩
theorem q145 : (Jvm.Cond.initialized "DebtDoors$LawReader") ∈ lw_all := lw_g (lw_at lw_m1 21 rfl) rfl
theorem q714 : (Jvm.Cond.instantiable "DebtDoors$LawReader" (11 : Nat)) ∈ lw_all := lw_g (lw_at lw_m3 110 rfl) rfl
theorem q716 : (Jvm.Cond.instanceMethod ({ cls := "DebtDoors$LawReader", name := "<init>", desc := "(LDebtDoors;)V" } : Jvm.MethodName)) ∈ lw_all := lw_g (lw_at lw_m3 112 rfl) rfl
theorem q717 : (Jvm.Cond.code ({ cls := "DebtDoors$LawReader", name := "<init>", desc := "(LDebtDoors;)V" } : Jvm.MethodName) prog_10_method_1_code (2 : Nat) (Option.none : Option Jvm.ClassFile.FieldType)) ∈ lw_all := lw_g (lw_at lw_m3 113 rfl) rfl
theorem q718 : (Jvm.Cond.classLink "DebtDoors$LawReader" (9 : Nat) "java/lang/String") ∈ lw_all := lw_g (lw_at lw_m3 114 rfl) rfl
theorem q720 : (Jvm.Cond.stringRef "DebtDoors$LawReader" (11 : Nat) "owner") ∈ lw_tbl := lw_at lw_m3 116 rfl
theorem q721 : (Jvm.Cond.stringRef "DebtDoors$LawReader" (13 : Nat) "visitor") ∈ lw_tbl := lw_at lw_m3 117 rfl
theorem q722 : (Jvm.Cond.stringRef "DebtDoors$LawReader" (15 : Nat) "owes") ∈ lw_tbl := lw_at lw_m3 118 rfl
theorem q723 : (Jvm.Cond.stringRef "DebtDoors$LawReader" (17 : Nat) "back") ∈ lw_tbl := lw_at lw_m3 119 rfl
theorem q724 : (Jvm.Cond.stringRef "DebtDoors$LawReader" (19 : Nat) "rooms") ∈ lw_tbl := lw_at lw_m3 120 rfl
theorem q725 : (Jvm.Cond.stringRef "DebtDoors$LawReader" (21 : Nat) "wary") ∈ lw_tbl := lw_at lw_m3 121 rfl
theorem q726 : (Jvm.Cond.stringRef "DebtDoors$LawReader" (23 : Nat) "amount") ∈ lw_tbl := lw_at lw_m3 122 rfl
theorem q727 : (Jvm.Cond.stringRef "DebtDoors$LawReader" (25 : Nat) "age") ∈ lw_tbl := lw_at lw_m3 123 rfl
theorem q728 : (Jvm.Cond.stringRef "DebtDoors$LawReader" (27 : Nat) "day") ∈ lw_tbl := lw_at lw_m3 124 rfl
theorem q729 : (Jvm.Cond.stringRef "DebtDoors$LawReader" (29 : Nat) "mood") ∈ lw_tbl := lw_at lw_m3 125 rfl
theorem q730 : (Jvm.Cond.methodLink "DebtDoors$LawReader" (31 : Nat) ({ cls := "DebtDoors$Reader", name := "<init>", desc := "(LDebtDoors;[Ljava/lang/String;)V" } : Jvm.MethodName)) ∈ lw_all := lw_g (lw_at lw_m3 126 rfl) rfl
theorem q736 : (Jvm.Cond.classLink "DebtDoors$LawReader" (37 : Nat) "DebtDoors$Clause") ∈ lw_all := lw_g (lw_at lw_m3 132 rfl) rfl
theorem q737 : (Jvm.Cond.stringRef "DebtDoors$LawReader" (43 : Nat) "depth") ∈ lw_tbl := lw_at lw_m3 133 rfl
theorem q738 : (Jvm.Cond.stringRef "DebtDoors$LawReader" (45 : Nat) "grows") ∈ lw_tbl := lw_at lw_m3 134 rfl
theorem q739 : (Jvm.Cond.stringRef "DebtDoors$LawReader" (47 : Nat) "sells") ∈ lw_tbl := lw_at lw_m3 135 rfl
theorem q740 : (Jvm.Cond.stringRef "DebtDoors$LawReader" (49 : Nat) "bars") ∈ lw_tbl := lw_at lw_m3 136 rfl
theorem q741 : (Jvm.Cond.fieldLink "DebtDoors$LawReader" (39 : Nat) "DebtDoors$LawReader" "row" "[LDebtDoors$Clause;") ∈ lw_all := lw_g (lw_at lw_m3 137 rfl) rfl
theorem q742 : (Jvm.Cond.fieldLink "DebtDoors$LawReader" (51 : Nat) "DebtDoors$LawReader" "heads" "[Ljava/lang/String;") ∈ lw_all := lw_g (lw_at lw_m3 138 rfl) rfl
theorem q743 : (Jvm.Cond.fieldLink "DebtDoors$LawReader" (3 : Nat) "DebtDoors$LawReader" "this$0" "LDebtDoors;") ∈ lw_all := lw_g (lw_at lw_m3 139 rfl) rfl
theorem q756 : (Jvm.Cond.laysFinal "DebtDoors$LawReader" "DebtDoors$LawReader" "row" "[LDebtDoors$Clause;") ∈ lw_all := lw_g (lw_at lw_m3 152 rfl) rfl
theorem q757 : (Jvm.Cond.soleField "DebtDoors$LawReader" "row") ∈ lw_all := lw_g (lw_at lw_m3 153 rfl) rfl
theorem q758 : (Jvm.Cond.laysFinal "DebtDoors$LawReader" "DebtDoors$LawReader" "heads" "[Ljava/lang/String;") ∈ lw_all := lw_g (lw_at lw_m3 154 rfl) rfl
theorem q759 : (Jvm.Cond.soleField "DebtDoors$LawReader" "heads") ∈ lw_all := lw_g (lw_at lw_m3 155 rfl) rfl
theorem q760 : (Jvm.Cond.laysFinal "DebtDoors$LawReader" "DebtDoors$LawReader" "this$0" "LDebtDoors;") ∈ lw_all := lw_g (lw_at lw_m3 156 rfl) rfl
theorem q761 : (Jvm.Cond.soleField "DebtDoors$LawReader" "this$0") ∈ lw_all := lw_g (lw_at lw_m3 157 rfl) rfl
theorem q762 : (Jvm.Cond.lays "DebtDoors$LawReader" "DebtDoors$Reader" "from" "I") ∈ lw_all := lw_g (lw_at lw_m3 158 rfl) rfl
theorem q764 : (Jvm.Cond.lays "DebtDoors$LawReader" "DebtDoors$Reader" "to" "I") ∈ lw_all := lw_g (lw_at lw_m3 160 rfl) rfl
theorem q766 : (Jvm.Cond.lays "DebtDoors$LawReader" "DebtDoors$Reader" "leaves" "I") ∈ lw_all := lw_g (lw_at lw_m3 162 rfl) rfl
theorem q768 : (Jvm.Cond.lays "DebtDoors$LawReader" "DebtDoors$Reader" "deep" "I") ∈ lw_all := lw_g (lw_at lw_m3 164 rfl) rfl
theorem q770 : (Jvm.Cond.lays "DebtDoors$LawReader" "DebtDoors$Reader" "piled" "I") ∈ lw_all := lw_g (lw_at lw_m3 166 rfl) rfl
theorem q772 : (Jvm.Cond.laysFinal "DebtDoors$LawReader" "DebtDoors$Reader" "pile" "[LDebtDoors$Test;") ∈ lw_all := lw_g (lw_at lw_m3 168 rfl) rfl
theorem q774 : (Jvm.Cond.laysFinal "DebtDoors$LawReader" "DebtDoors$Reader" "words" "[Ljava/lang/String;") ∈ lw_all := lw_g (lw_at lw_m3 170 rfl) rfl
theorem q776 : (Jvm.Cond.laysFinal "DebtDoors$LawReader" "DebtDoors$Reader" "this$0" "LDebtDoors;") ∈ lw_all := lw_g (lw_at lw_m3 172 rfl) rfl
theorem q778 : (Jvm.Cond.superclass "DebtDoors$LawReader" "DebtDoors$Reader") ∈ lw_all := lw_g (lw_at lw_m3 174 rfl) rfl
theorem q780 : (Jvm.Cond.instanceMethod ({ cls := "DebtDoors$LawReader", name := "read", desc := "()LDebtDoors$Text;" } : Jvm.MethodName)) ∈ lw_all := lw_g (lw_at lw_m3 176 rfl) rfl
theorem q781 : (Jvm.Cond.selects "DebtDoors$LawReader" ({ cls := "DebtDoors$LawReader", name := "read", desc := "()LDebtDoors$Text;" } : Jvm.MethodName) ({ cls := "DebtDoors$LawReader", name := "read", desc := "()LDebtDoors$Text;" } : Jvm.MethodName)) ∈ lw_all := lw_g (lw_at lw_m3 177 rfl) rfl
theorem q782 : (Jvm.Cond.code ({ cls := "DebtDoors$LawReader", name := "read", desc := "()LDebtDoors$Text;" } : Jvm.MethodName) prog_10_method_2_code (2 : Nat) (Option.some (Jvm.ClassFile.FieldType.object "DebtDoors$Text"))) ∈ lw_all := lw_g (lw_at lw_m3 178 rfl) rfl
theorem q783 : (Jvm.Cond.methodLink "DebtDoors$LawReader" (55 : Nat) ({ cls := "DebtDoors$LawReader", name := "readAll", desc := "()I" } : Jvm.MethodName)) ∈ lw_all := lw_g (lw_at lw_m3 179 rfl) rfl
theorem q784 : (Jvm.Cond.sameMethod "DebtDoors$LawReader" "DebtDoors$Reader" "readAll" "()I") ∈ lw_all := lw_g (lw_at lw_m3 180 rfl) rfl
theorem q786 : (Jvm.Cond.selects "DebtDoors$LawReader" ({ cls := "DebtDoors$LawReader", name := "readAll", desc := "()I" } : Jvm.MethodName) ({ cls := "DebtDoors$Reader", name := "readAll", desc := "()I" } : Jvm.MethodName)) ∈ lw_all := lw_g (lw_at lw_m3 182 rfl) rfl
theorem q792 : (Jvm.Cond.selects "DebtDoors$LawReader" ({ cls := "DebtDoors$Reader", name := "next", desc := "()V" } : Jvm.MethodName) ({ cls := "DebtDoors$Reader", name := "next", desc := "()V" } : Jvm.MethodName)) ∈ lw_all := lw_g (lw_at lw_m3 188 rfl) rfl
theorem q804 : (Jvm.Cond.selects "DebtDoors$LawReader" ({ cls := "DebtDoors$Reader", name := "must", desc := "(Z)V" } : Jvm.MethodName) ({ cls := "DebtDoors$Reader", name := "must", desc := "(Z)V" } : Jvm.MethodName)) ∈ lw_all := lw_g (lw_at lw_m3 200 rfl) rfl
theorem q834 : (Jvm.Cond.selects "DebtDoors$LawReader" ({ cls := "DebtDoors$Reader", name := "read", desc := "(I)V" } : Jvm.MethodName) ({ cls := "DebtDoors$LawReader", name := "read", desc := "(I)V" } : Jvm.MethodName)) ∈ lw_all := lw_g (lw_at lw_m3 230 rfl) rfl
theorem q835 : (Jvm.Cond.instanceMethod ({ cls := "DebtDoors$LawReader", name := "read", desc := "(I)V" } : Jvm.MethodName)) ∈ lw_all := lw_g (lw_at lw_m3 231 rfl) rfl
theorem q836 : (Jvm.Cond.code ({ cls := "DebtDoors$LawReader", name := "read", desc := "(I)V" } : Jvm.MethodName) prog_10_method_3_code (4 : Nat) (Option.none : Option Jvm.ClassFile.FieldType)) ∈ lw_all := lw_g (lw_at lw_m3 232 rfl) rfl
theorem q837 : (Jvm.Cond.methodLink "DebtDoors$LawReader" (70 : Nat) ({ cls := "DebtDoors$LawReader", name := "which", desc := "([Ljava/lang/String;)I" } : Jvm.MethodName)) ∈ lw_all := lw_g (lw_at lw_m3 233 rfl) rfl
theorem q838 : (Jvm.Cond.sameMethod "DebtDoors$LawReader" "DebtDoors$Reader" "which" "([Ljava/lang/String;)I") ∈ lw_all := lw_g (lw_at lw_m3 234 rfl) rfl
theorem q840 : (Jvm.Cond.selects "DebtDoors$LawReader" ({ cls := "DebtDoors$LawReader", name := "which", desc := "([Ljava/lang/String;)I" } : Jvm.MethodName) ({ cls := "DebtDoors$Reader", name := "which", desc := "([Ljava/lang/String;)I" } : Jvm.MethodName)) ∈ lw_all := lw_g (lw_at lw_m3 236 rfl) rfl
theorem q846 : (Jvm.Cond.selects "DebtDoors$LawReader" ({ cls := "DebtDoors$Reader", name := "isWord", desc := "(Ljava/lang/String;)Z" } : Jvm.MethodName) ({ cls := "DebtDoors$Reader", name := "isWord", desc := "(Ljava/lang/String;)Z" } : Jvm.MethodName)) ∈ lw_all := lw_g (lw_at lw_m4 2 rfl) rfl
theorem q895 : (Jvm.Cond.methodLink "DebtDoors$LawReader" (74 : Nat) ({ cls := "DebtDoors$LawReader", name := "must", desc := "(Z)V" } : Jvm.MethodName)) ∈ lw_all := lw_g (lw_at lw_m4 51 rfl) rfl
theorem q896 : (Jvm.Cond.sameMethod "DebtDoors$LawReader" "DebtDoors$Reader" "must" "(Z)V") ∈ lw_all := lw_g (lw_at lw_m4 52 rfl) rfl
theorem q898 : (Jvm.Cond.selects "DebtDoors$LawReader" ({ cls := "DebtDoors$LawReader", name := "must", desc := "(Z)V" } : Jvm.MethodName) ({ cls := "DebtDoors$Reader", name := "must", desc := "(Z)V" } : Jvm.MethodName)) ∈ lw_all := lw_g (lw_at lw_m4 54 rfl) rfl
theorem q899 : (Jvm.Cond.methodLink "DebtDoors$LawReader" (78 : Nat) ({ cls := "DebtDoors$LawReader", name := "next", desc := "()V" } : Jvm.MethodName)) ∈ lw_all := lw_g (lw_at lw_m4 55 rfl) rfl
theorem q900 : (Jvm.Cond.sameMethod "DebtDoors$LawReader" "DebtDoors$Reader" "next" "()V") ∈ lw_all := lw_g (lw_at lw_m4 56 rfl) rfl
theorem q902 : (Jvm.Cond.selects "DebtDoors$LawReader" ({ cls := "DebtDoors$LawReader", name := "next", desc := "()V" } : Jvm.MethodName) ({ cls := "DebtDoors$Reader", name := "next", desc := "()V" } : Jvm.MethodName)) ∈ lw_all := lw_g (lw_at lw_m4 58 rfl) rfl
theorem q903 : (Jvm.Cond.methodLink "DebtDoors$LawReader" (82 : Nat) ({ cls := "DebtDoors$LawReader", name := "sum", desc := "()LDebtDoors$Sum;" } : Jvm.MethodName)) ∈ lw_all := lw_g (lw_at lw_m4 59 rfl) rfl
theorem q904 : (Jvm.Cond.sameMethod "DebtDoors$LawReader" "DebtDoors$Reader" "sum" "()LDebtDoors$Sum;") ∈ lw_all := lw_g (lw_at lw_m4 60 rfl) rfl
theorem q906 : (Jvm.Cond.selects "DebtDoors$LawReader" ({ cls := "DebtDoors$LawReader", name := "sum", desc := "()LDebtDoors$Sum;" } : Jvm.MethodName) ({ cls := "DebtDoors$Reader", name := "sum", desc := "()LDebtDoors$Sum;" } : Jvm.MethodName)) ∈ lw_all := lw_g (lw_at lw_m4 62 rfl) rfl
theorem q931 : (Jvm.Cond.selects "DebtDoors$LawReader" ({ cls := "DebtDoors$Reader", name := "accept", desc := "(Ljava/lang/String;)Z" } : Jvm.MethodName) ({ cls := "DebtDoors$Reader", name := "accept", desc := "(Ljava/lang/String;)Z" } : Jvm.MethodName)) ∈ lw_all := lw_g (lw_at lw_m4 87 rfl) rfl
theorem q944 : (Jvm.Cond.selects "DebtDoors$LawReader" ({ cls := "DebtDoors$Reader", name := "number", desc := "(I)I" } : Jvm.MethodName) ({ cls := "DebtDoors$Reader", name := "number", desc := "(I)I" } : Jvm.MethodName)) ∈ lw_all := lw_g (lw_at lw_m4 100 rfl) rfl
theorem q961 : (Jvm.Cond.selects "DebtDoors$LawReader" ({ cls := "DebtDoors$Reader", name := "behindWord", desc := "(I)LDebtDoors$Sum;" } : Jvm.MethodName) ({ cls := "DebtDoors$Reader", name := "behindWord", desc := "(I)LDebtDoors$Sum;" } : Jvm.MethodName)) ∈ lw_all := lw_g (lw_at lw_m4 117 rfl) rfl
theorem q1033 : (Jvm.Cond.stringRef "DebtDoors$LawReader" (86 : Nat) "if") ∈ lw_tbl := lw_at lw_m4 189 rfl
theorem q1034 : (Jvm.Cond.methodLink "DebtDoors$LawReader" (88 : Nat) ({ cls := "DebtDoors$LawReader", name := "accept", desc := "(Ljava/lang/String;)Z" } : Jvm.MethodName)) ∈ lw_all := lw_g (lw_at lw_m4 190 rfl) rfl
theorem q1035 : (Jvm.Cond.sameMethod "DebtDoors$LawReader" "DebtDoors$Reader" "accept" "(Ljava/lang/String;)Z") ∈ lw_all := lw_g (lw_at lw_m4 191 rfl) rfl
theorem q1037 : (Jvm.Cond.selects "DebtDoors$LawReader" ({ cls := "DebtDoors$LawReader", name := "accept", desc := "(Ljava/lang/String;)Z" } : Jvm.MethodName) ({ cls := "DebtDoors$Reader", name := "accept", desc := "(Ljava/lang/String;)Z" } : Jvm.MethodName)) ∈ lw_all := lw_g (lw_at lw_m4 193 rfl) rfl
theorem q1038 : (Jvm.Cond.methodLink "DebtDoors$LawReader" (92 : Nat) ({ cls := "DebtDoors$LawReader", name := "test", desc := "()LDebtDoors$Test;" } : Jvm.MethodName)) ∈ lw_all := lw_g (lw_at lw_m4 194 rfl) rfl
theorem q1039 : (Jvm.Cond.sameMethod "DebtDoors$LawReader" "DebtDoors$Reader" "test" "()LDebtDoors$Test;") ∈ lw_all := lw_g (lw_at lw_m4 195 rfl) rfl
theorem q1041 : (Jvm.Cond.selects "DebtDoors$LawReader" ({ cls := "DebtDoors$LawReader", name := "test", desc := "()LDebtDoors$Test;" } : Jvm.MethodName) ({ cls := "DebtDoors$Reader", name := "test", desc := "()LDebtDoors$Test;" } : Jvm.MethodName)) ∈ lw_all := lw_g (lw_at lw_m4 197 rfl) rfl
theorem q1112 : (Jvm.Cond.methodLink "DebtDoors$LawReader" (96 : Nat) ({ cls := "DebtDoors$Clause", name := "<init>", desc := "(ILDebtDoors$Sum;LDebtDoors$Test;)V" } : Jvm.MethodName)) ∈ lw_all := lw_g (lw_at lw_m5 28 rfl) rfl
theorem q1242 : (Jvm.Cond.methodLink "DebtDoors$LawReader" (59 : Nat) ({ cls := "java/lang/System", name := "arraycopy", desc := "(Ljava/lang/Object;ILjava/lang/Object;II)V" } : Jvm.MethodName)) ∈ lw_all := lw_g (lw_at lw_m5 158 rfl) rfl
theorem q1243 : (Jvm.Cond.classLink "DebtDoors$LawReader" (65 : Nat) "DebtDoors$Text") ∈ lw_all := lw_g (lw_at lw_m5 159 rfl) rfl
theorem q1244 : (Jvm.Cond.methodLink "DebtDoors$LawReader" (67 : Nat) ({ cls := "DebtDoors$Text", name := "<init>", desc := "([LDebtDoors$Clause;)V" } : Jvm.MethodName)) ∈ lw_all := lw_g (lw_at lw_m5 160 rfl) rfl
theorem q1286 : (Jvm.Cond.selects "DebtDoors$LawReader" ({ cls := "java/lang/Object", name := "getClass", desc := "()Ljava/lang/Class;" } : Jvm.MethodName) ({ cls := "java/lang/Object", name := "getClass", desc := "()Ljava/lang/Class;" } : Jvm.MethodName)) ∈ lw_all := lw_g (lw_at lw_m5 202 rfl) rfl
theorem q2722 : (Jvm.Cond.selects "DebtDoors$LawReader" ({ cls := "DebtDoors$Reader", name := "sum", desc := "()LDebtDoors$Sum;" } : Jvm.MethodName) ({ cls := "DebtDoors$Reader", name := "sum", desc := "()LDebtDoors$Sum;" } : Jvm.MethodName)) ∈ lw_all := lw_g (lw_at lw_m11 198 rfl) rfl
theorem q2726 : (Jvm.Cond.selects "DebtDoors$LawReader" ({ cls := "DebtDoors$Reader", name := "which", desc := "([Ljava/lang/String;)I" } : Jvm.MethodName) ({ cls := "DebtDoors$Reader", name := "which", desc := "([Ljava/lang/String;)I" } : Jvm.MethodName)) ∈ lw_all := lw_g (lw_at lw_m11 202 rfl) rfl
theorem q2732 : (Jvm.Cond.selects "DebtDoors$LawReader" ({ cls := "DebtDoors$Reader", name := "test", desc := "()LDebtDoors$Test;" } : Jvm.MethodName) ({ cls := "DebtDoors$Reader", name := "test", desc := "()LDebtDoors$Test;" } : Jvm.MethodName)) ∈ lw_all := lw_g (lw_at lw_m11 208 rfl) rfl
theorem q2753 : (Jvm.Cond.castable "DebtDoors$LawReader" "java/lang/Object") ∈ lw_tbl := lw_at lw_m11 229 rfl
theorem in_X7 : ∀ w ∈ wsX70, w ∈ lw_all := lw_in wsX70 [762, 764, 766, 768, 770, 772, 774, 776, 756, 758, 760] (by decide +kernel) (by decide +kernel)
/-! DebtDoors$Wrong -/
set_option maxRecDepth 100000
def RX8 : String := "DebtDoors$Wrong"
def TX8 : u_T := fun k => match k with
  | 0 => ("java/lang/Throwable", "cause", "Ljava/lang/Throwable;", false)
  | 1 => ("java/lang/Throwable", "stackTrace", "[Ljava/lang/StackTraceElement;", false)
  | 2 => ("java/lang/Throwable", "suppressedExceptions", "Ljava/util/List;", false)
  | 3 => ("java/lang/Throwable", "detailMessage", "Ljava/lang/String;", false)
  | 4 => ("java/lang/Throwable", "backtrace", "Ljava/lang/Object;", false)
  | 5 => ("java/lang/Throwable", "depth", "I", false)
  | _ => ("DebtDoors$Wrong", "place", "I", true)
def tyX8 : Nat → FieldType := fun k => match k with
  | 0 => .object "java/lang/Throwable"
  | 1 => .array (.object "java/lang/StackTraceElement")
  | 2 => .object "java/util/List"
  | 3 => .object "java/lang/String"
  | 4 => .object "java/lang/Object"
  | 5 => .int
  | _ => .int
abbrev wsX80 : List Cond := u_ws RX8 TX8 7
theorem nmX8 : ∀ a, a < 7 → ∀ b, b < 7 → a ≠ b → (TX8 a).2.1 ≠ (TX8 b).2.1 := by decide +kernel
theorem tyX8_ok : ∀ k, k < 7 → parseFieldDescriptor (TX8 k).2.2.1 = some (tyX8 k) := by decide +kernel
abbrev cX8_init : ByteArray := prog_33_method_1_code
def yX8_init : MethodName := ⟨RX8, "<init>", "(I)V"⟩
theorem q146 : (Jvm.Cond.initialized "DebtDoors$Wrong") ∈ lw_all := lw_g (lw_at lw_m1 22 rfl) rfl
theorem q644 : (Jvm.Cond.selects "DebtDoors$Wrong" ({ cls := "java/lang/Throwable", name := "fillInStackTrace", desc := "()Ljava/lang/Throwable;" } : Jvm.MethodName) ({ cls := "java/lang/Throwable", name := "fillInStackTrace", desc := "()Ljava/lang/Throwable;" } : Jvm.MethodName)) ∈ lw_all := lw_g (lw_at lw_m3 40 rfl) rfl
theorem q808 : (Jvm.Cond.instantiable "DebtDoors$Wrong" (7 : Nat)) ∈ lw_all := lw_g (lw_at lw_m3 204 rfl) rfl
theorem q809 : (Jvm.Cond.castable "DebtDoors$Wrong" "DebtDoors$Wrong") ∈ lw_tbl := lw_at lw_m3 205 rfl
theorem q810 : (Jvm.Cond.selects "DebtDoors$Wrong" ({ cls := "java/lang/Throwable", name := "fillInStackTrace", desc := "(I)Ljava/lang/Throwable;" } : Jvm.MethodName) ({ cls := "java/lang/Throwable", name := "fillInStackTrace", desc := "(I)Ljava/lang/Throwable;" } : Jvm.MethodName)) ∈ lw_all := lw_g (lw_at lw_m3 206 rfl) rfl
theorem q811 : (Jvm.Cond.lays "DebtDoors$Wrong" "java/lang/Throwable" "cause" "Ljava/lang/Throwable;") ∈ lw_all := lw_g (lw_at lw_m3 207 rfl) rfl
theorem q812 : (Jvm.Cond.lays "DebtDoors$Wrong" "java/lang/Throwable" "stackTrace" "[Ljava/lang/StackTraceElement;") ∈ lw_all := lw_g (lw_at lw_m3 208 rfl) rfl
theorem q813 : (Jvm.Cond.lays "DebtDoors$Wrong" "java/lang/Throwable" "suppressedExceptions" "Ljava/util/List;") ∈ lw_all := lw_g (lw_at lw_m3 209 rfl) rfl
theorem q814 : (Jvm.Cond.lays "DebtDoors$Wrong" "java/lang/Throwable" "detailMessage" "Ljava/lang/String;") ∈ lw_all := lw_g (lw_at lw_m3 210 rfl) rfl
theorem q815 : (Jvm.Cond.lays "DebtDoors$Wrong" "java/lang/Throwable" "backtrace" "Ljava/lang/Object;") ∈ lw_all := lw_g (lw_at lw_m3 211 rfl) rfl
theorem q817 : (Jvm.Cond.instanceMethod ({ cls := "DebtDoors$Wrong", name := "<init>", desc := "(I)V" } : Jvm.MethodName)) ∈ lw_all := lw_g (lw_at lw_m3 213 rfl) rfl
theorem q818 : (Jvm.Cond.code ({ cls := "DebtDoors$Wrong", name := "<init>", desc := "(I)V" } : Jvm.MethodName) prog_33_method_1_code (2 : Nat) (Option.none : Option Jvm.ClassFile.FieldType)) ∈ lw_all := lw_g (lw_at lw_m3 214 rfl) rfl
theorem q819 : (Jvm.Cond.methodLink "DebtDoors$Wrong" (1 : Nat) ({ cls := "java/lang/Exception", name := "<init>", desc := "(Ljava/lang/String;Ljava/lang/Throwable;ZZ)V" } : Jvm.MethodName)) ∈ lw_all := lw_g (lw_at lw_m3 215 rfl) rfl
theorem q825 : (Jvm.Cond.fieldLink "DebtDoors$Wrong" (7 : Nat) "DebtDoors$Wrong" "place" "I") ∈ lw_all := lw_g (lw_at lw_m3 221 rfl) rfl
theorem q827 : (Jvm.Cond.laysFinal "DebtDoors$Wrong" "DebtDoors$Wrong" "place" "I") ∈ lw_all := lw_g (lw_at lw_m3 223 rfl) rfl
theorem q828 : (Jvm.Cond.soleField "DebtDoors$Wrong" "place") ∈ lw_all := lw_g (lw_at lw_m3 224 rfl) rfl
theorem q829 : (Jvm.Cond.lays "DebtDoors$Wrong" "java/lang/Throwable" "depth" "I") ∈ lw_all := lw_g (lw_at lw_m3 225 rfl) rfl
theorem q830 : (Jvm.Cond.superclass "DebtDoors$Wrong" "java/lang/Exception") ∈ lw_all := lw_g (lw_at lw_m3 226 rfl) rfl
theorem q1303 : (Jvm.Cond.selects "DebtDoors$Wrong" ({ cls := "java/lang/Object", name := "getClass", desc := "()Ljava/lang/Class;" } : Jvm.MethodName) ({ cls := "java/lang/Object", name := "getClass", desc := "()Ljava/lang/Class;" } : Jvm.MethodName)) ∈ lw_all := lw_g (lw_at lw_m5 219 rfl) rfl
theorem q2754 : (Jvm.Cond.castable "DebtDoors$Wrong" "java/lang/Object") ∈ lw_tbl := lw_at lw_m11 230 rfl
theorem in_X8 : ∀ w ∈ wsX80, w ∈ lw_all := lw_in wsX80 [811, 812, 813, 814, 815, 829, 827] (by decide +kernel) (by decide +kernel)
/-! DebtDoors$Sum -/
set_option maxRecDepth 100000
def RX9 : String := "DebtDoors$Sum"
abbrev cX9_init : ByteArray := prog_28_method_1_code
def yX9_init : MethodName := ⟨RX9, "<init>", "()V"⟩
theorem q149 : (Jvm.Cond.initialized "DebtDoors$Sum") ∈ lw_all := lw_g (lw_at lw_m1 25 rfl) rfl
theorem q553 : (Jvm.Cond.declares ({ cls := "DebtDoors$Sum", name := "of", desc := "(LDebtDoors$Asked;)J" } : Jvm.MethodName)) ∈ lw_tbl := lw_at lw_m2 189 rfl
theorem q554 : (Jvm.Cond.sameMethod "DebtDoors$Sum" "DebtDoors$Sum" "of" "(LDebtDoors$Asked;)J") ∈ lw_all := lw_g (lw_at lw_m2 190 rfl) rfl
theorem q951 : (Jvm.Cond.instanceMethod ({ cls := "DebtDoors$Sum", name := "<init>", desc := "()V" } : Jvm.MethodName)) ∈ lw_all := lw_g (lw_at lw_m4 107 rfl) rfl
theorem q952 : (Jvm.Cond.code ({ cls := "DebtDoors$Sum", name := "<init>", desc := "()V" } : Jvm.MethodName) prog_28_method_1_code (1 : Nat) (Option.none : Option Jvm.ClassFile.FieldType)) ∈ lw_all := lw_g (lw_at lw_m4 108 rfl) rfl
theorem q953 : (Jvm.Cond.methodLink "DebtDoors$Sum" (1 : Nat) ({ cls := "java/lang/Object", name := "<init>", desc := "()V" } : Jvm.MethodName)) ∈ lw_all := lw_g (lw_at lw_m4 109 rfl) rfl
theorem q124 : (Jvm.Cond.initialized "DebtDoorsLaw") ∈ lw_all := lw_g (lw_at lw_m1 0 rfl) rfl
set_option maxRecDepth 100000
theorem q177 : (Jvm.Cond.classLink "DebtDoorsLaw" (7 : Nat) "DebtDoors") ∈ lw_all := lw_g (lw_at lw_m1 53 rfl) rfl
theorem q179 : (Jvm.Cond.methodLink "DebtDoorsLaw" (9 : Nat) ({ cls := "DebtDoors", name := "<init>", desc := "()V" } : Jvm.MethodName)) ∈ lw_all := lw_g (lw_at lw_m1 55 rfl) rfl
theorem q408 : (Jvm.Cond.methodLink "DebtDoorsLaw" (43 : Nat) ({ cls := "DebtDoors", name := "feed", desc := "(IIIII)I" } : Jvm.MethodName)) ∈ lw_all := lw_g (lw_at lw_m2 44 rfl) rfl
theorem q416 : (Jvm.Cond.methodLink "DebtDoorsLaw" (48 : Nat) ({ cls := "DebtDoors", name := "end", desc := "(I)I" } : Jvm.MethodName)) ∈ lw_all := lw_g (lw_at lw_m2 52 rfl) rfl
theorem q423 : (Jvm.Cond.methodLink "DebtDoorsLaw" (13 : Nat) ({ cls := "DebtDoors", name := "person", desc := "(III)I" } : Jvm.MethodName)) ∈ lw_all := lw_g (lw_at lw_m2 59 rfl) rfl
theorem q455 : (Jvm.Cond.methodLink "DebtDoorsLaw" (18 : Nat) ({ cls := "DebtDoors", name := "put", desc := "(III)I" } : Jvm.MethodName)) ∈ lw_all := lw_g (lw_at lw_m2 91 rfl) rfl
theorem q471 : (Jvm.Cond.methodLink "DebtDoorsLaw" (22 : Nat) ({ cls := "DebtDoors", name := "of", desc := "(II)I" } : Jvm.MethodName)) ∈ lw_all := lw_g (lw_at lw_m2 107 rfl) rfl
theorem q476 : (Jvm.Cond.methodLink "DebtDoorsLaw" (27 : Nat) ({ cls := "DebtDoors", name := "debt", desc := "(III)I" } : Jvm.MethodName)) ∈ lw_all := lw_g (lw_at lw_m2 112 rfl) rfl
theorem q491 : (Jvm.Cond.methodLink "DebtDoorsLaw" (31 : Nat) ({ cls := "DebtDoors", name := "at", desc := "(II)I" } : Jvm.MethodName)) ∈ lw_all := lw_g (lw_at lw_m2 127 rfl) rfl
theorem q605 : (Jvm.Cond.methodLink "DebtDoorsLaw" (35 : Nat) ({ cls := "DebtDoors", name := "owes", desc := "(II)I" } : Jvm.MethodName)) ∈ lw_all := lw_g (lw_at lw_m3 1 rfl) rfl
theorem q610 : (Jvm.Cond.methodLink "DebtDoorsLaw" (39 : Nat) ({ cls := "DebtDoors", name := "terms", desc := "(II)I" } : Jvm.MethodName)) ∈ lw_all := lw_g (lw_at lw_m3 6 rfl) rfl
theorem q616 : (Jvm.Cond.methodLink "DebtDoorsLaw" (53 : Nat) ({ cls := "DebtDoors", name := "row", desc := "()I" } : Jvm.MethodName)) ∈ lw_all := lw_g (lw_at lw_m3 12 rfl) rfl
theorem q700 : (Jvm.Cond.methodLink "DebtDoorsLaw" (58 : Nat) ({ cls := "DebtDoors", name := "blots", desc := "()I" } : Jvm.MethodName)) ∈ lw_all := lw_g (lw_at lw_m3 96 rfl) rfl
theorem q704 : (Jvm.Cond.methodLink "DebtDoorsLaw" (62 : Nat) ({ cls := "DebtDoors", name := "law", desc := "()I" } : Jvm.MethodName)) ∈ lw_all := lw_g (lw_at lw_m3 100 rfl) rfl
theorem q1318 : (Jvm.Cond.methodLink "DebtDoorsLaw" (70 : Nat) ({ cls := "DebtDoors", name := "fault", desc := "()I" } : Jvm.MethodName)) ∈ lw_all := lw_g (lw_at lw_m5 234 rfl) rfl
theorem q1322 : (Jvm.Cond.methodLink "DebtDoorsLaw" (78 : Nat) ({ cls := "DebtDoors", name := "force", desc := "(I)I" } : Jvm.MethodName)) ∈ lw_all := lw_g (lw_at lw_m5 238 rfl) rfl
theorem q1326 : (Jvm.Cond.methodLink "DebtDoorsLaw" (82 : Nat) ({ cls := "DebtDoors", name := "deep", desc := "(II)I" } : Jvm.MethodName)) ∈ lw_all := lw_g (lw_at lw_m6 2 rfl) rfl
theorem q1342 : (Jvm.Cond.methodLink "DebtDoorsLaw" (86 : Nat) ({ cls := "DebtDoors", name := "doors", desc := "(I)I" } : Jvm.MethodName)) ∈ lw_all := lw_g (lw_at lw_m6 18 rfl) rfl
theorem q1350 : (Jvm.Cond.methodLink "DebtDoorsLaw" (90 : Nat) ({ cls := "DebtDoors", name := "lend", desc := "(III)I" } : Jvm.MethodName)) ∈ lw_all := lw_g (lw_at lw_m6 26 rfl) rfl
theorem q1406 : (Jvm.Cond.methodLink "DebtDoorsLaw" (94 : Nat) ({ cls := "DebtDoors", name := "repay", desc := "(III)I" } : Jvm.MethodName)) ∈ lw_all := lw_g (lw_at lw_m6 82 rfl) rfl
theorem q1429 : (Jvm.Cond.methodLink "DebtDoorsLaw" (98 : Nat) ({ cls := "DebtDoors", name := "forgive", desc := "(I)I" } : Jvm.MethodName)) ∈ lw_all := lw_g (lw_at lw_m6 105 rfl) rfl
theorem q1434 : (Jvm.Cond.methodLink "DebtDoorsLaw" (102 : Nat) ({ cls := "DebtDoors", name := "sell", desc := "(II)I" } : Jvm.MethodName)) ∈ lw_all := lw_g (lw_at lw_m6 110 rfl) rfl
theorem q1438 : (Jvm.Cond.methodLink "DebtDoorsLaw" (106 : Nat) ({ cls := "DebtDoors", name := "await", desc := "()I" } : Jvm.MethodName)) ∈ lw_all := lw_g (lw_at lw_m6 114 rfl) rfl
theorem q1450 : (Jvm.Cond.methodLink "DebtDoorsLaw" (114 : Nat) ({ cls := "DebtDoors", name := "undo", desc := "()I" } : Jvm.MethodName)) ∈ lw_all := lw_g (lw_at lw_m6 126 rfl) rfl
theorem q1458 : (Jvm.Cond.methodLink "DebtDoorsLaw" (118 : Nat) ({ cls := "DebtDoors", name := "need", desc := "(III)I" } : Jvm.MethodName)) ∈ lw_all := lw_g (lw_at lw_m6 134 rfl) rfl
theorem q1466 : (Jvm.Cond.methodLink "DebtDoorsLaw" (122 : Nat) ({ cls := "DebtDoors", name := "visit", desc := "(IIII)I" } : Jvm.MethodName)) ∈ lw_all := lw_g (lw_at lw_m6 142 rfl) rfl
theorem q1498 : (Jvm.Cond.methodLink "DebtDoorsLaw" (127 : Nat) ({ cls := "DebtDoors", name := "cancel", desc := "()I" } : Jvm.MethodName)) ∈ lw_all := lw_g (lw_at lw_m6 174 rfl) rfl
theorem q1502 : (Jvm.Cond.methodLink "DebtDoorsLaw" (131 : Nat) ({ cls := "DebtDoors", name := "lendings", desc := "(I)I" } : Jvm.MethodName)) ∈ lw_all := lw_g (lw_at lw_m6 178 rfl) rfl
theorem q1594 : (Jvm.Cond.methodLink "DebtDoorsLaw" (135 : Nat) ({ cls := "DebtDoors", name := "plan", desc := "(I)I" } : Jvm.MethodName)) ∈ lw_all := lw_g (lw_at lw_m7 30 rfl) rfl
theorem q1617 : (Jvm.Cond.methodLink "DebtDoorsLaw" (139 : Nat) ({ cls := "DebtDoors", name := "thief", desc := "(IIII)I" } : Jvm.MethodName)) ∈ lw_all := lw_g (lw_at lw_m7 53 rfl) rfl
theorem q1629 : (Jvm.Cond.methodLink "DebtDoorsLaw" (143 : Nat) ({ cls := "DebtDoors", name := "shut", desc := "(III)I" } : Jvm.MethodName)) ∈ lw_all := lw_g (lw_at lw_m7 65 rfl) rfl
theorem q1637 : (Jvm.Cond.methodLink "DebtDoorsLaw" (147 : Nat) ({ cls := "DebtDoors", name := "ban", desc := "(I)I" } : Jvm.MethodName)) ∈ lw_all := lw_g (lw_at lw_m7 73 rfl) rfl
theorem q1641 : (Jvm.Cond.methodLink "DebtDoorsLaw" (151 : Nat) ({ cls := "DebtDoors", name := "party", desc := "(I)I" } : Jvm.MethodName)) ∈ lw_all := lw_g (lw_at lw_m7 77 rfl) rfl
theorem q1649 : (Jvm.Cond.methodLink "DebtDoorsLaw" (155 : Nat) ({ cls := "DebtDoors", name := "ring", desc := "(I)I" } : Jvm.MethodName)) ∈ lw_all := lw_g (lw_at lw_m7 85 rfl) rfl
theorem q1693 : (Jvm.Cond.methodLink "DebtDoorsLaw" (110 : Nat) ({ cls := "DebtDoors", name := "clear", desc := "()I" } : Jvm.MethodName)) ∈ lw_all := lw_g (lw_at lw_m7 129 rfl) rfl
theorem q1712 : (Jvm.Cond.methodLink "DebtDoorsLaw" (159 : Nat) ({ cls := "DebtDoors", name := "cleared", desc := "(I)I" } : Jvm.MethodName)) ∈ lw_all := lw_g (lw_at lw_m7 148 rfl) rfl
theorem q1716 : (Jvm.Cond.methodLink "DebtDoorsLaw" (163 : Nat) ({ cls := "DebtDoors", name := "balance", desc := "(I)I" } : Jvm.MethodName)) ∈ lw_all := lw_g (lw_at lw_m7 152 rfl) rfl
theorem q1725 : (Jvm.Cond.methodLink "DebtDoorsLaw" (167 : Nat) ({ cls := "DebtDoors", name := "payments", desc := "()I" } : Jvm.MethodName)) ∈ lw_all := lw_g (lw_at lw_m7 161 rfl) rfl
theorem q1733 : (Jvm.Cond.methodLink "DebtDoorsLaw" (171 : Nat) ({ cls := "DebtDoors", name := "scuff", desc := "(IIII)I" } : Jvm.MethodName)) ∈ lw_all := lw_g (lw_at lw_m7 169 rfl) rfl
theorem q1760 : (Jvm.Cond.methodLink "DebtDoorsLaw" (175 : Nat) ({ cls := "DebtDoors", name := "sweep", desc := "()I" } : Jvm.MethodName)) ∈ lw_all := lw_g (lw_at lw_m7 196 rfl) rfl
theorem q1764 : (Jvm.Cond.methodLink "DebtDoorsLaw" (179 : Nat) ({ cls := "DebtDoors", name := "secret", desc := "(I)I" } : Jvm.MethodName)) ∈ lw_all := lw_g (lw_at lw_m7 200 rfl) rfl
theorem q1772 : (Jvm.Cond.methodLink "DebtDoorsLaw" (183 : Nat) ({ cls := "DebtDoors", name := "denied", desc := "()I" } : Jvm.MethodName)) ∈ lw_all := lw_g (lw_at lw_m7 208 rfl) rfl
theorem q1776 : (Jvm.Cond.methodLink "DebtDoorsLaw" (66 : Nat) ({ cls := "DebtDoors", name := "orders", desc := "()I" } : Jvm.MethodName)) ∈ lw_all := lw_g (lw_at lw_m7 212 rfl) rfl
theorem q1899 : (Jvm.Cond.methodLink "DebtDoorsLaw" (74 : Nat) ({ cls := "DebtDoors", name := "stopped", desc := "()I" } : Jvm.MethodName)) ∈ lw_all := lw_g (lw_at lw_m8 95 rfl) rfl
theorem q1903 : (Jvm.Cond.methodLink "DebtDoorsLaw" (187 : Nat) ({ cls := "DebtDoors", name := "month", desc := "(II)I" } : Jvm.MethodName)) ∈ lw_all := lw_g (lw_at lw_m8 99 rfl) rfl
theorem q1927 : (Jvm.Cond.methodLink "DebtDoorsLaw" (191 : Nat) ({ cls := "DebtDoors", name := "drawn", desc := "(II)I" } : Jvm.MethodName)) ∈ lw_all := lw_g (lw_at lw_m8 123 rfl) rfl
theorem q1931 : (Jvm.Cond.methodLink "DebtDoorsLaw" (195 : Nat) ({ cls := "DebtDoors", name := "image", desc := "(I)I" } : Jvm.MethodName)) ∈ lw_all := lw_g (lw_at lw_m8 127 rfl) rfl
theorem q1944 : (Jvm.Cond.methodLink "DebtDoorsLaw" (199 : Nat) ({ cls := "DebtDoors", name := "back", desc := "(I)I" } : Jvm.MethodName)) ∈ lw_all := lw_g (lw_at lw_m8 140 rfl) rfl
theorem q1948 : (Jvm.Cond.methodLink "DebtDoorsLaw" (203 : Nat) ({ cls := "DebtDoors", name := "count", desc := "(I)I" } : Jvm.MethodName)) ∈ lw_all := lw_g (lw_at lw_m8 144 rfl) rfl
theorem q1952 : (Jvm.Cond.methodLink "DebtDoorsLaw" (207 : Nat) ({ cls := "DebtDoors", name := "status", desc := "()I" } : Jvm.MethodName)) ∈ lw_all := lw_g (lw_at lw_m8 148 rfl) rfl
theorem q1956 : (Jvm.Cond.classLink "DebtDoorsLaw" (10 : Nat) "DebtDoorsModel") ∈ lw_all := lw_g (lw_at lw_m8 152 rfl) rfl
theorem q1958 : (Jvm.Cond.methodLink "DebtDoorsLaw" (12 : Nat) ({ cls := "DebtDoorsModel", name := "<init>", desc := "()V" } : Jvm.MethodName)) ∈ lw_all := lw_g (lw_at lw_m8 154 rfl) rfl
theorem q2147 : (Jvm.Cond.methodLink "DebtDoorsLaw" (198 : Nat) ({ cls := "DebtDoorsModel", name := "image", desc := "(I)I" } : Jvm.MethodName)) ∈ lw_all := lw_g (lw_at lw_m9 103 rfl) rfl
theorem q2162 : (Jvm.Cond.methodLink "DebtDoorsLaw" (202 : Nat) ({ cls := "DebtDoorsModel", name := "back", desc := "(I)I" } : Jvm.MethodName)) ∈ lw_all := lw_g (lw_at lw_m9 118 rfl) rfl
theorem q2170 : (Jvm.Cond.methodLink "DebtDoorsLaw" (17 : Nat) ({ cls := "DebtDoorsModel", name := "person", desc := "(III)I" } : Jvm.MethodName)) ∈ lw_all := lw_g (lw_at lw_m9 126 rfl) rfl
theorem q2187 : (Jvm.Cond.methodLink "DebtDoorsLaw" (21 : Nat) ({ cls := "DebtDoorsModel", name := "put", desc := "(III)I" } : Jvm.MethodName)) ∈ lw_all := lw_g (lw_at lw_m9 143 rfl) rfl
theorem q2195 : (Jvm.Cond.methodLink "DebtDoorsLaw" (26 : Nat) ({ cls := "DebtDoorsModel", name := "of", desc := "(II)I" } : Jvm.MethodName)) ∈ lw_all := lw_g (lw_at lw_m9 151 rfl) rfl
theorem q2199 : (Jvm.Cond.methodLink "DebtDoorsLaw" (30 : Nat) ({ cls := "DebtDoorsModel", name := "debt", desc := "(III)I" } : Jvm.MethodName)) ∈ lw_all := lw_g (lw_at lw_m9 155 rfl) rfl
theorem q2218 : (Jvm.Cond.methodLink "DebtDoorsLaw" (34 : Nat) ({ cls := "DebtDoorsModel", name := "at", desc := "(II)I" } : Jvm.MethodName)) ∈ lw_all := lw_g (lw_at lw_m9 174 rfl) rfl
theorem q2300 : (Jvm.Cond.methodLink "DebtDoorsLaw" (38 : Nat) ({ cls := "DebtDoorsModel", name := "owes", desc := "(II)I" } : Jvm.MethodName)) ∈ lw_all := lw_g (lw_at lw_m10 16 rfl) rfl
theorem q2304 : (Jvm.Cond.methodLink "DebtDoorsLaw" (42 : Nat) ({ cls := "DebtDoorsModel", name := "terms", desc := "(II)I" } : Jvm.MethodName)) ∈ lw_all := lw_g (lw_at lw_m10 20 rfl) rfl
theorem q2308 : (Jvm.Cond.methodLink "DebtDoorsLaw" (57 : Nat) ({ cls := "DebtDoorsModel", name := "row", desc := "()I" } : Jvm.MethodName)) ∈ lw_all := lw_g (lw_at lw_m10 24 rfl) rfl
theorem q2312 : (Jvm.Cond.methodLink "DebtDoorsLaw" (61 : Nat) ({ cls := "DebtDoorsModel", name := "blots", desc := "()I" } : Jvm.MethodName)) ∈ lw_all := lw_g (lw_at lw_m10 28 rfl) rfl
theorem q2316 : (Jvm.Cond.methodLink "DebtDoorsLaw" (47 : Nat) ({ cls := "DebtDoorsModel", name := "feed", desc := "(IIIII)I" } : Jvm.MethodName)) ∈ lw_all := lw_g (lw_at lw_m10 32 rfl) rfl
theorem q2320 : (Jvm.Cond.methodLink "DebtDoorsLaw" (52 : Nat) ({ cls := "DebtDoorsModel", name := "end", desc := "(I)I" } : Jvm.MethodName)) ∈ lw_all := lw_g (lw_at lw_m10 36 rfl) rfl
theorem q2324 : (Jvm.Cond.methodLink "DebtDoorsLaw" (65 : Nat) ({ cls := "DebtDoorsModel", name := "law", desc := "()I" } : Jvm.MethodName)) ∈ lw_all := lw_g (lw_at lw_m10 40 rfl) rfl
theorem q2415 : (Jvm.Cond.methodLink "DebtDoorsLaw" (73 : Nat) ({ cls := "DebtDoorsModel", name := "fault", desc := "()I" } : Jvm.MethodName)) ∈ lw_all := lw_g (lw_at lw_m10 131 rfl) rfl
theorem q2419 : (Jvm.Cond.methodLink "DebtDoorsLaw" (81 : Nat) ({ cls := "DebtDoorsModel", name := "force", desc := "(I)I" } : Jvm.MethodName)) ∈ lw_all := lw_g (lw_at lw_m10 135 rfl) rfl
theorem q2423 : (Jvm.Cond.methodLink "DebtDoorsLaw" (85 : Nat) ({ cls := "DebtDoorsModel", name := "deep", desc := "(II)I" } : Jvm.MethodName)) ∈ lw_all := lw_g (lw_at lw_m10 139 rfl) rfl
theorem q2442 : (Jvm.Cond.methodLink "DebtDoorsLaw" (89 : Nat) ({ cls := "DebtDoorsModel", name := "doors", desc := "(I)I" } : Jvm.MethodName)) ∈ lw_all := lw_g (lw_at lw_m10 158 rfl) rfl
theorem q2450 : (Jvm.Cond.methodLink "DebtDoorsLaw" (117 : Nat) ({ cls := "DebtDoorsModel", name := "undo", desc := "()I" } : Jvm.MethodName)) ∈ lw_all := lw_g (lw_at lw_m10 166 rfl) rfl
theorem q2454 : (Jvm.Cond.methodLink "DebtDoorsLaw" (93 : Nat) ({ cls := "DebtDoorsModel", name := "lend", desc := "(III)I" } : Jvm.MethodName)) ∈ lw_all := lw_g (lw_at lw_m10 170 rfl) rfl
theorem q2478 : (Jvm.Cond.methodLink "DebtDoorsLaw" (97 : Nat) ({ cls := "DebtDoorsModel", name := "repay", desc := "(III)I" } : Jvm.MethodName)) ∈ lw_all := lw_g (lw_at lw_m10 194 rfl) rfl
theorem q2502 : (Jvm.Cond.methodLink "DebtDoorsLaw" (109 : Nat) ({ cls := "DebtDoorsModel", name := "await", desc := "()I" } : Jvm.MethodName)) ∈ lw_all := lw_g (lw_at lw_m10 218 rfl) rfl
theorem q2514 : (Jvm.Cond.methodLink "DebtDoorsLaw" (101 : Nat) ({ cls := "DebtDoorsModel", name := "forgive", desc := "(I)I" } : Jvm.MethodName)) ∈ lw_all := lw_g (lw_at lw_m10 230 rfl) rfl
theorem q2518 : (Jvm.Cond.methodLink "DebtDoorsLaw" (105 : Nat) ({ cls := "DebtDoorsModel", name := "sell", desc := "(II)I" } : Jvm.MethodName)) ∈ lw_all := lw_g (lw_at lw_m10 234 rfl) rfl
theorem q2522 : (Jvm.Cond.methodLink "DebtDoorsLaw" (121 : Nat) ({ cls := "DebtDoorsModel", name := "need", desc := "(III)I" } : Jvm.MethodName)) ∈ lw_all := lw_g (lw_at lw_m10 238 rfl) rfl
theorem q2530 : (Jvm.Cond.methodLink "DebtDoorsLaw" (126 : Nat) ({ cls := "DebtDoorsModel", name := "visit", desc := "(IIII)I" } : Jvm.MethodName)) ∈ lw_all := lw_g (lw_at lw_m11 6 rfl) rfl
theorem q2538 : (Jvm.Cond.methodLink "DebtDoorsLaw" (130 : Nat) ({ cls := "DebtDoorsModel", name := "cancel", desc := "()I" } : Jvm.MethodName)) ∈ lw_all := lw_g (lw_at lw_m11 14 rfl) rfl
theorem q2546 : (Jvm.Cond.methodLink "DebtDoorsLaw" (134 : Nat) ({ cls := "DebtDoorsModel", name := "lendings", desc := "(I)I" } : Jvm.MethodName)) ∈ lw_all := lw_g (lw_at lw_m11 22 rfl) rfl
theorem q2569 : (Jvm.Cond.methodLink "DebtDoorsLaw" (138 : Nat) ({ cls := "DebtDoorsModel", name := "plan", desc := "(I)I" } : Jvm.MethodName)) ∈ lw_all := lw_g (lw_at lw_m11 45 rfl) rfl
theorem q2585 : (Jvm.Cond.methodLink "DebtDoorsLaw" (142 : Nat) ({ cls := "DebtDoorsModel", name := "thief", desc := "(IIII)I" } : Jvm.MethodName)) ∈ lw_all := lw_g (lw_at lw_m11 61 rfl) rfl
theorem q2596 : (Jvm.Cond.methodLink "DebtDoorsLaw" (146 : Nat) ({ cls := "DebtDoorsModel", name := "shut", desc := "(III)I" } : Jvm.MethodName)) ∈ lw_all := lw_g (lw_at lw_m11 72 rfl) rfl
theorem q2604 : (Jvm.Cond.methodLink "DebtDoorsLaw" (150 : Nat) ({ cls := "DebtDoorsModel", name := "ban", desc := "(I)I" } : Jvm.MethodName)) ∈ lw_all := lw_g (lw_at lw_m11 80 rfl) rfl
theorem q2608 : (Jvm.Cond.methodLink "DebtDoorsLaw" (154 : Nat) ({ cls := "DebtDoorsModel", name := "party", desc := "(I)I" } : Jvm.MethodName)) ∈ lw_all := lw_g (lw_at lw_m11 84 rfl) rfl
theorem q2613 : (Jvm.Cond.methodLink "DebtDoorsLaw" (158 : Nat) ({ cls := "DebtDoorsModel", name := "ring", desc := "(I)I" } : Jvm.MethodName)) ∈ lw_all := lw_g (lw_at lw_m11 89 rfl) rfl
theorem q2625 : (Jvm.Cond.methodLink "DebtDoorsLaw" (113 : Nat) ({ cls := "DebtDoorsModel", name := "clear", desc := "()I" } : Jvm.MethodName)) ∈ lw_all := lw_g (lw_at lw_m11 101 rfl) rfl
theorem q2637 : (Jvm.Cond.methodLink "DebtDoorsLaw" (162 : Nat) ({ cls := "DebtDoorsModel", name := "cleared", desc := "(I)I" } : Jvm.MethodName)) ∈ lw_all := lw_g (lw_at lw_m11 113 rfl) rfl
theorem q2641 : (Jvm.Cond.methodLink "DebtDoorsLaw" (166 : Nat) ({ cls := "DebtDoorsModel", name := "balance", desc := "(I)I" } : Jvm.MethodName)) ∈ lw_all := lw_g (lw_at lw_m11 117 rfl) rfl
theorem q2650 : (Jvm.Cond.methodLink "DebtDoorsLaw" (170 : Nat) ({ cls := "DebtDoorsModel", name := "payments", desc := "()I" } : Jvm.MethodName)) ∈ lw_all := lw_g (lw_at lw_m11 126 rfl) rfl
theorem q2654 : (Jvm.Cond.methodLink "DebtDoorsLaw" (174 : Nat) ({ cls := "DebtDoorsModel", name := "scuff", desc := "(IIII)I" } : Jvm.MethodName)) ∈ lw_all := lw_g (lw_at lw_m11 130 rfl) rfl
theorem q2658 : (Jvm.Cond.methodLink "DebtDoorsLaw" (178 : Nat) ({ cls := "DebtDoorsModel", name := "sweep", desc := "()I" } : Jvm.MethodName)) ∈ lw_all := lw_g (lw_at lw_m11 134 rfl) rfl
theorem q2662 : (Jvm.Cond.methodLink "DebtDoorsLaw" (182 : Nat) ({ cls := "DebtDoorsModel", name := "secret", desc := "(I)I" } : Jvm.MethodName)) ∈ lw_all := lw_g (lw_at lw_m11 138 rfl) rfl
theorem q2670 : (Jvm.Cond.methodLink "DebtDoorsLaw" (186 : Nat) ({ cls := "DebtDoorsModel", name := "denied", desc := "()I" } : Jvm.MethodName)) ∈ lw_all := lw_g (lw_at lw_m11 146 rfl) rfl
theorem q2674 : (Jvm.Cond.methodLink "DebtDoorsLaw" (77 : Nat) ({ cls := "DebtDoorsModel", name := "stopped", desc := "()I" } : Jvm.MethodName)) ∈ lw_all := lw_g (lw_at lw_m11 150 rfl) rfl
theorem q2678 : (Jvm.Cond.methodLink "DebtDoorsLaw" (69 : Nat) ({ cls := "DebtDoorsModel", name := "orders", desc := "()I" } : Jvm.MethodName)) ∈ lw_all := lw_g (lw_at lw_m11 154 rfl) rfl
theorem q2694 : (Jvm.Cond.methodLink "DebtDoorsLaw" (190 : Nat) ({ cls := "DebtDoorsModel", name := "month", desc := "(II)I" } : Jvm.MethodName)) ∈ lw_all := lw_g (lw_at lw_m11 170 rfl) rfl
theorem q2705 : (Jvm.Cond.methodLink "DebtDoorsLaw" (194 : Nat) ({ cls := "DebtDoorsModel", name := "drawn", desc := "(II)I" } : Jvm.MethodName)) ∈ lw_all := lw_g (lw_at lw_m11 181 rfl) rfl
theorem q2709 : (Jvm.Cond.methodLink "DebtDoorsLaw" (206 : Nat) ({ cls := "DebtDoorsModel", name := "count", desc := "(I)I" } : Jvm.MethodName)) ∈ lw_all := lw_g (lw_at lw_m11 185 rfl) rfl
theorem q2713 : (Jvm.Cond.methodLink "DebtDoorsLaw" (210 : Nat) ({ cls := "DebtDoorsModel", name := "status", desc := "()I" } : Jvm.MethodName)) ∈ lw_all := lw_g (lw_at lw_m11 189 rfl) rfl
theorem q2788 : (Jvm.Cond.castable "[B" "java/lang/Object") ∈ lw_tbl := lw_at lw_m12 24 rfl
set_option maxRecDepth 100000
theorem q2783 : (Jvm.Cond.castable "[I" "java/lang/Object") ∈ lw_tbl := lw_at lw_m12 19 rfl
set_option maxRecDepth 100000
theorem q2785 : (Jvm.Cond.castable "[J" "java/lang/Object") ∈ lw_tbl := lw_at lw_m12 21 rfl
set_option maxRecDepth 100000
theorem q2787 : (Jvm.Cond.castable "[LDebtDoors$Books;" "java/lang/Object") ∈ lw_tbl := lw_at lw_m12 23 rfl
set_option maxRecDepth 100000
theorem q2786 : (Jvm.Cond.castable "[LDebtDoors$Clause;" "java/lang/Object") ∈ lw_tbl := lw_at lw_m12 22 rfl
set_option maxRecDepth 100000
theorem q2793 : (Jvm.Cond.castable "[LDebtDoors$Order;" "java/lang/Object") ∈ lw_tbl := lw_at lw_m12 29 rfl
set_option maxRecDepth 100000
theorem q2784 : (Jvm.Cond.castable "[LDebtDoors$Street;" "java/lang/Object") ∈ lw_tbl := lw_at lw_m12 20 rfl
set_option maxRecDepth 100000
theorem q2790 : (Jvm.Cond.castable "[LDebtDoors$Test;" "java/lang/Object") ∈ lw_tbl := lw_at lw_m12 26 rfl
set_option maxRecDepth 100000
theorem q2781 : (Jvm.Cond.sameMethod "[Ljava/lang/Object;" "java/lang/Object" "getClass" "()Ljava/lang/Class;") ∈ lw_all := lw_g (lw_at lw_m12 17 rfl) rfl
set_option maxRecDepth 100000
theorem q2782 : (Jvm.Cond.selects "[Ljava/lang/Object;" ({ cls := "java/lang/Object", name := "getClass", desc := "()Ljava/lang/Class;" } : Jvm.MethodName) ({ cls := "java/lang/Object", name := "getClass", desc := "()Ljava/lang/Class;" } : Jvm.MethodName)) ∈ lw_all := lw_g (lw_at lw_m12 18 rfl) rfl
theorem q2791 : (Jvm.Cond.castable "[Ljava/lang/Object;" "java/lang/Object") ∈ lw_tbl := lw_at lw_m12 27 rfl
theorem q2789 : (Jvm.Cond.castable "[Ljava/lang/String;" "java/lang/Object") ∈ lw_tbl := lw_at lw_m12 25 rfl
set_option maxRecDepth 100000
theorem q2794 : (Jvm.Cond.castable "[Z" "java/lang/Object") ∈ lw_tbl := lw_at lw_m12 30 rfl
set_option maxRecDepth 100000
theorem q2792 : (Jvm.Cond.castable "[[I" "java/lang/Object") ∈ lw_tbl := lw_at lw_m12 28 rfl
set_option maxRecDepth 100000
theorem q143 : (Jvm.Cond.initialized "java/lang/System") ∈ lw_all := lw_g (lw_at lw_m1 19 rfl) rfl
set_option maxRecDepth 100000
theorem q695 : (Jvm.Cond.static ({ cls := "java/lang/System", name := "arraycopy", desc := "(Ljava/lang/Object;ILjava/lang/Object;II)V" } : Jvm.MethodName)) ∈ lw_all := lw_g (lw_at lw_m3 91 rfl) rfl
theorem q696 : (Jvm.Cond.native ({ cls := "java/lang/System", name := "arraycopy", desc := "(Ljava/lang/Object;ILjava/lang/Object;II)V" } : Jvm.MethodName)) ∈ lw_all := lw_g (lw_at lw_m3 92 rfl) rfl
theorem q1822 : (Jvm.Cond.interfaceMethod "java/util/Collection" "java/util/Collection" "toArray" "()[Ljava/lang/Object;") ∈ lw_tbl := lw_at lw_m8 18 rfl
set_option maxRecDepth 100000
theorem q1823 : (Jvm.Cond.declares ({ cls := "java/util/Collection", name := "toArray", desc := "()[Ljava/lang/Object;" } : Jvm.MethodName)) ∈ lw_tbl := lw_at lw_m8 19 rfl
theorem q1832 : (Jvm.Cond.interfaceMethod "java/util/Collection" "java/lang/Object" "getClass" "()Ljava/lang/Class;") ∈ lw_tbl := lw_at lw_m8 28 rfl
theorem q259 : (Jvm.Cond.arrayClass Jvm.ClassFile.FieldType.int) ∈ lw_all := lw_g (lw_at lw_m1 135 rfl) rfl
set_option maxRecDepth 100000
theorem q300 : (Jvm.Cond.arrayOver (Jvm.ClassFile.FieldType.object "DebtDoors$Street")) ∈ lw_tbl := lw_at lw_m1 176 rfl
theorem q325 : (Jvm.Cond.arrayClass Jvm.ClassFile.FieldType.long) ∈ lw_all := lw_g (lw_at lw_m1 201 rfl) rfl
theorem q329 : (Jvm.Cond.arrayOver (Jvm.ClassFile.FieldType.object "DebtDoors$Clause")) ∈ lw_tbl := lw_at lw_m1 205 rfl
theorem q340 : (Jvm.Cond.arrayOver (Jvm.ClassFile.FieldType.object "DebtDoors$Books")) ∈ lw_tbl := lw_at lw_m1 216 rfl
theorem q407 : (Jvm.Cond.arrayClass Jvm.ClassFile.FieldType.byte) ∈ lw_all := lw_g (lw_at lw_m2 43 rfl) rfl
theorem q719 : (Jvm.Cond.arrayOver (Jvm.ClassFile.FieldType.object "java/lang/String")) ∈ lw_tbl := lw_at lw_m3 115 rfl
theorem q735 : (Jvm.Cond.arrayOver (Jvm.ClassFile.FieldType.object "DebtDoors$Test")) ∈ lw_tbl := lw_at lw_m3 131 rfl
theorem q1312 : (Jvm.Cond.arrayOver (Jvm.ClassFile.FieldType.object "java/lang/Object")) ∈ lw_tbl := lw_at lw_m5 228 rfl
theorem q1660 : (Jvm.Cond.arrayOver (Jvm.ClassFile.FieldType.array Jvm.ClassFile.FieldType.int)) ∈ lw_tbl := lw_at lw_m7 96 rfl
theorem q1793 : (Jvm.Cond.arrayOver (Jvm.ClassFile.FieldType.object "DebtDoors$Order")) ∈ lw_tbl := lw_at lw_m7 229 rfl
theorem q2146 : (Jvm.Cond.arrayClass Jvm.ClassFile.FieldType.boolean) ∈ lw_all := lw_g (lw_at lw_m9 102 rfl) rfl
