/-! DECODE ROWS BY BYTES: one lemma an opcode; a method's code is cut into short pieces once, and a row reads its own piece alone. -/
set_option maxRecDepth 100000
/-- the code has just these bytes from pc on -/
def DkAt (code : ByteArray) (pc : Nat) (bs : List UInt8) : Prop := ∀ (j : Nat) (b : UInt8), bs[j]? = some b → code.data.toList[pc + j]? = some b
/-- the piece W has the bytes bs from its place j on -/
def dkIn (W : List UInt8) (j : Nat) (bs : List UInt8) : Bool := decide ((W.drop j).take bs.length = bs)
theorem dk_seg {l W T : List UInt8} {o o2 : Nat} (h : l.drop o = W ++ T) (n : Nat) (hn : W.length = n) (ho : o + n = o2) : l.drop o2 = T := by
  subst ho
  rw [← List.drop_drop, h, List.drop_left' hn]
theorem dk_at {code : ByteArray} {W T bs : List UInt8} {o pc : Nat} (h : code.data.toList.drop o = W ++ T) (j : Nat) (hp : o + j = pc) (hw : dkIn W j bs = true) : DkAt code pc bs := by
  subst hp
  intro i b e
  have h1 := of_decide_eq_true hw
  have h2 : i < bs.length := (List.getElem?_eq_some_iff.mp e).1
  have h3 : W[j + i]? = some b := by
    rw [← h1, List.getElem?_take, if_pos h2, List.getElem?_drop] at e
    exact e
  have h4 : j + i < W.length := (List.getElem?_eq_some_iff.mp h3).1
  have h5 : (code.data.toList.drop o)[j + i]? = some b := by
    rw [h, List.getElem?_append_left h4]
    exact h3
  rw [List.getElem?_drop, ← Nat.add_assoc] at h5
  exact h5
theorem dk_u1 {A : ByteArray} {p : Nat} {b : UInt8} (h : A.data.toList[p]? = some b) : (Reader.u1 : Reader DecodeError Nat) A p = .ok (b.toNat, p + 1) := by
  obtain ⟨h1, h2⟩ := List.getElem?_eq_some_iff.mp h
  have h3 : p < A.size := by simpa using h1
  have h4 : A[p]'h3 = b := h2
  have e : (Reader.u1 : Reader DecodeError Nat) A p = (if h : p < A.size then .ok (A[p].toNat, p + 1) else .error (HasTruncated.truncated p)) := by
    show (do if h : p < A.size then do set (p + 1); Pure.pure A[p].toNat else MonadExcept.throw (HasTruncated.truncated p) : Reader DecodeError Nat) A p = _
    by_cases hi : p < A.size
    · rw [dif_pos hi, dif_pos hi]; rfl
    · rw [dif_neg hi, dif_neg hi]; rfl
  rw [e, dif_pos h3, h4]
theorem dk_bind {α β : Type} {r : Reader DecodeError α} {f : α → Reader DecodeError β} {A : ByteArray} {p s : Nat} {a : α} (h : r A p = .ok (a, s)) : (r >>= f) A p = f a A s := by
  show (do let (a, s) ← r A p; f a A s : Except DecodeError (β × Nat)) = _
  rw [h]
  rfl
theorem dk_map {α β : Type} {r : Reader DecodeError α} {g : α → β} {A : ByteArray} {p s : Nat} {a : α} (h : r A p = .ok (a, s)) : (g <$> r) A p = .ok (g a, s) := by
  show (do let (a, s) ← r A p; .ok (g a, s) : Except DecodeError (β × Nat)) = _
  rw [h]
  rfl
theorem dk_u2 {A : ByteArray} {p : Nat} {a b : UInt8} (h : A.data.toList[p]? = some a) (h2 : A.data.toList[p + 1]? = some b) : (Reader.u2 : Reader DecodeError Nat) A p = .ok (a.toNat * 256 + b.toNat, p + 2) := by
  show (Reader.u1 >>= fun hi => Reader.u1 >>= fun lo => Pure.pure (hi * 256 + lo) : Reader DecodeError Nat) A p = _
  rw [dk_bind (dk_u1 h), dk_bind (dk_u1 h2)]
  rfl
theorem dk_of {code : ByteArray} {pc n : Nat} {i : Instr} (h : Decoder.instr pc code pc = .ok (i, pc + n)) : decode code pc = .ok (i, n) := by
  have e : decode code pc = (match Decoder.instr pc code pc with | .error x => .error x | .ok (j, s) => .ok (j, s - pc)) := by
    show (do let (j, s) ← Decoder.instr pc code pc; Pure.pure (j, s - pc) : Except DecodeError (Instr × Nat)) = _
    cases Decoder.instr pc code pc <;> rfl
  rw [e, h]
  show Except.ok (i, pc + n - pc) = _
  rw [Nat.add_sub_cancel_left]
theorem dk_1 {code : ByteArray} {pc : Nat} (h : DkAt code pc [1]) : decode code pc = .ok (.aconst_null, 1) := dk_of ((dk_bind (dk_u1 (h 0 _ rfl))).trans rfl)
theorem dk_2 {code : ByteArray} {pc : Nat} (h : DkAt code pc [2]) : decode code pc = .ok (.iconst (-1), 1) := dk_of ((dk_bind (dk_u1 (h 0 _ rfl))).trans rfl)
theorem dk_3 {code : ByteArray} {pc : Nat} (h : DkAt code pc [3]) : decode code pc = .ok (.iconst 0, 1) := dk_of ((dk_bind (dk_u1 (h 0 _ rfl))).trans rfl)
theorem dk_4 {code : ByteArray} {pc : Nat} (h : DkAt code pc [4]) : decode code pc = .ok (.iconst 1, 1) := dk_of ((dk_bind (dk_u1 (h 0 _ rfl))).trans rfl)
theorem dk_5 {code : ByteArray} {pc : Nat} (h : DkAt code pc [5]) : decode code pc = .ok (.iconst 2, 1) := dk_of ((dk_bind (dk_u1 (h 0 _ rfl))).trans rfl)
theorem dk_6 {code : ByteArray} {pc : Nat} (h : DkAt code pc [6]) : decode code pc = .ok (.iconst 3, 1) := dk_of ((dk_bind (dk_u1 (h 0 _ rfl))).trans rfl)
theorem dk_7 {code : ByteArray} {pc : Nat} (h : DkAt code pc [7]) : decode code pc = .ok (.iconst 4, 1) := dk_of ((dk_bind (dk_u1 (h 0 _ rfl))).trans rfl)
theorem dk_8 {code : ByteArray} {pc : Nat} (h : DkAt code pc [8]) : decode code pc = .ok (.iconst 5, 1) := dk_of ((dk_bind (dk_u1 (h 0 _ rfl))).trans rfl)
theorem dk_9 {code : ByteArray} {pc : Nat} (h : DkAt code pc [9]) : decode code pc = .ok (.lconst 0, 1) := dk_of ((dk_bind (dk_u1 (h 0 _ rfl))).trans rfl)
theorem dk_10 {code : ByteArray} {pc : Nat} (h : DkAt code pc [10]) : decode code pc = .ok (.lconst 1, 1) := dk_of ((dk_bind (dk_u1 (h 0 _ rfl))).trans rfl)
theorem dk_14 {code : ByteArray} {pc : Nat} (h : DkAt code pc [14]) : decode code pc = .ok (.dconst 0, 1) := dk_of ((dk_bind (dk_u1 (h 0 _ rfl))).trans rfl)
theorem dk_16 {code : ByteArray} {pc : Nat} (a : UInt8) (h : DkAt code pc [16, a]) : decode code pc = .ok (.bipush (Reader.signed 8 a.toNat), 2) := dk_of ((dk_bind (dk_u1 (h 0 _ rfl))).trans ((dk_bind (dk_map (dk_u1 (h 1 _ rfl)))).trans rfl))
theorem dk_17 {code : ByteArray} {pc : Nat} (a b : UInt8) (h : DkAt code pc [17, a, b]) : decode code pc = .ok (.sipush (Reader.signed 16 (a.toNat * 256 + b.toNat)), 3) := dk_of ((dk_bind (dk_u1 (h 0 _ rfl))).trans ((dk_bind (dk_map (dk_u2 (h 1 _ rfl) (h 2 _ rfl)))).trans rfl))
theorem dk_18 {code : ByteArray} {pc : Nat} (a : UInt8) (h : DkAt code pc [18, a]) : decode code pc = .ok (.ldc a.toNat, 2) := dk_of ((dk_bind (dk_u1 (h 0 _ rfl))).trans ((dk_bind (dk_u1 (h 1 _ rfl))).trans rfl))
theorem dk_19 {code : ByteArray} {pc : Nat} (a b : UInt8) (h : DkAt code pc [19, a, b]) : decode code pc = .ok (.ldc_w (a.toNat * 256 + b.toNat), 3) := dk_of ((dk_bind (dk_u1 (h 0 _ rfl))).trans ((dk_bind (dk_u2 (h 1 _ rfl) (h 2 _ rfl))).trans rfl))
theorem dk_20 {code : ByteArray} {pc : Nat} (a b : UInt8) (h : DkAt code pc [20, a, b]) : decode code pc = .ok (.ldc2_w (a.toNat * 256 + b.toNat), 3) := dk_of ((dk_bind (dk_u1 (h 0 _ rfl))).trans ((dk_bind (dk_u2 (h 1 _ rfl) (h 2 _ rfl))).trans rfl))
theorem dk_21 {code : ByteArray} {pc : Nat} (a : UInt8) (h : DkAt code pc [21, a]) : decode code pc = .ok (.iload a.toNat, 2) := dk_of ((dk_bind (dk_u1 (h 0 _ rfl))).trans ((dk_bind (dk_u1 (h 1 _ rfl))).trans rfl))
theorem dk_22 {code : ByteArray} {pc : Nat} (a : UInt8) (h : DkAt code pc [22, a]) : decode code pc = .ok (.lload a.toNat, 2) := dk_of ((dk_bind (dk_u1 (h 0 _ rfl))).trans ((dk_bind (dk_u1 (h 1 _ rfl))).trans rfl))
theorem dk_24 {code : ByteArray} {pc : Nat} (a : UInt8) (h : DkAt code pc [24, a]) : decode code pc = .ok (.dload a.toNat, 2) := dk_of ((dk_bind (dk_u1 (h 0 _ rfl))).trans ((dk_bind (dk_u1 (h 1 _ rfl))).trans rfl))
theorem dk_25 {code : ByteArray} {pc : Nat} (a : UInt8) (h : DkAt code pc [25, a]) : decode code pc = .ok (.aload a.toNat, 2) := dk_of ((dk_bind (dk_u1 (h 0 _ rfl))).trans ((dk_bind (dk_u1 (h 1 _ rfl))).trans rfl))
theorem dk_26 {code : ByteArray} {pc : Nat} (h : DkAt code pc [26]) : decode code pc = .ok (.iload_n 0, 1) := dk_of ((dk_bind (dk_u1 (h 0 _ rfl))).trans rfl)
theorem dk_27 {code : ByteArray} {pc : Nat} (h : DkAt code pc [27]) : decode code pc = .ok (.iload_n 1, 1) := dk_of ((dk_bind (dk_u1 (h 0 _ rfl))).trans rfl)
theorem dk_28 {code : ByteArray} {pc : Nat} (h : DkAt code pc [28]) : decode code pc = .ok (.iload_n 2, 1) := dk_of ((dk_bind (dk_u1 (h 0 _ rfl))).trans rfl)
theorem dk_29 {code : ByteArray} {pc : Nat} (h : DkAt code pc [29]) : decode code pc = .ok (.iload_n 3, 1) := dk_of ((dk_bind (dk_u1 (h 0 _ rfl))).trans rfl)
theorem dk_30 {code : ByteArray} {pc : Nat} (h : DkAt code pc [30]) : decode code pc = .ok (.lload_n 0, 1) := dk_of ((dk_bind (dk_u1 (h 0 _ rfl))).trans rfl)
theorem dk_32 {code : ByteArray} {pc : Nat} (h : DkAt code pc [32]) : decode code pc = .ok (.lload_n 2, 1) := dk_of ((dk_bind (dk_u1 (h 0 _ rfl))).trans rfl)
theorem dk_42 {code : ByteArray} {pc : Nat} (h : DkAt code pc [42]) : decode code pc = .ok (.aload_n 0, 1) := dk_of ((dk_bind (dk_u1 (h 0 _ rfl))).trans rfl)
theorem dk_43 {code : ByteArray} {pc : Nat} (h : DkAt code pc [43]) : decode code pc = .ok (.aload_n 1, 1) := dk_of ((dk_bind (dk_u1 (h 0 _ rfl))).trans rfl)
theorem dk_44 {code : ByteArray} {pc : Nat} (h : DkAt code pc [44]) : decode code pc = .ok (.aload_n 2, 1) := dk_of ((dk_bind (dk_u1 (h 0 _ rfl))).trans rfl)
theorem dk_45 {code : ByteArray} {pc : Nat} (h : DkAt code pc [45]) : decode code pc = .ok (.aload_n 3, 1) := dk_of ((dk_bind (dk_u1 (h 0 _ rfl))).trans rfl)
theorem dk_46 {code : ByteArray} {pc : Nat} (h : DkAt code pc [46]) : decode code pc = .ok (.iaload, 1) := dk_of ((dk_bind (dk_u1 (h 0 _ rfl))).trans rfl)
theorem dk_47 {code : ByteArray} {pc : Nat} (h : DkAt code pc [47]) : decode code pc = .ok (.laload, 1) := dk_of ((dk_bind (dk_u1 (h 0 _ rfl))).trans rfl)
theorem dk_49 {code : ByteArray} {pc : Nat} (h : DkAt code pc [49]) : decode code pc = .ok (.daload, 1) := dk_of ((dk_bind (dk_u1 (h 0 _ rfl))).trans rfl)
theorem dk_50 {code : ByteArray} {pc : Nat} (h : DkAt code pc [50]) : decode code pc = .ok (.aaload, 1) := dk_of ((dk_bind (dk_u1 (h 0 _ rfl))).trans rfl)
theorem dk_51 {code : ByteArray} {pc : Nat} (h : DkAt code pc [51]) : decode code pc = .ok (.baload, 1) := dk_of ((dk_bind (dk_u1 (h 0 _ rfl))).trans rfl)
theorem dk_52 {code : ByteArray} {pc : Nat} (h : DkAt code pc [52]) : decode code pc = .ok (.caload, 1) := dk_of ((dk_bind (dk_u1 (h 0 _ rfl))).trans rfl)
theorem dk_54 {code : ByteArray} {pc : Nat} (a : UInt8) (h : DkAt code pc [54, a]) : decode code pc = .ok (.istore a.toNat, 2) := dk_of ((dk_bind (dk_u1 (h 0 _ rfl))).trans ((dk_bind (dk_u1 (h 1 _ rfl))).trans rfl))
theorem dk_57 {code : ByteArray} {pc : Nat} (a : UInt8) (h : DkAt code pc [57, a]) : decode code pc = .ok (.dstore a.toNat, 2) := dk_of ((dk_bind (dk_u1 (h 0 _ rfl))).trans ((dk_bind (dk_u1 (h 1 _ rfl))).trans rfl))
theorem dk_58 {code : ByteArray} {pc : Nat} (a : UInt8) (h : DkAt code pc [58, a]) : decode code pc = .ok (.astore a.toNat, 2) := dk_of ((dk_bind (dk_u1 (h 0 _ rfl))).trans ((dk_bind (dk_u1 (h 1 _ rfl))).trans rfl))
theorem dk_59 {code : ByteArray} {pc : Nat} (h : DkAt code pc [59]) : decode code pc = .ok (.istore_n 0, 1) := dk_of ((dk_bind (dk_u1 (h 0 _ rfl))).trans rfl)
theorem dk_60 {code : ByteArray} {pc : Nat} (h : DkAt code pc [60]) : decode code pc = .ok (.istore_n 1, 1) := dk_of ((dk_bind (dk_u1 (h 0 _ rfl))).trans rfl)
theorem dk_61 {code : ByteArray} {pc : Nat} (h : DkAt code pc [61]) : decode code pc = .ok (.istore_n 2, 1) := dk_of ((dk_bind (dk_u1 (h 0 _ rfl))).trans rfl)
theorem dk_62 {code : ByteArray} {pc : Nat} (h : DkAt code pc [62]) : decode code pc = .ok (.istore_n 3, 1) := dk_of ((dk_bind (dk_u1 (h 0 _ rfl))).trans rfl)
theorem dk_76 {code : ByteArray} {pc : Nat} (h : DkAt code pc [76]) : decode code pc = .ok (.astore_n 1, 1) := dk_of ((dk_bind (dk_u1 (h 0 _ rfl))).trans rfl)
theorem dk_77 {code : ByteArray} {pc : Nat} (h : DkAt code pc [77]) : decode code pc = .ok (.astore_n 2, 1) := dk_of ((dk_bind (dk_u1 (h 0 _ rfl))).trans rfl)
theorem dk_78 {code : ByteArray} {pc : Nat} (h : DkAt code pc [78]) : decode code pc = .ok (.astore_n 3, 1) := dk_of ((dk_bind (dk_u1 (h 0 _ rfl))).trans rfl)
theorem dk_79 {code : ByteArray} {pc : Nat} (h : DkAt code pc [79]) : decode code pc = .ok (.iastore, 1) := dk_of ((dk_bind (dk_u1 (h 0 _ rfl))).trans rfl)
theorem dk_80 {code : ByteArray} {pc : Nat} (h : DkAt code pc [80]) : decode code pc = .ok (.lastore, 1) := dk_of ((dk_bind (dk_u1 (h 0 _ rfl))).trans rfl)
theorem dk_82 {code : ByteArray} {pc : Nat} (h : DkAt code pc [82]) : decode code pc = .ok (.dastore, 1) := dk_of ((dk_bind (dk_u1 (h 0 _ rfl))).trans rfl)
theorem dk_83 {code : ByteArray} {pc : Nat} (h : DkAt code pc [83]) : decode code pc = .ok (.aastore, 1) := dk_of ((dk_bind (dk_u1 (h 0 _ rfl))).trans rfl)
theorem dk_84 {code : ByteArray} {pc : Nat} (h : DkAt code pc [84]) : decode code pc = .ok (.bastore, 1) := dk_of ((dk_bind (dk_u1 (h 0 _ rfl))).trans rfl)
theorem dk_85 {code : ByteArray} {pc : Nat} (h : DkAt code pc [85]) : decode code pc = .ok (.castore, 1) := dk_of ((dk_bind (dk_u1 (h 0 _ rfl))).trans rfl)
theorem dk_87 {code : ByteArray} {pc : Nat} (h : DkAt code pc [87]) : decode code pc = .ok (.pop, 1) := dk_of ((dk_bind (dk_u1 (h 0 _ rfl))).trans rfl)
theorem dk_89 {code : ByteArray} {pc : Nat} (h : DkAt code pc [89]) : decode code pc = .ok (.dup, 1) := dk_of ((dk_bind (dk_u1 (h 0 _ rfl))).trans rfl)
theorem dk_90 {code : ByteArray} {pc : Nat} (h : DkAt code pc [90]) : decode code pc = .ok (.dup_x1, 1) := dk_of ((dk_bind (dk_u1 (h 0 _ rfl))).trans rfl)
theorem dk_92 {code : ByteArray} {pc : Nat} (h : DkAt code pc [92]) : decode code pc = .ok (.dup2, 1) := dk_of ((dk_bind (dk_u1 (h 0 _ rfl))).trans rfl)
theorem dk_96 {code : ByteArray} {pc : Nat} (h : DkAt code pc [96]) : decode code pc = .ok (.iadd, 1) := dk_of ((dk_bind (dk_u1 (h 0 _ rfl))).trans rfl)
theorem dk_97 {code : ByteArray} {pc : Nat} (h : DkAt code pc [97]) : decode code pc = .ok (.ladd, 1) := dk_of ((dk_bind (dk_u1 (h 0 _ rfl))).trans rfl)
theorem dk_100 {code : ByteArray} {pc : Nat} (h : DkAt code pc [100]) : decode code pc = .ok (.isub, 1) := dk_of ((dk_bind (dk_u1 (h 0 _ rfl))).trans rfl)
theorem dk_104 {code : ByteArray} {pc : Nat} (h : DkAt code pc [104]) : decode code pc = .ok (.imul, 1) := dk_of ((dk_bind (dk_u1 (h 0 _ rfl))).trans rfl)
theorem dk_108 {code : ByteArray} {pc : Nat} (h : DkAt code pc [108]) : decode code pc = .ok (.idiv, 1) := dk_of ((dk_bind (dk_u1 (h 0 _ rfl))).trans rfl)
theorem dk_111 {code : ByteArray} {pc : Nat} (h : DkAt code pc [111]) : decode code pc = .ok (.ddiv, 1) := dk_of ((dk_bind (dk_u1 (h 0 _ rfl))).trans rfl)
theorem dk_112 {code : ByteArray} {pc : Nat} (h : DkAt code pc [112]) : decode code pc = .ok (.irem, 1) := dk_of ((dk_bind (dk_u1 (h 0 _ rfl))).trans rfl)
theorem dk_116 {code : ByteArray} {pc : Nat} (h : DkAt code pc [116]) : decode code pc = .ok (.ineg, 1) := dk_of ((dk_bind (dk_u1 (h 0 _ rfl))).trans rfl)
theorem dk_120 {code : ByteArray} {pc : Nat} (h : DkAt code pc [120]) : decode code pc = .ok (.ishl, 1) := dk_of ((dk_bind (dk_u1 (h 0 _ rfl))).trans rfl)
theorem dk_122 {code : ByteArray} {pc : Nat} (h : DkAt code pc [122]) : decode code pc = .ok (.ishr, 1) := dk_of ((dk_bind (dk_u1 (h 0 _ rfl))).trans rfl)
theorem dk_124 {code : ByteArray} {pc : Nat} (h : DkAt code pc [124]) : decode code pc = .ok (.iushr, 1) := dk_of ((dk_bind (dk_u1 (h 0 _ rfl))).trans rfl)
theorem dk_126 {code : ByteArray} {pc : Nat} (h : DkAt code pc [126]) : decode code pc = .ok (.iand, 1) := dk_of ((dk_bind (dk_u1 (h 0 _ rfl))).trans rfl)
theorem dk_128 {code : ByteArray} {pc : Nat} (h : DkAt code pc [128]) : decode code pc = .ok (.ior, 1) := dk_of ((dk_bind (dk_u1 (h 0 _ rfl))).trans rfl)
theorem dk_132 {code : ByteArray} {pc : Nat} (a b : UInt8) (h : DkAt code pc [132, a, b]) : decode code pc = .ok (.iinc a.toNat (Reader.signed 8 b.toNat), 3) := dk_of ((dk_bind (dk_u1 (h 0 _ rfl))).trans ((dk_bind (dk_u1 (h 1 _ rfl))).trans ((dk_bind (dk_map (dk_u1 (h 2 _ rfl)))).trans rfl)))
theorem dk_133 {code : ByteArray} {pc : Nat} (h : DkAt code pc [133]) : decode code pc = .ok (.i2l, 1) := dk_of ((dk_bind (dk_u1 (h 0 _ rfl))).trans rfl)
theorem dk_135 {code : ByteArray} {pc : Nat} (h : DkAt code pc [135]) : decode code pc = .ok (.i2d, 1) := dk_of ((dk_bind (dk_u1 (h 0 _ rfl))).trans rfl)
theorem dk_136 {code : ByteArray} {pc : Nat} (h : DkAt code pc [136]) : decode code pc = .ok (.l2i, 1) := dk_of ((dk_bind (dk_u1 (h 0 _ rfl))).trans rfl)
theorem dk_145 {code : ByteArray} {pc : Nat} (h : DkAt code pc [145]) : decode code pc = .ok (.i2b, 1) := dk_of ((dk_bind (dk_u1 (h 0 _ rfl))).trans rfl)
theorem dk_146 {code : ByteArray} {pc : Nat} (h : DkAt code pc [146]) : decode code pc = .ok (.i2c, 1) := dk_of ((dk_bind (dk_u1 (h 0 _ rfl))).trans rfl)
theorem dk_148 {code : ByteArray} {pc : Nat} (h : DkAt code pc [148]) : decode code pc = .ok (.lcmp, 1) := dk_of ((dk_bind (dk_u1 (h 0 _ rfl))).trans rfl)
theorem dk_151 {code : ByteArray} {pc : Nat} (h : DkAt code pc [151]) : decode code pc = .ok (.dcmp .l, 1) := dk_of ((dk_bind (dk_u1 (h 0 _ rfl))).trans rfl)
theorem dk_153 {code : ByteArray} {pc : Nat} (a b : UInt8) (h : DkAt code pc [153, a, b]) : decode code pc = .ok (.ifCond .eq (Reader.signed 16 (a.toNat * 256 + b.toNat)), 3) := dk_of ((dk_bind (dk_u1 (h 0 _ rfl))).trans ((dk_bind (dk_map (dk_u2 (h 1 _ rfl) (h 2 _ rfl)))).trans rfl))
theorem dk_154 {code : ByteArray} {pc : Nat} (a b : UInt8) (h : DkAt code pc [154, a, b]) : decode code pc = .ok (.ifCond .ne (Reader.signed 16 (a.toNat * 256 + b.toNat)), 3) := dk_of ((dk_bind (dk_u1 (h 0 _ rfl))).trans ((dk_bind (dk_map (dk_u2 (h 1 _ rfl) (h 2 _ rfl)))).trans rfl))
theorem dk_155 {code : ByteArray} {pc : Nat} (a b : UInt8) (h : DkAt code pc [155, a, b]) : decode code pc = .ok (.ifCond .lt (Reader.signed 16 (a.toNat * 256 + b.toNat)), 3) := dk_of ((dk_bind (dk_u1 (h 0 _ rfl))).trans ((dk_bind (dk_map (dk_u2 (h 1 _ rfl) (h 2 _ rfl)))).trans rfl))
theorem dk_156 {code : ByteArray} {pc : Nat} (a b : UInt8) (h : DkAt code pc [156, a, b]) : decode code pc = .ok (.ifCond .ge (Reader.signed 16 (a.toNat * 256 + b.toNat)), 3) := dk_of ((dk_bind (dk_u1 (h 0 _ rfl))).trans ((dk_bind (dk_map (dk_u2 (h 1 _ rfl) (h 2 _ rfl)))).trans rfl))
theorem dk_157 {code : ByteArray} {pc : Nat} (a b : UInt8) (h : DkAt code pc [157, a, b]) : decode code pc = .ok (.ifCond .gt (Reader.signed 16 (a.toNat * 256 + b.toNat)), 3) := dk_of ((dk_bind (dk_u1 (h 0 _ rfl))).trans ((dk_bind (dk_map (dk_u2 (h 1 _ rfl) (h 2 _ rfl)))).trans rfl))
theorem dk_158 {code : ByteArray} {pc : Nat} (a b : UInt8) (h : DkAt code pc [158, a, b]) : decode code pc = .ok (.ifCond .le (Reader.signed 16 (a.toNat * 256 + b.toNat)), 3) := dk_of ((dk_bind (dk_u1 (h 0 _ rfl))).trans ((dk_bind (dk_map (dk_u2 (h 1 _ rfl) (h 2 _ rfl)))).trans rfl))
theorem dk_159 {code : ByteArray} {pc : Nat} (a b : UInt8) (h : DkAt code pc [159, a, b]) : decode code pc = .ok (.if_icmp .eq (Reader.signed 16 (a.toNat * 256 + b.toNat)), 3) := dk_of ((dk_bind (dk_u1 (h 0 _ rfl))).trans ((dk_bind (dk_map (dk_u2 (h 1 _ rfl) (h 2 _ rfl)))).trans rfl))
theorem dk_160 {code : ByteArray} {pc : Nat} (a b : UInt8) (h : DkAt code pc [160, a, b]) : decode code pc = .ok (.if_icmp .ne (Reader.signed 16 (a.toNat * 256 + b.toNat)), 3) := dk_of ((dk_bind (dk_u1 (h 0 _ rfl))).trans ((dk_bind (dk_map (dk_u2 (h 1 _ rfl) (h 2 _ rfl)))).trans rfl))
theorem dk_161 {code : ByteArray} {pc : Nat} (a b : UInt8) (h : DkAt code pc [161, a, b]) : decode code pc = .ok (.if_icmp .lt (Reader.signed 16 (a.toNat * 256 + b.toNat)), 3) := dk_of ((dk_bind (dk_u1 (h 0 _ rfl))).trans ((dk_bind (dk_map (dk_u2 (h 1 _ rfl) (h 2 _ rfl)))).trans rfl))
theorem dk_162 {code : ByteArray} {pc : Nat} (a b : UInt8) (h : DkAt code pc [162, a, b]) : decode code pc = .ok (.if_icmp .ge (Reader.signed 16 (a.toNat * 256 + b.toNat)), 3) := dk_of ((dk_bind (dk_u1 (h 0 _ rfl))).trans ((dk_bind (dk_map (dk_u2 (h 1 _ rfl) (h 2 _ rfl)))).trans rfl))
theorem dk_163 {code : ByteArray} {pc : Nat} (a b : UInt8) (h : DkAt code pc [163, a, b]) : decode code pc = .ok (.if_icmp .gt (Reader.signed 16 (a.toNat * 256 + b.toNat)), 3) := dk_of ((dk_bind (dk_u1 (h 0 _ rfl))).trans ((dk_bind (dk_map (dk_u2 (h 1 _ rfl) (h 2 _ rfl)))).trans rfl))
theorem dk_164 {code : ByteArray} {pc : Nat} (a b : UInt8) (h : DkAt code pc [164, a, b]) : decode code pc = .ok (.if_icmp .le (Reader.signed 16 (a.toNat * 256 + b.toNat)), 3) := dk_of ((dk_bind (dk_u1 (h 0 _ rfl))).trans ((dk_bind (dk_map (dk_u2 (h 1 _ rfl) (h 2 _ rfl)))).trans rfl))
theorem dk_165 {code : ByteArray} {pc : Nat} (a b : UInt8) (h : DkAt code pc [165, a, b]) : decode code pc = .ok (.if_acmp .eq (Reader.signed 16 (a.toNat * 256 + b.toNat)), 3) := dk_of ((dk_bind (dk_u1 (h 0 _ rfl))).trans ((dk_bind (dk_map (dk_u2 (h 1 _ rfl) (h 2 _ rfl)))).trans rfl))
theorem dk_166 {code : ByteArray} {pc : Nat} (a b : UInt8) (h : DkAt code pc [166, a, b]) : decode code pc = .ok (.if_acmp .ne (Reader.signed 16 (a.toNat * 256 + b.toNat)), 3) := dk_of ((dk_bind (dk_u1 (h 0 _ rfl))).trans ((dk_bind (dk_map (dk_u2 (h 1 _ rfl) (h 2 _ rfl)))).trans rfl))
theorem dk_167 {code : ByteArray} {pc : Nat} (a b : UInt8) (h : DkAt code pc [167, a, b]) : decode code pc = .ok (.goto (Reader.signed 16 (a.toNat * 256 + b.toNat)), 3) := dk_of ((dk_bind (dk_u1 (h 0 _ rfl))).trans ((dk_bind (dk_map (dk_u2 (h 1 _ rfl) (h 2 _ rfl)))).trans rfl))
theorem dk_172 {code : ByteArray} {pc : Nat} (h : DkAt code pc [172]) : decode code pc = .ok (.ireturn, 1) := dk_of ((dk_bind (dk_u1 (h 0 _ rfl))).trans rfl)
theorem dk_173 {code : ByteArray} {pc : Nat} (h : DkAt code pc [173]) : decode code pc = .ok (.lreturn, 1) := dk_of ((dk_bind (dk_u1 (h 0 _ rfl))).trans rfl)
theorem dk_175 {code : ByteArray} {pc : Nat} (h : DkAt code pc [175]) : decode code pc = .ok (.dreturn, 1) := dk_of ((dk_bind (dk_u1 (h 0 _ rfl))).trans rfl)
theorem dk_176 {code : ByteArray} {pc : Nat} (h : DkAt code pc [176]) : decode code pc = .ok (.areturn, 1) := dk_of ((dk_bind (dk_u1 (h 0 _ rfl))).trans rfl)
theorem dk_177 {code : ByteArray} {pc : Nat} (h : DkAt code pc [177]) : decode code pc = .ok (.return_, 1) := dk_of ((dk_bind (dk_u1 (h 0 _ rfl))).trans rfl)
theorem dk_178 {code : ByteArray} {pc : Nat} (a b : UInt8) (h : DkAt code pc [178, a, b]) : decode code pc = .ok (.getstatic (a.toNat * 256 + b.toNat), 3) := dk_of ((dk_bind (dk_u1 (h 0 _ rfl))).trans ((dk_bind (dk_u2 (h 1 _ rfl) (h 2 _ rfl))).trans rfl))
theorem dk_180 {code : ByteArray} {pc : Nat} (a b : UInt8) (h : DkAt code pc [180, a, b]) : decode code pc = .ok (.getfield (a.toNat * 256 + b.toNat), 3) := dk_of ((dk_bind (dk_u1 (h 0 _ rfl))).trans ((dk_bind (dk_u2 (h 1 _ rfl) (h 2 _ rfl))).trans rfl))
theorem dk_181 {code : ByteArray} {pc : Nat} (a b : UInt8) (h : DkAt code pc [181, a, b]) : decode code pc = .ok (.putfield (a.toNat * 256 + b.toNat), 3) := dk_of ((dk_bind (dk_u1 (h 0 _ rfl))).trans ((dk_bind (dk_u2 (h 1 _ rfl) (h 2 _ rfl))).trans rfl))
theorem dk_182 {code : ByteArray} {pc : Nat} (a b : UInt8) (h : DkAt code pc [182, a, b]) : decode code pc = .ok (.invokevirtual (a.toNat * 256 + b.toNat), 3) := dk_of ((dk_bind (dk_u1 (h 0 _ rfl))).trans ((dk_bind (dk_u2 (h 1 _ rfl) (h 2 _ rfl))).trans rfl))
theorem dk_183 {code : ByteArray} {pc : Nat} (a b : UInt8) (h : DkAt code pc [183, a, b]) : decode code pc = .ok (.invokespecial (a.toNat * 256 + b.toNat), 3) := dk_of ((dk_bind (dk_u1 (h 0 _ rfl))).trans ((dk_bind (dk_u2 (h 1 _ rfl) (h 2 _ rfl))).trans rfl))
theorem dk_184 {code : ByteArray} {pc : Nat} (a b : UInt8) (h : DkAt code pc [184, a, b]) : decode code pc = .ok (.invokestatic (a.toNat * 256 + b.toNat), 3) := dk_of ((dk_bind (dk_u1 (h 0 _ rfl))).trans ((dk_bind (dk_u2 (h 1 _ rfl) (h 2 _ rfl))).trans rfl))
theorem dk_187 {code : ByteArray} {pc : Nat} (a b : UInt8) (h : DkAt code pc [187, a, b]) : decode code pc = .ok (.new (a.toNat * 256 + b.toNat), 3) := dk_of ((dk_bind (dk_u1 (h 0 _ rfl))).trans ((dk_bind (dk_u2 (h 1 _ rfl) (h 2 _ rfl))).trans rfl))
theorem dk_188_4 {code : ByteArray} {pc : Nat} (h : DkAt code pc [188, 4]) : decode code pc = .ok (.newarray .boolean, 2) := dk_of ((dk_bind (dk_u1 (h 0 _ rfl))).trans ((dk_bind (dk_u1 (h 1 _ rfl))).trans rfl))
theorem dk_188_5 {code : ByteArray} {pc : Nat} (h : DkAt code pc [188, 5]) : decode code pc = .ok (.newarray .char, 2) := dk_of ((dk_bind (dk_u1 (h 0 _ rfl))).trans ((dk_bind (dk_u1 (h 1 _ rfl))).trans rfl))
theorem dk_188_7 {code : ByteArray} {pc : Nat} (h : DkAt code pc [188, 7]) : decode code pc = .ok (.newarray .double, 2) := dk_of ((dk_bind (dk_u1 (h 0 _ rfl))).trans ((dk_bind (dk_u1 (h 1 _ rfl))).trans rfl))
theorem dk_188_8 {code : ByteArray} {pc : Nat} (h : DkAt code pc [188, 8]) : decode code pc = .ok (.newarray .byte, 2) := dk_of ((dk_bind (dk_u1 (h 0 _ rfl))).trans ((dk_bind (dk_u1 (h 1 _ rfl))).trans rfl))
theorem dk_188_10 {code : ByteArray} {pc : Nat} (h : DkAt code pc [188, 10]) : decode code pc = .ok (.newarray .int, 2) := dk_of ((dk_bind (dk_u1 (h 0 _ rfl))).trans ((dk_bind (dk_u1 (h 1 _ rfl))).trans rfl))
theorem dk_188_11 {code : ByteArray} {pc : Nat} (h : DkAt code pc [188, 11]) : decode code pc = .ok (.newarray .long, 2) := dk_of ((dk_bind (dk_u1 (h 0 _ rfl))).trans ((dk_bind (dk_u1 (h 1 _ rfl))).trans rfl))
theorem dk_189 {code : ByteArray} {pc : Nat} (a b : UInt8) (h : DkAt code pc [189, a, b]) : decode code pc = .ok (.anewarray (a.toNat * 256 + b.toNat), 3) := dk_of ((dk_bind (dk_u1 (h 0 _ rfl))).trans ((dk_bind (dk_u2 (h 1 _ rfl) (h 2 _ rfl))).trans rfl))
theorem dk_190 {code : ByteArray} {pc : Nat} (h : DkAt code pc [190]) : decode code pc = .ok (.arraylength, 1) := dk_of ((dk_bind (dk_u1 (h 0 _ rfl))).trans rfl)
theorem dk_191 {code : ByteArray} {pc : Nat} (h : DkAt code pc [191]) : decode code pc = .ok (.athrow, 1) := dk_of ((dk_bind (dk_u1 (h 0 _ rfl))).trans rfl)
theorem dk_192 {code : ByteArray} {pc : Nat} (a b : UInt8) (h : DkAt code pc [192, a, b]) : decode code pc = .ok (.checkcast (a.toNat * 256 + b.toNat), 3) := dk_of ((dk_bind (dk_u1 (h 0 _ rfl))).trans ((dk_bind (dk_u2 (h 1 _ rfl) (h 2 _ rfl))).trans rfl))
theorem dk_193 {code : ByteArray} {pc : Nat} (a b : UInt8) (h : DkAt code pc [193, a, b]) : decode code pc = .ok (.instanceof (a.toNat * 256 + b.toNat), 3) := dk_of ((dk_bind (dk_u1 (h 0 _ rfl))).trans ((dk_bind (dk_u2 (h 1 _ rfl) (h 2 _ rfl))).trans rfl))
theorem dk_198 {code : ByteArray} {pc : Nat} (a b : UInt8) (h : DkAt code pc [198, a, b]) : decode code pc = .ok (.ifnull (Reader.signed 16 (a.toNat * 256 + b.toNat)), 3) := dk_of ((dk_bind (dk_u1 (h 0 _ rfl))).trans ((dk_bind (dk_map (dk_u2 (h 1 _ rfl) (h 2 _ rfl)))).trans rfl))
theorem dk_199 {code : ByteArray} {pc : Nat} (a b : UInt8) (h : DkAt code pc [199, a, b]) : decode code pc = .ok (.ifnonnull (Reader.signed 16 (a.toNat * 256 + b.toNat)), 3) := dk_of ((dk_bind (dk_u1 (h 0 _ rfl))).trans ((dk_bind (dk_map (dk_u2 (h 1 _ rfl) (h 2 _ rfl)))).trans rfl))
/-! PuddleBoatyardLaw -/
def RX0 : String := "PuddleBoatyardLaw"
abbrev cX0_beginHull : ByteArray := method_3_code
def yX0_beginHull : MethodName := ⟨RX0, "beginHull", "(LPuddleBoatyard;[J)I"⟩
abbrev cX0_addFrame : ByteArray := method_4_code
def yX0_addFrame : MethodName := ⟨RX0, "addFrame", "(LPuddleBoatyard;III[J)I"⟩
abbrev cX0_mirror : ByteArray := method_5_code
def yX0_mirror : MethodName := ⟨RX0, "mirror", "(LPuddleBoatyard;I[J)I"⟩
abbrev cX0_setCargo : ByteArray := method_6_code
def yX0_setCargo : MethodName := ⟨RX0, "setCargo", "(LPuddleBoatyard;II[J)I"⟩
abbrev cX0_launch : ByteArray := method_7_code
def yX0_launch : MethodName := ⟨RX0, "launch", "(LPuddleBoatyard;I[J)I"⟩
abbrev cX0_caulk : ByteArray := method_8_code
def yX0_caulk : MethodName := ⟨RX0, "caulk", "(LPuddleBoatyard;II[J)I"⟩
abbrev cX0_pump : ByteArray := method_9_code
def yX0_pump : MethodName := ⟨RX0, "pump", "(LPuddleBoatyard;II[J)I"⟩
abbrev cX0_stateOf : ByteArray := method_10_code
def yX0_stateOf : MethodName := ⟨RX0, "stateOf", "(LPuddleBoatyard;I[J)I"⟩
abbrev cX0_frameCount : ByteArray := method_11_code
def yX0_frameCount : MethodName := ⟨RX0, "frameCount", "(LPuddleBoatyard;I[J)I"⟩
abbrev cX0_widthOf : ByteArray := method_12_code
def yX0_widthOf : MethodName := ⟨RX0, "widthOf", "(LPuddleBoatyard;IIZ[J)I"⟩
abbrev cX0_caulkingOf : ByteArray := method_13_code
def yX0_caulkingOf : MethodName := ⟨RX0, "caulkingOf", "(LPuddleBoatyard;II[J)I"⟩
abbrev cX0_waterIn : ByteArray := method_14_code
def yX0_waterIn : MethodName := ⟨RX0, "waterIn", "(LPuddleBoatyard;I[J)I"⟩
abbrev cX0_weightOf : ByteArray := method_15_code
def yX0_weightOf : MethodName := ⟨RX0, "weightOf", "(LPuddleBoatyard;I[J)I"⟩
abbrev cX0_draughtOf : ByteArray := method_16_code
def yX0_draughtOf : MethodName := ⟨RX0, "draughtOf", "(LPuddleBoatyard;I[J)I"⟩
abbrev cX0_draughtByHalving : ByteArray := method_17_code
def yX0_draughtByHalving : MethodName := ⟨RX0, "draughtByHalving", "(LPuddleBoatyard;I[J)I"⟩
abbrev cX0_heelOf : ByteArray := method_18_code
def yX0_heelOf : MethodName := ⟨RX0, "heelOf", "(LPuddleBoatyard;I[J)I"⟩
abbrev cX0_hullAtRank : ByteArray := method_19_code
def yX0_hullAtRank : MethodName := ⟨RX0, "hullAtRank", "(LPuddleBoatyard;I[J)I"⟩
abbrev cX0_isSymmetric : ByteArray := method_20_code
def yX0_isSymmetric : MethodName := ⟨RX0, "isSymmetric", "(LPuddleBoatyard;I[J)I"⟩
abbrev cX0_isReflectionOf : ByteArray := method_21_code
def yX0_isReflectionOf : MethodName := ⟨RX0, "isReflectionOf", "(LPuddleBoatyard;II[J)I"⟩
abbrev cX0_commonStretch : ByteArray := method_22_code
def yX0_commonStretch : MethodName := ⟨RX0, "commonStretch", "(LPuddleBoatyard;II[J)I"⟩
abbrev cX0_commonStretchByTrying : ByteArray := method_23_code
def yX0_commonStretchByTrying : MethodName := ⟨RX0, "commonStretchByTrying", "(LPuddleBoatyard;II[J)I"⟩
abbrev cX0_setTide : ByteArray := method_24_code
def yX0_setTide : MethodName := ⟨RX0, "setTide", "(LPuddleBoatyard;II[J)I"⟩
abbrev cX0_pass : ByteArray := method_25_code
def yX0_pass : MethodName := ⟨RX0, "pass", "(LPuddleBoatyard;I[J)I"⟩
abbrev cX0_tideAfter : ByteArray := method_26_code
def yX0_tideAfter : MethodName := ⟨RX0, "tideAfter", "(LPuddleBoatyard;I[J)I"⟩
abbrev cX0_hoursToLaunch : ByteArray := method_27_code
def yX0_hoursToLaunch : MethodName := ⟨RX0, "hoursToLaunch", "(LPuddleBoatyard;I[J)I"⟩
abbrev cX0_hoursToLaunchByTides : ByteArray := method_28_code
def yX0_hoursToLaunchByTides : MethodName := ⟨RX0, "hoursToLaunchByTides", "(LPuddleBoatyard;I[J)I"⟩
abbrev cX0_hoursToSinking : ByteArray := method_29_code
def yX0_hoursToSinking : MethodName := ⟨RX0, "hoursToSinking", "(LPuddleBoatyard;I[J)I"⟩
abbrev cX0_setSlip : ByteArray := method_30_code
def yX0_setSlip : MethodName := ⟨RX0, "setSlip", "(LPuddleBoatyard;II[J)I"⟩
abbrev cX0_slipLength : ByteArray := method_31_code
def yX0_slipLength : MethodName := ⟨RX0, "slipLength", "(LPuddleBoatyard;I[J)I"⟩
abbrev cX0_addOrder : ByteArray := method_32_code
def yX0_addOrder : MethodName := ⟨RX0, "addOrder", "(LPuddleBoatyard;III[J)I"⟩
abbrev cX0_deliver : ByteArray := method_33_code
def yX0_deliver : MethodName := ⟨RX0, "deliver", "(LPuddleBoatyard;II[J)I"⟩
abbrev cX0_orderAt : ByteArray := method_34_code
def yX0_orderAt : MethodName := ⟨RX0, "orderAt", "(LPuddleBoatyard;I[J)I"⟩
abbrev cX0_coinsFor : ByteArray := method_35_code
def yX0_coinsFor : MethodName := ⟨RX0, "coinsFor", "(LPuddleBoatyard;I[J)I"⟩
abbrev cX0_hullsIn : ByteArray := method_36_code
def yX0_hullsIn : MethodName := ⟨RX0, "hullsIn", "(LPuddleBoatyard;I[J)I"⟩
abbrev cX0_refusalReason : ByteArray := method_37_code
def yX0_refusalReason : MethodName := ⟨RX0, "refusalReason", "(LPuddleBoatyard;[J)I"⟩
abbrev cX0_meanWeight : ByteArray := method_38_code
def yX0_meanWeight : MethodName := ⟨RX0, "meanWeight", "(LPuddleBoatyard;[D)I"⟩
abbrev cX0_writeHull : ByteArray := method_39_code
def yX0_writeHull : MethodName := ⟨RX0, "writeHull", "(LPuddleBoatyard;I[J)I"⟩
abbrev cX0_lineAt : ByteArray := method_40_code
def yX0_lineAt : MethodName := ⟨RX0, "lineAt", "(LPuddleBoatyard;I[J)I"⟩
abbrev cX0_type : ByteArray := method_41_code
def yX0_type : MethodName := ⟨RX0, "type", "(LPuddleBoatyard;C[J)I"⟩
abbrev cX0_execute : ByteArray := method_42_code
def yX0_execute : MethodName := ⟨RX0, "execute", "(LPuddleBoatyard;[J)I"⟩
abbrev cX0_errorPosition : ByteArray := method_43_code
def yX0_errorPosition : MethodName := ⟨RX0, "errorPosition", "(LPuddleBoatyard;[J)I"⟩
abbrev cX0_failedCommand : ByteArray := method_44_code
def yX0_failedCommand : MethodName := ⟨RX0, "failedCommand", "(LPuddleBoatyard;[J)I"⟩
abbrev cX0_undo : ByteArray := method_45_code
def yX0_undo : MethodName := ⟨RX0, "undo", "(LPuddleBoatyard;[J)I"⟩
abbrev cX0_restore : ByteArray := method_46_code
def yX0_restore : MethodName := ⟨RX0, "restore", "(LPuddleBoatyard;[J)I"⟩
theorem q72 : (Jvm.Cond.initialized "PuddleBoatyardLaw") ∈ lw_all := lw_g (lw_at lw_m1 0 rfl) rfl
theorem q117 : (Jvm.Cond.classLink "PuddleBoatyardLaw" (8 : Nat) "PuddleBoatyard") ∈ lw_all := lw_g (lw_at lw_m1 45 rfl) rfl
theorem q119 : (Jvm.Cond.methodLink "PuddleBoatyardLaw" (163 : Nat) ({ cls := "PuddleBoatyard", name := "<init>", desc := "()V" } : Jvm.MethodName)) ∈ lw_all := lw_g (lw_at lw_m1 47 rfl) rfl
theorem q277 : (Jvm.Cond.methodLink "PuddleBoatyardLaw" (197 : Nat) ({ cls := "PuddleBoatyard", name := "hullCount", desc := "()I" } : Jvm.MethodName)) ∈ lw_all := lw_g (lw_at lw_m1 205 rfl) rfl
theorem q285 : (Jvm.Cond.methodLink "PuddleBoatyardLaw" (250 : Nat) ({ cls := "PuddleBoatyard", name := "hour", desc := "()I" } : Jvm.MethodName)) ∈ lw_all := lw_g (lw_at lw_m1 213 rfl) rfl
theorem q289 : (Jvm.Cond.methodLink "PuddleBoatyardLaw" (272 : Nat) ({ cls := "PuddleBoatyard", name := "mostOnSlips", desc := "()I" } : Jvm.MethodName)) ∈ lw_all := lw_g (lw_at lw_m1 217 rfl) rfl
theorem q353 : (Jvm.Cond.methodLink "PuddleBoatyardLaw" (276 : Nat) ({ cls := "PuddleBoatyard", name := "mostOnSlipsByLengths", desc := "()I" } : Jvm.MethodName)) ∈ lw_all := lw_g (lw_at lw_m2 41 rfl) rfl
theorem q367 : (Jvm.Cond.methodLink "PuddleBoatyardLaw" (280 : Nat) ({ cls := "PuddleBoatyard", name := "bestUses", desc := "()I" } : Jvm.MethodName)) ∈ lw_all := lw_g (lw_at lw_m2 55 rfl) rfl
theorem q376 : (Jvm.Cond.methodLink "PuddleBoatyardLaw" (290 : Nat) ({ cls := "PuddleBoatyard", name := "orderCount", desc := "()I" } : Jvm.MethodName)) ∈ lw_all := lw_g (lw_at lw_m2 64 rfl) rfl
theorem q380 : (Jvm.Cond.methodLink "PuddleBoatyardLaw" (300 : Nat) ({ cls := "PuddleBoatyard", name := "bestDelivery", desc := "()I" } : Jvm.MethodName)) ∈ lw_all := lw_g (lw_at lw_m2 68 rfl) rfl
theorem q406 : (Jvm.Cond.methodLink "PuddleBoatyardLaw" (304 : Nat) ({ cls := "PuddleBoatyard", name := "paidCoins", desc := "()J" } : Jvm.MethodName)) ∈ lw_all := lw_g (lw_at lw_m2 94 rfl) rfl
theorem q410 : (Jvm.Cond.methodLink "PuddleBoatyardLaw" (341 : Nat) ({ cls := "PuddleBoatyard", name := "save", desc := "()I" } : Jvm.MethodName)) ∈ lw_all := lw_g (lw_at lw_m2 98 rfl) rfl
theorem q535 : (Jvm.Cond.methodLink "PuddleBoatyardLaw" (167 : Nat) ({ cls := "PuddleBoatyardLaw", name := "beginHull", desc := "(LPuddleBoatyard;[J)I" } : Jvm.MethodName)) ∈ lw_all := lw_g (lw_at lw_m2 223 rfl) rfl
theorem q536 : (Jvm.Cond.static ({ cls := "PuddleBoatyardLaw", name := "beginHull", desc := "(LPuddleBoatyard;[J)I" } : Jvm.MethodName)) ∈ lw_all := lw_g (lw_at lw_m2 224 rfl) rfl
theorem q537 : (Jvm.Cond.codeWith ({ cls := "PuddleBoatyardLaw", name := "beginHull", desc := "(LPuddleBoatyard;[J)I" } : Jvm.MethodName) method_3_code (3 : Nat) (Option.some Jvm.ClassFile.FieldType.int) [((0 : Nat), (8 : Nat), (11 : Nat), (13 : Nat))]) ∈ lw_all := lw_g (lw_at lw_m2 225 rfl) rfl
theorem q538 : (Jvm.Cond.classLink "PuddleBoatyardLaw" (13 : Nat) "java/lang/IllegalStateException") ∈ lw_all := lw_g (lw_at lw_m2 226 rfl) rfl
theorem q539 : (Jvm.Cond.methodLink "PuddleBoatyardLaw" (7 : Nat) ({ cls := "PuddleBoatyard", name := "beginHull", desc := "()I" } : Jvm.MethodName)) ∈ lw_all := lw_g (lw_at lw_m2 227 rfl) rfl
theorem q1028 : (Jvm.Cond.methodLink "PuddleBoatyardLaw" (176 : Nat) ({ cls := "PuddleBoatyardLaw", name := "addFrame", desc := "(LPuddleBoatyard;III[J)I" } : Jvm.MethodName)) ∈ lw_all := lw_g (lw_at lw_m4 236 rfl) rfl
theorem q1029 : (Jvm.Cond.static ({ cls := "PuddleBoatyardLaw", name := "addFrame", desc := "(LPuddleBoatyard;III[J)I" } : Jvm.MethodName)) ∈ lw_all := lw_g (lw_at lw_m4 237 rfl) rfl
theorem q1030 : (Jvm.Cond.codeWith ({ cls := "PuddleBoatyardLaw", name := "addFrame", desc := "(LPuddleBoatyard;III[J)I" } : Jvm.MethodName) method_4_code (6 : Nat) (Option.some Jvm.ClassFile.FieldType.int) [((0 : Nat), (12 : Nat), (15 : Nat), (19 : Nat)), ((0 : Nat), (12 : Nat), (19 : Nat), (21 : Nat)), ((0 : Nat), (12 : Nat), (23 : Nat), (13 : Nat))]) ∈ lw_all := lw_g (lw_at lw_m4 238 rfl) rfl
theorem q1031 : (Jvm.Cond.classLink "PuddleBoatyardLaw" (19 : Nat) "java/lang/IndexOutOfBoundsException") ∈ lw_all := lw_g (lw_at lw_m4 239 rfl) rfl
theorem q1055 : (Jvm.Cond.classLink "PuddleBoatyardLaw" (21 : Nat) "java/lang/IllegalArgumentException") ∈ lw_all := lw_g (lw_at lw_m5 23 rfl) rfl
theorem q1056 : (Jvm.Cond.methodLink "PuddleBoatyardLaw" (15 : Nat) ({ cls := "PuddleBoatyard", name := "addFrame", desc := "(III)I" } : Jvm.MethodName)) ∈ lw_all := lw_g (lw_at lw_m5 24 rfl) rfl
theorem q1060 : (Jvm.Cond.methodLink "PuddleBoatyardLaw" (180 : Nat) ({ cls := "PuddleBoatyardLaw", name := "mirror", desc := "(LPuddleBoatyard;I[J)I" } : Jvm.MethodName)) ∈ lw_all := lw_g (lw_at lw_m5 28 rfl) rfl
theorem q1061 : (Jvm.Cond.static ({ cls := "PuddleBoatyardLaw", name := "mirror", desc := "(LPuddleBoatyard;I[J)I" } : Jvm.MethodName)) ∈ lw_all := lw_g (lw_at lw_m5 29 rfl) rfl
theorem q1062 : (Jvm.Cond.codeWith ({ cls := "PuddleBoatyardLaw", name := "mirror", desc := "(LPuddleBoatyard;I[J)I" } : Jvm.MethodName) method_5_code (4 : Nat) (Option.some Jvm.ClassFile.FieldType.int) [((0 : Nat), (9 : Nat), (12 : Nat), (19 : Nat)), ((0 : Nat), (9 : Nat), (15 : Nat), (13 : Nat))]) ∈ lw_all := lw_g (lw_at lw_m5 30 rfl) rfl
theorem q1063 : (Jvm.Cond.methodLink "PuddleBoatyardLaw" (23 : Nat) ({ cls := "PuddleBoatyard", name := "mirror", desc := "(I)I" } : Jvm.MethodName)) ∈ lw_all := lw_g (lw_at lw_m5 31 rfl) rfl
theorem q1067 : (Jvm.Cond.methodLink "PuddleBoatyardLaw" (184 : Nat) ({ cls := "PuddleBoatyardLaw", name := "setCargo", desc := "(LPuddleBoatyard;II[J)I" } : Jvm.MethodName)) ∈ lw_all := lw_g (lw_at lw_m5 35 rfl) rfl
theorem q1068 : (Jvm.Cond.static ({ cls := "PuddleBoatyardLaw", name := "setCargo", desc := "(LPuddleBoatyard;II[J)I" } : Jvm.MethodName)) ∈ lw_all := lw_g (lw_at lw_m5 36 rfl) rfl
theorem q1069 : (Jvm.Cond.codeWith ({ cls := "PuddleBoatyardLaw", name := "setCargo", desc := "(LPuddleBoatyard;II[J)I" } : Jvm.MethodName) method_6_code (5 : Nat) (Option.some Jvm.ClassFile.FieldType.int) [((0 : Nat), (10 : Nat), (13 : Nat), (19 : Nat)), ((0 : Nat), (10 : Nat), (17 : Nat), (21 : Nat)), ((0 : Nat), (10 : Nat), (21 : Nat), (13 : Nat))]) ∈ lw_all := lw_g (lw_at lw_m5 37 rfl) rfl
theorem q1070 : (Jvm.Cond.methodLink "PuddleBoatyardLaw" (27 : Nat) ({ cls := "PuddleBoatyard", name := "setCargo", desc := "(II)I" } : Jvm.MethodName)) ∈ lw_all := lw_g (lw_at lw_m5 38 rfl) rfl
theorem q1074 : (Jvm.Cond.methodLink "PuddleBoatyardLaw" (188 : Nat) ({ cls := "PuddleBoatyardLaw", name := "launch", desc := "(LPuddleBoatyard;I[J)I" } : Jvm.MethodName)) ∈ lw_all := lw_g (lw_at lw_m5 42 rfl) rfl
theorem q1075 : (Jvm.Cond.static ({ cls := "PuddleBoatyardLaw", name := "launch", desc := "(LPuddleBoatyard;I[J)I" } : Jvm.MethodName)) ∈ lw_all := lw_g (lw_at lw_m5 43 rfl) rfl
theorem q1076 : (Jvm.Cond.codeWith ({ cls := "PuddleBoatyardLaw", name := "launch", desc := "(LPuddleBoatyard;I[J)I" } : Jvm.MethodName) method_7_code (4 : Nat) (Option.some Jvm.ClassFile.FieldType.int) [((0 : Nat), (9 : Nat), (12 : Nat), (19 : Nat)), ((0 : Nat), (9 : Nat), (15 : Nat), (13 : Nat)), ((0 : Nat), (9 : Nat), (18 : Nat), (34 : Nat))]) ∈ lw_all := lw_g (lw_at lw_m5 44 rfl) rfl
theorem q1077 : (Jvm.Cond.classLink "PuddleBoatyardLaw" (34 : Nat) "java/lang/UnsupportedOperationException") ∈ lw_all := lw_g (lw_at lw_m5 45 rfl) rfl
theorem q1078 : (Jvm.Cond.methodLink "PuddleBoatyardLaw" (31 : Nat) ({ cls := "PuddleBoatyard", name := "launch", desc := "(I)I" } : Jvm.MethodName)) ∈ lw_all := lw_g (lw_at lw_m5 46 rfl) rfl
theorem q1082 : (Jvm.Cond.methodLink "PuddleBoatyardLaw" (191 : Nat) ({ cls := "PuddleBoatyardLaw", name := "caulk", desc := "(LPuddleBoatyard;II[J)I" } : Jvm.MethodName)) ∈ lw_all := lw_g (lw_at lw_m5 50 rfl) rfl
theorem q1083 : (Jvm.Cond.static ({ cls := "PuddleBoatyardLaw", name := "caulk", desc := "(LPuddleBoatyard;II[J)I" } : Jvm.MethodName)) ∈ lw_all := lw_g (lw_at lw_m5 51 rfl) rfl
theorem q1084 : (Jvm.Cond.codeWith ({ cls := "PuddleBoatyardLaw", name := "caulk", desc := "(LPuddleBoatyard;II[J)I" } : Jvm.MethodName) method_8_code (5 : Nat) (Option.some Jvm.ClassFile.FieldType.int) [((0 : Nat), (10 : Nat), (13 : Nat), (19 : Nat)), ((0 : Nat), (10 : Nat), (17 : Nat), (13 : Nat))]) ∈ lw_all := lw_g (lw_at lw_m5 52 rfl) rfl
theorem q1085 : (Jvm.Cond.methodLink "PuddleBoatyardLaw" (36 : Nat) ({ cls := "PuddleBoatyard", name := "caulk", desc := "(II)I" } : Jvm.MethodName)) ∈ lw_all := lw_g (lw_at lw_m5 53 rfl) rfl
theorem q1089 : (Jvm.Cond.methodLink "PuddleBoatyardLaw" (194 : Nat) ({ cls := "PuddleBoatyardLaw", name := "pump", desc := "(LPuddleBoatyard;II[J)I" } : Jvm.MethodName)) ∈ lw_all := lw_g (lw_at lw_m5 57 rfl) rfl
theorem q1090 : (Jvm.Cond.static ({ cls := "PuddleBoatyardLaw", name := "pump", desc := "(LPuddleBoatyard;II[J)I" } : Jvm.MethodName)) ∈ lw_all := lw_g (lw_at lw_m5 58 rfl) rfl
theorem q1091 : (Jvm.Cond.codeWith ({ cls := "PuddleBoatyardLaw", name := "pump", desc := "(LPuddleBoatyard;II[J)I" } : Jvm.MethodName) method_9_code (5 : Nat) (Option.some Jvm.ClassFile.FieldType.int) [((0 : Nat), (10 : Nat), (13 : Nat), (19 : Nat)), ((0 : Nat), (10 : Nat), (17 : Nat), (21 : Nat)), ((0 : Nat), (10 : Nat), (21 : Nat), (13 : Nat))]) ∈ lw_all := lw_g (lw_at lw_m5 59 rfl) rfl
theorem q1092 : (Jvm.Cond.methodLink "PuddleBoatyardLaw" (39 : Nat) ({ cls := "PuddleBoatyard", name := "pump", desc := "(II)I" } : Jvm.MethodName)) ∈ lw_all := lw_g (lw_at lw_m5 60 rfl) rfl
theorem q1096 : (Jvm.Cond.methodLink "PuddleBoatyardLaw" (201 : Nat) ({ cls := "PuddleBoatyardLaw", name := "stateOf", desc := "(LPuddleBoatyard;I[J)I" } : Jvm.MethodName)) ∈ lw_all := lw_g (lw_at lw_m5 64 rfl) rfl
theorem q1097 : (Jvm.Cond.static ({ cls := "PuddleBoatyardLaw", name := "stateOf", desc := "(LPuddleBoatyard;I[J)I" } : Jvm.MethodName)) ∈ lw_all := lw_g (lw_at lw_m5 65 rfl) rfl
theorem q1098 : (Jvm.Cond.codeWith ({ cls := "PuddleBoatyardLaw", name := "stateOf", desc := "(LPuddleBoatyard;I[J)I" } : Jvm.MethodName) method_10_code (4 : Nat) (Option.some Jvm.ClassFile.FieldType.int) [((0 : Nat), (9 : Nat), (12 : Nat), (19 : Nat))]) ∈ lw_all := lw_g (lw_at lw_m5 66 rfl) rfl
theorem q1099 : (Jvm.Cond.methodLink "PuddleBoatyardLaw" (42 : Nat) ({ cls := "PuddleBoatyard", name := "stateOf", desc := "(I)I" } : Jvm.MethodName)) ∈ lw_all := lw_g (lw_at lw_m5 67 rfl) rfl
theorem q1113 : (Jvm.Cond.methodLink "PuddleBoatyardLaw" (204 : Nat) ({ cls := "PuddleBoatyardLaw", name := "frameCount", desc := "(LPuddleBoatyard;I[J)I" } : Jvm.MethodName)) ∈ lw_all := lw_g (lw_at lw_m5 81 rfl) rfl
theorem q1114 : (Jvm.Cond.static ({ cls := "PuddleBoatyardLaw", name := "frameCount", desc := "(LPuddleBoatyard;I[J)I" } : Jvm.MethodName)) ∈ lw_all := lw_g (lw_at lw_m5 82 rfl) rfl
theorem q1115 : (Jvm.Cond.codeWith ({ cls := "PuddleBoatyardLaw", name := "frameCount", desc := "(LPuddleBoatyard;I[J)I" } : Jvm.MethodName) method_11_code (4 : Nat) (Option.some Jvm.ClassFile.FieldType.int) [((0 : Nat), (9 : Nat), (12 : Nat), (19 : Nat))]) ∈ lw_all := lw_g (lw_at lw_m5 83 rfl) rfl
theorem q1116 : (Jvm.Cond.methodLink "PuddleBoatyardLaw" (45 : Nat) ({ cls := "PuddleBoatyard", name := "frameCount", desc := "(I)I" } : Jvm.MethodName)) ∈ lw_all := lw_g (lw_at lw_m5 84 rfl) rfl
theorem q1121 : (Jvm.Cond.methodLink "PuddleBoatyardLaw" (207 : Nat) ({ cls := "PuddleBoatyardLaw", name := "widthOf", desc := "(LPuddleBoatyard;IIZ[J)I" } : Jvm.MethodName)) ∈ lw_all := lw_g (lw_at lw_m5 89 rfl) rfl
theorem q1122 : (Jvm.Cond.static ({ cls := "PuddleBoatyardLaw", name := "widthOf", desc := "(LPuddleBoatyard;IIZ[J)I" } : Jvm.MethodName)) ∈ lw_all := lw_g (lw_at lw_m5 90 rfl) rfl
theorem q1123 : (Jvm.Cond.codeWith ({ cls := "PuddleBoatyardLaw", name := "widthOf", desc := "(LPuddleBoatyard;IIZ[J)I" } : Jvm.MethodName) method_12_code (6 : Nat) (Option.some Jvm.ClassFile.FieldType.int) [((0 : Nat), (12 : Nat), (15 : Nat), (19 : Nat))]) ∈ lw_all := lw_g (lw_at lw_m5 91 rfl) rfl
theorem q1124 : (Jvm.Cond.methodLink "PuddleBoatyardLaw" (48 : Nat) ({ cls := "PuddleBoatyard", name := "widthOf", desc := "(IIZ)I" } : Jvm.MethodName)) ∈ lw_all := lw_g (lw_at lw_m5 92 rfl) rfl
theorem q1132 : (Jvm.Cond.methodLink "PuddleBoatyardLaw" (211 : Nat) ({ cls := "PuddleBoatyardLaw", name := "caulkingOf", desc := "(LPuddleBoatyard;II[J)I" } : Jvm.MethodName)) ∈ lw_all := lw_g (lw_at lw_m5 100 rfl) rfl
theorem q1133 : (Jvm.Cond.static ({ cls := "PuddleBoatyardLaw", name := "caulkingOf", desc := "(LPuddleBoatyard;II[J)I" } : Jvm.MethodName)) ∈ lw_all := lw_g (lw_at lw_m5 101 rfl) rfl
theorem q1134 : (Jvm.Cond.codeWith ({ cls := "PuddleBoatyardLaw", name := "caulkingOf", desc := "(LPuddleBoatyard;II[J)I" } : Jvm.MethodName) method_13_code (5 : Nat) (Option.some Jvm.ClassFile.FieldType.int) [((0 : Nat), (10 : Nat), (13 : Nat), (19 : Nat))]) ∈ lw_all := lw_g (lw_at lw_m5 102 rfl) rfl
theorem q1135 : (Jvm.Cond.methodLink "PuddleBoatyardLaw" (52 : Nat) ({ cls := "PuddleBoatyard", name := "caulkingOf", desc := "(II)I" } : Jvm.MethodName)) ∈ lw_all := lw_g (lw_at lw_m5 103 rfl) rfl
theorem q1140 : (Jvm.Cond.methodLink "PuddleBoatyardLaw" (214 : Nat) ({ cls := "PuddleBoatyardLaw", name := "waterIn", desc := "(LPuddleBoatyard;I[J)I" } : Jvm.MethodName)) ∈ lw_all := lw_g (lw_at lw_m5 108 rfl) rfl
theorem q1141 : (Jvm.Cond.static ({ cls := "PuddleBoatyardLaw", name := "waterIn", desc := "(LPuddleBoatyard;I[J)I" } : Jvm.MethodName)) ∈ lw_all := lw_g (lw_at lw_m5 109 rfl) rfl
theorem q1142 : (Jvm.Cond.codeWith ({ cls := "PuddleBoatyardLaw", name := "waterIn", desc := "(LPuddleBoatyard;I[J)I" } : Jvm.MethodName) method_14_code (4 : Nat) (Option.some Jvm.ClassFile.FieldType.int) [((0 : Nat), (9 : Nat), (12 : Nat), (19 : Nat))]) ∈ lw_all := lw_g (lw_at lw_m5 110 rfl) rfl
theorem q1143 : (Jvm.Cond.methodLink "PuddleBoatyardLaw" (55 : Nat) ({ cls := "PuddleBoatyard", name := "waterIn", desc := "(I)I" } : Jvm.MethodName)) ∈ lw_all := lw_g (lw_at lw_m5 111 rfl) rfl
theorem q1147 : (Jvm.Cond.methodLink "PuddleBoatyardLaw" (217 : Nat) ({ cls := "PuddleBoatyardLaw", name := "weightOf", desc := "(LPuddleBoatyard;I[J)I" } : Jvm.MethodName)) ∈ lw_all := lw_g (lw_at lw_m5 115 rfl) rfl
theorem q1148 : (Jvm.Cond.static ({ cls := "PuddleBoatyardLaw", name := "weightOf", desc := "(LPuddleBoatyard;I[J)I" } : Jvm.MethodName)) ∈ lw_all := lw_g (lw_at lw_m5 116 rfl) rfl
theorem q1149 : (Jvm.Cond.codeWith ({ cls := "PuddleBoatyardLaw", name := "weightOf", desc := "(LPuddleBoatyard;I[J)I" } : Jvm.MethodName) method_15_code (4 : Nat) (Option.some Jvm.ClassFile.FieldType.int) [((0 : Nat), (9 : Nat), (12 : Nat), (19 : Nat))]) ∈ lw_all := lw_g (lw_at lw_m5 117 rfl) rfl
theorem q1150 : (Jvm.Cond.methodLink "PuddleBoatyardLaw" (58 : Nat) ({ cls := "PuddleBoatyard", name := "weightOf", desc := "(I)I" } : Jvm.MethodName)) ∈ lw_all := lw_g (lw_at lw_m5 118 rfl) rfl
theorem q1155 : (Jvm.Cond.methodLink "PuddleBoatyardLaw" (220 : Nat) ({ cls := "PuddleBoatyardLaw", name := "draughtOf", desc := "(LPuddleBoatyard;I[J)I" } : Jvm.MethodName)) ∈ lw_all := lw_g (lw_at lw_m5 123 rfl) rfl
theorem q1156 : (Jvm.Cond.static ({ cls := "PuddleBoatyardLaw", name := "draughtOf", desc := "(LPuddleBoatyard;I[J)I" } : Jvm.MethodName)) ∈ lw_all := lw_g (lw_at lw_m5 124 rfl) rfl
theorem q1157 : (Jvm.Cond.codeWith ({ cls := "PuddleBoatyardLaw", name := "draughtOf", desc := "(LPuddleBoatyard;I[J)I" } : Jvm.MethodName) method_16_code (4 : Nat) (Option.some Jvm.ClassFile.FieldType.int) [((0 : Nat), (9 : Nat), (12 : Nat), (19 : Nat)), ((0 : Nat), (9 : Nat), (15 : Nat), (64 : Nat))]) ∈ lw_all := lw_g (lw_at lw_m5 125 rfl) rfl
theorem q1158 : (Jvm.Cond.classLink "PuddleBoatyardLaw" (64 : Nat) "java/util/NoSuchElementException") ∈ lw_all := lw_g (lw_at lw_m5 126 rfl) rfl
theorem q1159 : (Jvm.Cond.methodLink "PuddleBoatyardLaw" (61 : Nat) ({ cls := "PuddleBoatyard", name := "draughtOf", desc := "(I)I" } : Jvm.MethodName)) ∈ lw_all := lw_g (lw_at lw_m5 127 rfl) rfl
theorem q1172 : (Jvm.Cond.methodLink "PuddleBoatyardLaw" (223 : Nat) ({ cls := "PuddleBoatyardLaw", name := "draughtByHalving", desc := "(LPuddleBoatyard;I[J)I" } : Jvm.MethodName)) ∈ lw_all := lw_g (lw_at lw_m5 140 rfl) rfl
theorem q1173 : (Jvm.Cond.static ({ cls := "PuddleBoatyardLaw", name := "draughtByHalving", desc := "(LPuddleBoatyard;I[J)I" } : Jvm.MethodName)) ∈ lw_all := lw_g (lw_at lw_m5 141 rfl) rfl
theorem q1174 : (Jvm.Cond.codeWith ({ cls := "PuddleBoatyardLaw", name := "draughtByHalving", desc := "(LPuddleBoatyard;I[J)I" } : Jvm.MethodName) method_17_code (4 : Nat) (Option.some Jvm.ClassFile.FieldType.int) [((0 : Nat), (9 : Nat), (12 : Nat), (19 : Nat)), ((0 : Nat), (9 : Nat), (15 : Nat), (64 : Nat))]) ∈ lw_all := lw_g (lw_at lw_m5 142 rfl) rfl
theorem q1175 : (Jvm.Cond.methodLink "PuddleBoatyardLaw" (66 : Nat) ({ cls := "PuddleBoatyard", name := "draughtByHalving", desc := "(I)I" } : Jvm.MethodName)) ∈ lw_all := lw_g (lw_at lw_m5 143 rfl) rfl
theorem q1183 : (Jvm.Cond.methodLink "PuddleBoatyardLaw" (226 : Nat) ({ cls := "PuddleBoatyardLaw", name := "heelOf", desc := "(LPuddleBoatyard;I[J)I" } : Jvm.MethodName)) ∈ lw_all := lw_g (lw_at lw_m5 151 rfl) rfl
theorem q1184 : (Jvm.Cond.static ({ cls := "PuddleBoatyardLaw", name := "heelOf", desc := "(LPuddleBoatyard;I[J)I" } : Jvm.MethodName)) ∈ lw_all := lw_g (lw_at lw_m5 152 rfl) rfl
theorem q1185 : (Jvm.Cond.codeWith ({ cls := "PuddleBoatyardLaw", name := "heelOf", desc := "(LPuddleBoatyard;I[J)I" } : Jvm.MethodName) method_18_code (4 : Nat) (Option.some Jvm.ClassFile.FieldType.int) [((0 : Nat), (9 : Nat), (12 : Nat), (19 : Nat))]) ∈ lw_all := lw_g (lw_at lw_m5 153 rfl) rfl
theorem q1186 : (Jvm.Cond.methodLink "PuddleBoatyardLaw" (69 : Nat) ({ cls := "PuddleBoatyard", name := "heelOf", desc := "(I)I" } : Jvm.MethodName)) ∈ lw_all := lw_g (lw_at lw_m5 154 rfl) rfl
theorem q1194 : (Jvm.Cond.methodLink "PuddleBoatyardLaw" (229 : Nat) ({ cls := "PuddleBoatyardLaw", name := "hullAtRank", desc := "(LPuddleBoatyard;I[J)I" } : Jvm.MethodName)) ∈ lw_all := lw_g (lw_at lw_m5 162 rfl) rfl
theorem q1195 : (Jvm.Cond.static ({ cls := "PuddleBoatyardLaw", name := "hullAtRank", desc := "(LPuddleBoatyard;I[J)I" } : Jvm.MethodName)) ∈ lw_all := lw_g (lw_at lw_m5 163 rfl) rfl
theorem q1196 : (Jvm.Cond.codeWith ({ cls := "PuddleBoatyardLaw", name := "hullAtRank", desc := "(LPuddleBoatyard;I[J)I" } : Jvm.MethodName) method_19_code (4 : Nat) (Option.some Jvm.ClassFile.FieldType.int) [((0 : Nat), (9 : Nat), (12 : Nat), (64 : Nat))]) ∈ lw_all := lw_g (lw_at lw_m5 164 rfl) rfl
theorem q1197 : (Jvm.Cond.methodLink "PuddleBoatyardLaw" (72 : Nat) ({ cls := "PuddleBoatyard", name := "hullAtRank", desc := "(I)I" } : Jvm.MethodName)) ∈ lw_all := lw_g (lw_at lw_m5 165 rfl) rfl
theorem q1208 : (Jvm.Cond.methodLink "PuddleBoatyardLaw" (232 : Nat) ({ cls := "PuddleBoatyardLaw", name := "isSymmetric", desc := "(LPuddleBoatyard;I[J)I" } : Jvm.MethodName)) ∈ lw_all := lw_g (lw_at lw_m5 176 rfl) rfl
theorem q1209 : (Jvm.Cond.static ({ cls := "PuddleBoatyardLaw", name := "isSymmetric", desc := "(LPuddleBoatyard;I[J)I" } : Jvm.MethodName)) ∈ lw_all := lw_g (lw_at lw_m5 177 rfl) rfl
theorem q1210 : (Jvm.Cond.codeWith ({ cls := "PuddleBoatyardLaw", name := "isSymmetric", desc := "(LPuddleBoatyard;I[J)I" } : Jvm.MethodName) method_20_code (4 : Nat) (Option.some Jvm.ClassFile.FieldType.int) [((0 : Nat), (16 : Nat), (19 : Nat), (19 : Nat))]) ∈ lw_all := lw_g (lw_at lw_m5 178 rfl) rfl
theorem q1211 : (Jvm.Cond.methodLink "PuddleBoatyardLaw" (75 : Nat) ({ cls := "PuddleBoatyard", name := "isSymmetric", desc := "(I)Z" } : Jvm.MethodName)) ∈ lw_all := lw_g (lw_at lw_m5 179 rfl) rfl
theorem q1223 : (Jvm.Cond.methodLink "PuddleBoatyardLaw" (235 : Nat) ({ cls := "PuddleBoatyardLaw", name := "isReflectionOf", desc := "(LPuddleBoatyard;II[J)I" } : Jvm.MethodName)) ∈ lw_all := lw_g (lw_at lw_m5 191 rfl) rfl
theorem q1224 : (Jvm.Cond.static ({ cls := "PuddleBoatyardLaw", name := "isReflectionOf", desc := "(LPuddleBoatyard;II[J)I" } : Jvm.MethodName)) ∈ lw_all := lw_g (lw_at lw_m5 192 rfl) rfl
theorem q1225 : (Jvm.Cond.codeWith ({ cls := "PuddleBoatyardLaw", name := "isReflectionOf", desc := "(LPuddleBoatyard;II[J)I" } : Jvm.MethodName) method_21_code (5 : Nat) (Option.some Jvm.ClassFile.FieldType.int) [((0 : Nat), (17 : Nat), (20 : Nat), (19 : Nat))]) ∈ lw_all := lw_g (lw_at lw_m5 193 rfl) rfl
theorem q1226 : (Jvm.Cond.methodLink "PuddleBoatyardLaw" (79 : Nat) ({ cls := "PuddleBoatyard", name := "isReflectionOf", desc := "(II)Z" } : Jvm.MethodName)) ∈ lw_all := lw_g (lw_at lw_m5 194 rfl) rfl
theorem q1230 : (Jvm.Cond.methodLink "PuddleBoatyardLaw" (238 : Nat) ({ cls := "PuddleBoatyardLaw", name := "commonStretch", desc := "(LPuddleBoatyard;II[J)I" } : Jvm.MethodName)) ∈ lw_all := lw_g (lw_at lw_m5 198 rfl) rfl
theorem q1231 : (Jvm.Cond.static ({ cls := "PuddleBoatyardLaw", name := "commonStretch", desc := "(LPuddleBoatyard;II[J)I" } : Jvm.MethodName)) ∈ lw_all := lw_g (lw_at lw_m5 199 rfl) rfl
theorem q1232 : (Jvm.Cond.codeWith ({ cls := "PuddleBoatyardLaw", name := "commonStretch", desc := "(LPuddleBoatyard;II[J)I" } : Jvm.MethodName) method_22_code (5 : Nat) (Option.some Jvm.ClassFile.FieldType.int) [((0 : Nat), (10 : Nat), (13 : Nat), (19 : Nat))]) ∈ lw_all := lw_g (lw_at lw_m5 200 rfl) rfl
theorem q1233 : (Jvm.Cond.methodLink "PuddleBoatyardLaw" (83 : Nat) ({ cls := "PuddleBoatyard", name := "commonStretch", desc := "(II)I" } : Jvm.MethodName)) ∈ lw_all := lw_g (lw_at lw_m5 201 rfl) rfl
theorem q1241 : (Jvm.Cond.methodLink "PuddleBoatyardLaw" (241 : Nat) ({ cls := "PuddleBoatyardLaw", name := "commonStretchByTrying", desc := "(LPuddleBoatyard;II[J)I" } : Jvm.MethodName)) ∈ lw_all := lw_g (lw_at lw_m5 209 rfl) rfl
theorem q1242 : (Jvm.Cond.static ({ cls := "PuddleBoatyardLaw", name := "commonStretchByTrying", desc := "(LPuddleBoatyard;II[J)I" } : Jvm.MethodName)) ∈ lw_all := lw_g (lw_at lw_m5 210 rfl) rfl
theorem q1243 : (Jvm.Cond.codeWith ({ cls := "PuddleBoatyardLaw", name := "commonStretchByTrying", desc := "(LPuddleBoatyard;II[J)I" } : Jvm.MethodName) method_23_code (5 : Nat) (Option.some Jvm.ClassFile.FieldType.int) [((0 : Nat), (10 : Nat), (13 : Nat), (19 : Nat))]) ∈ lw_all := lw_g (lw_at lw_m5 211 rfl) rfl
theorem q1244 : (Jvm.Cond.methodLink "PuddleBoatyardLaw" (86 : Nat) ({ cls := "PuddleBoatyard", name := "commonStretchByTrying", desc := "(II)I" } : Jvm.MethodName)) ∈ lw_all := lw_g (lw_at lw_m5 212 rfl) rfl
theorem q1256 : (Jvm.Cond.methodLink "PuddleBoatyardLaw" (244 : Nat) ({ cls := "PuddleBoatyardLaw", name := "setTide", desc := "(LPuddleBoatyard;II[J)I" } : Jvm.MethodName)) ∈ lw_all := lw_g (lw_at lw_m5 224 rfl) rfl
theorem q1257 : (Jvm.Cond.static ({ cls := "PuddleBoatyardLaw", name := "setTide", desc := "(LPuddleBoatyard;II[J)I" } : Jvm.MethodName)) ∈ lw_all := lw_g (lw_at lw_m5 225 rfl) rfl
theorem q1258 : (Jvm.Cond.codeWith ({ cls := "PuddleBoatyardLaw", name := "setTide", desc := "(LPuddleBoatyard;II[J)I" } : Jvm.MethodName) method_24_code (5 : Nat) (Option.some Jvm.ClassFile.FieldType.int) [((0 : Nat), (10 : Nat), (13 : Nat), (21 : Nat))]) ∈ lw_all := lw_g (lw_at lw_m5 226 rfl) rfl
theorem q1259 : (Jvm.Cond.methodLink "PuddleBoatyardLaw" (89 : Nat) ({ cls := "PuddleBoatyard", name := "setTide", desc := "(II)I" } : Jvm.MethodName)) ∈ lw_all := lw_g (lw_at lw_m5 227 rfl) rfl
theorem q1263 : (Jvm.Cond.methodLink "PuddleBoatyardLaw" (247 : Nat) ({ cls := "PuddleBoatyardLaw", name := "pass", desc := "(LPuddleBoatyard;I[J)I" } : Jvm.MethodName)) ∈ lw_all := lw_g (lw_at lw_m5 231 rfl) rfl
theorem q1264 : (Jvm.Cond.static ({ cls := "PuddleBoatyardLaw", name := "pass", desc := "(LPuddleBoatyard;I[J)I" } : Jvm.MethodName)) ∈ lw_all := lw_g (lw_at lw_m5 232 rfl) rfl
theorem q1265 : (Jvm.Cond.codeWith ({ cls := "PuddleBoatyardLaw", name := "pass", desc := "(LPuddleBoatyard;I[J)I" } : Jvm.MethodName) method_25_code (4 : Nat) (Option.some Jvm.ClassFile.FieldType.int) [((0 : Nat), (9 : Nat), (12 : Nat), (21 : Nat))]) ∈ lw_all := lw_g (lw_at lw_m5 233 rfl) rfl
theorem q1266 : (Jvm.Cond.methodLink "PuddleBoatyardLaw" (92 : Nat) ({ cls := "PuddleBoatyard", name := "pass", desc := "(I)I" } : Jvm.MethodName)) ∈ lw_all := lw_g (lw_at lw_m5 234 rfl) rfl
theorem q1270 : (Jvm.Cond.methodLink "PuddleBoatyardLaw" (254 : Nat) ({ cls := "PuddleBoatyardLaw", name := "tideAfter", desc := "(LPuddleBoatyard;I[J)I" } : Jvm.MethodName)) ∈ lw_all := lw_g (lw_at lw_m5 238 rfl) rfl
theorem q1271 : (Jvm.Cond.static ({ cls := "PuddleBoatyardLaw", name := "tideAfter", desc := "(LPuddleBoatyard;I[J)I" } : Jvm.MethodName)) ∈ lw_all := lw_g (lw_at lw_m5 239 rfl) rfl
theorem q1272 : (Jvm.Cond.codeWith ({ cls := "PuddleBoatyardLaw", name := "tideAfter", desc := "(LPuddleBoatyard;I[J)I" } : Jvm.MethodName) method_26_code (4 : Nat) (Option.some Jvm.ClassFile.FieldType.int) [((0 : Nat), (9 : Nat), (12 : Nat), (21 : Nat))]) ∈ lw_all := lw_g (lw_at lw_m6 0 rfl) rfl
theorem q1273 : (Jvm.Cond.methodLink "PuddleBoatyardLaw" (95 : Nat) ({ cls := "PuddleBoatyard", name := "tideAfter", desc := "(I)I" } : Jvm.MethodName)) ∈ lw_all := lw_g (lw_at lw_m6 1 rfl) rfl
theorem q1279 : (Jvm.Cond.methodLink "PuddleBoatyardLaw" (257 : Nat) ({ cls := "PuddleBoatyardLaw", name := "hoursToLaunch", desc := "(LPuddleBoatyard;I[J)I" } : Jvm.MethodName)) ∈ lw_all := lw_g (lw_at lw_m6 7 rfl) rfl
theorem q1280 : (Jvm.Cond.static ({ cls := "PuddleBoatyardLaw", name := "hoursToLaunch", desc := "(LPuddleBoatyard;I[J)I" } : Jvm.MethodName)) ∈ lw_all := lw_g (lw_at lw_m6 8 rfl) rfl
theorem q1281 : (Jvm.Cond.codeWith ({ cls := "PuddleBoatyardLaw", name := "hoursToLaunch", desc := "(LPuddleBoatyard;I[J)I" } : Jvm.MethodName) method_27_code (4 : Nat) (Option.some Jvm.ClassFile.FieldType.int) [((0 : Nat), (9 : Nat), (12 : Nat), (19 : Nat)), ((0 : Nat), (9 : Nat), (15 : Nat), (13 : Nat)), ((0 : Nat), (9 : Nat), (18 : Nat), (64 : Nat))]) ∈ lw_all := lw_g (lw_at lw_m6 9 rfl) rfl
theorem q1282 : (Jvm.Cond.methodLink "PuddleBoatyardLaw" (98 : Nat) ({ cls := "PuddleBoatyard", name := "hoursToLaunch", desc := "(I)I" } : Jvm.MethodName)) ∈ lw_all := lw_g (lw_at lw_m6 10 rfl) rfl
theorem q1293 : (Jvm.Cond.methodLink "PuddleBoatyardLaw" (260 : Nat) ({ cls := "PuddleBoatyardLaw", name := "hoursToLaunchByTides", desc := "(LPuddleBoatyard;I[J)I" } : Jvm.MethodName)) ∈ lw_all := lw_g (lw_at lw_m6 21 rfl) rfl
theorem q1294 : (Jvm.Cond.static ({ cls := "PuddleBoatyardLaw", name := "hoursToLaunchByTides", desc := "(LPuddleBoatyard;I[J)I" } : Jvm.MethodName)) ∈ lw_all := lw_g (lw_at lw_m6 22 rfl) rfl
theorem q1295 : (Jvm.Cond.codeWith ({ cls := "PuddleBoatyardLaw", name := "hoursToLaunchByTides", desc := "(LPuddleBoatyard;I[J)I" } : Jvm.MethodName) method_28_code (4 : Nat) (Option.some Jvm.ClassFile.FieldType.int) [((0 : Nat), (9 : Nat), (12 : Nat), (19 : Nat)), ((0 : Nat), (9 : Nat), (15 : Nat), (13 : Nat)), ((0 : Nat), (9 : Nat), (18 : Nat), (64 : Nat))]) ∈ lw_all := lw_g (lw_at lw_m6 23 rfl) rfl
theorem q1296 : (Jvm.Cond.methodLink "PuddleBoatyardLaw" (101 : Nat) ({ cls := "PuddleBoatyard", name := "hoursToLaunchByTides", desc := "(I)I" } : Jvm.MethodName)) ∈ lw_all := lw_g (lw_at lw_m6 24 rfl) rfl
theorem q1301 : (Jvm.Cond.methodLink "PuddleBoatyardLaw" (263 : Nat) ({ cls := "PuddleBoatyardLaw", name := "hoursToSinking", desc := "(LPuddleBoatyard;I[J)I" } : Jvm.MethodName)) ∈ lw_all := lw_g (lw_at lw_m6 29 rfl) rfl
theorem q1302 : (Jvm.Cond.static ({ cls := "PuddleBoatyardLaw", name := "hoursToSinking", desc := "(LPuddleBoatyard;I[J)I" } : Jvm.MethodName)) ∈ lw_all := lw_g (lw_at lw_m6 30 rfl) rfl
theorem q1303 : (Jvm.Cond.codeWith ({ cls := "PuddleBoatyardLaw", name := "hoursToSinking", desc := "(LPuddleBoatyard;I[J)I" } : Jvm.MethodName) method_29_code (4 : Nat) (Option.some Jvm.ClassFile.FieldType.int) [((0 : Nat), (9 : Nat), (12 : Nat), (19 : Nat)), ((0 : Nat), (9 : Nat), (15 : Nat), (13 : Nat)), ((0 : Nat), (9 : Nat), (18 : Nat), (64 : Nat))]) ∈ lw_all := lw_g (lw_at lw_m6 31 rfl) rfl
theorem q1304 : (Jvm.Cond.methodLink "PuddleBoatyardLaw" (104 : Nat) ({ cls := "PuddleBoatyard", name := "hoursToSinking", desc := "(I)I" } : Jvm.MethodName)) ∈ lw_all := lw_g (lw_at lw_m6 32 rfl) rfl
theorem q1311 : (Jvm.Cond.methodLink "PuddleBoatyardLaw" (266 : Nat) ({ cls := "PuddleBoatyardLaw", name := "setSlip", desc := "(LPuddleBoatyard;II[J)I" } : Jvm.MethodName)) ∈ lw_all := lw_g (lw_at lw_m6 39 rfl) rfl
theorem q1312 : (Jvm.Cond.static ({ cls := "PuddleBoatyardLaw", name := "setSlip", desc := "(LPuddleBoatyard;II[J)I" } : Jvm.MethodName)) ∈ lw_all := lw_g (lw_at lw_m6 40 rfl) rfl
theorem q1313 : (Jvm.Cond.codeWith ({ cls := "PuddleBoatyardLaw", name := "setSlip", desc := "(LPuddleBoatyard;II[J)I" } : Jvm.MethodName) method_30_code (5 : Nat) (Option.some Jvm.ClassFile.FieldType.int) [((0 : Nat), (10 : Nat), (13 : Nat), (21 : Nat))]) ∈ lw_all := lw_g (lw_at lw_m6 41 rfl) rfl
theorem q1314 : (Jvm.Cond.methodLink "PuddleBoatyardLaw" (107 : Nat) ({ cls := "PuddleBoatyard", name := "setSlip", desc := "(II)I" } : Jvm.MethodName)) ∈ lw_all := lw_g (lw_at lw_m6 42 rfl) rfl
theorem q1318 : (Jvm.Cond.methodLink "PuddleBoatyardLaw" (269 : Nat) ({ cls := "PuddleBoatyardLaw", name := "slipLength", desc := "(LPuddleBoatyard;I[J)I" } : Jvm.MethodName)) ∈ lw_all := lw_g (lw_at lw_m6 46 rfl) rfl
theorem q1319 : (Jvm.Cond.static ({ cls := "PuddleBoatyardLaw", name := "slipLength", desc := "(LPuddleBoatyard;I[J)I" } : Jvm.MethodName)) ∈ lw_all := lw_g (lw_at lw_m6 47 rfl) rfl
theorem q1320 : (Jvm.Cond.codeWith ({ cls := "PuddleBoatyardLaw", name := "slipLength", desc := "(LPuddleBoatyard;I[J)I" } : Jvm.MethodName) method_31_code (4 : Nat) (Option.some Jvm.ClassFile.FieldType.int) [((0 : Nat), (9 : Nat), (12 : Nat), (21 : Nat))]) ∈ lw_all := lw_g (lw_at lw_m6 48 rfl) rfl
theorem q1321 : (Jvm.Cond.methodLink "PuddleBoatyardLaw" (110 : Nat) ({ cls := "PuddleBoatyard", name := "slipLength", desc := "(I)I" } : Jvm.MethodName)) ∈ lw_all := lw_g (lw_at lw_m6 49 rfl) rfl
theorem q1325 : (Jvm.Cond.methodLink "PuddleBoatyardLaw" (284 : Nat) ({ cls := "PuddleBoatyardLaw", name := "addOrder", desc := "(LPuddleBoatyard;III[J)I" } : Jvm.MethodName)) ∈ lw_all := lw_g (lw_at lw_m6 53 rfl) rfl
theorem q1326 : (Jvm.Cond.static ({ cls := "PuddleBoatyardLaw", name := "addOrder", desc := "(LPuddleBoatyard;III[J)I" } : Jvm.MethodName)) ∈ lw_all := lw_g (lw_at lw_m6 54 rfl) rfl
theorem q1327 : (Jvm.Cond.codeWith ({ cls := "PuddleBoatyardLaw", name := "addOrder", desc := "(LPuddleBoatyard;III[J)I" } : Jvm.MethodName) method_32_code (6 : Nat) (Option.some Jvm.ClassFile.FieldType.int) [((0 : Nat), (12 : Nat), (15 : Nat), (21 : Nat)), ((0 : Nat), (12 : Nat), (19 : Nat), (13 : Nat))]) ∈ lw_all := lw_g (lw_at lw_m6 55 rfl) rfl
theorem q1328 : (Jvm.Cond.methodLink "PuddleBoatyardLaw" (113 : Nat) ({ cls := "PuddleBoatyard", name := "addOrder", desc := "(III)I" } : Jvm.MethodName)) ∈ lw_all := lw_g (lw_at lw_m6 56 rfl) rfl
theorem q1332 : (Jvm.Cond.methodLink "PuddleBoatyardLaw" (287 : Nat) ({ cls := "PuddleBoatyardLaw", name := "deliver", desc := "(LPuddleBoatyard;II[J)I" } : Jvm.MethodName)) ∈ lw_all := lw_g (lw_at lw_m6 60 rfl) rfl
theorem q1333 : (Jvm.Cond.static ({ cls := "PuddleBoatyardLaw", name := "deliver", desc := "(LPuddleBoatyard;II[J)I" } : Jvm.MethodName)) ∈ lw_all := lw_g (lw_at lw_m6 61 rfl) rfl
theorem q1334 : (Jvm.Cond.codeWith ({ cls := "PuddleBoatyardLaw", name := "deliver", desc := "(LPuddleBoatyard;II[J)I" } : Jvm.MethodName) method_33_code (5 : Nat) (Option.some Jvm.ClassFile.FieldType.int) [((0 : Nat), (10 : Nat), (13 : Nat), (64 : Nat)), ((0 : Nat), (10 : Nat), (17 : Nat), (19 : Nat)), ((0 : Nat), (10 : Nat), (21 : Nat), (13 : Nat))]) ∈ lw_all := lw_g (lw_at lw_m6 62 rfl) rfl
theorem q1335 : (Jvm.Cond.methodLink "PuddleBoatyardLaw" (116 : Nat) ({ cls := "PuddleBoatyard", name := "deliver", desc := "(II)I" } : Jvm.MethodName)) ∈ lw_all := lw_g (lw_at lw_m6 63 rfl) rfl
theorem q1339 : (Jvm.Cond.methodLink "PuddleBoatyardLaw" (294 : Nat) ({ cls := "PuddleBoatyardLaw", name := "orderAt", desc := "(LPuddleBoatyard;I[J)I" } : Jvm.MethodName)) ∈ lw_all := lw_g (lw_at lw_m6 67 rfl) rfl
theorem q1340 : (Jvm.Cond.static ({ cls := "PuddleBoatyardLaw", name := "orderAt", desc := "(LPuddleBoatyard;I[J)I" } : Jvm.MethodName)) ∈ lw_all := lw_g (lw_at lw_m6 68 rfl) rfl
theorem q1341 : (Jvm.Cond.codeWith ({ cls := "PuddleBoatyardLaw", name := "orderAt", desc := "(LPuddleBoatyard;I[J)I" } : Jvm.MethodName) method_34_code (4 : Nat) (Option.some Jvm.ClassFile.FieldType.int) [((0 : Nat), (9 : Nat), (12 : Nat), (19 : Nat))]) ∈ lw_all := lw_g (lw_at lw_m6 69 rfl) rfl
theorem q1342 : (Jvm.Cond.methodLink "PuddleBoatyardLaw" (119 : Nat) ({ cls := "PuddleBoatyard", name := "orderAt", desc := "(I)I" } : Jvm.MethodName)) ∈ lw_all := lw_g (lw_at lw_m6 70 rfl) rfl
theorem q1347 : (Jvm.Cond.methodLink "PuddleBoatyardLaw" (297 : Nat) ({ cls := "PuddleBoatyardLaw", name := "coinsFor", desc := "(LPuddleBoatyard;I[J)I" } : Jvm.MethodName)) ∈ lw_all := lw_g (lw_at lw_m6 75 rfl) rfl
theorem q1348 : (Jvm.Cond.static ({ cls := "PuddleBoatyardLaw", name := "coinsFor", desc := "(LPuddleBoatyard;I[J)I" } : Jvm.MethodName)) ∈ lw_all := lw_g (lw_at lw_m6 76 rfl) rfl
theorem q1349 : (Jvm.Cond.codeWith ({ cls := "PuddleBoatyardLaw", name := "coinsFor", desc := "(LPuddleBoatyard;I[J)I" } : Jvm.MethodName) method_35_code (4 : Nat) (Option.some Jvm.ClassFile.FieldType.int) [((0 : Nat), (9 : Nat), (12 : Nat), (64 : Nat))]) ∈ lw_all := lw_g (lw_at lw_m6 77 rfl) rfl
theorem q1350 : (Jvm.Cond.methodLink "PuddleBoatyardLaw" (122 : Nat) ({ cls := "PuddleBoatyard", name := "coinsFor", desc := "(I)I" } : Jvm.MethodName)) ∈ lw_all := lw_g (lw_at lw_m6 78 rfl) rfl
theorem q1356 : (Jvm.Cond.methodLink "PuddleBoatyardLaw" (309 : Nat) ({ cls := "PuddleBoatyardLaw", name := "hullsIn", desc := "(LPuddleBoatyard;I[J)I" } : Jvm.MethodName)) ∈ lw_all := lw_g (lw_at lw_m6 84 rfl) rfl
theorem q1357 : (Jvm.Cond.static ({ cls := "PuddleBoatyardLaw", name := "hullsIn", desc := "(LPuddleBoatyard;I[J)I" } : Jvm.MethodName)) ∈ lw_all := lw_g (lw_at lw_m6 85 rfl) rfl
theorem q1358 : (Jvm.Cond.codeWith ({ cls := "PuddleBoatyardLaw", name := "hullsIn", desc := "(LPuddleBoatyard;I[J)I" } : Jvm.MethodName) method_36_code (4 : Nat) (Option.some Jvm.ClassFile.FieldType.int) [((0 : Nat), (9 : Nat), (12 : Nat), (21 : Nat))]) ∈ lw_all := lw_g (lw_at lw_m6 86 rfl) rfl
theorem q1359 : (Jvm.Cond.methodLink "PuddleBoatyardLaw" (125 : Nat) ({ cls := "PuddleBoatyard", name := "hullsIn", desc := "(I)I" } : Jvm.MethodName)) ∈ lw_all := lw_g (lw_at lw_m6 87 rfl) rfl
theorem q1363 : (Jvm.Cond.methodLink "PuddleBoatyardLaw" (312 : Nat) ({ cls := "PuddleBoatyardLaw", name := "refusalReason", desc := "(LPuddleBoatyard;[J)I" } : Jvm.MethodName)) ∈ lw_all := lw_g (lw_at lw_m6 91 rfl) rfl
theorem q1364 : (Jvm.Cond.static ({ cls := "PuddleBoatyardLaw", name := "refusalReason", desc := "(LPuddleBoatyard;[J)I" } : Jvm.MethodName)) ∈ lw_all := lw_g (lw_at lw_m6 92 rfl) rfl
theorem q1365 : (Jvm.Cond.codeWith ({ cls := "PuddleBoatyardLaw", name := "refusalReason", desc := "(LPuddleBoatyard;[J)I" } : Jvm.MethodName) method_37_code (3 : Nat) (Option.some Jvm.ClassFile.FieldType.int) [((0 : Nat), (8 : Nat), (11 : Nat), (64 : Nat))]) ∈ lw_all := lw_g (lw_at lw_m6 93 rfl) rfl
theorem q1366 : (Jvm.Cond.methodLink "PuddleBoatyardLaw" (128 : Nat) ({ cls := "PuddleBoatyard", name := "refusalReason", desc := "()I" } : Jvm.MethodName)) ∈ lw_all := lw_g (lw_at lw_m6 94 rfl) rfl
theorem q1370 : (Jvm.Cond.methodLink "PuddleBoatyardLaw" (315 : Nat) ({ cls := "PuddleBoatyardLaw", name := "meanWeight", desc := "(LPuddleBoatyard;[D)I" } : Jvm.MethodName)) ∈ lw_all := lw_g (lw_at lw_m6 98 rfl) rfl
theorem q1371 : (Jvm.Cond.static ({ cls := "PuddleBoatyardLaw", name := "meanWeight", desc := "(LPuddleBoatyard;[D)I" } : Jvm.MethodName)) ∈ lw_all := lw_g (lw_at lw_m6 99 rfl) rfl
theorem q1372 : (Jvm.Cond.codeWith ({ cls := "PuddleBoatyardLaw", name := "meanWeight", desc := "(LPuddleBoatyard;[D)I" } : Jvm.MethodName) method_38_code (3 : Nat) (Option.some Jvm.ClassFile.FieldType.int) [((0 : Nat), (7 : Nat), (10 : Nat), (135 : Nat))]) ∈ lw_all := lw_g (lw_at lw_m6 100 rfl) rfl
theorem q1373 : (Jvm.Cond.classLink "PuddleBoatyardLaw" (135 : Nat) "java/lang/ArithmeticException") ∈ lw_all := lw_g (lw_at lw_m6 101 rfl) rfl
theorem q1387 : (Jvm.Cond.methodLink "PuddleBoatyardLaw" (131 : Nat) ({ cls := "PuddleBoatyard", name := "meanWeight", desc := "()D" } : Jvm.MethodName)) ∈ lw_all := lw_g (lw_at lw_m6 115 rfl) rfl
theorem q1400 : (Jvm.Cond.methodLink "PuddleBoatyardLaw" (319 : Nat) ({ cls := "PuddleBoatyardLaw", name := "writeHull", desc := "(LPuddleBoatyard;I[J)I" } : Jvm.MethodName)) ∈ lw_all := lw_g (lw_at lw_m6 128 rfl) rfl
theorem q1401 : (Jvm.Cond.static ({ cls := "PuddleBoatyardLaw", name := "writeHull", desc := "(LPuddleBoatyard;I[J)I" } : Jvm.MethodName)) ∈ lw_all := lw_g (lw_at lw_m6 129 rfl) rfl
theorem q1402 : (Jvm.Cond.codeWith ({ cls := "PuddleBoatyardLaw", name := "writeHull", desc := "(LPuddleBoatyard;I[J)I" } : Jvm.MethodName) method_39_code (4 : Nat) (Option.some Jvm.ClassFile.FieldType.int) [((0 : Nat), (9 : Nat), (12 : Nat), (19 : Nat))]) ∈ lw_all := lw_g (lw_at lw_m6 130 rfl) rfl
theorem q1403 : (Jvm.Cond.methodLink "PuddleBoatyardLaw" (137 : Nat) ({ cls := "PuddleBoatyard", name := "writeHull", desc := "(I)I" } : Jvm.MethodName)) ∈ lw_all := lw_g (lw_at lw_m6 131 rfl) rfl
theorem q1639 : (Jvm.Cond.methodLink "PuddleBoatyardLaw" (322 : Nat) ({ cls := "PuddleBoatyardLaw", name := "lineAt", desc := "(LPuddleBoatyard;I[J)I" } : Jvm.MethodName)) ∈ lw_all := lw_g (lw_at lw_m7 127 rfl) rfl
theorem q1640 : (Jvm.Cond.static ({ cls := "PuddleBoatyardLaw", name := "lineAt", desc := "(LPuddleBoatyard;I[J)I" } : Jvm.MethodName)) ∈ lw_all := lw_g (lw_at lw_m7 128 rfl) rfl
theorem q1641 : (Jvm.Cond.codeWith ({ cls := "PuddleBoatyardLaw", name := "lineAt", desc := "(LPuddleBoatyard;I[J)I" } : Jvm.MethodName) method_40_code (4 : Nat) (Option.some Jvm.ClassFile.FieldType.int) [((0 : Nat), (9 : Nat), (12 : Nat), (19 : Nat))]) ∈ lw_all := lw_g (lw_at lw_m7 129 rfl) rfl
theorem q1642 : (Jvm.Cond.methodLink "PuddleBoatyardLaw" (140 : Nat) ({ cls := "PuddleBoatyard", name := "lineAt", desc := "(I)C" } : Jvm.MethodName)) ∈ lw_all := lw_g (lw_at lw_m7 130 rfl) rfl
theorem q1661 : (Jvm.Cond.methodLink "PuddleBoatyardLaw" (325 : Nat) ({ cls := "PuddleBoatyardLaw", name := "type", desc := "(LPuddleBoatyard;C[J)I" } : Jvm.MethodName)) ∈ lw_all := lw_g (lw_at lw_m7 149 rfl) rfl
theorem q1662 : (Jvm.Cond.static ({ cls := "PuddleBoatyardLaw", name := "type", desc := "(LPuddleBoatyard;C[J)I" } : Jvm.MethodName)) ∈ lw_all := lw_g (lw_at lw_m7 150 rfl) rfl
theorem q1663 : (Jvm.Cond.codeWith ({ cls := "PuddleBoatyardLaw", name := "type", desc := "(LPuddleBoatyard;C[J)I" } : Jvm.MethodName) method_41_code (4 : Nat) (Option.some Jvm.ClassFile.FieldType.int) [((0 : Nat), (9 : Nat), (12 : Nat), (21 : Nat)), ((0 : Nat), (9 : Nat), (15 : Nat), (13 : Nat))]) ∈ lw_all := lw_g (lw_at lw_m7 151 rfl) rfl
theorem q1664 : (Jvm.Cond.methodLink "PuddleBoatyardLaw" (144 : Nat) ({ cls := "PuddleBoatyard", name := "type", desc := "(C)I" } : Jvm.MethodName)) ∈ lw_all := lw_g (lw_at lw_m7 152 rfl) rfl
theorem q1670 : (Jvm.Cond.methodLink "PuddleBoatyardLaw" (329 : Nat) ({ cls := "PuddleBoatyardLaw", name := "execute", desc := "(LPuddleBoatyard;[J)I" } : Jvm.MethodName)) ∈ lw_all := lw_g (lw_at lw_m7 158 rfl) rfl
theorem q1671 : (Jvm.Cond.static ({ cls := "PuddleBoatyardLaw", name := "execute", desc := "(LPuddleBoatyard;[J)I" } : Jvm.MethodName)) ∈ lw_all := lw_g (lw_at lw_m7 159 rfl) rfl
theorem q1672 : (Jvm.Cond.codeWith ({ cls := "PuddleBoatyardLaw", name := "execute", desc := "(LPuddleBoatyard;[J)I" } : Jvm.MethodName) method_42_code (3 : Nat) (Option.some Jvm.ClassFile.FieldType.int) [((0 : Nat), (8 : Nat), (11 : Nat), (21 : Nat)), ((0 : Nat), (8 : Nat), (14 : Nat), (13 : Nat))]) ∈ lw_all := lw_g (lw_at lw_m7 160 rfl) rfl
theorem q1673 : (Jvm.Cond.methodLink "PuddleBoatyardLaw" (148 : Nat) ({ cls := "PuddleBoatyard", name := "execute", desc := "()I" } : Jvm.MethodName)) ∈ lw_all := lw_g (lw_at lw_m7 161 rfl) rfl
theorem q1828 : (Jvm.Cond.methodLink "PuddleBoatyardLaw" (332 : Nat) ({ cls := "PuddleBoatyardLaw", name := "errorPosition", desc := "(LPuddleBoatyard;[J)I" } : Jvm.MethodName)) ∈ lw_all := lw_g (lw_at lw_m8 76 rfl) rfl
theorem q1829 : (Jvm.Cond.static ({ cls := "PuddleBoatyardLaw", name := "errorPosition", desc := "(LPuddleBoatyard;[J)I" } : Jvm.MethodName)) ∈ lw_all := lw_g (lw_at lw_m8 77 rfl) rfl
theorem q1830 : (Jvm.Cond.codeWith ({ cls := "PuddleBoatyardLaw", name := "errorPosition", desc := "(LPuddleBoatyard;[J)I" } : Jvm.MethodName) method_43_code (3 : Nat) (Option.some Jvm.ClassFile.FieldType.int) [((0 : Nat), (8 : Nat), (11 : Nat), (64 : Nat))]) ∈ lw_all := lw_g (lw_at lw_m8 78 rfl) rfl
theorem q1831 : (Jvm.Cond.methodLink "PuddleBoatyardLaw" (151 : Nat) ({ cls := "PuddleBoatyard", name := "errorPosition", desc := "()I" } : Jvm.MethodName)) ∈ lw_all := lw_g (lw_at lw_m8 79 rfl) rfl
theorem q1835 : (Jvm.Cond.methodLink "PuddleBoatyardLaw" (335 : Nat) ({ cls := "PuddleBoatyardLaw", name := "failedCommand", desc := "(LPuddleBoatyard;[J)I" } : Jvm.MethodName)) ∈ lw_all := lw_g (lw_at lw_m8 83 rfl) rfl
theorem q1836 : (Jvm.Cond.static ({ cls := "PuddleBoatyardLaw", name := "failedCommand", desc := "(LPuddleBoatyard;[J)I" } : Jvm.MethodName)) ∈ lw_all := lw_g (lw_at lw_m8 84 rfl) rfl
theorem q1837 : (Jvm.Cond.codeWith ({ cls := "PuddleBoatyardLaw", name := "failedCommand", desc := "(LPuddleBoatyard;[J)I" } : Jvm.MethodName) method_44_code (3 : Nat) (Option.some Jvm.ClassFile.FieldType.int) [((0 : Nat), (8 : Nat), (11 : Nat), (64 : Nat))]) ∈ lw_all := lw_g (lw_at lw_m8 85 rfl) rfl
theorem q1838 : (Jvm.Cond.methodLink "PuddleBoatyardLaw" (154 : Nat) ({ cls := "PuddleBoatyard", name := "failedCommand", desc := "()I" } : Jvm.MethodName)) ∈ lw_all := lw_g (lw_at lw_m8 86 rfl) rfl
theorem q1842 : (Jvm.Cond.methodLink "PuddleBoatyardLaw" (338 : Nat) ({ cls := "PuddleBoatyardLaw", name := "undo", desc := "(LPuddleBoatyard;[J)I" } : Jvm.MethodName)) ∈ lw_all := lw_g (lw_at lw_m8 90 rfl) rfl
theorem q1843 : (Jvm.Cond.static ({ cls := "PuddleBoatyardLaw", name := "undo", desc := "(LPuddleBoatyard;[J)I" } : Jvm.MethodName)) ∈ lw_all := lw_g (lw_at lw_m8 91 rfl) rfl
theorem q1844 : (Jvm.Cond.codeWith ({ cls := "PuddleBoatyardLaw", name := "undo", desc := "(LPuddleBoatyard;[J)I" } : Jvm.MethodName) method_45_code (3 : Nat) (Option.some Jvm.ClassFile.FieldType.int) [((0 : Nat), (8 : Nat), (11 : Nat), (13 : Nat))]) ∈ lw_all := lw_g (lw_at lw_m8 92 rfl) rfl
theorem q1845 : (Jvm.Cond.methodLink "PuddleBoatyardLaw" (157 : Nat) ({ cls := "PuddleBoatyard", name := "undo", desc := "()I" } : Jvm.MethodName)) ∈ lw_all := lw_g (lw_at lw_m8 93 rfl) rfl
theorem q1877 : (Jvm.Cond.methodLink "PuddleBoatyardLaw" (345 : Nat) ({ cls := "PuddleBoatyardLaw", name := "restore", desc := "(LPuddleBoatyard;[J)I" } : Jvm.MethodName)) ∈ lw_all := lw_g (lw_at lw_m8 125 rfl) rfl
theorem q1878 : (Jvm.Cond.static ({ cls := "PuddleBoatyardLaw", name := "restore", desc := "(LPuddleBoatyard;[J)I" } : Jvm.MethodName)) ∈ lw_all := lw_g (lw_at lw_m8 126 rfl) rfl
theorem q1879 : (Jvm.Cond.codeWith ({ cls := "PuddleBoatyardLaw", name := "restore", desc := "(LPuddleBoatyard;[J)I" } : Jvm.MethodName) method_46_code (3 : Nat) (Option.some Jvm.ClassFile.FieldType.int) [((0 : Nat), (8 : Nat), (11 : Nat), (13 : Nat))]) ∈ lw_all := lw_g (lw_at lw_m8 127 rfl) rfl
theorem q1880 : (Jvm.Cond.methodLink "PuddleBoatyardLaw" (160 : Nat) ({ cls := "PuddleBoatyard", name := "restore", desc := "()I" } : Jvm.MethodName)) ∈ lw_all := lw_g (lw_at lw_m8 128 rfl) rfl
theorem q1895 : (Jvm.Cond.classLink "PuddleBoatyardLaw" (164 : Nat) "PuddleBoatyardModel") ∈ lw_all := lw_g (lw_at lw_m8 143 rfl) rfl
theorem q1897 : (Jvm.Cond.methodLink "PuddleBoatyardLaw" (166 : Nat) ({ cls := "PuddleBoatyardModel", name := "<init>", desc := "()V" } : Jvm.MethodName)) ∈ lw_all := lw_g (lw_at lw_m8 145 rfl) rfl
theorem q1975 : (Jvm.Cond.methodLink "PuddleBoatyardLaw" (173 : Nat) ({ cls := "PuddleBoatyardModel", name := "thrown", desc := "()I" } : Jvm.MethodName)) ∈ lw_all := lw_g (lw_at lw_m8 223 rfl) rfl
theorem q1979 : (Jvm.Cond.methodLink "PuddleBoatyardLaw" (172 : Nat) ({ cls := "PuddleBoatyardModel", name := "beginHull", desc := "()I" } : Jvm.MethodName)) ∈ lw_all := lw_g (lw_at lw_m8 227 rfl) rfl
theorem q1999 : (Jvm.Cond.methodLink "PuddleBoatyardLaw" (179 : Nat) ({ cls := "PuddleBoatyardModel", name := "addFrame", desc := "(III)I" } : Jvm.MethodName)) ∈ lw_all := lw_g (lw_at lw_m9 7 rfl) rfl
theorem q2026 : (Jvm.Cond.methodLink "PuddleBoatyardLaw" (183 : Nat) ({ cls := "PuddleBoatyardModel", name := "mirror", desc := "(I)I" } : Jvm.MethodName)) ∈ lw_all := lw_g (lw_at lw_m9 34 rfl) rfl
theorem q2038 : (Jvm.Cond.methodLink "PuddleBoatyardLaw" (187 : Nat) ({ cls := "PuddleBoatyardModel", name := "setCargo", desc := "(II)I" } : Jvm.MethodName)) ∈ lw_all := lw_g (lw_at lw_m9 46 rfl) rfl
theorem q2051 : (Jvm.Cond.methodLink "PuddleBoatyardLaw" (190 : Nat) ({ cls := "PuddleBoatyardModel", name := "launch", desc := "(I)I" } : Jvm.MethodName)) ∈ lw_all := lw_g (lw_at lw_m9 59 rfl) rfl
theorem q2080 : (Jvm.Cond.methodLink "PuddleBoatyardLaw" (193 : Nat) ({ cls := "PuddleBoatyardModel", name := "caulk", desc := "(II)I" } : Jvm.MethodName)) ∈ lw_all := lw_g (lw_at lw_m9 88 rfl) rfl
theorem q2092 : (Jvm.Cond.methodLink "PuddleBoatyardLaw" (196 : Nat) ({ cls := "PuddleBoatyardModel", name := "pump", desc := "(II)I" } : Jvm.MethodName)) ∈ lw_all := lw_g (lw_at lw_m9 100 rfl) rfl
theorem q2100 : (Jvm.Cond.methodLink "PuddleBoatyardLaw" (246 : Nat) ({ cls := "PuddleBoatyardModel", name := "setTide", desc := "(II)I" } : Jvm.MethodName)) ∈ lw_all := lw_g (lw_at lw_m9 108 rfl) rfl
theorem q2110 : (Jvm.Cond.methodLink "PuddleBoatyardLaw" (249 : Nat) ({ cls := "PuddleBoatyardModel", name := "pass", desc := "(I)I" } : Jvm.MethodName)) ∈ lw_all := lw_g (lw_at lw_m9 118 rfl) rfl
theorem q2123 : (Jvm.Cond.methodLink "PuddleBoatyardLaw" (268 : Nat) ({ cls := "PuddleBoatyardModel", name := "setSlip", desc := "(II)I" } : Jvm.MethodName)) ∈ lw_all := lw_g (lw_at lw_m9 131 rfl) rfl
theorem q2129 : (Jvm.Cond.methodLink "PuddleBoatyardLaw" (286 : Nat) ({ cls := "PuddleBoatyardModel", name := "addOrder", desc := "(III)I" } : Jvm.MethodName)) ∈ lw_all := lw_g (lw_at lw_m9 137 rfl) rfl
theorem q2138 : (Jvm.Cond.methodLink "PuddleBoatyardLaw" (289 : Nat) ({ cls := "PuddleBoatyardModel", name := "deliver", desc := "(II)I" } : Jvm.MethodName)) ∈ lw_all := lw_g (lw_at lw_m9 146 rfl) rfl
theorem q2154 : (Jvm.Cond.methodLink "PuddleBoatyardLaw" (200 : Nat) ({ cls := "PuddleBoatyardModel", name := "hullCount", desc := "()I" } : Jvm.MethodName)) ∈ lw_all := lw_g (lw_at lw_m9 162 rfl) rfl
theorem q2158 : (Jvm.Cond.methodLink "PuddleBoatyardLaw" (203 : Nat) ({ cls := "PuddleBoatyardModel", name := "stateOf", desc := "(I)I" } : Jvm.MethodName)) ∈ lw_all := lw_g (lw_at lw_m9 166 rfl) rfl
theorem q2166 : (Jvm.Cond.methodLink "PuddleBoatyardLaw" (206 : Nat) ({ cls := "PuddleBoatyardModel", name := "frameCount", desc := "(I)I" } : Jvm.MethodName)) ∈ lw_all := lw_g (lw_at lw_m9 174 rfl) rfl
theorem q2170 : (Jvm.Cond.methodLink "PuddleBoatyardLaw" (210 : Nat) ({ cls := "PuddleBoatyardModel", name := "widthOf", desc := "(IIZ)I" } : Jvm.MethodName)) ∈ lw_all := lw_g (lw_at lw_m9 178 rfl) rfl
theorem q2174 : (Jvm.Cond.methodLink "PuddleBoatyardLaw" (213 : Nat) ({ cls := "PuddleBoatyardModel", name := "caulkingOf", desc := "(II)I" } : Jvm.MethodName)) ∈ lw_all := lw_g (lw_at lw_m9 182 rfl) rfl
theorem q2178 : (Jvm.Cond.methodLink "PuddleBoatyardLaw" (216 : Nat) ({ cls := "PuddleBoatyardModel", name := "waterIn", desc := "(I)I" } : Jvm.MethodName)) ∈ lw_all := lw_g (lw_at lw_m9 186 rfl) rfl
theorem q2182 : (Jvm.Cond.methodLink "PuddleBoatyardLaw" (219 : Nat) ({ cls := "PuddleBoatyardModel", name := "weightOf", desc := "(I)I" } : Jvm.MethodName)) ∈ lw_all := lw_g (lw_at lw_m9 190 rfl) rfl
theorem q2186 : (Jvm.Cond.methodLink "PuddleBoatyardLaw" (222 : Nat) ({ cls := "PuddleBoatyardModel", name := "draughtOf", desc := "(I)I" } : Jvm.MethodName)) ∈ lw_all := lw_g (lw_at lw_m9 194 rfl) rfl
theorem q2190 : (Jvm.Cond.methodLink "PuddleBoatyardLaw" (225 : Nat) ({ cls := "PuddleBoatyardModel", name := "draughtByHalving", desc := "(I)I" } : Jvm.MethodName)) ∈ lw_all := lw_g (lw_at lw_m9 198 rfl) rfl
theorem q2195 : (Jvm.Cond.methodLink "PuddleBoatyardLaw" (228 : Nat) ({ cls := "PuddleBoatyardModel", name := "heelOf", desc := "(I)I" } : Jvm.MethodName)) ∈ lw_all := lw_g (lw_at lw_m9 203 rfl) rfl
theorem q2199 : (Jvm.Cond.methodLink "PuddleBoatyardLaw" (231 : Nat) ({ cls := "PuddleBoatyardModel", name := "hullAtRank", desc := "(I)I" } : Jvm.MethodName)) ∈ lw_all := lw_g (lw_at lw_m9 207 rfl) rfl
theorem q2203 : (Jvm.Cond.methodLink "PuddleBoatyardLaw" (234 : Nat) ({ cls := "PuddleBoatyardModel", name := "isSymmetric", desc := "(I)Z" } : Jvm.MethodName)) ∈ lw_all := lw_g (lw_at lw_m9 211 rfl) rfl
theorem q2219 : (Jvm.Cond.methodLink "PuddleBoatyardLaw" (237 : Nat) ({ cls := "PuddleBoatyardModel", name := "isReflectionOf", desc := "(II)Z" } : Jvm.MethodName)) ∈ lw_all := lw_g (lw_at lw_m9 227 rfl) rfl
theorem q2220 : (Jvm.Cond.methodLink "PuddleBoatyardLaw" (240 : Nat) ({ cls := "PuddleBoatyardModel", name := "commonStretch", desc := "(II)I" } : Jvm.MethodName)) ∈ lw_all := lw_g (lw_at lw_m9 228 rfl) rfl
theorem q2224 : (Jvm.Cond.methodLink "PuddleBoatyardLaw" (243 : Nat) ({ cls := "PuddleBoatyardModel", name := "commonStretchByTrying", desc := "(II)I" } : Jvm.MethodName)) ∈ lw_all := lw_g (lw_at lw_m9 232 rfl) rfl
theorem q2229 : (Jvm.Cond.methodLink "PuddleBoatyardLaw" (253 : Nat) ({ cls := "PuddleBoatyardModel", name := "hour", desc := "()I" } : Jvm.MethodName)) ∈ lw_all := lw_g (lw_at lw_m9 237 rfl) rfl
theorem q2233 : (Jvm.Cond.methodLink "PuddleBoatyardLaw" (256 : Nat) ({ cls := "PuddleBoatyardModel", name := "tideAfter", desc := "(I)I" } : Jvm.MethodName)) ∈ lw_all := lw_g (lw_at lw_m10 1 rfl) rfl
theorem q2237 : (Jvm.Cond.methodLink "PuddleBoatyardLaw" (259 : Nat) ({ cls := "PuddleBoatyardModel", name := "hoursToLaunch", desc := "(I)I" } : Jvm.MethodName)) ∈ lw_all := lw_g (lw_at lw_m10 5 rfl) rfl
theorem q2241 : (Jvm.Cond.methodLink "PuddleBoatyardLaw" (262 : Nat) ({ cls := "PuddleBoatyardModel", name := "hoursToLaunchByTides", desc := "(I)I" } : Jvm.MethodName)) ∈ lw_all := lw_g (lw_at lw_m10 9 rfl) rfl
theorem q2246 : (Jvm.Cond.methodLink "PuddleBoatyardLaw" (265 : Nat) ({ cls := "PuddleBoatyardModel", name := "hoursToSinking", desc := "(I)I" } : Jvm.MethodName)) ∈ lw_all := lw_g (lw_at lw_m10 14 rfl) rfl
theorem q2250 : (Jvm.Cond.methodLink "PuddleBoatyardLaw" (271 : Nat) ({ cls := "PuddleBoatyardModel", name := "slipLength", desc := "(I)I" } : Jvm.MethodName)) ∈ lw_all := lw_g (lw_at lw_m10 18 rfl) rfl
theorem q2254 : (Jvm.Cond.methodLink "PuddleBoatyardLaw" (275 : Nat) ({ cls := "PuddleBoatyardModel", name := "mostOnSlips", desc := "()I" } : Jvm.MethodName)) ∈ lw_all := lw_g (lw_at lw_m10 22 rfl) rfl
theorem q2266 : (Jvm.Cond.methodLink "PuddleBoatyardLaw" (279 : Nat) ({ cls := "PuddleBoatyardModel", name := "mostOnSlipsByLengths", desc := "()I" } : Jvm.MethodName)) ∈ lw_all := lw_g (lw_at lw_m10 34 rfl) rfl
theorem q2271 : (Jvm.Cond.methodLink "PuddleBoatyardLaw" (283 : Nat) ({ cls := "PuddleBoatyardModel", name := "bestUses", desc := "()I" } : Jvm.MethodName)) ∈ lw_all := lw_g (lw_at lw_m10 39 rfl) rfl
theorem q2275 : (Jvm.Cond.methodLink "PuddleBoatyardLaw" (293 : Nat) ({ cls := "PuddleBoatyardModel", name := "orderCount", desc := "()I" } : Jvm.MethodName)) ∈ lw_all := lw_g (lw_at lw_m10 43 rfl) rfl
theorem q2279 : (Jvm.Cond.methodLink "PuddleBoatyardLaw" (296 : Nat) ({ cls := "PuddleBoatyardModel", name := "orderAt", desc := "(I)I" } : Jvm.MethodName)) ∈ lw_all := lw_g (lw_at lw_m10 47 rfl) rfl
theorem q2283 : (Jvm.Cond.methodLink "PuddleBoatyardLaw" (299 : Nat) ({ cls := "PuddleBoatyardModel", name := "coinsFor", desc := "(I)I" } : Jvm.MethodName)) ∈ lw_all := lw_g (lw_at lw_m10 51 rfl) rfl
theorem q2287 : (Jvm.Cond.methodLink "PuddleBoatyardLaw" (303 : Nat) ({ cls := "PuddleBoatyardModel", name := "bestDelivery", desc := "()I" } : Jvm.MethodName)) ∈ lw_all := lw_g (lw_at lw_m10 55 rfl) rfl
theorem q2295 : (Jvm.Cond.methodLink "PuddleBoatyardLaw" (308 : Nat) ({ cls := "PuddleBoatyardModel", name := "paidCoins", desc := "()J" } : Jvm.MethodName)) ∈ lw_all := lw_g (lw_at lw_m10 63 rfl) rfl
theorem q2299 : (Jvm.Cond.methodLink "PuddleBoatyardLaw" (311 : Nat) ({ cls := "PuddleBoatyardModel", name := "hullsIn", desc := "(I)I" } : Jvm.MethodName)) ∈ lw_all := lw_g (lw_at lw_m10 67 rfl) rfl
theorem q2303 : (Jvm.Cond.methodLink "PuddleBoatyardLaw" (314 : Nat) ({ cls := "PuddleBoatyardModel", name := "refusalReason", desc := "()I" } : Jvm.MethodName)) ∈ lw_all := lw_g (lw_at lw_m10 71 rfl) rfl
theorem q2307 : (Jvm.Cond.methodLink "PuddleBoatyardLaw" (318 : Nat) ({ cls := "PuddleBoatyardModel", name := "meanWeight", desc := "()D" } : Jvm.MethodName)) ∈ lw_all := lw_g (lw_at lw_m10 75 rfl) rfl
theorem q2311 : (Jvm.Cond.methodLink "PuddleBoatyardLaw" (321 : Nat) ({ cls := "PuddleBoatyardModel", name := "writeHull", desc := "(I)I" } : Jvm.MethodName)) ∈ lw_all := lw_g (lw_at lw_m10 79 rfl) rfl
theorem q2323 : (Jvm.Cond.methodLink "PuddleBoatyardLaw" (324 : Nat) ({ cls := "PuddleBoatyardModel", name := "lineAt", desc := "(I)C" } : Jvm.MethodName)) ∈ lw_all := lw_g (lw_at lw_m10 91 rfl) rfl
theorem q2327 : (Jvm.Cond.methodLink "PuddleBoatyardLaw" (328 : Nat) ({ cls := "PuddleBoatyardModel", name := "type", desc := "(C)I" } : Jvm.MethodName)) ∈ lw_all := lw_g (lw_at lw_m10 95 rfl) rfl
theorem q2333 : (Jvm.Cond.methodLink "PuddleBoatyardLaw" (331 : Nat) ({ cls := "PuddleBoatyardModel", name := "execute", desc := "()I" } : Jvm.MethodName)) ∈ lw_all := lw_g (lw_at lw_m10 101 rfl) rfl
theorem q2379 : (Jvm.Cond.methodLink "PuddleBoatyardLaw" (334 : Nat) ({ cls := "PuddleBoatyardModel", name := "errorPosition", desc := "()I" } : Jvm.MethodName)) ∈ lw_all := lw_g (lw_at lw_m10 147 rfl) rfl
theorem q2383 : (Jvm.Cond.methodLink "PuddleBoatyardLaw" (337 : Nat) ({ cls := "PuddleBoatyardModel", name := "failedCommand", desc := "()I" } : Jvm.MethodName)) ∈ lw_all := lw_g (lw_at lw_m10 151 rfl) rfl
theorem q2387 : (Jvm.Cond.methodLink "PuddleBoatyardLaw" (340 : Nat) ({ cls := "PuddleBoatyardModel", name := "undo", desc := "()I" } : Jvm.MethodName)) ∈ lw_all := lw_g (lw_at lw_m10 155 rfl) rfl
theorem q2391 : (Jvm.Cond.methodLink "PuddleBoatyardLaw" (344 : Nat) ({ cls := "PuddleBoatyardModel", name := "save", desc := "()I" } : Jvm.MethodName)) ∈ lw_all := lw_g (lw_at lw_m10 159 rfl) rfl
theorem q2395 : (Jvm.Cond.methodLink "PuddleBoatyardLaw" (347 : Nat) ({ cls := "PuddleBoatyardModel", name := "restore", desc := "()I" } : Jvm.MethodName)) ∈ lw_all := lw_g (lw_at lw_m10 163 rfl) rfl
/-! PuddleBoatyard -/
def RX1 : String := "PuddleBoatyard"
def TX1 : u_T := fun k => match k with
  | 0 => ("PuddleBoatyard", "yard", "LPuddleBoatyard$Yard;", false)
  | 1 => ("PuddleBoatyard", "snapshot", "LPuddleBoatyard$Yard;", false)
  | 2 => ("PuddleBoatyard", "history", "LPuddleBoatyard$History;", true)
  | 3 => ("PuddleBoatyard", "refusalReason", "I", false)
  | 4 => ("PuddleBoatyard", "errorPosition", "I", false)
  | 5 => ("PuddleBoatyard", "failedCommand", "I", false)
  | 6 => ("PuddleBoatyard", "line", "Ljava/lang/String;", false)
  | _ => ("PuddleBoatyard", "buffer", "Ljava/lang/StringBuilder;", true)
def tyX1 : Nat → FieldType := fun k => match k with
  | 0 => .object "PuddleBoatyard$Yard"
  | 1 => .object "PuddleBoatyard$Yard"
  | 2 => .object "PuddleBoatyard$History"
  | 3 => .int
  | 4 => .int
  | 5 => .int
  | 6 => .object "java/lang/String"
  | _ => .object "java/lang/StringBuilder"
abbrev wsX10 : List Cond := u_ws RX1 TX1 8
theorem nmX1 : ∀ a, a < 8 → ∀ b, b < 8 → a ≠ b → (TX1 a).2.1 ≠ (TX1 b).2.1 := by decide +kernel
theorem tyX1_ok : ∀ k, k < 8 → parseFieldDescriptor (TX1 k).2.2.1 = some (tyX1 k) := by decide +kernel
abbrev cX1_init : ByteArray := prog_1_method_4_code
def yX1_init : MethodName := ⟨RX1, "<init>", "()V"⟩
abbrev cX1_hullCount : ByteArray := prog_1_method_12_code
def yX1_hullCount : MethodName := ⟨RX1, "hullCount", "()I"⟩
abbrev cX1_hour : ByteArray := prog_1_method_31_code
def yX1_hour : MethodName := ⟨RX1, "hour", "()I"⟩
abbrev cX1_mostOnSlips : ByteArray := prog_1_method_39_code
def yX1_mostOnSlips : MethodName := ⟨RX1, "mostOnSlips", "()I"⟩
abbrev cX1_mostOnSlipsByLengths : ByteArray := prog_1_method_40_code
def yX1_mostOnSlipsByLengths : MethodName := ⟨RX1, "mostOnSlipsByLengths", "()I"⟩
abbrev cX1_bestUses : ByteArray := prog_1_method_41_code
def yX1_bestUses : MethodName := ⟨RX1, "bestUses", "()I"⟩
abbrev cX1_orderCount : ByteArray := prog_1_method_44_code
def yX1_orderCount : MethodName := ⟨RX1, "orderCount", "()I"⟩
abbrev cX1_bestDelivery : ByteArray := prog_1_method_47_code
def yX1_bestDelivery : MethodName := ⟨RX1, "bestDelivery", "()I"⟩
abbrev cX1_paidCoins : ByteArray := prog_1_method_48_code
def yX1_paidCoins : MethodName := ⟨RX1, "paidCoins", "()J"⟩
abbrev cX1_save : ByteArray := prog_1_method_61_code
def yX1_save : MethodName := ⟨RX1, "save", "()I"⟩
abbrev cX1_beginHull : ByteArray := prog_1_method_5_code
def yX1_beginHull : MethodName := ⟨RX1, "beginHull", "()I"⟩
abbrev cX1_modify : ByteArray := prog_1_method_3_code
def yX1_modify : MethodName := ⟨RX1, "modify", "(LPuddleBoatyard$Operation;)I"⟩
abbrev cX1_sum : ByteArray := prog_1_method_1_code
def yX1_sum : MethodName := ⟨RX1, "sum", "([I)I"⟩
abbrev cX1_commit : ByteArray := prog_1_method_2_code
def yX1_commit : MethodName := ⟨RX1, "commit", "(LPuddleBoatyard$Yard;I)I"⟩
abbrev cX1_addFrame : ByteArray := prog_1_method_6_code
def yX1_addFrame : MethodName := ⟨RX1, "addFrame", "(III)I"⟩
abbrev cX1_mirror : ByteArray := prog_1_method_7_code
def yX1_mirror : MethodName := ⟨RX1, "mirror", "(I)I"⟩
abbrev cX1_setCargo : ByteArray := prog_1_method_8_code
def yX1_setCargo : MethodName := ⟨RX1, "setCargo", "(II)I"⟩
abbrev cX1_launch : ByteArray := prog_1_method_9_code
def yX1_launch : MethodName := ⟨RX1, "launch", "(I)I"⟩
abbrev cX1_caulk : ByteArray := prog_1_method_10_code
def yX1_caulk : MethodName := ⟨RX1, "caulk", "(II)I"⟩
abbrev cX1_pump : ByteArray := prog_1_method_11_code
def yX1_pump : MethodName := ⟨RX1, "pump", "(II)I"⟩
abbrev cX1_stateOf : ByteArray := prog_1_method_13_code
def yX1_stateOf : MethodName := ⟨RX1, "stateOf", "(I)I"⟩
abbrev cX1_frameCount : ByteArray := prog_1_method_14_code
def yX1_frameCount : MethodName := ⟨RX1, "frameCount", "(I)I"⟩
abbrev cX1_widthOf : ByteArray := prog_1_method_15_code
def yX1_widthOf : MethodName := ⟨RX1, "widthOf", "(IIZ)I"⟩
abbrev cX1_caulkingOf : ByteArray := prog_1_method_16_code
def yX1_caulkingOf : MethodName := ⟨RX1, "caulkingOf", "(II)I"⟩
abbrev cX1_waterIn : ByteArray := prog_1_method_17_code
def yX1_waterIn : MethodName := ⟨RX1, "waterIn", "(I)I"⟩
abbrev cX1_weightOf : ByteArray := prog_1_method_18_code
def yX1_weightOf : MethodName := ⟨RX1, "weightOf", "(I)I"⟩
abbrev cX1_draughtOf : ByteArray := prog_1_method_20_code
def yX1_draughtOf : MethodName := ⟨RX1, "draughtOf", "(I)I"⟩
abbrev cX1_found : ByteArray := prog_1_method_19_code
def yX1_found : MethodName := ⟨RX1, "found", "(I)I"⟩
abbrev cX1_draughtByHalving : ByteArray := prog_1_method_21_code
def yX1_draughtByHalving : MethodName := ⟨RX1, "draughtByHalving", "(I)I"⟩
abbrev cX1_heelOf : ByteArray := prog_1_method_22_code
def yX1_heelOf : MethodName := ⟨RX1, "heelOf", "(I)I"⟩
abbrev cX1_hullAtRank : ByteArray := prog_1_method_24_code
def yX1_hullAtRank : MethodName := ⟨RX1, "hullAtRank", "(I)I"⟩
abbrev cX1_isAhead : ByteArray := prog_1_method_23_code
def yX1_isAhead : MethodName := ⟨RX1, "isAhead", "(LPuddleBoatyard$Hull;LPuddleBoatyard$Hull;)Z"⟩
abbrev cX1_isSymmetric : ByteArray := prog_1_method_25_code
def yX1_isSymmetric : MethodName := ⟨RX1, "isSymmetric", "(I)Z"⟩
abbrev cX1_isReflectionOf : ByteArray := prog_1_method_26_code
def yX1_isReflectionOf : MethodName := ⟨RX1, "isReflectionOf", "(II)Z"⟩
abbrev cX1_commonStretch : ByteArray := prog_1_method_27_code
def yX1_commonStretch : MethodName := ⟨RX1, "commonStretch", "(II)I"⟩
abbrev cX1_commonStretchByTrying : ByteArray := prog_1_method_28_code
def yX1_commonStretchByTrying : MethodName := ⟨RX1, "commonStretchByTrying", "(II)I"⟩
abbrev cX1_setTide : ByteArray := prog_1_method_29_code
def yX1_setTide : MethodName := ⟨RX1, "setTide", "(II)I"⟩
abbrev cX1_pass : ByteArray := prog_1_method_30_code
def yX1_pass : MethodName := ⟨RX1, "pass", "(I)I"⟩
abbrev cX1_tideAfter : ByteArray := prog_1_method_32_code
def yX1_tideAfter : MethodName := ⟨RX1, "tideAfter", "(I)I"⟩
abbrev cX1_hoursToLaunch : ByteArray := prog_1_method_34_code
def yX1_hoursToLaunch : MethodName := ⟨RX1, "hoursToLaunch", "(I)I"⟩
abbrev cX1_launchDraught : ByteArray := prog_1_method_33_code
def yX1_launchDraught : MethodName := ⟨RX1, "launchDraught", "(I)I"⟩
abbrev cX1_hoursToLaunchByTides : ByteArray := prog_1_method_35_code
def yX1_hoursToLaunchByTides : MethodName := ⟨RX1, "hoursToLaunchByTides", "(I)I"⟩
abbrev cX1_hoursToSinking : ByteArray := prog_1_method_36_code
def yX1_hoursToSinking : MethodName := ⟨RX1, "hoursToSinking", "(I)I"⟩
abbrev cX1_setSlip : ByteArray := prog_1_method_37_code
def yX1_setSlip : MethodName := ⟨RX1, "setSlip", "(II)I"⟩
abbrev cX1_slipLength : ByteArray := prog_1_method_38_code
def yX1_slipLength : MethodName := ⟨RX1, "slipLength", "(I)I"⟩
abbrev cX1_addOrder : ByteArray := prog_1_method_42_code
def yX1_addOrder : MethodName := ⟨RX1, "addOrder", "(III)I"⟩
abbrev cX1_deliver : ByteArray := prog_1_method_43_code
def yX1_deliver : MethodName := ⟨RX1, "deliver", "(II)I"⟩
abbrev cX1_orderAt : ByteArray := prog_1_method_45_code
def yX1_orderAt : MethodName := ⟨RX1, "orderAt", "(I)I"⟩
abbrev cX1_coinsFor : ByteArray := prog_1_method_46_code
def yX1_coinsFor : MethodName := ⟨RX1, "coinsFor", "(I)I"⟩
abbrev cX1_hullsIn : ByteArray := prog_1_method_49_code
def yX1_hullsIn : MethodName := ⟨RX1, "hullsIn", "(I)I"⟩
abbrev cX1_refusalReason : ByteArray := prog_1_method_50_code
def yX1_refusalReason : MethodName := ⟨RX1, "refusalReason", "()I"⟩
abbrev cX1_meanWeight : ByteArray := prog_1_method_51_code
def yX1_meanWeight : MethodName := ⟨RX1, "meanWeight", "()D"⟩
abbrev cX1_writeHull : ByteArray := prog_1_method_52_code
def yX1_writeHull : MethodName := ⟨RX1, "writeHull", "(I)I"⟩
abbrev cX1_lineAt : ByteArray := prog_1_method_53_code
def yX1_lineAt : MethodName := ⟨RX1, "lineAt", "(I)C"⟩
abbrev cX1_type : ByteArray := prog_1_method_54_code
def yX1_type : MethodName := ⟨RX1, "type", "(C)I"⟩
abbrev cX1_execute : ByteArray := prog_1_method_57_code
def yX1_execute : MethodName := ⟨RX1, "execute", "()I"⟩
abbrev cX1_applyAll : ByteArray := prog_1_method_56_code
def yX1_applyAll : MethodName := ⟨RX1, "applyAll", "(Ljava/util/ArrayList;LPuddleBoatyard$Yard;)V"⟩
abbrev cX1_applies : ByteArray := prog_1_method_55_code
def yX1_applies : MethodName := ⟨RX1, "applies", "(LPuddleBoatyard$Operation;LPuddleBoatyard$Yard;)Z"⟩
abbrev cX1_errorPosition : ByteArray := prog_1_method_58_code
def yX1_errorPosition : MethodName := ⟨RX1, "errorPosition", "()I"⟩
abbrev cX1_failedCommand : ByteArray := prog_1_method_59_code
def yX1_failedCommand : MethodName := ⟨RX1, "failedCommand", "()I"⟩
abbrev cX1_undo : ByteArray := prog_1_method_60_code
def yX1_undo : MethodName := ⟨RX1, "undo", "()I"⟩
abbrev cX1_restore : ByteArray := prog_1_method_62_code
def yX1_restore : MethodName := ⟨RX1, "restore", "()I"⟩
theorem q73 : (Jvm.Cond.initialized "PuddleBoatyard") ∈ lw_all := lw_g (lw_at lw_m1 1 rfl) rfl
theorem q118 : (Jvm.Cond.instantiable "PuddleBoatyard" (8 : Nat)) ∈ lw_all := lw_g (lw_at lw_m1 46 rfl) rfl
theorem q120 : (Jvm.Cond.instanceMethod ({ cls := "PuddleBoatyard", name := "<init>", desc := "()V" } : Jvm.MethodName)) ∈ lw_all := lw_g (lw_at lw_m1 48 rfl) rfl
theorem q121 : (Jvm.Cond.code ({ cls := "PuddleBoatyard", name := "<init>", desc := "()V" } : Jvm.MethodName) prog_1_method_4_code (1 : Nat) (Option.none : Option Jvm.ClassFile.FieldType)) ∈ lw_all := lw_g (lw_at lw_m1 49 rfl) rfl
theorem q122 : (Jvm.Cond.methodLink "PuddleBoatyard" (48 : Nat) ({ cls := "java/lang/Object", name := "<init>", desc := "()V" } : Jvm.MethodName)) ∈ lw_all := lw_g (lw_at lw_m1 50 rfl) rfl
theorem q125 : (Jvm.Cond.classLink "PuddleBoatyard" (18 : Nat) "PuddleBoatyard$Yard") ∈ lw_all := lw_g (lw_at lw_m1 53 rfl) rfl
theorem q127 : (Jvm.Cond.methodLinkNest "PuddleBoatyard" (51 : Nat) ({ cls := "PuddleBoatyard$Yard", name := "<init>", desc := "()V" } : Jvm.MethodName) "PuddleBoatyard") ∈ lw_tbl := lw_at lw_m1 55 rfl
theorem q162 : (Jvm.Cond.fieldLink "PuddleBoatyard" (79 : Nat) "PuddleBoatyard$Yard" "hulls" "Ljava/util/ArrayList;") ∈ lw_all := lw_g (lw_at lw_m1 90 rfl) rfl
theorem q164 : (Jvm.Cond.fieldLink "PuddleBoatyard" (235 : Nat) "PuddleBoatyard$Yard" "orders" "Ljava/util/ArrayList;") ∈ lw_all := lw_g (lw_at lw_m1 92 rfl) rfl
theorem q166 : (Jvm.Cond.fieldLink "PuddleBoatyard" (203 : Nat) "PuddleBoatyard$Yard" "tides" "[I") ∈ lw_all := lw_g (lw_at lw_m1 94 rfl) rfl
theorem q168 : (Jvm.Cond.fieldLink "PuddleBoatyard" (222 : Nat) "PuddleBoatyard$Yard" "slips" "[I") ∈ lw_all := lw_g (lw_at lw_m1 96 rfl) rfl
theorem q170 : (Jvm.Cond.fieldLink "PuddleBoatyard" (181 : Nat) "PuddleBoatyard$Yard" "hour" "I") ∈ lw_all := lw_g (lw_at lw_m1 98 rfl) rfl
theorem q173 : (Jvm.Cond.fieldLink "PuddleBoatyard" (253 : Nat) "PuddleBoatyard$Yard" "paid" "J") ∈ lw_all := lw_g (lw_at lw_m1 101 rfl) rfl
theorem q190 : (Jvm.Cond.classLink "PuddleBoatyard" (12 : Nat) "PuddleBoatyard$History") ∈ lw_all := lw_g (lw_at lw_m1 118 rfl) rfl
theorem q192 : (Jvm.Cond.methodLinkNest "PuddleBoatyard" (52 : Nat) ({ cls := "PuddleBoatyard$History", name := "<init>", desc := "()V" } : Jvm.MethodName) "PuddleBoatyard") ∈ lw_tbl := lw_at lw_m1 120 rfl
theorem q218 : (Jvm.Cond.stringRef "PuddleBoatyard" (59 : Nat) "") ∈ lw_tbl := lw_at lw_m1 146 rfl
theorem q219 : (Jvm.Cond.classLink "PuddleBoatyard" (65 : Nat) "java/lang/StringBuilder") ∈ lw_all := lw_g (lw_at lw_m1 147 rfl) rfl
theorem q221 : (Jvm.Cond.methodLink "PuddleBoatyard" (67 : Nat) ({ cls := "java/lang/StringBuilder", name := "<init>", desc := "()V" } : Jvm.MethodName)) ∈ lw_all := lw_g (lw_at lw_m1 149 rfl) rfl
theorem q252 : (Jvm.Cond.fieldLink "PuddleBoatyard" (7 : Nat) "PuddleBoatyard" "yard" "LPuddleBoatyard$Yard;") ∈ lw_all := lw_g (lw_at lw_m1 180 rfl) rfl
theorem q253 : (Jvm.Cond.fieldLink "PuddleBoatyard" (321 : Nat) "PuddleBoatyard" "snapshot" "LPuddleBoatyard$Yard;") ∈ lw_all := lw_g (lw_at lw_m1 181 rfl) rfl
theorem q254 : (Jvm.Cond.fieldLink "PuddleBoatyard" (1 : Nat) "PuddleBoatyard" "history" "LPuddleBoatyard$History;") ∈ lw_all := lw_g (lw_at lw_m1 182 rfl) rfl
theorem q255 : (Jvm.Cond.fieldLink "PuddleBoatyard" (39 : Nat) "PuddleBoatyard" "refusalReason" "I") ∈ lw_all := lw_g (lw_at lw_m1 183 rfl) rfl
theorem q256 : (Jvm.Cond.fieldLink "PuddleBoatyard" (53 : Nat) "PuddleBoatyard" "errorPosition" "I") ∈ lw_all := lw_g (lw_at lw_m1 184 rfl) rfl
theorem q257 : (Jvm.Cond.fieldLink "PuddleBoatyard" (56 : Nat) "PuddleBoatyard" "failedCommand" "I") ∈ lw_all := lw_g (lw_at lw_m1 185 rfl) rfl
theorem q258 : (Jvm.Cond.fieldLink "PuddleBoatyard" (61 : Nat) "PuddleBoatyard" "line" "Ljava/lang/String;") ∈ lw_all := lw_g (lw_at lw_m1 186 rfl) rfl
theorem q259 : (Jvm.Cond.fieldLink "PuddleBoatyard" (68 : Nat) "PuddleBoatyard" "buffer" "Ljava/lang/StringBuilder;") ∈ lw_all := lw_g (lw_at lw_m1 187 rfl) rfl
theorem q260 : (Jvm.Cond.lays "PuddleBoatyard" "PuddleBoatyard" "yard" "LPuddleBoatyard$Yard;") ∈ lw_all := lw_g (lw_at lw_m1 188 rfl) rfl
theorem q261 : (Jvm.Cond.soleField "PuddleBoatyard" "yard") ∈ lw_all := lw_g (lw_at lw_m1 189 rfl) rfl
theorem q262 : (Jvm.Cond.lays "PuddleBoatyard" "PuddleBoatyard" "snapshot" "LPuddleBoatyard$Yard;") ∈ lw_all := lw_g (lw_at lw_m1 190 rfl) rfl
theorem q263 : (Jvm.Cond.soleField "PuddleBoatyard" "snapshot") ∈ lw_all := lw_g (lw_at lw_m1 191 rfl) rfl
theorem q264 : (Jvm.Cond.laysFinal "PuddleBoatyard" "PuddleBoatyard" "history" "LPuddleBoatyard$History;") ∈ lw_all := lw_g (lw_at lw_m1 192 rfl) rfl
theorem q265 : (Jvm.Cond.soleField "PuddleBoatyard" "history") ∈ lw_all := lw_g (lw_at lw_m1 193 rfl) rfl
theorem q266 : (Jvm.Cond.lays "PuddleBoatyard" "PuddleBoatyard" "refusalReason" "I") ∈ lw_all := lw_g (lw_at lw_m1 194 rfl) rfl
theorem q267 : (Jvm.Cond.soleField "PuddleBoatyard" "refusalReason") ∈ lw_all := lw_g (lw_at lw_m1 195 rfl) rfl
theorem q268 : (Jvm.Cond.lays "PuddleBoatyard" "PuddleBoatyard" "errorPosition" "I") ∈ lw_all := lw_g (lw_at lw_m1 196 rfl) rfl
theorem q269 : (Jvm.Cond.soleField "PuddleBoatyard" "errorPosition") ∈ lw_all := lw_g (lw_at lw_m1 197 rfl) rfl
theorem q270 : (Jvm.Cond.lays "PuddleBoatyard" "PuddleBoatyard" "failedCommand" "I") ∈ lw_all := lw_g (lw_at lw_m1 198 rfl) rfl
theorem q271 : (Jvm.Cond.soleField "PuddleBoatyard" "failedCommand") ∈ lw_all := lw_g (lw_at lw_m1 199 rfl) rfl
theorem q272 : (Jvm.Cond.lays "PuddleBoatyard" "PuddleBoatyard" "line" "Ljava/lang/String;") ∈ lw_all := lw_g (lw_at lw_m1 200 rfl) rfl
theorem q273 : (Jvm.Cond.soleField "PuddleBoatyard" "line") ∈ lw_all := lw_g (lw_at lw_m1 201 rfl) rfl
theorem q274 : (Jvm.Cond.laysFinal "PuddleBoatyard" "PuddleBoatyard" "buffer" "Ljava/lang/StringBuilder;") ∈ lw_all := lw_g (lw_at lw_m1 202 rfl) rfl
theorem q275 : (Jvm.Cond.soleField "PuddleBoatyard" "buffer") ∈ lw_all := lw_g (lw_at lw_m1 203 rfl) rfl
theorem q276 : (Jvm.Cond.superclass "PuddleBoatyard" "java/lang/Object") ∈ lw_all := lw_g (lw_at lw_m1 204 rfl) rfl
theorem q278 : (Jvm.Cond.instanceMethod ({ cls := "PuddleBoatyard", name := "hullCount", desc := "()I" } : Jvm.MethodName)) ∈ lw_all := lw_g (lw_at lw_m1 206 rfl) rfl
theorem q279 : (Jvm.Cond.selects "PuddleBoatyard" ({ cls := "PuddleBoatyard", name := "hullCount", desc := "()I" } : Jvm.MethodName) ({ cls := "PuddleBoatyard", name := "hullCount", desc := "()I" } : Jvm.MethodName)) ∈ lw_all := lw_g (lw_at lw_m1 207 rfl) rfl
theorem q280 : (Jvm.Cond.code ({ cls := "PuddleBoatyard", name := "hullCount", desc := "()I" } : Jvm.MethodName) prog_1_method_12_code (1 : Nat) (Option.some Jvm.ClassFile.FieldType.int)) ∈ lw_all := lw_g (lw_at lw_m1 208 rfl) rfl
theorem q281 : (Jvm.Cond.methodLink "PuddleBoatyard" (83 : Nat) ({ cls := "java/util/ArrayList", name := "size", desc := "()I" } : Jvm.MethodName)) ∈ lw_all := lw_g (lw_at lw_m1 209 rfl) rfl
theorem q286 : (Jvm.Cond.instanceMethod ({ cls := "PuddleBoatyard", name := "hour", desc := "()I" } : Jvm.MethodName)) ∈ lw_all := lw_g (lw_at lw_m1 214 rfl) rfl
theorem q287 : (Jvm.Cond.selects "PuddleBoatyard" ({ cls := "PuddleBoatyard", name := "hour", desc := "()I" } : Jvm.MethodName) ({ cls := "PuddleBoatyard", name := "hour", desc := "()I" } : Jvm.MethodName)) ∈ lw_all := lw_g (lw_at lw_m1 215 rfl) rfl
theorem q288 : (Jvm.Cond.code ({ cls := "PuddleBoatyard", name := "hour", desc := "()I" } : Jvm.MethodName) prog_1_method_31_code (1 : Nat) (Option.some Jvm.ClassFile.FieldType.int)) ∈ lw_all := lw_g (lw_at lw_m1 216 rfl) rfl
theorem q290 : (Jvm.Cond.instanceMethod ({ cls := "PuddleBoatyard", name := "mostOnSlips", desc := "()I" } : Jvm.MethodName)) ∈ lw_all := lw_g (lw_at lw_m1 218 rfl) rfl
theorem q291 : (Jvm.Cond.selects "PuddleBoatyard" ({ cls := "PuddleBoatyard", name := "mostOnSlips", desc := "()I" } : Jvm.MethodName) ({ cls := "PuddleBoatyard", name := "mostOnSlips", desc := "()I" } : Jvm.MethodName)) ∈ lw_all := lw_g (lw_at lw_m1 219 rfl) rfl
theorem q292 : (Jvm.Cond.code ({ cls := "PuddleBoatyard", name := "mostOnSlips", desc := "()I" } : Jvm.MethodName) prog_1_method_39_code (1 : Nat) (Option.some Jvm.ClassFile.FieldType.int)) ∈ lw_all := lw_g (lw_at lw_m1 220 rfl) rfl
theorem q293 : (Jvm.Cond.methodLink "PuddleBoatyard" (225 : Nat) ({ cls := "PuddleBoatyard$Yard", name := "mostOnSlips", desc := "()I" } : Jvm.MethodName)) ∈ lw_all := lw_g (lw_at lw_m1 221 rfl) rfl
theorem q354 : (Jvm.Cond.instanceMethod ({ cls := "PuddleBoatyard", name := "mostOnSlipsByLengths", desc := "()I" } : Jvm.MethodName)) ∈ lw_all := lw_g (lw_at lw_m2 42 rfl) rfl
theorem q355 : (Jvm.Cond.selects "PuddleBoatyard" ({ cls := "PuddleBoatyard", name := "mostOnSlipsByLengths", desc := "()I" } : Jvm.MethodName) ({ cls := "PuddleBoatyard", name := "mostOnSlipsByLengths", desc := "()I" } : Jvm.MethodName)) ∈ lw_all := lw_g (lw_at lw_m2 43 rfl) rfl
theorem q356 : (Jvm.Cond.code ({ cls := "PuddleBoatyard", name := "mostOnSlipsByLengths", desc := "()I" } : Jvm.MethodName) prog_1_method_40_code (1 : Nat) (Option.some Jvm.ClassFile.FieldType.int)) ∈ lw_all := lw_g (lw_at lw_m2 44 rfl) rfl
theorem q357 : (Jvm.Cond.methodLink "PuddleBoatyard" (228 : Nat) ({ cls := "PuddleBoatyard$Yard", name := "mostOnSlipsByLengths", desc := "()I" } : Jvm.MethodName)) ∈ lw_all := lw_g (lw_at lw_m2 45 rfl) rfl
theorem q368 : (Jvm.Cond.instanceMethod ({ cls := "PuddleBoatyard", name := "bestUses", desc := "()I" } : Jvm.MethodName)) ∈ lw_all := lw_g (lw_at lw_m2 56 rfl) rfl
theorem q369 : (Jvm.Cond.selects "PuddleBoatyard" ({ cls := "PuddleBoatyard", name := "bestUses", desc := "()I" } : Jvm.MethodName) ({ cls := "PuddleBoatyard", name := "bestUses", desc := "()I" } : Jvm.MethodName)) ∈ lw_all := lw_g (lw_at lw_m2 57 rfl) rfl
theorem q370 : (Jvm.Cond.code ({ cls := "PuddleBoatyard", name := "bestUses", desc := "()I" } : Jvm.MethodName) prog_1_method_41_code (1 : Nat) (Option.some Jvm.ClassFile.FieldType.int)) ∈ lw_all := lw_g (lw_at lw_m2 58 rfl) rfl
theorem q371 : (Jvm.Cond.methodLink "PuddleBoatyard" (231 : Nat) ({ cls := "PuddleBoatyard$Yard", name := "uses", desc := "(III)I" } : Jvm.MethodName)) ∈ lw_all := lw_g (lw_at lw_m2 59 rfl) rfl
theorem q377 : (Jvm.Cond.instanceMethod ({ cls := "PuddleBoatyard", name := "orderCount", desc := "()I" } : Jvm.MethodName)) ∈ lw_all := lw_g (lw_at lw_m2 65 rfl) rfl
theorem q378 : (Jvm.Cond.selects "PuddleBoatyard" ({ cls := "PuddleBoatyard", name := "orderCount", desc := "()I" } : Jvm.MethodName) ({ cls := "PuddleBoatyard", name := "orderCount", desc := "()I" } : Jvm.MethodName)) ∈ lw_all := lw_g (lw_at lw_m2 66 rfl) rfl
theorem q379 : (Jvm.Cond.code ({ cls := "PuddleBoatyard", name := "orderCount", desc := "()I" } : Jvm.MethodName) prog_1_method_44_code (1 : Nat) (Option.some Jvm.ClassFile.FieldType.int)) ∈ lw_all := lw_g (lw_at lw_m2 67 rfl) rfl
theorem q381 : (Jvm.Cond.instanceMethod ({ cls := "PuddleBoatyard", name := "bestDelivery", desc := "()I" } : Jvm.MethodName)) ∈ lw_all := lw_g (lw_at lw_m2 69 rfl) rfl
theorem q382 : (Jvm.Cond.selects "PuddleBoatyard" ({ cls := "PuddleBoatyard", name := "bestDelivery", desc := "()I" } : Jvm.MethodName) ({ cls := "PuddleBoatyard", name := "bestDelivery", desc := "()I" } : Jvm.MethodName)) ∈ lw_all := lw_g (lw_at lw_m2 70 rfl) rfl
theorem q383 : (Jvm.Cond.code ({ cls := "PuddleBoatyard", name := "bestDelivery", desc := "()I" } : Jvm.MethodName) prog_1_method_47_code (1 : Nat) (Option.some Jvm.ClassFile.FieldType.int)) ∈ lw_all := lw_g (lw_at lw_m2 71 rfl) rfl
theorem q384 : (Jvm.Cond.methodLink "PuddleBoatyard" (250 : Nat) ({ cls := "PuddleBoatyard$Yard", name := "bestDelivery", desc := "()I" } : Jvm.MethodName)) ∈ lw_all := lw_g (lw_at lw_m2 72 rfl) rfl
theorem q407 : (Jvm.Cond.instanceMethod ({ cls := "PuddleBoatyard", name := "paidCoins", desc := "()J" } : Jvm.MethodName)) ∈ lw_all := lw_g (lw_at lw_m2 95 rfl) rfl
theorem q408 : (Jvm.Cond.selects "PuddleBoatyard" ({ cls := "PuddleBoatyard", name := "paidCoins", desc := "()J" } : Jvm.MethodName) ({ cls := "PuddleBoatyard", name := "paidCoins", desc := "()J" } : Jvm.MethodName)) ∈ lw_all := lw_g (lw_at lw_m2 96 rfl) rfl
theorem q409 : (Jvm.Cond.code ({ cls := "PuddleBoatyard", name := "paidCoins", desc := "()J" } : Jvm.MethodName) prog_1_method_48_code (1 : Nat) (Option.some Jvm.ClassFile.FieldType.long)) ∈ lw_all := lw_g (lw_at lw_m2 97 rfl) rfl
theorem q411 : (Jvm.Cond.instanceMethod ({ cls := "PuddleBoatyard", name := "save", desc := "()I" } : Jvm.MethodName)) ∈ lw_all := lw_g (lw_at lw_m2 99 rfl) rfl
theorem q412 : (Jvm.Cond.selects "PuddleBoatyard" ({ cls := "PuddleBoatyard", name := "save", desc := "()I" } : Jvm.MethodName) ({ cls := "PuddleBoatyard", name := "save", desc := "()I" } : Jvm.MethodName)) ∈ lw_all := lw_g (lw_at lw_m2 100 rfl) rfl
theorem q413 : (Jvm.Cond.code ({ cls := "PuddleBoatyard", name := "save", desc := "()I" } : Jvm.MethodName) prog_1_method_61_code (1 : Nat) (Option.some Jvm.ClassFile.FieldType.int)) ∈ lw_all := lw_g (lw_at lw_m2 101 rfl) rfl
theorem q414 : (Jvm.Cond.methodLink "PuddleBoatyard" (17 : Nat) ({ cls := "PuddleBoatyard$Yard", name := "copy", desc := "()LPuddleBoatyard$Yard;" } : Jvm.MethodName)) ∈ lw_all := lw_g (lw_at lw_m2 102 rfl) rfl
theorem q432 : (Jvm.Cond.fieldLink "PuddleBoatyard" (160 : Nat) "PuddleBoatyard$Hull" "number" "I") ∈ lw_all := lw_g (lw_at lw_m2 120 rfl) rfl
theorem q435 : (Jvm.Cond.fieldLink "PuddleBoatyard" (115 : Nat) "PuddleBoatyard$Hull" "frames" "Ljava/util/ArrayList;") ∈ lw_all := lw_g (lw_at lw_m2 123 rfl) rfl
theorem q438 : (Jvm.Cond.fieldLink "PuddleBoatyard" (134 : Nat) "PuddleBoatyard$Hull" "caulking" "[I") ∈ lw_all := lw_g (lw_at lw_m2 126 rfl) rfl
theorem q441 : (Jvm.Cond.fieldLink "PuddleBoatyard" (93 : Nat) "PuddleBoatyard$Hull" "state" "LPuddleBoatyard$State;") ∈ lw_all := lw_g (lw_at lw_m2 129 rfl) rfl
theorem q446 : (Jvm.Cond.fieldLink "PuddleBoatyard" (138 : Nat) "PuddleBoatyard$Hull" "water" "I") ∈ lw_all := lw_g (lw_at lw_m2 134 rfl) rfl
theorem q492 : (Jvm.Cond.selects "PuddleBoatyard" ({ cls := "java/lang/Object", name := "getClass", desc := "()Ljava/lang/Class;" } : Jvm.MethodName) ({ cls := "java/lang/Object", name := "getClass", desc := "()Ljava/lang/Class;" } : Jvm.MethodName)) ∈ lw_all := lw_g (lw_at lw_m2 180 rfl) rfl
theorem q540 : (Jvm.Cond.instanceMethod ({ cls := "PuddleBoatyard", name := "beginHull", desc := "()I" } : Jvm.MethodName)) ∈ lw_all := lw_g (lw_at lw_m2 228 rfl) rfl
theorem q541 : (Jvm.Cond.selects "PuddleBoatyard" ({ cls := "PuddleBoatyard", name := "beginHull", desc := "()I" } : Jvm.MethodName) ({ cls := "PuddleBoatyard", name := "beginHull", desc := "()I" } : Jvm.MethodName)) ∈ lw_all := lw_g (lw_at lw_m2 229 rfl) rfl
theorem q542 : (Jvm.Cond.code ({ cls := "PuddleBoatyard", name := "beginHull", desc := "()I" } : Jvm.MethodName) prog_1_method_5_code (1 : Nat) (Option.some Jvm.ClassFile.FieldType.int)) ∈ lw_all := lw_g (lw_at lw_m2 230 rfl) rfl
theorem q543 : (Jvm.Cond.classLink "PuddleBoatyard" (24 : Nat) "PuddleBoatyard$Operation") ∈ lw_all := lw_g (lw_at lw_m2 231 rfl) rfl
theorem q545 : (Jvm.Cond.methodLink "PuddleBoatyard" (72 : Nat) ({ cls := "PuddleBoatyard$Operation", name := "<init>", desc := "(C[I)V" } : Jvm.MethodName)) ∈ lw_all := lw_g (lw_at lw_m2 233 rfl) rfl
theorem q562 : (Jvm.Cond.methodLink "PuddleBoatyard" (75 : Nat) ({ cls := "PuddleBoatyard", name := "modify", desc := "(LPuddleBoatyard$Operation;)I" } : Jvm.MethodName)) ∈ lw_all := lw_g (lw_at lw_m3 10 rfl) rfl
theorem q563 : (Jvm.Cond.privateMethod ({ cls := "PuddleBoatyard", name := "modify", desc := "(LPuddleBoatyard$Operation;)I" } : Jvm.MethodName)) ∈ lw_tbl := lw_at lw_m3 11 rfl
theorem q564 : (Jvm.Cond.instanceMethod ({ cls := "PuddleBoatyard", name := "modify", desc := "(LPuddleBoatyard$Operation;)I" } : Jvm.MethodName)) ∈ lw_all := lw_g (lw_at lw_m3 12 rfl) rfl
theorem q565 : (Jvm.Cond.codeWith ({ cls := "PuddleBoatyard", name := "modify", desc := "(LPuddleBoatyard$Operation;)I" } : Jvm.MethodName) prog_1_method_3_code (4 : Nat) (Option.some Jvm.ClassFile.FieldType.int) [((8 : Nat), (18 : Nat), (19 : Nat), (33 : Nat))]) ∈ lw_all := lw_g (lw_at lw_m3 13 rfl) rfl
theorem q566 : (Jvm.Cond.classLink "PuddleBoatyard" (33 : Nat) "PuddleBoatyard$LaunchRefused") ∈ lw_all := lw_g (lw_at lw_m3 14 rfl) rfl
theorem q567 : (Jvm.Cond.methodLink "PuddleBoatyard" (23 : Nat) ({ cls := "PuddleBoatyard$Operation", name := "apply", desc := "(LPuddleBoatyard$Yard;)I" } : Jvm.MethodName)) ∈ lw_all := lw_g (lw_at lw_m3 15 rfl) rfl
theorem q705 : (Jvm.Cond.fieldLink "PuddleBoatyard" (124 : Nat) "PuddleBoatyard$Frame" "left" "I") ∈ lw_all := lw_g (lw_at lw_m3 153 rfl) rfl
theorem q708 : (Jvm.Cond.fieldLink "PuddleBoatyard" (127 : Nat) "PuddleBoatyard$Frame" "right" "I") ∈ lw_all := lw_g (lw_at lw_m3 156 rfl) rfl
theorem q770 : (Jvm.Cond.fieldLink "PuddleBoatyard" (35 : Nat) "PuddleBoatyard$LaunchRefused" "reason" "I") ∈ lw_all := lw_g (lw_at lw_m3 218 rfl) rfl
theorem q801 : (Jvm.Cond.static ({ cls := "PuddleBoatyard", name := "sum", desc := "([I)I" } : Jvm.MethodName)) ∈ lw_all := lw_g (lw_at lw_m4 9 rfl) rfl
theorem q802 : (Jvm.Cond.code ({ cls := "PuddleBoatyard", name := "sum", desc := "([I)I" } : Jvm.MethodName) prog_1_method_1_code (6 : Nat) (Option.some Jvm.ClassFile.FieldType.int)) ∈ lw_all := lw_g (lw_at lw_m4 10 rfl) rfl
theorem q860 : (Jvm.Cond.fieldLink "PuddleBoatyard" (240 : Nat) "PuddleBoatyard$Order" "id" "I") ∈ lw_all := lw_g (lw_at lw_m4 68 rfl) rfl
theorem q907 : (Jvm.Cond.selects "PuddleBoatyard" ({ cls := "java/lang/Object", name := "equals", desc := "(Ljava/lang/Object;)Z" } : Jvm.MethodName) ({ cls := "java/lang/Object", name := "equals", desc := "(Ljava/lang/Object;)Z" } : Jvm.MethodName)) ∈ lw_all := lw_g (lw_at lw_m4 115 rfl) rfl
theorem q947 : (Jvm.Cond.methodLink "PuddleBoatyard" (29 : Nat) ({ cls := "PuddleBoatyard", name := "commit", desc := "(LPuddleBoatyard$Yard;I)I" } : Jvm.MethodName)) ∈ lw_all := lw_g (lw_at lw_m4 155 rfl) rfl
theorem q948 : (Jvm.Cond.privateMethod ({ cls := "PuddleBoatyard", name := "commit", desc := "(LPuddleBoatyard$Yard;I)I" } : Jvm.MethodName)) ∈ lw_tbl := lw_at lw_m4 156 rfl
theorem q949 : (Jvm.Cond.instanceMethod ({ cls := "PuddleBoatyard", name := "commit", desc := "(LPuddleBoatyard$Yard;I)I" } : Jvm.MethodName)) ∈ lw_all := lw_g (lw_at lw_m4 157 rfl) rfl
theorem q950 : (Jvm.Cond.code ({ cls := "PuddleBoatyard", name := "commit", desc := "(LPuddleBoatyard$Yard;I)I" } : Jvm.MethodName) prog_1_method_2_code (3 : Nat) (Option.some Jvm.ClassFile.FieldType.int)) ∈ lw_all := lw_g (lw_at lw_m4 158 rfl) rfl
theorem q951 : (Jvm.Cond.methodLink "PuddleBoatyard" (11 : Nat) ({ cls := "PuddleBoatyard$History", name := "push", desc := "(LPuddleBoatyard$Yard;)V" } : Jvm.MethodName)) ∈ lw_all := lw_g (lw_at lw_m4 159 rfl) rfl
theorem q1013 : (Jvm.Cond.classLink "PuddleBoatyard" (42 : Nat) "java/lang/UnsupportedOperationException") ∈ lw_all := lw_g (lw_at lw_m4 221 rfl) rfl
theorem q1022 : (Jvm.Cond.methodLink "PuddleBoatyard" (44 : Nat) ({ cls := "java/lang/UnsupportedOperationException", name := "<init>", desc := "()V" } : Jvm.MethodName)) ∈ lw_all := lw_g (lw_at lw_m4 230 rfl) rfl
theorem q1057 : (Jvm.Cond.instanceMethod ({ cls := "PuddleBoatyard", name := "addFrame", desc := "(III)I" } : Jvm.MethodName)) ∈ lw_all := lw_g (lw_at lw_m5 25 rfl) rfl
theorem q1058 : (Jvm.Cond.selects "PuddleBoatyard" ({ cls := "PuddleBoatyard", name := "addFrame", desc := "(III)I" } : Jvm.MethodName) ({ cls := "PuddleBoatyard", name := "addFrame", desc := "(III)I" } : Jvm.MethodName)) ∈ lw_all := lw_g (lw_at lw_m5 26 rfl) rfl
theorem q1059 : (Jvm.Cond.code ({ cls := "PuddleBoatyard", name := "addFrame", desc := "(III)I" } : Jvm.MethodName) prog_1_method_6_code (4 : Nat) (Option.some Jvm.ClassFile.FieldType.int)) ∈ lw_all := lw_g (lw_at lw_m5 27 rfl) rfl
theorem q1064 : (Jvm.Cond.instanceMethod ({ cls := "PuddleBoatyard", name := "mirror", desc := "(I)I" } : Jvm.MethodName)) ∈ lw_all := lw_g (lw_at lw_m5 32 rfl) rfl
theorem q1065 : (Jvm.Cond.selects "PuddleBoatyard" ({ cls := "PuddleBoatyard", name := "mirror", desc := "(I)I" } : Jvm.MethodName) ({ cls := "PuddleBoatyard", name := "mirror", desc := "(I)I" } : Jvm.MethodName)) ∈ lw_all := lw_g (lw_at lw_m5 33 rfl) rfl
theorem q1066 : (Jvm.Cond.code ({ cls := "PuddleBoatyard", name := "mirror", desc := "(I)I" } : Jvm.MethodName) prog_1_method_7_code (2 : Nat) (Option.some Jvm.ClassFile.FieldType.int)) ∈ lw_all := lw_g (lw_at lw_m5 34 rfl) rfl
theorem q1071 : (Jvm.Cond.instanceMethod ({ cls := "PuddleBoatyard", name := "setCargo", desc := "(II)I" } : Jvm.MethodName)) ∈ lw_all := lw_g (lw_at lw_m5 39 rfl) rfl
theorem q1072 : (Jvm.Cond.selects "PuddleBoatyard" ({ cls := "PuddleBoatyard", name := "setCargo", desc := "(II)I" } : Jvm.MethodName) ({ cls := "PuddleBoatyard", name := "setCargo", desc := "(II)I" } : Jvm.MethodName)) ∈ lw_all := lw_g (lw_at lw_m5 40 rfl) rfl
theorem q1073 : (Jvm.Cond.code ({ cls := "PuddleBoatyard", name := "setCargo", desc := "(II)I" } : Jvm.MethodName) prog_1_method_8_code (3 : Nat) (Option.some Jvm.ClassFile.FieldType.int)) ∈ lw_all := lw_g (lw_at lw_m5 41 rfl) rfl
theorem q1079 : (Jvm.Cond.instanceMethod ({ cls := "PuddleBoatyard", name := "launch", desc := "(I)I" } : Jvm.MethodName)) ∈ lw_all := lw_g (lw_at lw_m5 47 rfl) rfl
theorem q1080 : (Jvm.Cond.selects "PuddleBoatyard" ({ cls := "PuddleBoatyard", name := "launch", desc := "(I)I" } : Jvm.MethodName) ({ cls := "PuddleBoatyard", name := "launch", desc := "(I)I" } : Jvm.MethodName)) ∈ lw_all := lw_g (lw_at lw_m5 48 rfl) rfl
theorem q1081 : (Jvm.Cond.code ({ cls := "PuddleBoatyard", name := "launch", desc := "(I)I" } : Jvm.MethodName) prog_1_method_9_code (2 : Nat) (Option.some Jvm.ClassFile.FieldType.int)) ∈ lw_all := lw_g (lw_at lw_m5 49 rfl) rfl
theorem q1086 : (Jvm.Cond.instanceMethod ({ cls := "PuddleBoatyard", name := "caulk", desc := "(II)I" } : Jvm.MethodName)) ∈ lw_all := lw_g (lw_at lw_m5 54 rfl) rfl
theorem q1087 : (Jvm.Cond.selects "PuddleBoatyard" ({ cls := "PuddleBoatyard", name := "caulk", desc := "(II)I" } : Jvm.MethodName) ({ cls := "PuddleBoatyard", name := "caulk", desc := "(II)I" } : Jvm.MethodName)) ∈ lw_all := lw_g (lw_at lw_m5 55 rfl) rfl
theorem q1088 : (Jvm.Cond.code ({ cls := "PuddleBoatyard", name := "caulk", desc := "(II)I" } : Jvm.MethodName) prog_1_method_10_code (3 : Nat) (Option.some Jvm.ClassFile.FieldType.int)) ∈ lw_all := lw_g (lw_at lw_m5 56 rfl) rfl
theorem q1093 : (Jvm.Cond.instanceMethod ({ cls := "PuddleBoatyard", name := "pump", desc := "(II)I" } : Jvm.MethodName)) ∈ lw_all := lw_g (lw_at lw_m5 61 rfl) rfl
theorem q1094 : (Jvm.Cond.selects "PuddleBoatyard" ({ cls := "PuddleBoatyard", name := "pump", desc := "(II)I" } : Jvm.MethodName) ({ cls := "PuddleBoatyard", name := "pump", desc := "(II)I" } : Jvm.MethodName)) ∈ lw_all := lw_g (lw_at lw_m5 62 rfl) rfl
theorem q1095 : (Jvm.Cond.code ({ cls := "PuddleBoatyard", name := "pump", desc := "(II)I" } : Jvm.MethodName) prog_1_method_11_code (3 : Nat) (Option.some Jvm.ClassFile.FieldType.int)) ∈ lw_all := lw_g (lw_at lw_m5 63 rfl) rfl
theorem q1100 : (Jvm.Cond.instanceMethod ({ cls := "PuddleBoatyard", name := "stateOf", desc := "(I)I" } : Jvm.MethodName)) ∈ lw_all := lw_g (lw_at lw_m5 68 rfl) rfl
theorem q1101 : (Jvm.Cond.selects "PuddleBoatyard" ({ cls := "PuddleBoatyard", name := "stateOf", desc := "(I)I" } : Jvm.MethodName) ({ cls := "PuddleBoatyard", name := "stateOf", desc := "(I)I" } : Jvm.MethodName)) ∈ lw_all := lw_g (lw_at lw_m5 69 rfl) rfl
theorem q1102 : (Jvm.Cond.code ({ cls := "PuddleBoatyard", name := "stateOf", desc := "(I)I" } : Jvm.MethodName) prog_1_method_13_code (2 : Nat) (Option.some Jvm.ClassFile.FieldType.int)) ∈ lw_all := lw_g (lw_at lw_m5 70 rfl) rfl
theorem q1103 : (Jvm.Cond.methodLink "PuddleBoatyard" (89 : Nat) ({ cls := "PuddleBoatyard$Yard", name := "hull", desc := "(I)LPuddleBoatyard$Hull;" } : Jvm.MethodName)) ∈ lw_all := lw_g (lw_at lw_m5 71 rfl) rfl
theorem q1104 : (Jvm.Cond.methodLink "PuddleBoatyard" (99 : Nat) ({ cls := "PuddleBoatyard$State", name := "ordinal", desc := "()I" } : Jvm.MethodName)) ∈ lw_all := lw_g (lw_at lw_m5 72 rfl) rfl
theorem q1117 : (Jvm.Cond.instanceMethod ({ cls := "PuddleBoatyard", name := "frameCount", desc := "(I)I" } : Jvm.MethodName)) ∈ lw_all := lw_g (lw_at lw_m5 85 rfl) rfl
theorem q1118 : (Jvm.Cond.selects "PuddleBoatyard" ({ cls := "PuddleBoatyard", name := "frameCount", desc := "(I)I" } : Jvm.MethodName) ({ cls := "PuddleBoatyard", name := "frameCount", desc := "(I)I" } : Jvm.MethodName)) ∈ lw_all := lw_g (lw_at lw_m5 86 rfl) rfl
theorem q1119 : (Jvm.Cond.code ({ cls := "PuddleBoatyard", name := "frameCount", desc := "(I)I" } : Jvm.MethodName) prog_1_method_14_code (2 : Nat) (Option.some Jvm.ClassFile.FieldType.int)) ∈ lw_all := lw_g (lw_at lw_m5 87 rfl) rfl
theorem q1120 : (Jvm.Cond.methodLink "PuddleBoatyard" (104 : Nat) ({ cls := "PuddleBoatyard$Hull", name := "size", desc := "()I" } : Jvm.MethodName)) ∈ lw_all := lw_g (lw_at lw_m5 88 rfl) rfl
theorem q1125 : (Jvm.Cond.instanceMethod ({ cls := "PuddleBoatyard", name := "widthOf", desc := "(IIZ)I" } : Jvm.MethodName)) ∈ lw_all := lw_g (lw_at lw_m5 93 rfl) rfl
theorem q1126 : (Jvm.Cond.selects "PuddleBoatyard" ({ cls := "PuddleBoatyard", name := "widthOf", desc := "(IIZ)I" } : Jvm.MethodName) ({ cls := "PuddleBoatyard", name := "widthOf", desc := "(IIZ)I" } : Jvm.MethodName)) ∈ lw_all := lw_g (lw_at lw_m5 94 rfl) rfl
theorem q1127 : (Jvm.Cond.code ({ cls := "PuddleBoatyard", name := "widthOf", desc := "(IIZ)I" } : Jvm.MethodName) prog_1_method_15_code (5 : Nat) (Option.some Jvm.ClassFile.FieldType.int)) ∈ lw_all := lw_g (lw_at lw_m5 95 rfl) rfl
theorem q1128 : (Jvm.Cond.methodLink "PuddleBoatyard" (105 : Nat) ({ cls := "PuddleBoatyard$Checks", name := "isBetween", desc := "(III)Z" } : Jvm.MethodName)) ∈ lw_all := lw_g (lw_at lw_m5 96 rfl) rfl
theorem q1129 : (Jvm.Cond.methodLink "PuddleBoatyard" (111 : Nat) ({ cls := "PuddleBoatyard$Checks", name := "index", desc := "(Z)V" } : Jvm.MethodName)) ∈ lw_all := lw_g (lw_at lw_m5 97 rfl) rfl
theorem q1130 : (Jvm.Cond.methodLink "PuddleBoatyard" (118 : Nat) ({ cls := "java/util/ArrayList", name := "get", desc := "(I)Ljava/lang/Object;" } : Jvm.MethodName)) ∈ lw_all := lw_g (lw_at lw_m5 98 rfl) rfl
theorem q1131 : (Jvm.Cond.classLink "PuddleBoatyard" (122 : Nat) "PuddleBoatyard$Frame") ∈ lw_all := lw_g (lw_at lw_m5 99 rfl) rfl
theorem q1136 : (Jvm.Cond.instanceMethod ({ cls := "PuddleBoatyard", name := "caulkingOf", desc := "(II)I" } : Jvm.MethodName)) ∈ lw_all := lw_g (lw_at lw_m5 104 rfl) rfl
theorem q1137 : (Jvm.Cond.selects "PuddleBoatyard" ({ cls := "PuddleBoatyard", name := "caulkingOf", desc := "(II)I" } : Jvm.MethodName) ({ cls := "PuddleBoatyard", name := "caulkingOf", desc := "(II)I" } : Jvm.MethodName)) ∈ lw_all := lw_g (lw_at lw_m5 105 rfl) rfl
theorem q1138 : (Jvm.Cond.code ({ cls := "PuddleBoatyard", name := "caulkingOf", desc := "(II)I" } : Jvm.MethodName) prog_1_method_16_code (3 : Nat) (Option.some Jvm.ClassFile.FieldType.int)) ∈ lw_all := lw_g (lw_at lw_m5 106 rfl) rfl
theorem q1139 : (Jvm.Cond.methodLink "PuddleBoatyard" (130 : Nat) ({ cls := "PuddleBoatyard$Yard", name := "hullWithSeam", desc := "(II)LPuddleBoatyard$Hull;" } : Jvm.MethodName)) ∈ lw_all := lw_g (lw_at lw_m5 107 rfl) rfl
theorem q1144 : (Jvm.Cond.instanceMethod ({ cls := "PuddleBoatyard", name := "waterIn", desc := "(I)I" } : Jvm.MethodName)) ∈ lw_all := lw_g (lw_at lw_m5 112 rfl) rfl
theorem q1145 : (Jvm.Cond.selects "PuddleBoatyard" ({ cls := "PuddleBoatyard", name := "waterIn", desc := "(I)I" } : Jvm.MethodName) ({ cls := "PuddleBoatyard", name := "waterIn", desc := "(I)I" } : Jvm.MethodName)) ∈ lw_all := lw_g (lw_at lw_m5 113 rfl) rfl
theorem q1146 : (Jvm.Cond.code ({ cls := "PuddleBoatyard", name := "waterIn", desc := "(I)I" } : Jvm.MethodName) prog_1_method_17_code (2 : Nat) (Option.some Jvm.ClassFile.FieldType.int)) ∈ lw_all := lw_g (lw_at lw_m5 114 rfl) rfl
theorem q1151 : (Jvm.Cond.instanceMethod ({ cls := "PuddleBoatyard", name := "weightOf", desc := "(I)I" } : Jvm.MethodName)) ∈ lw_all := lw_g (lw_at lw_m5 119 rfl) rfl
theorem q1152 : (Jvm.Cond.selects "PuddleBoatyard" ({ cls := "PuddleBoatyard", name := "weightOf", desc := "(I)I" } : Jvm.MethodName) ({ cls := "PuddleBoatyard", name := "weightOf", desc := "(I)I" } : Jvm.MethodName)) ∈ lw_all := lw_g (lw_at lw_m5 120 rfl) rfl
theorem q1153 : (Jvm.Cond.code ({ cls := "PuddleBoatyard", name := "weightOf", desc := "(I)I" } : Jvm.MethodName) prog_1_method_18_code (2 : Nat) (Option.some Jvm.ClassFile.FieldType.int)) ∈ lw_all := lw_g (lw_at lw_m5 121 rfl) rfl
theorem q1154 : (Jvm.Cond.methodLink "PuddleBoatyard" (141 : Nat) ({ cls := "PuddleBoatyard$Hull", name := "weight", desc := "()I" } : Jvm.MethodName)) ∈ lw_all := lw_g (lw_at lw_m5 122 rfl) rfl
theorem q1160 : (Jvm.Cond.instanceMethod ({ cls := "PuddleBoatyard", name := "draughtOf", desc := "(I)I" } : Jvm.MethodName)) ∈ lw_all := lw_g (lw_at lw_m5 128 rfl) rfl
theorem q1161 : (Jvm.Cond.selects "PuddleBoatyard" ({ cls := "PuddleBoatyard", name := "draughtOf", desc := "(I)I" } : Jvm.MethodName) ({ cls := "PuddleBoatyard", name := "draughtOf", desc := "(I)I" } : Jvm.MethodName)) ∈ lw_all := lw_g (lw_at lw_m5 129 rfl) rfl
theorem q1162 : (Jvm.Cond.code ({ cls := "PuddleBoatyard", name := "draughtOf", desc := "(I)I" } : Jvm.MethodName) prog_1_method_20_code (2 : Nat) (Option.some Jvm.ClassFile.FieldType.int)) ∈ lw_all := lw_g (lw_at lw_m5 130 rfl) rfl
theorem q1163 : (Jvm.Cond.methodLink "PuddleBoatyard" (147 : Nat) ({ cls := "PuddleBoatyard$Hull", name := "draught", desc := "()I" } : Jvm.MethodName)) ∈ lw_all := lw_g (lw_at lw_m5 131 rfl) rfl
theorem q1164 : (Jvm.Cond.methodLink "PuddleBoatyard" (150 : Nat) ({ cls := "PuddleBoatyard", name := "found", desc := "(I)I" } : Jvm.MethodName)) ∈ lw_all := lw_g (lw_at lw_m5 132 rfl) rfl
theorem q1165 : (Jvm.Cond.static ({ cls := "PuddleBoatyard", name := "found", desc := "(I)I" } : Jvm.MethodName)) ∈ lw_all := lw_g (lw_at lw_m5 133 rfl) rfl
theorem q1166 : (Jvm.Cond.code ({ cls := "PuddleBoatyard", name := "found", desc := "(I)I" } : Jvm.MethodName) prog_1_method_19_code (1 : Nat) (Option.some Jvm.ClassFile.FieldType.int)) ∈ lw_all := lw_g (lw_at lw_m5 134 rfl) rfl
theorem q1167 : (Jvm.Cond.methodLink "PuddleBoatyard" (144 : Nat) ({ cls := "PuddleBoatyard$Checks", name := "element", desc := "(Z)V" } : Jvm.MethodName)) ∈ lw_all := lw_g (lw_at lw_m5 135 rfl) rfl
theorem q1176 : (Jvm.Cond.instanceMethod ({ cls := "PuddleBoatyard", name := "draughtByHalving", desc := "(I)I" } : Jvm.MethodName)) ∈ lw_all := lw_g (lw_at lw_m5 144 rfl) rfl
theorem q1177 : (Jvm.Cond.selects "PuddleBoatyard" ({ cls := "PuddleBoatyard", name := "draughtByHalving", desc := "(I)I" } : Jvm.MethodName) ({ cls := "PuddleBoatyard", name := "draughtByHalving", desc := "(I)I" } : Jvm.MethodName)) ∈ lw_all := lw_g (lw_at lw_m5 145 rfl) rfl
theorem q1178 : (Jvm.Cond.code ({ cls := "PuddleBoatyard", name := "draughtByHalving", desc := "(I)I" } : Jvm.MethodName) prog_1_method_21_code (2 : Nat) (Option.some Jvm.ClassFile.FieldType.int)) ∈ lw_all := lw_g (lw_at lw_m5 146 rfl) rfl
theorem q1179 : (Jvm.Cond.methodLink "PuddleBoatyard" (154 : Nat) ({ cls := "PuddleBoatyard$Hull", name := "draughtByHalving", desc := "()I" } : Jvm.MethodName)) ∈ lw_all := lw_g (lw_at lw_m5 147 rfl) rfl
theorem q1187 : (Jvm.Cond.instanceMethod ({ cls := "PuddleBoatyard", name := "heelOf", desc := "(I)I" } : Jvm.MethodName)) ∈ lw_all := lw_g (lw_at lw_m5 155 rfl) rfl
theorem q1188 : (Jvm.Cond.selects "PuddleBoatyard" ({ cls := "PuddleBoatyard", name := "heelOf", desc := "(I)I" } : Jvm.MethodName) ({ cls := "PuddleBoatyard", name := "heelOf", desc := "(I)I" } : Jvm.MethodName)) ∈ lw_all := lw_g (lw_at lw_m5 156 rfl) rfl
theorem q1189 : (Jvm.Cond.code ({ cls := "PuddleBoatyard", name := "heelOf", desc := "(I)I" } : Jvm.MethodName) prog_1_method_22_code (2 : Nat) (Option.some Jvm.ClassFile.FieldType.int)) ∈ lw_all := lw_g (lw_at lw_m5 157 rfl) rfl
theorem q1190 : (Jvm.Cond.methodLink "PuddleBoatyard" (157 : Nat) ({ cls := "PuddleBoatyard$Hull", name := "heel", desc := "()I" } : Jvm.MethodName)) ∈ lw_all := lw_g (lw_at lw_m5 158 rfl) rfl
theorem q1198 : (Jvm.Cond.instanceMethod ({ cls := "PuddleBoatyard", name := "hullAtRank", desc := "(I)I" } : Jvm.MethodName)) ∈ lw_all := lw_g (lw_at lw_m5 166 rfl) rfl
theorem q1199 : (Jvm.Cond.selects "PuddleBoatyard" ({ cls := "PuddleBoatyard", name := "hullAtRank", desc := "(I)I" } : Jvm.MethodName) ({ cls := "PuddleBoatyard", name := "hullAtRank", desc := "(I)I" } : Jvm.MethodName)) ∈ lw_all := lw_g (lw_at lw_m5 167 rfl) rfl
theorem q1200 : (Jvm.Cond.code ({ cls := "PuddleBoatyard", name := "hullAtRank", desc := "(I)I" } : Jvm.MethodName) prog_1_method_24_code (5 : Nat) (Option.some Jvm.ClassFile.FieldType.int)) ∈ lw_all := lw_g (lw_at lw_m5 168 rfl) rfl
theorem q1201 : (Jvm.Cond.classLink "PuddleBoatyard" (94 : Nat) "PuddleBoatyard$Hull") ∈ lw_all := lw_g (lw_at lw_m5 169 rfl) rfl
theorem q1202 : (Jvm.Cond.methodLink "PuddleBoatyard" (163 : Nat) ({ cls := "PuddleBoatyard", name := "isAhead", desc := "(LPuddleBoatyard$Hull;LPuddleBoatyard$Hull;)Z" } : Jvm.MethodName)) ∈ lw_all := lw_g (lw_at lw_m5 170 rfl) rfl
theorem q1203 : (Jvm.Cond.privateMethod ({ cls := "PuddleBoatyard", name := "isAhead", desc := "(LPuddleBoatyard$Hull;LPuddleBoatyard$Hull;)Z" } : Jvm.MethodName)) ∈ lw_tbl := lw_at lw_m5 171 rfl
theorem q1204 : (Jvm.Cond.instanceMethod ({ cls := "PuddleBoatyard", name := "isAhead", desc := "(LPuddleBoatyard$Hull;LPuddleBoatyard$Hull;)Z" } : Jvm.MethodName)) ∈ lw_all := lw_g (lw_at lw_m5 172 rfl) rfl
theorem q1205 : (Jvm.Cond.code ({ cls := "PuddleBoatyard", name := "isAhead", desc := "(LPuddleBoatyard$Hull;LPuddleBoatyard$Hull;)Z" } : Jvm.MethodName) prog_1_method_23_code (4 : Nat) (Option.some Jvm.ClassFile.FieldType.boolean)) ∈ lw_all := lw_g (lw_at lw_m5 173 rfl) rfl
theorem q1206 : (Jvm.Cond.classLink "PuddleBoatyard" (167 : Nat) "java/util/NoSuchElementException") ∈ lw_all := lw_g (lw_at lw_m5 174 rfl) rfl
theorem q1207 : (Jvm.Cond.methodLink "PuddleBoatyard" (169 : Nat) ({ cls := "java/util/NoSuchElementException", name := "<init>", desc := "()V" } : Jvm.MethodName)) ∈ lw_all := lw_g (lw_at lw_m5 175 rfl) rfl
theorem q1212 : (Jvm.Cond.instanceMethod ({ cls := "PuddleBoatyard", name := "isSymmetric", desc := "(I)Z" } : Jvm.MethodName)) ∈ lw_all := lw_g (lw_at lw_m5 180 rfl) rfl
theorem q1213 : (Jvm.Cond.selects "PuddleBoatyard" ({ cls := "PuddleBoatyard", name := "isSymmetric", desc := "(I)Z" } : Jvm.MethodName) ({ cls := "PuddleBoatyard", name := "isSymmetric", desc := "(I)Z" } : Jvm.MethodName)) ∈ lw_all := lw_g (lw_at lw_m5 181 rfl) rfl
theorem q1214 : (Jvm.Cond.code ({ cls := "PuddleBoatyard", name := "isSymmetric", desc := "(I)Z" } : Jvm.MethodName) prog_1_method_25_code (3 : Nat) (Option.some Jvm.ClassFile.FieldType.boolean)) ∈ lw_all := lw_g (lw_at lw_m5 182 rfl) rfl
theorem q1215 : (Jvm.Cond.methodLink "PuddleBoatyard" (170 : Nat) ({ cls := "PuddleBoatyard$Hull", name := "isReflectionOf", desc := "(LPuddleBoatyard$Hull;)Z" } : Jvm.MethodName)) ∈ lw_all := lw_g (lw_at lw_m5 183 rfl) rfl
theorem q1227 : (Jvm.Cond.instanceMethod ({ cls := "PuddleBoatyard", name := "isReflectionOf", desc := "(II)Z" } : Jvm.MethodName)) ∈ lw_all := lw_g (lw_at lw_m5 195 rfl) rfl
theorem q1228 : (Jvm.Cond.selects "PuddleBoatyard" ({ cls := "PuddleBoatyard", name := "isReflectionOf", desc := "(II)Z" } : Jvm.MethodName) ({ cls := "PuddleBoatyard", name := "isReflectionOf", desc := "(II)Z" } : Jvm.MethodName)) ∈ lw_all := lw_g (lw_at lw_m5 196 rfl) rfl
theorem q1229 : (Jvm.Cond.code ({ cls := "PuddleBoatyard", name := "isReflectionOf", desc := "(II)Z" } : Jvm.MethodName) prog_1_method_26_code (4 : Nat) (Option.some Jvm.ClassFile.FieldType.boolean)) ∈ lw_all := lw_g (lw_at lw_m5 197 rfl) rfl
theorem q1234 : (Jvm.Cond.instanceMethod ({ cls := "PuddleBoatyard", name := "commonStretch", desc := "(II)I" } : Jvm.MethodName)) ∈ lw_all := lw_g (lw_at lw_m5 202 rfl) rfl
theorem q1235 : (Jvm.Cond.selects "PuddleBoatyard" ({ cls := "PuddleBoatyard", name := "commonStretch", desc := "(II)I" } : Jvm.MethodName) ({ cls := "PuddleBoatyard", name := "commonStretch", desc := "(II)I" } : Jvm.MethodName)) ∈ lw_all := lw_g (lw_at lw_m5 203 rfl) rfl
theorem q1236 : (Jvm.Cond.code ({ cls := "PuddleBoatyard", name := "commonStretch", desc := "(II)I" } : Jvm.MethodName) prog_1_method_27_code (4 : Nat) (Option.some Jvm.ClassFile.FieldType.int)) ∈ lw_all := lw_g (lw_at lw_m5 204 rfl) rfl
theorem q1237 : (Jvm.Cond.methodLink "PuddleBoatyard" (174 : Nat) ({ cls := "PuddleBoatyard$Hull", name := "commonStretch", desc := "(LPuddleBoatyard$Hull;)I" } : Jvm.MethodName)) ∈ lw_all := lw_g (lw_at lw_m5 205 rfl) rfl
theorem q1245 : (Jvm.Cond.instanceMethod ({ cls := "PuddleBoatyard", name := "commonStretchByTrying", desc := "(II)I" } : Jvm.MethodName)) ∈ lw_all := lw_g (lw_at lw_m5 213 rfl) rfl
theorem q1246 : (Jvm.Cond.selects "PuddleBoatyard" ({ cls := "PuddleBoatyard", name := "commonStretchByTrying", desc := "(II)I" } : Jvm.MethodName) ({ cls := "PuddleBoatyard", name := "commonStretchByTrying", desc := "(II)I" } : Jvm.MethodName)) ∈ lw_all := lw_g (lw_at lw_m5 214 rfl) rfl
theorem q1247 : (Jvm.Cond.code ({ cls := "PuddleBoatyard", name := "commonStretchByTrying", desc := "(II)I" } : Jvm.MethodName) prog_1_method_28_code (4 : Nat) (Option.some Jvm.ClassFile.FieldType.int)) ∈ lw_all := lw_g (lw_at lw_m5 215 rfl) rfl
theorem q1248 : (Jvm.Cond.methodLink "PuddleBoatyard" (178 : Nat) ({ cls := "PuddleBoatyard$Hull", name := "commonStretchByTrying", desc := "(LPuddleBoatyard$Hull;)I" } : Jvm.MethodName)) ∈ lw_all := lw_g (lw_at lw_m5 216 rfl) rfl
theorem q1260 : (Jvm.Cond.instanceMethod ({ cls := "PuddleBoatyard", name := "setTide", desc := "(II)I" } : Jvm.MethodName)) ∈ lw_all := lw_g (lw_at lw_m5 228 rfl) rfl
theorem q1261 : (Jvm.Cond.selects "PuddleBoatyard" ({ cls := "PuddleBoatyard", name := "setTide", desc := "(II)I" } : Jvm.MethodName) ({ cls := "PuddleBoatyard", name := "setTide", desc := "(II)I" } : Jvm.MethodName)) ∈ lw_all := lw_g (lw_at lw_m5 229 rfl) rfl
theorem q1262 : (Jvm.Cond.code ({ cls := "PuddleBoatyard", name := "setTide", desc := "(II)I" } : Jvm.MethodName) prog_1_method_29_code (3 : Nat) (Option.some Jvm.ClassFile.FieldType.int)) ∈ lw_all := lw_g (lw_at lw_m5 230 rfl) rfl
theorem q1267 : (Jvm.Cond.instanceMethod ({ cls := "PuddleBoatyard", name := "pass", desc := "(I)I" } : Jvm.MethodName)) ∈ lw_all := lw_g (lw_at lw_m5 235 rfl) rfl
theorem q1268 : (Jvm.Cond.selects "PuddleBoatyard" ({ cls := "PuddleBoatyard", name := "pass", desc := "(I)I" } : Jvm.MethodName) ({ cls := "PuddleBoatyard", name := "pass", desc := "(I)I" } : Jvm.MethodName)) ∈ lw_all := lw_g (lw_at lw_m5 236 rfl) rfl
theorem q1269 : (Jvm.Cond.code ({ cls := "PuddleBoatyard", name := "pass", desc := "(I)I" } : Jvm.MethodName) prog_1_method_30_code (2 : Nat) (Option.some Jvm.ClassFile.FieldType.int)) ∈ lw_all := lw_g (lw_at lw_m5 237 rfl) rfl
theorem q1274 : (Jvm.Cond.instanceMethod ({ cls := "PuddleBoatyard", name := "tideAfter", desc := "(I)I" } : Jvm.MethodName)) ∈ lw_all := lw_g (lw_at lw_m6 2 rfl) rfl
theorem q1275 : (Jvm.Cond.selects "PuddleBoatyard" ({ cls := "PuddleBoatyard", name := "tideAfter", desc := "(I)I" } : Jvm.MethodName) ({ cls := "PuddleBoatyard", name := "tideAfter", desc := "(I)I" } : Jvm.MethodName)) ∈ lw_all := lw_g (lw_at lw_m6 3 rfl) rfl
theorem q1276 : (Jvm.Cond.code ({ cls := "PuddleBoatyard", name := "tideAfter", desc := "(I)I" } : Jvm.MethodName) prog_1_method_32_code (2 : Nat) (Option.some Jvm.ClassFile.FieldType.int)) ∈ lw_all := lw_g (lw_at lw_m6 4 rfl) rfl
theorem q1277 : (Jvm.Cond.methodLink "PuddleBoatyard" (184 : Nat) ({ cls := "PuddleBoatyard$Checks", name := "argument", desc := "([Z)V" } : Jvm.MethodName)) ∈ lw_all := lw_g (lw_at lw_m6 5 rfl) rfl
theorem q1278 : (Jvm.Cond.methodLink "PuddleBoatyard" (188 : Nat) ({ cls := "PuddleBoatyard$Yard", name := "tide", desc := "(I)I" } : Jvm.MethodName)) ∈ lw_all := lw_g (lw_at lw_m6 6 rfl) rfl
theorem q1283 : (Jvm.Cond.instanceMethod ({ cls := "PuddleBoatyard", name := "hoursToLaunch", desc := "(I)I" } : Jvm.MethodName)) ∈ lw_all := lw_g (lw_at lw_m6 11 rfl) rfl
theorem q1284 : (Jvm.Cond.selects "PuddleBoatyard" ({ cls := "PuddleBoatyard", name := "hoursToLaunch", desc := "(I)I" } : Jvm.MethodName) ({ cls := "PuddleBoatyard", name := "hoursToLaunch", desc := "(I)I" } : Jvm.MethodName)) ∈ lw_all := lw_g (lw_at lw_m6 12 rfl) rfl
theorem q1285 : (Jvm.Cond.code ({ cls := "PuddleBoatyard", name := "hoursToLaunch", desc := "(I)I" } : Jvm.MethodName) prog_1_method_34_code (4 : Nat) (Option.some Jvm.ClassFile.FieldType.int)) ∈ lw_all := lw_g (lw_at lw_m6 13 rfl) rfl
theorem q1286 : (Jvm.Cond.methodLink "PuddleBoatyard" (200 : Nat) ({ cls := "PuddleBoatyard", name := "launchDraught", desc := "(I)I" } : Jvm.MethodName)) ∈ lw_all := lw_g (lw_at lw_m6 14 rfl) rfl
theorem q1287 : (Jvm.Cond.privateMethod ({ cls := "PuddleBoatyard", name := "launchDraught", desc := "(I)I" } : Jvm.MethodName)) ∈ lw_tbl := lw_at lw_m6 15 rfl
theorem q1288 : (Jvm.Cond.instanceMethod ({ cls := "PuddleBoatyard", name := "launchDraught", desc := "(I)I" } : Jvm.MethodName)) ∈ lw_all := lw_g (lw_at lw_m6 16 rfl) rfl
theorem q1289 : (Jvm.Cond.code ({ cls := "PuddleBoatyard", name := "launchDraught", desc := "(I)I" } : Jvm.MethodName) prog_1_method_33_code (3 : Nat) (Option.some Jvm.ClassFile.FieldType.int)) ∈ lw_all := lw_g (lw_at lw_m6 17 rfl) rfl
theorem q1290 : (Jvm.Cond.fieldLink "PuddleBoatyard" (191 : Nat) "PuddleBoatyard$State" "BUILT" "LPuddleBoatyard$State;") ∈ lw_all := lw_g (lw_at lw_m6 18 rfl) rfl
theorem q1291 : (Jvm.Cond.methodLink "PuddleBoatyard" (194 : Nat) ({ cls := "PuddleBoatyard$Hull", name := "is", desc := "(LPuddleBoatyard$State;)Z" } : Jvm.MethodName)) ∈ lw_all := lw_g (lw_at lw_m6 19 rfl) rfl
theorem q1292 : (Jvm.Cond.methodLink "PuddleBoatyard" (198 : Nat) ({ cls := "PuddleBoatyard$Checks", name := "state", desc := "(Z)V" } : Jvm.MethodName)) ∈ lw_all := lw_g (lw_at lw_m6 20 rfl) rfl
theorem q1297 : (Jvm.Cond.instanceMethod ({ cls := "PuddleBoatyard", name := "hoursToLaunchByTides", desc := "(I)I" } : Jvm.MethodName)) ∈ lw_all := lw_g (lw_at lw_m6 25 rfl) rfl
theorem q1298 : (Jvm.Cond.selects "PuddleBoatyard" ({ cls := "PuddleBoatyard", name := "hoursToLaunchByTides", desc := "(I)I" } : Jvm.MethodName) ({ cls := "PuddleBoatyard", name := "hoursToLaunchByTides", desc := "(I)I" } : Jvm.MethodName)) ∈ lw_all := lw_g (lw_at lw_m6 26 rfl) rfl
theorem q1299 : (Jvm.Cond.code ({ cls := "PuddleBoatyard", name := "hoursToLaunchByTides", desc := "(I)I" } : Jvm.MethodName) prog_1_method_35_code (6 : Nat) (Option.some Jvm.ClassFile.FieldType.int)) ∈ lw_all := lw_g (lw_at lw_m6 27 rfl) rfl
theorem q1300 : (Jvm.Cond.methodLink "PuddleBoatyard" (206 : Nat) ({ cls := "java/lang/Math", name := "min", desc := "(II)I" } : Jvm.MethodName)) ∈ lw_all := lw_g (lw_at lw_m6 28 rfl) rfl
theorem q1305 : (Jvm.Cond.instanceMethod ({ cls := "PuddleBoatyard", name := "hoursToSinking", desc := "(I)I" } : Jvm.MethodName)) ∈ lw_all := lw_g (lw_at lw_m6 33 rfl) rfl
theorem q1306 : (Jvm.Cond.selects "PuddleBoatyard" ({ cls := "PuddleBoatyard", name := "hoursToSinking", desc := "(I)I" } : Jvm.MethodName) ({ cls := "PuddleBoatyard", name := "hoursToSinking", desc := "(I)I" } : Jvm.MethodName)) ∈ lw_all := lw_g (lw_at lw_m6 34 rfl) rfl
theorem q1307 : (Jvm.Cond.code ({ cls := "PuddleBoatyard", name := "hoursToSinking", desc := "(I)I" } : Jvm.MethodName) prog_1_method_36_code (4 : Nat) (Option.some Jvm.ClassFile.FieldType.int)) ∈ lw_all := lw_g (lw_at lw_m6 35 rfl) rfl
theorem q1308 : (Jvm.Cond.methodLink "PuddleBoatyard" (212 : Nat) ({ cls := "PuddleBoatyard$Hull", name := "<init>", desc := "(LPuddleBoatyard$Hull;)V" } : Jvm.MethodName)) ∈ lw_all := lw_g (lw_at lw_m6 36 rfl) rfl
theorem q1309 : (Jvm.Cond.fieldLink "PuddleBoatyard" (215 : Nat) "PuddleBoatyard$State" "AFLOAT" "LPuddleBoatyard$State;") ∈ lw_all := lw_g (lw_at lw_m6 37 rfl) rfl
theorem q1310 : (Jvm.Cond.methodLink "PuddleBoatyard" (218 : Nat) ({ cls := "PuddleBoatyard$Hull", name := "sinksIn", desc := "(I)Z" } : Jvm.MethodName)) ∈ lw_all := lw_g (lw_at lw_m6 38 rfl) rfl
theorem q1315 : (Jvm.Cond.instanceMethod ({ cls := "PuddleBoatyard", name := "setSlip", desc := "(II)I" } : Jvm.MethodName)) ∈ lw_all := lw_g (lw_at lw_m6 43 rfl) rfl
theorem q1316 : (Jvm.Cond.selects "PuddleBoatyard" ({ cls := "PuddleBoatyard", name := "setSlip", desc := "(II)I" } : Jvm.MethodName) ({ cls := "PuddleBoatyard", name := "setSlip", desc := "(II)I" } : Jvm.MethodName)) ∈ lw_all := lw_g (lw_at lw_m6 44 rfl) rfl
theorem q1317 : (Jvm.Cond.code ({ cls := "PuddleBoatyard", name := "setSlip", desc := "(II)I" } : Jvm.MethodName) prog_1_method_37_code (3 : Nat) (Option.some Jvm.ClassFile.FieldType.int)) ∈ lw_all := lw_g (lw_at lw_m6 45 rfl) rfl
theorem q1322 : (Jvm.Cond.instanceMethod ({ cls := "PuddleBoatyard", name := "slipLength", desc := "(I)I" } : Jvm.MethodName)) ∈ lw_all := lw_g (lw_at lw_m6 50 rfl) rfl
theorem q1323 : (Jvm.Cond.selects "PuddleBoatyard" ({ cls := "PuddleBoatyard", name := "slipLength", desc := "(I)I" } : Jvm.MethodName) ({ cls := "PuddleBoatyard", name := "slipLength", desc := "(I)I" } : Jvm.MethodName)) ∈ lw_all := lw_g (lw_at lw_m6 51 rfl) rfl
theorem q1324 : (Jvm.Cond.code ({ cls := "PuddleBoatyard", name := "slipLength", desc := "(I)I" } : Jvm.MethodName) prog_1_method_38_code (2 : Nat) (Option.some Jvm.ClassFile.FieldType.int)) ∈ lw_all := lw_g (lw_at lw_m6 52 rfl) rfl
theorem q1329 : (Jvm.Cond.instanceMethod ({ cls := "PuddleBoatyard", name := "addOrder", desc := "(III)I" } : Jvm.MethodName)) ∈ lw_all := lw_g (lw_at lw_m6 57 rfl) rfl
theorem q1330 : (Jvm.Cond.selects "PuddleBoatyard" ({ cls := "PuddleBoatyard", name := "addOrder", desc := "(III)I" } : Jvm.MethodName) ({ cls := "PuddleBoatyard", name := "addOrder", desc := "(III)I" } : Jvm.MethodName)) ∈ lw_all := lw_g (lw_at lw_m6 58 rfl) rfl
theorem q1331 : (Jvm.Cond.code ({ cls := "PuddleBoatyard", name := "addOrder", desc := "(III)I" } : Jvm.MethodName) prog_1_method_42_code (4 : Nat) (Option.some Jvm.ClassFile.FieldType.int)) ∈ lw_all := lw_g (lw_at lw_m6 59 rfl) rfl
theorem q1336 : (Jvm.Cond.instanceMethod ({ cls := "PuddleBoatyard", name := "deliver", desc := "(II)I" } : Jvm.MethodName)) ∈ lw_all := lw_g (lw_at lw_m6 64 rfl) rfl
theorem q1337 : (Jvm.Cond.selects "PuddleBoatyard" ({ cls := "PuddleBoatyard", name := "deliver", desc := "(II)I" } : Jvm.MethodName) ({ cls := "PuddleBoatyard", name := "deliver", desc := "(II)I" } : Jvm.MethodName)) ∈ lw_all := lw_g (lw_at lw_m6 65 rfl) rfl
theorem q1338 : (Jvm.Cond.code ({ cls := "PuddleBoatyard", name := "deliver", desc := "(II)I" } : Jvm.MethodName) prog_1_method_43_code (3 : Nat) (Option.some Jvm.ClassFile.FieldType.int)) ∈ lw_all := lw_g (lw_at lw_m6 66 rfl) rfl
theorem q1343 : (Jvm.Cond.instanceMethod ({ cls := "PuddleBoatyard", name := "orderAt", desc := "(I)I" } : Jvm.MethodName)) ∈ lw_all := lw_g (lw_at lw_m6 71 rfl) rfl
theorem q1344 : (Jvm.Cond.selects "PuddleBoatyard" ({ cls := "PuddleBoatyard", name := "orderAt", desc := "(I)I" } : Jvm.MethodName) ({ cls := "PuddleBoatyard", name := "orderAt", desc := "(I)I" } : Jvm.MethodName)) ∈ lw_all := lw_g (lw_at lw_m6 72 rfl) rfl
theorem q1345 : (Jvm.Cond.code ({ cls := "PuddleBoatyard", name := "orderAt", desc := "(I)I" } : Jvm.MethodName) prog_1_method_45_code (2 : Nat) (Option.some Jvm.ClassFile.FieldType.int)) ∈ lw_all := lw_g (lw_at lw_m6 73 rfl) rfl
theorem q1346 : (Jvm.Cond.classLink "PuddleBoatyard" (238 : Nat) "PuddleBoatyard$Order") ∈ lw_all := lw_g (lw_at lw_m6 74 rfl) rfl
theorem q1351 : (Jvm.Cond.instanceMethod ({ cls := "PuddleBoatyard", name := "coinsFor", desc := "(I)I" } : Jvm.MethodName)) ∈ lw_all := lw_g (lw_at lw_m6 79 rfl) rfl
theorem q1352 : (Jvm.Cond.selects "PuddleBoatyard" ({ cls := "PuddleBoatyard", name := "coinsFor", desc := "(I)I" } : Jvm.MethodName) ({ cls := "PuddleBoatyard", name := "coinsFor", desc := "(I)I" } : Jvm.MethodName)) ∈ lw_all := lw_g (lw_at lw_m6 80 rfl) rfl
theorem q1353 : (Jvm.Cond.code ({ cls := "PuddleBoatyard", name := "coinsFor", desc := "(I)I" } : Jvm.MethodName) prog_1_method_46_code (2 : Nat) (Option.some Jvm.ClassFile.FieldType.int)) ∈ lw_all := lw_g (lw_at lw_m6 81 rfl) rfl
theorem q1354 : (Jvm.Cond.methodLink "PuddleBoatyard" (243 : Nat) ({ cls := "PuddleBoatyard$Yard", name := "order", desc := "(I)LPuddleBoatyard$Order;" } : Jvm.MethodName)) ∈ lw_all := lw_g (lw_at lw_m6 82 rfl) rfl
theorem q1355 : (Jvm.Cond.methodLink "PuddleBoatyard" (247 : Nat) ({ cls := "PuddleBoatyard$Order", name := "coinsAt", desc := "(I)I" } : Jvm.MethodName)) ∈ lw_all := lw_g (lw_at lw_m6 83 rfl) rfl
theorem q1360 : (Jvm.Cond.instanceMethod ({ cls := "PuddleBoatyard", name := "hullsIn", desc := "(I)I" } : Jvm.MethodName)) ∈ lw_all := lw_g (lw_at lw_m6 88 rfl) rfl
theorem q1361 : (Jvm.Cond.selects "PuddleBoatyard" ({ cls := "PuddleBoatyard", name := "hullsIn", desc := "(I)I" } : Jvm.MethodName) ({ cls := "PuddleBoatyard", name := "hullsIn", desc := "(I)I" } : Jvm.MethodName)) ∈ lw_all := lw_g (lw_at lw_m6 89 rfl) rfl
theorem q1362 : (Jvm.Cond.code ({ cls := "PuddleBoatyard", name := "hullsIn", desc := "(I)I" } : Jvm.MethodName) prog_1_method_49_code (4 : Nat) (Option.some Jvm.ClassFile.FieldType.int)) ∈ lw_all := lw_g (lw_at lw_m6 90 rfl) rfl
theorem q1367 : (Jvm.Cond.instanceMethod ({ cls := "PuddleBoatyard", name := "refusalReason", desc := "()I" } : Jvm.MethodName)) ∈ lw_all := lw_g (lw_at lw_m6 95 rfl) rfl
theorem q1368 : (Jvm.Cond.selects "PuddleBoatyard" ({ cls := "PuddleBoatyard", name := "refusalReason", desc := "()I" } : Jvm.MethodName) ({ cls := "PuddleBoatyard", name := "refusalReason", desc := "()I" } : Jvm.MethodName)) ∈ lw_all := lw_g (lw_at lw_m6 96 rfl) rfl
theorem q1369 : (Jvm.Cond.code ({ cls := "PuddleBoatyard", name := "refusalReason", desc := "()I" } : Jvm.MethodName) prog_1_method_50_code (1 : Nat) (Option.some Jvm.ClassFile.FieldType.int)) ∈ lw_all := lw_g (lw_at lw_m6 97 rfl) rfl
theorem q1388 : (Jvm.Cond.instanceMethod ({ cls := "PuddleBoatyard", name := "meanWeight", desc := "()D" } : Jvm.MethodName)) ∈ lw_all := lw_g (lw_at lw_m6 116 rfl) rfl
theorem q1389 : (Jvm.Cond.selects "PuddleBoatyard" ({ cls := "PuddleBoatyard", name := "meanWeight", desc := "()D" } : Jvm.MethodName) ({ cls := "PuddleBoatyard", name := "meanWeight", desc := "()D" } : Jvm.MethodName)) ∈ lw_all := lw_g (lw_at lw_m6 117 rfl) rfl
theorem q1390 : (Jvm.Cond.code ({ cls := "PuddleBoatyard", name := "meanWeight", desc := "()D" } : Jvm.MethodName) prog_1_method_51_code (3 : Nat) (Option.some Jvm.ClassFile.FieldType.double)) ∈ lw_all := lw_g (lw_at lw_m6 118 rfl) rfl
theorem q1391 : (Jvm.Cond.methodLink "PuddleBoatyard" (257 : Nat) ({ cls := "java/util/ArrayList", name := "isEmpty", desc := "()Z" } : Jvm.MethodName)) ∈ lw_all := lw_g (lw_at lw_m6 119 rfl) rfl
theorem q1395 : (Jvm.Cond.classLink "PuddleBoatyard" (261 : Nat) "java/lang/ArithmeticException") ∈ lw_all := lw_g (lw_at lw_m6 123 rfl) rfl
theorem q1396 : (Jvm.Cond.methodLink "PuddleBoatyard" (263 : Nat) ({ cls := "java/lang/ArithmeticException", name := "<init>", desc := "()V" } : Jvm.MethodName)) ∈ lw_all := lw_g (lw_at lw_m6 124 rfl) rfl
theorem q1404 : (Jvm.Cond.instanceMethod ({ cls := "PuddleBoatyard", name := "writeHull", desc := "(I)I" } : Jvm.MethodName)) ∈ lw_all := lw_g (lw_at lw_m6 132 rfl) rfl
theorem q1405 : (Jvm.Cond.selects "PuddleBoatyard" ({ cls := "PuddleBoatyard", name := "writeHull", desc := "(I)I" } : Jvm.MethodName) ({ cls := "PuddleBoatyard", name := "writeHull", desc := "(I)I" } : Jvm.MethodName)) ∈ lw_all := lw_g (lw_at lw_m6 133 rfl) rfl
theorem q1406 : (Jvm.Cond.code ({ cls := "PuddleBoatyard", name := "writeHull", desc := "(I)I" } : Jvm.MethodName) prog_1_method_52_code (2 : Nat) (Option.some Jvm.ClassFile.FieldType.int)) ∈ lw_all := lw_g (lw_at lw_m6 134 rfl) rfl
theorem q1407 : (Jvm.Cond.methodLink "PuddleBoatyard" (264 : Nat) ({ cls := "PuddleBoatyard$Hull", name := "toString", desc := "()Ljava/lang/String;" } : Jvm.MethodName)) ∈ lw_all := lw_g (lw_at lw_m6 135 rfl) rfl
theorem q1638 : (Jvm.Cond.methodLink "PuddleBoatyard" (268 : Nat) ({ cls := "java/lang/String", name := "length", desc := "()I" } : Jvm.MethodName)) ∈ lw_all := lw_g (lw_at lw_m7 126 rfl) rfl
theorem q1643 : (Jvm.Cond.instanceMethod ({ cls := "PuddleBoatyard", name := "lineAt", desc := "(I)C" } : Jvm.MethodName)) ∈ lw_all := lw_g (lw_at lw_m7 131 rfl) rfl
theorem q1644 : (Jvm.Cond.selects "PuddleBoatyard" ({ cls := "PuddleBoatyard", name := "lineAt", desc := "(I)C" } : Jvm.MethodName) ({ cls := "PuddleBoatyard", name := "lineAt", desc := "(I)C" } : Jvm.MethodName)) ∈ lw_all := lw_g (lw_at lw_m7 132 rfl) rfl
theorem q1645 : (Jvm.Cond.code ({ cls := "PuddleBoatyard", name := "lineAt", desc := "(I)C" } : Jvm.MethodName) prog_1_method_53_code (2 : Nat) (Option.some Jvm.ClassFile.FieldType.char)) ∈ lw_all := lw_g (lw_at lw_m7 133 rfl) rfl
theorem q1646 : (Jvm.Cond.methodLink "PuddleBoatyard" (273 : Nat) ({ cls := "java/lang/String", name := "charAt", desc := "(I)C" } : Jvm.MethodName)) ∈ lw_all := lw_g (lw_at lw_m7 134 rfl) rfl
theorem q1665 : (Jvm.Cond.instanceMethod ({ cls := "PuddleBoatyard", name := "type", desc := "(C)I" } : Jvm.MethodName)) ∈ lw_all := lw_g (lw_at lw_m7 153 rfl) rfl
theorem q1666 : (Jvm.Cond.selects "PuddleBoatyard" ({ cls := "PuddleBoatyard", name := "type", desc := "(C)I" } : Jvm.MethodName) ({ cls := "PuddleBoatyard", name := "type", desc := "(C)I" } : Jvm.MethodName)) ∈ lw_all := lw_g (lw_at lw_m7 154 rfl) rfl
theorem q1667 : (Jvm.Cond.code ({ cls := "PuddleBoatyard", name := "type", desc := "(C)I" } : Jvm.MethodName) prog_1_method_54_code (2 : Nat) (Option.some Jvm.ClassFile.FieldType.int)) ∈ lw_all := lw_g (lw_at lw_m7 155 rfl) rfl
theorem q1668 : (Jvm.Cond.methodLink "PuddleBoatyard" (277 : Nat) ({ cls := "java/lang/StringBuilder", name := "length", desc := "()I" } : Jvm.MethodName)) ∈ lw_all := lw_g (lw_at lw_m7 156 rfl) rfl
theorem q1669 : (Jvm.Cond.methodLink "PuddleBoatyard" (278 : Nat) ({ cls := "java/lang/StringBuilder", name := "append", desc := "(C)Ljava/lang/StringBuilder;" } : Jvm.MethodName)) ∈ lw_all := lw_g (lw_at lw_m7 157 rfl) rfl
theorem q1674 : (Jvm.Cond.instanceMethod ({ cls := "PuddleBoatyard", name := "execute", desc := "()I" } : Jvm.MethodName)) ∈ lw_all := lw_g (lw_at lw_m7 162 rfl) rfl
theorem q1675 : (Jvm.Cond.selects "PuddleBoatyard" ({ cls := "PuddleBoatyard", name := "execute", desc := "()I" } : Jvm.MethodName) ({ cls := "PuddleBoatyard", name := "execute", desc := "()I" } : Jvm.MethodName)) ∈ lw_all := lw_g (lw_at lw_m7 163 rfl) rfl
theorem q1676 : (Jvm.Cond.codeWith ({ cls := "PuddleBoatyard", name := "execute", desc := "()I" } : Jvm.MethodName) prog_1_method_57_code (4 : Nat) (Option.some Jvm.ClassFile.FieldType.int) [((24 : Nat), (51 : Nat), (52 : Nat), (311 : Nat))]) ∈ lw_all := lw_g (lw_at lw_m7 164 rfl) rfl
theorem q1677 : (Jvm.Cond.classLink "PuddleBoatyard" (311 : Nat) "PuddleBoatyard$SyntaxError") ∈ lw_all := lw_g (lw_at lw_m7 165 rfl) rfl
theorem q1678 : (Jvm.Cond.methodLink "PuddleBoatyard" (293 : Nat) ({ cls := "java/lang/StringBuilder", name := "toString", desc := "()Ljava/lang/String;" } : Jvm.MethodName)) ∈ lw_all := lw_g (lw_at lw_m7 166 rfl) rfl
theorem q1679 : (Jvm.Cond.methodLink "PuddleBoatyard" (294 : Nat) ({ cls := "java/lang/StringBuilder", name := "setLength", desc := "(I)V" } : Jvm.MethodName)) ∈ lw_all := lw_g (lw_at lw_m7 167 rfl) rfl
theorem q1731 : (Jvm.Cond.classLink "PuddleBoatyard" (298 : Nat) "PuddleBoatyard$Parser") ∈ lw_all := lw_g (lw_at lw_m7 219 rfl) rfl
theorem q1733 : (Jvm.Cond.methodLink "PuddleBoatyard" (300 : Nat) ({ cls := "PuddleBoatyard$Parser", name := "<init>", desc := "(Ljava/lang/String;)V" } : Jvm.MethodName)) ∈ lw_all := lw_g (lw_at lw_m7 221 rfl) rfl
theorem q1744 : (Jvm.Cond.methodLink "PuddleBoatyard" (303 : Nat) ({ cls := "PuddleBoatyard$Parser", name := "program", desc := "()Ljava/util/ArrayList;" } : Jvm.MethodName)) ∈ lw_all := lw_g (lw_at lw_m7 232 rfl) rfl
theorem q1783 : (Jvm.Cond.fieldLink "PuddleBoatyard" (313 : Nat) "PuddleBoatyard$SyntaxError" "position" "I") ∈ lw_all := lw_g (lw_at lw_m8 31 rfl) rfl
theorem q1815 : (Jvm.Cond.methodLink "PuddleBoatyard" (307 : Nat) ({ cls := "PuddleBoatyard", name := "applyAll", desc := "(Ljava/util/ArrayList;LPuddleBoatyard$Yard;)V" } : Jvm.MethodName)) ∈ lw_all := lw_g (lw_at lw_m8 63 rfl) rfl
theorem q1816 : (Jvm.Cond.privateMethod ({ cls := "PuddleBoatyard", name := "applyAll", desc := "(Ljava/util/ArrayList;LPuddleBoatyard$Yard;)V" } : Jvm.MethodName)) ∈ lw_tbl := lw_at lw_m8 64 rfl
theorem q1817 : (Jvm.Cond.instanceMethod ({ cls := "PuddleBoatyard", name := "applyAll", desc := "(Ljava/util/ArrayList;LPuddleBoatyard$Yard;)V" } : Jvm.MethodName)) ∈ lw_all := lw_g (lw_at lw_m8 65 rfl) rfl
theorem q1818 : (Jvm.Cond.code ({ cls := "PuddleBoatyard", name := "applyAll", desc := "(Ljava/util/ArrayList;LPuddleBoatyard$Yard;)V" } : Jvm.MethodName) prog_1_method_56_code (4 : Nat) (Option.none : Option Jvm.ClassFile.FieldType)) ∈ lw_all := lw_g (lw_at lw_m8 66 rfl) rfl
theorem q1819 : (Jvm.Cond.methodLink "PuddleBoatyard" (288 : Nat) ({ cls := "PuddleBoatyard", name := "applies", desc := "(LPuddleBoatyard$Operation;LPuddleBoatyard$Yard;)Z" } : Jvm.MethodName)) ∈ lw_all := lw_g (lw_at lw_m8 67 rfl) rfl
theorem q1820 : (Jvm.Cond.privateMethod ({ cls := "PuddleBoatyard", name := "applies", desc := "(LPuddleBoatyard$Operation;LPuddleBoatyard$Yard;)Z" } : Jvm.MethodName)) ∈ lw_tbl := lw_at lw_m8 68 rfl
theorem q1821 : (Jvm.Cond.instanceMethod ({ cls := "PuddleBoatyard", name := "applies", desc := "(LPuddleBoatyard$Operation;LPuddleBoatyard$Yard;)Z" } : Jvm.MethodName)) ∈ lw_all := lw_g (lw_at lw_m8 69 rfl) rfl
theorem q1822 : (Jvm.Cond.codeWith ({ cls := "PuddleBoatyard", name := "applies", desc := "(LPuddleBoatyard$Operation;LPuddleBoatyard$Yard;)Z" } : Jvm.MethodName) prog_1_method_55_code (4 : Nat) (Option.some Jvm.ClassFile.FieldType.boolean) [((0 : Nat), (7 : Nat), (8 : Nat), (33 : Nat)), ((0 : Nat), (7 : Nat), (19 : Nat), (282 : Nat)), ((0 : Nat), (7 : Nat), (19 : Nat), (284 : Nat)), ((0 : Nat), (7 : Nat), (19 : Nat), (286 : Nat)), ((0 : Nat), (7 : Nat), (19 : Nat), (167 : Nat))]) ∈ lw_all := lw_g (lw_at lw_m8 70 rfl) rfl
theorem q1823 : (Jvm.Cond.classLink "PuddleBoatyard" (282 : Nat) "java/lang/IllegalArgumentException") ∈ lw_all := lw_g (lw_at lw_m8 71 rfl) rfl
theorem q1824 : (Jvm.Cond.classLink "PuddleBoatyard" (284 : Nat) "java/lang/IllegalStateException") ∈ lw_all := lw_g (lw_at lw_m8 72 rfl) rfl
theorem q1825 : (Jvm.Cond.classLink "PuddleBoatyard" (286 : Nat) "java/lang/IndexOutOfBoundsException") ∈ lw_all := lw_g (lw_at lw_m8 73 rfl) rfl
theorem q1826 : (Jvm.Cond.methodLink "PuddleBoatyard" (292 : Nat) ({ cls := "java/lang/IllegalStateException", name := "<init>", desc := "()V" } : Jvm.MethodName)) ∈ lw_all := lw_g (lw_at lw_m8 74 rfl) rfl
theorem q1827 : (Jvm.Cond.methodLink "PuddleBoatyard" (316 : Nat) ({ cls := "java/lang/IllegalArgumentException", name := "<init>", desc := "()V" } : Jvm.MethodName)) ∈ lw_all := lw_g (lw_at lw_m8 75 rfl) rfl
theorem q1832 : (Jvm.Cond.instanceMethod ({ cls := "PuddleBoatyard", name := "errorPosition", desc := "()I" } : Jvm.MethodName)) ∈ lw_all := lw_g (lw_at lw_m8 80 rfl) rfl
theorem q1833 : (Jvm.Cond.selects "PuddleBoatyard" ({ cls := "PuddleBoatyard", name := "errorPosition", desc := "()I" } : Jvm.MethodName) ({ cls := "PuddleBoatyard", name := "errorPosition", desc := "()I" } : Jvm.MethodName)) ∈ lw_all := lw_g (lw_at lw_m8 81 rfl) rfl
theorem q1834 : (Jvm.Cond.code ({ cls := "PuddleBoatyard", name := "errorPosition", desc := "()I" } : Jvm.MethodName) prog_1_method_58_code (1 : Nat) (Option.some Jvm.ClassFile.FieldType.int)) ∈ lw_all := lw_g (lw_at lw_m8 82 rfl) rfl
theorem q1839 : (Jvm.Cond.instanceMethod ({ cls := "PuddleBoatyard", name := "failedCommand", desc := "()I" } : Jvm.MethodName)) ∈ lw_all := lw_g (lw_at lw_m8 87 rfl) rfl
theorem q1840 : (Jvm.Cond.selects "PuddleBoatyard" ({ cls := "PuddleBoatyard", name := "failedCommand", desc := "()I" } : Jvm.MethodName) ({ cls := "PuddleBoatyard", name := "failedCommand", desc := "()I" } : Jvm.MethodName)) ∈ lw_all := lw_g (lw_at lw_m8 88 rfl) rfl
theorem q1841 : (Jvm.Cond.code ({ cls := "PuddleBoatyard", name := "failedCommand", desc := "()I" } : Jvm.MethodName) prog_1_method_59_code (1 : Nat) (Option.some Jvm.ClassFile.FieldType.int)) ∈ lw_all := lw_g (lw_at lw_m8 89 rfl) rfl
theorem q1846 : (Jvm.Cond.instanceMethod ({ cls := "PuddleBoatyard", name := "undo", desc := "()I" } : Jvm.MethodName)) ∈ lw_all := lw_g (lw_at lw_m8 94 rfl) rfl
theorem q1847 : (Jvm.Cond.selects "PuddleBoatyard" ({ cls := "PuddleBoatyard", name := "undo", desc := "()I" } : Jvm.MethodName) ({ cls := "PuddleBoatyard", name := "undo", desc := "()I" } : Jvm.MethodName)) ∈ lw_all := lw_g (lw_at lw_m8 95 rfl) rfl
theorem q1848 : (Jvm.Cond.code ({ cls := "PuddleBoatyard", name := "undo", desc := "()I" } : Jvm.MethodName) prog_1_method_60_code (1 : Nat) (Option.some Jvm.ClassFile.FieldType.int)) ∈ lw_all := lw_g (lw_at lw_m8 96 rfl) rfl
theorem q1849 : (Jvm.Cond.methodLink "PuddleBoatyard" (317 : Nat) ({ cls := "PuddleBoatyard$History", name := "pop", desc := "()LPuddleBoatyard$Yard;" } : Jvm.MethodName)) ∈ lw_all := lw_g (lw_at lw_m8 97 rfl) rfl
theorem q1873 : (Jvm.Cond.methodLink "PuddleBoatyard" (320 : Nat) ({ cls := "PuddleBoatyard$History", name := "size", desc := "()I" } : Jvm.MethodName)) ∈ lw_all := lw_g (lw_at lw_m8 121 rfl) rfl
theorem q1881 : (Jvm.Cond.instanceMethod ({ cls := "PuddleBoatyard", name := "restore", desc := "()I" } : Jvm.MethodName)) ∈ lw_all := lw_g (lw_at lw_m8 129 rfl) rfl
theorem q1882 : (Jvm.Cond.selects "PuddleBoatyard" ({ cls := "PuddleBoatyard", name := "restore", desc := "()I" } : Jvm.MethodName) ({ cls := "PuddleBoatyard", name := "restore", desc := "()I" } : Jvm.MethodName)) ∈ lw_all := lw_g (lw_at lw_m8 130 rfl) rfl
theorem q1883 : (Jvm.Cond.code ({ cls := "PuddleBoatyard", name := "restore", desc := "()I" } : Jvm.MethodName) prog_1_method_62_code (1 : Nat) (Option.some Jvm.ClassFile.FieldType.int)) ∈ lw_all := lw_g (lw_at lw_m8 131 rfl) rfl
theorem q1884 : (Jvm.Cond.methodLink "PuddleBoatyard" (324 : Nat) ({ cls := "PuddleBoatyard$History", name := "clear", desc := "()V" } : Jvm.MethodName)) ∈ lw_all := lw_g (lw_at lw_m8 132 rfl) rfl
theorem q2416 : (Jvm.Cond.castable "PuddleBoatyard" "java/lang/Object") ∈ lw_tbl := lw_at lw_m10 184 rfl
theorem in_X1 : ∀ w ∈ wsX10, w ∈ lw_all := lw_in wsX10 [260, 262, 264, 266, 268, 270, 272, 274] (by decide +kernel) (by decide +kernel)
/-! PuddleBoatyard$Yard -/
def RX2 : String := "PuddleBoatyard$Yard"
def TX2 : u_T := fun k => match k with
  | 0 => ("PuddleBoatyard$Yard", "hulls", "Ljava/util/ArrayList;", true)
  | 1 => ("PuddleBoatyard$Yard", "orders", "Ljava/util/ArrayList;", true)
  | 2 => ("PuddleBoatyard$Yard", "tides", "[I", true)
  | 3 => ("PuddleBoatyard$Yard", "slips", "[I", true)
  | 4 => ("PuddleBoatyard$Yard", "hour", "I", false)
  | 5 => ("PuddleBoatyard$Yard", "nextId", "I", false)
  | _ => ("PuddleBoatyard$Yard", "paid", "J", false)
def tyX2 : Nat → FieldType := fun k => match k with
  | 0 => .object "java/util/ArrayList"
  | 1 => .object "java/util/ArrayList"
  | 2 => .array .int
  | 3 => .array .int
  | 4 => .int
  | 5 => .int
  | _ => .long
abbrev wsX20 : List Cond := u_ws RX2 TX2 7
theorem nmX2 : ∀ a, a < 7 → ∀ b, b < 7 → a ≠ b → (TX2 a).2.1 ≠ (TX2 b).2.1 := by decide +kernel
theorem tyX2_ok : ∀ k, k < 7 → parseFieldDescriptor (TX2 k).2.2.1 = some (tyX2 k) := by decide +kernel
abbrev cX2_init : ByteArray := prog_16_method_1_code
def yX2_init : MethodName := ⟨RX2, "<init>", "()V"⟩
abbrev cX2_mostOnSlips : ByteArray := prog_16_method_21_code
def yX2_mostOnSlips : MethodName := ⟨RX2, "mostOnSlips", "()I"⟩
abbrev cX2_fits : ByteArray := prog_16_method_20_code
def yX2_fits : MethodName := ⟨RX2, "fits", "(II)Z"⟩
abbrev cX2_mostOnSlipsByLengths : ByteArray := prog_16_method_22_code
def yX2_mostOnSlipsByLengths : MethodName := ⟨RX2, "mostOnSlipsByLengths", "()I"⟩
abbrev cX2_shortestFor : ByteArray := prog_16_method_23_code
def yX2_shortestFor : MethodName := ⟨RX2, "shortestFor", "(I[Z)I"⟩
abbrev cX2_uses : ByteArray := prog_16_method_24_code
def yX2_uses : MethodName := ⟨RX2, "uses", "(III)I"⟩
abbrev cX2_bestDelivery : ByteArray := prog_16_method_26_code
def yX2_bestDelivery : MethodName := ⟨RX2, "bestDelivery", "()I"⟩
abbrev cX2_afloatWith : ByteArray := prog_16_method_25_code
def yX2_afloatWith : MethodName := ⟨RX2, "afloatWith", "(I)I"⟩
abbrev cX2_takeBest : ByteArray := prog_16_method_27_code
def yX2_takeBest : MethodName := ⟨RX2, "takeBest", "(I[Z)I"⟩
abbrev cX2_copy : ByteArray := prog_16_method_2_code
def yX2_copy : MethodName := ⟨RX2, "copy", "()LPuddleBoatyard$Yard;"⟩
abbrev cX2_beginHull : ByteArray := prog_16_method_7_code
def yX2_beginHull : MethodName := ⟨RX2, "beginHull", "()I"⟩
abbrev cX2_addFrame : ByteArray := prog_16_method_8_code
def yX2_addFrame : MethodName := ⟨RX2, "addFrame", "(III)I"⟩
abbrev cX2_hull : ByteArray := prog_16_method_3_code
def yX2_hull : MethodName := ⟨RX2, "hull", "(I)LPuddleBoatyard$Hull;"⟩
abbrev cX2_mirror : ByteArray := prog_16_method_9_code
def yX2_mirror : MethodName := ⟨RX2, "mirror", "(I)I"⟩
abbrev cX2_setCargo : ByteArray := prog_16_method_10_code
def yX2_setCargo : MethodName := ⟨RX2, "setCargo", "(II)I"⟩
abbrev cX2_launch : ByteArray := prog_16_method_11_code
def yX2_launch : MethodName := ⟨RX2, "launch", "(I)I"⟩
abbrev cX2_tide : ByteArray := prog_16_method_6_code
def yX2_tide : MethodName := ⟨RX2, "tide", "(I)I"⟩
abbrev cX2_caulk : ByteArray := prog_16_method_12_code
def yX2_caulk : MethodName := ⟨RX2, "caulk", "(II)I"⟩
abbrev cX2_hullWithSeam : ByteArray := prog_16_method_4_code
def yX2_hullWithSeam : MethodName := ⟨RX2, "hullWithSeam", "(II)LPuddleBoatyard$Hull;"⟩
abbrev cX2_pump : ByteArray := prog_16_method_13_code
def yX2_pump : MethodName := ⟨RX2, "pump", "(II)I"⟩
abbrev cX2_pass : ByteArray := prog_16_method_15_code
def yX2_pass : MethodName := ⟨RX2, "pass", "(I)I"⟩
abbrev cX2_passHour : ByteArray := prog_16_method_14_code
def yX2_passHour : MethodName := ⟨RX2, "passHour", "()I"⟩
abbrev cX2_setTide : ByteArray := prog_16_method_16_code
def yX2_setTide : MethodName := ⟨RX2, "setTide", "(II)I"⟩
abbrev cX2_setSlip : ByteArray := prog_16_method_17_code
def yX2_setSlip : MethodName := ⟨RX2, "setSlip", "(II)I"⟩
abbrev cX2_addOrder : ByteArray := prog_16_method_18_code
def yX2_addOrder : MethodName := ⟨RX2, "addOrder", "(III)I"⟩
abbrev cX2_deliver : ByteArray := prog_16_method_19_code
def yX2_deliver : MethodName := ⟨RX2, "deliver", "(II)I"⟩
abbrev cX2_order : ByteArray := prog_16_method_5_code
def yX2_order : MethodName := ⟨RX2, "order", "(I)LPuddleBoatyard$Order;"⟩
theorem q74 : (Jvm.Cond.initialized "PuddleBoatyard$Yard") ∈ lw_all := lw_g (lw_at lw_m1 2 rfl) rfl
theorem q126 : (Jvm.Cond.instantiable "PuddleBoatyard$Yard" (7 : Nat)) ∈ lw_all := lw_g (lw_at lw_m1 54 rfl) rfl
theorem q128 : (Jvm.Cond.instanceMethod ({ cls := "PuddleBoatyard$Yard", name := "<init>", desc := "()V" } : Jvm.MethodName)) ∈ lw_all := lw_g (lw_at lw_m1 56 rfl) rfl
theorem q129 : (Jvm.Cond.code ({ cls := "PuddleBoatyard$Yard", name := "<init>", desc := "()V" } : Jvm.MethodName) prog_16_method_1_code (2 : Nat) (Option.none : Option Jvm.ClassFile.FieldType)) ∈ lw_all := lw_g (lw_at lw_m1 57 rfl) rfl
theorem q130 : (Jvm.Cond.methodLink "PuddleBoatyard$Yard" (3 : Nat) ({ cls := "java/lang/Object", name := "<init>", desc := "()V" } : Jvm.MethodName)) ∈ lw_all := lw_g (lw_at lw_m1 58 rfl) rfl
theorem q131 : (Jvm.Cond.classLink "PuddleBoatyard$Yard" (9 : Nat) "java/util/ArrayList") ∈ lw_all := lw_g (lw_at lw_m1 59 rfl) rfl
theorem q133 : (Jvm.Cond.methodLink "PuddleBoatyard$Yard" (11 : Nat) ({ cls := "java/util/ArrayList", name := "<init>", desc := "()V" } : Jvm.MethodName)) ∈ lw_all := lw_g (lw_at lw_m1 61 rfl) rfl
theorem q157 : (Jvm.Cond.methodLink "PuddleBoatyard$Yard" (28 : Nat) ({ cls := "java/lang/Math", name := "min", desc := "(II)I" } : Jvm.MethodName)) ∈ lw_all := lw_g (lw_at lw_m1 85 rfl) rfl
theorem q160 : (Jvm.Cond.fieldLink "PuddleBoatyard$Yard" (12 : Nat) "PuddleBoatyard$Yard" "hulls" "Ljava/util/ArrayList;") ∈ lw_all := lw_g (lw_at lw_m1 88 rfl) rfl
theorem q163 : (Jvm.Cond.fieldLink "PuddleBoatyard$Yard" (18 : Nat) "PuddleBoatyard$Yard" "orders" "Ljava/util/ArrayList;") ∈ lw_all := lw_g (lw_at lw_m1 91 rfl) rfl
theorem q165 : (Jvm.Cond.fieldLink "PuddleBoatyard$Yard" (21 : Nat) "PuddleBoatyard$Yard" "tides" "[I") ∈ lw_all := lw_g (lw_at lw_m1 93 rfl) rfl
theorem q167 : (Jvm.Cond.fieldLink "PuddleBoatyard$Yard" (25 : Nat) "PuddleBoatyard$Yard" "slips" "[I") ∈ lw_all := lw_g (lw_at lw_m1 95 rfl) rfl
theorem q169 : (Jvm.Cond.fieldLink "PuddleBoatyard$Yard" (60 : Nat) "PuddleBoatyard$Yard" "hour" "I") ∈ lw_all := lw_g (lw_at lw_m1 97 rfl) rfl
theorem q171 : (Jvm.Cond.fieldLink "PuddleBoatyard$Yard" (64 : Nat) "PuddleBoatyard$Yard" "nextId" "I") ∈ lw_all := lw_g (lw_at lw_m1 99 rfl) rfl
theorem q172 : (Jvm.Cond.fieldLink "PuddleBoatyard$Yard" (67 : Nat) "PuddleBoatyard$Yard" "paid" "J") ∈ lw_all := lw_g (lw_at lw_m1 100 rfl) rfl
theorem q174 : (Jvm.Cond.laysFinal "PuddleBoatyard$Yard" "PuddleBoatyard$Yard" "hulls" "Ljava/util/ArrayList;") ∈ lw_all := lw_g (lw_at lw_m1 102 rfl) rfl
theorem q175 : (Jvm.Cond.soleField "PuddleBoatyard$Yard" "hulls") ∈ lw_all := lw_g (lw_at lw_m1 103 rfl) rfl
theorem q176 : (Jvm.Cond.laysFinal "PuddleBoatyard$Yard" "PuddleBoatyard$Yard" "orders" "Ljava/util/ArrayList;") ∈ lw_all := lw_g (lw_at lw_m1 104 rfl) rfl
theorem q177 : (Jvm.Cond.soleField "PuddleBoatyard$Yard" "orders") ∈ lw_all := lw_g (lw_at lw_m1 105 rfl) rfl
theorem q178 : (Jvm.Cond.laysFinal "PuddleBoatyard$Yard" "PuddleBoatyard$Yard" "tides" "[I") ∈ lw_all := lw_g (lw_at lw_m1 106 rfl) rfl
theorem q179 : (Jvm.Cond.soleField "PuddleBoatyard$Yard" "tides") ∈ lw_all := lw_g (lw_at lw_m1 107 rfl) rfl
theorem q180 : (Jvm.Cond.laysFinal "PuddleBoatyard$Yard" "PuddleBoatyard$Yard" "slips" "[I") ∈ lw_all := lw_g (lw_at lw_m1 108 rfl) rfl
theorem q181 : (Jvm.Cond.soleField "PuddleBoatyard$Yard" "slips") ∈ lw_all := lw_g (lw_at lw_m1 109 rfl) rfl
theorem q182 : (Jvm.Cond.lays "PuddleBoatyard$Yard" "PuddleBoatyard$Yard" "hour" "I") ∈ lw_all := lw_g (lw_at lw_m1 110 rfl) rfl
theorem q183 : (Jvm.Cond.soleField "PuddleBoatyard$Yard" "hour") ∈ lw_all := lw_g (lw_at lw_m1 111 rfl) rfl
theorem q184 : (Jvm.Cond.lays "PuddleBoatyard$Yard" "PuddleBoatyard$Yard" "nextId" "I") ∈ lw_all := lw_g (lw_at lw_m1 112 rfl) rfl
theorem q185 : (Jvm.Cond.soleField "PuddleBoatyard$Yard" "nextId") ∈ lw_all := lw_g (lw_at lw_m1 113 rfl) rfl
theorem q186 : (Jvm.Cond.lays "PuddleBoatyard$Yard" "PuddleBoatyard$Yard" "paid" "J") ∈ lw_all := lw_g (lw_at lw_m1 114 rfl) rfl
theorem q187 : (Jvm.Cond.soleField "PuddleBoatyard$Yard" "paid") ∈ lw_all := lw_g (lw_at lw_m1 115 rfl) rfl
theorem q188 : (Jvm.Cond.superclass "PuddleBoatyard$Yard" "java/lang/Object") ∈ lw_all := lw_g (lw_at lw_m1 116 rfl) rfl
theorem q294 : (Jvm.Cond.instanceMethod ({ cls := "PuddleBoatyard$Yard", name := "mostOnSlips", desc := "()I" } : Jvm.MethodName)) ∈ lw_all := lw_g (lw_at lw_m1 222 rfl) rfl
theorem q295 : (Jvm.Cond.selects "PuddleBoatyard$Yard" ({ cls := "PuddleBoatyard$Yard", name := "mostOnSlips", desc := "()I" } : Jvm.MethodName) ({ cls := "PuddleBoatyard$Yard", name := "mostOnSlips", desc := "()I" } : Jvm.MethodName)) ∈ lw_all := lw_g (lw_at lw_m1 223 rfl) rfl
theorem q296 : (Jvm.Cond.code ({ cls := "PuddleBoatyard$Yard", name := "mostOnSlips", desc := "()I" } : Jvm.MethodName) prog_16_method_21_code (1 : Nat) (Option.some Jvm.ClassFile.FieldType.int)) ∈ lw_all := lw_g (lw_at lw_m1 224 rfl) rfl
theorem q297 : (Jvm.Cond.classLink "PuddleBoatyard$Yard" (186 : Nat) "PuddleBoatyard$Yard$Matching") ∈ lw_all := lw_g (lw_at lw_m1 225 rfl) rfl
theorem q299 : (Jvm.Cond.methodLink "PuddleBoatyard$Yard" (188 : Nat) ({ cls := "PuddleBoatyard$Yard$Matching", name := "<init>", desc := "(LPuddleBoatyard$Yard;)V" } : Jvm.MethodName)) ∈ lw_all := lw_g (lw_at lw_m1 227 rfl) rfl
theorem q309 : (Jvm.Cond.instanceMethod ({ cls := "PuddleBoatyard$Yard", name := "fits", desc := "(II)Z" } : Jvm.MethodName)) ∈ lw_all := lw_g (lw_at lw_m1 237 rfl) rfl
theorem q310 : (Jvm.Cond.selects "PuddleBoatyard$Yard" ({ cls := "PuddleBoatyard$Yard", name := "fits", desc := "(II)Z" } : Jvm.MethodName) ({ cls := "PuddleBoatyard$Yard", name := "fits", desc := "(II)Z" } : Jvm.MethodName)) ∈ lw_all := lw_g (lw_at lw_m1 238 rfl) rfl
theorem q311 : (Jvm.Cond.code ({ cls := "PuddleBoatyard$Yard", name := "fits", desc := "(II)Z" } : Jvm.MethodName) prog_16_method_20_code (4 : Nat) (Option.some Jvm.ClassFile.FieldType.boolean)) ∈ lw_all := lw_g (lw_at lw_m1 239 rfl) rfl
theorem q312 : (Jvm.Cond.methodLink "PuddleBoatyard$Yard" (41 : Nat) ({ cls := "java/util/ArrayList", name := "get", desc := "(I)Ljava/lang/Object;" } : Jvm.MethodName)) ∈ lw_all := lw_g (lw_at lw_m2 0 rfl) rfl
theorem q326 : (Jvm.Cond.classLink "PuddleBoatyard$Yard" (39 : Nat) "PuddleBoatyard$Hull") ∈ lw_all := lw_g (lw_at lw_m2 14 rfl) rfl
theorem q327 : (Jvm.Cond.fieldLink "PuddleBoatyard$Yard" (104 : Nat) "PuddleBoatyard$State" "BUILT" "LPuddleBoatyard$State;") ∈ lw_all := lw_g (lw_at lw_m2 15 rfl) rfl
theorem q329 : (Jvm.Cond.methodLink "PuddleBoatyard$Yard" (110 : Nat) ({ cls := "PuddleBoatyard$Hull", name := "is", desc := "(LPuddleBoatyard$State;)Z" } : Jvm.MethodName)) ∈ lw_all := lw_g (lw_at lw_m2 17 rfl) rfl
theorem q333 : (Jvm.Cond.methodLink "PuddleBoatyard$Yard" (114 : Nat) ({ cls := "PuddleBoatyard$Hull", name := "size", desc := "()I" } : Jvm.MethodName)) ∈ lw_all := lw_g (lw_at lw_m2 21 rfl) rfl
theorem q341 : (Jvm.Cond.fieldLink "PuddleBoatyard$Yard" (191 : Nat) "PuddleBoatyard$Yard$Matching" "size" "I") ∈ lw_all := lw_g (lw_at lw_m2 29 rfl) rfl
theorem q358 : (Jvm.Cond.instanceMethod ({ cls := "PuddleBoatyard$Yard", name := "mostOnSlipsByLengths", desc := "()I" } : Jvm.MethodName)) ∈ lw_all := lw_g (lw_at lw_m2 46 rfl) rfl
theorem q359 : (Jvm.Cond.selects "PuddleBoatyard$Yard" ({ cls := "PuddleBoatyard$Yard", name := "mostOnSlipsByLengths", desc := "()I" } : Jvm.MethodName) ({ cls := "PuddleBoatyard$Yard", name := "mostOnSlipsByLengths", desc := "()I" } : Jvm.MethodName)) ∈ lw_all := lw_g (lw_at lw_m2 47 rfl) rfl
theorem q360 : (Jvm.Cond.code ({ cls := "PuddleBoatyard$Yard", name := "mostOnSlipsByLengths", desc := "()I" } : Jvm.MethodName) prog_16_method_22_code (6 : Nat) (Option.some Jvm.ClassFile.FieldType.int)) ∈ lw_all := lw_g (lw_at lw_m2 48 rfl) rfl
theorem q361 : (Jvm.Cond.methodLink "PuddleBoatyard$Yard" (35 : Nat) ({ cls := "java/util/ArrayList", name := "size", desc := "()I" } : Jvm.MethodName)) ∈ lw_all := lw_g (lw_at lw_m2 49 rfl) rfl
theorem q362 : (Jvm.Cond.methodLink "PuddleBoatyard$Yard" (193 : Nat) ({ cls := "PuddleBoatyard$Yard", name := "shortestFor", desc := "(I[Z)I" } : Jvm.MethodName)) ∈ lw_all := lw_g (lw_at lw_m2 50 rfl) rfl
theorem q363 : (Jvm.Cond.privateMethod ({ cls := "PuddleBoatyard$Yard", name := "shortestFor", desc := "(I[Z)I" } : Jvm.MethodName)) ∈ lw_tbl := lw_at lw_m2 51 rfl
theorem q364 : (Jvm.Cond.instanceMethod ({ cls := "PuddleBoatyard$Yard", name := "shortestFor", desc := "(I[Z)I" } : Jvm.MethodName)) ∈ lw_all := lw_g (lw_at lw_m2 52 rfl) rfl
theorem q365 : (Jvm.Cond.code ({ cls := "PuddleBoatyard$Yard", name := "shortestFor", desc := "(I[Z)I" } : Jvm.MethodName) prog_16_method_23_code (5 : Nat) (Option.some Jvm.ClassFile.FieldType.int)) ∈ lw_all := lw_g (lw_at lw_m2 53 rfl) rfl
theorem q366 : (Jvm.Cond.methodLink "PuddleBoatyard$Yard" (197 : Nat) ({ cls := "PuddleBoatyard$Yard", name := "fits", desc := "(II)Z" } : Jvm.MethodName)) ∈ lw_all := lw_g (lw_at lw_m2 54 rfl) rfl
theorem q372 : (Jvm.Cond.instanceMethod ({ cls := "PuddleBoatyard$Yard", name := "uses", desc := "(III)I" } : Jvm.MethodName)) ∈ lw_all := lw_g (lw_at lw_m2 60 rfl) rfl
theorem q373 : (Jvm.Cond.selects "PuddleBoatyard$Yard" ({ cls := "PuddleBoatyard$Yard", name := "uses", desc := "(III)I" } : Jvm.MethodName) ({ cls := "PuddleBoatyard$Yard", name := "uses", desc := "(III)I" } : Jvm.MethodName)) ∈ lw_all := lw_g (lw_at lw_m2 61 rfl) rfl
theorem q374 : (Jvm.Cond.code ({ cls := "PuddleBoatyard$Yard", name := "uses", desc := "(III)I" } : Jvm.MethodName) prog_16_method_24_code (6 : Nat) (Option.some Jvm.ClassFile.FieldType.int)) ∈ lw_all := lw_g (lw_at lw_m2 62 rfl) rfl
theorem q375 : (Jvm.Cond.methodLink "PuddleBoatyard$Yard" (201 : Nat) ({ cls := "PuddleBoatyard$Yard", name := "uses", desc := "(III)I" } : Jvm.MethodName)) ∈ lw_all := lw_g (lw_at lw_m2 63 rfl) rfl
theorem q385 : (Jvm.Cond.instanceMethod ({ cls := "PuddleBoatyard$Yard", name := "bestDelivery", desc := "()I" } : Jvm.MethodName)) ∈ lw_all := lw_g (lw_at lw_m2 73 rfl) rfl
theorem q386 : (Jvm.Cond.selects "PuddleBoatyard$Yard" ({ cls := "PuddleBoatyard$Yard", name := "bestDelivery", desc := "()I" } : Jvm.MethodName) ({ cls := "PuddleBoatyard$Yard", name := "bestDelivery", desc := "()I" } : Jvm.MethodName)) ∈ lw_all := lw_g (lw_at lw_m2 74 rfl) rfl
theorem q387 : (Jvm.Cond.code ({ cls := "PuddleBoatyard$Yard", name := "bestDelivery", desc := "()I" } : Jvm.MethodName) prog_16_method_26_code (5 : Nat) (Option.some Jvm.ClassFile.FieldType.int)) ∈ lw_all := lw_g (lw_at lw_m2 75 rfl) rfl
theorem q388 : (Jvm.Cond.methodLink "PuddleBoatyard$Yard" (205 : Nat) ({ cls := "PuddleBoatyard$Yard", name := "afloatWith", desc := "(I)I" } : Jvm.MethodName)) ∈ lw_all := lw_g (lw_at lw_m2 76 rfl) rfl
theorem q389 : (Jvm.Cond.privateMethod ({ cls := "PuddleBoatyard$Yard", name := "afloatWith", desc := "(I)I" } : Jvm.MethodName)) ∈ lw_tbl := lw_at lw_m2 77 rfl
theorem q390 : (Jvm.Cond.instanceMethod ({ cls := "PuddleBoatyard$Yard", name := "afloatWith", desc := "(I)I" } : Jvm.MethodName)) ∈ lw_all := lw_g (lw_at lw_m2 78 rfl) rfl
theorem q391 : (Jvm.Cond.code ({ cls := "PuddleBoatyard$Yard", name := "afloatWith", desc := "(I)I" } : Jvm.MethodName) prog_16_method_25_code (4 : Nat) (Option.some Jvm.ClassFile.FieldType.int)) ∈ lw_all := lw_g (lw_at lw_m2 79 rfl) rfl
theorem q392 : (Jvm.Cond.fieldLink "PuddleBoatyard$Yard" (145 : Nat) "PuddleBoatyard$State" "AFLOAT" "LPuddleBoatyard$State;") ∈ lw_all := lw_g (lw_at lw_m2 80 rfl) rfl
theorem q394 : (Jvm.Cond.methodLink "PuddleBoatyard$Yard" (208 : Nat) ({ cls := "PuddleBoatyard$Yard", name := "takeBest", desc := "(I[Z)I" } : Jvm.MethodName)) ∈ lw_all := lw_g (lw_at lw_m2 82 rfl) rfl
theorem q395 : (Jvm.Cond.privateMethod ({ cls := "PuddleBoatyard$Yard", name := "takeBest", desc := "(I[Z)I" } : Jvm.MethodName)) ∈ lw_tbl := lw_at lw_m2 83 rfl
theorem q396 : (Jvm.Cond.instanceMethod ({ cls := "PuddleBoatyard$Yard", name := "takeBest", desc := "(I[Z)I" } : Jvm.MethodName)) ∈ lw_all := lw_g (lw_at lw_m2 84 rfl) rfl
theorem q397 : (Jvm.Cond.code ({ cls := "PuddleBoatyard$Yard", name := "takeBest", desc := "(I[Z)I" } : Jvm.MethodName) prog_16_method_27_code (5 : Nat) (Option.some Jvm.ClassFile.FieldType.int)) ∈ lw_all := lw_g (lw_at lw_m2 85 rfl) rfl
theorem q398 : (Jvm.Cond.classLink "PuddleBoatyard$Yard" (52 : Nat) "PuddleBoatyard$Order") ∈ lw_all := lw_g (lw_at lw_m2 86 rfl) rfl
theorem q399 : (Jvm.Cond.methodLink "PuddleBoatyard$Yard" (183 : Nat) ({ cls := "PuddleBoatyard$Order", name := "coinsAt", desc := "(I)I" } : Jvm.MethodName)) ∈ lw_all := lw_g (lw_at lw_m2 87 rfl) rfl
theorem q415 : (Jvm.Cond.instanceMethod ({ cls := "PuddleBoatyard$Yard", name := "copy", desc := "()LPuddleBoatyard$Yard;" } : Jvm.MethodName)) ∈ lw_all := lw_g (lw_at lw_m2 103 rfl) rfl
theorem q416 : (Jvm.Cond.selects "PuddleBoatyard$Yard" ({ cls := "PuddleBoatyard$Yard", name := "copy", desc := "()LPuddleBoatyard$Yard;" } : Jvm.MethodName) ({ cls := "PuddleBoatyard$Yard", name := "copy", desc := "()LPuddleBoatyard$Yard;" } : Jvm.MethodName)) ∈ lw_all := lw_g (lw_at lw_m2 104 rfl) rfl
theorem q417 : (Jvm.Cond.code ({ cls := "PuddleBoatyard$Yard", name := "copy", desc := "()LPuddleBoatyard$Yard;" } : Jvm.MethodName) prog_16_method_2_code (4 : Nat) (Option.some (Jvm.ClassFile.FieldType.object "PuddleBoatyard$Yard"))) ∈ lw_all := lw_g (lw_at lw_m2 105 rfl) rfl
theorem q418 : (Jvm.Cond.classLink "PuddleBoatyard$Yard" (13 : Nat) "PuddleBoatyard$Yard") ∈ lw_all := lw_g (lw_at lw_m2 106 rfl) rfl
theorem q419 : (Jvm.Cond.methodLink "PuddleBoatyard$Yard" (34 : Nat) ({ cls := "PuddleBoatyard$Yard", name := "<init>", desc := "()V" } : Jvm.MethodName)) ∈ lw_all := lw_g (lw_at lw_m2 107 rfl) rfl
theorem q421 : (Jvm.Cond.methodLink "PuddleBoatyard$Yard" (45 : Nat) ({ cls := "PuddleBoatyard$Hull", name := "<init>", desc := "(LPuddleBoatyard$Hull;)V" } : Jvm.MethodName)) ∈ lw_all := lw_g (lw_at lw_m2 109 rfl) rfl
theorem q434 : (Jvm.Cond.fieldLink "PuddleBoatyard$Yard" (115 : Nat) "PuddleBoatyard$Hull" "frames" "Ljava/util/ArrayList;") ∈ lw_all := lw_g (lw_at lw_m2 122 rfl) rfl
theorem q437 : (Jvm.Cond.fieldLink "PuddleBoatyard$Yard" (152 : Nat) "PuddleBoatyard$Hull" "caulking" "[I") ∈ lw_all := lw_g (lw_at lw_m2 125 rfl) rfl
theorem q440 : (Jvm.Cond.fieldLink "PuddleBoatyard$Yard" (126 : Nat) "PuddleBoatyard$Hull" "state" "LPuddleBoatyard$State;") ∈ lw_all := lw_g (lw_at lw_m2 128 rfl) rfl
theorem q443 : (Jvm.Cond.fieldLink "PuddleBoatyard$Yard" (132 : Nat) "PuddleBoatyard$Hull" "cargo" "I") ∈ lw_all := lw_g (lw_at lw_m2 131 rfl) rfl
theorem q445 : (Jvm.Cond.fieldLink "PuddleBoatyard$Yard" (155 : Nat) "PuddleBoatyard$Hull" "water" "I") ∈ lw_all := lw_g (lw_at lw_m2 133 rfl) rfl
theorem q505 : (Jvm.Cond.selects "PuddleBoatyard$Yard" ({ cls := "java/lang/Object", name := "getClass", desc := "()Ljava/lang/Class;" } : Jvm.MethodName) ({ cls := "java/lang/Object", name := "getClass", desc := "()Ljava/lang/Class;" } : Jvm.MethodName)) ∈ lw_all := lw_g (lw_at lw_m2 193 rfl) rfl
theorem q533 : (Jvm.Cond.methodLink "PuddleBoatyard$Yard" (48 : Nat) ({ cls := "java/util/ArrayList", name := "add", desc := "(Ljava/lang/Object;)Z" } : Jvm.MethodName)) ∈ lw_all := lw_g (lw_at lw_m2 221 rfl) rfl
theorem q534 : (Jvm.Cond.methodLink "PuddleBoatyard$Yard" (54 : Nat) ({ cls := "java/lang/System", name := "arraycopy", desc := "(Ljava/lang/Object;ILjava/lang/Object;II)V" } : Jvm.MethodName)) ∈ lw_all := lw_g (lw_at lw_m2 222 rfl) rfl
theorem q572 : (Jvm.Cond.instanceMethod ({ cls := "PuddleBoatyard$Yard", name := "beginHull", desc := "()I" } : Jvm.MethodName)) ∈ lw_all := lw_g (lw_at lw_m3 20 rfl) rfl
theorem q573 : (Jvm.Cond.selects "PuddleBoatyard$Yard" ({ cls := "PuddleBoatyard$Yard", name := "beginHull", desc := "()I" } : Jvm.MethodName) ({ cls := "PuddleBoatyard$Yard", name := "beginHull", desc := "()I" } : Jvm.MethodName)) ∈ lw_all := lw_g (lw_at lw_m3 21 rfl) rfl
theorem q574 : (Jvm.Cond.code ({ cls := "PuddleBoatyard$Yard", name := "beginHull", desc := "()I" } : Jvm.MethodName) prog_16_method_7_code (2 : Nat) (Option.some Jvm.ClassFile.FieldType.int)) ∈ lw_all := lw_g (lw_at lw_m3 22 rfl) rfl
theorem q575 : (Jvm.Cond.methodLink "PuddleBoatyard$Yard" (94 : Nat) ({ cls := "PuddleBoatyard$Checks", name := "state", desc := "(Z)V" } : Jvm.MethodName)) ∈ lw_all := lw_g (lw_at lw_m3 23 rfl) rfl
theorem q649 : (Jvm.Cond.methodLink "PuddleBoatyard$Yard" (97 : Nat) ({ cls := "PuddleBoatyard$Hull", name := "<init>", desc := "(I)V" } : Jvm.MethodName)) ∈ lw_all := lw_g (lw_at lw_m3 97 rfl) rfl
theorem q651 : (Jvm.Cond.instanceMethod ({ cls := "PuddleBoatyard$Yard", name := "addFrame", desc := "(III)I" } : Jvm.MethodName)) ∈ lw_all := lw_g (lw_at lw_m3 99 rfl) rfl
theorem q652 : (Jvm.Cond.selects "PuddleBoatyard$Yard" ({ cls := "PuddleBoatyard$Yard", name := "addFrame", desc := "(III)I" } : Jvm.MethodName) ({ cls := "PuddleBoatyard$Yard", name := "addFrame", desc := "(III)I" } : Jvm.MethodName)) ∈ lw_all := lw_g (lw_at lw_m3 100 rfl) rfl
theorem q653 : (Jvm.Cond.code ({ cls := "PuddleBoatyard$Yard", name := "addFrame", desc := "(III)I" } : Jvm.MethodName) prog_16_method_8_code (6 : Nat) (Option.some Jvm.ClassFile.FieldType.int)) ∈ lw_all := lw_g (lw_at lw_m3 101 rfl) rfl
theorem q654 : (Jvm.Cond.methodLink "PuddleBoatyard$Yard" (81 : Nat) ({ cls := "PuddleBoatyard$Yard", name := "hull", desc := "(I)LPuddleBoatyard$Hull;" } : Jvm.MethodName)) ∈ lw_all := lw_g (lw_at lw_m3 102 rfl) rfl
theorem q655 : (Jvm.Cond.instanceMethod ({ cls := "PuddleBoatyard$Yard", name := "hull", desc := "(I)LPuddleBoatyard$Hull;" } : Jvm.MethodName)) ∈ lw_all := lw_g (lw_at lw_m3 103 rfl) rfl
theorem q656 : (Jvm.Cond.selects "PuddleBoatyard$Yard" ({ cls := "PuddleBoatyard$Yard", name := "hull", desc := "(I)LPuddleBoatyard$Hull;" } : Jvm.MethodName) ({ cls := "PuddleBoatyard$Yard", name := "hull", desc := "(I)LPuddleBoatyard$Hull;" } : Jvm.MethodName)) ∈ lw_all := lw_g (lw_at lw_m3 104 rfl) rfl
theorem q657 : (Jvm.Cond.code ({ cls := "PuddleBoatyard$Yard", name := "hull", desc := "(I)LPuddleBoatyard$Hull;" } : Jvm.MethodName) prog_16_method_3_code (2 : Nat) (Option.some (Jvm.ClassFile.FieldType.object "PuddleBoatyard$Hull"))) ∈ lw_all := lw_g (lw_at lw_m3 105 rfl) rfl
theorem q658 : (Jvm.Cond.methodLink "PuddleBoatyard$Yard" (71 : Nat) ({ cls := "PuddleBoatyard$Checks", name := "isBetween", desc := "(III)Z" } : Jvm.MethodName)) ∈ lw_all := lw_g (lw_at lw_m3 106 rfl) rfl
theorem q661 : (Jvm.Cond.methodLink "PuddleBoatyard$Yard" (77 : Nat) ({ cls := "PuddleBoatyard$Checks", name := "index", desc := "(Z)V" } : Jvm.MethodName)) ∈ lw_all := lw_g (lw_at lw_m3 109 rfl) rfl
theorem q679 : (Jvm.Cond.methodLink "PuddleBoatyard$Yard" (100 : Nat) ({ cls := "PuddleBoatyard$Checks", name := "argument", desc := "([Z)V" } : Jvm.MethodName)) ∈ lw_all := lw_g (lw_at lw_m3 127 rfl) rfl
theorem q697 : (Jvm.Cond.classLink "PuddleBoatyard$Yard" (118 : Nat) "PuddleBoatyard$Frame") ∈ lw_all := lw_g (lw_at lw_m3 145 rfl) rfl
theorem q699 : (Jvm.Cond.methodLink "PuddleBoatyard$Yard" (120 : Nat) ({ cls := "PuddleBoatyard$Frame", name := "<init>", desc := "(II)V" } : Jvm.MethodName)) ∈ lw_all := lw_g (lw_at lw_m3 147 rfl) rfl
theorem q715 : (Jvm.Cond.instanceMethod ({ cls := "PuddleBoatyard$Yard", name := "mirror", desc := "(I)I" } : Jvm.MethodName)) ∈ lw_all := lw_g (lw_at lw_m3 163 rfl) rfl
theorem q716 : (Jvm.Cond.selects "PuddleBoatyard$Yard" ({ cls := "PuddleBoatyard$Yard", name := "mirror", desc := "(I)I" } : Jvm.MethodName) ({ cls := "PuddleBoatyard$Yard", name := "mirror", desc := "(I)I" } : Jvm.MethodName)) ∈ lw_all := lw_g (lw_at lw_m3 164 rfl) rfl
theorem q717 : (Jvm.Cond.code ({ cls := "PuddleBoatyard$Yard", name := "mirror", desc := "(I)I" } : Jvm.MethodName) prog_16_method_9_code (3 : Nat) (Option.some Jvm.ClassFile.FieldType.int)) ∈ lw_all := lw_g (lw_at lw_m3 165 rfl) rfl
theorem q718 : (Jvm.Cond.methodLink "PuddleBoatyard$Yard" (123 : Nat) ({ cls := "PuddleBoatyard$Hull", name := "mirror", desc := "()I" } : Jvm.MethodName)) ∈ lw_all := lw_g (lw_at lw_m3 166 rfl) rfl
theorem q734 : (Jvm.Cond.instanceMethod ({ cls := "PuddleBoatyard$Yard", name := "setCargo", desc := "(II)I" } : Jvm.MethodName)) ∈ lw_all := lw_g (lw_at lw_m3 182 rfl) rfl
theorem q735 : (Jvm.Cond.selects "PuddleBoatyard$Yard" ({ cls := "PuddleBoatyard$Yard", name := "setCargo", desc := "(II)I" } : Jvm.MethodName) ({ cls := "PuddleBoatyard$Yard", name := "setCargo", desc := "(II)I" } : Jvm.MethodName)) ∈ lw_all := lw_g (lw_at lw_m3 183 rfl) rfl
theorem q736 : (Jvm.Cond.code ({ cls := "PuddleBoatyard$Yard", name := "setCargo", desc := "(II)I" } : Jvm.MethodName) prog_16_method_10_code (5 : Nat) (Option.some Jvm.ClassFile.FieldType.int)) ∈ lw_all := lw_g (lw_at lw_m3 184 rfl) rfl
theorem q737 : (Jvm.Cond.methodLink "PuddleBoatyard$Yard" (128 : Nat) ({ cls := "PuddleBoatyard$State", name := "canBeWorkedOn", desc := "()Z" } : Jvm.MethodName)) ∈ lw_all := lw_g (lw_at lw_m3 185 rfl) rfl
theorem q753 : (Jvm.Cond.instanceMethod ({ cls := "PuddleBoatyard$Yard", name := "launch", desc := "(I)I" } : Jvm.MethodName)) ∈ lw_all := lw_g (lw_at lw_m3 201 rfl) rfl
theorem q754 : (Jvm.Cond.selects "PuddleBoatyard$Yard" ({ cls := "PuddleBoatyard$Yard", name := "launch", desc := "(I)I" } : Jvm.MethodName) ({ cls := "PuddleBoatyard$Yard", name := "launch", desc := "(I)I" } : Jvm.MethodName)) ∈ lw_all := lw_g (lw_at lw_m3 202 rfl) rfl
theorem q755 : (Jvm.Cond.code ({ cls := "PuddleBoatyard$Yard", name := "launch", desc := "(I)I" } : Jvm.MethodName) prog_16_method_11_code (4 : Nat) (Option.some Jvm.ClassFile.FieldType.int)) ∈ lw_all := lw_g (lw_at lw_m3 203 rfl) rfl
theorem q756 : (Jvm.Cond.classLink "PuddleBoatyard$Yard" (135 : Nat) "PuddleBoatyard$LaunchRefused") ∈ lw_all := lw_g (lw_at lw_m3 204 rfl) rfl
theorem q765 : (Jvm.Cond.methodLink "PuddleBoatyard$Yard" (137 : Nat) ({ cls := "PuddleBoatyard$LaunchRefused", name := "<init>", desc := "(I)V" } : Jvm.MethodName)) ∈ lw_all := lw_g (lw_at lw_m3 213 rfl) rfl
theorem q775 : (Jvm.Cond.methodLink "PuddleBoatyard$Yard" (138 : Nat) ({ cls := "PuddleBoatyard$Hull", name := "draught", desc := "()I" } : Jvm.MethodName)) ∈ lw_all := lw_g (lw_at lw_m3 223 rfl) rfl
theorem q803 : (Jvm.Cond.methodLink "PuddleBoatyard$Yard" (141 : Nat) ({ cls := "PuddleBoatyard$Yard", name := "tide", desc := "(I)I" } : Jvm.MethodName)) ∈ lw_all := lw_g (lw_at lw_m4 11 rfl) rfl
theorem q804 : (Jvm.Cond.instanceMethod ({ cls := "PuddleBoatyard$Yard", name := "tide", desc := "(I)I" } : Jvm.MethodName)) ∈ lw_all := lw_g (lw_at lw_m4 12 rfl) rfl
theorem q805 : (Jvm.Cond.selects "PuddleBoatyard$Yard" ({ cls := "PuddleBoatyard$Yard", name := "tide", desc := "(I)I" } : Jvm.MethodName) ({ cls := "PuddleBoatyard$Yard", name := "tide", desc := "(I)I" } : Jvm.MethodName)) ∈ lw_all := lw_g (lw_at lw_m4 13 rfl) rfl
theorem q806 : (Jvm.Cond.code ({ cls := "PuddleBoatyard$Yard", name := "tide", desc := "(I)I" } : Jvm.MethodName) prog_16_method_6_code (2 : Nat) (Option.some Jvm.ClassFile.FieldType.int)) ∈ lw_all := lw_g (lw_at lw_m4 14 rfl) rfl
theorem q808 : (Jvm.Cond.instanceMethod ({ cls := "PuddleBoatyard$Yard", name := "caulk", desc := "(II)I" } : Jvm.MethodName)) ∈ lw_all := lw_g (lw_at lw_m4 16 rfl) rfl
theorem q809 : (Jvm.Cond.selects "PuddleBoatyard$Yard" ({ cls := "PuddleBoatyard$Yard", name := "caulk", desc := "(II)I" } : Jvm.MethodName) ({ cls := "PuddleBoatyard$Yard", name := "caulk", desc := "(II)I" } : Jvm.MethodName)) ∈ lw_all := lw_g (lw_at lw_m4 17 rfl) rfl
theorem q810 : (Jvm.Cond.code ({ cls := "PuddleBoatyard$Yard", name := "caulk", desc := "(II)I" } : Jvm.MethodName) prog_16_method_12_code (5 : Nat) (Option.some Jvm.ClassFile.FieldType.int)) ∈ lw_all := lw_g (lw_at lw_m4 18 rfl) rfl
theorem q811 : (Jvm.Cond.methodLink "PuddleBoatyard$Yard" (148 : Nat) ({ cls := "PuddleBoatyard$Yard", name := "hullWithSeam", desc := "(II)LPuddleBoatyard$Hull;" } : Jvm.MethodName)) ∈ lw_all := lw_g (lw_at lw_m4 19 rfl) rfl
theorem q812 : (Jvm.Cond.instanceMethod ({ cls := "PuddleBoatyard$Yard", name := "hullWithSeam", desc := "(II)LPuddleBoatyard$Hull;" } : Jvm.MethodName)) ∈ lw_all := lw_g (lw_at lw_m4 20 rfl) rfl
theorem q813 : (Jvm.Cond.selects "PuddleBoatyard$Yard" ({ cls := "PuddleBoatyard$Yard", name := "hullWithSeam", desc := "(II)LPuddleBoatyard$Hull;" } : Jvm.MethodName) ({ cls := "PuddleBoatyard$Yard", name := "hullWithSeam", desc := "(II)LPuddleBoatyard$Hull;" } : Jvm.MethodName)) ∈ lw_all := lw_g (lw_at lw_m4 21 rfl) rfl
theorem q814 : (Jvm.Cond.code ({ cls := "PuddleBoatyard$Yard", name := "hullWithSeam", desc := "(II)LPuddleBoatyard$Hull;" } : Jvm.MethodName) prog_16_method_4_code (4 : Nat) (Option.some (Jvm.ClassFile.FieldType.object "PuddleBoatyard$Hull"))) ∈ lw_all := lw_g (lw_at lw_m4 22 rfl) rfl
theorem q815 : (Jvm.Cond.methodLink "PuddleBoatyard$Yard" (85 : Nat) ({ cls := "PuddleBoatyard$Hull", name := "seams", desc := "()I" } : Jvm.MethodName)) ∈ lw_all := lw_g (lw_at lw_m4 23 rfl) rfl
theorem q817 : (Jvm.Cond.instanceMethod ({ cls := "PuddleBoatyard$Yard", name := "pump", desc := "(II)I" } : Jvm.MethodName)) ∈ lw_all := lw_g (lw_at lw_m4 25 rfl) rfl
theorem q818 : (Jvm.Cond.selects "PuddleBoatyard$Yard" ({ cls := "PuddleBoatyard$Yard", name := "pump", desc := "(II)I" } : Jvm.MethodName) ({ cls := "PuddleBoatyard$Yard", name := "pump", desc := "(II)I" } : Jvm.MethodName)) ∈ lw_all := lw_g (lw_at lw_m4 26 rfl) rfl
theorem q819 : (Jvm.Cond.code ({ cls := "PuddleBoatyard$Yard", name := "pump", desc := "(II)I" } : Jvm.MethodName) prog_16_method_13_code (4 : Nat) (Option.some Jvm.ClassFile.FieldType.int)) ∈ lw_all := lw_g (lw_at lw_m4 27 rfl) rfl
theorem q820 : (Jvm.Cond.methodLink "PuddleBoatyard$Yard" (158 : Nat) ({ cls := "java/lang/Math", name := "max", desc := "(II)I" } : Jvm.MethodName)) ∈ lw_all := lw_g (lw_at lw_m4 28 rfl) rfl
theorem q822 : (Jvm.Cond.instanceMethod ({ cls := "PuddleBoatyard$Yard", name := "pass", desc := "(I)I" } : Jvm.MethodName)) ∈ lw_all := lw_g (lw_at lw_m4 30 rfl) rfl
theorem q823 : (Jvm.Cond.selects "PuddleBoatyard$Yard" ({ cls := "PuddleBoatyard$Yard", name := "pass", desc := "(I)I" } : Jvm.MethodName) ({ cls := "PuddleBoatyard$Yard", name := "pass", desc := "(I)I" } : Jvm.MethodName)) ∈ lw_all := lw_g (lw_at lw_m4 31 rfl) rfl
theorem q824 : (Jvm.Cond.code ({ cls := "PuddleBoatyard$Yard", name := "pass", desc := "(I)I" } : Jvm.MethodName) prog_16_method_15_code (4 : Nat) (Option.some Jvm.ClassFile.FieldType.int)) ∈ lw_all := lw_g (lw_at lw_m4 32 rfl) rfl
theorem q825 : (Jvm.Cond.methodLink "PuddleBoatyard$Yard" (165 : Nat) ({ cls := "PuddleBoatyard$Yard", name := "passHour", desc := "()I" } : Jvm.MethodName)) ∈ lw_all := lw_g (lw_at lw_m4 33 rfl) rfl
theorem q826 : (Jvm.Cond.privateMethod ({ cls := "PuddleBoatyard$Yard", name := "passHour", desc := "()I" } : Jvm.MethodName)) ∈ lw_tbl := lw_at lw_m4 34 rfl
theorem q827 : (Jvm.Cond.instanceMethod ({ cls := "PuddleBoatyard$Yard", name := "passHour", desc := "()I" } : Jvm.MethodName)) ∈ lw_all := lw_g (lw_at lw_m4 35 rfl) rfl
theorem q828 : (Jvm.Cond.code ({ cls := "PuddleBoatyard$Yard", name := "passHour", desc := "()I" } : Jvm.MethodName) prog_16_method_14_code (3 : Nat) (Option.some Jvm.ClassFile.FieldType.int)) ∈ lw_all := lw_g (lw_at lw_m4 36 rfl) rfl
theorem q829 : (Jvm.Cond.methodLink "PuddleBoatyard$Yard" (161 : Nat) ({ cls := "PuddleBoatyard$Hull", name := "sinksIn", desc := "(I)Z" } : Jvm.MethodName)) ∈ lw_all := lw_g (lw_at lw_m4 37 rfl) rfl
theorem q842 : (Jvm.Cond.instanceMethod ({ cls := "PuddleBoatyard$Yard", name := "setTide", desc := "(II)I" } : Jvm.MethodName)) ∈ lw_all := lw_g (lw_at lw_m4 50 rfl) rfl
theorem q843 : (Jvm.Cond.selects "PuddleBoatyard$Yard" ({ cls := "PuddleBoatyard$Yard", name := "setTide", desc := "(II)I" } : Jvm.MethodName) ({ cls := "PuddleBoatyard$Yard", name := "setTide", desc := "(II)I" } : Jvm.MethodName)) ∈ lw_all := lw_g (lw_at lw_m4 51 rfl) rfl
theorem q844 : (Jvm.Cond.code ({ cls := "PuddleBoatyard$Yard", name := "setTide", desc := "(II)I" } : Jvm.MethodName) prog_16_method_16_code (4 : Nat) (Option.some Jvm.ClassFile.FieldType.int)) ∈ lw_all := lw_g (lw_at lw_m4 52 rfl) rfl
theorem q846 : (Jvm.Cond.instanceMethod ({ cls := "PuddleBoatyard$Yard", name := "setSlip", desc := "(II)I" } : Jvm.MethodName)) ∈ lw_all := lw_g (lw_at lw_m4 54 rfl) rfl
theorem q847 : (Jvm.Cond.selects "PuddleBoatyard$Yard" ({ cls := "PuddleBoatyard$Yard", name := "setSlip", desc := "(II)I" } : Jvm.MethodName) ({ cls := "PuddleBoatyard$Yard", name := "setSlip", desc := "(II)I" } : Jvm.MethodName)) ∈ lw_all := lw_g (lw_at lw_m4 55 rfl) rfl
theorem q848 : (Jvm.Cond.code ({ cls := "PuddleBoatyard$Yard", name := "setSlip", desc := "(II)I" } : Jvm.MethodName) prog_16_method_17_code (4 : Nat) (Option.some Jvm.ClassFile.FieldType.int)) ∈ lw_all := lw_g (lw_at lw_m4 56 rfl) rfl
theorem q850 : (Jvm.Cond.instanceMethod ({ cls := "PuddleBoatyard$Yard", name := "addOrder", desc := "(III)I" } : Jvm.MethodName)) ∈ lw_all := lw_g (lw_at lw_m4 58 rfl) rfl
theorem q851 : (Jvm.Cond.selects "PuddleBoatyard$Yard" ({ cls := "PuddleBoatyard$Yard", name := "addOrder", desc := "(III)I" } : Jvm.MethodName) ({ cls := "PuddleBoatyard$Yard", name := "addOrder", desc := "(III)I" } : Jvm.MethodName)) ∈ lw_all := lw_g (lw_at lw_m4 59 rfl) rfl
theorem q852 : (Jvm.Cond.code ({ cls := "PuddleBoatyard$Yard", name := "addOrder", desc := "(III)I" } : Jvm.MethodName) prog_16_method_18_code (5 : Nat) (Option.some Jvm.ClassFile.FieldType.int)) ∈ lw_all := lw_g (lw_at lw_m4 60 rfl) rfl
theorem q854 : (Jvm.Cond.methodLink "PuddleBoatyard$Yard" (168 : Nat) ({ cls := "PuddleBoatyard$Order", name := "<init>", desc := "(IIII)V" } : Jvm.MethodName)) ∈ lw_all := lw_g (lw_at lw_m4 62 rfl) rfl
theorem q859 : (Jvm.Cond.fieldLink "PuddleBoatyard$Yard" (88 : Nat) "PuddleBoatyard$Order" "id" "I") ∈ lw_all := lw_g (lw_at lw_m4 67 rfl) rfl
theorem q862 : (Jvm.Cond.fieldLink "PuddleBoatyard$Yard" (175 : Nat) "PuddleBoatyard$Order" "frames" "I") ∈ lw_all := lw_g (lw_at lw_m4 70 rfl) rfl
theorem q875 : (Jvm.Cond.instanceMethod ({ cls := "PuddleBoatyard$Yard", name := "deliver", desc := "(II)I" } : Jvm.MethodName)) ∈ lw_all := lw_g (lw_at lw_m4 83 rfl) rfl
theorem q876 : (Jvm.Cond.selects "PuddleBoatyard$Yard" ({ cls := "PuddleBoatyard$Yard", name := "deliver", desc := "(II)I" } : Jvm.MethodName) ({ cls := "PuddleBoatyard$Yard", name := "deliver", desc := "(II)I" } : Jvm.MethodName)) ∈ lw_all := lw_g (lw_at lw_m4 84 rfl) rfl
theorem q877 : (Jvm.Cond.code ({ cls := "PuddleBoatyard$Yard", name := "deliver", desc := "(II)I" } : Jvm.MethodName) prog_16_method_19_code (7 : Nat) (Option.some Jvm.ClassFile.FieldType.int)) ∈ lw_all := lw_g (lw_at lw_m4 85 rfl) rfl
theorem q878 : (Jvm.Cond.methodLink "PuddleBoatyard$Yard" (171 : Nat) ({ cls := "PuddleBoatyard$Yard", name := "order", desc := "(I)LPuddleBoatyard$Order;" } : Jvm.MethodName)) ∈ lw_all := lw_g (lw_at lw_m4 86 rfl) rfl
theorem q879 : (Jvm.Cond.instanceMethod ({ cls := "PuddleBoatyard$Yard", name := "order", desc := "(I)LPuddleBoatyard$Order;" } : Jvm.MethodName)) ∈ lw_all := lw_g (lw_at lw_m4 87 rfl) rfl
theorem q880 : (Jvm.Cond.selects "PuddleBoatyard$Yard" ({ cls := "PuddleBoatyard$Yard", name := "order", desc := "(I)LPuddleBoatyard$Order;" } : Jvm.MethodName) ({ cls := "PuddleBoatyard$Yard", name := "order", desc := "(I)LPuddleBoatyard$Order;" } : Jvm.MethodName)) ∈ lw_all := lw_g (lw_at lw_m4 88 rfl) rfl
theorem q881 : (Jvm.Cond.code ({ cls := "PuddleBoatyard$Yard", name := "order", desc := "(I)LPuddleBoatyard$Order;" } : Jvm.MethodName) prog_16_method_5_code (3 : Nat) (Option.some (Jvm.ClassFile.FieldType.object "PuddleBoatyard$Order"))) ∈ lw_all := lw_g (lw_at lw_m4 89 rfl) rfl
theorem q882 : (Jvm.Cond.classLink "PuddleBoatyard$Yard" (91 : Nat) "java/util/NoSuchElementException") ∈ lw_all := lw_g (lw_at lw_m4 90 rfl) rfl
theorem q891 : (Jvm.Cond.methodLink "PuddleBoatyard$Yard" (93 : Nat) ({ cls := "java/util/NoSuchElementException", name := "<init>", desc := "()V" } : Jvm.MethodName)) ∈ lw_all := lw_g (lw_at lw_m4 99 rfl) rfl
theorem q897 : (Jvm.Cond.fieldLink "PuddleBoatyard$Yard" (177 : Nat) "PuddleBoatyard$State" "DELIVERED" "LPuddleBoatyard$State;") ∈ lw_all := lw_g (lw_at lw_m4 105 rfl) rfl
theorem q899 : (Jvm.Cond.methodLink "PuddleBoatyard$Yard" (180 : Nat) ({ cls := "java/util/ArrayList", name := "remove", desc := "(Ljava/lang/Object;)Z" } : Jvm.MethodName)) ∈ lw_all := lw_g (lw_at lw_m4 107 rfl) rfl
theorem q922 : (Jvm.Cond.selects "PuddleBoatyard$Yard" ({ cls := "java/lang/Object", name := "equals", desc := "(Ljava/lang/Object;)Z" } : Jvm.MethodName) ({ cls := "java/lang/Object", name := "equals", desc := "(Ljava/lang/Object;)Z" } : Jvm.MethodName)) ∈ lw_all := lw_g (lw_at lw_m4 130 rfl) rfl
theorem q2417 : (Jvm.Cond.castable "PuddleBoatyard$Yard" "java/lang/Object") ∈ lw_tbl := lw_at lw_m10 185 rfl
theorem in_X2 : ∀ w ∈ wsX20, w ∈ lw_all := lw_in wsX20 [174, 176, 178, 180, 182, 184, 186] (by decide +kernel) (by decide +kernel)
/-! java/util/AbstractCollection -/
def RJ0 : String := "java/util/AbstractCollection"
abbrev cJ0_init : ByteArray := prog_50_method_1_code
def yJ0_init : MethodName := ⟨RJ0, "<init>", "()V"⟩
theorem q75 : (Jvm.Cond.initialized "java/util/AbstractCollection") ∈ lw_all := lw_g (lw_at lw_m1 3 rfl) rfl
theorem q140 : (Jvm.Cond.instanceMethod ({ cls := "java/util/AbstractCollection", name := "<init>", desc := "()V" } : Jvm.MethodName)) ∈ lw_all := lw_g (lw_at lw_m1 68 rfl) rfl
theorem q141 : (Jvm.Cond.code ({ cls := "java/util/AbstractCollection", name := "<init>", desc := "()V" } : Jvm.MethodName) prog_50_method_1_code (1 : Nat) (Option.none : Option Jvm.ClassFile.FieldType)) ∈ lw_all := lw_g (lw_at lw_m1 69 rfl) rfl
theorem q142 : (Jvm.Cond.methodLink "java/util/AbstractCollection" (1 : Nat) ({ cls := "java/lang/Object", name := "<init>", desc := "()V" } : Jvm.MethodName)) ∈ lw_all := lw_g (lw_at lw_m1 70 rfl) rfl
/-! java/util/AbstractList -/
def RJ1 : String := "java/util/AbstractList"
abbrev cJ1_init : ByteArray := prog_51_method_1_code
def yJ1_init : MethodName := ⟨RJ1, "<init>", "()V"⟩
theorem q76 : (Jvm.Cond.initialized "java/util/AbstractList") ∈ lw_all := lw_g (lw_at lw_m1 4 rfl) rfl
theorem q137 : (Jvm.Cond.instanceMethod ({ cls := "java/util/AbstractList", name := "<init>", desc := "()V" } : Jvm.MethodName)) ∈ lw_all := lw_g (lw_at lw_m1 65 rfl) rfl
theorem q138 : (Jvm.Cond.code ({ cls := "java/util/AbstractList", name := "<init>", desc := "()V" } : Jvm.MethodName) prog_51_method_1_code (1 : Nat) (Option.none : Option Jvm.ClassFile.FieldType)) ∈ lw_all := lw_g (lw_at lw_m1 66 rfl) rfl
theorem q139 : (Jvm.Cond.methodLink "java/util/AbstractList" (1 : Nat) ({ cls := "java/util/AbstractCollection", name := "<init>", desc := "()V" } : Jvm.MethodName)) ∈ lw_all := lw_g (lw_at lw_m1 67 rfl) rfl
theorem q147 : (Jvm.Cond.fieldLink "java/util/AbstractList" (7 : Nat) "java/util/AbstractList" "modCount" "I") ∈ lw_all := lw_g (lw_at lw_m1 75 rfl) rfl
theorem q155 : (Jvm.Cond.soleField "java/util/AbstractList" "modCount") ∈ lw_all := lw_g (lw_at lw_m1 83 rfl) rfl
/-! java/util/ArrayList -/
def RJ2 : String := "java/util/ArrayList"
def TJ2 : u_T := fun k => match k with
  | 0 => ("java/util/AbstractList", "modCount", "I", false)
  | 1 => ("java/util/ArrayList", "elementData", "[Ljava/lang/Object;", false)
  | _ => ("java/util/ArrayList", "size", "I", false)
def tyJ2 : Nat → FieldType := fun k => match k with
  | 0 => .int
  | 1 => .array (.object "java/lang/Object")
  | _ => .int
abbrev wsJ20 : List Cond := u_ws RJ2 TJ2 3
theorem nmJ2 : ∀ a, a < 3 → ∀ b, b < 3 → a ≠ b → (TJ2 a).2.1 ≠ (TJ2 b).2.1 := by decide +kernel
theorem tyJ2_ok : ∀ k, k < 3 → parseFieldDescriptor (TJ2 k).2.2.1 = some (tyJ2 k) := by decide +kernel
abbrev cJ2_init : ByteArray := prog_53_method_2_code
def yJ2_init : MethodName := ⟨RJ2, "<init>", "()V"⟩
abbrev cJ2_size : ByteArray := prog_53_method_8_code
def yJ2_size : MethodName := ⟨RJ2, "size", "()I"⟩
abbrev cJ2_get : ByteArray := prog_53_method_20_code
def yJ2_get : MethodName := ⟨RJ2, "get", "(I)Ljava/lang/Object;"⟩
abbrev cJ2_elementData : ByteArray := prog_53_method_18_code
def yJ2_elementData : MethodName := ⟨RJ2, "elementData", "(I)Ljava/lang/Object;"⟩
abbrev cJ2_add : ByteArray := prog_53_method_25_code
def yJ2_add : MethodName := ⟨RJ2, "add", "(Ljava/lang/Object;)Z"⟩
abbrev cJ2_add_2 : ByteArray := prog_53_method_24_code
def yJ2_add_2 : MethodName := ⟨RJ2, "add", "(Ljava/lang/Object;[Ljava/lang/Object;I)V"⟩
abbrev cJ2_grow : ByteArray := prog_53_method_7_code
def yJ2_grow : MethodName := ⟨RJ2, "grow", "()[Ljava/lang/Object;"⟩
abbrev cJ2_grow_2 : ByteArray := prog_53_method_6_code
def yJ2_grow_2 : MethodName := ⟨RJ2, "grow", "(I)[Ljava/lang/Object;"⟩
abbrev cJ2_set : ByteArray := prog_53_method_23_code
def yJ2_set : MethodName := ⟨RJ2, "set", "(ILjava/lang/Object;)Ljava/lang/Object;"⟩
abbrev cJ2_remove : ByteArray := prog_53_method_38_code
def yJ2_remove : MethodName := ⟨RJ2, "remove", "(Ljava/lang/Object;)Z"⟩
abbrev cJ2_fastRemove : ByteArray := prog_53_method_39_code
def yJ2_fastRemove : MethodName := ⟨RJ2, "fastRemove", "([Ljava/lang/Object;I)V"⟩
abbrev cJ2_isEmpty : ByteArray := prog_53_method_9_code
def yJ2_isEmpty : MethodName := ⟨RJ2, "isEmpty", "()Z"⟩
theorem q77 : (Jvm.Cond.initialized "java/util/ArrayList") ∈ lw_all := lw_g (lw_at lw_m1 5 rfl) rfl
theorem q132 : (Jvm.Cond.instantiable "java/util/ArrayList" (3 : Nat)) ∈ lw_all := lw_g (lw_at lw_m1 60 rfl) rfl
theorem q134 : (Jvm.Cond.instanceMethod ({ cls := "java/util/ArrayList", name := "<init>", desc := "()V" } : Jvm.MethodName)) ∈ lw_all := lw_g (lw_at lw_m1 62 rfl) rfl
theorem q135 : (Jvm.Cond.code ({ cls := "java/util/ArrayList", name := "<init>", desc := "()V" } : Jvm.MethodName) prog_53_method_2_code (1 : Nat) (Option.none : Option Jvm.ClassFile.FieldType)) ∈ lw_all := lw_g (lw_at lw_m1 63 rfl) rfl
theorem q136 : (Jvm.Cond.methodLink "java/util/ArrayList" (1 : Nat) ({ cls := "java/util/AbstractList", name := "<init>", desc := "()V" } : Jvm.MethodName)) ∈ lw_all := lw_g (lw_at lw_m1 64 rfl) rfl
theorem q143 : (Jvm.Cond.fieldLink "java/util/ArrayList" (39 : Nat) "java/util/ArrayList" "DEFAULTCAPACITY_EMPTY_ELEMENTDATA" "[Ljava/lang/Object;") ∈ lw_all := lw_g (lw_at lw_m1 71 rfl) rfl
theorem q144 : (Jvm.Cond.laysStatic "java/util/ArrayList" "DEFAULTCAPACITY_EMPTY_ELEMENTDATA" "[Ljava/lang/Object;") ∈ lw_tbl := lw_at lw_m1 72 rfl
theorem q145 : (Jvm.Cond.fieldLink "java/util/ArrayList" (9 : Nat) "java/util/ArrayList" "elementData" "[Ljava/lang/Object;") ∈ lw_all := lw_g (lw_at lw_m1 73 rfl) rfl
theorem q146 : (Jvm.Cond.fieldLink "java/util/ArrayList" (48 : Nat) "java/util/ArrayList" "size" "I") ∈ lw_all := lw_g (lw_at lw_m1 74 rfl) rfl
theorem q148 : (Jvm.Cond.fieldLink "java/util/ArrayList" (63 : Nat) "java/util/ArrayList" "modCount" "I") ∈ lw_all := lw_g (lw_at lw_m1 76 rfl) rfl
theorem q149 : (Jvm.Cond.sameField "java/util/ArrayList" "java/util/AbstractList" "modCount" "I") ∈ lw_all := lw_g (lw_at lw_m1 77 rfl) rfl
theorem q150 : (Jvm.Cond.lays "java/util/ArrayList" "java/util/ArrayList" "elementData" "[Ljava/lang/Object;") ∈ lw_all := lw_g (lw_at lw_m1 78 rfl) rfl
theorem q151 : (Jvm.Cond.soleField "java/util/ArrayList" "elementData") ∈ lw_all := lw_g (lw_at lw_m1 79 rfl) rfl
theorem q152 : (Jvm.Cond.lays "java/util/ArrayList" "java/util/ArrayList" "size" "I") ∈ lw_all := lw_g (lw_at lw_m1 80 rfl) rfl
theorem q153 : (Jvm.Cond.soleField "java/util/ArrayList" "size") ∈ lw_all := lw_g (lw_at lw_m1 81 rfl) rfl
theorem q154 : (Jvm.Cond.lays "java/util/ArrayList" "java/util/AbstractList" "modCount" "I") ∈ lw_all := lw_g (lw_at lw_m1 82 rfl) rfl
theorem q156 : (Jvm.Cond.superclass "java/util/ArrayList" "java/util/AbstractList") ∈ lw_all := lw_g (lw_at lw_m1 84 rfl) rfl
theorem q282 : (Jvm.Cond.instanceMethod ({ cls := "java/util/ArrayList", name := "size", desc := "()I" } : Jvm.MethodName)) ∈ lw_all := lw_g (lw_at lw_m1 210 rfl) rfl
theorem q283 : (Jvm.Cond.selects "java/util/ArrayList" ({ cls := "java/util/ArrayList", name := "size", desc := "()I" } : Jvm.MethodName) ({ cls := "java/util/ArrayList", name := "size", desc := "()I" } : Jvm.MethodName)) ∈ lw_all := lw_g (lw_at lw_m1 211 rfl) rfl
theorem q284 : (Jvm.Cond.code ({ cls := "java/util/ArrayList", name := "size", desc := "()I" } : Jvm.MethodName) prog_53_method_8_code (1 : Nat) (Option.some Jvm.ClassFile.FieldType.int)) ∈ lw_all := lw_g (lw_at lw_m1 212 rfl) rfl
theorem q313 : (Jvm.Cond.instanceMethod ({ cls := "java/util/ArrayList", name := "get", desc := "(I)Ljava/lang/Object;" } : Jvm.MethodName)) ∈ lw_all := lw_g (lw_at lw_m2 1 rfl) rfl
theorem q314 : (Jvm.Cond.selects "java/util/ArrayList" ({ cls := "java/util/ArrayList", name := "get", desc := "(I)Ljava/lang/Object;" } : Jvm.MethodName) ({ cls := "java/util/ArrayList", name := "get", desc := "(I)Ljava/lang/Object;" } : Jvm.MethodName)) ∈ lw_all := lw_g (lw_at lw_m2 2 rfl) rfl
theorem q315 : (Jvm.Cond.code ({ cls := "java/util/ArrayList", name := "get", desc := "(I)Ljava/lang/Object;" } : Jvm.MethodName) prog_53_method_20_code (2 : Nat) (Option.some (Jvm.ClassFile.FieldType.object "java/lang/Object"))) ∈ lw_all := lw_g (lw_at lw_m2 3 rfl) rfl
theorem q316 : (Jvm.Cond.methodLink "java/util/ArrayList" (118 : Nat) ({ cls := "java/util/Objects", name := "checkIndex", desc := "(II)I" } : Jvm.MethodName)) ∈ lw_all := lw_g (lw_at lw_m2 4 rfl) rfl
theorem q322 : (Jvm.Cond.methodLink "java/util/ArrayList" (123 : Nat) ({ cls := "java/util/ArrayList", name := "elementData", desc := "(I)Ljava/lang/Object;" } : Jvm.MethodName)) ∈ lw_all := lw_g (lw_at lw_m2 10 rfl) rfl
theorem q323 : (Jvm.Cond.instanceMethod ({ cls := "java/util/ArrayList", name := "elementData", desc := "(I)Ljava/lang/Object;" } : Jvm.MethodName)) ∈ lw_all := lw_g (lw_at lw_m2 11 rfl) rfl
theorem q324 : (Jvm.Cond.selects "java/util/ArrayList" ({ cls := "java/util/ArrayList", name := "elementData", desc := "(I)Ljava/lang/Object;" } : Jvm.MethodName) ({ cls := "java/util/ArrayList", name := "elementData", desc := "(I)Ljava/lang/Object;" } : Jvm.MethodName)) ∈ lw_all := lw_g (lw_at lw_m2 12 rfl) rfl
theorem q325 : (Jvm.Cond.code ({ cls := "java/util/ArrayList", name := "elementData", desc := "(I)Ljava/lang/Object;" } : Jvm.MethodName) prog_53_method_18_code (2 : Nat) (Option.some (Jvm.ClassFile.FieldType.object "java/lang/Object"))) ∈ lw_all := lw_g (lw_at lw_m2 13 rfl) rfl
theorem q463 : (Jvm.Cond.instanceMethod ({ cls := "java/util/ArrayList", name := "add", desc := "(Ljava/lang/Object;)Z" } : Jvm.MethodName)) ∈ lw_all := lw_g (lw_at lw_m2 151 rfl) rfl
theorem q464 : (Jvm.Cond.selects "java/util/ArrayList" ({ cls := "java/util/ArrayList", name := "add", desc := "(Ljava/lang/Object;)Z" } : Jvm.MethodName) ({ cls := "java/util/ArrayList", name := "add", desc := "(Ljava/lang/Object;)Z" } : Jvm.MethodName)) ∈ lw_all := lw_g (lw_at lw_m2 152 rfl) rfl
theorem q465 : (Jvm.Cond.code ({ cls := "java/util/ArrayList", name := "add", desc := "(Ljava/lang/Object;)Z" } : Jvm.MethodName) prog_53_method_25_code (2 : Nat) (Option.some Jvm.ClassFile.FieldType.boolean)) ∈ lw_all := lw_g (lw_at lw_m2 153 rfl) rfl
theorem q466 : (Jvm.Cond.methodLink "java/util/ArrayList" (131 : Nat) ({ cls := "java/util/ArrayList", name := "add", desc := "(Ljava/lang/Object;[Ljava/lang/Object;I)V" } : Jvm.MethodName)) ∈ lw_all := lw_g (lw_at lw_m2 154 rfl) rfl
theorem q467 : (Jvm.Cond.privateMethod ({ cls := "java/util/ArrayList", name := "add", desc := "(Ljava/lang/Object;[Ljava/lang/Object;I)V" } : Jvm.MethodName)) ∈ lw_tbl := lw_at lw_m2 155 rfl
theorem q468 : (Jvm.Cond.instanceMethod ({ cls := "java/util/ArrayList", name := "add", desc := "(Ljava/lang/Object;[Ljava/lang/Object;I)V" } : Jvm.MethodName)) ∈ lw_all := lw_g (lw_at lw_m2 156 rfl) rfl
theorem q469 : (Jvm.Cond.code ({ cls := "java/util/ArrayList", name := "add", desc := "(Ljava/lang/Object;[Ljava/lang/Object;I)V" } : Jvm.MethodName) prog_53_method_24_code (4 : Nat) (Option.none : Option Jvm.ClassFile.FieldType)) ∈ lw_all := lw_g (lw_at lw_m2 157 rfl) rfl
theorem q470 : (Jvm.Cond.methodLink "java/util/ArrayList" (129 : Nat) ({ cls := "java/util/ArrayList", name := "grow", desc := "()[Ljava/lang/Object;" } : Jvm.MethodName)) ∈ lw_all := lw_g (lw_at lw_m2 158 rfl) rfl
theorem q471 : (Jvm.Cond.privateMethod ({ cls := "java/util/ArrayList", name := "grow", desc := "()[Ljava/lang/Object;" } : Jvm.MethodName)) ∈ lw_tbl := lw_at lw_m2 159 rfl
theorem q472 : (Jvm.Cond.instanceMethod ({ cls := "java/util/ArrayList", name := "grow", desc := "()[Ljava/lang/Object;" } : Jvm.MethodName)) ∈ lw_all := lw_g (lw_at lw_m2 160 rfl) rfl
theorem q473 : (Jvm.Cond.code ({ cls := "java/util/ArrayList", name := "grow", desc := "()[Ljava/lang/Object;" } : Jvm.MethodName) prog_53_method_7_code (1 : Nat) (Option.some (Jvm.ClassFile.FieldType.array (Jvm.ClassFile.FieldType.object "java/lang/Object")))) ∈ lw_all := lw_g (lw_at lw_m2 161 rfl) rfl
theorem q474 : (Jvm.Cond.methodLink "java/util/ArrayList" (69 : Nat) ({ cls := "java/util/ArrayList", name := "grow", desc := "(I)[Ljava/lang/Object;" } : Jvm.MethodName)) ∈ lw_all := lw_g (lw_at lw_m2 162 rfl) rfl
theorem q475 : (Jvm.Cond.privateMethod ({ cls := "java/util/ArrayList", name := "grow", desc := "(I)[Ljava/lang/Object;" } : Jvm.MethodName)) ∈ lw_tbl := lw_at lw_m2 163 rfl
theorem q476 : (Jvm.Cond.instanceMethod ({ cls := "java/util/ArrayList", name := "grow", desc := "(I)[Ljava/lang/Object;" } : Jvm.MethodName)) ∈ lw_all := lw_g (lw_at lw_m2 164 rfl) rfl
theorem q477 : (Jvm.Cond.code ({ cls := "java/util/ArrayList", name := "grow", desc := "(I)[Ljava/lang/Object;" } : Jvm.MethodName) prog_53_method_6_code (4 : Nat) (Option.some (Jvm.ClassFile.FieldType.array (Jvm.ClassFile.FieldType.object "java/lang/Object")))) ∈ lw_all := lw_g (lw_at lw_m2 165 rfl) rfl
theorem q478 : (Jvm.Cond.methodLink "java/util/ArrayList" (73 : Nat) ({ cls := "jdk/internal/util/ArraysSupport", name := "newLength", desc := "(III)I" } : Jvm.MethodName)) ∈ lw_all := lw_g (lw_at lw_m2 166 rfl) rfl
theorem q486 : (Jvm.Cond.methodLink "java/util/ArrayList" (66 : Nat) ({ cls := "java/util/Arrays", name := "copyOf", desc := "([Ljava/lang/Object;I)[Ljava/lang/Object;" } : Jvm.MethodName)) ∈ lw_all := lw_g (lw_at lw_m2 174 rfl) rfl
theorem q518 : (Jvm.Cond.selects "java/util/ArrayList" ({ cls := "java/lang/Object", name := "getClass", desc := "()Ljava/lang/Class;" } : Jvm.MethodName) ({ cls := "java/lang/Object", name := "getClass", desc := "()Ljava/lang/Class;" } : Jvm.MethodName)) ∈ lw_all := lw_g (lw_at lw_m2 206 rfl) rfl
theorem q530 : (Jvm.Cond.methodLink "java/util/ArrayList" (79 : Nat) ({ cls := "java/lang/Math", name := "max", desc := "(II)I" } : Jvm.MethodName)) ∈ lw_all := lw_g (lw_at lw_m2 218 rfl) rfl
theorem q531 : (Jvm.Cond.classLink "java/util/ArrayList" (7 : Nat) "java/lang/Object") ∈ lw_all := lw_g (lw_at lw_m2 219 rfl) rfl
theorem q730 : (Jvm.Cond.instanceMethod ({ cls := "java/util/ArrayList", name := "set", desc := "(ILjava/lang/Object;)Ljava/lang/Object;" } : Jvm.MethodName)) ∈ lw_all := lw_g (lw_at lw_m3 178 rfl) rfl
theorem q731 : (Jvm.Cond.selects "java/util/ArrayList" ({ cls := "java/util/ArrayList", name := "set", desc := "(ILjava/lang/Object;)Ljava/lang/Object;" } : Jvm.MethodName) ({ cls := "java/util/ArrayList", name := "set", desc := "(ILjava/lang/Object;)Ljava/lang/Object;" } : Jvm.MethodName)) ∈ lw_all := lw_g (lw_at lw_m3 179 rfl) rfl
theorem q732 : (Jvm.Cond.code ({ cls := "java/util/ArrayList", name := "set", desc := "(ILjava/lang/Object;)Ljava/lang/Object;" } : Jvm.MethodName) prog_53_method_23_code (4 : Nat) (Option.some (Jvm.ClassFile.FieldType.object "java/lang/Object"))) ∈ lw_all := lw_g (lw_at lw_m3 180 rfl) rfl
theorem q900 : (Jvm.Cond.instanceMethod ({ cls := "java/util/ArrayList", name := "remove", desc := "(Ljava/lang/Object;)Z" } : Jvm.MethodName)) ∈ lw_all := lw_g (lw_at lw_m4 108 rfl) rfl
theorem q901 : (Jvm.Cond.selects "java/util/ArrayList" ({ cls := "java/util/ArrayList", name := "remove", desc := "(Ljava/lang/Object;)Z" } : Jvm.MethodName) ({ cls := "java/util/ArrayList", name := "remove", desc := "(Ljava/lang/Object;)Z" } : Jvm.MethodName)) ∈ lw_all := lw_g (lw_at lw_m4 109 rfl) rfl
theorem q902 : (Jvm.Cond.code ({ cls := "java/util/ArrayList", name := "remove", desc := "(Ljava/lang/Object;)Z" } : Jvm.MethodName) prog_53_method_38_code (5 : Nat) (Option.some Jvm.ClassFile.FieldType.boolean)) ∈ lw_all := lw_g (lw_at lw_m4 110 rfl) rfl
theorem q904 : (Jvm.Cond.methodLink "java/util/ArrayList" (93 : Nat) ({ cls := "java/lang/Object", name := "equals", desc := "(Ljava/lang/Object;)Z" } : Jvm.MethodName)) ∈ lw_all := lw_g (lw_at lw_m4 112 rfl) rfl
theorem q942 : (Jvm.Cond.methodLink "java/util/ArrayList" (144 : Nat) ({ cls := "java/util/ArrayList", name := "fastRemove", desc := "([Ljava/lang/Object;I)V" } : Jvm.MethodName)) ∈ lw_all := lw_g (lw_at lw_m4 150 rfl) rfl
theorem q943 : (Jvm.Cond.privateMethod ({ cls := "java/util/ArrayList", name := "fastRemove", desc := "([Ljava/lang/Object;I)V" } : Jvm.MethodName)) ∈ lw_tbl := lw_at lw_m4 151 rfl
theorem q944 : (Jvm.Cond.instanceMethod ({ cls := "java/util/ArrayList", name := "fastRemove", desc := "([Ljava/lang/Object;I)V" } : Jvm.MethodName)) ∈ lw_all := lw_g (lw_at lw_m4 152 rfl) rfl
theorem q945 : (Jvm.Cond.code ({ cls := "java/util/ArrayList", name := "fastRemove", desc := "([Ljava/lang/Object;I)V" } : Jvm.MethodName) prog_53_method_39_code (4 : Nat) (Option.none : Option Jvm.ClassFile.FieldType)) ∈ lw_all := lw_g (lw_at lw_m4 153 rfl) rfl
theorem q946 : (Jvm.Cond.methodLink "java/util/ArrayList" (112 : Nat) ({ cls := "java/lang/System", name := "arraycopy", desc := "(Ljava/lang/Object;ILjava/lang/Object;II)V" } : Jvm.MethodName)) ∈ lw_all := lw_g (lw_at lw_m4 154 rfl) rfl
theorem q1392 : (Jvm.Cond.instanceMethod ({ cls := "java/util/ArrayList", name := "isEmpty", desc := "()Z" } : Jvm.MethodName)) ∈ lw_all := lw_g (lw_at lw_m6 120 rfl) rfl
theorem q1393 : (Jvm.Cond.selects "java/util/ArrayList" ({ cls := "java/util/ArrayList", name := "isEmpty", desc := "()Z" } : Jvm.MethodName) ({ cls := "java/util/ArrayList", name := "isEmpty", desc := "()Z" } : Jvm.MethodName)) ∈ lw_all := lw_g (lw_at lw_m6 121 rfl) rfl
theorem q1394 : (Jvm.Cond.code ({ cls := "java/util/ArrayList", name := "isEmpty", desc := "()Z" } : Jvm.MethodName) prog_53_method_9_code (1 : Nat) (Option.some Jvm.ClassFile.FieldType.boolean)) ∈ lw_all := lw_g (lw_at lw_m6 122 rfl) rfl
theorem q2418 : (Jvm.Cond.castable "java/util/ArrayList" "java/lang/Object") ∈ lw_tbl := lw_at lw_m10 186 rfl
theorem in_J2 : ∀ w ∈ wsJ20, w ∈ lw_all := lw_in wsJ20 [154, 150, 152] (by decide +kernel) (by decide +kernel)
/-! java/lang/Math -/
def RJ3 : String := "java/lang/Math"
abbrev cJ3_min : ByteArray := prog_36_method_69_code
def yJ3_min : MethodName := ⟨RJ3, "min", "(II)I"⟩
abbrev cJ3_max : ByteArray := prog_36_method_65_code
def yJ3_max : MethodName := ⟨RJ3, "max", "(II)I"⟩
theorem q78 : (Jvm.Cond.initialized "java/lang/Math") ∈ lw_all := lw_g (lw_at lw_m1 6 rfl) rfl
theorem q158 : (Jvm.Cond.static ({ cls := "java/lang/Math", name := "min", desc := "(II)I" } : Jvm.MethodName)) ∈ lw_all := lw_g (lw_at lw_m1 86 rfl) rfl
theorem q159 : (Jvm.Cond.code ({ cls := "java/lang/Math", name := "min", desc := "(II)I" } : Jvm.MethodName) prog_36_method_69_code (2 : Nat) (Option.some Jvm.ClassFile.FieldType.int)) ∈ lw_all := lw_g (lw_at lw_m1 87 rfl) rfl
theorem q404 : (Jvm.Cond.static ({ cls := "java/lang/Math", name := "max", desc := "(II)I" } : Jvm.MethodName)) ∈ lw_all := lw_g (lw_at lw_m2 92 rfl) rfl
theorem q405 : (Jvm.Cond.code ({ cls := "java/lang/Math", name := "max", desc := "(II)I" } : Jvm.MethodName) prog_36_method_65_code (2 : Nat) (Option.some Jvm.ClassFile.FieldType.int)) ∈ lw_all := lw_g (lw_at lw_m2 93 rfl) rfl
/-! PuddleBoatyard$History -/
def RX3 : String := "PuddleBoatyard$History"
def TX3 : u_T := fun k => match k with
  | _ => ("PuddleBoatyard$History", "past", "Ljava/util/ArrayDeque;", true)
def tyX3 : Nat → FieldType := fun k => match k with
  | _ => .object "java/util/ArrayDeque"
abbrev wsX30 : List Cond := u_ws RX3 TX3 1
theorem nmX3 : ∀ a, a < 1 → ∀ b, b < 1 → a ≠ b → (TX3 a).2.1 ≠ (TX3 b).2.1 := by decide +kernel
theorem tyX3_ok : ∀ k, k < 1 → parseFieldDescriptor (TX3 k).2.2.1 = some (tyX3 k) := by decide +kernel
abbrev cX3_init : ByteArray := prog_4_method_1_code
def yX3_init : MethodName := ⟨RX3, "<init>", "()V"⟩
theorem q79 : (Jvm.Cond.initialized "PuddleBoatyard$History") ∈ lw_all := lw_g (lw_at lw_m1 7 rfl) rfl
theorem q191 : (Jvm.Cond.instantiable "PuddleBoatyard$History" (1 : Nat)) ∈ lw_all := lw_g (lw_at lw_m1 119 rfl) rfl
theorem q193 : (Jvm.Cond.instanceMethod ({ cls := "PuddleBoatyard$History", name := "<init>", desc := "()V" } : Jvm.MethodName)) ∈ lw_all := lw_g (lw_at lw_m1 121 rfl) rfl
theorem q194 : (Jvm.Cond.code ({ cls := "PuddleBoatyard$History", name := "<init>", desc := "()V" } : Jvm.MethodName) prog_4_method_1_code (1 : Nat) (Option.none : Option Jvm.ClassFile.FieldType)) ∈ lw_all := lw_g (lw_at lw_m1 122 rfl) rfl
theorem q195 : (Jvm.Cond.methodLink "PuddleBoatyard$History" (3 : Nat) ({ cls := "java/lang/Object", name := "<init>", desc := "()V" } : Jvm.MethodName)) ∈ lw_all := lw_g (lw_at lw_m1 123 rfl) rfl
theorem q196 : (Jvm.Cond.classLink "PuddleBoatyard$History" (9 : Nat) "java/util/ArrayDeque") ∈ lw_all := lw_g (lw_at lw_m1 124 rfl) rfl
theorem q198 : (Jvm.Cond.methodLink "PuddleBoatyard$History" (11 : Nat) ({ cls := "java/util/ArrayDeque", name := "<init>", desc := "()V" } : Jvm.MethodName)) ∈ lw_all := lw_g (lw_at lw_m1 126 rfl) rfl
theorem q214 : (Jvm.Cond.fieldLink "PuddleBoatyard$History" (12 : Nat) "PuddleBoatyard$History" "past" "Ljava/util/ArrayDeque;") ∈ lw_all := lw_g (lw_at lw_m1 142 rfl) rfl
theorem q215 : (Jvm.Cond.laysFinal "PuddleBoatyard$History" "PuddleBoatyard$History" "past" "Ljava/util/ArrayDeque;") ∈ lw_all := lw_g (lw_at lw_m1 143 rfl) rfl
theorem q216 : (Jvm.Cond.soleField "PuddleBoatyard$History" "past") ∈ lw_all := lw_g (lw_at lw_m1 144 rfl) rfl
theorem q217 : (Jvm.Cond.superclass "PuddleBoatyard$History" "java/lang/Object") ∈ lw_all := lw_g (lw_at lw_m1 145 rfl) rfl
theorem q494 : (Jvm.Cond.selects "PuddleBoatyard$History" ({ cls := "java/lang/Object", name := "getClass", desc := "()Ljava/lang/Class;" } : Jvm.MethodName) ({ cls := "java/lang/Object", name := "getClass", desc := "()Ljava/lang/Class;" } : Jvm.MethodName)) ∈ lw_all := lw_g (lw_at lw_m2 182 rfl) rfl
theorem q909 : (Jvm.Cond.selects "PuddleBoatyard$History" ({ cls := "java/lang/Object", name := "equals", desc := "(Ljava/lang/Object;)Z" } : Jvm.MethodName) ({ cls := "java/lang/Object", name := "equals", desc := "(Ljava/lang/Object;)Z" } : Jvm.MethodName)) ∈ lw_all := lw_g (lw_at lw_m4 117 rfl) rfl
theorem q952 : (Jvm.Cond.instanceMethod ({ cls := "PuddleBoatyard$History", name := "push", desc := "(LPuddleBoatyard$Yard;)V" } : Jvm.MethodName)) ∈ lw_all := lw_g (lw_at lw_m4 160 rfl) rfl
theorem q953 : (Jvm.Cond.selects "PuddleBoatyard$History" ({ cls := "PuddleBoatyard$History", name := "push", desc := "(LPuddleBoatyard$Yard;)V" } : Jvm.MethodName) ({ cls := "PuddleBoatyard$History", name := "push", desc := "(LPuddleBoatyard$Yard;)V" } : Jvm.MethodName)) ∈ lw_all := lw_g (lw_at lw_m4 161 rfl) rfl
theorem q954 : (Jvm.Cond.codeSync ({ cls := "PuddleBoatyard$History", name := "push", desc := "(LPuddleBoatyard$Yard;)V" } : Jvm.MethodName) prog_4_method_2_code (3 : Nat) (Option.none : Option Jvm.ClassFile.FieldType)) ∈ lw_all := lw_g (lw_at lw_m4 162 rfl) rfl
theorem q955 : (Jvm.Cond.methodLink "PuddleBoatyard$History" (18 : Nat) ({ cls := "java/util/ArrayDeque", name := "size", desc := "()I" } : Jvm.MethodName)) ∈ lw_all := lw_g (lw_at lw_m4 163 rfl) rfl
theorem q962 : (Jvm.Cond.methodLink "PuddleBoatyard$History" (22 : Nat) ({ cls := "java/util/ArrayDeque", name := "removeLast", desc := "()Ljava/lang/Object;" } : Jvm.MethodName)) ∈ lw_all := lw_g (lw_at lw_m4 170 rfl) rfl
theorem q978 : (Jvm.Cond.classLink "PuddleBoatyard$History" (26 : Nat) "PuddleBoatyard$Yard") ∈ lw_all := lw_g (lw_at lw_m4 186 rfl) rfl
theorem q979 : (Jvm.Cond.methodLink "PuddleBoatyard$History" (28 : Nat) ({ cls := "java/util/ArrayDeque", name := "push", desc := "(Ljava/lang/Object;)V" } : Jvm.MethodName)) ∈ lw_all := lw_g (lw_at lw_m4 187 rfl) rfl
theorem q1850 : (Jvm.Cond.instanceMethod ({ cls := "PuddleBoatyard$History", name := "pop", desc := "()LPuddleBoatyard$Yard;" } : Jvm.MethodName)) ∈ lw_all := lw_g (lw_at lw_m8 98 rfl) rfl
theorem q1851 : (Jvm.Cond.selects "PuddleBoatyard$History" ({ cls := "PuddleBoatyard$History", name := "pop", desc := "()LPuddleBoatyard$Yard;" } : Jvm.MethodName) ({ cls := "PuddleBoatyard$History", name := "pop", desc := "()LPuddleBoatyard$Yard;" } : Jvm.MethodName)) ∈ lw_all := lw_g (lw_at lw_m8 99 rfl) rfl
theorem q1852 : (Jvm.Cond.codeSync ({ cls := "PuddleBoatyard$History", name := "pop", desc := "()LPuddleBoatyard$Yard;" } : Jvm.MethodName) prog_4_method_3_code (1 : Nat) (Option.some (Jvm.ClassFile.FieldType.object "PuddleBoatyard$Yard"))) ∈ lw_all := lw_g (lw_at lw_m8 100 rfl) rfl
theorem q1853 : (Jvm.Cond.methodLink "PuddleBoatyard$History" (32 : Nat) ({ cls := "java/util/ArrayDeque", name := "isEmpty", desc := "()Z" } : Jvm.MethodName)) ∈ lw_all := lw_g (lw_at lw_m8 101 rfl) rfl
theorem q1857 : (Jvm.Cond.methodLink "PuddleBoatyard$History" (36 : Nat) ({ cls := "PuddleBoatyard$Checks", name := "state", desc := "(Z)V" } : Jvm.MethodName)) ∈ lw_all := lw_g (lw_at lw_m8 105 rfl) rfl
theorem q1858 : (Jvm.Cond.methodLink "PuddleBoatyard$History" (42 : Nat) ({ cls := "java/util/ArrayDeque", name := "pop", desc := "()Ljava/lang/Object;" } : Jvm.MethodName)) ∈ lw_all := lw_g (lw_at lw_m8 106 rfl) rfl
theorem q1874 : (Jvm.Cond.instanceMethod ({ cls := "PuddleBoatyard$History", name := "size", desc := "()I" } : Jvm.MethodName)) ∈ lw_all := lw_g (lw_at lw_m8 122 rfl) rfl
theorem q1875 : (Jvm.Cond.selects "PuddleBoatyard$History" ({ cls := "PuddleBoatyard$History", name := "size", desc := "()I" } : Jvm.MethodName) ({ cls := "PuddleBoatyard$History", name := "size", desc := "()I" } : Jvm.MethodName)) ∈ lw_all := lw_g (lw_at lw_m8 123 rfl) rfl
theorem q1876 : (Jvm.Cond.codeSync ({ cls := "PuddleBoatyard$History", name := "size", desc := "()I" } : Jvm.MethodName) prog_4_method_5_code (1 : Nat) (Option.some Jvm.ClassFile.FieldType.int)) ∈ lw_all := lw_g (lw_at lw_m8 124 rfl) rfl
theorem q1885 : (Jvm.Cond.instanceMethod ({ cls := "PuddleBoatyard$History", name := "clear", desc := "()V" } : Jvm.MethodName)) ∈ lw_all := lw_g (lw_at lw_m8 133 rfl) rfl
theorem q1886 : (Jvm.Cond.selects "PuddleBoatyard$History" ({ cls := "PuddleBoatyard$History", name := "clear", desc := "()V" } : Jvm.MethodName) ({ cls := "PuddleBoatyard$History", name := "clear", desc := "()V" } : Jvm.MethodName)) ∈ lw_all := lw_g (lw_at lw_m8 134 rfl) rfl
theorem q1887 : (Jvm.Cond.codeSync ({ cls := "PuddleBoatyard$History", name := "clear", desc := "()V" } : Jvm.MethodName) prog_4_method_4_code (1 : Nat) (Option.none : Option Jvm.ClassFile.FieldType)) ∈ lw_all := lw_g (lw_at lw_m8 135 rfl) rfl
theorem q1888 : (Jvm.Cond.methodLink "PuddleBoatyard$History" (45 : Nat) ({ cls := "java/util/ArrayDeque", name := "clear", desc := "()V" } : Jvm.MethodName)) ∈ lw_all := lw_g (lw_at lw_m8 136 rfl) rfl
theorem q2419 : (Jvm.Cond.castable "PuddleBoatyard$History" "java/lang/Object") ∈ lw_tbl := lw_at lw_m10 187 rfl
theorem in_X3 : ∀ w ∈ wsX30, w ∈ lw_all := lw_in wsX30 [215] (by decide +kernel) (by decide +kernel)
/-! java/util/ArrayDeque -/
def RJ4 : String := "java/util/ArrayDeque"
def TJ4 : u_T := fun k => match k with
  | 0 => ("java/util/ArrayDeque", "elements", "[Ljava/lang/Object;", false)
  | 1 => ("java/util/ArrayDeque", "head", "I", false)
  | _ => ("java/util/ArrayDeque", "tail", "I", false)
def tyJ4 : Nat → FieldType := fun k => match k with
  | 0 => .array (.object "java/lang/Object")
  | 1 => .int
  | _ => .int
abbrev wsJ40 : List Cond := u_ws RJ4 TJ4 3
theorem nmJ4 : ∀ a, a < 3 → ∀ b, b < 3 → a ≠ b → (TJ4 a).2.1 ≠ (TJ4 b).2.1 := by decide +kernel
theorem tyJ4_ok : ∀ k, k < 3 → parseFieldDescriptor (TJ4 k).2.2.1 = some (tyJ4 k) := by decide +kernel
abbrev cJ4_init : ByteArray := prog_52_method_3_code
def yJ4_init : MethodName := ⟨RJ4, "<init>", "()V"⟩
abbrev cJ4_size : ByteArray := prog_52_method_37_code
def yJ4_size : MethodName := ⟨RJ4, "size", "()I"⟩
abbrev cJ4_sub : ByteArray := prog_52_method_9_code
def yJ4_sub : MethodName := ⟨RJ4, "sub", "(III)I"⟩
abbrev cJ4_removeLast : ByteArray := prog_52_method_19_code
def yJ4_removeLast : MethodName := ⟨RJ4, "removeLast", "()Ljava/lang/Object;"⟩
abbrev cJ4_pollLast : ByteArray := prog_52_method_21_code
def yJ4_pollLast : MethodName := ⟨RJ4, "pollLast", "()Ljava/lang/Object;"⟩
abbrev cJ4_dec : ByteArray := prog_52_method_7_code
def yJ4_dec : MethodName := ⟨RJ4, "dec", "(II)I"⟩
abbrev cJ4_elementAt : ByteArray := prog_52_method_10_code
def yJ4_elementAt : MethodName := ⟨RJ4, "elementAt", "([Ljava/lang/Object;I)Ljava/lang/Object;"⟩
abbrev cJ4_push : ByteArray := prog_52_method_34_code
def yJ4_push : MethodName := ⟨RJ4, "push", "(Ljava/lang/Object;)V"⟩
abbrev cJ4_addFirst : ByteArray := prog_52_method_12_code
def yJ4_addFirst : MethodName := ⟨RJ4, "addFirst", "(Ljava/lang/Object;)V"⟩
abbrev cJ4_grow : ByteArray := prog_52_method_1_code
def yJ4_grow : MethodName := ⟨RJ4, "grow", "(I)V"⟩
abbrev cJ4_newCapacity : ByteArray := prog_52_method_2_code
def yJ4_newCapacity : MethodName := ⟨RJ4, "newCapacity", "(II)I"⟩
abbrev cJ4_isEmpty : ByteArray := prog_52_method_38_code
def yJ4_isEmpty : MethodName := ⟨RJ4, "isEmpty", "()Z"⟩
abbrev cJ4_pop : ByteArray := prog_52_method_35_code
def yJ4_pop : MethodName := ⟨RJ4, "pop", "()Ljava/lang/Object;"⟩
abbrev cJ4_removeFirst : ByteArray := prog_52_method_18_code
def yJ4_removeFirst : MethodName := ⟨RJ4, "removeFirst", "()Ljava/lang/Object;"⟩
abbrev cJ4_pollFirst : ByteArray := prog_52_method_20_code
def yJ4_pollFirst : MethodName := ⟨RJ4, "pollFirst", "()Ljava/lang/Object;"⟩
abbrev cJ4_inc : ByteArray := prog_52_method_6_code
def yJ4_inc : MethodName := ⟨RJ4, "inc", "(II)I"⟩
abbrev cJ4_clear : ByteArray := prog_52_method_53_code
def yJ4_clear : MethodName := ⟨RJ4, "clear", "()V"⟩
abbrev cJ4_circularClear : ByteArray := prog_52_method_54_code
def yJ4_circularClear : MethodName := ⟨RJ4, "circularClear", "([Ljava/lang/Object;II)V"⟩
theorem q80 : (Jvm.Cond.initialized "java/util/ArrayDeque") ∈ lw_all := lw_g (lw_at lw_m1 8 rfl) rfl
theorem q197 : (Jvm.Cond.instantiable "java/util/ArrayDeque" (3 : Nat)) ∈ lw_all := lw_g (lw_at lw_m1 125 rfl) rfl
theorem q199 : (Jvm.Cond.instanceMethod ({ cls := "java/util/ArrayDeque", name := "<init>", desc := "()V" } : Jvm.MethodName)) ∈ lw_all := lw_g (lw_at lw_m1 127 rfl) rfl
theorem q200 : (Jvm.Cond.code ({ cls := "java/util/ArrayDeque", name := "<init>", desc := "()V" } : Jvm.MethodName) prog_52_method_3_code (1 : Nat) (Option.none : Option Jvm.ClassFile.FieldType)) ∈ lw_all := lw_g (lw_at lw_m1 128 rfl) rfl
theorem q201 : (Jvm.Cond.methodLink "java/util/ArrayDeque" (42 : Nat) ({ cls := "java/util/AbstractCollection", name := "<init>", desc := "()V" } : Jvm.MethodName)) ∈ lw_all := lw_g (lw_at lw_m1 129 rfl) rfl
theorem q202 : (Jvm.Cond.classLink "java/util/ArrayDeque" (47 : Nat) "java/lang/Object") ∈ lw_all := lw_g (lw_at lw_m1 130 rfl) rfl
theorem q204 : (Jvm.Cond.fieldLink "java/util/ArrayDeque" (3 : Nat) "java/util/ArrayDeque" "elements" "[Ljava/lang/Object;") ∈ lw_all := lw_g (lw_at lw_m1 132 rfl) rfl
theorem q205 : (Jvm.Cond.fieldLink "java/util/ArrayDeque" (24 : Nat) "java/util/ArrayDeque" "head" "I") ∈ lw_all := lw_g (lw_at lw_m1 133 rfl) rfl
theorem q206 : (Jvm.Cond.fieldLink "java/util/ArrayDeque" (20 : Nat) "java/util/ArrayDeque" "tail" "I") ∈ lw_all := lw_g (lw_at lw_m1 134 rfl) rfl
theorem q207 : (Jvm.Cond.lays "java/util/ArrayDeque" "java/util/ArrayDeque" "elements" "[Ljava/lang/Object;") ∈ lw_all := lw_g (lw_at lw_m1 135 rfl) rfl
theorem q208 : (Jvm.Cond.soleField "java/util/ArrayDeque" "elements") ∈ lw_all := lw_g (lw_at lw_m1 136 rfl) rfl
theorem q209 : (Jvm.Cond.lays "java/util/ArrayDeque" "java/util/ArrayDeque" "head" "I") ∈ lw_all := lw_g (lw_at lw_m1 137 rfl) rfl
theorem q210 : (Jvm.Cond.soleField "java/util/ArrayDeque" "head") ∈ lw_all := lw_g (lw_at lw_m1 138 rfl) rfl
theorem q211 : (Jvm.Cond.lays "java/util/ArrayDeque" "java/util/ArrayDeque" "tail" "I") ∈ lw_all := lw_g (lw_at lw_m1 139 rfl) rfl
theorem q212 : (Jvm.Cond.soleField "java/util/ArrayDeque" "tail") ∈ lw_all := lw_g (lw_at lw_m1 140 rfl) rfl
theorem q213 : (Jvm.Cond.superclass "java/util/ArrayDeque" "java/util/AbstractCollection") ∈ lw_all := lw_g (lw_at lw_m1 141 rfl) rfl
theorem q517 : (Jvm.Cond.selects "java/util/ArrayDeque" ({ cls := "java/lang/Object", name := "getClass", desc := "()Ljava/lang/Class;" } : Jvm.MethodName) ({ cls := "java/lang/Object", name := "getClass", desc := "()Ljava/lang/Class;" } : Jvm.MethodName)) ∈ lw_all := lw_g (lw_at lw_m2 205 rfl) rfl
theorem q956 : (Jvm.Cond.instanceMethod ({ cls := "java/util/ArrayDeque", name := "size", desc := "()I" } : Jvm.MethodName)) ∈ lw_all := lw_g (lw_at lw_m4 164 rfl) rfl
theorem q957 : (Jvm.Cond.selects "java/util/ArrayDeque" ({ cls := "java/util/ArrayDeque", name := "size", desc := "()I" } : Jvm.MethodName) ({ cls := "java/util/ArrayDeque", name := "size", desc := "()I" } : Jvm.MethodName)) ∈ lw_all := lw_g (lw_at lw_m4 165 rfl) rfl
theorem q958 : (Jvm.Cond.code ({ cls := "java/util/ArrayDeque", name := "size", desc := "()I" } : Jvm.MethodName) prog_52_method_37_code (1 : Nat) (Option.some Jvm.ClassFile.FieldType.int)) ∈ lw_all := lw_g (lw_at lw_m4 166 rfl) rfl
theorem q959 : (Jvm.Cond.methodLink "java/util/ArrayDeque" (127 : Nat) ({ cls := "java/util/ArrayDeque", name := "sub", desc := "(III)I" } : Jvm.MethodName)) ∈ lw_all := lw_g (lw_at lw_m4 167 rfl) rfl
theorem q960 : (Jvm.Cond.static ({ cls := "java/util/ArrayDeque", name := "sub", desc := "(III)I" } : Jvm.MethodName)) ∈ lw_all := lw_g (lw_at lw_m4 168 rfl) rfl
theorem q961 : (Jvm.Cond.code ({ cls := "java/util/ArrayDeque", name := "sub", desc := "(III)I" } : Jvm.MethodName) prog_52_method_9_code (3 : Nat) (Option.some Jvm.ClassFile.FieldType.int)) ∈ lw_all := lw_g (lw_at lw_m4 169 rfl) rfl
theorem q963 : (Jvm.Cond.instanceMethod ({ cls := "java/util/ArrayDeque", name := "removeLast", desc := "()Ljava/lang/Object;" } : Jvm.MethodName)) ∈ lw_all := lw_g (lw_at lw_m4 171 rfl) rfl
theorem q964 : (Jvm.Cond.selects "java/util/ArrayDeque" ({ cls := "java/util/ArrayDeque", name := "removeLast", desc := "()Ljava/lang/Object;" } : Jvm.MethodName) ({ cls := "java/util/ArrayDeque", name := "removeLast", desc := "()Ljava/lang/Object;" } : Jvm.MethodName)) ∈ lw_all := lw_g (lw_at lw_m4 172 rfl) rfl
theorem q965 : (Jvm.Cond.code ({ cls := "java/util/ArrayDeque", name := "removeLast", desc := "()Ljava/lang/Object;" } : Jvm.MethodName) prog_52_method_19_code (2 : Nat) (Option.some (Jvm.ClassFile.FieldType.object "java/lang/Object"))) ∈ lw_all := lw_g (lw_at lw_m4 173 rfl) rfl
theorem q966 : (Jvm.Cond.methodLink "java/util/ArrayDeque" (100 : Nat) ({ cls := "java/util/ArrayDeque", name := "pollLast", desc := "()Ljava/lang/Object;" } : Jvm.MethodName)) ∈ lw_all := lw_g (lw_at lw_m4 174 rfl) rfl
theorem q967 : (Jvm.Cond.instanceMethod ({ cls := "java/util/ArrayDeque", name := "pollLast", desc := "()Ljava/lang/Object;" } : Jvm.MethodName)) ∈ lw_all := lw_g (lw_at lw_m4 175 rfl) rfl
theorem q968 : (Jvm.Cond.selects "java/util/ArrayDeque" ({ cls := "java/util/ArrayDeque", name := "pollLast", desc := "()Ljava/lang/Object;" } : Jvm.MethodName) ({ cls := "java/util/ArrayDeque", name := "pollLast", desc := "()Ljava/lang/Object;" } : Jvm.MethodName)) ∈ lw_all := lw_g (lw_at lw_m4 176 rfl) rfl
theorem q969 : (Jvm.Cond.code ({ cls := "java/util/ArrayDeque", name := "pollLast", desc := "()Ljava/lang/Object;" } : Jvm.MethodName) prog_52_method_21_code (4 : Nat) (Option.some (Jvm.ClassFile.FieldType.object "java/lang/Object"))) ∈ lw_all := lw_g (lw_at lw_m4 177 rfl) rfl
theorem q970 : (Jvm.Cond.methodLink "java/util/ArrayDeque" (68 : Nat) ({ cls := "java/util/ArrayDeque", name := "dec", desc := "(II)I" } : Jvm.MethodName)) ∈ lw_all := lw_g (lw_at lw_m4 178 rfl) rfl
theorem q971 : (Jvm.Cond.static ({ cls := "java/util/ArrayDeque", name := "dec", desc := "(II)I" } : Jvm.MethodName)) ∈ lw_all := lw_g (lw_at lw_m4 179 rfl) rfl
theorem q972 : (Jvm.Cond.code ({ cls := "java/util/ArrayDeque", name := "dec", desc := "(II)I" } : Jvm.MethodName) prog_52_method_7_code (2 : Nat) (Option.some Jvm.ClassFile.FieldType.int)) ∈ lw_all := lw_g (lw_at lw_m4 180 rfl) rfl
theorem q973 : (Jvm.Cond.methodLink "java/util/ArrayDeque" (103 : Nat) ({ cls := "java/util/ArrayDeque", name := "elementAt", desc := "([Ljava/lang/Object;I)Ljava/lang/Object;" } : Jvm.MethodName)) ∈ lw_all := lw_g (lw_at lw_m4 181 rfl) rfl
theorem q974 : (Jvm.Cond.static ({ cls := "java/util/ArrayDeque", name := "elementAt", desc := "([Ljava/lang/Object;I)Ljava/lang/Object;" } : Jvm.MethodName)) ∈ lw_all := lw_g (lw_at lw_m4 182 rfl) rfl
theorem q975 : (Jvm.Cond.code ({ cls := "java/util/ArrayDeque", name := "elementAt", desc := "([Ljava/lang/Object;I)Ljava/lang/Object;" } : Jvm.MethodName) prog_52_method_10_code (2 : Nat) (Option.some (Jvm.ClassFile.FieldType.object "java/lang/Object"))) ∈ lw_all := lw_g (lw_at lw_m4 183 rfl) rfl
theorem q976 : (Jvm.Cond.classLink "java/util/ArrayDeque" (97 : Nat) "java/util/NoSuchElementException") ∈ lw_all := lw_g (lw_at lw_m4 184 rfl) rfl
theorem q977 : (Jvm.Cond.methodLink "java/util/ArrayDeque" (99 : Nat) ({ cls := "java/util/NoSuchElementException", name := "<init>", desc := "()V" } : Jvm.MethodName)) ∈ lw_all := lw_g (lw_at lw_m4 185 rfl) rfl
theorem q980 : (Jvm.Cond.instanceMethod ({ cls := "java/util/ArrayDeque", name := "push", desc := "(Ljava/lang/Object;)V" } : Jvm.MethodName)) ∈ lw_all := lw_g (lw_at lw_m4 188 rfl) rfl
theorem q981 : (Jvm.Cond.selects "java/util/ArrayDeque" ({ cls := "java/util/ArrayDeque", name := "push", desc := "(Ljava/lang/Object;)V" } : Jvm.MethodName) ({ cls := "java/util/ArrayDeque", name := "push", desc := "(Ljava/lang/Object;)V" } : Jvm.MethodName)) ∈ lw_all := lw_g (lw_at lw_m4 189 rfl) rfl
theorem q982 : (Jvm.Cond.code ({ cls := "java/util/ArrayDeque", name := "push", desc := "(Ljava/lang/Object;)V" } : Jvm.MethodName) prog_52_method_34_code (2 : Nat) (Option.none : Option Jvm.ClassFile.FieldType)) ∈ lw_all := lw_g (lw_at lw_m4 190 rfl) rfl
theorem q983 : (Jvm.Cond.methodLink "java/util/ArrayDeque" (86 : Nat) ({ cls := "java/util/ArrayDeque", name := "addFirst", desc := "(Ljava/lang/Object;)V" } : Jvm.MethodName)) ∈ lw_all := lw_g (lw_at lw_m4 191 rfl) rfl
theorem q984 : (Jvm.Cond.instanceMethod ({ cls := "java/util/ArrayDeque", name := "addFirst", desc := "(Ljava/lang/Object;)V" } : Jvm.MethodName)) ∈ lw_all := lw_g (lw_at lw_m4 192 rfl) rfl
theorem q985 : (Jvm.Cond.selects "java/util/ArrayDeque" ({ cls := "java/util/ArrayDeque", name := "addFirst", desc := "(Ljava/lang/Object;)V" } : Jvm.MethodName) ({ cls := "java/util/ArrayDeque", name := "addFirst", desc := "(Ljava/lang/Object;)V" } : Jvm.MethodName)) ∈ lw_all := lw_g (lw_at lw_m4 193 rfl) rfl
theorem q986 : (Jvm.Cond.code ({ cls := "java/util/ArrayDeque", name := "addFirst", desc := "(Ljava/lang/Object;)V" } : Jvm.MethodName) prog_52_method_12_code (3 : Nat) (Option.none : Option Jvm.ClassFile.FieldType)) ∈ lw_all := lw_g (lw_at lw_m4 194 rfl) rfl
theorem q987 : (Jvm.Cond.methodLink "java/util/ArrayDeque" (71 : Nat) ({ cls := "java/util/ArrayDeque", name := "grow", desc := "(I)V" } : Jvm.MethodName)) ∈ lw_all := lw_g (lw_at lw_m4 195 rfl) rfl
theorem q988 : (Jvm.Cond.privateMethod ({ cls := "java/util/ArrayDeque", name := "grow", desc := "(I)V" } : Jvm.MethodName)) ∈ lw_tbl := lw_at lw_m4 196 rfl
theorem q989 : (Jvm.Cond.instanceMethod ({ cls := "java/util/ArrayDeque", name := "grow", desc := "(I)V" } : Jvm.MethodName)) ∈ lw_all := lw_g (lw_at lw_m4 197 rfl) rfl
theorem q990 : (Jvm.Cond.code ({ cls := "java/util/ArrayDeque", name := "grow", desc := "(I)V" } : Jvm.MethodName) prog_52_method_1_code (9 : Nat) (Option.none : Option Jvm.ClassFile.FieldType)) ∈ lw_all := lw_g (lw_at lw_m4 198 rfl) rfl
theorem q991 : (Jvm.Cond.constant "java/util/ArrayDeque" (9 : Nat) (2147483639 : Int32)) ∈ lw_all := lw_g (lw_at lw_m4 199 rfl) rfl
theorem q992 : (Jvm.Cond.methodLink "java/util/ArrayDeque" (10 : Nat) ({ cls := "java/util/ArrayDeque", name := "newCapacity", desc := "(II)I" } : Jvm.MethodName)) ∈ lw_all := lw_g (lw_at lw_m4 200 rfl) rfl
theorem q993 : (Jvm.Cond.privateMethod ({ cls := "java/util/ArrayDeque", name := "newCapacity", desc := "(II)I" } : Jvm.MethodName)) ∈ lw_tbl := lw_at lw_m4 201 rfl
theorem q994 : (Jvm.Cond.instanceMethod ({ cls := "java/util/ArrayDeque", name := "newCapacity", desc := "(II)I" } : Jvm.MethodName)) ∈ lw_all := lw_g (lw_at lw_m4 202 rfl) rfl
theorem q995 : (Jvm.Cond.code ({ cls := "java/util/ArrayDeque", name := "newCapacity", desc := "(II)I" } : Jvm.MethodName) prog_52_method_2_code (5 : Nat) (Option.some Jvm.ClassFile.FieldType.int)) ∈ lw_all := lw_g (lw_at lw_m4 203 rfl) rfl
theorem q996 : (Jvm.Cond.classLink "java/util/ArrayDeque" (33 : Nat) "java/lang/IllegalStateException") ∈ lw_all := lw_g (lw_at lw_m4 204 rfl) rfl
theorem q997 : (Jvm.Cond.stringRef "java/util/ArrayDeque" (35 : Nat) "Sorry, deque too big") ∈ lw_tbl := lw_at lw_m4 205 rfl
theorem q998 : (Jvm.Cond.methodLink "java/util/ArrayDeque" (37 : Nat) ({ cls := "java/lang/IllegalStateException", name := "<init>", desc := "(Ljava/lang/String;)V" } : Jvm.MethodName)) ∈ lw_all := lw_g (lw_at lw_m4 206 rfl) rfl
theorem q1010 : (Jvm.Cond.constant "java/util/ArrayDeque" (41 : Nat) (2147483647 : Int32)) ∈ lw_all := lw_g (lw_at lw_m4 218 rfl) rfl
theorem q1011 : (Jvm.Cond.methodLink "java/util/ArrayDeque" (14 : Nat) ({ cls := "java/util/Arrays", name := "copyOf", desc := "([Ljava/lang/Object;I)[Ljava/lang/Object;" } : Jvm.MethodName)) ∈ lw_all := lw_g (lw_at lw_m4 219 rfl) rfl
theorem q1012 : (Jvm.Cond.methodLink "java/util/ArrayDeque" (27 : Nat) ({ cls := "java/lang/System", name := "arraycopy", desc := "(Ljava/lang/Object;ILjava/lang/Object;II)V" } : Jvm.MethodName)) ∈ lw_all := lw_g (lw_at lw_m4 220 rfl) rfl
theorem q1854 : (Jvm.Cond.instanceMethod ({ cls := "java/util/ArrayDeque", name := "isEmpty", desc := "()Z" } : Jvm.MethodName)) ∈ lw_all := lw_g (lw_at lw_m8 102 rfl) rfl
theorem q1855 : (Jvm.Cond.selects "java/util/ArrayDeque" ({ cls := "java/util/ArrayDeque", name := "isEmpty", desc := "()Z" } : Jvm.MethodName) ({ cls := "java/util/ArrayDeque", name := "isEmpty", desc := "()Z" } : Jvm.MethodName)) ∈ lw_all := lw_g (lw_at lw_m8 103 rfl) rfl
theorem q1856 : (Jvm.Cond.code ({ cls := "java/util/ArrayDeque", name := "isEmpty", desc := "()Z" } : Jvm.MethodName) prog_52_method_38_code (1 : Nat) (Option.some Jvm.ClassFile.FieldType.boolean)) ∈ lw_all := lw_g (lw_at lw_m8 104 rfl) rfl
theorem q1859 : (Jvm.Cond.instanceMethod ({ cls := "java/util/ArrayDeque", name := "pop", desc := "()Ljava/lang/Object;" } : Jvm.MethodName)) ∈ lw_all := lw_g (lw_at lw_m8 107 rfl) rfl
theorem q1860 : (Jvm.Cond.selects "java/util/ArrayDeque" ({ cls := "java/util/ArrayDeque", name := "pop", desc := "()Ljava/lang/Object;" } : Jvm.MethodName) ({ cls := "java/util/ArrayDeque", name := "pop", desc := "()Ljava/lang/Object;" } : Jvm.MethodName)) ∈ lw_all := lw_g (lw_at lw_m8 108 rfl) rfl
theorem q1861 : (Jvm.Cond.code ({ cls := "java/util/ArrayDeque", name := "pop", desc := "()Ljava/lang/Object;" } : Jvm.MethodName) prog_52_method_35_code (1 : Nat) (Option.some (Jvm.ClassFile.FieldType.object "java/lang/Object"))) ∈ lw_all := lw_g (lw_at lw_m8 109 rfl) rfl
theorem q1862 : (Jvm.Cond.methodLink "java/util/ArrayDeque" (118 : Nat) ({ cls := "java/util/ArrayDeque", name := "removeFirst", desc := "()Ljava/lang/Object;" } : Jvm.MethodName)) ∈ lw_all := lw_g (lw_at lw_m8 110 rfl) rfl
theorem q1863 : (Jvm.Cond.instanceMethod ({ cls := "java/util/ArrayDeque", name := "removeFirst", desc := "()Ljava/lang/Object;" } : Jvm.MethodName)) ∈ lw_all := lw_g (lw_at lw_m8 111 rfl) rfl
theorem q1864 : (Jvm.Cond.selects "java/util/ArrayDeque" ({ cls := "java/util/ArrayDeque", name := "removeFirst", desc := "()Ljava/lang/Object;" } : Jvm.MethodName) ({ cls := "java/util/ArrayDeque", name := "removeFirst", desc := "()Ljava/lang/Object;" } : Jvm.MethodName)) ∈ lw_all := lw_g (lw_at lw_m8 112 rfl) rfl
theorem q1865 : (Jvm.Cond.code ({ cls := "java/util/ArrayDeque", name := "removeFirst", desc := "()Ljava/lang/Object;" } : Jvm.MethodName) prog_52_method_18_code (2 : Nat) (Option.some (Jvm.ClassFile.FieldType.object "java/lang/Object"))) ∈ lw_all := lw_g (lw_at lw_m8 113 rfl) rfl
theorem q1866 : (Jvm.Cond.methodLink "java/util/ArrayDeque" (93 : Nat) ({ cls := "java/util/ArrayDeque", name := "pollFirst", desc := "()Ljava/lang/Object;" } : Jvm.MethodName)) ∈ lw_all := lw_g (lw_at lw_m8 114 rfl) rfl
theorem q1867 : (Jvm.Cond.instanceMethod ({ cls := "java/util/ArrayDeque", name := "pollFirst", desc := "()Ljava/lang/Object;" } : Jvm.MethodName)) ∈ lw_all := lw_g (lw_at lw_m8 115 rfl) rfl
theorem q1868 : (Jvm.Cond.selects "java/util/ArrayDeque" ({ cls := "java/util/ArrayDeque", name := "pollFirst", desc := "()Ljava/lang/Object;" } : Jvm.MethodName) ({ cls := "java/util/ArrayDeque", name := "pollFirst", desc := "()Ljava/lang/Object;" } : Jvm.MethodName)) ∈ lw_all := lw_g (lw_at lw_m8 116 rfl) rfl
theorem q1869 : (Jvm.Cond.code ({ cls := "java/util/ArrayDeque", name := "pollFirst", desc := "()Ljava/lang/Object;" } : Jvm.MethodName) prog_52_method_20_code (4 : Nat) (Option.some (Jvm.ClassFile.FieldType.object "java/lang/Object"))) ∈ lw_all := lw_g (lw_at lw_m8 117 rfl) rfl
theorem q1870 : (Jvm.Cond.methodLink "java/util/ArrayDeque" (74 : Nat) ({ cls := "java/util/ArrayDeque", name := "inc", desc := "(II)I" } : Jvm.MethodName)) ∈ lw_all := lw_g (lw_at lw_m8 118 rfl) rfl
theorem q1871 : (Jvm.Cond.static ({ cls := "java/util/ArrayDeque", name := "inc", desc := "(II)I" } : Jvm.MethodName)) ∈ lw_all := lw_g (lw_at lw_m8 119 rfl) rfl
theorem q1872 : (Jvm.Cond.code ({ cls := "java/util/ArrayDeque", name := "inc", desc := "(II)I" } : Jvm.MethodName) prog_52_method_6_code (2 : Nat) (Option.some Jvm.ClassFile.FieldType.int)) ∈ lw_all := lw_g (lw_at lw_m8 120 rfl) rfl
theorem q1889 : (Jvm.Cond.instanceMethod ({ cls := "java/util/ArrayDeque", name := "clear", desc := "()V" } : Jvm.MethodName)) ∈ lw_all := lw_g (lw_at lw_m8 137 rfl) rfl
theorem q1890 : (Jvm.Cond.selects "java/util/ArrayDeque" ({ cls := "java/util/ArrayDeque", name := "clear", desc := "()V" } : Jvm.MethodName) ({ cls := "java/util/ArrayDeque", name := "clear", desc := "()V" } : Jvm.MethodName)) ∈ lw_all := lw_g (lw_at lw_m8 138 rfl) rfl
theorem q1891 : (Jvm.Cond.code ({ cls := "java/util/ArrayDeque", name := "clear", desc := "()V" } : Jvm.MethodName) prog_52_method_53_code (1 : Nat) (Option.none : Option Jvm.ClassFile.FieldType)) ∈ lw_all := lw_g (lw_at lw_m8 139 rfl) rfl
theorem q1892 : (Jvm.Cond.methodLink "java/util/ArrayDeque" (181 : Nat) ({ cls := "java/util/ArrayDeque", name := "circularClear", desc := "([Ljava/lang/Object;II)V" } : Jvm.MethodName)) ∈ lw_all := lw_g (lw_at lw_m8 140 rfl) rfl
theorem q1893 : (Jvm.Cond.static ({ cls := "java/util/ArrayDeque", name := "circularClear", desc := "([Ljava/lang/Object;II)V" } : Jvm.MethodName)) ∈ lw_all := lw_g (lw_at lw_m8 141 rfl) rfl
theorem q1894 : (Jvm.Cond.code ({ cls := "java/util/ArrayDeque", name := "circularClear", desc := "([Ljava/lang/Object;II)V" } : Jvm.MethodName) prog_52_method_54_code (4 : Nat) (Option.none : Option Jvm.ClassFile.FieldType)) ∈ lw_all := lw_g (lw_at lw_m8 142 rfl) rfl
theorem q2420 : (Jvm.Cond.castable "java/util/ArrayDeque" "java/lang/Object") ∈ lw_tbl := lw_at lw_m10 188 rfl
theorem in_J4 : ∀ w ∈ wsJ40, w ∈ lw_all := lw_in wsJ40 [207, 209, 211] (by decide +kernel) (by decide +kernel)
/-! java/lang/AbstractStringBuilder -/
def RJ5 : String := "java/lang/AbstractStringBuilder"
abbrev cJ5_init : ByteArray := prog_21_method_2_code
def yJ5_init : MethodName := ⟨RJ5, "<init>", "(I)V"⟩
abbrev cJ5_append : ByteArray := prog_21_method_32_code
def yJ5_append : MethodName := ⟨RJ5, "append", "(I)Ljava/lang/AbstractStringBuilder;"⟩
abbrev cJ5_ensureCapacityInternal : ByteArray := prog_21_method_9_code
def yJ5_ensureCapacityInternal : MethodName := ⟨RJ5, "ensureCapacityInternal", "(I)V"⟩
abbrev cJ5_newCapacity : ByteArray := prog_21_method_10_code
def yJ5_newCapacity : MethodName := ⟨RJ5, "newCapacity", "(I)I"⟩
abbrev cJ5_isLatin1 : ByteArray := prog_21_method_68_code
def yJ5_isLatin1 : MethodName := ⟨RJ5, "isLatin1", "()Z"⟩
abbrev cJ5_append_2 : ByteArray := prog_21_method_31_code
def yJ5_append_2 : MethodName := ⟨RJ5, "append", "(C)Ljava/lang/AbstractStringBuilder;"⟩
abbrev cJ5_inflate : ByteArray := prog_21_method_11_code
def yJ5_inflate : MethodName := ⟨RJ5, "inflate", "()V"⟩
abbrev cJ5_append_3 : ByteArray := prog_21_method_22_code
def yJ5_append_3 : MethodName := ⟨RJ5, "append", "(Ljava/lang/String;)Ljava/lang/AbstractStringBuilder;"⟩
abbrev cJ5_appendNull : ByteArray := prog_21_method_26_code
def yJ5_appendNull : MethodName := ⟨RJ5, "appendNull", "()Ljava/lang/AbstractStringBuilder;"⟩
abbrev cJ5_putStringAt : ByteArray := prog_21_method_73_code
def yJ5_putStringAt : MethodName := ⟨RJ5, "putStringAt", "(ILjava/lang/String;)V"⟩
abbrev cJ5_inflateIfNeededFor : ByteArray := prog_21_method_71_code
def yJ5_inflateIfNeededFor : MethodName := ⟨RJ5, "inflateIfNeededFor", "(Ljava/lang/String;)V"⟩
abbrev cJ5_getValue : ByteArray := prog_21_method_64_code
def yJ5_getValue : MethodName := ⟨RJ5, "getValue", "()[B"⟩
abbrev cJ5_length : ByteArray := prog_21_method_6_code
def yJ5_length : MethodName := ⟨RJ5, "length", "()I"⟩
abbrev cJ5_setLength : ByteArray := prog_21_method_13_code
def yJ5_setLength : MethodName := ⟨RJ5, "setLength", "(I)V"⟩
theorem q81 : (Jvm.Cond.initialized "java/lang/AbstractStringBuilder") ∈ lw_all := lw_g (lw_at lw_m1 9 rfl) rfl
theorem q225 : (Jvm.Cond.instanceMethod ({ cls := "java/lang/AbstractStringBuilder", name := "<init>", desc := "(I)V" } : Jvm.MethodName)) ∈ lw_all := lw_g (lw_at lw_m1 153 rfl) rfl
theorem q226 : (Jvm.Cond.code ({ cls := "java/lang/AbstractStringBuilder", name := "<init>", desc := "(I)V" } : Jvm.MethodName) prog_21_method_2_code (2 : Nat) (Option.none : Option Jvm.ClassFile.FieldType)) ∈ lw_all := lw_g (lw_at lw_m1 154 rfl) rfl
theorem q227 : (Jvm.Cond.methodLink "java/lang/AbstractStringBuilder" (3 : Nat) ({ cls := "java/lang/Object", name := "<init>", desc := "()V" } : Jvm.MethodName)) ∈ lw_all := lw_g (lw_at lw_m1 155 rfl) rfl
theorem q228 : (Jvm.Cond.fieldLink "java/lang/AbstractStringBuilder" (18 : Nat) "java/lang/String" "COMPACT_STRINGS" "Z") ∈ lw_all := lw_g (lw_at lw_m1 156 rfl) rfl
theorem q230 : (Jvm.Cond.methodLink "java/lang/AbstractStringBuilder" (26 : Nat) ({ cls := "java/lang/StringUTF16", name := "newBytesFor", desc := "(I)[B" } : Jvm.MethodName)) ∈ lw_all := lw_g (lw_at lw_m1 158 rfl) rfl
theorem q237 : (Jvm.Cond.fieldLink "java/lang/AbstractStringBuilder" (15 : Nat) "java/lang/AbstractStringBuilder" "value" "[B") ∈ lw_all := lw_g (lw_at lw_m1 165 rfl) rfl
theorem q238 : (Jvm.Cond.fieldLink "java/lang/AbstractStringBuilder" (22 : Nat) "java/lang/AbstractStringBuilder" "coder" "B") ∈ lw_all := lw_g (lw_at lw_m1 166 rfl) rfl
theorem q239 : (Jvm.Cond.fieldLink "java/lang/AbstractStringBuilder" (73 : Nat) "java/lang/AbstractStringBuilder" "maybeLatin1" "Z") ∈ lw_all := lw_g (lw_at lw_m1 167 rfl) rfl
theorem q241 : (Jvm.Cond.fieldLink "java/lang/AbstractStringBuilder" (79 : Nat) "java/lang/AbstractStringBuilder" "count" "I") ∈ lw_all := lw_g (lw_at lw_m1 169 rfl) rfl
theorem q243 : (Jvm.Cond.soleField "java/lang/AbstractStringBuilder" "value") ∈ lw_all := lw_g (lw_at lw_m1 171 rfl) rfl
theorem q245 : (Jvm.Cond.soleField "java/lang/AbstractStringBuilder" "coder") ∈ lw_all := lw_g (lw_at lw_m1 173 rfl) rfl
theorem q247 : (Jvm.Cond.soleField "java/lang/AbstractStringBuilder" "maybeLatin1") ∈ lw_all := lw_g (lw_at lw_m1 175 rfl) rfl
theorem q249 : (Jvm.Cond.soleField "java/lang/AbstractStringBuilder" "count") ∈ lw_all := lw_g (lw_at lw_m1 177 rfl) rfl
theorem q1418 : (Jvm.Cond.instanceMethod ({ cls := "java/lang/AbstractStringBuilder", name := "append", desc := "(I)Ljava/lang/AbstractStringBuilder;" } : Jvm.MethodName)) ∈ lw_all := lw_g (lw_at lw_m6 146 rfl) rfl
theorem q1419 : (Jvm.Cond.code ({ cls := "java/lang/AbstractStringBuilder", name := "append", desc := "(I)Ljava/lang/AbstractStringBuilder;" } : Jvm.MethodName) prog_21_method_32_code (4 : Nat) (Option.some (Jvm.ClassFile.FieldType.object "java/lang/AbstractStringBuilder"))) ∈ lw_all := lw_g (lw_at lw_m6 147 rfl) rfl
theorem q1420 : (Jvm.Cond.methodLink "java/lang/AbstractStringBuilder" (245 : Nat) ({ cls := "java/lang/Integer", name := "stringSize", desc := "(I)I" } : Jvm.MethodName)) ∈ lw_all := lw_g (lw_at lw_m6 148 rfl) rfl
theorem q1423 : (Jvm.Cond.methodLink "java/lang/AbstractStringBuilder" (100 : Nat) ({ cls := "java/lang/AbstractStringBuilder", name := "ensureCapacityInternal", desc := "(I)V" } : Jvm.MethodName)) ∈ lw_all := lw_g (lw_at lw_m6 151 rfl) rfl
theorem q1424 : (Jvm.Cond.privateMethod ({ cls := "java/lang/AbstractStringBuilder", name := "ensureCapacityInternal", desc := "(I)V" } : Jvm.MethodName)) ∈ lw_tbl := lw_at lw_m6 152 rfl
theorem q1425 : (Jvm.Cond.instanceMethod ({ cls := "java/lang/AbstractStringBuilder", name := "ensureCapacityInternal", desc := "(I)V" } : Jvm.MethodName)) ∈ lw_all := lw_g (lw_at lw_m6 153 rfl) rfl
theorem q1426 : (Jvm.Cond.code ({ cls := "java/lang/AbstractStringBuilder", name := "ensureCapacityInternal", desc := "(I)V" } : Jvm.MethodName) prog_21_method_9_code (3 : Nat) (Option.none : Option Jvm.ClassFile.FieldType)) ∈ lw_all := lw_g (lw_at lw_m6 154 rfl) rfl
theorem q1427 : (Jvm.Cond.methodLink "java/lang/AbstractStringBuilder" (104 : Nat) ({ cls := "java/lang/AbstractStringBuilder", name := "newCapacity", desc := "(I)I" } : Jvm.MethodName)) ∈ lw_all := lw_g (lw_at lw_m6 155 rfl) rfl
theorem q1428 : (Jvm.Cond.privateMethod ({ cls := "java/lang/AbstractStringBuilder", name := "newCapacity", desc := "(I)I" } : Jvm.MethodName)) ∈ lw_tbl := lw_at lw_m6 156 rfl
theorem q1429 : (Jvm.Cond.instanceMethod ({ cls := "java/lang/AbstractStringBuilder", name := "newCapacity", desc := "(I)I" } : Jvm.MethodName)) ∈ lw_all := lw_g (lw_at lw_m6 157 rfl) rfl
theorem q1430 : (Jvm.Cond.code ({ cls := "java/lang/AbstractStringBuilder", name := "newCapacity", desc := "(I)I" } : Jvm.MethodName) prog_21_method_10_code (6 : Nat) (Option.some Jvm.ClassFile.FieldType.int)) ∈ lw_all := lw_g (lw_at lw_m6 158 rfl) rfl
theorem q1431 : (Jvm.Cond.methodLink "java/lang/AbstractStringBuilder" (114 : Nat) ({ cls := "jdk/internal/util/ArraysSupport", name := "newLength", desc := "(III)I" } : Jvm.MethodName)) ∈ lw_all := lw_g (lw_at lw_m6 159 rfl) rfl
theorem q1432 : (Jvm.Cond.constant "java/lang/AbstractStringBuilder" (39 : Nat) (2147483647 : Int32)) ∈ lw_all := lw_g (lw_at lw_m6 160 rfl) rfl
theorem q1433 : (Jvm.Cond.methodLink "java/lang/AbstractStringBuilder" (108 : Nat) ({ cls := "java/util/Arrays", name := "copyOf", desc := "([BI)[B" } : Jvm.MethodName)) ∈ lw_all := lw_g (lw_at lw_m6 161 rfl) rfl
theorem q1443 : (Jvm.Cond.methodLink "java/lang/AbstractStringBuilder" (83 : Nat) ({ cls := "java/lang/AbstractStringBuilder", name := "isLatin1", desc := "()Z" } : Jvm.MethodName)) ∈ lw_all := lw_g (lw_at lw_m6 171 rfl) rfl
theorem q1444 : (Jvm.Cond.instanceMethod ({ cls := "java/lang/AbstractStringBuilder", name := "isLatin1", desc := "()Z" } : Jvm.MethodName)) ∈ lw_all := lw_g (lw_at lw_m6 172 rfl) rfl
theorem q1445 : (Jvm.Cond.sameMethod "java/lang/AbstractStringBuilder" "java/lang/AbstractStringBuilder" "isLatin1" "()Z") ∈ lw_all := lw_g (lw_at lw_m6 173 rfl) rfl
theorem q1447 : (Jvm.Cond.code ({ cls := "java/lang/AbstractStringBuilder", name := "isLatin1", desc := "()Z" } : Jvm.MethodName) prog_21_method_68_code (1 : Nat) (Option.some Jvm.ClassFile.FieldType.boolean)) ∈ lw_all := lw_g (lw_at lw_m6 175 rfl) rfl
theorem q1448 : (Jvm.Cond.methodLink "java/lang/AbstractStringBuilder" (248 : Nat) ({ cls := "java/lang/Integer", name := "getChars", desc := "(II[B)I" } : Jvm.MethodName)) ∈ lw_all := lw_g (lw_at lw_m6 176 rfl) rfl
theorem q1455 : (Jvm.Cond.methodLink "java/lang/AbstractStringBuilder" (251 : Nat) ({ cls := "java/lang/StringUTF16", name := "getChars", desc := "(III[B)I" } : Jvm.MethodName)) ∈ lw_all := lw_g (lw_at lw_m6 183 rfl) rfl
theorem q1491 : (Jvm.Cond.instanceMethod ({ cls := "java/lang/AbstractStringBuilder", name := "append", desc := "(C)Ljava/lang/AbstractStringBuilder;" } : Jvm.MethodName)) ∈ lw_all := lw_g (lw_at lw_m6 219 rfl) rfl
theorem q1492 : (Jvm.Cond.code ({ cls := "java/lang/AbstractStringBuilder", name := "append", desc := "(C)Ljava/lang/AbstractStringBuilder;" } : Jvm.MethodName) prog_21_method_31_code (2 : Nat) (Option.some (Jvm.ClassFile.FieldType.object "java/lang/AbstractStringBuilder"))) ∈ lw_all := lw_g (lw_at lw_m6 220 rfl) rfl
theorem q1493 : (Jvm.Cond.methodLink "java/lang/AbstractStringBuilder" (191 : Nat) ({ cls := "java/lang/StringLatin1", name := "canEncode", desc := "(C)Z" } : Jvm.MethodName)) ∈ lw_all := lw_g (lw_at lw_m6 221 rfl) rfl
theorem q1496 : (Jvm.Cond.methodLink "java/lang/AbstractStringBuilder" (195 : Nat) ({ cls := "java/lang/AbstractStringBuilder", name := "inflate", desc := "()V" } : Jvm.MethodName)) ∈ lw_all := lw_g (lw_at lw_m6 224 rfl) rfl
theorem q1497 : (Jvm.Cond.privateMethod ({ cls := "java/lang/AbstractStringBuilder", name := "inflate", desc := "()V" } : Jvm.MethodName)) ∈ lw_tbl := lw_at lw_m6 225 rfl
theorem q1498 : (Jvm.Cond.instanceMethod ({ cls := "java/lang/AbstractStringBuilder", name := "inflate", desc := "()V" } : Jvm.MethodName)) ∈ lw_all := lw_g (lw_at lw_m6 226 rfl) rfl
theorem q1499 : (Jvm.Cond.code ({ cls := "java/lang/AbstractStringBuilder", name := "inflate", desc := "()V" } : Jvm.MethodName) prog_21_method_11_code (2 : Nat) (Option.none : Option Jvm.ClassFile.FieldType)) ∈ lw_all := lw_g (lw_at lw_m6 227 rfl) rfl
theorem q1500 : (Jvm.Cond.methodLink "java/lang/AbstractStringBuilder" (125 : Nat) ({ cls := "java/lang/StringLatin1", name := "inflate", desc := "([BI[BII)V" } : Jvm.MethodName)) ∈ lw_all := lw_g (lw_at lw_m6 228 rfl) rfl
theorem q1515 : (Jvm.Cond.methodLink "java/lang/AbstractStringBuilder" (197 : Nat) ({ cls := "java/lang/StringUTF16", name := "putCharSB", desc := "([BII)V" } : Jvm.MethodName)) ∈ lw_all := lw_g (lw_at lw_m7 3 rfl) rfl
theorem q1538 : (Jvm.Cond.instanceMethod ({ cls := "java/lang/AbstractStringBuilder", name := "append", desc := "(Ljava/lang/String;)Ljava/lang/AbstractStringBuilder;" } : Jvm.MethodName)) ∈ lw_all := lw_g (lw_at lw_m7 26 rfl) rfl
theorem q1539 : (Jvm.Cond.code ({ cls := "java/lang/AbstractStringBuilder", name := "append", desc := "(Ljava/lang/String;)Ljava/lang/AbstractStringBuilder;" } : Jvm.MethodName) prog_21_method_22_code (3 : Nat) (Option.some (Jvm.ClassFile.FieldType.object "java/lang/AbstractStringBuilder"))) ∈ lw_all := lw_g (lw_at lw_m7 27 rfl) rfl
theorem q1540 : (Jvm.Cond.methodLink "java/lang/AbstractStringBuilder" (204 : Nat) ({ cls := "java/lang/AbstractStringBuilder", name := "appendNull", desc := "()Ljava/lang/AbstractStringBuilder;" } : Jvm.MethodName)) ∈ lw_all := lw_g (lw_at lw_m7 28 rfl) rfl
theorem q1541 : (Jvm.Cond.privateMethod ({ cls := "java/lang/AbstractStringBuilder", name := "appendNull", desc := "()Ljava/lang/AbstractStringBuilder;" } : Jvm.MethodName)) ∈ lw_tbl := lw_at lw_m7 29 rfl
theorem q1542 : (Jvm.Cond.instanceMethod ({ cls := "java/lang/AbstractStringBuilder", name := "appendNull", desc := "()Ljava/lang/AbstractStringBuilder;" } : Jvm.MethodName)) ∈ lw_all := lw_g (lw_at lw_m7 30 rfl) rfl
theorem q1543 : (Jvm.Cond.code ({ cls := "java/lang/AbstractStringBuilder", name := "appendNull", desc := "()Ljava/lang/AbstractStringBuilder;" } : Jvm.MethodName) prog_21_method_26_code (3 : Nat) (Option.some (Jvm.ClassFile.FieldType.object "java/lang/AbstractStringBuilder"))) ∈ lw_all := lw_g (lw_at lw_m7 31 rfl) rfl
theorem q1544 : (Jvm.Cond.methodLink "java/lang/AbstractStringBuilder" (226 : Nat) ({ cls := "java/lang/StringUTF16", name := "putCharsAt", desc := "([BICCCC)I" } : Jvm.MethodName)) ∈ lw_all := lw_g (lw_at lw_m7 32 rfl) rfl
theorem q1547 : (Jvm.Cond.methodLink "java/lang/AbstractStringBuilder" (32 : Nat) ({ cls := "java/lang/String", name := "length", desc := "()I" } : Jvm.MethodName)) ∈ lw_all := lw_g (lw_at lw_m7 35 rfl) rfl
theorem q1555 : (Jvm.Cond.methodLink "java/lang/AbstractStringBuilder" (208 : Nat) ({ cls := "java/lang/AbstractStringBuilder", name := "putStringAt", desc := "(ILjava/lang/String;)V" } : Jvm.MethodName)) ∈ lw_all := lw_g (lw_at lw_m7 43 rfl) rfl
theorem q1556 : (Jvm.Cond.privateMethod ({ cls := "java/lang/AbstractStringBuilder", name := "putStringAt", desc := "(ILjava/lang/String;)V" } : Jvm.MethodName)) ∈ lw_tbl := lw_at lw_m7 44 rfl
theorem q1557 : (Jvm.Cond.instanceMethod ({ cls := "java/lang/AbstractStringBuilder", name := "putStringAt", desc := "(ILjava/lang/String;)V" } : Jvm.MethodName)) ∈ lw_all := lw_g (lw_at lw_m7 45 rfl) rfl
theorem q1558 : (Jvm.Cond.code ({ cls := "java/lang/AbstractStringBuilder", name := "putStringAt", desc := "(ILjava/lang/String;)V" } : Jvm.MethodName) prog_21_method_73_code (3 : Nat) (Option.none : Option Jvm.ClassFile.FieldType)) ∈ lw_all := lw_g (lw_at lw_m7 46 rfl) rfl
theorem q1559 : (Jvm.Cond.methodLink "java/lang/AbstractStringBuilder" (397 : Nat) ({ cls := "java/lang/AbstractStringBuilder", name := "inflateIfNeededFor", desc := "(Ljava/lang/String;)V" } : Jvm.MethodName)) ∈ lw_all := lw_g (lw_at lw_m7 47 rfl) rfl
theorem q1560 : (Jvm.Cond.privateMethod ({ cls := "java/lang/AbstractStringBuilder", name := "inflateIfNeededFor", desc := "(Ljava/lang/String;)V" } : Jvm.MethodName)) ∈ lw_tbl := lw_at lw_m7 48 rfl
theorem q1561 : (Jvm.Cond.instanceMethod ({ cls := "java/lang/AbstractStringBuilder", name := "inflateIfNeededFor", desc := "(Ljava/lang/String;)V" } : Jvm.MethodName)) ∈ lw_all := lw_g (lw_at lw_m7 49 rfl) rfl
theorem q1562 : (Jvm.Cond.code ({ cls := "java/lang/AbstractStringBuilder", name := "inflateIfNeededFor", desc := "(Ljava/lang/String;)V" } : Jvm.MethodName) prog_21_method_71_code (2 : Nat) (Option.none : Option Jvm.ClassFile.FieldType)) ∈ lw_all := lw_g (lw_at lw_m7 50 rfl) rfl
theorem q1563 : (Jvm.Cond.methodLink "java/lang/AbstractStringBuilder" (40 : Nat) ({ cls := "java/lang/String", name := "coder", desc := "()B" } : Jvm.MethodName)) ∈ lw_all := lw_g (lw_at lw_m7 51 rfl) rfl
theorem q1564 : (Jvm.Cond.methodLink "java/lang/AbstractStringBuilder" (399 : Nat) ({ cls := "java/lang/String", name := "getBytes", desc := "([BIB)V" } : Jvm.MethodName)) ∈ lw_all := lw_g (lw_at lw_m7 52 rfl) rfl
theorem q1583 : (Jvm.Cond.instanceMethod ({ cls := "java/lang/AbstractStringBuilder", name := "getValue", desc := "()[B" } : Jvm.MethodName)) ∈ lw_all := lw_g (lw_at lw_m7 71 rfl) rfl
theorem q1584 : (Jvm.Cond.sameMethod "java/lang/AbstractStringBuilder" "java/lang/AbstractStringBuilder" "getValue" "()[B") ∈ lw_all := lw_g (lw_at lw_m7 72 rfl) rfl
theorem q1586 : (Jvm.Cond.code ({ cls := "java/lang/AbstractStringBuilder", name := "getValue", desc := "()[B" } : Jvm.MethodName) prog_21_method_64_code (1 : Nat) (Option.some (Jvm.ClassFile.FieldType.array Jvm.ClassFile.FieldType.byte))) ∈ lw_all := lw_g (lw_at lw_m7 74 rfl) rfl
theorem q1588 : (Jvm.Cond.instanceMethod ({ cls := "java/lang/AbstractStringBuilder", name := "length", desc := "()I" } : Jvm.MethodName)) ∈ lw_all := lw_g (lw_at lw_m7 76 rfl) rfl
theorem q1589 : (Jvm.Cond.sameMethod "java/lang/AbstractStringBuilder" "java/lang/AbstractStringBuilder" "length" "()I") ∈ lw_all := lw_g (lw_at lw_m7 77 rfl) rfl
theorem q1594 : (Jvm.Cond.code ({ cls := "java/lang/AbstractStringBuilder", name := "length", desc := "()I" } : Jvm.MethodName) prog_21_method_6_code (1 : Nat) (Option.some Jvm.ClassFile.FieldType.int)) ∈ lw_all := lw_g (lw_at lw_m7 82 rfl) rfl
theorem q1684 : (Jvm.Cond.instanceMethod ({ cls := "java/lang/AbstractStringBuilder", name := "setLength", desc := "(I)V" } : Jvm.MethodName)) ∈ lw_all := lw_g (lw_at lw_m7 172 rfl) rfl
theorem q1685 : (Jvm.Cond.code ({ cls := "java/lang/AbstractStringBuilder", name := "setLength", desc := "(I)V" } : Jvm.MethodName) prog_21_method_13_code (2 : Nat) (Option.none : Option Jvm.ClassFile.FieldType)) ∈ lw_all := lw_g (lw_at lw_m7 173 rfl) rfl
theorem q1686 : (Jvm.Cond.classLink "java/lang/AbstractStringBuilder" (129 : Nat) "java/lang/StringIndexOutOfBoundsException") ∈ lw_all := lw_g (lw_at lw_m7 174 rfl) rfl
theorem q1688 : (Jvm.Cond.methodLink "java/lang/AbstractStringBuilder" (131 : Nat) ({ cls := "java/lang/StringIndexOutOfBoundsException", name := "<init>", desc := "(I)V" } : Jvm.MethodName)) ∈ lw_all := lw_g (lw_at lw_m7 176 rfl) rfl
theorem q1705 : (Jvm.Cond.methodLink "java/lang/AbstractStringBuilder" (133 : Nat) ({ cls := "java/lang/StringLatin1", name := "fillNull", desc := "([BII)V" } : Jvm.MethodName)) ∈ lw_all := lw_g (lw_at lw_m7 193 rfl) rfl
theorem q1727 : (Jvm.Cond.methodLink "java/lang/AbstractStringBuilder" (137 : Nat) ({ cls := "java/lang/StringUTF16", name := "fillNull", desc := "([BII)V" } : Jvm.MethodName)) ∈ lw_all := lw_g (lw_at lw_m7 215 rfl) rfl
theorem q2402 : (Jvm.Cond.sameMethod "java/lang/AbstractStringBuilder" "java/lang/AbstractStringBuilder" "append" "(I)Ljava/lang/AbstractStringBuilder;") ∈ lw_all := lw_g (lw_at lw_m10 170 rfl) rfl
theorem q2403 : (Jvm.Cond.sameMethod "java/lang/AbstractStringBuilder" "java/lang/AbstractStringBuilder" "ensureCapacityInternal" "(I)V") ∈ lw_all := lw_g (lw_at lw_m10 171 rfl) rfl
theorem q2404 : (Jvm.Cond.sameMethod "java/lang/AbstractStringBuilder" "java/lang/AbstractStringBuilder" "newCapacity" "(I)I") ∈ lw_all := lw_g (lw_at lw_m10 172 rfl) rfl
theorem q2405 : (Jvm.Cond.sameMethod "java/lang/AbstractStringBuilder" "java/lang/AbstractStringBuilder" "append" "(C)Ljava/lang/AbstractStringBuilder;") ∈ lw_all := lw_g (lw_at lw_m10 173 rfl) rfl
theorem q2406 : (Jvm.Cond.sameMethod "java/lang/AbstractStringBuilder" "java/lang/AbstractStringBuilder" "inflate" "()V") ∈ lw_all := lw_g (lw_at lw_m10 174 rfl) rfl
theorem q2407 : (Jvm.Cond.sameMethod "java/lang/AbstractStringBuilder" "java/lang/AbstractStringBuilder" "append" "(Ljava/lang/String;)Ljava/lang/AbstractStringBuilder;") ∈ lw_all := lw_g (lw_at lw_m10 175 rfl) rfl
theorem q2408 : (Jvm.Cond.sameMethod "java/lang/AbstractStringBuilder" "java/lang/AbstractStringBuilder" "appendNull" "()Ljava/lang/AbstractStringBuilder;") ∈ lw_all := lw_g (lw_at lw_m10 176 rfl) rfl
theorem q2409 : (Jvm.Cond.sameMethod "java/lang/AbstractStringBuilder" "java/lang/AbstractStringBuilder" "putStringAt" "(ILjava/lang/String;)V") ∈ lw_all := lw_g (lw_at lw_m10 177 rfl) rfl
theorem q2410 : (Jvm.Cond.sameMethod "java/lang/AbstractStringBuilder" "java/lang/AbstractStringBuilder" "inflateIfNeededFor" "(Ljava/lang/String;)V") ∈ lw_all := lw_g (lw_at lw_m10 178 rfl) rfl
theorem q2412 : (Jvm.Cond.sameMethod "java/lang/AbstractStringBuilder" "java/lang/AbstractStringBuilder" "setLength" "(I)V") ∈ lw_all := lw_g (lw_at lw_m10 180 rfl) rfl
/-! java/lang/StringBuilder -/
def RJ6 : String := "java/lang/StringBuilder"
def TJ6 : u_T := fun k => match k with
  | 0 => ("java/lang/AbstractStringBuilder", "value", "[B", false)
  | 1 => ("java/lang/AbstractStringBuilder", "coder", "B", false)
  | 2 => ("java/lang/AbstractStringBuilder", "maybeLatin1", "Z", false)
  | _ => ("java/lang/AbstractStringBuilder", "count", "I", false)
def tyJ6 : Nat → FieldType := fun k => match k with
  | 0 => .array .byte
  | 1 => .byte
  | 2 => .boolean
  | _ => .int
abbrev wsJ60 : List Cond := u_ws RJ6 TJ6 4
theorem nmJ6 : ∀ a, a < 4 → ∀ b, b < 4 → a ≠ b → (TJ6 a).2.1 ≠ (TJ6 b).2.1 := by decide +kernel
theorem tyJ6_ok : ∀ k, k < 4 → parseFieldDescriptor (TJ6 k).2.2.1 = some (tyJ6 k) := by decide +kernel
abbrev cJ6_init : ByteArray := prog_40_method_1_code
def yJ6_init : MethodName := ⟨RJ6, "<init>", "()V"⟩
abbrev cJ6_append : ByteArray := prog_40_method_15_code
def yJ6_append : MethodName := ⟨RJ6, "append", "(I)Ljava/lang/StringBuilder;"⟩
abbrev cJ6_append_2 : ByteArray := prog_40_method_14_code
def yJ6_append_2 : MethodName := ⟨RJ6, "append", "(C)Ljava/lang/StringBuilder;"⟩
abbrev cJ6_append_3 : ByteArray := prog_40_method_7_code
def yJ6_append_3 : MethodName := ⟨RJ6, "append", "(Ljava/lang/String;)Ljava/lang/StringBuilder;"⟩
abbrev cJ6_toString : ByteArray := prog_40_method_42_code
def yJ6_toString : MethodName := ⟨RJ6, "toString", "()Ljava/lang/String;"⟩
abbrev cJ6_length : ByteArray := prog_40_method_93_code
def yJ6_length : MethodName := ⟨RJ6, "length", "()I"⟩
abbrev cJ6_setLength : ByteArray := prog_40_method_89_code
def yJ6_setLength : MethodName := ⟨RJ6, "setLength", "(I)V"⟩
theorem q82 : (Jvm.Cond.initialized "java/lang/StringBuilder") ∈ lw_all := lw_g (lw_at lw_m1 10 rfl) rfl
theorem q220 : (Jvm.Cond.instantiable "java/lang/StringBuilder" (4 : Nat)) ∈ lw_all := lw_g (lw_at lw_m1 148 rfl) rfl
theorem q222 : (Jvm.Cond.instanceMethod ({ cls := "java/lang/StringBuilder", name := "<init>", desc := "()V" } : Jvm.MethodName)) ∈ lw_all := lw_g (lw_at lw_m1 150 rfl) rfl
theorem q223 : (Jvm.Cond.code ({ cls := "java/lang/StringBuilder", name := "<init>", desc := "()V" } : Jvm.MethodName) prog_40_method_1_code (1 : Nat) (Option.none : Option Jvm.ClassFile.FieldType)) ∈ lw_all := lw_g (lw_at lw_m1 151 rfl) rfl
theorem q224 : (Jvm.Cond.methodLink "java/lang/StringBuilder" (1 : Nat) ({ cls := "java/lang/AbstractStringBuilder", name := "<init>", desc := "(I)V" } : Jvm.MethodName)) ∈ lw_all := lw_g (lw_at lw_m1 152 rfl) rfl
theorem q242 : (Jvm.Cond.lays "java/lang/StringBuilder" "java/lang/AbstractStringBuilder" "value" "[B") ∈ lw_all := lw_g (lw_at lw_m1 170 rfl) rfl
theorem q244 : (Jvm.Cond.lays "java/lang/StringBuilder" "java/lang/AbstractStringBuilder" "coder" "B") ∈ lw_all := lw_g (lw_at lw_m1 172 rfl) rfl
theorem q246 : (Jvm.Cond.lays "java/lang/StringBuilder" "java/lang/AbstractStringBuilder" "maybeLatin1" "Z") ∈ lw_all := lw_g (lw_at lw_m1 174 rfl) rfl
theorem q248 : (Jvm.Cond.lays "java/lang/StringBuilder" "java/lang/AbstractStringBuilder" "count" "I") ∈ lw_all := lw_g (lw_at lw_m1 176 rfl) rfl
theorem q250 : (Jvm.Cond.superclass "java/lang/StringBuilder" "java/lang/AbstractStringBuilder") ∈ lw_all := lw_g (lw_at lw_m1 178 rfl) rfl
theorem q514 : (Jvm.Cond.selects "java/lang/StringBuilder" ({ cls := "java/lang/Object", name := "getClass", desc := "()Ljava/lang/Class;" } : Jvm.MethodName) ({ cls := "java/lang/Object", name := "getClass", desc := "()Ljava/lang/Class;" } : Jvm.MethodName)) ∈ lw_all := lw_g (lw_at lw_m2 202 rfl) rfl
theorem q938 : (Jvm.Cond.selects "java/lang/StringBuilder" ({ cls := "java/lang/Object", name := "equals", desc := "(Ljava/lang/Object;)Z" } : Jvm.MethodName) ({ cls := "java/lang/Object", name := "equals", desc := "(Ljava/lang/Object;)Z" } : Jvm.MethodName)) ∈ lw_all := lw_g (lw_at lw_m4 146 rfl) rfl
theorem q1414 : (Jvm.Cond.instanceMethod ({ cls := "java/lang/StringBuilder", name := "append", desc := "(I)Ljava/lang/StringBuilder;" } : Jvm.MethodName)) ∈ lw_all := lw_g (lw_at lw_m6 142 rfl) rfl
theorem q1415 : (Jvm.Cond.selects "java/lang/StringBuilder" ({ cls := "java/lang/StringBuilder", name := "append", desc := "(I)Ljava/lang/StringBuilder;" } : Jvm.MethodName) ({ cls := "java/lang/StringBuilder", name := "append", desc := "(I)Ljava/lang/StringBuilder;" } : Jvm.MethodName)) ∈ lw_all := lw_g (lw_at lw_m6 143 rfl) rfl
theorem q1416 : (Jvm.Cond.code ({ cls := "java/lang/StringBuilder", name := "append", desc := "(I)Ljava/lang/StringBuilder;" } : Jvm.MethodName) prog_40_method_15_code (2 : Nat) (Option.some (Jvm.ClassFile.FieldType.object "java/lang/StringBuilder"))) ∈ lw_all := lw_g (lw_at lw_m6 144 rfl) rfl
theorem q1417 : (Jvm.Cond.methodLink "java/lang/StringBuilder" (53 : Nat) ({ cls := "java/lang/AbstractStringBuilder", name := "append", desc := "(I)Ljava/lang/AbstractStringBuilder;" } : Jvm.MethodName)) ∈ lw_all := lw_g (lw_at lw_m6 145 rfl) rfl
theorem q1446 : (Jvm.Cond.selects "java/lang/StringBuilder" ({ cls := "java/lang/AbstractStringBuilder", name := "isLatin1", desc := "()Z" } : Jvm.MethodName) ({ cls := "java/lang/AbstractStringBuilder", name := "isLatin1", desc := "()Z" } : Jvm.MethodName)) ∈ lw_all := lw_g (lw_at lw_m6 174 rfl) rfl
theorem q1487 : (Jvm.Cond.instanceMethod ({ cls := "java/lang/StringBuilder", name := "append", desc := "(C)Ljava/lang/StringBuilder;" } : Jvm.MethodName)) ∈ lw_all := lw_g (lw_at lw_m6 215 rfl) rfl
theorem q1488 : (Jvm.Cond.selects "java/lang/StringBuilder" ({ cls := "java/lang/StringBuilder", name := "append", desc := "(C)Ljava/lang/StringBuilder;" } : Jvm.MethodName) ({ cls := "java/lang/StringBuilder", name := "append", desc := "(C)Ljava/lang/StringBuilder;" } : Jvm.MethodName)) ∈ lw_all := lw_g (lw_at lw_m6 216 rfl) rfl
theorem q1489 : (Jvm.Cond.code ({ cls := "java/lang/StringBuilder", name := "append", desc := "(C)Ljava/lang/StringBuilder;" } : Jvm.MethodName) prog_40_method_14_code (2 : Nat) (Option.some (Jvm.ClassFile.FieldType.object "java/lang/StringBuilder"))) ∈ lw_all := lw_g (lw_at lw_m6 217 rfl) rfl
theorem q1490 : (Jvm.Cond.methodLink "java/lang/StringBuilder" (50 : Nat) ({ cls := "java/lang/AbstractStringBuilder", name := "append", desc := "(C)Ljava/lang/AbstractStringBuilder;" } : Jvm.MethodName)) ∈ lw_all := lw_g (lw_at lw_m6 218 rfl) rfl
theorem q1534 : (Jvm.Cond.instanceMethod ({ cls := "java/lang/StringBuilder", name := "append", desc := "(Ljava/lang/String;)Ljava/lang/StringBuilder;" } : Jvm.MethodName)) ∈ lw_all := lw_g (lw_at lw_m7 22 rfl) rfl
theorem q1535 : (Jvm.Cond.selects "java/lang/StringBuilder" ({ cls := "java/lang/StringBuilder", name := "append", desc := "(Ljava/lang/String;)Ljava/lang/StringBuilder;" } : Jvm.MethodName) ({ cls := "java/lang/StringBuilder", name := "append", desc := "(Ljava/lang/String;)Ljava/lang/StringBuilder;" } : Jvm.MethodName)) ∈ lw_all := lw_g (lw_at lw_m7 23 rfl) rfl
theorem q1536 : (Jvm.Cond.code ({ cls := "java/lang/StringBuilder", name := "append", desc := "(Ljava/lang/String;)Ljava/lang/StringBuilder;" } : Jvm.MethodName) prog_40_method_7_code (2 : Nat) (Option.some (Jvm.ClassFile.FieldType.object "java/lang/StringBuilder"))) ∈ lw_all := lw_g (lw_at lw_m7 24 rfl) rfl
theorem q1537 : (Jvm.Cond.methodLink "java/lang/StringBuilder" (29 : Nat) ({ cls := "java/lang/AbstractStringBuilder", name := "append", desc := "(Ljava/lang/String;)Ljava/lang/AbstractStringBuilder;" } : Jvm.MethodName)) ∈ lw_all := lw_g (lw_at lw_m7 25 rfl) rfl
theorem q1571 : (Jvm.Cond.instanceMethod ({ cls := "java/lang/StringBuilder", name := "toString", desc := "()Ljava/lang/String;" } : Jvm.MethodName)) ∈ lw_all := lw_g (lw_at lw_m7 59 rfl) rfl
theorem q1572 : (Jvm.Cond.selects "java/lang/StringBuilder" ({ cls := "java/lang/StringBuilder", name := "toString", desc := "()Ljava/lang/String;" } : Jvm.MethodName) ({ cls := "java/lang/StringBuilder", name := "toString", desc := "()Ljava/lang/String;" } : Jvm.MethodName)) ∈ lw_all := lw_g (lw_at lw_m7 60 rfl) rfl
theorem q1573 : (Jvm.Cond.code ({ cls := "java/lang/StringBuilder", name := "toString", desc := "()Ljava/lang/String;" } : Jvm.MethodName) prog_40_method_42_code (1 : Nat) (Option.some (Jvm.ClassFile.FieldType.object "java/lang/String"))) ∈ lw_all := lw_g (lw_at lw_m7 61 rfl) rfl
theorem q1574 : (Jvm.Cond.classLink "java/lang/StringBuilder" (18 : Nat) "java/lang/String") ∈ lw_all := lw_g (lw_at lw_m7 62 rfl) rfl
theorem q1575 : (Jvm.Cond.methodLink "java/lang/StringBuilder" (137 : Nat) ({ cls := "java/lang/String", name := "<init>", desc := "(Ljava/lang/StringBuilder;)V" } : Jvm.MethodName)) ∈ lw_all := lw_g (lw_at lw_m7 63 rfl) rfl
theorem q1585 : (Jvm.Cond.selects "java/lang/StringBuilder" ({ cls := "java/lang/AbstractStringBuilder", name := "getValue", desc := "()[B" } : Jvm.MethodName) ({ cls := "java/lang/AbstractStringBuilder", name := "getValue", desc := "()[B" } : Jvm.MethodName)) ∈ lw_all := lw_g (lw_at lw_m7 73 rfl) rfl
theorem q1590 : (Jvm.Cond.selects "java/lang/StringBuilder" ({ cls := "java/lang/AbstractStringBuilder", name := "length", desc := "()I" } : Jvm.MethodName) ({ cls := "java/lang/StringBuilder", name := "length", desc := "()I" } : Jvm.MethodName)) ∈ lw_all := lw_g (lw_at lw_m7 78 rfl) rfl
theorem q1591 : (Jvm.Cond.instanceMethod ({ cls := "java/lang/StringBuilder", name := "length", desc := "()I" } : Jvm.MethodName)) ∈ lw_all := lw_g (lw_at lw_m7 79 rfl) rfl
theorem q1592 : (Jvm.Cond.code ({ cls := "java/lang/StringBuilder", name := "length", desc := "()I" } : Jvm.MethodName) prog_40_method_93_code (1 : Nat) (Option.some Jvm.ClassFile.FieldType.int)) ∈ lw_all := lw_g (lw_at lw_m7 80 rfl) rfl
theorem q1593 : (Jvm.Cond.methodLink "java/lang/StringBuilder" (343 : Nat) ({ cls := "java/lang/AbstractStringBuilder", name := "length", desc := "()I" } : Jvm.MethodName)) ∈ lw_all := lw_g (lw_at lw_m7 81 rfl) rfl
theorem q1680 : (Jvm.Cond.instanceMethod ({ cls := "java/lang/StringBuilder", name := "setLength", desc := "(I)V" } : Jvm.MethodName)) ∈ lw_all := lw_g (lw_at lw_m7 168 rfl) rfl
theorem q1681 : (Jvm.Cond.selects "java/lang/StringBuilder" ({ cls := "java/lang/StringBuilder", name := "setLength", desc := "(I)V" } : Jvm.MethodName) ({ cls := "java/lang/StringBuilder", name := "setLength", desc := "(I)V" } : Jvm.MethodName)) ∈ lw_all := lw_g (lw_at lw_m7 169 rfl) rfl
theorem q1682 : (Jvm.Cond.code ({ cls := "java/lang/StringBuilder", name := "setLength", desc := "(I)V" } : Jvm.MethodName) prog_40_method_89_code (2 : Nat) (Option.none : Option Jvm.ClassFile.FieldType)) ∈ lw_all := lw_g (lw_at lw_m7 170 rfl) rfl
theorem q1683 : (Jvm.Cond.methodLink "java/lang/StringBuilder" (333 : Nat) ({ cls := "java/lang/AbstractStringBuilder", name := "setLength", desc := "(I)V" } : Jvm.MethodName)) ∈ lw_all := lw_g (lw_at lw_m7 171 rfl) rfl
theorem q2411 : (Jvm.Cond.selects "java/lang/StringBuilder" ({ cls := "java/lang/StringBuilder", name := "length", desc := "()I" } : Jvm.MethodName) ({ cls := "java/lang/StringBuilder", name := "length", desc := "()I" } : Jvm.MethodName)) ∈ lw_all := lw_g (lw_at lw_m10 179 rfl) rfl
theorem q2421 : (Jvm.Cond.castable "java/lang/StringBuilder" "java/lang/Object") ∈ lw_tbl := lw_at lw_m10 189 rfl
theorem in_J6 : ∀ w ∈ wsJ60, w ∈ lw_all := lw_in wsJ60 [242, 244, 246, 248] (by decide +kernel) (by decide +kernel)
/-! java/lang/String -/
def RJ7 : String := "java/lang/String"
def TJ7 : u_T := fun k => match k with
  | 0 => ("java/lang/String", "value", "[B", true)
  | 1 => ("java/lang/String", "coder", "B", true)
  | 2 => ("java/lang/String", "hash", "I", false)
  | _ => ("java/lang/String", "hashIsZero", "Z", false)
def tyJ7 : Nat → FieldType := fun k => match k with
  | 0 => .array .byte
  | 1 => .byte
  | 2 => .int
  | _ => .boolean
abbrev wsJ70 : List Cond := u_ws RJ7 TJ7 4
theorem nmJ7 : ∀ a, a < 4 → ∀ b, b < 4 → a ≠ b → (TJ7 a).2.1 ≠ (TJ7 b).2.1 := by decide +kernel
theorem tyJ7_ok : ∀ k, k < 4 → parseFieldDescriptor (TJ7 k).2.2.1 = some (tyJ7 k) := by decide +kernel
abbrev cJ7_equals : ByteArray := prog_39_method_66_code
def yJ7_equals : MethodName := ⟨RJ7, "equals", "(Ljava/lang/Object;)Z"⟩
abbrev cJ7_checkBoundsBeginEnd : ByteArray := prog_39_method_158_code
def yJ7_checkBoundsBeginEnd : MethodName := ⟨RJ7, "checkBoundsBeginEnd", "(III)V"⟩
abbrev cJ7_checkBoundsOffCount : ByteArray := prog_39_method_157_code
def yJ7_checkBoundsOffCount : MethodName := ⟨RJ7, "checkBoundsOffCount", "(III)I"⟩
abbrev cJ7_checkIndex : ByteArray := prog_39_method_155_code
def yJ7_checkIndex : MethodName := ⟨RJ7, "checkIndex", "(II)V"⟩
abbrev cJ7_length : ByteArray := prog_39_method_54_code
def yJ7_length : MethodName := ⟨RJ7, "length", "()I"⟩
abbrev cJ7_coder : ByteArray := prog_39_method_152_code
def yJ7_coder : MethodName := ⟨RJ7, "coder", "()B"⟩
abbrev cJ7_getBytes : ByteArray := prog_39_method_147_code
def yJ7_getBytes : MethodName := ⟨RJ7, "getBytes", "([BIB)V"⟩
abbrev cJ7_init : ByteArray := prog_39_method_53_code
def yJ7_init : MethodName := ⟨RJ7, "<init>", "(Ljava/lang/StringBuilder;)V"⟩
abbrev cJ7_init_2 : ByteArray := prog_39_method_150_code
def yJ7_init_2 : MethodName := ⟨RJ7, "<init>", "(Ljava/lang/AbstractStringBuilder;Ljava/lang/Void;)V"⟩
abbrev cJ7_charAt : ByteArray := prog_39_method_56_code
def yJ7_charAt : MethodName := ⟨RJ7, "charAt", "(I)C"⟩
abbrev cJ7_isLatin1 : ByteArray := prog_39_method_154_code
def yJ7_isLatin1 : MethodName := ⟨RJ7, "isLatin1", "()Z"⟩
theorem q83 : (Jvm.Cond.initialized "java/lang/String") ∈ lw_all := lw_g (lw_at lw_m1 11 rfl) rfl
theorem q229 : (Jvm.Cond.laysStatic "java/lang/String" "COMPACT_STRINGS" "Z") ∈ lw_tbl := lw_at lw_m1 157 rfl
theorem q240 : (Jvm.Cond.fieldLink "java/lang/String" (1048 : Nat) "java/lang/AbstractStringBuilder" "maybeLatin1" "Z") ∈ lw_all := lw_g (lw_at lw_m1 168 rfl) rfl
theorem q513 : (Jvm.Cond.selects "java/lang/String" ({ cls := "java/lang/Object", name := "getClass", desc := "()Ljava/lang/Class;" } : Jvm.MethodName) ({ cls := "java/lang/Object", name := "getClass", desc := "()Ljava/lang/Class;" } : Jvm.MethodName)) ∈ lw_all := lw_g (lw_at lw_m2 201 rfl) rfl
theorem q930 : (Jvm.Cond.selects "java/lang/String" ({ cls := "java/lang/Object", name := "equals", desc := "(Ljava/lang/Object;)Z" } : Jvm.MethodName) ({ cls := "java/lang/String", name := "equals", desc := "(Ljava/lang/Object;)Z" } : Jvm.MethodName)) ∈ lw_all := lw_g (lw_at lw_m4 138 rfl) rfl
theorem q931 : (Jvm.Cond.instanceMethod ({ cls := "java/lang/String", name := "equals", desc := "(Ljava/lang/Object;)Z" } : Jvm.MethodName)) ∈ lw_all := lw_g (lw_at lw_m4 139 rfl) rfl
theorem q932 : (Jvm.Cond.code ({ cls := "java/lang/String", name := "equals", desc := "(Ljava/lang/Object;)Z" } : Jvm.MethodName) prog_39_method_66_code (3 : Nat) (Option.some Jvm.ClassFile.FieldType.boolean)) ∈ lw_all := lw_g (lw_at lw_m4 140 rfl) rfl
theorem q933 : (Jvm.Cond.classLink "java/lang/String" (10 : Nat) "java/lang/String") ∈ lw_all := lw_g (lw_at lw_m4 141 rfl) rfl
theorem q934 : (Jvm.Cond.fieldLink "java/lang/String" (38 : Nat) "java/lang/String" "COMPACT_STRINGS" "Z") ∈ lw_all := lw_g (lw_at lw_m4 142 rfl) rfl
theorem q935 : (Jvm.Cond.methodLink "java/lang/String" (541 : Nat) ({ cls := "java/lang/StringLatin1", name := "equals", desc := "([B[B)Z" } : Jvm.MethodName)) ∈ lw_all := lw_g (lw_at lw_m4 143 rfl) rfl
theorem q1050 : (Jvm.Cond.instantiable "java/lang/String" (4 : Nat)) ∈ lw_all := lw_g (lw_at lw_m5 18 rfl) rfl
theorem q1051 : (Jvm.Cond.laysFinal "java/lang/String" "java/lang/String" "value" "[B") ∈ lw_all := lw_g (lw_at lw_m5 19 rfl) rfl
theorem q1052 : (Jvm.Cond.soleField "java/lang/String" "value") ∈ lw_all := lw_g (lw_at lw_m5 20 rfl) rfl
theorem q1053 : (Jvm.Cond.laysFinal "java/lang/String" "java/lang/String" "coder" "B") ∈ lw_all := lw_g (lw_at lw_m5 21 rfl) rfl
theorem q1054 : (Jvm.Cond.soleField "java/lang/String" "coder") ∈ lw_all := lw_g (lw_at lw_m5 22 rfl) rfl
theorem q1465 : (Jvm.Cond.static ({ cls := "java/lang/String", name := "checkBoundsBeginEnd", desc := "(III)V" } : Jvm.MethodName)) ∈ lw_all := lw_g (lw_at lw_m6 193 rfl) rfl
theorem q1466 : (Jvm.Cond.code ({ cls := "java/lang/String", name := "checkBoundsBeginEnd", desc := "(III)V" } : Jvm.MethodName) prog_39_method_158_code (3 : Nat) (Option.none : Option Jvm.ClassFile.FieldType)) ∈ lw_all := lw_g (lw_at lw_m6 194 rfl) rfl
theorem q1467 : (Jvm.Cond.fieldLink "java/lang/String" (1053 : Nat) "jdk/internal/util/Preconditions" "SIOOBE_FORMATTER" "Ljava/util/function/BiFunction;") ∈ lw_all := lw_g (lw_at lw_m6 195 rfl) rfl
theorem q1469 : (Jvm.Cond.methodLink "java/lang/String" (1062 : Nat) ({ cls := "jdk/internal/util/Preconditions", name := "checkFromToIndex", desc := "(IIILjava/util/function/BiFunction;)I" } : Jvm.MethodName)) ∈ lw_all := lw_g (lw_at lw_m6 197 rfl) rfl
theorem q1510 : (Jvm.Cond.static ({ cls := "java/lang/String", name := "checkBoundsOffCount", desc := "(III)I" } : Jvm.MethodName)) ∈ lw_all := lw_g (lw_at lw_m6 238 rfl) rfl
theorem q1511 : (Jvm.Cond.code ({ cls := "java/lang/String", name := "checkBoundsOffCount", desc := "(III)I" } : Jvm.MethodName) prog_39_method_157_code (3 : Nat) (Option.some Jvm.ClassFile.FieldType.int)) ∈ lw_all := lw_g (lw_at lw_m6 239 rfl) rfl
theorem q1512 : (Jvm.Cond.methodLink "java/lang/String" (1065 : Nat) ({ cls := "jdk/internal/util/Preconditions", name := "checkFromIndexSize", desc := "(IIILjava/util/function/BiFunction;)I" } : Jvm.MethodName)) ∈ lw_all := lw_g (lw_at lw_m7 0 rfl) rfl
theorem q1522 : (Jvm.Cond.static ({ cls := "java/lang/String", name := "checkIndex", desc := "(II)V" } : Jvm.MethodName)) ∈ lw_all := lw_g (lw_at lw_m7 10 rfl) rfl
theorem q1523 : (Jvm.Cond.code ({ cls := "java/lang/String", name := "checkIndex", desc := "(II)V" } : Jvm.MethodName) prog_39_method_155_code (2 : Nat) (Option.none : Option Jvm.ClassFile.FieldType)) ∈ lw_all := lw_g (lw_at lw_m7 11 rfl) rfl
theorem q1524 : (Jvm.Cond.methodLink "java/lang/String" (1059 : Nat) ({ cls := "jdk/internal/util/Preconditions", name := "checkIndex", desc := "(IILjava/util/function/BiFunction;)I" } : Jvm.MethodName)) ∈ lw_all := lw_g (lw_at lw_m7 12 rfl) rfl
theorem q1548 : (Jvm.Cond.instanceMethod ({ cls := "java/lang/String", name := "length", desc := "()I" } : Jvm.MethodName)) ∈ lw_all := lw_g (lw_at lw_m7 36 rfl) rfl
theorem q1549 : (Jvm.Cond.selects "java/lang/String" ({ cls := "java/lang/String", name := "length", desc := "()I" } : Jvm.MethodName) ({ cls := "java/lang/String", name := "length", desc := "()I" } : Jvm.MethodName)) ∈ lw_all := lw_g (lw_at lw_m7 37 rfl) rfl
theorem q1550 : (Jvm.Cond.code ({ cls := "java/lang/String", name := "length", desc := "()I" } : Jvm.MethodName) prog_39_method_54_code (1 : Nat) (Option.some Jvm.ClassFile.FieldType.int)) ∈ lw_all := lw_g (lw_at lw_m7 38 rfl) rfl
theorem q1551 : (Jvm.Cond.methodLink "java/lang/String" (335 : Nat) ({ cls := "java/lang/String", name := "coder", desc := "()B" } : Jvm.MethodName)) ∈ lw_all := lw_g (lw_at lw_m7 39 rfl) rfl
theorem q1552 : (Jvm.Cond.instanceMethod ({ cls := "java/lang/String", name := "coder", desc := "()B" } : Jvm.MethodName)) ∈ lw_all := lw_g (lw_at lw_m7 40 rfl) rfl
theorem q1553 : (Jvm.Cond.selects "java/lang/String" ({ cls := "java/lang/String", name := "coder", desc := "()B" } : Jvm.MethodName) ({ cls := "java/lang/String", name := "coder", desc := "()B" } : Jvm.MethodName)) ∈ lw_all := lw_g (lw_at lw_m7 41 rfl) rfl
theorem q1554 : (Jvm.Cond.code ({ cls := "java/lang/String", name := "coder", desc := "()B" } : Jvm.MethodName) prog_39_method_152_code (1 : Nat) (Option.some Jvm.ClassFile.FieldType.byte)) ∈ lw_all := lw_g (lw_at lw_m7 42 rfl) rfl
theorem q1565 : (Jvm.Cond.instanceMethod ({ cls := "java/lang/String", name := "getBytes", desc := "([BIB)V" } : Jvm.MethodName)) ∈ lw_all := lw_g (lw_at lw_m7 53 rfl) rfl
theorem q1566 : (Jvm.Cond.selects "java/lang/String" ({ cls := "java/lang/String", name := "getBytes", desc := "([BIB)V" } : Jvm.MethodName) ({ cls := "java/lang/String", name := "getBytes", desc := "([BIB)V" } : Jvm.MethodName)) ∈ lw_all := lw_g (lw_at lw_m7 54 rfl) rfl
theorem q1567 : (Jvm.Cond.code ({ cls := "java/lang/String", name := "getBytes", desc := "([BIB)V" } : Jvm.MethodName) prog_39_method_147_code (4 : Nat) (Option.none : Option Jvm.ClassFile.FieldType)) ∈ lw_all := lw_g (lw_at lw_m7 55 rfl) rfl
theorem q1568 : (Jvm.Cond.methodLink "java/lang/String" (212 : Nat) ({ cls := "java/lang/System", name := "arraycopy", desc := "(Ljava/lang/Object;ILjava/lang/Object;II)V" } : Jvm.MethodName)) ∈ lw_all := lw_g (lw_at lw_m7 56 rfl) rfl
theorem q1569 : (Jvm.Cond.methodLink "java/lang/String" (106 : Nat) ({ cls := "java/lang/StringLatin1", name := "inflate", desc := "([BI[BII)V" } : Jvm.MethodName)) ∈ lw_all := lw_g (lw_at lw_m7 57 rfl) rfl
theorem q1576 : (Jvm.Cond.instanceMethod ({ cls := "java/lang/String", name := "<init>", desc := "(Ljava/lang/StringBuilder;)V" } : Jvm.MethodName)) ∈ lw_all := lw_g (lw_at lw_m7 64 rfl) rfl
theorem q1577 : (Jvm.Cond.code ({ cls := "java/lang/String", name := "<init>", desc := "(Ljava/lang/StringBuilder;)V" } : Jvm.MethodName) prog_39_method_53_code (2 : Nat) (Option.none : Option Jvm.ClassFile.FieldType)) ∈ lw_all := lw_g (lw_at lw_m7 65 rfl) rfl
theorem q1578 : (Jvm.Cond.methodLink "java/lang/String" (489 : Nat) ({ cls := "java/lang/String", name := "<init>", desc := "(Ljava/lang/AbstractStringBuilder;Ljava/lang/Void;)V" } : Jvm.MethodName)) ∈ lw_all := lw_g (lw_at lw_m7 66 rfl) rfl
theorem q1579 : (Jvm.Cond.instanceMethod ({ cls := "java/lang/String", name := "<init>", desc := "(Ljava/lang/AbstractStringBuilder;Ljava/lang/Void;)V" } : Jvm.MethodName)) ∈ lw_all := lw_g (lw_at lw_m7 67 rfl) rfl
theorem q1580 : (Jvm.Cond.code ({ cls := "java/lang/String", name := "<init>", desc := "(Ljava/lang/AbstractStringBuilder;Ljava/lang/Void;)V" } : Jvm.MethodName) prog_39_method_150_code (5 : Nat) (Option.none : Option Jvm.ClassFile.FieldType)) ∈ lw_all := lw_g (lw_at lw_m7 68 rfl) rfl
theorem q1581 : (Jvm.Cond.methodLink "java/lang/String" (1 : Nat) ({ cls := "java/lang/Object", name := "<init>", desc := "()V" } : Jvm.MethodName)) ∈ lw_all := lw_g (lw_at lw_m7 69 rfl) rfl
theorem q1582 : (Jvm.Cond.methodLink "java/lang/String" (552 : Nat) ({ cls := "java/lang/AbstractStringBuilder", name := "getValue", desc := "()[B" } : Jvm.MethodName)) ∈ lw_all := lw_g (lw_at lw_m7 70 rfl) rfl
theorem q1587 : (Jvm.Cond.methodLink "java/lang/String" (549 : Nat) ({ cls := "java/lang/AbstractStringBuilder", name := "length", desc := "()I" } : Jvm.MethodName)) ∈ lw_all := lw_g (lw_at lw_m7 75 rfl) rfl
theorem q1595 : (Jvm.Cond.methodLink "java/lang/String" (1047 : Nat) ({ cls := "java/lang/AbstractStringBuilder", name := "isLatin1", desc := "()Z" } : Jvm.MethodName)) ∈ lw_all := lw_g (lw_at lw_m7 83 rfl) rfl
theorem q1596 : (Jvm.Cond.methodLink "java/lang/String" (54 : Nat) ({ cls := "java/util/Arrays", name := "copyOfRange", desc := "([BII)[B" } : Jvm.MethodName)) ∈ lw_all := lw_g (lw_at lw_m7 84 rfl) rfl
theorem q1616 : (Jvm.Cond.methodLink "java/lang/String" (1051 : Nat) ({ cls := "java/lang/StringUTF16", name := "compress", desc := "([BII)[B" } : Jvm.MethodName)) ∈ lw_all := lw_g (lw_at lw_m7 104 rfl) rfl
theorem q1626 : (Jvm.Cond.methodLink "java/lang/String" (47 : Nat) ({ cls := "java/lang/StringUTF16", name := "coderFromArrayLen", desc := "([BI)B" } : Jvm.MethodName)) ∈ lw_all := lw_g (lw_at lw_m7 114 rfl) rfl
theorem q1629 : (Jvm.Cond.fieldLink "java/lang/String" (9 : Nat) "java/lang/String" "value" "[B") ∈ lw_all := lw_g (lw_at lw_m7 117 rfl) rfl
theorem q1630 : (Jvm.Cond.fieldLink "java/lang/String" (15 : Nat) "java/lang/String" "coder" "B") ∈ lw_all := lw_g (lw_at lw_m7 118 rfl) rfl
theorem q1631 : (Jvm.Cond.lays "java/lang/String" "java/lang/String" "hash" "I") ∈ lw_all := lw_g (lw_at lw_m7 119 rfl) rfl
theorem q1632 : (Jvm.Cond.soleField "java/lang/String" "hash") ∈ lw_all := lw_g (lw_at lw_m7 120 rfl) rfl
theorem q1633 : (Jvm.Cond.lays "java/lang/String" "java/lang/String" "hashIsZero" "Z") ∈ lw_all := lw_g (lw_at lw_m7 121 rfl) rfl
theorem q1634 : (Jvm.Cond.soleField "java/lang/String" "hashIsZero") ∈ lw_all := lw_g (lw_at lw_m7 122 rfl) rfl
theorem q1635 : (Jvm.Cond.superclass "java/lang/String" "java/lang/Object") ∈ lw_all := lw_g (lw_at lw_m7 123 rfl) rfl
theorem q1647 : (Jvm.Cond.instanceMethod ({ cls := "java/lang/String", name := "charAt", desc := "(I)C" } : Jvm.MethodName)) ∈ lw_all := lw_g (lw_at lw_m7 135 rfl) rfl
theorem q1648 : (Jvm.Cond.selects "java/lang/String" ({ cls := "java/lang/String", name := "charAt", desc := "(I)C" } : Jvm.MethodName) ({ cls := "java/lang/String", name := "charAt", desc := "(I)C" } : Jvm.MethodName)) ∈ lw_all := lw_g (lw_at lw_m7 136 rfl) rfl
theorem q1649 : (Jvm.Cond.code ({ cls := "java/lang/String", name := "charAt", desc := "(I)C" } : Jvm.MethodName) prog_39_method_56_code (2 : Nat) (Option.some Jvm.ClassFile.FieldType.char)) ∈ lw_all := lw_g (lw_at lw_m7 137 rfl) rfl
theorem q1650 : (Jvm.Cond.methodLink "java/lang/String" (492 : Nat) ({ cls := "java/lang/String", name := "isLatin1", desc := "()Z" } : Jvm.MethodName)) ∈ lw_all := lw_g (lw_at lw_m7 138 rfl) rfl
theorem q1651 : (Jvm.Cond.instanceMethod ({ cls := "java/lang/String", name := "isLatin1", desc := "()Z" } : Jvm.MethodName)) ∈ lw_all := lw_g (lw_at lw_m7 139 rfl) rfl
theorem q1652 : (Jvm.Cond.selects "java/lang/String" ({ cls := "java/lang/String", name := "isLatin1", desc := "()Z" } : Jvm.MethodName) ({ cls := "java/lang/String", name := "isLatin1", desc := "()Z" } : Jvm.MethodName)) ∈ lw_all := lw_g (lw_at lw_m7 140 rfl) rfl
theorem q1653 : (Jvm.Cond.code ({ cls := "java/lang/String", name := "isLatin1", desc := "()Z" } : Jvm.MethodName) prog_39_method_154_code (1 : Nat) (Option.some Jvm.ClassFile.FieldType.boolean)) ∈ lw_all := lw_g (lw_at lw_m7 141 rfl) rfl
theorem q1654 : (Jvm.Cond.methodLink "java/lang/String" (495 : Nat) ({ cls := "java/lang/StringLatin1", name := "charAt", desc := "([BI)C" } : Jvm.MethodName)) ∈ lw_all := lw_g (lw_at lw_m7 142 rfl) rfl
theorem q1658 : (Jvm.Cond.methodLink "java/lang/String" (498 : Nat) ({ cls := "java/lang/StringUTF16", name := "charAt", desc := "([BI)C" } : Jvm.MethodName)) ∈ lw_all := lw_g (lw_at lw_m7 146 rfl) rfl
theorem q2440 : (Jvm.Cond.castable "java/lang/String" "java/lang/Object") ∈ lw_tbl := lw_at lw_m10 208 rfl
theorem in_J7 : ∀ w ∈ wsJ70, w ∈ lw_all := lw_in wsJ70 [1051, 1053, 1631, 1633] (by decide +kernel) (by decide +kernel)
/-! java/lang/StringUTF16 -/
def RJ8 : String := "java/lang/StringUTF16"
abbrev cJ8_newBytesFor : ByteArray := prog_43_method_2_code
def yJ8_newBytesFor : MethodName := ⟨RJ8, "newBytesFor", "(I)[B"⟩
abbrev cJ8_newBytesLength : ByteArray := prog_43_method_3_code
def yJ8_newBytesLength : MethodName := ⟨RJ8, "newBytesLength", "(I)I"⟩
abbrev cJ8_getChars : ByteArray := prog_43_method_77_code
def yJ8_getChars : MethodName := ⟨RJ8, "getChars", "(III[B)I"⟩
abbrev cJ8_checkBoundsBeginEnd : ByteArray := prog_43_method_93_code
def yJ8_checkBoundsBeginEnd : MethodName := ⟨RJ8, "checkBoundsBeginEnd", "(II[B)V"⟩
abbrev cJ8_length : ByteArray := prog_43_method_6_code
def yJ8_length : MethodName := ⟨RJ8, "length", "([B)I"⟩
abbrev cJ8_getChars_2 : ByteArray := prog_43_method_89_code
def yJ8_getChars_2 : MethodName := ⟨RJ8, "getChars", "(II[B)I"⟩
abbrev cJ8_putChar : ByteArray := prog_43_method_4_code
def yJ8_putChar : MethodName := ⟨RJ8, "putChar", "([BII)V"⟩
abbrev cJ8_inflate : ByteArray := prog_43_method_86_code
def yJ8_inflate : MethodName := ⟨RJ8, "inflate", "([BI[BII)V"⟩
abbrev cJ8_checkBoundsOffCount : ByteArray := prog_43_method_94_code
def yJ8_checkBoundsOffCount : MethodName := ⟨RJ8, "checkBoundsOffCount", "(II[B)V"⟩
abbrev cJ8_putCharSB : ByteArray := prog_43_method_71_code
def yJ8_putCharSB : MethodName := ⟨RJ8, "putCharSB", "([BII)V"⟩
abbrev cJ8_checkIndex : ByteArray := prog_43_method_91_code
def yJ8_checkIndex : MethodName := ⟨RJ8, "checkIndex", "(I[B)V"⟩
abbrev cJ8_putCharsAt : ByteArray := prog_43_method_81_code
def yJ8_putCharsAt : MethodName := ⟨RJ8, "putCharsAt", "([BICCCC)I"⟩
abbrev cJ8_compress : ByteArray := prog_43_method_17_code
def yJ8_compress : MethodName := ⟨RJ8, "compress", "([BII)[B"⟩
abbrev cJ8_compress_2 : ByteArray := prog_43_method_22_code
def yJ8_compress_2 : MethodName := ⟨RJ8, "compress", "([BI[BII)I"⟩
abbrev cJ8_getChar : ByteArray := prog_43_method_5_code
def yJ8_getChar : MethodName := ⟨RJ8, "getChar", "([BI)C"⟩
abbrev cJ8_coderFromArrayLen : ByteArray := prog_43_method_15_code
def yJ8_coderFromArrayLen : MethodName := ⟨RJ8, "coderFromArrayLen", "([BI)B"⟩
abbrev cJ8_charAt : ByteArray := prog_43_method_83_code
def yJ8_charAt : MethodName := ⟨RJ8, "charAt", "([BI)C"⟩
abbrev cJ8_fillNull : ByteArray := prog_43_method_70_code
def yJ8_fillNull : MethodName := ⟨RJ8, "fillNull", "([BII)V"⟩
theorem q84 : (Jvm.Cond.initialized "java/lang/StringUTF16") ∈ lw_all := lw_g (lw_at lw_m1 12 rfl) rfl
theorem q231 : (Jvm.Cond.static ({ cls := "java/lang/StringUTF16", name := "newBytesFor", desc := "(I)[B" } : Jvm.MethodName)) ∈ lw_all := lw_g (lw_at lw_m1 159 rfl) rfl
theorem q232 : (Jvm.Cond.code ({ cls := "java/lang/StringUTF16", name := "newBytesFor", desc := "(I)[B" } : Jvm.MethodName) prog_43_method_2_code (1 : Nat) (Option.some (Jvm.ClassFile.FieldType.array Jvm.ClassFile.FieldType.byte))) ∈ lw_all := lw_g (lw_at lw_m1 160 rfl) rfl
theorem q233 : (Jvm.Cond.methodLink "java/lang/StringUTF16" (11 : Nat) ({ cls := "java/lang/StringUTF16", name := "newBytesLength", desc := "(I)I" } : Jvm.MethodName)) ∈ lw_all := lw_g (lw_at lw_m1 161 rfl) rfl
theorem q234 : (Jvm.Cond.static ({ cls := "java/lang/StringUTF16", name := "newBytesLength", desc := "(I)I" } : Jvm.MethodName)) ∈ lw_all := lw_g (lw_at lw_m1 162 rfl) rfl
theorem q235 : (Jvm.Cond.code ({ cls := "java/lang/StringUTF16", name := "newBytesLength", desc := "(I)I" } : Jvm.MethodName) prog_43_method_3_code (1 : Nat) (Option.some Jvm.ClassFile.FieldType.int)) ∈ lw_all := lw_g (lw_at lw_m1 163 rfl) rfl
theorem q236 : (Jvm.Cond.constant "java/lang/StringUTF16" (20 : Nat) (1073741823 : Int32)) ∈ lw_all := lw_g (lw_at lw_m1 164 rfl) rfl
theorem q1456 : (Jvm.Cond.static ({ cls := "java/lang/StringUTF16", name := "getChars", desc := "(III[B)I" } : Jvm.MethodName)) ∈ lw_all := lw_g (lw_at lw_m6 184 rfl) rfl
theorem q1457 : (Jvm.Cond.code ({ cls := "java/lang/StringUTF16", name := "getChars", desc := "(III[B)I" } : Jvm.MethodName) prog_43_method_77_code (5 : Nat) (Option.some Jvm.ClassFile.FieldType.int)) ∈ lw_all := lw_g (lw_at lw_m6 185 rfl) rfl
theorem q1458 : (Jvm.Cond.methodLink "java/lang/StringUTF16" (96 : Nat) ({ cls := "java/lang/StringUTF16", name := "checkBoundsBeginEnd", desc := "(II[B)V" } : Jvm.MethodName)) ∈ lw_all := lw_g (lw_at lw_m6 186 rfl) rfl
theorem q1459 : (Jvm.Cond.static ({ cls := "java/lang/StringUTF16", name := "checkBoundsBeginEnd", desc := "(II[B)V" } : Jvm.MethodName)) ∈ lw_all := lw_g (lw_at lw_m6 187 rfl) rfl
theorem q1460 : (Jvm.Cond.code ({ cls := "java/lang/StringUTF16", name := "checkBoundsBeginEnd", desc := "(II[B)V" } : Jvm.MethodName) prog_43_method_93_code (3 : Nat) (Option.none : Option Jvm.ClassFile.FieldType)) ∈ lw_all := lw_g (lw_at lw_m6 188 rfl) rfl
theorem q1461 : (Jvm.Cond.methodLink "java/lang/StringUTF16" (48 : Nat) ({ cls := "java/lang/StringUTF16", name := "length", desc := "([B)I" } : Jvm.MethodName)) ∈ lw_all := lw_g (lw_at lw_m6 189 rfl) rfl
theorem q1462 : (Jvm.Cond.static ({ cls := "java/lang/StringUTF16", name := "length", desc := "([B)I" } : Jvm.MethodName)) ∈ lw_all := lw_g (lw_at lw_m6 190 rfl) rfl
theorem q1463 : (Jvm.Cond.code ({ cls := "java/lang/StringUTF16", name := "length", desc := "([B)I" } : Jvm.MethodName) prog_43_method_6_code (1 : Nat) (Option.some Jvm.ClassFile.FieldType.int)) ∈ lw_all := lw_g (lw_at lw_m6 191 rfl) rfl
theorem q1464 : (Jvm.Cond.methodLink "java/lang/StringUTF16" (241 : Nat) ({ cls := "java/lang/String", name := "checkBoundsBeginEnd", desc := "(III)V" } : Jvm.MethodName)) ∈ lw_all := lw_g (lw_at lw_m6 192 rfl) rfl
theorem q1472 : (Jvm.Cond.methodLink "java/lang/StringUTF16" (393 : Nat) ({ cls := "java/lang/StringUTF16", name := "getChars", desc := "(II[B)I" } : Jvm.MethodName)) ∈ lw_all := lw_g (lw_at lw_m6 200 rfl) rfl
theorem q1473 : (Jvm.Cond.static ({ cls := "java/lang/StringUTF16", name := "getChars", desc := "(II[B)I" } : Jvm.MethodName)) ∈ lw_all := lw_g (lw_at lw_m6 201 rfl) rfl
theorem q1474 : (Jvm.Cond.code ({ cls := "java/lang/StringUTF16", name := "getChars", desc := "(II[B)I" } : Jvm.MethodName) prog_43_method_89_code (7 : Nat) (Option.some Jvm.ClassFile.FieldType.int)) ∈ lw_all := lw_g (lw_at lw_m6 202 rfl) rfl
theorem q1475 : (Jvm.Cond.fieldLink "java/lang/StringUTF16" (403 : Nat) "java/lang/Integer" "DigitOnes" "[B") ∈ lw_all := lw_g (lw_at lw_m6 203 rfl) rfl
theorem q1476 : (Jvm.Cond.methodLink "java/lang/StringUTF16" (111 : Nat) ({ cls := "java/lang/StringUTF16", name := "putChar", desc := "([BII)V" } : Jvm.MethodName)) ∈ lw_all := lw_g (lw_at lw_m6 204 rfl) rfl
theorem q1477 : (Jvm.Cond.static ({ cls := "java/lang/StringUTF16", name := "putChar", desc := "([BII)V" } : Jvm.MethodName)) ∈ lw_all := lw_g (lw_at lw_m6 205 rfl) rfl
theorem q1478 : (Jvm.Cond.code ({ cls := "java/lang/StringUTF16", name := "putChar", desc := "([BII)V" } : Jvm.MethodName) prog_43_method_4_code (3 : Nat) (Option.none : Option Jvm.ClassFile.FieldType)) ∈ lw_all := lw_g (lw_at lw_m6 206 rfl) rfl
theorem q1479 : (Jvm.Cond.fieldLink "java/lang/StringUTF16" (44 : Nat) "java/lang/StringUTF16" "$assertionsDisabled" "Z") ∈ lw_all := lw_g (lw_at lw_m6 207 rfl) rfl
theorem q1480 : (Jvm.Cond.laysStatic "java/lang/StringUTF16" "$assertionsDisabled" "Z") ∈ lw_tbl := lw_at lw_m6 208 rfl
theorem q1481 : (Jvm.Cond.fieldLink "java/lang/StringUTF16" (59 : Nat) "java/lang/StringUTF16" "HI_BYTE_SHIFT" "I") ∈ lw_all := lw_g (lw_at lw_m6 209 rfl) rfl
theorem q1482 : (Jvm.Cond.laysStatic "java/lang/StringUTF16" "HI_BYTE_SHIFT" "I") ∈ lw_tbl := lw_at lw_m6 210 rfl
theorem q1483 : (Jvm.Cond.fieldLink "java/lang/StringUTF16" (63 : Nat) "java/lang/StringUTF16" "LO_BYTE_SHIFT" "I") ∈ lw_all := lw_g (lw_at lw_m6 211 rfl) rfl
theorem q1484 : (Jvm.Cond.laysStatic "java/lang/StringUTF16" "LO_BYTE_SHIFT" "I") ∈ lw_tbl := lw_at lw_m6 212 rfl
theorem q1485 : (Jvm.Cond.fieldLink "java/lang/StringUTF16" (407 : Nat) "java/lang/Integer" "DigitTens" "[B") ∈ lw_all := lw_g (lw_at lw_m6 213 rfl) rfl
theorem q1504 : (Jvm.Cond.static ({ cls := "java/lang/StringUTF16", name := "inflate", desc := "([BI[BII)V" } : Jvm.MethodName)) ∈ lw_all := lw_g (lw_at lw_m6 232 rfl) rfl
theorem q1505 : (Jvm.Cond.code ({ cls := "java/lang/StringUTF16", name := "inflate", desc := "([BI[BII)V" } : Jvm.MethodName) prog_43_method_86_code (6 : Nat) (Option.none : Option Jvm.ClassFile.FieldType)) ∈ lw_all := lw_g (lw_at lw_m6 233 rfl) rfl
theorem q1506 : (Jvm.Cond.methodLink "java/lang/StringUTF16" (173 : Nat) ({ cls := "java/lang/StringUTF16", name := "checkBoundsOffCount", desc := "(II[B)V" } : Jvm.MethodName)) ∈ lw_all := lw_g (lw_at lw_m6 234 rfl) rfl
theorem q1507 : (Jvm.Cond.static ({ cls := "java/lang/StringUTF16", name := "checkBoundsOffCount", desc := "(II[B)V" } : Jvm.MethodName)) ∈ lw_all := lw_g (lw_at lw_m6 235 rfl) rfl
theorem q1508 : (Jvm.Cond.code ({ cls := "java/lang/StringUTF16", name := "checkBoundsOffCount", desc := "(II[B)V" } : Jvm.MethodName) prog_43_method_94_code (3 : Nat) (Option.none : Option Jvm.ClassFile.FieldType)) ∈ lw_all := lw_g (lw_at lw_m6 236 rfl) rfl
theorem q1509 : (Jvm.Cond.methodLink "java/lang/StringUTF16" (419 : Nat) ({ cls := "java/lang/String", name := "checkBoundsOffCount", desc := "(III)I" } : Jvm.MethodName)) ∈ lw_all := lw_g (lw_at lw_m6 237 rfl) rfl
theorem q1516 : (Jvm.Cond.static ({ cls := "java/lang/StringUTF16", name := "putCharSB", desc := "([BII)V" } : Jvm.MethodName)) ∈ lw_all := lw_g (lw_at lw_m7 4 rfl) rfl
theorem q1517 : (Jvm.Cond.code ({ cls := "java/lang/StringUTF16", name := "putCharSB", desc := "([BII)V" } : Jvm.MethodName) prog_43_method_71_code (3 : Nat) (Option.none : Option Jvm.ClassFile.FieldType)) ∈ lw_all := lw_g (lw_at lw_m7 5 rfl) rfl
theorem q1518 : (Jvm.Cond.methodLink "java/lang/StringUTF16" (67 : Nat) ({ cls := "java/lang/StringUTF16", name := "checkIndex", desc := "(I[B)V" } : Jvm.MethodName)) ∈ lw_all := lw_g (lw_at lw_m7 6 rfl) rfl
theorem q1519 : (Jvm.Cond.static ({ cls := "java/lang/StringUTF16", name := "checkIndex", desc := "(I[B)V" } : Jvm.MethodName)) ∈ lw_all := lw_g (lw_at lw_m7 7 rfl) rfl
theorem q1520 : (Jvm.Cond.code ({ cls := "java/lang/StringUTF16", name := "checkIndex", desc := "(I[B)V" } : Jvm.MethodName) prog_43_method_91_code (2 : Nat) (Option.none : Option Jvm.ClassFile.FieldType)) ∈ lw_all := lw_g (lw_at lw_m7 8 rfl) rfl
theorem q1521 : (Jvm.Cond.methodLink "java/lang/StringUTF16" (414 : Nat) ({ cls := "java/lang/String", name := "checkIndex", desc := "(II)V" } : Jvm.MethodName)) ∈ lw_all := lw_g (lw_at lw_m7 9 rfl) rfl
theorem q1545 : (Jvm.Cond.static ({ cls := "java/lang/StringUTF16", name := "putCharsAt", desc := "([BICCCC)I" } : Jvm.MethodName)) ∈ lw_all := lw_g (lw_at lw_m7 33 rfl) rfl
theorem q1546 : (Jvm.Cond.code ({ cls := "java/lang/StringUTF16", name := "putCharsAt", desc := "([BICCCC)I" } : Jvm.MethodName) prog_43_method_81_code (7 : Nat) (Option.some Jvm.ClassFile.FieldType.int)) ∈ lw_all := lw_g (lw_at lw_m7 34 rfl) rfl
theorem q1617 : (Jvm.Cond.static ({ cls := "java/lang/StringUTF16", name := "compress", desc := "([BII)[B" } : Jvm.MethodName)) ∈ lw_all := lw_g (lw_at lw_m7 105 rfl) rfl
theorem q1618 : (Jvm.Cond.code ({ cls := "java/lang/StringUTF16", name := "compress", desc := "([BII)[B" } : Jvm.MethodName) prog_43_method_17_code (6 : Nat) (Option.some (Jvm.ClassFile.FieldType.array Jvm.ClassFile.FieldType.byte))) ∈ lw_all := lw_g (lw_at lw_m7 106 rfl) rfl
theorem q1619 : (Jvm.Cond.methodLink "java/lang/StringUTF16" (123 : Nat) ({ cls := "java/lang/StringUTF16", name := "compress", desc := "([BI[BII)I" } : Jvm.MethodName)) ∈ lw_all := lw_g (lw_at lw_m7 107 rfl) rfl
theorem q1620 : (Jvm.Cond.static ({ cls := "java/lang/StringUTF16", name := "compress", desc := "([BI[BII)I" } : Jvm.MethodName)) ∈ lw_all := lw_g (lw_at lw_m7 108 rfl) rfl
theorem q1621 : (Jvm.Cond.code ({ cls := "java/lang/StringUTF16", name := "compress", desc := "([BI[BII)I" } : Jvm.MethodName) prog_43_method_22_code (7 : Nat) (Option.some Jvm.ClassFile.FieldType.int)) ∈ lw_all := lw_g (lw_at lw_m7 109 rfl) rfl
theorem q1622 : (Jvm.Cond.methodLink "java/lang/StringUTF16" (71 : Nat) ({ cls := "java/lang/StringUTF16", name := "getChar", desc := "([BI)C" } : Jvm.MethodName)) ∈ lw_all := lw_g (lw_at lw_m7 110 rfl) rfl
theorem q1623 : (Jvm.Cond.static ({ cls := "java/lang/StringUTF16", name := "getChar", desc := "([BI)C" } : Jvm.MethodName)) ∈ lw_all := lw_g (lw_at lw_m7 111 rfl) rfl
theorem q1624 : (Jvm.Cond.code ({ cls := "java/lang/StringUTF16", name := "getChar", desc := "([BI)C" } : Jvm.MethodName) prog_43_method_5_code (2 : Nat) (Option.some Jvm.ClassFile.FieldType.char)) ∈ lw_all := lw_g (lw_at lw_m7 112 rfl) rfl
theorem q1625 : (Jvm.Cond.methodLink "java/lang/StringUTF16" (126 : Nat) ({ cls := "java/util/Arrays", name := "copyOfRange", desc := "([BII)[B" } : Jvm.MethodName)) ∈ lw_all := lw_g (lw_at lw_m7 113 rfl) rfl
theorem q1627 : (Jvm.Cond.static ({ cls := "java/lang/StringUTF16", name := "coderFromArrayLen", desc := "([BI)B" } : Jvm.MethodName)) ∈ lw_all := lw_g (lw_at lw_m7 115 rfl) rfl
theorem q1628 : (Jvm.Cond.code ({ cls := "java/lang/StringUTF16", name := "coderFromArrayLen", desc := "([BI)B" } : Jvm.MethodName) prog_43_method_15_code (2 : Nat) (Option.some Jvm.ClassFile.FieldType.byte)) ∈ lw_all := lw_g (lw_at lw_m7 116 rfl) rfl
theorem q1659 : (Jvm.Cond.static ({ cls := "java/lang/StringUTF16", name := "charAt", desc := "([BI)C" } : Jvm.MethodName)) ∈ lw_all := lw_g (lw_at lw_m7 147 rfl) rfl
theorem q1660 : (Jvm.Cond.code ({ cls := "java/lang/StringUTF16", name := "charAt", desc := "([BI)C" } : Jvm.MethodName) prog_43_method_83_code (2 : Nat) (Option.some Jvm.ClassFile.FieldType.char)) ∈ lw_all := lw_g (lw_at lw_m7 148 rfl) rfl
theorem q1728 : (Jvm.Cond.static ({ cls := "java/lang/StringUTF16", name := "fillNull", desc := "([BII)V" } : Jvm.MethodName)) ∈ lw_all := lw_g (lw_at lw_m7 216 rfl) rfl
theorem q1729 : (Jvm.Cond.code ({ cls := "java/lang/StringUTF16", name := "fillNull", desc := "([BII)V" } : Jvm.MethodName) prog_43_method_70_code (3 : Nat) (Option.none : Option Jvm.ClassFile.FieldType)) ∈ lw_all := lw_g (lw_at lw_m7 217 rfl) rfl
theorem q1730 : (Jvm.Cond.methodLink "java/lang/StringUTF16" (380 : Nat) ({ cls := "java/util/Arrays", name := "fill", desc := "([BIIB)V" } : Jvm.MethodName)) ∈ lw_all := lw_g (lw_at lw_m7 218 rfl) rfl
/-! PuddleBoatyardModel -/
def RX4 : String := "PuddleBoatyardModel"
def TX4 : u_T := fun k => match k with
  | 0 => ("PuddleBoatyardModel", "m", "[I", true)
  | 1 => ("PuddleBoatyardModel", "aside", "[I", true)
  | 2 => ("PuddleBoatyardModel", "saved", "[I", true)
  | 3 => ("PuddleBoatyardModel", "isSaved", "Z", false)
  | 4 => ("PuddleBoatyardModel", "past", "[I", true)
  | 5 => ("PuddleBoatyardModel", "changes", "I", false)
  | 6 => ("PuddleBoatyardModel", "errorAt", "I", false)
  | 7 => ("PuddleBoatyardModel", "failed", "I", false)
  | 8 => ("PuddleBoatyardModel", "refusal", "I", false)
  | 9 => ("PuddleBoatyardModel", "thrown", "I", false)
  | 10 => ("PuddleBoatyardModel", "input", "[I", true)
  | 11 => ("PuddleBoatyardModel", "inputMany", "I", false)
  | 12 => ("PuddleBoatyardModel", "caulks", "[I", true)
  | 13 => ("PuddleBoatyardModel", "most", "I", false)
  | 14 => ("PuddleBoatyardModel", "uses", "J", false)
  | 15 => ("PuddleBoatyardModel", "line", "[I", true)
  | 16 => ("PuddleBoatyardModel", "lineMany", "I", false)
  | 17 => ("PuddleBoatyardModel", "letters", "[C", true)
  | 18 => ("PuddleBoatyardModel", "begins0", "[I", true)
  | 19 => ("PuddleBoatyardModel", "commands", "[I", true)
  | 20 => ("PuddleBoatyardModel", "commandMany", "I", false)
  | 21 => ("PuddleBoatyardModel", "place0", "I", false)
  | 22 => ("PuddleBoatyardModel", "size0", "I", false)
  | _ => ("PuddleBoatyardModel", "isWrong", "Z", false)
def tyX4 : Nat → FieldType := fun k => match k with
  | 0 => .array .int
  | 1 => .array .int
  | 2 => .array .int
  | 3 => .boolean
  | 4 => .array .int
  | 5 => .int
  | 6 => .int
  | 7 => .int
  | 8 => .int
  | 9 => .int
  | 10 => .array .int
  | 11 => .int
  | 12 => .array .int
  | 13 => .int
  | 14 => .long
  | 15 => .array .int
  | 16 => .int
  | 17 => .array .char
  | 18 => .array .int
  | 19 => .array .int
  | 20 => .int
  | 21 => .int
  | 22 => .int
  | _ => .boolean
abbrev wsX40 : List Cond := u_ws RX4 TX4 24
theorem nmX4 : ∀ a, a < 24 → ∀ b, b < 24 → a ≠ b → (TX4 a).2.1 ≠ (TX4 b).2.1 := by decide +kernel
theorem tyX4_ok : ∀ k, k < 24 → parseFieldDescriptor (TX4 k).2.2.1 = some (tyX4 k) := by decide +kernel
abbrev cX4_init : ByteArray := prog_19_method_1_code
def yX4_init : MethodName := ⟨RX4, "<init>", "()V"⟩
abbrev cX4_thrown : ByteArray := prog_19_method_2_code
def yX4_thrown : MethodName := ⟨RX4, "thrown", "()I"⟩
abbrev cX4_beginHull : ByteArray := prog_19_method_22_code
def yX4_beginHull : MethodName := ⟨RX4, "beginHull", "()I"⟩
abbrev cX4_starts : ByteArray := prog_19_method_5_code
def yX4_starts : MethodName := ⟨RX4, "starts", "()V"⟩
abbrev cX4_hullIt : ByteArray := prog_19_method_21_code
def yX4_hullIt : MethodName := ⟨RX4, "hullIt", "()I"⟩
abbrev cX4_throwing : ByteArray := prog_19_method_3_code
def yX4_throwing : MethodName := ⟨RX4, "throwing", "(I)I"⟩
abbrev cX4_changed : ByteArray := prog_19_method_6_code
def yX4_changed : MethodName := ⟨RX4, "changed", "(I)I"⟩
abbrev cX4_addFrame : ByteArray := prog_19_method_24_code
def yX4_addFrame : MethodName := ⟨RX4, "addFrame", "(III)I"⟩
abbrev cX4_frameIt : ByteArray := prog_19_method_23_code
def yX4_frameIt : MethodName := ⟨RX4, "frameIt", "(III)I"⟩
abbrev cX4_isHull : ByteArray := prog_19_method_8_code
def yX4_isHull : MethodName := ⟨RX4, "isHull", "(I)Z"⟩
abbrev cX4_in : ByteArray := prog_19_method_4_code
def yX4_in : MethodName := ⟨RX4, "in", "(JJJ)Z"⟩
abbrev cX4_state : ByteArray := prog_19_method_9_code
def yX4_state : MethodName := ⟨RX4, "state", "(I)I"⟩
abbrev cX4_hullAt : ByteArray := prog_19_method_7_code
def yX4_hullAt : MethodName := ⟨RX4, "hullAt", "(I)I"⟩
abbrev cX4_frames : ByteArray := prog_19_method_10_code
def yX4_frames : MethodName := ⟨RX4, "frames", "(I)I"⟩
abbrev cX4_mirror : ByteArray := prog_19_method_26_code
def yX4_mirror : MethodName := ⟨RX4, "mirror", "(I)I"⟩
abbrev cX4_mirrorIt : ByteArray := prog_19_method_25_code
def yX4_mirrorIt : MethodName := ⟨RX4, "mirrorIt", "(I)I"⟩
abbrev cX4_width : ByteArray := prog_19_method_11_code
def yX4_width : MethodName := ⟨RX4, "width", "(III)I"⟩
abbrev cX4_setCargo : ByteArray := prog_19_method_28_code
def yX4_setCargo : MethodName := ⟨RX4, "setCargo", "(II)I"⟩
abbrev cX4_cargoIt : ByteArray := prog_19_method_27_code
def yX4_cargoIt : MethodName := ⟨RX4, "cargoIt", "(II)I"⟩
abbrev cX4_isWorked : ByteArray := prog_19_method_16_code
def yX4_isWorked : MethodName := ⟨RX4, "isWorked", "(I)Z"⟩
abbrev cX4_launch : ByteArray := prog_19_method_30_code
def yX4_launch : MethodName := ⟨RX4, "launch", "(I)I"⟩
abbrev cX4_launchIt : ByteArray := prog_19_method_29_code
def yX4_launchIt : MethodName := ⟨RX4, "launchIt", "(I)I"⟩
abbrev cX4_weight : ByteArray := prog_19_method_14_code
def yX4_weight : MethodName := ⟨RX4, "weight", "(I)I"⟩
abbrev cX4_dry : ByteArray := prog_19_method_13_code
def yX4_dry : MethodName := ⟨RX4, "dry", "(I)I"⟩
abbrev cX4_draught : ByteArray := prog_19_method_15_code
def yX4_draught : MethodName := ⟨RX4, "draught", "(II)I"⟩
abbrev cX4_seams : ByteArray := prog_19_method_12_code
def yX4_seams : MethodName := ⟨RX4, "seams", "(I)I"⟩
abbrev cX4_tide : ByteArray := prog_19_method_18_code
def yX4_tide : MethodName := ⟨RX4, "tide", "(I)I"⟩
abbrev cX4_caulk : ByteArray := prog_19_method_32_code
def yX4_caulk : MethodName := ⟨RX4, "caulk", "(II)I"⟩
abbrev cX4_caulkIt : ByteArray := prog_19_method_31_code
def yX4_caulkIt : MethodName := ⟨RX4, "caulkIt", "(II)I"⟩
abbrev cX4_isSeam : ByteArray := prog_19_method_17_code
def yX4_isSeam : MethodName := ⟨RX4, "isSeam", "(II)Z"⟩
abbrev cX4_pump : ByteArray := prog_19_method_34_code
def yX4_pump : MethodName := ⟨RX4, "pump", "(II)I"⟩
abbrev cX4_pumpIt : ByteArray := prog_19_method_33_code
def yX4_pumpIt : MethodName := ⟨RX4, "pumpIt", "(II)I"⟩
abbrev cX4_setTide : ByteArray := prog_19_method_36_code
def yX4_setTide : MethodName := ⟨RX4, "setTide", "(II)I"⟩
abbrev cX4_tideIt : ByteArray := prog_19_method_35_code
def yX4_tideIt : MethodName := ⟨RX4, "tideIt", "(II)I"⟩
abbrev cX4_pass : ByteArray := prog_19_method_39_code
def yX4_pass : MethodName := ⟨RX4, "pass", "(I)I"⟩
abbrev cX4_hoursIt : ByteArray := prog_19_method_38_code
def yX4_hoursIt : MethodName := ⟨RX4, "hoursIt", "(I)I"⟩
abbrev cX4_passesHour : ByteArray := prog_19_method_37_code
def yX4_passesHour : MethodName := ⟨RX4, "passesHour", "()I"⟩
abbrev cX4_setSlip : ByteArray := prog_19_method_40_code
def yX4_setSlip : MethodName := ⟨RX4, "setSlip", "(II)I"⟩
abbrev cX4_addOrder : ByteArray := prog_19_method_42_code
def yX4_addOrder : MethodName := ⟨RX4, "addOrder", "(III)I"⟩
abbrev cX4_orderIt : ByteArray := prog_19_method_41_code
def yX4_orderIt : MethodName := ⟨RX4, "orderIt", "(III)I"⟩
abbrev cX4_deliver : ByteArray := prog_19_method_44_code
def yX4_deliver : MethodName := ⟨RX4, "deliver", "(II)I"⟩
abbrev cX4_deliverIt : ByteArray := prog_19_method_43_code
def yX4_deliverIt : MethodName := ⟨RX4, "deliverIt", "(II)I"⟩
abbrev cX4_find : ByteArray := prog_19_method_19_code
def yX4_find : MethodName := ⟨RX4, "find", "(I)I"⟩
abbrev cX4_coins : ByteArray := prog_19_method_20_code
def yX4_coins : MethodName := ⟨RX4, "coins", "(I)I"⟩
abbrev cX4_hullCount : ByteArray := prog_19_method_45_code
def yX4_hullCount : MethodName := ⟨RX4, "hullCount", "()I"⟩
abbrev cX4_stateOf : ByteArray := prog_19_method_47_code
def yX4_stateOf : MethodName := ⟨RX4, "stateOf", "(I)I"⟩
abbrev cX4_ofHull : ByteArray := prog_19_method_46_code
def yX4_ofHull : MethodName := ⟨RX4, "ofHull", "(II)I"⟩
abbrev cX4_frameCount : ByteArray := prog_19_method_48_code
def yX4_frameCount : MethodName := ⟨RX4, "frameCount", "(I)I"⟩
abbrev cX4_widthOf : ByteArray := prog_19_method_49_code
def yX4_widthOf : MethodName := ⟨RX4, "widthOf", "(IIZ)I"⟩
abbrev cX4_caulkingOf : ByteArray := prog_19_method_50_code
def yX4_caulkingOf : MethodName := ⟨RX4, "caulkingOf", "(II)I"⟩
abbrev cX4_waterIn : ByteArray := prog_19_method_51_code
def yX4_waterIn : MethodName := ⟨RX4, "waterIn", "(I)I"⟩
abbrev cX4_weightOf : ByteArray := prog_19_method_52_code
def yX4_weightOf : MethodName := ⟨RX4, "weightOf", "(I)I"⟩
abbrev cX4_draughtOf : ByteArray := prog_19_method_53_code
def yX4_draughtOf : MethodName := ⟨RX4, "draughtOf", "(I)I"⟩
abbrev cX4_draughtByHalving : ByteArray := prog_19_method_54_code
def yX4_draughtByHalving : MethodName := ⟨RX4, "draughtByHalving", "(I)I"⟩
abbrev cX4_heelOf : ByteArray := prog_19_method_55_code
def yX4_heelOf : MethodName := ⟨RX4, "heelOf", "(I)I"⟩
abbrev cX4_hullAtRank : ByteArray := prog_19_method_56_code
def yX4_hullAtRank : MethodName := ⟨RX4, "hullAtRank", "(I)I"⟩
abbrev cX4_isSymmetric : ByteArray := prog_19_method_59_code
def yX4_isSymmetric : MethodName := ⟨RX4, "isSymmetric", "(I)Z"⟩
abbrev cX4_isReflectionOf : ByteArray := prog_19_method_60_code
def yX4_isReflectionOf : MethodName := ⟨RX4, "isReflectionOf", "(II)Z"⟩
abbrev cX4_isReflection : ByteArray := prog_19_method_58_code
def yX4_isReflection : MethodName := ⟨RX4, "isReflection", "(II)Z"⟩
abbrev cX4_isMirrored : ByteArray := prog_19_method_57_code
def yX4_isMirrored : MethodName := ⟨RX4, "isMirrored", "(IIII)Z"⟩
abbrev cX4_commonStretch : ByteArray := prog_19_method_61_code
def yX4_commonStretch : MethodName := ⟨RX4, "commonStretch", "(II)I"⟩
abbrev cX4_commonStretchByTrying : ByteArray := prog_19_method_62_code
def yX4_commonStretchByTrying : MethodName := ⟨RX4, "commonStretchByTrying", "(II)I"⟩
abbrev cX4_hour : ByteArray := prog_19_method_63_code
def yX4_hour : MethodName := ⟨RX4, "hour", "()I"⟩
abbrev cX4_tideAfter : ByteArray := prog_19_method_64_code
def yX4_tideAfter : MethodName := ⟨RX4, "tideAfter", "(I)I"⟩
abbrev cX4_hoursToLaunch : ByteArray := prog_19_method_65_code
def yX4_hoursToLaunch : MethodName := ⟨RX4, "hoursToLaunch", "(I)I"⟩
abbrev cX4_hoursToLaunchByTides : ByteArray := prog_19_method_66_code
def yX4_hoursToLaunchByTides : MethodName := ⟨RX4, "hoursToLaunchByTides", "(I)I"⟩
abbrev cX4_hoursToSinking : ByteArray := prog_19_method_67_code
def yX4_hoursToSinking : MethodName := ⟨RX4, "hoursToSinking", "(I)I"⟩
abbrev cX4_slipLength : ByteArray := prog_19_method_68_code
def yX4_slipLength : MethodName := ⟨RX4, "slipLength", "(I)I"⟩
abbrev cX4_mostOnSlips : ByteArray := prog_19_method_71_code
def yX4_mostOnSlips : MethodName := ⟨RX4, "mostOnSlips", "()I"⟩
abbrev cX4_worksUses : ByteArray := prog_19_method_70_code
def yX4_worksUses : MethodName := ⟨RX4, "worksUses", "()V"⟩
abbrev cX4_useOf : ByteArray := prog_19_method_69_code
def yX4_useOf : MethodName := ⟨RX4, "useOf", "(I)I"⟩
abbrev cX4_mostOnSlipsByLengths : ByteArray := prog_19_method_72_code
def yX4_mostOnSlipsByLengths : MethodName := ⟨RX4, "mostOnSlipsByLengths", "()I"⟩
abbrev cX4_bestUses : ByteArray := prog_19_method_73_code
def yX4_bestUses : MethodName := ⟨RX4, "bestUses", "()I"⟩
abbrev cX4_orderCount : ByteArray := prog_19_method_74_code
def yX4_orderCount : MethodName := ⟨RX4, "orderCount", "()I"⟩
abbrev cX4_orderAt : ByteArray := prog_19_method_75_code
def yX4_orderAt : MethodName := ⟨RX4, "orderAt", "(I)I"⟩
abbrev cX4_coinsFor : ByteArray := prog_19_method_76_code
def yX4_coinsFor : MethodName := ⟨RX4, "coinsFor", "(I)I"⟩
abbrev cX4_bestDelivery : ByteArray := prog_19_method_78_code
def yX4_bestDelivery : MethodName := ⟨RX4, "bestDelivery", "()I"⟩
abbrev cX4_before : ByteArray := prog_19_method_77_code
def yX4_before : MethodName := ⟨RX4, "before", "(I)I"⟩
abbrev cX4_paidCoins : ByteArray := prog_19_method_79_code
def yX4_paidCoins : MethodName := ⟨RX4, "paidCoins", "()J"⟩
abbrev cX4_hullsIn : ByteArray := prog_19_method_80_code
def yX4_hullsIn : MethodName := ⟨RX4, "hullsIn", "(I)I"⟩
abbrev cX4_refusalReason : ByteArray := prog_19_method_81_code
def yX4_refusalReason : MethodName := ⟨RX4, "refusalReason", "()I"⟩
abbrev cX4_meanWeight : ByteArray := prog_19_method_82_code
def yX4_meanWeight : MethodName := ⟨RX4, "meanWeight", "()D"⟩
abbrev cX4_writeHull : ByteArray := prog_19_method_85_code
def yX4_writeHull : MethodName := ⟨RX4, "writeHull", "(I)I"⟩
abbrev cX4_writesNumber : ByteArray := prog_19_method_84_code
def yX4_writesNumber : MethodName := ⟨RX4, "writesNumber", "(I)V"⟩
abbrev cX4_sign : ByteArray := prog_19_method_83_code
def yX4_sign : MethodName := ⟨RX4, "sign", "(I)V"⟩
abbrev cX4_lineAt : ByteArray := prog_19_method_86_code
def yX4_lineAt : MethodName := ⟨RX4, "lineAt", "(I)C"⟩
abbrev cX4_type : ByteArray := prog_19_method_87_code
def yX4_type : MethodName := ⟨RX4, "type", "(C)I"⟩
abbrev cX4_execute : ByteArray := prog_19_method_98_code
def yX4_execute : MethodName := ⟨RX4, "execute", "()I"⟩
abbrev cX4_readCommand : ByteArray := prog_19_method_96_code
def yX4_readCommand : MethodName := ⟨RX4, "readCommand", "()V"⟩
abbrev cX4_likeness : ByteArray := prog_19_method_94_code
def yX4_likeness : MethodName := ⟨RX4, "likeness", "(I)I"⟩
abbrev cX4_readArguments : ByteArray := prog_19_method_95_code
def yX4_readArguments : MethodName := ⟨RX4, "readArguments", "(II)V"⟩
abbrev cX4_number : ByteArray := prog_19_method_91_code
def yX4_number : MethodName := ⟨RX4, "number", "()I"⟩
abbrev cX4_digit : ByteArray := prog_19_method_90_code
def yX4_digit : MethodName := ⟨RX4, "digit", "()I"⟩
abbrev cX4_here : ByteArray := prog_19_method_88_code
def yX4_here : MethodName := ⟨RX4, "here", "()I"⟩
abbrev cX4_numberBehind : ByteArray := prog_19_method_93_code
def yX4_numberBehind : MethodName := ⟨RX4, "numberBehind", "(I)I"⟩
abbrev cX4_expects : ByteArray := prog_19_method_89_code
def yX4_expects : MethodName := ⟨RX4, "expects", "(I)V"⟩
abbrev cX4_digitBehind : ByteArray := prog_19_method_92_code
def yX4_digitBehind : MethodName := ⟨RX4, "digitBehind", "()I"⟩
abbrev cX4_does : ByteArray := prog_19_method_97_code
def yX4_does : MethodName := ⟨RX4, "does", "(I)V"⟩
abbrev cX4_errorPosition : ByteArray := prog_19_method_99_code
def yX4_errorPosition : MethodName := ⟨RX4, "errorPosition", "()I"⟩
abbrev cX4_failedCommand : ByteArray := prog_19_method_100_code
def yX4_failedCommand : MethodName := ⟨RX4, "failedCommand", "()I"⟩
abbrev cX4_undo : ByteArray := prog_19_method_101_code
def yX4_undo : MethodName := ⟨RX4, "undo", "()I"⟩
abbrev cX4_save : ByteArray := prog_19_method_102_code
def yX4_save : MethodName := ⟨RX4, "save", "()I"⟩
abbrev cX4_restore : ByteArray := prog_19_method_103_code
def yX4_restore : MethodName := ⟨RX4, "restore", "()I"⟩
theorem q85 : (Jvm.Cond.initialized "PuddleBoatyardModel") ∈ lw_all := lw_g (lw_at lw_m1 13 rfl) rfl
theorem q507 : (Jvm.Cond.selects "PuddleBoatyardModel" ({ cls := "java/lang/Object", name := "getClass", desc := "()Ljava/lang/Class;" } : Jvm.MethodName) ({ cls := "java/lang/Object", name := "getClass", desc := "()Ljava/lang/Class;" } : Jvm.MethodName)) ∈ lw_all := lw_g (lw_at lw_m2 195 rfl) rfl
theorem q924 : (Jvm.Cond.selects "PuddleBoatyardModel" ({ cls := "java/lang/Object", name := "equals", desc := "(Ljava/lang/Object;)Z" } : Jvm.MethodName) ({ cls := "java/lang/Object", name := "equals", desc := "(Ljava/lang/Object;)Z" } : Jvm.MethodName)) ∈ lw_all := lw_g (lw_at lw_m4 132 rfl) rfl
theorem q1896 : (Jvm.Cond.instantiable "PuddleBoatyardModel" (24 : Nat)) ∈ lw_all := lw_g (lw_at lw_m8 144 rfl) rfl
theorem q1898 : (Jvm.Cond.instanceMethod ({ cls := "PuddleBoatyardModel", name := "<init>", desc := "()V" } : Jvm.MethodName)) ∈ lw_all := lw_g (lw_at lw_m8 146 rfl) rfl
theorem q1899 : (Jvm.Cond.code ({ cls := "PuddleBoatyardModel", name := "<init>", desc := "()V" } : Jvm.MethodName) prog_19_method_1_code (2 : Nat) (Option.none : Option Jvm.ClassFile.FieldType)) ∈ lw_all := lw_g (lw_at lw_m8 147 rfl) rfl
theorem q1900 : (Jvm.Cond.methodLink "PuddleBoatyardModel" (1 : Nat) ({ cls := "java/lang/Object", name := "<init>", desc := "()V" } : Jvm.MethodName)) ∈ lw_all := lw_g (lw_at lw_m8 148 rfl) rfl
theorem q1901 : (Jvm.Cond.fieldLink "PuddleBoatyardModel" (9 : Nat) "PuddleBoatyardModel" "m" "[I") ∈ lw_all := lw_g (lw_at lw_m8 149 rfl) rfl
theorem q1902 : (Jvm.Cond.fieldLink "PuddleBoatyardModel" (13 : Nat) "PuddleBoatyardModel" "aside" "[I") ∈ lw_all := lw_g (lw_at lw_m8 150 rfl) rfl
theorem q1903 : (Jvm.Cond.fieldLink "PuddleBoatyardModel" (16 : Nat) "PuddleBoatyardModel" "saved" "[I") ∈ lw_all := lw_g (lw_at lw_m8 151 rfl) rfl
theorem q1904 : (Jvm.Cond.fieldLink "PuddleBoatyardModel" (281 : Nat) "PuddleBoatyardModel" "isSaved" "Z") ∈ lw_all := lw_g (lw_at lw_m8 152 rfl) rfl
theorem q1905 : (Jvm.Cond.fieldLink "PuddleBoatyardModel" (19 : Nat) "PuddleBoatyardModel" "past" "[I") ∈ lw_all := lw_g (lw_at lw_m8 153 rfl) rfl
theorem q1906 : (Jvm.Cond.fieldLink "PuddleBoatyardModel" (51 : Nat) "PuddleBoatyardModel" "changes" "I") ∈ lw_all := lw_g (lw_at lw_m8 154 rfl) rfl
theorem q1907 : (Jvm.Cond.fieldLink "PuddleBoatyardModel" (22 : Nat) "PuddleBoatyardModel" "errorAt" "I") ∈ lw_all := lw_g (lw_at lw_m8 155 rfl) rfl
theorem q1908 : (Jvm.Cond.fieldLink "PuddleBoatyardModel" (26 : Nat) "PuddleBoatyardModel" "failed" "I") ∈ lw_all := lw_g (lw_at lw_m8 156 rfl) rfl
theorem q1909 : (Jvm.Cond.fieldLink "PuddleBoatyardModel" (126 : Nat) "PuddleBoatyardModel" "refusal" "I") ∈ lw_all := lw_g (lw_at lw_m8 157 rfl) rfl
theorem q1910 : (Jvm.Cond.fieldLink "PuddleBoatyardModel" (48 : Nat) "PuddleBoatyardModel" "thrown" "I") ∈ lw_all := lw_g (lw_at lw_m8 158 rfl) rfl
theorem q1911 : (Jvm.Cond.fieldLink "PuddleBoatyardModel" (29 : Nat) "PuddleBoatyardModel" "input" "[I") ∈ lw_all := lw_g (lw_at lw_m8 159 rfl) rfl
theorem q1912 : (Jvm.Cond.fieldLink "PuddleBoatyardModel" (230 : Nat) "PuddleBoatyardModel" "inputMany" "I") ∈ lw_all := lw_g (lw_at lw_m8 160 rfl) rfl
theorem q1913 : (Jvm.Cond.fieldLink "PuddleBoatyardModel" (32 : Nat) "PuddleBoatyardModel" "caulks" "[I") ∈ lw_all := lw_g (lw_at lw_m8 161 rfl) rfl
theorem q1914 : (Jvm.Cond.fieldLink "PuddleBoatyardModel" (197 : Nat) "PuddleBoatyardModel" "most" "I") ∈ lw_all := lw_g (lw_at lw_m8 162 rfl) rfl
theorem q1915 : (Jvm.Cond.fieldLink "PuddleBoatyardModel" (200 : Nat) "PuddleBoatyardModel" "uses" "J") ∈ lw_all := lw_g (lw_at lw_m8 163 rfl) rfl
theorem q1916 : (Jvm.Cond.fieldLink "PuddleBoatyardModel" (35 : Nat) "PuddleBoatyardModel" "line" "[I") ∈ lw_all := lw_g (lw_at lw_m8 164 rfl) rfl
theorem q1917 : (Jvm.Cond.fieldLink "PuddleBoatyardModel" (216 : Nat) "PuddleBoatyardModel" "lineMany" "I") ∈ lw_all := lw_g (lw_at lw_m8 165 rfl) rfl
theorem q1918 : (Jvm.Cond.fieldLink "PuddleBoatyardModel" (38 : Nat) "PuddleBoatyardModel" "letters" "[C") ∈ lw_all := lw_g (lw_at lw_m8 166 rfl) rfl
theorem q1919 : (Jvm.Cond.fieldLink "PuddleBoatyardModel" (42 : Nat) "PuddleBoatyardModel" "begins0" "[I") ∈ lw_all := lw_g (lw_at lw_m8 167 rfl) rfl
theorem q1920 : (Jvm.Cond.fieldLink "PuddleBoatyardModel" (45 : Nat) "PuddleBoatyardModel" "commands" "[I") ∈ lw_all := lw_g (lw_at lw_m8 168 rfl) rfl
theorem q1921 : (Jvm.Cond.fieldLink "PuddleBoatyardModel" (265 : Nat) "PuddleBoatyardModel" "commandMany" "I") ∈ lw_all := lw_g (lw_at lw_m8 169 rfl) rfl
theorem q1922 : (Jvm.Cond.fieldLink "PuddleBoatyardModel" (233 : Nat) "PuddleBoatyardModel" "place0" "I") ∈ lw_all := lw_g (lw_at lw_m8 170 rfl) rfl
theorem q1923 : (Jvm.Cond.fieldLink "PuddleBoatyardModel" (236 : Nat) "PuddleBoatyardModel" "size0" "I") ∈ lw_all := lw_g (lw_at lw_m8 171 rfl) rfl
theorem q1924 : (Jvm.Cond.fieldLink "PuddleBoatyardModel" (239 : Nat) "PuddleBoatyardModel" "isWrong" "Z") ∈ lw_all := lw_g (lw_at lw_m8 172 rfl) rfl
theorem q1925 : (Jvm.Cond.laysFinal "PuddleBoatyardModel" "PuddleBoatyardModel" "m" "[I") ∈ lw_all := lw_g (lw_at lw_m8 173 rfl) rfl
theorem q1926 : (Jvm.Cond.soleField "PuddleBoatyardModel" "m") ∈ lw_all := lw_g (lw_at lw_m8 174 rfl) rfl
theorem q1927 : (Jvm.Cond.laysFinal "PuddleBoatyardModel" "PuddleBoatyardModel" "aside" "[I") ∈ lw_all := lw_g (lw_at lw_m8 175 rfl) rfl
theorem q1928 : (Jvm.Cond.soleField "PuddleBoatyardModel" "aside") ∈ lw_all := lw_g (lw_at lw_m8 176 rfl) rfl
theorem q1929 : (Jvm.Cond.laysFinal "PuddleBoatyardModel" "PuddleBoatyardModel" "saved" "[I") ∈ lw_all := lw_g (lw_at lw_m8 177 rfl) rfl
theorem q1930 : (Jvm.Cond.soleField "PuddleBoatyardModel" "saved") ∈ lw_all := lw_g (lw_at lw_m8 178 rfl) rfl
theorem q1931 : (Jvm.Cond.lays "PuddleBoatyardModel" "PuddleBoatyardModel" "isSaved" "Z") ∈ lw_all := lw_g (lw_at lw_m8 179 rfl) rfl
theorem q1932 : (Jvm.Cond.soleField "PuddleBoatyardModel" "isSaved") ∈ lw_all := lw_g (lw_at lw_m8 180 rfl) rfl
theorem q1933 : (Jvm.Cond.laysFinal "PuddleBoatyardModel" "PuddleBoatyardModel" "past" "[I") ∈ lw_all := lw_g (lw_at lw_m8 181 rfl) rfl
theorem q1934 : (Jvm.Cond.soleField "PuddleBoatyardModel" "past") ∈ lw_all := lw_g (lw_at lw_m8 182 rfl) rfl
theorem q1935 : (Jvm.Cond.lays "PuddleBoatyardModel" "PuddleBoatyardModel" "changes" "I") ∈ lw_all := lw_g (lw_at lw_m8 183 rfl) rfl
theorem q1936 : (Jvm.Cond.soleField "PuddleBoatyardModel" "changes") ∈ lw_all := lw_g (lw_at lw_m8 184 rfl) rfl
theorem q1937 : (Jvm.Cond.lays "PuddleBoatyardModel" "PuddleBoatyardModel" "errorAt" "I") ∈ lw_all := lw_g (lw_at lw_m8 185 rfl) rfl
theorem q1938 : (Jvm.Cond.soleField "PuddleBoatyardModel" "errorAt") ∈ lw_all := lw_g (lw_at lw_m8 186 rfl) rfl
theorem q1939 : (Jvm.Cond.lays "PuddleBoatyardModel" "PuddleBoatyardModel" "failed" "I") ∈ lw_all := lw_g (lw_at lw_m8 187 rfl) rfl
theorem q1940 : (Jvm.Cond.soleField "PuddleBoatyardModel" "failed") ∈ lw_all := lw_g (lw_at lw_m8 188 rfl) rfl
theorem q1941 : (Jvm.Cond.lays "PuddleBoatyardModel" "PuddleBoatyardModel" "refusal" "I") ∈ lw_all := lw_g (lw_at lw_m8 189 rfl) rfl
theorem q1942 : (Jvm.Cond.soleField "PuddleBoatyardModel" "refusal") ∈ lw_all := lw_g (lw_at lw_m8 190 rfl) rfl
theorem q1943 : (Jvm.Cond.lays "PuddleBoatyardModel" "PuddleBoatyardModel" "thrown" "I") ∈ lw_all := lw_g (lw_at lw_m8 191 rfl) rfl
theorem q1944 : (Jvm.Cond.soleField "PuddleBoatyardModel" "thrown") ∈ lw_all := lw_g (lw_at lw_m8 192 rfl) rfl
theorem q1945 : (Jvm.Cond.laysFinal "PuddleBoatyardModel" "PuddleBoatyardModel" "input" "[I") ∈ lw_all := lw_g (lw_at lw_m8 193 rfl) rfl
theorem q1946 : (Jvm.Cond.soleField "PuddleBoatyardModel" "input") ∈ lw_all := lw_g (lw_at lw_m8 194 rfl) rfl
theorem q1947 : (Jvm.Cond.lays "PuddleBoatyardModel" "PuddleBoatyardModel" "inputMany" "I") ∈ lw_all := lw_g (lw_at lw_m8 195 rfl) rfl
theorem q1948 : (Jvm.Cond.soleField "PuddleBoatyardModel" "inputMany") ∈ lw_all := lw_g (lw_at lw_m8 196 rfl) rfl
theorem q1949 : (Jvm.Cond.laysFinal "PuddleBoatyardModel" "PuddleBoatyardModel" "caulks" "[I") ∈ lw_all := lw_g (lw_at lw_m8 197 rfl) rfl
theorem q1950 : (Jvm.Cond.soleField "PuddleBoatyardModel" "caulks") ∈ lw_all := lw_g (lw_at lw_m8 198 rfl) rfl
theorem q1951 : (Jvm.Cond.lays "PuddleBoatyardModel" "PuddleBoatyardModel" "most" "I") ∈ lw_all := lw_g (lw_at lw_m8 199 rfl) rfl
theorem q1952 : (Jvm.Cond.soleField "PuddleBoatyardModel" "most") ∈ lw_all := lw_g (lw_at lw_m8 200 rfl) rfl
theorem q1953 : (Jvm.Cond.lays "PuddleBoatyardModel" "PuddleBoatyardModel" "uses" "J") ∈ lw_all := lw_g (lw_at lw_m8 201 rfl) rfl
theorem q1954 : (Jvm.Cond.soleField "PuddleBoatyardModel" "uses") ∈ lw_all := lw_g (lw_at lw_m8 202 rfl) rfl
theorem q1955 : (Jvm.Cond.laysFinal "PuddleBoatyardModel" "PuddleBoatyardModel" "line" "[I") ∈ lw_all := lw_g (lw_at lw_m8 203 rfl) rfl
theorem q1956 : (Jvm.Cond.soleField "PuddleBoatyardModel" "line") ∈ lw_all := lw_g (lw_at lw_m8 204 rfl) rfl
theorem q1957 : (Jvm.Cond.lays "PuddleBoatyardModel" "PuddleBoatyardModel" "lineMany" "I") ∈ lw_all := lw_g (lw_at lw_m8 205 rfl) rfl
theorem q1958 : (Jvm.Cond.soleField "PuddleBoatyardModel" "lineMany") ∈ lw_all := lw_g (lw_at lw_m8 206 rfl) rfl
theorem q1959 : (Jvm.Cond.laysFinal "PuddleBoatyardModel" "PuddleBoatyardModel" "letters" "[C") ∈ lw_all := lw_g (lw_at lw_m8 207 rfl) rfl
theorem q1960 : (Jvm.Cond.soleField "PuddleBoatyardModel" "letters") ∈ lw_all := lw_g (lw_at lw_m8 208 rfl) rfl
theorem q1961 : (Jvm.Cond.laysFinal "PuddleBoatyardModel" "PuddleBoatyardModel" "begins0" "[I") ∈ lw_all := lw_g (lw_at lw_m8 209 rfl) rfl
theorem q1962 : (Jvm.Cond.soleField "PuddleBoatyardModel" "begins0") ∈ lw_all := lw_g (lw_at lw_m8 210 rfl) rfl
theorem q1963 : (Jvm.Cond.laysFinal "PuddleBoatyardModel" "PuddleBoatyardModel" "commands" "[I") ∈ lw_all := lw_g (lw_at lw_m8 211 rfl) rfl
theorem q1964 : (Jvm.Cond.soleField "PuddleBoatyardModel" "commands") ∈ lw_all := lw_g (lw_at lw_m8 212 rfl) rfl
theorem q1965 : (Jvm.Cond.lays "PuddleBoatyardModel" "PuddleBoatyardModel" "commandMany" "I") ∈ lw_all := lw_g (lw_at lw_m8 213 rfl) rfl
theorem q1966 : (Jvm.Cond.soleField "PuddleBoatyardModel" "commandMany") ∈ lw_all := lw_g (lw_at lw_m8 214 rfl) rfl
theorem q1967 : (Jvm.Cond.lays "PuddleBoatyardModel" "PuddleBoatyardModel" "place0" "I") ∈ lw_all := lw_g (lw_at lw_m8 215 rfl) rfl
theorem q1968 : (Jvm.Cond.soleField "PuddleBoatyardModel" "place0") ∈ lw_all := lw_g (lw_at lw_m8 216 rfl) rfl
theorem q1969 : (Jvm.Cond.lays "PuddleBoatyardModel" "PuddleBoatyardModel" "size0" "I") ∈ lw_all := lw_g (lw_at lw_m8 217 rfl) rfl
theorem q1970 : (Jvm.Cond.soleField "PuddleBoatyardModel" "size0") ∈ lw_all := lw_g (lw_at lw_m8 218 rfl) rfl
theorem q1971 : (Jvm.Cond.lays "PuddleBoatyardModel" "PuddleBoatyardModel" "isWrong" "Z") ∈ lw_all := lw_g (lw_at lw_m8 219 rfl) rfl
theorem q1972 : (Jvm.Cond.soleField "PuddleBoatyardModel" "isWrong") ∈ lw_all := lw_g (lw_at lw_m8 220 rfl) rfl
theorem q1973 : (Jvm.Cond.superclass "PuddleBoatyardModel" "java/lang/Object") ∈ lw_all := lw_g (lw_at lw_m8 221 rfl) rfl
theorem q1976 : (Jvm.Cond.instanceMethod ({ cls := "PuddleBoatyardModel", name := "thrown", desc := "()I" } : Jvm.MethodName)) ∈ lw_all := lw_g (lw_at lw_m8 224 rfl) rfl
theorem q1977 : (Jvm.Cond.selects "PuddleBoatyardModel" ({ cls := "PuddleBoatyardModel", name := "thrown", desc := "()I" } : Jvm.MethodName) ({ cls := "PuddleBoatyardModel", name := "thrown", desc := "()I" } : Jvm.MethodName)) ∈ lw_all := lw_g (lw_at lw_m8 225 rfl) rfl
theorem q1978 : (Jvm.Cond.code ({ cls := "PuddleBoatyardModel", name := "thrown", desc := "()I" } : Jvm.MethodName) prog_19_method_2_code (1 : Nat) (Option.some Jvm.ClassFile.FieldType.int)) ∈ lw_all := lw_g (lw_at lw_m8 226 rfl) rfl
theorem q1980 : (Jvm.Cond.instanceMethod ({ cls := "PuddleBoatyardModel", name := "beginHull", desc := "()I" } : Jvm.MethodName)) ∈ lw_all := lw_g (lw_at lw_m8 228 rfl) rfl
theorem q1981 : (Jvm.Cond.selects "PuddleBoatyardModel" ({ cls := "PuddleBoatyardModel", name := "beginHull", desc := "()I" } : Jvm.MethodName) ({ cls := "PuddleBoatyardModel", name := "beginHull", desc := "()I" } : Jvm.MethodName)) ∈ lw_all := lw_g (lw_at lw_m8 229 rfl) rfl
theorem q1982 : (Jvm.Cond.code ({ cls := "PuddleBoatyardModel", name := "beginHull", desc := "()I" } : Jvm.MethodName) prog_19_method_22_code (1 : Nat) (Option.some Jvm.ClassFile.FieldType.int)) ∈ lw_all := lw_g (lw_at lw_m8 230 rfl) rfl
theorem q1983 : (Jvm.Cond.methodLink "PuddleBoatyardModel" (91 : Nat) ({ cls := "PuddleBoatyardModel", name := "starts", desc := "()V" } : Jvm.MethodName)) ∈ lw_all := lw_g (lw_at lw_m8 231 rfl) rfl
theorem q1984 : (Jvm.Cond.privateMethod ({ cls := "PuddleBoatyardModel", name := "starts", desc := "()V" } : Jvm.MethodName)) ∈ lw_tbl := lw_at lw_m8 232 rfl
theorem q1985 : (Jvm.Cond.instanceMethod ({ cls := "PuddleBoatyardModel", name := "starts", desc := "()V" } : Jvm.MethodName)) ∈ lw_all := lw_g (lw_at lw_m8 233 rfl) rfl
theorem q1986 : (Jvm.Cond.code ({ cls := "PuddleBoatyardModel", name := "starts", desc := "()V" } : Jvm.MethodName) prog_19_method_5_code (2 : Nat) (Option.none : Option Jvm.ClassFile.FieldType)) ∈ lw_all := lw_g (lw_at lw_m8 234 rfl) rfl
theorem q1987 : (Jvm.Cond.methodLink "PuddleBoatyardModel" (94 : Nat) ({ cls := "PuddleBoatyardModel", name := "hullIt", desc := "()I" } : Jvm.MethodName)) ∈ lw_all := lw_g (lw_at lw_m8 235 rfl) rfl
theorem q1988 : (Jvm.Cond.privateMethod ({ cls := "PuddleBoatyardModel", name := "hullIt", desc := "()I" } : Jvm.MethodName)) ∈ lw_tbl := lw_at lw_m8 236 rfl
theorem q1989 : (Jvm.Cond.instanceMethod ({ cls := "PuddleBoatyardModel", name := "hullIt", desc := "()I" } : Jvm.MethodName)) ∈ lw_all := lw_g (lw_at lw_m8 237 rfl) rfl
theorem q1990 : (Jvm.Cond.code ({ cls := "PuddleBoatyardModel", name := "hullIt", desc := "()I" } : Jvm.MethodName) prog_19_method_21_code (1 : Nat) (Option.some Jvm.ClassFile.FieldType.int)) ∈ lw_all := lw_g (lw_at lw_m8 238 rfl) rfl
theorem q1991 : (Jvm.Cond.methodLink "PuddleBoatyardModel" (88 : Nat) ({ cls := "PuddleBoatyardModel", name := "throwing", desc := "(I)I" } : Jvm.MethodName)) ∈ lw_all := lw_g (lw_at lw_m8 239 rfl) rfl
theorem q1992 : (Jvm.Cond.privateMethod ({ cls := "PuddleBoatyardModel", name := "throwing", desc := "(I)I" } : Jvm.MethodName)) ∈ lw_tbl := lw_at lw_m9 0 rfl
theorem q1993 : (Jvm.Cond.instanceMethod ({ cls := "PuddleBoatyardModel", name := "throwing", desc := "(I)I" } : Jvm.MethodName)) ∈ lw_all := lw_g (lw_at lw_m9 1 rfl) rfl
theorem q1994 : (Jvm.Cond.code ({ cls := "PuddleBoatyardModel", name := "throwing", desc := "(I)I" } : Jvm.MethodName) prog_19_method_3_code (2 : Nat) (Option.some Jvm.ClassFile.FieldType.int)) ∈ lw_all := lw_g (lw_at lw_m9 2 rfl) rfl
theorem q1995 : (Jvm.Cond.methodLink "PuddleBoatyardModel" (98 : Nat) ({ cls := "PuddleBoatyardModel", name := "changed", desc := "(I)I" } : Jvm.MethodName)) ∈ lw_all := lw_g (lw_at lw_m9 3 rfl) rfl
theorem q1996 : (Jvm.Cond.privateMethod ({ cls := "PuddleBoatyardModel", name := "changed", desc := "(I)I" } : Jvm.MethodName)) ∈ lw_tbl := lw_at lw_m9 4 rfl
theorem q1997 : (Jvm.Cond.instanceMethod ({ cls := "PuddleBoatyardModel", name := "changed", desc := "(I)I" } : Jvm.MethodName)) ∈ lw_all := lw_g (lw_at lw_m9 5 rfl) rfl
theorem q1998 : (Jvm.Cond.code ({ cls := "PuddleBoatyardModel", name := "changed", desc := "(I)I" } : Jvm.MethodName) prog_19_method_6_code (3 : Nat) (Option.some Jvm.ClassFile.FieldType.int)) ∈ lw_all := lw_g (lw_at lw_m9 6 rfl) rfl
theorem q2000 : (Jvm.Cond.instanceMethod ({ cls := "PuddleBoatyardModel", name := "addFrame", desc := "(III)I" } : Jvm.MethodName)) ∈ lw_all := lw_g (lw_at lw_m9 8 rfl) rfl
theorem q2001 : (Jvm.Cond.selects "PuddleBoatyardModel" ({ cls := "PuddleBoatyardModel", name := "addFrame", desc := "(III)I" } : Jvm.MethodName) ({ cls := "PuddleBoatyardModel", name := "addFrame", desc := "(III)I" } : Jvm.MethodName)) ∈ lw_all := lw_g (lw_at lw_m9 9 rfl) rfl
theorem q2002 : (Jvm.Cond.code ({ cls := "PuddleBoatyardModel", name := "addFrame", desc := "(III)I" } : Jvm.MethodName) prog_19_method_24_code (4 : Nat) (Option.some Jvm.ClassFile.FieldType.int)) ∈ lw_all := lw_g (lw_at lw_m9 10 rfl) rfl
theorem q2003 : (Jvm.Cond.methodLink "PuddleBoatyardModel" (103 : Nat) ({ cls := "PuddleBoatyardModel", name := "frameIt", desc := "(III)I" } : Jvm.MethodName)) ∈ lw_all := lw_g (lw_at lw_m9 11 rfl) rfl
theorem q2004 : (Jvm.Cond.privateMethod ({ cls := "PuddleBoatyardModel", name := "frameIt", desc := "(III)I" } : Jvm.MethodName)) ∈ lw_tbl := lw_at lw_m9 12 rfl
theorem q2005 : (Jvm.Cond.instanceMethod ({ cls := "PuddleBoatyardModel", name := "frameIt", desc := "(III)I" } : Jvm.MethodName)) ∈ lw_all := lw_g (lw_at lw_m9 13 rfl) rfl
theorem q2006 : (Jvm.Cond.code ({ cls := "PuddleBoatyardModel", name := "frameIt", desc := "(III)I" } : Jvm.MethodName) prog_19_method_23_code (5 : Nat) (Option.some Jvm.ClassFile.FieldType.int)) ∈ lw_all := lw_g (lw_at lw_m9 14 rfl) rfl
theorem q2007 : (Jvm.Cond.methodLink "PuddleBoatyardModel" (84 : Nat) ({ cls := "PuddleBoatyardModel", name := "isHull", desc := "(I)Z" } : Jvm.MethodName)) ∈ lw_all := lw_g (lw_at lw_m9 15 rfl) rfl
theorem q2008 : (Jvm.Cond.privateMethod ({ cls := "PuddleBoatyardModel", name := "isHull", desc := "(I)Z" } : Jvm.MethodName)) ∈ lw_tbl := lw_at lw_m9 16 rfl
theorem q2009 : (Jvm.Cond.instanceMethod ({ cls := "PuddleBoatyardModel", name := "isHull", desc := "(I)Z" } : Jvm.MethodName)) ∈ lw_all := lw_g (lw_at lw_m9 17 rfl) rfl
theorem q2010 : (Jvm.Cond.code ({ cls := "PuddleBoatyardModel", name := "isHull", desc := "(I)Z" } : Jvm.MethodName) prog_19_method_8_code (2 : Nat) (Option.some Jvm.ClassFile.FieldType.boolean)) ∈ lw_all := lw_g (lw_at lw_m9 18 rfl) rfl
theorem q2011 : (Jvm.Cond.methodLink "PuddleBoatyardModel" (54 : Nat) ({ cls := "PuddleBoatyardModel", name := "in", desc := "(JJJ)Z" } : Jvm.MethodName)) ∈ lw_all := lw_g (lw_at lw_m9 19 rfl) rfl
theorem q2012 : (Jvm.Cond.static ({ cls := "PuddleBoatyardModel", name := "in", desc := "(JJJ)Z" } : Jvm.MethodName)) ∈ lw_all := lw_g (lw_at lw_m9 20 rfl) rfl
theorem q2013 : (Jvm.Cond.code ({ cls := "PuddleBoatyardModel", name := "in", desc := "(JJJ)Z" } : Jvm.MethodName) prog_19_method_4_code (6 : Nat) (Option.some Jvm.ClassFile.FieldType.boolean)) ∈ lw_all := lw_g (lw_at lw_m9 21 rfl) rfl
theorem q2014 : (Jvm.Cond.constantLong "PuddleBoatyardModel" (101 : Nat) (30 : Int64)) ∈ lw_all := lw_g (lw_at lw_m9 22 rfl) rfl
theorem q2015 : (Jvm.Cond.methodLink "PuddleBoatyardModel" (81 : Nat) ({ cls := "PuddleBoatyardModel", name := "state", desc := "(I)I" } : Jvm.MethodName)) ∈ lw_all := lw_g (lw_at lw_m9 23 rfl) rfl
theorem q2016 : (Jvm.Cond.privateMethod ({ cls := "PuddleBoatyardModel", name := "state", desc := "(I)I" } : Jvm.MethodName)) ∈ lw_tbl := lw_at lw_m9 24 rfl
theorem q2017 : (Jvm.Cond.instanceMethod ({ cls := "PuddleBoatyardModel", name := "state", desc := "(I)I" } : Jvm.MethodName)) ∈ lw_all := lw_g (lw_at lw_m9 25 rfl) rfl
theorem q2018 : (Jvm.Cond.code ({ cls := "PuddleBoatyardModel", name := "state", desc := "(I)I" } : Jvm.MethodName) prog_19_method_9_code (2 : Nat) (Option.some Jvm.ClassFile.FieldType.int)) ∈ lw_all := lw_g (lw_at lw_m9 26 rfl) rfl
theorem q2019 : (Jvm.Cond.methodLink "PuddleBoatyardModel" (58 : Nat) ({ cls := "PuddleBoatyardModel", name := "hullAt", desc := "(I)I" } : Jvm.MethodName)) ∈ lw_all := lw_g (lw_at lw_m9 27 rfl) rfl
theorem q2020 : (Jvm.Cond.static ({ cls := "PuddleBoatyardModel", name := "hullAt", desc := "(I)I" } : Jvm.MethodName)) ∈ lw_all := lw_g (lw_at lw_m9 28 rfl) rfl
theorem q2021 : (Jvm.Cond.code ({ cls := "PuddleBoatyardModel", name := "hullAt", desc := "(I)I" } : Jvm.MethodName) prog_19_method_7_code (1 : Nat) (Option.some Jvm.ClassFile.FieldType.int)) ∈ lw_all := lw_g (lw_at lw_m9 29 rfl) rfl
theorem q2022 : (Jvm.Cond.methodLink "PuddleBoatyardModel" (62 : Nat) ({ cls := "PuddleBoatyardModel", name := "frames", desc := "(I)I" } : Jvm.MethodName)) ∈ lw_all := lw_g (lw_at lw_m9 30 rfl) rfl
theorem q2023 : (Jvm.Cond.privateMethod ({ cls := "PuddleBoatyardModel", name := "frames", desc := "(I)I" } : Jvm.MethodName)) ∈ lw_tbl := lw_at lw_m9 31 rfl
theorem q2024 : (Jvm.Cond.instanceMethod ({ cls := "PuddleBoatyardModel", name := "frames", desc := "(I)I" } : Jvm.MethodName)) ∈ lw_all := lw_g (lw_at lw_m9 32 rfl) rfl
theorem q2025 : (Jvm.Cond.code ({ cls := "PuddleBoatyardModel", name := "frames", desc := "(I)I" } : Jvm.MethodName) prog_19_method_10_code (2 : Nat) (Option.some Jvm.ClassFile.FieldType.int)) ∈ lw_all := lw_g (lw_at lw_m9 33 rfl) rfl
theorem q2027 : (Jvm.Cond.instanceMethod ({ cls := "PuddleBoatyardModel", name := "mirror", desc := "(I)I" } : Jvm.MethodName)) ∈ lw_all := lw_g (lw_at lw_m9 35 rfl) rfl
theorem q2028 : (Jvm.Cond.selects "PuddleBoatyardModel" ({ cls := "PuddleBoatyardModel", name := "mirror", desc := "(I)I" } : Jvm.MethodName) ({ cls := "PuddleBoatyardModel", name := "mirror", desc := "(I)I" } : Jvm.MethodName)) ∈ lw_all := lw_g (lw_at lw_m9 36 rfl) rfl
theorem q2029 : (Jvm.Cond.code ({ cls := "PuddleBoatyardModel", name := "mirror", desc := "(I)I" } : Jvm.MethodName) prog_19_method_26_code (2 : Nat) (Option.some Jvm.ClassFile.FieldType.int)) ∈ lw_all := lw_g (lw_at lw_m9 37 rfl) rfl
theorem q2030 : (Jvm.Cond.methodLink "PuddleBoatyardModel" (106 : Nat) ({ cls := "PuddleBoatyardModel", name := "mirrorIt", desc := "(I)I" } : Jvm.MethodName)) ∈ lw_all := lw_g (lw_at lw_m9 38 rfl) rfl
theorem q2031 : (Jvm.Cond.privateMethod ({ cls := "PuddleBoatyardModel", name := "mirrorIt", desc := "(I)I" } : Jvm.MethodName)) ∈ lw_tbl := lw_at lw_m9 39 rfl
theorem q2032 : (Jvm.Cond.instanceMethod ({ cls := "PuddleBoatyardModel", name := "mirrorIt", desc := "(I)I" } : Jvm.MethodName)) ∈ lw_all := lw_g (lw_at lw_m9 40 rfl) rfl
theorem q2033 : (Jvm.Cond.code ({ cls := "PuddleBoatyardModel", name := "mirrorIt", desc := "(I)I" } : Jvm.MethodName) prog_19_method_25_code (6 : Nat) (Option.some Jvm.ClassFile.FieldType.int)) ∈ lw_all := lw_g (lw_at lw_m9 41 rfl) rfl
theorem q2034 : (Jvm.Cond.methodLink "PuddleBoatyardModel" (71 : Nat) ({ cls := "PuddleBoatyardModel", name := "width", desc := "(III)I" } : Jvm.MethodName)) ∈ lw_all := lw_g (lw_at lw_m9 42 rfl) rfl
theorem q2035 : (Jvm.Cond.privateMethod ({ cls := "PuddleBoatyardModel", name := "width", desc := "(III)I" } : Jvm.MethodName)) ∈ lw_tbl := lw_at lw_m9 43 rfl
theorem q2036 : (Jvm.Cond.instanceMethod ({ cls := "PuddleBoatyardModel", name := "width", desc := "(III)I" } : Jvm.MethodName)) ∈ lw_all := lw_g (lw_at lw_m9 44 rfl) rfl
theorem q2037 : (Jvm.Cond.code ({ cls := "PuddleBoatyardModel", name := "width", desc := "(III)I" } : Jvm.MethodName) prog_19_method_11_code (4 : Nat) (Option.some Jvm.ClassFile.FieldType.int)) ∈ lw_all := lw_g (lw_at lw_m9 45 rfl) rfl
theorem q2039 : (Jvm.Cond.instanceMethod ({ cls := "PuddleBoatyardModel", name := "setCargo", desc := "(II)I" } : Jvm.MethodName)) ∈ lw_all := lw_g (lw_at lw_m9 47 rfl) rfl
theorem q2040 : (Jvm.Cond.selects "PuddleBoatyardModel" ({ cls := "PuddleBoatyardModel", name := "setCargo", desc := "(II)I" } : Jvm.MethodName) ({ cls := "PuddleBoatyardModel", name := "setCargo", desc := "(II)I" } : Jvm.MethodName)) ∈ lw_all := lw_g (lw_at lw_m9 48 rfl) rfl
theorem q2041 : (Jvm.Cond.code ({ cls := "PuddleBoatyardModel", name := "setCargo", desc := "(II)I" } : Jvm.MethodName) prog_19_method_28_code (3 : Nat) (Option.some Jvm.ClassFile.FieldType.int)) ∈ lw_all := lw_g (lw_at lw_m9 49 rfl) rfl
theorem q2042 : (Jvm.Cond.methodLink "PuddleBoatyardModel" (114 : Nat) ({ cls := "PuddleBoatyardModel", name := "cargoIt", desc := "(II)I" } : Jvm.MethodName)) ∈ lw_all := lw_g (lw_at lw_m9 50 rfl) rfl
theorem q2043 : (Jvm.Cond.privateMethod ({ cls := "PuddleBoatyardModel", name := "cargoIt", desc := "(II)I" } : Jvm.MethodName)) ∈ lw_tbl := lw_at lw_m9 51 rfl
theorem q2044 : (Jvm.Cond.instanceMethod ({ cls := "PuddleBoatyardModel", name := "cargoIt", desc := "(II)I" } : Jvm.MethodName)) ∈ lw_all := lw_g (lw_at lw_m9 52 rfl) rfl
theorem q2045 : (Jvm.Cond.code ({ cls := "PuddleBoatyardModel", name := "cargoIt", desc := "(II)I" } : Jvm.MethodName) prog_19_method_27_code (4 : Nat) (Option.some Jvm.ClassFile.FieldType.int)) ∈ lw_all := lw_g (lw_at lw_m9 53 rfl) rfl
theorem q2046 : (Jvm.Cond.constantLong "PuddleBoatyardModel" (109 : Nat) (999 : Int64)) ∈ lw_all := lw_g (lw_at lw_m9 54 rfl) rfl
theorem q2047 : (Jvm.Cond.methodLink "PuddleBoatyardModel" (111 : Nat) ({ cls := "PuddleBoatyardModel", name := "isWorked", desc := "(I)Z" } : Jvm.MethodName)) ∈ lw_all := lw_g (lw_at lw_m9 55 rfl) rfl
theorem q2048 : (Jvm.Cond.privateMethod ({ cls := "PuddleBoatyardModel", name := "isWorked", desc := "(I)Z" } : Jvm.MethodName)) ∈ lw_tbl := lw_at lw_m9 56 rfl
theorem q2049 : (Jvm.Cond.instanceMethod ({ cls := "PuddleBoatyardModel", name := "isWorked", desc := "(I)Z" } : Jvm.MethodName)) ∈ lw_all := lw_g (lw_at lw_m9 57 rfl) rfl
theorem q2050 : (Jvm.Cond.code ({ cls := "PuddleBoatyardModel", name := "isWorked", desc := "(I)Z" } : Jvm.MethodName) prog_19_method_16_code (2 : Nat) (Option.some Jvm.ClassFile.FieldType.boolean)) ∈ lw_all := lw_g (lw_at lw_m9 58 rfl) rfl
theorem q2052 : (Jvm.Cond.instanceMethod ({ cls := "PuddleBoatyardModel", name := "launch", desc := "(I)I" } : Jvm.MethodName)) ∈ lw_all := lw_g (lw_at lw_m9 60 rfl) rfl
theorem q2053 : (Jvm.Cond.selects "PuddleBoatyardModel" ({ cls := "PuddleBoatyardModel", name := "launch", desc := "(I)I" } : Jvm.MethodName) ({ cls := "PuddleBoatyardModel", name := "launch", desc := "(I)I" } : Jvm.MethodName)) ∈ lw_all := lw_g (lw_at lw_m9 61 rfl) rfl
theorem q2054 : (Jvm.Cond.code ({ cls := "PuddleBoatyardModel", name := "launch", desc := "(I)I" } : Jvm.MethodName) prog_19_method_30_code (2 : Nat) (Option.some Jvm.ClassFile.FieldType.int)) ∈ lw_all := lw_g (lw_at lw_m9 62 rfl) rfl
theorem q2055 : (Jvm.Cond.methodLink "PuddleBoatyardModel" (129 : Nat) ({ cls := "PuddleBoatyardModel", name := "launchIt", desc := "(I)I" } : Jvm.MethodName)) ∈ lw_all := lw_g (lw_at lw_m9 63 rfl) rfl
theorem q2056 : (Jvm.Cond.privateMethod ({ cls := "PuddleBoatyardModel", name := "launchIt", desc := "(I)I" } : Jvm.MethodName)) ∈ lw_tbl := lw_at lw_m9 64 rfl
theorem q2057 : (Jvm.Cond.instanceMethod ({ cls := "PuddleBoatyardModel", name := "launchIt", desc := "(I)I" } : Jvm.MethodName)) ∈ lw_all := lw_g (lw_at lw_m9 65 rfl) rfl
theorem q2058 : (Jvm.Cond.code ({ cls := "PuddleBoatyardModel", name := "launchIt", desc := "(I)I" } : Jvm.MethodName) prog_19_method_29_code (4 : Nat) (Option.some Jvm.ClassFile.FieldType.int)) ∈ lw_all := lw_g (lw_at lw_m9 66 rfl) rfl
theorem q2059 : (Jvm.Cond.methodLink "PuddleBoatyardModel" (117 : Nat) ({ cls := "PuddleBoatyardModel", name := "weight", desc := "(I)I" } : Jvm.MethodName)) ∈ lw_all := lw_g (lw_at lw_m9 67 rfl) rfl
theorem q2060 : (Jvm.Cond.privateMethod ({ cls := "PuddleBoatyardModel", name := "weight", desc := "(I)I" } : Jvm.MethodName)) ∈ lw_tbl := lw_at lw_m9 68 rfl
theorem q2061 : (Jvm.Cond.instanceMethod ({ cls := "PuddleBoatyardModel", name := "weight", desc := "(I)I" } : Jvm.MethodName)) ∈ lw_all := lw_g (lw_at lw_m9 69 rfl) rfl
theorem q2062 : (Jvm.Cond.code ({ cls := "PuddleBoatyardModel", name := "weight", desc := "(I)I" } : Jvm.MethodName) prog_19_method_14_code (2 : Nat) (Option.some Jvm.ClassFile.FieldType.int)) ∈ lw_all := lw_g (lw_at lw_m9 70 rfl) rfl
theorem q2063 : (Jvm.Cond.methodLink "PuddleBoatyardModel" (75 : Nat) ({ cls := "PuddleBoatyardModel", name := "dry", desc := "(I)I" } : Jvm.MethodName)) ∈ lw_all := lw_g (lw_at lw_m9 71 rfl) rfl
theorem q2064 : (Jvm.Cond.privateMethod ({ cls := "PuddleBoatyardModel", name := "dry", desc := "(I)I" } : Jvm.MethodName)) ∈ lw_tbl := lw_at lw_m9 72 rfl
theorem q2065 : (Jvm.Cond.instanceMethod ({ cls := "PuddleBoatyardModel", name := "dry", desc := "(I)I" } : Jvm.MethodName)) ∈ lw_all := lw_g (lw_at lw_m9 73 rfl) rfl
theorem q2066 : (Jvm.Cond.code ({ cls := "PuddleBoatyardModel", name := "dry", desc := "(I)I" } : Jvm.MethodName) prog_19_method_13_code (4 : Nat) (Option.some Jvm.ClassFile.FieldType.int)) ∈ lw_all := lw_g (lw_at lw_m9 74 rfl) rfl
theorem q2067 : (Jvm.Cond.methodLink "PuddleBoatyardModel" (120 : Nat) ({ cls := "PuddleBoatyardModel", name := "draught", desc := "(II)I" } : Jvm.MethodName)) ∈ lw_all := lw_g (lw_at lw_m9 75 rfl) rfl
theorem q2068 : (Jvm.Cond.privateMethod ({ cls := "PuddleBoatyardModel", name := "draught", desc := "(II)I" } : Jvm.MethodName)) ∈ lw_tbl := lw_at lw_m9 76 rfl
theorem q2069 : (Jvm.Cond.instanceMethod ({ cls := "PuddleBoatyardModel", name := "draught", desc := "(II)I" } : Jvm.MethodName)) ∈ lw_all := lw_g (lw_at lw_m9 77 rfl) rfl
theorem q2070 : (Jvm.Cond.code ({ cls := "PuddleBoatyardModel", name := "draught", desc := "(II)I" } : Jvm.MethodName) prog_19_method_15_code (5 : Nat) (Option.some Jvm.ClassFile.FieldType.int)) ∈ lw_all := lw_g (lw_at lw_m9 78 rfl) rfl
theorem q2071 : (Jvm.Cond.methodLink "PuddleBoatyardModel" (78 : Nat) ({ cls := "PuddleBoatyardModel", name := "seams", desc := "(I)I" } : Jvm.MethodName)) ∈ lw_all := lw_g (lw_at lw_m9 79 rfl) rfl
theorem q2072 : (Jvm.Cond.privateMethod ({ cls := "PuddleBoatyardModel", name := "seams", desc := "(I)I" } : Jvm.MethodName)) ∈ lw_tbl := lw_at lw_m9 80 rfl
theorem q2073 : (Jvm.Cond.instanceMethod ({ cls := "PuddleBoatyardModel", name := "seams", desc := "(I)I" } : Jvm.MethodName)) ∈ lw_all := lw_g (lw_at lw_m9 81 rfl) rfl
theorem q2074 : (Jvm.Cond.code ({ cls := "PuddleBoatyardModel", name := "seams", desc := "(I)I" } : Jvm.MethodName) prog_19_method_12_code (2 : Nat) (Option.some Jvm.ClassFile.FieldType.int)) ∈ lw_all := lw_g (lw_at lw_m9 82 rfl) rfl
theorem q2075 : (Jvm.Cond.methodLink "PuddleBoatyardModel" (65 : Nat) ({ cls := "java/lang/Math", name := "max", desc := "(II)I" } : Jvm.MethodName)) ∈ lw_all := lw_g (lw_at lw_m9 83 rfl) rfl
theorem q2076 : (Jvm.Cond.methodLink "PuddleBoatyardModel" (123 : Nat) ({ cls := "PuddleBoatyardModel", name := "tide", desc := "(I)I" } : Jvm.MethodName)) ∈ lw_all := lw_g (lw_at lw_m9 84 rfl) rfl
theorem q2077 : (Jvm.Cond.privateMethod ({ cls := "PuddleBoatyardModel", name := "tide", desc := "(I)I" } : Jvm.MethodName)) ∈ lw_tbl := lw_at lw_m9 85 rfl
theorem q2078 : (Jvm.Cond.instanceMethod ({ cls := "PuddleBoatyardModel", name := "tide", desc := "(I)I" } : Jvm.MethodName)) ∈ lw_all := lw_g (lw_at lw_m9 86 rfl) rfl
theorem q2079 : (Jvm.Cond.code ({ cls := "PuddleBoatyardModel", name := "tide", desc := "(I)I" } : Jvm.MethodName) prog_19_method_18_code (2 : Nat) (Option.some Jvm.ClassFile.FieldType.int)) ∈ lw_all := lw_g (lw_at lw_m9 87 rfl) rfl
theorem q2081 : (Jvm.Cond.instanceMethod ({ cls := "PuddleBoatyardModel", name := "caulk", desc := "(II)I" } : Jvm.MethodName)) ∈ lw_all := lw_g (lw_at lw_m9 89 rfl) rfl
theorem q2082 : (Jvm.Cond.selects "PuddleBoatyardModel" ({ cls := "PuddleBoatyardModel", name := "caulk", desc := "(II)I" } : Jvm.MethodName) ({ cls := "PuddleBoatyardModel", name := "caulk", desc := "(II)I" } : Jvm.MethodName)) ∈ lw_all := lw_g (lw_at lw_m9 90 rfl) rfl
theorem q2083 : (Jvm.Cond.code ({ cls := "PuddleBoatyardModel", name := "caulk", desc := "(II)I" } : Jvm.MethodName) prog_19_method_32_code (3 : Nat) (Option.some Jvm.ClassFile.FieldType.int)) ∈ lw_all := lw_g (lw_at lw_m9 91 rfl) rfl
theorem q2084 : (Jvm.Cond.methodLink "PuddleBoatyardModel" (136 : Nat) ({ cls := "PuddleBoatyardModel", name := "caulkIt", desc := "(II)I" } : Jvm.MethodName)) ∈ lw_all := lw_g (lw_at lw_m9 92 rfl) rfl
theorem q2085 : (Jvm.Cond.privateMethod ({ cls := "PuddleBoatyardModel", name := "caulkIt", desc := "(II)I" } : Jvm.MethodName)) ∈ lw_tbl := lw_at lw_m9 93 rfl
theorem q2086 : (Jvm.Cond.instanceMethod ({ cls := "PuddleBoatyardModel", name := "caulkIt", desc := "(II)I" } : Jvm.MethodName)) ∈ lw_all := lw_g (lw_at lw_m9 94 rfl) rfl
theorem q2087 : (Jvm.Cond.code ({ cls := "PuddleBoatyardModel", name := "caulkIt", desc := "(II)I" } : Jvm.MethodName) prog_19_method_31_code (4 : Nat) (Option.some Jvm.ClassFile.FieldType.int)) ∈ lw_all := lw_g (lw_at lw_m9 95 rfl) rfl
theorem q2088 : (Jvm.Cond.methodLink "PuddleBoatyardModel" (132 : Nat) ({ cls := "PuddleBoatyardModel", name := "isSeam", desc := "(II)Z" } : Jvm.MethodName)) ∈ lw_all := lw_g (lw_at lw_m9 96 rfl) rfl
theorem q2089 : (Jvm.Cond.privateMethod ({ cls := "PuddleBoatyardModel", name := "isSeam", desc := "(II)Z" } : Jvm.MethodName)) ∈ lw_tbl := lw_at lw_m9 97 rfl
theorem q2090 : (Jvm.Cond.instanceMethod ({ cls := "PuddleBoatyardModel", name := "isSeam", desc := "(II)Z" } : Jvm.MethodName)) ∈ lw_all := lw_g (lw_at lw_m9 98 rfl) rfl
theorem q2091 : (Jvm.Cond.code ({ cls := "PuddleBoatyardModel", name := "isSeam", desc := "(II)Z" } : Jvm.MethodName) prog_19_method_17_code (3 : Nat) (Option.some Jvm.ClassFile.FieldType.boolean)) ∈ lw_all := lw_g (lw_at lw_m9 99 rfl) rfl
theorem q2093 : (Jvm.Cond.instanceMethod ({ cls := "PuddleBoatyardModel", name := "pump", desc := "(II)I" } : Jvm.MethodName)) ∈ lw_all := lw_g (lw_at lw_m9 101 rfl) rfl
theorem q2094 : (Jvm.Cond.selects "PuddleBoatyardModel" ({ cls := "PuddleBoatyardModel", name := "pump", desc := "(II)I" } : Jvm.MethodName) ({ cls := "PuddleBoatyardModel", name := "pump", desc := "(II)I" } : Jvm.MethodName)) ∈ lw_all := lw_g (lw_at lw_m9 102 rfl) rfl
theorem q2095 : (Jvm.Cond.code ({ cls := "PuddleBoatyardModel", name := "pump", desc := "(II)I" } : Jvm.MethodName) prog_19_method_34_code (3 : Nat) (Option.some Jvm.ClassFile.FieldType.int)) ∈ lw_all := lw_g (lw_at lw_m9 103 rfl) rfl
theorem q2096 : (Jvm.Cond.methodLink "PuddleBoatyardModel" (139 : Nat) ({ cls := "PuddleBoatyardModel", name := "pumpIt", desc := "(II)I" } : Jvm.MethodName)) ∈ lw_all := lw_g (lw_at lw_m9 104 rfl) rfl
theorem q2097 : (Jvm.Cond.privateMethod ({ cls := "PuddleBoatyardModel", name := "pumpIt", desc := "(II)I" } : Jvm.MethodName)) ∈ lw_tbl := lw_at lw_m9 105 rfl
theorem q2098 : (Jvm.Cond.instanceMethod ({ cls := "PuddleBoatyardModel", name := "pumpIt", desc := "(II)I" } : Jvm.MethodName)) ∈ lw_all := lw_g (lw_at lw_m9 106 rfl) rfl
theorem q2099 : (Jvm.Cond.code ({ cls := "PuddleBoatyardModel", name := "pumpIt", desc := "(II)I" } : Jvm.MethodName) prog_19_method_33_code (3 : Nat) (Option.some Jvm.ClassFile.FieldType.int)) ∈ lw_all := lw_g (lw_at lw_m9 107 rfl) rfl
theorem q2101 : (Jvm.Cond.instanceMethod ({ cls := "PuddleBoatyardModel", name := "setTide", desc := "(II)I" } : Jvm.MethodName)) ∈ lw_all := lw_g (lw_at lw_m9 109 rfl) rfl
theorem q2102 : (Jvm.Cond.selects "PuddleBoatyardModel" ({ cls := "PuddleBoatyardModel", name := "setTide", desc := "(II)I" } : Jvm.MethodName) ({ cls := "PuddleBoatyardModel", name := "setTide", desc := "(II)I" } : Jvm.MethodName)) ∈ lw_all := lw_g (lw_at lw_m9 110 rfl) rfl
theorem q2103 : (Jvm.Cond.code ({ cls := "PuddleBoatyardModel", name := "setTide", desc := "(II)I" } : Jvm.MethodName) prog_19_method_36_code (3 : Nat) (Option.some Jvm.ClassFile.FieldType.int)) ∈ lw_all := lw_g (lw_at lw_m9 111 rfl) rfl
theorem q2104 : (Jvm.Cond.methodLink "PuddleBoatyardModel" (146 : Nat) ({ cls := "PuddleBoatyardModel", name := "tideIt", desc := "(II)I" } : Jvm.MethodName)) ∈ lw_all := lw_g (lw_at lw_m9 112 rfl) rfl
theorem q2105 : (Jvm.Cond.privateMethod ({ cls := "PuddleBoatyardModel", name := "tideIt", desc := "(II)I" } : Jvm.MethodName)) ∈ lw_tbl := lw_at lw_m9 113 rfl
theorem q2106 : (Jvm.Cond.instanceMethod ({ cls := "PuddleBoatyardModel", name := "tideIt", desc := "(II)I" } : Jvm.MethodName)) ∈ lw_all := lw_g (lw_at lw_m9 114 rfl) rfl
theorem q2107 : (Jvm.Cond.code ({ cls := "PuddleBoatyardModel", name := "tideIt", desc := "(II)I" } : Jvm.MethodName) prog_19_method_35_code (4 : Nat) (Option.some Jvm.ClassFile.FieldType.int)) ∈ lw_all := lw_g (lw_at lw_m9 115 rfl) rfl
theorem q2108 : (Jvm.Cond.constantLong "PuddleBoatyardModel" (142 : Nat) (11 : Int64)) ∈ lw_all := lw_g (lw_at lw_m9 116 rfl) rfl
theorem q2109 : (Jvm.Cond.constantLong "PuddleBoatyardModel" (144 : Nat) (50 : Int64)) ∈ lw_all := lw_g (lw_at lw_m9 117 rfl) rfl
theorem q2111 : (Jvm.Cond.instanceMethod ({ cls := "PuddleBoatyardModel", name := "pass", desc := "(I)I" } : Jvm.MethodName)) ∈ lw_all := lw_g (lw_at lw_m9 119 rfl) rfl
theorem q2112 : (Jvm.Cond.selects "PuddleBoatyardModel" ({ cls := "PuddleBoatyardModel", name := "pass", desc := "(I)I" } : Jvm.MethodName) ({ cls := "PuddleBoatyardModel", name := "pass", desc := "(I)I" } : Jvm.MethodName)) ∈ lw_all := lw_g (lw_at lw_m9 120 rfl) rfl
theorem q2113 : (Jvm.Cond.code ({ cls := "PuddleBoatyardModel", name := "pass", desc := "(I)I" } : Jvm.MethodName) prog_19_method_39_code (2 : Nat) (Option.some Jvm.ClassFile.FieldType.int)) ∈ lw_all := lw_g (lw_at lw_m9 121 rfl) rfl
theorem q2114 : (Jvm.Cond.methodLink "PuddleBoatyardModel" (154 : Nat) ({ cls := "PuddleBoatyardModel", name := "hoursIt", desc := "(I)I" } : Jvm.MethodName)) ∈ lw_all := lw_g (lw_at lw_m9 122 rfl) rfl
theorem q2115 : (Jvm.Cond.privateMethod ({ cls := "PuddleBoatyardModel", name := "hoursIt", desc := "(I)I" } : Jvm.MethodName)) ∈ lw_tbl := lw_at lw_m9 123 rfl
theorem q2116 : (Jvm.Cond.instanceMethod ({ cls := "PuddleBoatyardModel", name := "hoursIt", desc := "(I)I" } : Jvm.MethodName)) ∈ lw_all := lw_g (lw_at lw_m9 124 rfl) rfl
theorem q2117 : (Jvm.Cond.code ({ cls := "PuddleBoatyardModel", name := "hoursIt", desc := "(I)I" } : Jvm.MethodName) prog_19_method_38_code (4 : Nat) (Option.some Jvm.ClassFile.FieldType.int)) ∈ lw_all := lw_g (lw_at lw_m9 125 rfl) rfl
theorem q2118 : (Jvm.Cond.constantLong "PuddleBoatyardModel" (149 : Nat) (99 : Int64)) ∈ lw_all := lw_g (lw_at lw_m9 126 rfl) rfl
theorem q2119 : (Jvm.Cond.methodLink "PuddleBoatyardModel" (151 : Nat) ({ cls := "PuddleBoatyardModel", name := "passesHour", desc := "()I" } : Jvm.MethodName)) ∈ lw_all := lw_g (lw_at lw_m9 127 rfl) rfl
theorem q2120 : (Jvm.Cond.privateMethod ({ cls := "PuddleBoatyardModel", name := "passesHour", desc := "()I" } : Jvm.MethodName)) ∈ lw_tbl := lw_at lw_m9 128 rfl
theorem q2121 : (Jvm.Cond.instanceMethod ({ cls := "PuddleBoatyardModel", name := "passesHour", desc := "()I" } : Jvm.MethodName)) ∈ lw_all := lw_g (lw_at lw_m9 129 rfl) rfl
theorem q2122 : (Jvm.Cond.code ({ cls := "PuddleBoatyardModel", name := "passesHour", desc := "()I" } : Jvm.MethodName) prog_19_method_37_code (4 : Nat) (Option.some Jvm.ClassFile.FieldType.int)) ∈ lw_all := lw_g (lw_at lw_m9 130 rfl) rfl
theorem q2124 : (Jvm.Cond.instanceMethod ({ cls := "PuddleBoatyardModel", name := "setSlip", desc := "(II)I" } : Jvm.MethodName)) ∈ lw_all := lw_g (lw_at lw_m9 132 rfl) rfl
theorem q2125 : (Jvm.Cond.selects "PuddleBoatyardModel" ({ cls := "PuddleBoatyardModel", name := "setSlip", desc := "(II)I" } : Jvm.MethodName) ({ cls := "PuddleBoatyardModel", name := "setSlip", desc := "(II)I" } : Jvm.MethodName)) ∈ lw_all := lw_g (lw_at lw_m9 133 rfl) rfl
theorem q2126 : (Jvm.Cond.code ({ cls := "PuddleBoatyardModel", name := "setSlip", desc := "(II)I" } : Jvm.MethodName) prog_19_method_40_code (4 : Nat) (Option.some Jvm.ClassFile.FieldType.int)) ∈ lw_all := lw_g (lw_at lw_m9 134 rfl) rfl
theorem q2127 : (Jvm.Cond.constantLong "PuddleBoatyardModel" (157 : Nat) (3 : Int64)) ∈ lw_all := lw_g (lw_at lw_m9 135 rfl) rfl
theorem q2128 : (Jvm.Cond.constantLong "PuddleBoatyardModel" (159 : Nat) (8 : Int64)) ∈ lw_all := lw_g (lw_at lw_m9 136 rfl) rfl
theorem q2130 : (Jvm.Cond.instanceMethod ({ cls := "PuddleBoatyardModel", name := "addOrder", desc := "(III)I" } : Jvm.MethodName)) ∈ lw_all := lw_g (lw_at lw_m9 138 rfl) rfl
theorem q2131 : (Jvm.Cond.selects "PuddleBoatyardModel" ({ cls := "PuddleBoatyardModel", name := "addOrder", desc := "(III)I" } : Jvm.MethodName) ({ cls := "PuddleBoatyardModel", name := "addOrder", desc := "(III)I" } : Jvm.MethodName)) ∈ lw_all := lw_g (lw_at lw_m9 139 rfl) rfl
theorem q2132 : (Jvm.Cond.code ({ cls := "PuddleBoatyardModel", name := "addOrder", desc := "(III)I" } : Jvm.MethodName) prog_19_method_42_code (4 : Nat) (Option.some Jvm.ClassFile.FieldType.int)) ∈ lw_all := lw_g (lw_at lw_m9 140 rfl) rfl
theorem q2133 : (Jvm.Cond.methodLink "PuddleBoatyardModel" (163 : Nat) ({ cls := "PuddleBoatyardModel", name := "orderIt", desc := "(III)I" } : Jvm.MethodName)) ∈ lw_all := lw_g (lw_at lw_m9 141 rfl) rfl
theorem q2134 : (Jvm.Cond.privateMethod ({ cls := "PuddleBoatyardModel", name := "orderIt", desc := "(III)I" } : Jvm.MethodName)) ∈ lw_tbl := lw_at lw_m9 142 rfl
theorem q2135 : (Jvm.Cond.instanceMethod ({ cls := "PuddleBoatyardModel", name := "orderIt", desc := "(III)I" } : Jvm.MethodName)) ∈ lw_all := lw_g (lw_at lw_m9 143 rfl) rfl
theorem q2136 : (Jvm.Cond.code ({ cls := "PuddleBoatyardModel", name := "orderIt", desc := "(III)I" } : Jvm.MethodName) prog_19_method_41_code (5 : Nat) (Option.some Jvm.ClassFile.FieldType.int)) ∈ lw_all := lw_g (lw_at lw_m9 144 rfl) rfl
theorem q2137 : (Jvm.Cond.constantLong "PuddleBoatyardModel" (161 : Nat) (2 : Int64)) ∈ lw_all := lw_g (lw_at lw_m9 145 rfl) rfl
theorem q2139 : (Jvm.Cond.instanceMethod ({ cls := "PuddleBoatyardModel", name := "deliver", desc := "(II)I" } : Jvm.MethodName)) ∈ lw_all := lw_g (lw_at lw_m9 147 rfl) rfl
theorem q2140 : (Jvm.Cond.selects "PuddleBoatyardModel" ({ cls := "PuddleBoatyardModel", name := "deliver", desc := "(II)I" } : Jvm.MethodName) ({ cls := "PuddleBoatyardModel", name := "deliver", desc := "(II)I" } : Jvm.MethodName)) ∈ lw_all := lw_g (lw_at lw_m9 148 rfl) rfl
theorem q2141 : (Jvm.Cond.code ({ cls := "PuddleBoatyardModel", name := "deliver", desc := "(II)I" } : Jvm.MethodName) prog_19_method_44_code (3 : Nat) (Option.some Jvm.ClassFile.FieldType.int)) ∈ lw_all := lw_g (lw_at lw_m9 149 rfl) rfl
theorem q2142 : (Jvm.Cond.methodLink "PuddleBoatyardModel" (172 : Nat) ({ cls := "PuddleBoatyardModel", name := "deliverIt", desc := "(II)I" } : Jvm.MethodName)) ∈ lw_all := lw_g (lw_at lw_m9 150 rfl) rfl
theorem q2143 : (Jvm.Cond.privateMethod ({ cls := "PuddleBoatyardModel", name := "deliverIt", desc := "(II)I" } : Jvm.MethodName)) ∈ lw_tbl := lw_at lw_m9 151 rfl
theorem q2144 : (Jvm.Cond.instanceMethod ({ cls := "PuddleBoatyardModel", name := "deliverIt", desc := "(II)I" } : Jvm.MethodName)) ∈ lw_all := lw_g (lw_at lw_m9 152 rfl) rfl
theorem q2145 : (Jvm.Cond.code ({ cls := "PuddleBoatyardModel", name := "deliverIt", desc := "(II)I" } : Jvm.MethodName) prog_19_method_43_code (6 : Nat) (Option.some Jvm.ClassFile.FieldType.int)) ∈ lw_all := lw_g (lw_at lw_m9 153 rfl) rfl
theorem q2146 : (Jvm.Cond.methodLink "PuddleBoatyardModel" (166 : Nat) ({ cls := "PuddleBoatyardModel", name := "find", desc := "(I)I" } : Jvm.MethodName)) ∈ lw_all := lw_g (lw_at lw_m9 154 rfl) rfl
theorem q2147 : (Jvm.Cond.privateMethod ({ cls := "PuddleBoatyardModel", name := "find", desc := "(I)I" } : Jvm.MethodName)) ∈ lw_tbl := lw_at lw_m9 155 rfl
theorem q2148 : (Jvm.Cond.instanceMethod ({ cls := "PuddleBoatyardModel", name := "find", desc := "(I)I" } : Jvm.MethodName)) ∈ lw_all := lw_g (lw_at lw_m9 156 rfl) rfl
theorem q2149 : (Jvm.Cond.code ({ cls := "PuddleBoatyardModel", name := "find", desc := "(I)I" } : Jvm.MethodName) prog_19_method_19_code (3 : Nat) (Option.some Jvm.ClassFile.FieldType.int)) ∈ lw_all := lw_g (lw_at lw_m9 157 rfl) rfl
theorem q2150 : (Jvm.Cond.methodLink "PuddleBoatyardModel" (169 : Nat) ({ cls := "PuddleBoatyardModel", name := "coins", desc := "(I)I" } : Jvm.MethodName)) ∈ lw_all := lw_g (lw_at lw_m9 158 rfl) rfl
theorem q2151 : (Jvm.Cond.privateMethod ({ cls := "PuddleBoatyardModel", name := "coins", desc := "(I)I" } : Jvm.MethodName)) ∈ lw_tbl := lw_at lw_m9 159 rfl
theorem q2152 : (Jvm.Cond.instanceMethod ({ cls := "PuddleBoatyardModel", name := "coins", desc := "(I)I" } : Jvm.MethodName)) ∈ lw_all := lw_g (lw_at lw_m9 160 rfl) rfl
theorem q2153 : (Jvm.Cond.code ({ cls := "PuddleBoatyardModel", name := "coins", desc := "(I)I" } : Jvm.MethodName) prog_19_method_20_code (3 : Nat) (Option.some Jvm.ClassFile.FieldType.int)) ∈ lw_all := lw_g (lw_at lw_m9 161 rfl) rfl
theorem q2155 : (Jvm.Cond.instanceMethod ({ cls := "PuddleBoatyardModel", name := "hullCount", desc := "()I" } : Jvm.MethodName)) ∈ lw_all := lw_g (lw_at lw_m9 163 rfl) rfl
theorem q2156 : (Jvm.Cond.selects "PuddleBoatyardModel" ({ cls := "PuddleBoatyardModel", name := "hullCount", desc := "()I" } : Jvm.MethodName) ({ cls := "PuddleBoatyardModel", name := "hullCount", desc := "()I" } : Jvm.MethodName)) ∈ lw_all := lw_g (lw_at lw_m9 164 rfl) rfl
theorem q2157 : (Jvm.Cond.code ({ cls := "PuddleBoatyardModel", name := "hullCount", desc := "()I" } : Jvm.MethodName) prog_19_method_45_code (1 : Nat) (Option.some Jvm.ClassFile.FieldType.int)) ∈ lw_all := lw_g (lw_at lw_m9 165 rfl) rfl
theorem q2159 : (Jvm.Cond.instanceMethod ({ cls := "PuddleBoatyardModel", name := "stateOf", desc := "(I)I" } : Jvm.MethodName)) ∈ lw_all := lw_g (lw_at lw_m9 167 rfl) rfl
theorem q2160 : (Jvm.Cond.selects "PuddleBoatyardModel" ({ cls := "PuddleBoatyardModel", name := "stateOf", desc := "(I)I" } : Jvm.MethodName) ({ cls := "PuddleBoatyardModel", name := "stateOf", desc := "(I)I" } : Jvm.MethodName)) ∈ lw_all := lw_g (lw_at lw_m9 168 rfl) rfl
theorem q2161 : (Jvm.Cond.code ({ cls := "PuddleBoatyardModel", name := "stateOf", desc := "(I)I" } : Jvm.MethodName) prog_19_method_47_code (2 : Nat) (Option.some Jvm.ClassFile.FieldType.int)) ∈ lw_all := lw_g (lw_at lw_m9 169 rfl) rfl
theorem q2162 : (Jvm.Cond.methodLink "PuddleBoatyardModel" (175 : Nat) ({ cls := "PuddleBoatyardModel", name := "ofHull", desc := "(II)I" } : Jvm.MethodName)) ∈ lw_all := lw_g (lw_at lw_m9 170 rfl) rfl
theorem q2163 : (Jvm.Cond.privateMethod ({ cls := "PuddleBoatyardModel", name := "ofHull", desc := "(II)I" } : Jvm.MethodName)) ∈ lw_tbl := lw_at lw_m9 171 rfl
theorem q2164 : (Jvm.Cond.instanceMethod ({ cls := "PuddleBoatyardModel", name := "ofHull", desc := "(II)I" } : Jvm.MethodName)) ∈ lw_all := lw_g (lw_at lw_m9 172 rfl) rfl
theorem q2165 : (Jvm.Cond.code ({ cls := "PuddleBoatyardModel", name := "ofHull", desc := "(II)I" } : Jvm.MethodName) prog_19_method_46_code (3 : Nat) (Option.some Jvm.ClassFile.FieldType.int)) ∈ lw_all := lw_g (lw_at lw_m9 173 rfl) rfl
theorem q2167 : (Jvm.Cond.instanceMethod ({ cls := "PuddleBoatyardModel", name := "frameCount", desc := "(I)I" } : Jvm.MethodName)) ∈ lw_all := lw_g (lw_at lw_m9 175 rfl) rfl
theorem q2168 : (Jvm.Cond.selects "PuddleBoatyardModel" ({ cls := "PuddleBoatyardModel", name := "frameCount", desc := "(I)I" } : Jvm.MethodName) ({ cls := "PuddleBoatyardModel", name := "frameCount", desc := "(I)I" } : Jvm.MethodName)) ∈ lw_all := lw_g (lw_at lw_m9 176 rfl) rfl
theorem q2169 : (Jvm.Cond.code ({ cls := "PuddleBoatyardModel", name := "frameCount", desc := "(I)I" } : Jvm.MethodName) prog_19_method_48_code (2 : Nat) (Option.some Jvm.ClassFile.FieldType.int)) ∈ lw_all := lw_g (lw_at lw_m9 177 rfl) rfl
theorem q2171 : (Jvm.Cond.instanceMethod ({ cls := "PuddleBoatyardModel", name := "widthOf", desc := "(IIZ)I" } : Jvm.MethodName)) ∈ lw_all := lw_g (lw_at lw_m9 179 rfl) rfl
theorem q2172 : (Jvm.Cond.selects "PuddleBoatyardModel" ({ cls := "PuddleBoatyardModel", name := "widthOf", desc := "(IIZ)I" } : Jvm.MethodName) ({ cls := "PuddleBoatyardModel", name := "widthOf", desc := "(IIZ)I" } : Jvm.MethodName)) ∈ lw_all := lw_g (lw_at lw_m9 180 rfl) rfl
theorem q2173 : (Jvm.Cond.code ({ cls := "PuddleBoatyardModel", name := "widthOf", desc := "(IIZ)I" } : Jvm.MethodName) prog_19_method_49_code (5 : Nat) (Option.some Jvm.ClassFile.FieldType.int)) ∈ lw_all := lw_g (lw_at lw_m9 181 rfl) rfl
theorem q2175 : (Jvm.Cond.instanceMethod ({ cls := "PuddleBoatyardModel", name := "caulkingOf", desc := "(II)I" } : Jvm.MethodName)) ∈ lw_all := lw_g (lw_at lw_m9 183 rfl) rfl
theorem q2176 : (Jvm.Cond.selects "PuddleBoatyardModel" ({ cls := "PuddleBoatyardModel", name := "caulkingOf", desc := "(II)I" } : Jvm.MethodName) ({ cls := "PuddleBoatyardModel", name := "caulkingOf", desc := "(II)I" } : Jvm.MethodName)) ∈ lw_all := lw_g (lw_at lw_m9 184 rfl) rfl
theorem q2177 : (Jvm.Cond.code ({ cls := "PuddleBoatyardModel", name := "caulkingOf", desc := "(II)I" } : Jvm.MethodName) prog_19_method_50_code (3 : Nat) (Option.some Jvm.ClassFile.FieldType.int)) ∈ lw_all := lw_g (lw_at lw_m9 185 rfl) rfl
theorem q2179 : (Jvm.Cond.instanceMethod ({ cls := "PuddleBoatyardModel", name := "waterIn", desc := "(I)I" } : Jvm.MethodName)) ∈ lw_all := lw_g (lw_at lw_m9 187 rfl) rfl
theorem q2180 : (Jvm.Cond.selects "PuddleBoatyardModel" ({ cls := "PuddleBoatyardModel", name := "waterIn", desc := "(I)I" } : Jvm.MethodName) ({ cls := "PuddleBoatyardModel", name := "waterIn", desc := "(I)I" } : Jvm.MethodName)) ∈ lw_all := lw_g (lw_at lw_m9 188 rfl) rfl
theorem q2181 : (Jvm.Cond.code ({ cls := "PuddleBoatyardModel", name := "waterIn", desc := "(I)I" } : Jvm.MethodName) prog_19_method_51_code (2 : Nat) (Option.some Jvm.ClassFile.FieldType.int)) ∈ lw_all := lw_g (lw_at lw_m9 189 rfl) rfl
theorem q2183 : (Jvm.Cond.instanceMethod ({ cls := "PuddleBoatyardModel", name := "weightOf", desc := "(I)I" } : Jvm.MethodName)) ∈ lw_all := lw_g (lw_at lw_m9 191 rfl) rfl
theorem q2184 : (Jvm.Cond.selects "PuddleBoatyardModel" ({ cls := "PuddleBoatyardModel", name := "weightOf", desc := "(I)I" } : Jvm.MethodName) ({ cls := "PuddleBoatyardModel", name := "weightOf", desc := "(I)I" } : Jvm.MethodName)) ∈ lw_all := lw_g (lw_at lw_m9 192 rfl) rfl
theorem q2185 : (Jvm.Cond.code ({ cls := "PuddleBoatyardModel", name := "weightOf", desc := "(I)I" } : Jvm.MethodName) prog_19_method_52_code (2 : Nat) (Option.some Jvm.ClassFile.FieldType.int)) ∈ lw_all := lw_g (lw_at lw_m9 193 rfl) rfl
theorem q2187 : (Jvm.Cond.instanceMethod ({ cls := "PuddleBoatyardModel", name := "draughtOf", desc := "(I)I" } : Jvm.MethodName)) ∈ lw_all := lw_g (lw_at lw_m9 195 rfl) rfl
theorem q2188 : (Jvm.Cond.selects "PuddleBoatyardModel" ({ cls := "PuddleBoatyardModel", name := "draughtOf", desc := "(I)I" } : Jvm.MethodName) ({ cls := "PuddleBoatyardModel", name := "draughtOf", desc := "(I)I" } : Jvm.MethodName)) ∈ lw_all := lw_g (lw_at lw_m9 196 rfl) rfl
theorem q2189 : (Jvm.Cond.code ({ cls := "PuddleBoatyardModel", name := "draughtOf", desc := "(I)I" } : Jvm.MethodName) prog_19_method_53_code (3 : Nat) (Option.some Jvm.ClassFile.FieldType.int)) ∈ lw_all := lw_g (lw_at lw_m9 197 rfl) rfl
theorem q2191 : (Jvm.Cond.instanceMethod ({ cls := "PuddleBoatyardModel", name := "draughtByHalving", desc := "(I)I" } : Jvm.MethodName)) ∈ lw_all := lw_g (lw_at lw_m9 199 rfl) rfl
theorem q2192 : (Jvm.Cond.selects "PuddleBoatyardModel" ({ cls := "PuddleBoatyardModel", name := "draughtByHalving", desc := "(I)I" } : Jvm.MethodName) ({ cls := "PuddleBoatyardModel", name := "draughtByHalving", desc := "(I)I" } : Jvm.MethodName)) ∈ lw_all := lw_g (lw_at lw_m9 200 rfl) rfl
theorem q2193 : (Jvm.Cond.code ({ cls := "PuddleBoatyardModel", name := "draughtByHalving", desc := "(I)I" } : Jvm.MethodName) prog_19_method_54_code (2 : Nat) (Option.some Jvm.ClassFile.FieldType.int)) ∈ lw_all := lw_g (lw_at lw_m9 201 rfl) rfl
theorem q2194 : (Jvm.Cond.methodLink "PuddleBoatyardModel" (178 : Nat) ({ cls := "PuddleBoatyardModel", name := "draughtOf", desc := "(I)I" } : Jvm.MethodName)) ∈ lw_all := lw_g (lw_at lw_m9 202 rfl) rfl
theorem q2196 : (Jvm.Cond.instanceMethod ({ cls := "PuddleBoatyardModel", name := "heelOf", desc := "(I)I" } : Jvm.MethodName)) ∈ lw_all := lw_g (lw_at lw_m9 204 rfl) rfl
theorem q2197 : (Jvm.Cond.selects "PuddleBoatyardModel" ({ cls := "PuddleBoatyardModel", name := "heelOf", desc := "(I)I" } : Jvm.MethodName) ({ cls := "PuddleBoatyardModel", name := "heelOf", desc := "(I)I" } : Jvm.MethodName)) ∈ lw_all := lw_g (lw_at lw_m9 205 rfl) rfl
theorem q2198 : (Jvm.Cond.code ({ cls := "PuddleBoatyardModel", name := "heelOf", desc := "(I)I" } : Jvm.MethodName) prog_19_method_55_code (4 : Nat) (Option.some Jvm.ClassFile.FieldType.int)) ∈ lw_all := lw_g (lw_at lw_m9 206 rfl) rfl
theorem q2200 : (Jvm.Cond.instanceMethod ({ cls := "PuddleBoatyardModel", name := "hullAtRank", desc := "(I)I" } : Jvm.MethodName)) ∈ lw_all := lw_g (lw_at lw_m9 208 rfl) rfl
theorem q2201 : (Jvm.Cond.selects "PuddleBoatyardModel" ({ cls := "PuddleBoatyardModel", name := "hullAtRank", desc := "(I)I" } : Jvm.MethodName) ({ cls := "PuddleBoatyardModel", name := "hullAtRank", desc := "(I)I" } : Jvm.MethodName)) ∈ lw_all := lw_g (lw_at lw_m9 209 rfl) rfl
theorem q2202 : (Jvm.Cond.code ({ cls := "PuddleBoatyardModel", name := "hullAtRank", desc := "(I)I" } : Jvm.MethodName) prog_19_method_56_code (6 : Nat) (Option.some Jvm.ClassFile.FieldType.int)) ∈ lw_all := lw_g (lw_at lw_m9 210 rfl) rfl
theorem q2204 : (Jvm.Cond.instanceMethod ({ cls := "PuddleBoatyardModel", name := "isSymmetric", desc := "(I)Z" } : Jvm.MethodName)) ∈ lw_all := lw_g (lw_at lw_m9 212 rfl) rfl
theorem q2205 : (Jvm.Cond.selects "PuddleBoatyardModel" ({ cls := "PuddleBoatyardModel", name := "isSymmetric", desc := "(I)Z" } : Jvm.MethodName) ({ cls := "PuddleBoatyardModel", name := "isSymmetric", desc := "(I)Z" } : Jvm.MethodName)) ∈ lw_all := lw_g (lw_at lw_m9 213 rfl) rfl
theorem q2206 : (Jvm.Cond.code ({ cls := "PuddleBoatyardModel", name := "isSymmetric", desc := "(I)Z" } : Jvm.MethodName) prog_19_method_59_code (2 : Nat) (Option.some Jvm.ClassFile.FieldType.boolean)) ∈ lw_all := lw_g (lw_at lw_m9 214 rfl) rfl
theorem q2207 : (Jvm.Cond.methodLink "PuddleBoatyardModel" (185 : Nat) ({ cls := "PuddleBoatyardModel", name := "isReflectionOf", desc := "(II)Z" } : Jvm.MethodName)) ∈ lw_all := lw_g (lw_at lw_m9 215 rfl) rfl
theorem q2208 : (Jvm.Cond.instanceMethod ({ cls := "PuddleBoatyardModel", name := "isReflectionOf", desc := "(II)Z" } : Jvm.MethodName)) ∈ lw_all := lw_g (lw_at lw_m9 216 rfl) rfl
theorem q2209 : (Jvm.Cond.selects "PuddleBoatyardModel" ({ cls := "PuddleBoatyardModel", name := "isReflectionOf", desc := "(II)Z" } : Jvm.MethodName) ({ cls := "PuddleBoatyardModel", name := "isReflectionOf", desc := "(II)Z" } : Jvm.MethodName)) ∈ lw_all := lw_g (lw_at lw_m9 217 rfl) rfl
theorem q2210 : (Jvm.Cond.code ({ cls := "PuddleBoatyardModel", name := "isReflectionOf", desc := "(II)Z" } : Jvm.MethodName) prog_19_method_60_code (3 : Nat) (Option.some Jvm.ClassFile.FieldType.boolean)) ∈ lw_all := lw_g (lw_at lw_m9 218 rfl) rfl
theorem q2211 : (Jvm.Cond.methodLink "PuddleBoatyardModel" (188 : Nat) ({ cls := "PuddleBoatyardModel", name := "isReflection", desc := "(II)Z" } : Jvm.MethodName)) ∈ lw_all := lw_g (lw_at lw_m9 219 rfl) rfl
theorem q2212 : (Jvm.Cond.privateMethod ({ cls := "PuddleBoatyardModel", name := "isReflection", desc := "(II)Z" } : Jvm.MethodName)) ∈ lw_tbl := lw_at lw_m9 220 rfl
theorem q2213 : (Jvm.Cond.instanceMethod ({ cls := "PuddleBoatyardModel", name := "isReflection", desc := "(II)Z" } : Jvm.MethodName)) ∈ lw_all := lw_g (lw_at lw_m9 221 rfl) rfl
theorem q2214 : (Jvm.Cond.code ({ cls := "PuddleBoatyardModel", name := "isReflection", desc := "(II)Z" } : Jvm.MethodName) prog_19_method_58_code (5 : Nat) (Option.some Jvm.ClassFile.FieldType.boolean)) ∈ lw_all := lw_g (lw_at lw_m9 222 rfl) rfl
theorem q2215 : (Jvm.Cond.methodLink "PuddleBoatyardModel" (181 : Nat) ({ cls := "PuddleBoatyardModel", name := "isMirrored", desc := "(IIII)Z" } : Jvm.MethodName)) ∈ lw_all := lw_g (lw_at lw_m9 223 rfl) rfl
theorem q2216 : (Jvm.Cond.privateMethod ({ cls := "PuddleBoatyardModel", name := "isMirrored", desc := "(IIII)Z" } : Jvm.MethodName)) ∈ lw_tbl := lw_at lw_m9 224 rfl
theorem q2217 : (Jvm.Cond.instanceMethod ({ cls := "PuddleBoatyardModel", name := "isMirrored", desc := "(IIII)Z" } : Jvm.MethodName)) ∈ lw_all := lw_g (lw_at lw_m9 225 rfl) rfl
theorem q2218 : (Jvm.Cond.code ({ cls := "PuddleBoatyardModel", name := "isMirrored", desc := "(IIII)Z" } : Jvm.MethodName) prog_19_method_57_code (5 : Nat) (Option.some Jvm.ClassFile.FieldType.boolean)) ∈ lw_all := lw_g (lw_at lw_m9 226 rfl) rfl
theorem q2221 : (Jvm.Cond.instanceMethod ({ cls := "PuddleBoatyardModel", name := "commonStretch", desc := "(II)I" } : Jvm.MethodName)) ∈ lw_all := lw_g (lw_at lw_m9 229 rfl) rfl
theorem q2222 : (Jvm.Cond.selects "PuddleBoatyardModel" ({ cls := "PuddleBoatyardModel", name := "commonStretch", desc := "(II)I" } : Jvm.MethodName) ({ cls := "PuddleBoatyardModel", name := "commonStretch", desc := "(II)I" } : Jvm.MethodName)) ∈ lw_all := lw_g (lw_at lw_m9 230 rfl) rfl
theorem q2223 : (Jvm.Cond.code ({ cls := "PuddleBoatyardModel", name := "commonStretch", desc := "(II)I" } : Jvm.MethodName) prog_19_method_61_code (7 : Nat) (Option.some Jvm.ClassFile.FieldType.int)) ∈ lw_all := lw_g (lw_at lw_m9 231 rfl) rfl
theorem q2225 : (Jvm.Cond.instanceMethod ({ cls := "PuddleBoatyardModel", name := "commonStretchByTrying", desc := "(II)I" } : Jvm.MethodName)) ∈ lw_all := lw_g (lw_at lw_m9 233 rfl) rfl
theorem q2226 : (Jvm.Cond.selects "PuddleBoatyardModel" ({ cls := "PuddleBoatyardModel", name := "commonStretchByTrying", desc := "(II)I" } : Jvm.MethodName) ({ cls := "PuddleBoatyardModel", name := "commonStretchByTrying", desc := "(II)I" } : Jvm.MethodName)) ∈ lw_all := lw_g (lw_at lw_m9 234 rfl) rfl
theorem q2227 : (Jvm.Cond.code ({ cls := "PuddleBoatyardModel", name := "commonStretchByTrying", desc := "(II)I" } : Jvm.MethodName) prog_19_method_62_code (3 : Nat) (Option.some Jvm.ClassFile.FieldType.int)) ∈ lw_all := lw_g (lw_at lw_m9 235 rfl) rfl
theorem q2228 : (Jvm.Cond.methodLink "PuddleBoatyardModel" (191 : Nat) ({ cls := "PuddleBoatyardModel", name := "commonStretch", desc := "(II)I" } : Jvm.MethodName)) ∈ lw_all := lw_g (lw_at lw_m9 236 rfl) rfl
theorem q2230 : (Jvm.Cond.instanceMethod ({ cls := "PuddleBoatyardModel", name := "hour", desc := "()I" } : Jvm.MethodName)) ∈ lw_all := lw_g (lw_at lw_m9 238 rfl) rfl
theorem q2231 : (Jvm.Cond.selects "PuddleBoatyardModel" ({ cls := "PuddleBoatyardModel", name := "hour", desc := "()I" } : Jvm.MethodName) ({ cls := "PuddleBoatyardModel", name := "hour", desc := "()I" } : Jvm.MethodName)) ∈ lw_all := lw_g (lw_at lw_m9 239 rfl) rfl
theorem q2232 : (Jvm.Cond.code ({ cls := "PuddleBoatyardModel", name := "hour", desc := "()I" } : Jvm.MethodName) prog_19_method_63_code (1 : Nat) (Option.some Jvm.ClassFile.FieldType.int)) ∈ lw_all := lw_g (lw_at lw_m10 0 rfl) rfl
theorem q2234 : (Jvm.Cond.instanceMethod ({ cls := "PuddleBoatyardModel", name := "tideAfter", desc := "(I)I" } : Jvm.MethodName)) ∈ lw_all := lw_g (lw_at lw_m10 2 rfl) rfl
theorem q2235 : (Jvm.Cond.selects "PuddleBoatyardModel" ({ cls := "PuddleBoatyardModel", name := "tideAfter", desc := "(I)I" } : Jvm.MethodName) ({ cls := "PuddleBoatyardModel", name := "tideAfter", desc := "(I)I" } : Jvm.MethodName)) ∈ lw_all := lw_g (lw_at lw_m10 3 rfl) rfl
theorem q2236 : (Jvm.Cond.code ({ cls := "PuddleBoatyardModel", name := "tideAfter", desc := "(I)I" } : Jvm.MethodName) prog_19_method_64_code (2 : Nat) (Option.some Jvm.ClassFile.FieldType.int)) ∈ lw_all := lw_g (lw_at lw_m10 4 rfl) rfl
theorem q2238 : (Jvm.Cond.instanceMethod ({ cls := "PuddleBoatyardModel", name := "hoursToLaunch", desc := "(I)I" } : Jvm.MethodName)) ∈ lw_all := lw_g (lw_at lw_m10 6 rfl) rfl
theorem q2239 : (Jvm.Cond.selects "PuddleBoatyardModel" ({ cls := "PuddleBoatyardModel", name := "hoursToLaunch", desc := "(I)I" } : Jvm.MethodName) ({ cls := "PuddleBoatyardModel", name := "hoursToLaunch", desc := "(I)I" } : Jvm.MethodName)) ∈ lw_all := lw_g (lw_at lw_m10 7 rfl) rfl
theorem q2240 : (Jvm.Cond.code ({ cls := "PuddleBoatyardModel", name := "hoursToLaunch", desc := "(I)I" } : Jvm.MethodName) prog_19_method_65_code (4 : Nat) (Option.some Jvm.ClassFile.FieldType.int)) ∈ lw_all := lw_g (lw_at lw_m10 8 rfl) rfl
theorem q2242 : (Jvm.Cond.instanceMethod ({ cls := "PuddleBoatyardModel", name := "hoursToLaunchByTides", desc := "(I)I" } : Jvm.MethodName)) ∈ lw_all := lw_g (lw_at lw_m10 10 rfl) rfl
theorem q2243 : (Jvm.Cond.selects "PuddleBoatyardModel" ({ cls := "PuddleBoatyardModel", name := "hoursToLaunchByTides", desc := "(I)I" } : Jvm.MethodName) ({ cls := "PuddleBoatyardModel", name := "hoursToLaunchByTides", desc := "(I)I" } : Jvm.MethodName)) ∈ lw_all := lw_g (lw_at lw_m10 11 rfl) rfl
theorem q2244 : (Jvm.Cond.code ({ cls := "PuddleBoatyardModel", name := "hoursToLaunchByTides", desc := "(I)I" } : Jvm.MethodName) prog_19_method_66_code (2 : Nat) (Option.some Jvm.ClassFile.FieldType.int)) ∈ lw_all := lw_g (lw_at lw_m10 12 rfl) rfl
theorem q2245 : (Jvm.Cond.methodLink "PuddleBoatyardModel" (194 : Nat) ({ cls := "PuddleBoatyardModel", name := "hoursToLaunch", desc := "(I)I" } : Jvm.MethodName)) ∈ lw_all := lw_g (lw_at lw_m10 13 rfl) rfl
theorem q2247 : (Jvm.Cond.instanceMethod ({ cls := "PuddleBoatyardModel", name := "hoursToSinking", desc := "(I)I" } : Jvm.MethodName)) ∈ lw_all := lw_g (lw_at lw_m10 15 rfl) rfl
theorem q2248 : (Jvm.Cond.selects "PuddleBoatyardModel" ({ cls := "PuddleBoatyardModel", name := "hoursToSinking", desc := "(I)I" } : Jvm.MethodName) ({ cls := "PuddleBoatyardModel", name := "hoursToSinking", desc := "(I)I" } : Jvm.MethodName)) ∈ lw_all := lw_g (lw_at lw_m10 16 rfl) rfl
theorem q2249 : (Jvm.Cond.code ({ cls := "PuddleBoatyardModel", name := "hoursToSinking", desc := "(I)I" } : Jvm.MethodName) prog_19_method_67_code (5 : Nat) (Option.some Jvm.ClassFile.FieldType.int)) ∈ lw_all := lw_g (lw_at lw_m10 17 rfl) rfl
theorem q2251 : (Jvm.Cond.instanceMethod ({ cls := "PuddleBoatyardModel", name := "slipLength", desc := "(I)I" } : Jvm.MethodName)) ∈ lw_all := lw_g (lw_at lw_m10 19 rfl) rfl
theorem q2252 : (Jvm.Cond.selects "PuddleBoatyardModel" ({ cls := "PuddleBoatyardModel", name := "slipLength", desc := "(I)I" } : Jvm.MethodName) ({ cls := "PuddleBoatyardModel", name := "slipLength", desc := "(I)I" } : Jvm.MethodName)) ∈ lw_all := lw_g (lw_at lw_m10 20 rfl) rfl
theorem q2253 : (Jvm.Cond.code ({ cls := "PuddleBoatyardModel", name := "slipLength", desc := "(I)I" } : Jvm.MethodName) prog_19_method_68_code (2 : Nat) (Option.some Jvm.ClassFile.FieldType.int)) ∈ lw_all := lw_g (lw_at lw_m10 21 rfl) rfl
theorem q2255 : (Jvm.Cond.instanceMethod ({ cls := "PuddleBoatyardModel", name := "mostOnSlips", desc := "()I" } : Jvm.MethodName)) ∈ lw_all := lw_g (lw_at lw_m10 23 rfl) rfl
theorem q2256 : (Jvm.Cond.selects "PuddleBoatyardModel" ({ cls := "PuddleBoatyardModel", name := "mostOnSlips", desc := "()I" } : Jvm.MethodName) ({ cls := "PuddleBoatyardModel", name := "mostOnSlips", desc := "()I" } : Jvm.MethodName)) ∈ lw_all := lw_g (lw_at lw_m10 24 rfl) rfl
theorem q2257 : (Jvm.Cond.code ({ cls := "PuddleBoatyardModel", name := "mostOnSlips", desc := "()I" } : Jvm.MethodName) prog_19_method_71_code (1 : Nat) (Option.some Jvm.ClassFile.FieldType.int)) ∈ lw_all := lw_g (lw_at lw_m10 25 rfl) rfl
theorem q2258 : (Jvm.Cond.methodLink "PuddleBoatyardModel" (207 : Nat) ({ cls := "PuddleBoatyardModel", name := "worksUses", desc := "()V" } : Jvm.MethodName)) ∈ lw_all := lw_g (lw_at lw_m10 26 rfl) rfl
theorem q2259 : (Jvm.Cond.privateMethod ({ cls := "PuddleBoatyardModel", name := "worksUses", desc := "()V" } : Jvm.MethodName)) ∈ lw_tbl := lw_at lw_m10 27 rfl
theorem q2260 : (Jvm.Cond.instanceMethod ({ cls := "PuddleBoatyardModel", name := "worksUses", desc := "()V" } : Jvm.MethodName)) ∈ lw_all := lw_g (lw_at lw_m10 28 rfl) rfl
theorem q2261 : (Jvm.Cond.code ({ cls := "PuddleBoatyardModel", name := "worksUses", desc := "()V" } : Jvm.MethodName) prog_19_method_70_code (3 : Nat) (Option.none : Option Jvm.ClassFile.FieldType)) ∈ lw_all := lw_g (lw_at lw_m10 29 rfl) rfl
theorem q2262 : (Jvm.Cond.methodLink "PuddleBoatyardModel" (204 : Nat) ({ cls := "PuddleBoatyardModel", name := "useOf", desc := "(I)I" } : Jvm.MethodName)) ∈ lw_all := lw_g (lw_at lw_m10 30 rfl) rfl
theorem q2263 : (Jvm.Cond.privateMethod ({ cls := "PuddleBoatyardModel", name := "useOf", desc := "(I)I" } : Jvm.MethodName)) ∈ lw_tbl := lw_at lw_m10 31 rfl
theorem q2264 : (Jvm.Cond.instanceMethod ({ cls := "PuddleBoatyardModel", name := "useOf", desc := "(I)I" } : Jvm.MethodName)) ∈ lw_all := lw_g (lw_at lw_m10 32 rfl) rfl
theorem q2265 : (Jvm.Cond.code ({ cls := "PuddleBoatyardModel", name := "useOf", desc := "(I)I" } : Jvm.MethodName) prog_19_method_69_code (8 : Nat) (Option.some Jvm.ClassFile.FieldType.int)) ∈ lw_all := lw_g (lw_at lw_m10 33 rfl) rfl
theorem q2267 : (Jvm.Cond.instanceMethod ({ cls := "PuddleBoatyardModel", name := "mostOnSlipsByLengths", desc := "()I" } : Jvm.MethodName)) ∈ lw_all := lw_g (lw_at lw_m10 35 rfl) rfl
theorem q2268 : (Jvm.Cond.selects "PuddleBoatyardModel" ({ cls := "PuddleBoatyardModel", name := "mostOnSlipsByLengths", desc := "()I" } : Jvm.MethodName) ({ cls := "PuddleBoatyardModel", name := "mostOnSlipsByLengths", desc := "()I" } : Jvm.MethodName)) ∈ lw_all := lw_g (lw_at lw_m10 36 rfl) rfl
theorem q2269 : (Jvm.Cond.code ({ cls := "PuddleBoatyardModel", name := "mostOnSlipsByLengths", desc := "()I" } : Jvm.MethodName) prog_19_method_72_code (1 : Nat) (Option.some Jvm.ClassFile.FieldType.int)) ∈ lw_all := lw_g (lw_at lw_m10 37 rfl) rfl
theorem q2270 : (Jvm.Cond.methodLink "PuddleBoatyardModel" (210 : Nat) ({ cls := "PuddleBoatyardModel", name := "mostOnSlips", desc := "()I" } : Jvm.MethodName)) ∈ lw_all := lw_g (lw_at lw_m10 38 rfl) rfl
theorem q2272 : (Jvm.Cond.instanceMethod ({ cls := "PuddleBoatyardModel", name := "bestUses", desc := "()I" } : Jvm.MethodName)) ∈ lw_all := lw_g (lw_at lw_m10 40 rfl) rfl
theorem q2273 : (Jvm.Cond.selects "PuddleBoatyardModel" ({ cls := "PuddleBoatyardModel", name := "bestUses", desc := "()I" } : Jvm.MethodName) ({ cls := "PuddleBoatyardModel", name := "bestUses", desc := "()I" } : Jvm.MethodName)) ∈ lw_all := lw_g (lw_at lw_m10 41 rfl) rfl
theorem q2274 : (Jvm.Cond.code ({ cls := "PuddleBoatyardModel", name := "bestUses", desc := "()I" } : Jvm.MethodName) prog_19_method_73_code (1 : Nat) (Option.some Jvm.ClassFile.FieldType.int)) ∈ lw_all := lw_g (lw_at lw_m10 42 rfl) rfl
theorem q2276 : (Jvm.Cond.instanceMethod ({ cls := "PuddleBoatyardModel", name := "orderCount", desc := "()I" } : Jvm.MethodName)) ∈ lw_all := lw_g (lw_at lw_m10 44 rfl) rfl
theorem q2277 : (Jvm.Cond.selects "PuddleBoatyardModel" ({ cls := "PuddleBoatyardModel", name := "orderCount", desc := "()I" } : Jvm.MethodName) ({ cls := "PuddleBoatyardModel", name := "orderCount", desc := "()I" } : Jvm.MethodName)) ∈ lw_all := lw_g (lw_at lw_m10 45 rfl) rfl
theorem q2278 : (Jvm.Cond.code ({ cls := "PuddleBoatyardModel", name := "orderCount", desc := "()I" } : Jvm.MethodName) prog_19_method_74_code (1 : Nat) (Option.some Jvm.ClassFile.FieldType.int)) ∈ lw_all := lw_g (lw_at lw_m10 46 rfl) rfl
theorem q2280 : (Jvm.Cond.instanceMethod ({ cls := "PuddleBoatyardModel", name := "orderAt", desc := "(I)I" } : Jvm.MethodName)) ∈ lw_all := lw_g (lw_at lw_m10 48 rfl) rfl
theorem q2281 : (Jvm.Cond.selects "PuddleBoatyardModel" ({ cls := "PuddleBoatyardModel", name := "orderAt", desc := "(I)I" } : Jvm.MethodName) ({ cls := "PuddleBoatyardModel", name := "orderAt", desc := "(I)I" } : Jvm.MethodName)) ∈ lw_all := lw_g (lw_at lw_m10 49 rfl) rfl
theorem q2282 : (Jvm.Cond.code ({ cls := "PuddleBoatyardModel", name := "orderAt", desc := "(I)I" } : Jvm.MethodName) prog_19_method_75_code (2 : Nat) (Option.some Jvm.ClassFile.FieldType.int)) ∈ lw_all := lw_g (lw_at lw_m10 50 rfl) rfl
theorem q2284 : (Jvm.Cond.instanceMethod ({ cls := "PuddleBoatyardModel", name := "coinsFor", desc := "(I)I" } : Jvm.MethodName)) ∈ lw_all := lw_g (lw_at lw_m10 52 rfl) rfl
theorem q2285 : (Jvm.Cond.selects "PuddleBoatyardModel" ({ cls := "PuddleBoatyardModel", name := "coinsFor", desc := "(I)I" } : Jvm.MethodName) ({ cls := "PuddleBoatyardModel", name := "coinsFor", desc := "(I)I" } : Jvm.MethodName)) ∈ lw_all := lw_g (lw_at lw_m10 53 rfl) rfl
theorem q2286 : (Jvm.Cond.code ({ cls := "PuddleBoatyardModel", name := "coinsFor", desc := "(I)I" } : Jvm.MethodName) prog_19_method_76_code (3 : Nat) (Option.some Jvm.ClassFile.FieldType.int)) ∈ lw_all := lw_g (lw_at lw_m10 54 rfl) rfl
theorem q2288 : (Jvm.Cond.instanceMethod ({ cls := "PuddleBoatyardModel", name := "bestDelivery", desc := "()I" } : Jvm.MethodName)) ∈ lw_all := lw_g (lw_at lw_m10 56 rfl) rfl
theorem q2289 : (Jvm.Cond.selects "PuddleBoatyardModel" ({ cls := "PuddleBoatyardModel", name := "bestDelivery", desc := "()I" } : Jvm.MethodName) ({ cls := "PuddleBoatyardModel", name := "bestDelivery", desc := "()I" } : Jvm.MethodName)) ∈ lw_all := lw_g (lw_at lw_m10 57 rfl) rfl
theorem q2290 : (Jvm.Cond.code ({ cls := "PuddleBoatyardModel", name := "bestDelivery", desc := "()I" } : Jvm.MethodName) prog_19_method_78_code (5 : Nat) (Option.some Jvm.ClassFile.FieldType.int)) ∈ lw_all := lw_g (lw_at lw_m10 58 rfl) rfl
theorem q2291 : (Jvm.Cond.methodLink "PuddleBoatyardModel" (213 : Nat) ({ cls := "PuddleBoatyardModel", name := "before", desc := "(I)I" } : Jvm.MethodName)) ∈ lw_all := lw_g (lw_at lw_m10 59 rfl) rfl
theorem q2292 : (Jvm.Cond.privateMethod ({ cls := "PuddleBoatyardModel", name := "before", desc := "(I)I" } : Jvm.MethodName)) ∈ lw_tbl := lw_at lw_m10 60 rfl
theorem q2293 : (Jvm.Cond.instanceMethod ({ cls := "PuddleBoatyardModel", name := "before", desc := "(I)I" } : Jvm.MethodName)) ∈ lw_all := lw_g (lw_at lw_m10 61 rfl) rfl
theorem q2294 : (Jvm.Cond.code ({ cls := "PuddleBoatyardModel", name := "before", desc := "(I)I" } : Jvm.MethodName) prog_19_method_77_code (5 : Nat) (Option.some Jvm.ClassFile.FieldType.int)) ∈ lw_all := lw_g (lw_at lw_m10 62 rfl) rfl
theorem q2296 : (Jvm.Cond.instanceMethod ({ cls := "PuddleBoatyardModel", name := "paidCoins", desc := "()J" } : Jvm.MethodName)) ∈ lw_all := lw_g (lw_at lw_m10 64 rfl) rfl
theorem q2297 : (Jvm.Cond.selects "PuddleBoatyardModel" ({ cls := "PuddleBoatyardModel", name := "paidCoins", desc := "()J" } : Jvm.MethodName) ({ cls := "PuddleBoatyardModel", name := "paidCoins", desc := "()J" } : Jvm.MethodName)) ∈ lw_all := lw_g (lw_at lw_m10 65 rfl) rfl
theorem q2298 : (Jvm.Cond.code ({ cls := "PuddleBoatyardModel", name := "paidCoins", desc := "()J" } : Jvm.MethodName) prog_19_method_79_code (1 : Nat) (Option.some Jvm.ClassFile.FieldType.long)) ∈ lw_all := lw_g (lw_at lw_m10 66 rfl) rfl
theorem q2300 : (Jvm.Cond.instanceMethod ({ cls := "PuddleBoatyardModel", name := "hullsIn", desc := "(I)I" } : Jvm.MethodName)) ∈ lw_all := lw_g (lw_at lw_m10 68 rfl) rfl
theorem q2301 : (Jvm.Cond.selects "PuddleBoatyardModel" ({ cls := "PuddleBoatyardModel", name := "hullsIn", desc := "(I)I" } : Jvm.MethodName) ({ cls := "PuddleBoatyardModel", name := "hullsIn", desc := "(I)I" } : Jvm.MethodName)) ∈ lw_all := lw_g (lw_at lw_m10 69 rfl) rfl
theorem q2302 : (Jvm.Cond.code ({ cls := "PuddleBoatyardModel", name := "hullsIn", desc := "(I)I" } : Jvm.MethodName) prog_19_method_80_code (4 : Nat) (Option.some Jvm.ClassFile.FieldType.int)) ∈ lw_all := lw_g (lw_at lw_m10 70 rfl) rfl
theorem q2304 : (Jvm.Cond.instanceMethod ({ cls := "PuddleBoatyardModel", name := "refusalReason", desc := "()I" } : Jvm.MethodName)) ∈ lw_all := lw_g (lw_at lw_m10 72 rfl) rfl
theorem q2305 : (Jvm.Cond.selects "PuddleBoatyardModel" ({ cls := "PuddleBoatyardModel", name := "refusalReason", desc := "()I" } : Jvm.MethodName) ({ cls := "PuddleBoatyardModel", name := "refusalReason", desc := "()I" } : Jvm.MethodName)) ∈ lw_all := lw_g (lw_at lw_m10 73 rfl) rfl
theorem q2306 : (Jvm.Cond.code ({ cls := "PuddleBoatyardModel", name := "refusalReason", desc := "()I" } : Jvm.MethodName) prog_19_method_81_code (1 : Nat) (Option.some Jvm.ClassFile.FieldType.int)) ∈ lw_all := lw_g (lw_at lw_m10 74 rfl) rfl
theorem q2308 : (Jvm.Cond.instanceMethod ({ cls := "PuddleBoatyardModel", name := "meanWeight", desc := "()D" } : Jvm.MethodName)) ∈ lw_all := lw_g (lw_at lw_m10 76 rfl) rfl
theorem q2309 : (Jvm.Cond.selects "PuddleBoatyardModel" ({ cls := "PuddleBoatyardModel", name := "meanWeight", desc := "()D" } : Jvm.MethodName) ({ cls := "PuddleBoatyardModel", name := "meanWeight", desc := "()D" } : Jvm.MethodName)) ∈ lw_all := lw_g (lw_at lw_m10 77 rfl) rfl
theorem q2310 : (Jvm.Cond.code ({ cls := "PuddleBoatyardModel", name := "meanWeight", desc := "()D" } : Jvm.MethodName) prog_19_method_82_code (3 : Nat) (Option.some Jvm.ClassFile.FieldType.double)) ∈ lw_all := lw_g (lw_at lw_m10 78 rfl) rfl
theorem q2312 : (Jvm.Cond.instanceMethod ({ cls := "PuddleBoatyardModel", name := "writeHull", desc := "(I)I" } : Jvm.MethodName)) ∈ lw_all := lw_g (lw_at lw_m10 80 rfl) rfl
theorem q2313 : (Jvm.Cond.selects "PuddleBoatyardModel" ({ cls := "PuddleBoatyardModel", name := "writeHull", desc := "(I)I" } : Jvm.MethodName) ({ cls := "PuddleBoatyardModel", name := "writeHull", desc := "(I)I" } : Jvm.MethodName)) ∈ lw_all := lw_g (lw_at lw_m10 81 rfl) rfl
theorem q2314 : (Jvm.Cond.code ({ cls := "PuddleBoatyardModel", name := "writeHull", desc := "(I)I" } : Jvm.MethodName) prog_19_method_85_code (4 : Nat) (Option.some Jvm.ClassFile.FieldType.int)) ∈ lw_all := lw_g (lw_at lw_m10 82 rfl) rfl
theorem q2315 : (Jvm.Cond.methodLink "PuddleBoatyardModel" (223 : Nat) ({ cls := "PuddleBoatyardModel", name := "writesNumber", desc := "(I)V" } : Jvm.MethodName)) ∈ lw_all := lw_g (lw_at lw_m10 83 rfl) rfl
theorem q2316 : (Jvm.Cond.privateMethod ({ cls := "PuddleBoatyardModel", name := "writesNumber", desc := "(I)V" } : Jvm.MethodName)) ∈ lw_tbl := lw_at lw_m10 84 rfl
theorem q2317 : (Jvm.Cond.instanceMethod ({ cls := "PuddleBoatyardModel", name := "writesNumber", desc := "(I)V" } : Jvm.MethodName)) ∈ lw_all := lw_g (lw_at lw_m10 85 rfl) rfl
theorem q2318 : (Jvm.Cond.code ({ cls := "PuddleBoatyardModel", name := "writesNumber", desc := "(I)V" } : Jvm.MethodName) prog_19_method_84_code (2 : Nat) (Option.none : Option Jvm.ClassFile.FieldType)) ∈ lw_all := lw_g (lw_at lw_m10 86 rfl) rfl
theorem q2319 : (Jvm.Cond.methodLink "PuddleBoatyardModel" (219 : Nat) ({ cls := "PuddleBoatyardModel", name := "sign", desc := "(I)V" } : Jvm.MethodName)) ∈ lw_all := lw_g (lw_at lw_m10 87 rfl) rfl
theorem q2320 : (Jvm.Cond.privateMethod ({ cls := "PuddleBoatyardModel", name := "sign", desc := "(I)V" } : Jvm.MethodName)) ∈ lw_tbl := lw_at lw_m10 88 rfl
theorem q2321 : (Jvm.Cond.instanceMethod ({ cls := "PuddleBoatyardModel", name := "sign", desc := "(I)V" } : Jvm.MethodName)) ∈ lw_all := lw_g (lw_at lw_m10 89 rfl) rfl
theorem q2322 : (Jvm.Cond.code ({ cls := "PuddleBoatyardModel", name := "sign", desc := "(I)V" } : Jvm.MethodName) prog_19_method_83_code (2 : Nat) (Option.none : Option Jvm.ClassFile.FieldType)) ∈ lw_all := lw_g (lw_at lw_m10 90 rfl) rfl
theorem q2324 : (Jvm.Cond.instanceMethod ({ cls := "PuddleBoatyardModel", name := "lineAt", desc := "(I)C" } : Jvm.MethodName)) ∈ lw_all := lw_g (lw_at lw_m10 92 rfl) rfl
theorem q2325 : (Jvm.Cond.selects "PuddleBoatyardModel" ({ cls := "PuddleBoatyardModel", name := "lineAt", desc := "(I)C" } : Jvm.MethodName) ({ cls := "PuddleBoatyardModel", name := "lineAt", desc := "(I)C" } : Jvm.MethodName)) ∈ lw_all := lw_g (lw_at lw_m10 93 rfl) rfl
theorem q2326 : (Jvm.Cond.code ({ cls := "PuddleBoatyardModel", name := "lineAt", desc := "(I)C" } : Jvm.MethodName) prog_19_method_86_code (2 : Nat) (Option.some Jvm.ClassFile.FieldType.char)) ∈ lw_all := lw_g (lw_at lw_m10 94 rfl) rfl
theorem q2328 : (Jvm.Cond.instanceMethod ({ cls := "PuddleBoatyardModel", name := "type", desc := "(C)I" } : Jvm.MethodName)) ∈ lw_all := lw_g (lw_at lw_m10 96 rfl) rfl
theorem q2329 : (Jvm.Cond.selects "PuddleBoatyardModel" ({ cls := "PuddleBoatyardModel", name := "type", desc := "(C)I" } : Jvm.MethodName) ({ cls := "PuddleBoatyardModel", name := "type", desc := "(C)I" } : Jvm.MethodName)) ∈ lw_all := lw_g (lw_at lw_m10 97 rfl) rfl
theorem q2330 : (Jvm.Cond.code ({ cls := "PuddleBoatyardModel", name := "type", desc := "(C)I" } : Jvm.MethodName) prog_19_method_87_code (2 : Nat) (Option.some Jvm.ClassFile.FieldType.int)) ∈ lw_all := lw_g (lw_at lw_m10 98 rfl) rfl
theorem q2331 : (Jvm.Cond.constantLong "PuddleBoatyardModel" (226 : Nat) (32 : Int64)) ∈ lw_all := lw_g (lw_at lw_m10 99 rfl) rfl
theorem q2332 : (Jvm.Cond.constantLong "PuddleBoatyardModel" (228 : Nat) (126 : Int64)) ∈ lw_all := lw_g (lw_at lw_m10 100 rfl) rfl
theorem q2334 : (Jvm.Cond.instanceMethod ({ cls := "PuddleBoatyardModel", name := "execute", desc := "()I" } : Jvm.MethodName)) ∈ lw_all := lw_g (lw_at lw_m10 102 rfl) rfl
theorem q2335 : (Jvm.Cond.selects "PuddleBoatyardModel" ({ cls := "PuddleBoatyardModel", name := "execute", desc := "()I" } : Jvm.MethodName) ({ cls := "PuddleBoatyardModel", name := "execute", desc := "()I" } : Jvm.MethodName)) ∈ lw_all := lw_g (lw_at lw_m10 103 rfl) rfl
theorem q2336 : (Jvm.Cond.code ({ cls := "PuddleBoatyardModel", name := "execute", desc := "()I" } : Jvm.MethodName) prog_19_method_98_code (4 : Nat) (Option.some Jvm.ClassFile.FieldType.int)) ∈ lw_all := lw_g (lw_at lw_m10 104 rfl) rfl
theorem q2337 : (Jvm.Cond.methodLink "PuddleBoatyardModel" (275 : Nat) ({ cls := "PuddleBoatyardModel", name := "readCommand", desc := "()V" } : Jvm.MethodName)) ∈ lw_all := lw_g (lw_at lw_m10 105 rfl) rfl
theorem q2338 : (Jvm.Cond.privateMethod ({ cls := "PuddleBoatyardModel", name := "readCommand", desc := "()V" } : Jvm.MethodName)) ∈ lw_tbl := lw_at lw_m10 106 rfl
theorem q2339 : (Jvm.Cond.instanceMethod ({ cls := "PuddleBoatyardModel", name := "readCommand", desc := "()V" } : Jvm.MethodName)) ∈ lw_all := lw_g (lw_at lw_m10 107 rfl) rfl
theorem q2340 : (Jvm.Cond.code ({ cls := "PuddleBoatyardModel", name := "readCommand", desc := "()V" } : Jvm.MethodName) prog_19_method_96_code (4 : Nat) (Option.none : Option Jvm.ClassFile.FieldType)) ∈ lw_all := lw_g (lw_at lw_m10 108 rfl) rfl
theorem q2341 : (Jvm.Cond.methodLink "PuddleBoatyardModel" (268 : Nat) ({ cls := "PuddleBoatyardModel", name := "likeness", desc := "(I)I" } : Jvm.MethodName)) ∈ lw_all := lw_g (lw_at lw_m10 109 rfl) rfl
theorem q2342 : (Jvm.Cond.privateMethod ({ cls := "PuddleBoatyardModel", name := "likeness", desc := "(I)I" } : Jvm.MethodName)) ∈ lw_tbl := lw_at lw_m10 110 rfl
theorem q2343 : (Jvm.Cond.instanceMethod ({ cls := "PuddleBoatyardModel", name := "likeness", desc := "(I)I" } : Jvm.MethodName)) ∈ lw_all := lw_g (lw_at lw_m10 111 rfl) rfl
theorem q2344 : (Jvm.Cond.code ({ cls := "PuddleBoatyardModel", name := "likeness", desc := "(I)I" } : Jvm.MethodName) prog_19_method_94_code (4 : Nat) (Option.some Jvm.ClassFile.FieldType.int)) ∈ lw_all := lw_g (lw_at lw_m10 112 rfl) rfl
theorem q2345 : (Jvm.Cond.methodLink "PuddleBoatyardModel" (271 : Nat) ({ cls := "PuddleBoatyardModel", name := "readArguments", desc := "(II)V" } : Jvm.MethodName)) ∈ lw_all := lw_g (lw_at lw_m10 113 rfl) rfl
theorem q2346 : (Jvm.Cond.privateMethod ({ cls := "PuddleBoatyardModel", name := "readArguments", desc := "(II)V" } : Jvm.MethodName)) ∈ lw_tbl := lw_at lw_m10 114 rfl
theorem q2347 : (Jvm.Cond.instanceMethod ({ cls := "PuddleBoatyardModel", name := "readArguments", desc := "(II)V" } : Jvm.MethodName)) ∈ lw_all := lw_g (lw_at lw_m10 115 rfl) rfl
theorem q2348 : (Jvm.Cond.code ({ cls := "PuddleBoatyardModel", name := "readArguments", desc := "(II)V" } : Jvm.MethodName) prog_19_method_95_code (3 : Nat) (Option.none : Option Jvm.ClassFile.FieldType)) ∈ lw_all := lw_g (lw_at lw_m10 116 rfl) rfl
theorem q2349 : (Jvm.Cond.methodLink "PuddleBoatyardModel" (256 : Nat) ({ cls := "PuddleBoatyardModel", name := "number", desc := "()I" } : Jvm.MethodName)) ∈ lw_all := lw_g (lw_at lw_m10 117 rfl) rfl
theorem q2350 : (Jvm.Cond.privateMethod ({ cls := "PuddleBoatyardModel", name := "number", desc := "()I" } : Jvm.MethodName)) ∈ lw_tbl := lw_at lw_m10 118 rfl
theorem q2351 : (Jvm.Cond.instanceMethod ({ cls := "PuddleBoatyardModel", name := "number", desc := "()I" } : Jvm.MethodName)) ∈ lw_all := lw_g (lw_at lw_m10 119 rfl) rfl
theorem q2352 : (Jvm.Cond.code ({ cls := "PuddleBoatyardModel", name := "number", desc := "()I" } : Jvm.MethodName) prog_19_method_91_code (3 : Nat) (Option.some Jvm.ClassFile.FieldType.int)) ∈ lw_all := lw_g (lw_at lw_m10 120 rfl) rfl
theorem q2353 : (Jvm.Cond.methodLink "PuddleBoatyardModel" (250 : Nat) ({ cls := "PuddleBoatyardModel", name := "digit", desc := "()I" } : Jvm.MethodName)) ∈ lw_all := lw_g (lw_at lw_m10 121 rfl) rfl
theorem q2354 : (Jvm.Cond.privateMethod ({ cls := "PuddleBoatyardModel", name := "digit", desc := "()I" } : Jvm.MethodName)) ∈ lw_tbl := lw_at lw_m10 122 rfl
theorem q2355 : (Jvm.Cond.instanceMethod ({ cls := "PuddleBoatyardModel", name := "digit", desc := "()I" } : Jvm.MethodName)) ∈ lw_all := lw_g (lw_at lw_m10 123 rfl) rfl
theorem q2356 : (Jvm.Cond.code ({ cls := "PuddleBoatyardModel", name := "digit", desc := "()I" } : Jvm.MethodName) prog_19_method_90_code (2 : Nat) (Option.some Jvm.ClassFile.FieldType.int)) ∈ lw_all := lw_g (lw_at lw_m10 124 rfl) rfl
theorem q2357 : (Jvm.Cond.methodLink "PuddleBoatyardModel" (243 : Nat) ({ cls := "PuddleBoatyardModel", name := "here", desc := "()I" } : Jvm.MethodName)) ∈ lw_all := lw_g (lw_at lw_m10 125 rfl) rfl
theorem q2358 : (Jvm.Cond.privateMethod ({ cls := "PuddleBoatyardModel", name := "here", desc := "()I" } : Jvm.MethodName)) ∈ lw_tbl := lw_at lw_m10 126 rfl
theorem q2359 : (Jvm.Cond.instanceMethod ({ cls := "PuddleBoatyardModel", name := "here", desc := "()I" } : Jvm.MethodName)) ∈ lw_all := lw_g (lw_at lw_m10 127 rfl) rfl
theorem q2360 : (Jvm.Cond.code ({ cls := "PuddleBoatyardModel", name := "here", desc := "()I" } : Jvm.MethodName) prog_19_method_88_code (1 : Nat) (Option.some Jvm.ClassFile.FieldType.int)) ∈ lw_all := lw_g (lw_at lw_m10 128 rfl) rfl
theorem q2361 : (Jvm.Cond.constantLong "PuddleBoatyardModel" (246 : Nat) (48 : Int64)) ∈ lw_all := lw_g (lw_at lw_m10 129 rfl) rfl
theorem q2362 : (Jvm.Cond.constantLong "PuddleBoatyardModel" (248 : Nat) (57 : Int64)) ∈ lw_all := lw_g (lw_at lw_m10 130 rfl) rfl
theorem q2363 : (Jvm.Cond.methodLink "PuddleBoatyardModel" (259 : Nat) ({ cls := "PuddleBoatyardModel", name := "numberBehind", desc := "(I)I" } : Jvm.MethodName)) ∈ lw_all := lw_g (lw_at lw_m10 131 rfl) rfl
theorem q2364 : (Jvm.Cond.privateMethod ({ cls := "PuddleBoatyardModel", name := "numberBehind", desc := "(I)I" } : Jvm.MethodName)) ∈ lw_tbl := lw_at lw_m10 132 rfl
theorem q2365 : (Jvm.Cond.instanceMethod ({ cls := "PuddleBoatyardModel", name := "numberBehind", desc := "(I)I" } : Jvm.MethodName)) ∈ lw_all := lw_g (lw_at lw_m10 133 rfl) rfl
theorem q2366 : (Jvm.Cond.code ({ cls := "PuddleBoatyardModel", name := "numberBehind", desc := "(I)I" } : Jvm.MethodName) prog_19_method_93_code (2 : Nat) (Option.some Jvm.ClassFile.FieldType.int)) ∈ lw_all := lw_g (lw_at lw_m10 134 rfl) rfl
theorem q2367 : (Jvm.Cond.methodLink "PuddleBoatyardModel" (253 : Nat) ({ cls := "PuddleBoatyardModel", name := "expects", desc := "(I)V" } : Jvm.MethodName)) ∈ lw_all := lw_g (lw_at lw_m10 135 rfl) rfl
theorem q2368 : (Jvm.Cond.privateMethod ({ cls := "PuddleBoatyardModel", name := "expects", desc := "(I)V" } : Jvm.MethodName)) ∈ lw_tbl := lw_at lw_m10 136 rfl
theorem q2369 : (Jvm.Cond.instanceMethod ({ cls := "PuddleBoatyardModel", name := "expects", desc := "(I)V" } : Jvm.MethodName)) ∈ lw_all := lw_g (lw_at lw_m10 137 rfl) rfl
theorem q2370 : (Jvm.Cond.code ({ cls := "PuddleBoatyardModel", name := "expects", desc := "(I)V" } : Jvm.MethodName) prog_19_method_89_code (2 : Nat) (Option.none : Option Jvm.ClassFile.FieldType)) ∈ lw_all := lw_g (lw_at lw_m10 138 rfl) rfl
theorem q2371 : (Jvm.Cond.methodLink "PuddleBoatyardModel" (262 : Nat) ({ cls := "PuddleBoatyardModel", name := "digitBehind", desc := "()I" } : Jvm.MethodName)) ∈ lw_all := lw_g (lw_at lw_m10 139 rfl) rfl
theorem q2372 : (Jvm.Cond.privateMethod ({ cls := "PuddleBoatyardModel", name := "digitBehind", desc := "()I" } : Jvm.MethodName)) ∈ lw_tbl := lw_at lw_m10 140 rfl
theorem q2373 : (Jvm.Cond.instanceMethod ({ cls := "PuddleBoatyardModel", name := "digitBehind", desc := "()I" } : Jvm.MethodName)) ∈ lw_all := lw_g (lw_at lw_m10 141 rfl) rfl
theorem q2374 : (Jvm.Cond.code ({ cls := "PuddleBoatyardModel", name := "digitBehind", desc := "()I" } : Jvm.MethodName) prog_19_method_92_code (1 : Nat) (Option.some Jvm.ClassFile.FieldType.int)) ∈ lw_all := lw_g (lw_at lw_m10 142 rfl) rfl
theorem q2375 : (Jvm.Cond.methodLink "PuddleBoatyardModel" (278 : Nat) ({ cls := "PuddleBoatyardModel", name := "does", desc := "(I)V" } : Jvm.MethodName)) ∈ lw_all := lw_g (lw_at lw_m10 143 rfl) rfl
theorem q2376 : (Jvm.Cond.privateMethod ({ cls := "PuddleBoatyardModel", name := "does", desc := "(I)V" } : Jvm.MethodName)) ∈ lw_tbl := lw_at lw_m10 144 rfl
theorem q2377 : (Jvm.Cond.instanceMethod ({ cls := "PuddleBoatyardModel", name := "does", desc := "(I)V" } : Jvm.MethodName)) ∈ lw_all := lw_g (lw_at lw_m10 145 rfl) rfl
theorem q2378 : (Jvm.Cond.code ({ cls := "PuddleBoatyardModel", name := "does", desc := "(I)V" } : Jvm.MethodName) prog_19_method_97_code (5 : Nat) (Option.none : Option Jvm.ClassFile.FieldType)) ∈ lw_all := lw_g (lw_at lw_m10 146 rfl) rfl
theorem q2380 : (Jvm.Cond.instanceMethod ({ cls := "PuddleBoatyardModel", name := "errorPosition", desc := "()I" } : Jvm.MethodName)) ∈ lw_all := lw_g (lw_at lw_m10 148 rfl) rfl
theorem q2381 : (Jvm.Cond.selects "PuddleBoatyardModel" ({ cls := "PuddleBoatyardModel", name := "errorPosition", desc := "()I" } : Jvm.MethodName) ({ cls := "PuddleBoatyardModel", name := "errorPosition", desc := "()I" } : Jvm.MethodName)) ∈ lw_all := lw_g (lw_at lw_m10 149 rfl) rfl
theorem q2382 : (Jvm.Cond.code ({ cls := "PuddleBoatyardModel", name := "errorPosition", desc := "()I" } : Jvm.MethodName) prog_19_method_99_code (1 : Nat) (Option.some Jvm.ClassFile.FieldType.int)) ∈ lw_all := lw_g (lw_at lw_m10 150 rfl) rfl
theorem q2384 : (Jvm.Cond.instanceMethod ({ cls := "PuddleBoatyardModel", name := "failedCommand", desc := "()I" } : Jvm.MethodName)) ∈ lw_all := lw_g (lw_at lw_m10 152 rfl) rfl
theorem q2385 : (Jvm.Cond.selects "PuddleBoatyardModel" ({ cls := "PuddleBoatyardModel", name := "failedCommand", desc := "()I" } : Jvm.MethodName) ({ cls := "PuddleBoatyardModel", name := "failedCommand", desc := "()I" } : Jvm.MethodName)) ∈ lw_all := lw_g (lw_at lw_m10 153 rfl) rfl
theorem q2386 : (Jvm.Cond.code ({ cls := "PuddleBoatyardModel", name := "failedCommand", desc := "()I" } : Jvm.MethodName) prog_19_method_100_code (1 : Nat) (Option.some Jvm.ClassFile.FieldType.int)) ∈ lw_all := lw_g (lw_at lw_m10 154 rfl) rfl
theorem q2388 : (Jvm.Cond.instanceMethod ({ cls := "PuddleBoatyardModel", name := "undo", desc := "()I" } : Jvm.MethodName)) ∈ lw_all := lw_g (lw_at lw_m10 156 rfl) rfl
theorem q2389 : (Jvm.Cond.selects "PuddleBoatyardModel" ({ cls := "PuddleBoatyardModel", name := "undo", desc := "()I" } : Jvm.MethodName) ({ cls := "PuddleBoatyardModel", name := "undo", desc := "()I" } : Jvm.MethodName)) ∈ lw_all := lw_g (lw_at lw_m10 157 rfl) rfl
theorem q2390 : (Jvm.Cond.code ({ cls := "PuddleBoatyardModel", name := "undo", desc := "()I" } : Jvm.MethodName) prog_19_method_101_code (2 : Nat) (Option.some Jvm.ClassFile.FieldType.int)) ∈ lw_all := lw_g (lw_at lw_m10 158 rfl) rfl
theorem q2392 : (Jvm.Cond.instanceMethod ({ cls := "PuddleBoatyardModel", name := "save", desc := "()I" } : Jvm.MethodName)) ∈ lw_all := lw_g (lw_at lw_m10 160 rfl) rfl
theorem q2393 : (Jvm.Cond.selects "PuddleBoatyardModel" ({ cls := "PuddleBoatyardModel", name := "save", desc := "()I" } : Jvm.MethodName) ({ cls := "PuddleBoatyardModel", name := "save", desc := "()I" } : Jvm.MethodName)) ∈ lw_all := lw_g (lw_at lw_m10 161 rfl) rfl
theorem q2394 : (Jvm.Cond.code ({ cls := "PuddleBoatyardModel", name := "save", desc := "()I" } : Jvm.MethodName) prog_19_method_102_code (2 : Nat) (Option.some Jvm.ClassFile.FieldType.int)) ∈ lw_all := lw_g (lw_at lw_m10 162 rfl) rfl
theorem q2396 : (Jvm.Cond.instanceMethod ({ cls := "PuddleBoatyardModel", name := "restore", desc := "()I" } : Jvm.MethodName)) ∈ lw_all := lw_g (lw_at lw_m10 164 rfl) rfl
theorem q2397 : (Jvm.Cond.selects "PuddleBoatyardModel" ({ cls := "PuddleBoatyardModel", name := "restore", desc := "()I" } : Jvm.MethodName) ({ cls := "PuddleBoatyardModel", name := "restore", desc := "()I" } : Jvm.MethodName)) ∈ lw_all := lw_g (lw_at lw_m10 165 rfl) rfl
theorem q2398 : (Jvm.Cond.code ({ cls := "PuddleBoatyardModel", name := "restore", desc := "()I" } : Jvm.MethodName) prog_19_method_103_code (2 : Nat) (Option.some Jvm.ClassFile.FieldType.int)) ∈ lw_all := lw_g (lw_at lw_m10 166 rfl) rfl
theorem q2422 : (Jvm.Cond.castable "PuddleBoatyardModel" "java/lang/Object") ∈ lw_tbl := lw_at lw_m10 190 rfl
theorem in_X4 : ∀ w ∈ wsX40, w ∈ lw_all := lw_in wsX40 [1925, 1927, 1929, 1931, 1933, 1935, 1937, 1939, 1941, 1943, 1945, 1947, 1949, 1951, 1953, 1955, 1957, 1959, 1961, 1963, 1965, 1967, 1969, 1971] (by decide +kernel) (by decide +kernel)
/-! PuddleBoatyard$Operation -/
def RX5 : String := "PuddleBoatyard$Operation"
def TX5 : u_T := fun k => match k with
  | 0 => ("PuddleBoatyard$Operation", "letter", "C", true)
  | 1 => ("PuddleBoatyard$Operation", "first", "I", true)
  | 2 => ("PuddleBoatyard$Operation", "second", "I", true)
  | _ => ("PuddleBoatyard$Operation", "third", "I", true)
def tyX5 : Nat → FieldType := fun k => match k with
  | 0 => .char
  | 1 => .int
  | 2 => .int
  | _ => .int
abbrev wsX50 : List Cond := u_ws RX5 TX5 4
theorem nmX5 : ∀ a, a < 4 → ∀ b, b < 4 → a ≠ b → (TX5 a).2.1 ≠ (TX5 b).2.1 := by decide +kernel
theorem tyX5_ok : ∀ k, k < 4 → parseFieldDescriptor (TX5 k).2.2.1 = some (tyX5 k) := by decide +kernel
abbrev cX5_init : ByteArray := prog_7_method_1_code
def yX5_init : MethodName := ⟨RX5, "<init>", "(C[I)V"⟩
abbrev cX5_apply : ByteArray := prog_7_method_2_code
def yX5_apply : MethodName := ⟨RX5, "apply", "(LPuddleBoatyard$Yard;)I"⟩
theorem q86 : (Jvm.Cond.initialized "PuddleBoatyard$Operation") ∈ lw_all := lw_g (lw_at lw_m1 14 rfl) rfl
theorem q497 : (Jvm.Cond.selects "PuddleBoatyard$Operation" ({ cls := "java/lang/Object", name := "getClass", desc := "()Ljava/lang/Class;" } : Jvm.MethodName) ({ cls := "java/lang/Object", name := "getClass", desc := "()Ljava/lang/Class;" } : Jvm.MethodName)) ∈ lw_all := lw_g (lw_at lw_m2 185 rfl) rfl
theorem q544 : (Jvm.Cond.instantiable "PuddleBoatyard$Operation" (4 : Nat)) ∈ lw_all := lw_g (lw_at lw_m2 232 rfl) rfl
theorem q546 : (Jvm.Cond.instanceMethod ({ cls := "PuddleBoatyard$Operation", name := "<init>", desc := "(C[I)V" } : Jvm.MethodName)) ∈ lw_all := lw_g (lw_at lw_m2 234 rfl) rfl
theorem q547 : (Jvm.Cond.code ({ cls := "PuddleBoatyard$Operation", name := "<init>", desc := "(C[I)V" } : Jvm.MethodName) prog_7_method_1_code (3 : Nat) (Option.none : Option Jvm.ClassFile.FieldType)) ∈ lw_all := lw_g (lw_at lw_m2 235 rfl) rfl
theorem q548 : (Jvm.Cond.methodLink "PuddleBoatyard$Operation" (1 : Nat) ({ cls := "java/lang/Object", name := "<init>", desc := "()V" } : Jvm.MethodName)) ∈ lw_all := lw_g (lw_at lw_m2 236 rfl) rfl
theorem q549 : (Jvm.Cond.fieldLink "PuddleBoatyard$Operation" (7 : Nat) "PuddleBoatyard$Operation" "letter" "C") ∈ lw_all := lw_g (lw_at lw_m2 237 rfl) rfl
theorem q550 : (Jvm.Cond.fieldLink "PuddleBoatyard$Operation" (13 : Nat) "PuddleBoatyard$Operation" "first" "I") ∈ lw_all := lw_g (lw_at lw_m2 238 rfl) rfl
theorem q551 : (Jvm.Cond.fieldLink "PuddleBoatyard$Operation" (17 : Nat) "PuddleBoatyard$Operation" "second" "I") ∈ lw_all := lw_g (lw_at lw_m2 239 rfl) rfl
theorem q552 : (Jvm.Cond.fieldLink "PuddleBoatyard$Operation" (20 : Nat) "PuddleBoatyard$Operation" "third" "I") ∈ lw_all := lw_g (lw_at lw_m3 0 rfl) rfl
theorem q553 : (Jvm.Cond.laysFinal "PuddleBoatyard$Operation" "PuddleBoatyard$Operation" "letter" "C") ∈ lw_all := lw_g (lw_at lw_m3 1 rfl) rfl
theorem q554 : (Jvm.Cond.soleField "PuddleBoatyard$Operation" "letter") ∈ lw_all := lw_g (lw_at lw_m3 2 rfl) rfl
theorem q555 : (Jvm.Cond.laysFinal "PuddleBoatyard$Operation" "PuddleBoatyard$Operation" "first" "I") ∈ lw_all := lw_g (lw_at lw_m3 3 rfl) rfl
theorem q556 : (Jvm.Cond.soleField "PuddleBoatyard$Operation" "first") ∈ lw_all := lw_g (lw_at lw_m3 4 rfl) rfl
theorem q557 : (Jvm.Cond.laysFinal "PuddleBoatyard$Operation" "PuddleBoatyard$Operation" "second" "I") ∈ lw_all := lw_g (lw_at lw_m3 5 rfl) rfl
theorem q558 : (Jvm.Cond.soleField "PuddleBoatyard$Operation" "second") ∈ lw_all := lw_g (lw_at lw_m3 6 rfl) rfl
theorem q559 : (Jvm.Cond.laysFinal "PuddleBoatyard$Operation" "PuddleBoatyard$Operation" "third" "I") ∈ lw_all := lw_g (lw_at lw_m3 7 rfl) rfl
theorem q560 : (Jvm.Cond.soleField "PuddleBoatyard$Operation" "third") ∈ lw_all := lw_g (lw_at lw_m3 8 rfl) rfl
theorem q561 : (Jvm.Cond.superclass "PuddleBoatyard$Operation" "java/lang/Object") ∈ lw_all := lw_g (lw_at lw_m3 9 rfl) rfl
theorem q568 : (Jvm.Cond.instanceMethod ({ cls := "PuddleBoatyard$Operation", name := "apply", desc := "(LPuddleBoatyard$Yard;)I" } : Jvm.MethodName)) ∈ lw_all := lw_g (lw_at lw_m3 16 rfl) rfl
theorem q569 : (Jvm.Cond.selects "PuddleBoatyard$Operation" ({ cls := "PuddleBoatyard$Operation", name := "apply", desc := "(LPuddleBoatyard$Yard;)I" } : Jvm.MethodName) ({ cls := "PuddleBoatyard$Operation", name := "apply", desc := "(LPuddleBoatyard$Yard;)I" } : Jvm.MethodName)) ∈ lw_all := lw_g (lw_at lw_m3 17 rfl) rfl
theorem q570 : (Jvm.Cond.code ({ cls := "PuddleBoatyard$Operation", name := "apply", desc := "(LPuddleBoatyard$Yard;)I" } : Jvm.MethodName) prog_7_method_2_code (2 : Nat) (Option.some Jvm.ClassFile.FieldType.int)) ∈ lw_all := lw_g (lw_at lw_m3 18 rfl) rfl
theorem q571 : (Jvm.Cond.methodLink "PuddleBoatyard$Operation" (23 : Nat) ({ cls := "PuddleBoatyard$Yard", name := "beginHull", desc := "()I" } : Jvm.MethodName)) ∈ lw_all := lw_g (lw_at lw_m3 19 rfl) rfl
theorem q650 : (Jvm.Cond.methodLink "PuddleBoatyard$Operation" (29 : Nat) ({ cls := "PuddleBoatyard$Yard", name := "addFrame", desc := "(III)I" } : Jvm.MethodName)) ∈ lw_all := lw_g (lw_at lw_m3 98 rfl) rfl
theorem q714 : (Jvm.Cond.methodLink "PuddleBoatyard$Operation" (33 : Nat) ({ cls := "PuddleBoatyard$Yard", name := "mirror", desc := "(I)I" } : Jvm.MethodName)) ∈ lw_all := lw_g (lw_at lw_m3 162 rfl) rfl
theorem q733 : (Jvm.Cond.methodLink "PuddleBoatyard$Operation" (37 : Nat) ({ cls := "PuddleBoatyard$Yard", name := "setCargo", desc := "(II)I" } : Jvm.MethodName)) ∈ lw_all := lw_g (lw_at lw_m3 181 rfl) rfl
theorem q752 : (Jvm.Cond.methodLink "PuddleBoatyard$Operation" (41 : Nat) ({ cls := "PuddleBoatyard$Yard", name := "launch", desc := "(I)I" } : Jvm.MethodName)) ∈ lw_all := lw_g (lw_at lw_m3 200 rfl) rfl
theorem q807 : (Jvm.Cond.methodLink "PuddleBoatyard$Operation" (44 : Nat) ({ cls := "PuddleBoatyard$Yard", name := "caulk", desc := "(II)I" } : Jvm.MethodName)) ∈ lw_all := lw_g (lw_at lw_m4 15 rfl) rfl
theorem q816 : (Jvm.Cond.methodLink "PuddleBoatyard$Operation" (47 : Nat) ({ cls := "PuddleBoatyard$Yard", name := "pump", desc := "(II)I" } : Jvm.MethodName)) ∈ lw_all := lw_g (lw_at lw_m4 24 rfl) rfl
theorem q821 : (Jvm.Cond.methodLink "PuddleBoatyard$Operation" (50 : Nat) ({ cls := "PuddleBoatyard$Yard", name := "pass", desc := "(I)I" } : Jvm.MethodName)) ∈ lw_all := lw_g (lw_at lw_m4 29 rfl) rfl
theorem q841 : (Jvm.Cond.methodLink "PuddleBoatyard$Operation" (53 : Nat) ({ cls := "PuddleBoatyard$Yard", name := "setTide", desc := "(II)I" } : Jvm.MethodName)) ∈ lw_all := lw_g (lw_at lw_m4 49 rfl) rfl
theorem q845 : (Jvm.Cond.methodLink "PuddleBoatyard$Operation" (56 : Nat) ({ cls := "PuddleBoatyard$Yard", name := "setSlip", desc := "(II)I" } : Jvm.MethodName)) ∈ lw_all := lw_g (lw_at lw_m4 53 rfl) rfl
theorem q849 : (Jvm.Cond.methodLink "PuddleBoatyard$Operation" (59 : Nat) ({ cls := "PuddleBoatyard$Yard", name := "addOrder", desc := "(III)I" } : Jvm.MethodName)) ∈ lw_all := lw_g (lw_at lw_m4 57 rfl) rfl
theorem q874 : (Jvm.Cond.methodLink "PuddleBoatyard$Operation" (62 : Nat) ({ cls := "PuddleBoatyard$Yard", name := "deliver", desc := "(II)I" } : Jvm.MethodName)) ∈ lw_all := lw_g (lw_at lw_m4 82 rfl) rfl
theorem q912 : (Jvm.Cond.selects "PuddleBoatyard$Operation" ({ cls := "java/lang/Object", name := "equals", desc := "(Ljava/lang/Object;)Z" } : Jvm.MethodName) ({ cls := "java/lang/Object", name := "equals", desc := "(Ljava/lang/Object;)Z" } : Jvm.MethodName)) ∈ lw_all := lw_g (lw_at lw_m4 120 rfl) rfl
theorem q2423 : (Jvm.Cond.castable "PuddleBoatyard$Operation" "java/lang/Object") ∈ lw_tbl := lw_at lw_m10 191 rfl
theorem in_X5 : ∀ w ∈ wsX50, w ∈ lw_all := lw_in wsX50 [553, 555, 557, 559] (by decide +kernel) (by decide +kernel)
/-! PuddleBoatyard$Hull -/
def RX6 : String := "PuddleBoatyard$Hull"
def TX6 : u_T := fun k => match k with
  | 0 => ("PuddleBoatyard$Hull", "number", "I", true)
  | 1 => ("PuddleBoatyard$Hull", "frames", "Ljava/util/ArrayList;", true)
  | 2 => ("PuddleBoatyard$Hull", "caulking", "[I", true)
  | 3 => ("PuddleBoatyard$Hull", "state", "LPuddleBoatyard$State;", false)
  | 4 => ("PuddleBoatyard$Hull", "cargo", "I", false)
  | _ => ("PuddleBoatyard$Hull", "water", "I", false)
def tyX6 : Nat → FieldType := fun k => match k with
  | 0 => .int
  | 1 => .object "java/util/ArrayList"
  | 2 => .array .int
  | 3 => .object "PuddleBoatyard$State"
  | 4 => .int
  | _ => .int
abbrev wsX60 : List Cond := u_ws RX6 TX6 6
theorem nmX6 : ∀ a, a < 6 → ∀ b, b < 6 → a ≠ b → (TX6 a).2.1 ≠ (TX6 b).2.1 := by decide +kernel
theorem tyX6_ok : ∀ k, k < 6 → parseFieldDescriptor (TX6 k).2.2.1 = some (tyX6 k) := by decide +kernel
abbrev cX6_is : ByteArray := prog_5_method_5_code
def yX6_is : MethodName := ⟨RX6, "is", "(LPuddleBoatyard$State;)Z"⟩
abbrev cX6_size : ByteArray := prog_5_method_3_code
def yX6_size : MethodName := ⟨RX6, "size", "()I"⟩
abbrev cX6_init : ByteArray := prog_5_method_2_code
def yX6_init : MethodName := ⟨RX6, "<init>", "(LPuddleBoatyard$Hull;)V"⟩
abbrev cX6_init_2 : ByteArray := prog_5_method_1_code
def yX6_init_2 : MethodName := ⟨RX6, "<init>", "(I)V"⟩
abbrev cX6_mirror : ByteArray := prog_5_method_13_code
def yX6_mirror : MethodName := ⟨RX6, "mirror", "()I"⟩
abbrev cX6_draught : ByteArray := prog_5_method_11_code
def yX6_draught : MethodName := ⟨RX6, "draught", "()I"⟩
abbrev cX6_floatsAt : ByteArray := prog_5_method_9_code
def yX6_floatsAt : MethodName := ⟨RX6, "floatsAt", "(I)Z"⟩
abbrev cX6_seamWidths : ByteArray := prog_5_method_8_code
def yX6_seamWidths : MethodName := ⟨RX6, "seamWidths", "()I"⟩
abbrev cX6_seams : ByteArray := prog_5_method_4_code
def yX6_seams : MethodName := ⟨RX6, "seams", "()I"⟩
abbrev cX6_weight : ByteArray := prog_5_method_6_code
def yX6_weight : MethodName := ⟨RX6, "weight", "()I"⟩
abbrev cX6_sinksIn : ByteArray := prog_5_method_18_code
def yX6_sinksIn : MethodName := ⟨RX6, "sinksIn", "(I)Z"⟩
abbrev cX6_canFloat : ByteArray := prog_5_method_10_code
def yX6_canFloat : MethodName := ⟨RX6, "canFloat", "()Z"⟩
abbrev cX6_draughtByHalving : ByteArray := prog_5_method_12_code
def yX6_draughtByHalving : MethodName := ⟨RX6, "draughtByHalving", "()I"⟩
abbrev cX6_heel : ByteArray := prog_5_method_7_code
def yX6_heel : MethodName := ⟨RX6, "heel", "()I"⟩
abbrev cX6_isReflectionOf : ByteArray := prog_5_method_14_code
def yX6_isReflectionOf : MethodName := ⟨RX6, "isReflectionOf", "(LPuddleBoatyard$Hull;)Z"⟩
abbrev cX6_commonStretch : ByteArray := prog_5_method_15_code
def yX6_commonStretch : MethodName := ⟨RX6, "commonStretch", "(LPuddleBoatyard$Hull;)I"⟩
abbrev cX6_commonStretchByTrying : ByteArray := prog_5_method_17_code
def yX6_commonStretchByTrying : MethodName := ⟨RX6, "commonStretchByTrying", "(LPuddleBoatyard$Hull;)I"⟩
abbrev cX6_stretch : ByteArray := prog_5_method_16_code
def yX6_stretch : MethodName := ⟨RX6, "stretch", "(ILPuddleBoatyard$Hull;I)I"⟩
abbrev cX6_toString : ByteArray := prog_5_method_19_code
def yX6_toString : MethodName := ⟨RX6, "toString", "()Ljava/lang/String;"⟩
theorem q87 : (Jvm.Cond.initialized "PuddleBoatyard$Hull") ∈ lw_all := lw_g (lw_at lw_m1 15 rfl) rfl
theorem q330 : (Jvm.Cond.instanceMethod ({ cls := "PuddleBoatyard$Hull", name := "is", desc := "(LPuddleBoatyard$State;)Z" } : Jvm.MethodName)) ∈ lw_all := lw_g (lw_at lw_m2 18 rfl) rfl
theorem q331 : (Jvm.Cond.selects "PuddleBoatyard$Hull" ({ cls := "PuddleBoatyard$Hull", name := "is", desc := "(LPuddleBoatyard$State;)Z" } : Jvm.MethodName) ({ cls := "PuddleBoatyard$Hull", name := "is", desc := "(LPuddleBoatyard$State;)Z" } : Jvm.MethodName)) ∈ lw_all := lw_g (lw_at lw_m2 19 rfl) rfl
theorem q332 : (Jvm.Cond.code ({ cls := "PuddleBoatyard$Hull", name := "is", desc := "(LPuddleBoatyard$State;)Z" } : Jvm.MethodName) prog_5_method_5_code (2 : Nat) (Option.some Jvm.ClassFile.FieldType.boolean)) ∈ lw_all := lw_g (lw_at lw_m2 20 rfl) rfl
theorem q334 : (Jvm.Cond.instanceMethod ({ cls := "PuddleBoatyard$Hull", name := "size", desc := "()I" } : Jvm.MethodName)) ∈ lw_all := lw_g (lw_at lw_m2 22 rfl) rfl
theorem q335 : (Jvm.Cond.selects "PuddleBoatyard$Hull" ({ cls := "PuddleBoatyard$Hull", name := "size", desc := "()I" } : Jvm.MethodName) ({ cls := "PuddleBoatyard$Hull", name := "size", desc := "()I" } : Jvm.MethodName)) ∈ lw_all := lw_g (lw_at lw_m2 23 rfl) rfl
theorem q336 : (Jvm.Cond.code ({ cls := "PuddleBoatyard$Hull", name := "size", desc := "()I" } : Jvm.MethodName) prog_5_method_3_code (1 : Nat) (Option.some Jvm.ClassFile.FieldType.int)) ∈ lw_all := lw_g (lw_at lw_m2 24 rfl) rfl
theorem q337 : (Jvm.Cond.methodLink "PuddleBoatyard$Hull" (38 : Nat) ({ cls := "java/util/ArrayList", name := "size", desc := "()I" } : Jvm.MethodName)) ∈ lw_all := lw_g (lw_at lw_m2 25 rfl) rfl
theorem q420 : (Jvm.Cond.instantiable "PuddleBoatyard$Hull" (6 : Nat)) ∈ lw_all := lw_g (lw_at lw_m2 108 rfl) rfl
theorem q422 : (Jvm.Cond.instanceMethod ({ cls := "PuddleBoatyard$Hull", name := "<init>", desc := "(LPuddleBoatyard$Hull;)V" } : Jvm.MethodName)) ∈ lw_all := lw_g (lw_at lw_m2 110 rfl) rfl
theorem q423 : (Jvm.Cond.code ({ cls := "PuddleBoatyard$Hull", name := "<init>", desc := "(LPuddleBoatyard$Hull;)V" } : Jvm.MethodName) prog_5_method_2_code (4 : Nat) (Option.none : Option Jvm.ClassFile.FieldType)) ∈ lw_all := lw_g (lw_at lw_m2 111 rfl) rfl
theorem q424 : (Jvm.Cond.methodLink "PuddleBoatyard$Hull" (35 : Nat) ({ cls := "PuddleBoatyard$Hull", name := "<init>", desc := "(I)V" } : Jvm.MethodName)) ∈ lw_all := lw_g (lw_at lw_m2 112 rfl) rfl
theorem q425 : (Jvm.Cond.instanceMethod ({ cls := "PuddleBoatyard$Hull", name := "<init>", desc := "(I)V" } : Jvm.MethodName)) ∈ lw_all := lw_g (lw_at lw_m2 113 rfl) rfl
theorem q426 : (Jvm.Cond.code ({ cls := "PuddleBoatyard$Hull", name := "<init>", desc := "(I)V" } : Jvm.MethodName) prog_5_method_1_code (3 : Nat) (Option.none : Option Jvm.ClassFile.FieldType)) ∈ lw_all := lw_g (lw_at lw_m2 114 rfl) rfl
theorem q427 : (Jvm.Cond.methodLink "PuddleBoatyard$Hull" (3 : Nat) ({ cls := "java/lang/Object", name := "<init>", desc := "()V" } : Jvm.MethodName)) ∈ lw_all := lw_g (lw_at lw_m2 115 rfl) rfl
theorem q428 : (Jvm.Cond.classLink "PuddleBoatyard$Hull" (9 : Nat) "java/util/ArrayList") ∈ lw_all := lw_g (lw_at lw_m2 116 rfl) rfl
theorem q429 : (Jvm.Cond.methodLink "PuddleBoatyard$Hull" (11 : Nat) ({ cls := "java/util/ArrayList", name := "<init>", desc := "()V" } : Jvm.MethodName)) ∈ lw_all := lw_g (lw_at lw_m2 117 rfl) rfl
theorem q430 : (Jvm.Cond.fieldLink "PuddleBoatyard$Hull" (22 : Nat) "PuddleBoatyard$State" "BUILT" "LPuddleBoatyard$State;") ∈ lw_all := lw_g (lw_at lw_m2 118 rfl) rfl
theorem q431 : (Jvm.Cond.fieldLink "PuddleBoatyard$Hull" (31 : Nat) "PuddleBoatyard$Hull" "number" "I") ∈ lw_all := lw_g (lw_at lw_m2 119 rfl) rfl
theorem q433 : (Jvm.Cond.fieldLink "PuddleBoatyard$Hull" (12 : Nat) "PuddleBoatyard$Hull" "frames" "Ljava/util/ArrayList;") ∈ lw_all := lw_g (lw_at lw_m2 121 rfl) rfl
theorem q436 : (Jvm.Cond.fieldLink "PuddleBoatyard$Hull" (18 : Nat) "PuddleBoatyard$Hull" "caulking" "[I") ∈ lw_all := lw_g (lw_at lw_m2 124 rfl) rfl
theorem q439 : (Jvm.Cond.fieldLink "PuddleBoatyard$Hull" (28 : Nat) "PuddleBoatyard$Hull" "state" "LPuddleBoatyard$State;") ∈ lw_all := lw_g (lw_at lw_m2 127 rfl) rfl
theorem q442 : (Jvm.Cond.fieldLink "PuddleBoatyard$Hull" (58 : Nat) "PuddleBoatyard$Hull" "cargo" "I") ∈ lw_all := lw_g (lw_at lw_m2 130 rfl) rfl
theorem q444 : (Jvm.Cond.fieldLink "PuddleBoatyard$Hull" (61 : Nat) "PuddleBoatyard$Hull" "water" "I") ∈ lw_all := lw_g (lw_at lw_m2 132 rfl) rfl
theorem q447 : (Jvm.Cond.laysFinal "PuddleBoatyard$Hull" "PuddleBoatyard$Hull" "number" "I") ∈ lw_all := lw_g (lw_at lw_m2 135 rfl) rfl
theorem q448 : (Jvm.Cond.soleField "PuddleBoatyard$Hull" "number") ∈ lw_all := lw_g (lw_at lw_m2 136 rfl) rfl
theorem q449 : (Jvm.Cond.laysFinal "PuddleBoatyard$Hull" "PuddleBoatyard$Hull" "frames" "Ljava/util/ArrayList;") ∈ lw_all := lw_g (lw_at lw_m2 137 rfl) rfl
theorem q450 : (Jvm.Cond.soleField "PuddleBoatyard$Hull" "frames") ∈ lw_all := lw_g (lw_at lw_m2 138 rfl) rfl
theorem q451 : (Jvm.Cond.laysFinal "PuddleBoatyard$Hull" "PuddleBoatyard$Hull" "caulking" "[I") ∈ lw_all := lw_g (lw_at lw_m2 139 rfl) rfl
theorem q452 : (Jvm.Cond.soleField "PuddleBoatyard$Hull" "caulking") ∈ lw_all := lw_g (lw_at lw_m2 140 rfl) rfl
theorem q453 : (Jvm.Cond.lays "PuddleBoatyard$Hull" "PuddleBoatyard$Hull" "state" "LPuddleBoatyard$State;") ∈ lw_all := lw_g (lw_at lw_m2 141 rfl) rfl
theorem q454 : (Jvm.Cond.soleField "PuddleBoatyard$Hull" "state") ∈ lw_all := lw_g (lw_at lw_m2 142 rfl) rfl
theorem q455 : (Jvm.Cond.lays "PuddleBoatyard$Hull" "PuddleBoatyard$Hull" "cargo" "I") ∈ lw_all := lw_g (lw_at lw_m2 143 rfl) rfl
theorem q456 : (Jvm.Cond.soleField "PuddleBoatyard$Hull" "cargo") ∈ lw_all := lw_g (lw_at lw_m2 144 rfl) rfl
theorem q457 : (Jvm.Cond.lays "PuddleBoatyard$Hull" "PuddleBoatyard$Hull" "water" "I") ∈ lw_all := lw_g (lw_at lw_m2 145 rfl) rfl
theorem q458 : (Jvm.Cond.soleField "PuddleBoatyard$Hull" "water") ∈ lw_all := lw_g (lw_at lw_m2 146 rfl) rfl
theorem q459 : (Jvm.Cond.superclass "PuddleBoatyard$Hull" "java/lang/Object") ∈ lw_all := lw_g (lw_at lw_m2 147 rfl) rfl
theorem q460 : (Jvm.Cond.methodLink "PuddleBoatyard$Hull" (42 : Nat) ({ cls := "java/util/ArrayList", name := "get", desc := "(I)Ljava/lang/Object;" } : Jvm.MethodName)) ∈ lw_all := lw_g (lw_at lw_m2 148 rfl) rfl
theorem q461 : (Jvm.Cond.classLink "PuddleBoatyard$Hull" (46 : Nat) "PuddleBoatyard$Frame") ∈ lw_all := lw_g (lw_at lw_m2 149 rfl) rfl
theorem q462 : (Jvm.Cond.methodLink "PuddleBoatyard$Hull" (48 : Nat) ({ cls := "java/util/ArrayList", name := "add", desc := "(Ljava/lang/Object;)Z" } : Jvm.MethodName)) ∈ lw_all := lw_g (lw_at lw_m2 150 rfl) rfl
theorem q495 : (Jvm.Cond.selects "PuddleBoatyard$Hull" ({ cls := "java/lang/Object", name := "getClass", desc := "()Ljava/lang/Class;" } : Jvm.MethodName) ({ cls := "java/lang/Object", name := "getClass", desc := "()Ljava/lang/Class;" } : Jvm.MethodName)) ∈ lw_all := lw_g (lw_at lw_m2 183 rfl) rfl
theorem q532 : (Jvm.Cond.methodLink "PuddleBoatyard$Hull" (52 : Nat) ({ cls := "java/lang/System", name := "arraycopy", desc := "(Ljava/lang/Object;ILjava/lang/Object;II)V" } : Jvm.MethodName)) ∈ lw_all := lw_g (lw_at lw_m2 220 rfl) rfl
theorem q704 : (Jvm.Cond.fieldLink "PuddleBoatyard$Hull" (78 : Nat) "PuddleBoatyard$Frame" "left" "I") ∈ lw_all := lw_g (lw_at lw_m3 152 rfl) rfl
theorem q707 : (Jvm.Cond.fieldLink "PuddleBoatyard$Hull" (81 : Nat) "PuddleBoatyard$Frame" "right" "I") ∈ lw_all := lw_g (lw_at lw_m3 155 rfl) rfl
theorem q719 : (Jvm.Cond.instanceMethod ({ cls := "PuddleBoatyard$Hull", name := "mirror", desc := "()I" } : Jvm.MethodName)) ∈ lw_all := lw_g (lw_at lw_m3 167 rfl) rfl
theorem q720 : (Jvm.Cond.selects "PuddleBoatyard$Hull" ({ cls := "PuddleBoatyard$Hull", name := "mirror", desc := "()I" } : Jvm.MethodName) ({ cls := "PuddleBoatyard$Hull", name := "mirror", desc := "()I" } : Jvm.MethodName)) ∈ lw_all := lw_g (lw_at lw_m3 168 rfl) rfl
theorem q721 : (Jvm.Cond.code ({ cls := "PuddleBoatyard$Hull", name := "mirror", desc := "()I" } : Jvm.MethodName) prog_5_method_13_code (5 : Nat) (Option.some Jvm.ClassFile.FieldType.int)) ∈ lw_all := lw_g (lw_at lw_m3 169 rfl) rfl
theorem q722 : (Jvm.Cond.methodLink "PuddleBoatyard$Hull" (64 : Nat) ({ cls := "PuddleBoatyard$Hull", name := "size", desc := "()I" } : Jvm.MethodName)) ∈ lw_all := lw_g (lw_at lw_m3 170 rfl) rfl
theorem q723 : (Jvm.Cond.methodLink "PuddleBoatyard$Hull" (101 : Nat) ({ cls := "PuddleBoatyard$Frame", name := "mirrored", desc := "()LPuddleBoatyard$Frame;" } : Jvm.MethodName)) ∈ lw_all := lw_g (lw_at lw_m3 171 rfl) rfl
theorem q729 : (Jvm.Cond.methodLink "PuddleBoatyard$Hull" (105 : Nat) ({ cls := "java/util/ArrayList", name := "set", desc := "(ILjava/lang/Object;)Ljava/lang/Object;" } : Jvm.MethodName)) ∈ lw_all := lw_g (lw_at lw_m3 177 rfl) rfl
theorem q776 : (Jvm.Cond.instanceMethod ({ cls := "PuddleBoatyard$Hull", name := "draught", desc := "()I" } : Jvm.MethodName)) ∈ lw_all := lw_g (lw_at lw_m3 224 rfl) rfl
theorem q777 : (Jvm.Cond.selects "PuddleBoatyard$Hull" ({ cls := "PuddleBoatyard$Hull", name := "draught", desc := "()I" } : Jvm.MethodName) ({ cls := "PuddleBoatyard$Hull", name := "draught", desc := "()I" } : Jvm.MethodName)) ∈ lw_all := lw_g (lw_at lw_m3 225 rfl) rfl
theorem q778 : (Jvm.Cond.code ({ cls := "PuddleBoatyard$Hull", name := "draught", desc := "()I" } : Jvm.MethodName) prog_5_method_11_code (2 : Nat) (Option.some Jvm.ClassFile.FieldType.int)) ∈ lw_all := lw_g (lw_at lw_m3 226 rfl) rfl
theorem q779 : (Jvm.Cond.methodLink "PuddleBoatyard$Hull" (93 : Nat) ({ cls := "PuddleBoatyard$Hull", name := "floatsAt", desc := "(I)Z" } : Jvm.MethodName)) ∈ lw_all := lw_g (lw_at lw_m3 227 rfl) rfl
theorem q780 : (Jvm.Cond.instanceMethod ({ cls := "PuddleBoatyard$Hull", name := "floatsAt", desc := "(I)Z" } : Jvm.MethodName)) ∈ lw_all := lw_g (lw_at lw_m3 228 rfl) rfl
theorem q781 : (Jvm.Cond.selects "PuddleBoatyard$Hull" ({ cls := "PuddleBoatyard$Hull", name := "floatsAt", desc := "(I)Z" } : Jvm.MethodName) ({ cls := "PuddleBoatyard$Hull", name := "floatsAt", desc := "(I)Z" } : Jvm.MethodName)) ∈ lw_all := lw_g (lw_at lw_m3 229 rfl) rfl
theorem q782 : (Jvm.Cond.code ({ cls := "PuddleBoatyard$Hull", name := "floatsAt", desc := "(I)Z" } : Jvm.MethodName) prog_5_method_9_code (2 : Nat) (Option.some Jvm.ClassFile.FieldType.boolean)) ∈ lw_all := lw_g (lw_at lw_m3 230 rfl) rfl
theorem q783 : (Jvm.Cond.methodLink "PuddleBoatyard$Hull" (87 : Nat) ({ cls := "PuddleBoatyard$Hull", name := "seamWidths", desc := "()I" } : Jvm.MethodName)) ∈ lw_all := lw_g (lw_at lw_m3 231 rfl) rfl
theorem q784 : (Jvm.Cond.privateMethod ({ cls := "PuddleBoatyard$Hull", name := "seamWidths", desc := "()I" } : Jvm.MethodName)) ∈ lw_tbl := lw_at lw_m3 232 rfl
theorem q785 : (Jvm.Cond.instanceMethod ({ cls := "PuddleBoatyard$Hull", name := "seamWidths", desc := "()I" } : Jvm.MethodName)) ∈ lw_all := lw_g (lw_at lw_m3 233 rfl) rfl
theorem q786 : (Jvm.Cond.code ({ cls := "PuddleBoatyard$Hull", name := "seamWidths", desc := "()I" } : Jvm.MethodName) prog_5_method_8_code (3 : Nat) (Option.some Jvm.ClassFile.FieldType.int)) ∈ lw_all := lw_g (lw_at lw_m3 234 rfl) rfl
theorem q787 : (Jvm.Cond.methodLink "PuddleBoatyard$Hull" (84 : Nat) ({ cls := "PuddleBoatyard$Hull", name := "seams", desc := "()I" } : Jvm.MethodName)) ∈ lw_all := lw_g (lw_at lw_m3 235 rfl) rfl
theorem q788 : (Jvm.Cond.instanceMethod ({ cls := "PuddleBoatyard$Hull", name := "seams", desc := "()I" } : Jvm.MethodName)) ∈ lw_all := lw_g (lw_at lw_m3 236 rfl) rfl
theorem q789 : (Jvm.Cond.selects "PuddleBoatyard$Hull" ({ cls := "PuddleBoatyard$Hull", name := "seams", desc := "()I" } : Jvm.MethodName) ({ cls := "PuddleBoatyard$Hull", name := "seams", desc := "()I" } : Jvm.MethodName)) ∈ lw_all := lw_g (lw_at lw_m3 237 rfl) rfl
theorem q790 : (Jvm.Cond.code ({ cls := "PuddleBoatyard$Hull", name := "seams", desc := "()I" } : Jvm.MethodName) prog_5_method_4_code (1 : Nat) (Option.some Jvm.ClassFile.FieldType.int)) ∈ lw_all := lw_g (lw_at lw_m3 238 rfl) rfl
theorem q791 : (Jvm.Cond.methodLink "PuddleBoatyard$Hull" (65 : Nat) ({ cls := "java/lang/Math", name := "max", desc := "(II)I" } : Jvm.MethodName)) ∈ lw_all := lw_g (lw_at lw_m3 239 rfl) rfl
theorem q792 : (Jvm.Cond.methodLink "PuddleBoatyard$Hull" (75 : Nat) ({ cls := "PuddleBoatyard$Frame", name := "width", desc := "()I" } : Jvm.MethodName)) ∈ lw_all := lw_g (lw_at lw_m4 0 rfl) rfl
theorem q796 : (Jvm.Cond.methodLink "PuddleBoatyard$Hull" (90 : Nat) ({ cls := "PuddleBoatyard$Hull", name := "weight", desc := "()I" } : Jvm.MethodName)) ∈ lw_all := lw_g (lw_at lw_m4 4 rfl) rfl
theorem q797 : (Jvm.Cond.instanceMethod ({ cls := "PuddleBoatyard$Hull", name := "weight", desc := "()I" } : Jvm.MethodName)) ∈ lw_all := lw_g (lw_at lw_m4 5 rfl) rfl
theorem q798 : (Jvm.Cond.selects "PuddleBoatyard$Hull" ({ cls := "PuddleBoatyard$Hull", name := "weight", desc := "()I" } : Jvm.MethodName) ({ cls := "PuddleBoatyard$Hull", name := "weight", desc := "()I" } : Jvm.MethodName)) ∈ lw_all := lw_g (lw_at lw_m4 6 rfl) rfl
theorem q799 : (Jvm.Cond.code ({ cls := "PuddleBoatyard$Hull", name := "weight", desc := "()I" } : Jvm.MethodName) prog_5_method_6_code (3 : Nat) (Option.some Jvm.ClassFile.FieldType.int)) ∈ lw_all := lw_g (lw_at lw_m4 7 rfl) rfl
theorem q800 : (Jvm.Cond.methodLinkNest "PuddleBoatyard$Hull" (71 : Nat) ({ cls := "PuddleBoatyard", name := "sum", desc := "([I)I" } : Jvm.MethodName) "PuddleBoatyard") ∈ lw_tbl := lw_at lw_m4 8 rfl
theorem q830 : (Jvm.Cond.instanceMethod ({ cls := "PuddleBoatyard$Hull", name := "sinksIn", desc := "(I)Z" } : Jvm.MethodName)) ∈ lw_all := lw_g (lw_at lw_m4 38 rfl) rfl
theorem q831 : (Jvm.Cond.selects "PuddleBoatyard$Hull" ({ cls := "PuddleBoatyard$Hull", name := "sinksIn", desc := "(I)Z" } : Jvm.MethodName) ({ cls := "PuddleBoatyard$Hull", name := "sinksIn", desc := "(I)Z" } : Jvm.MethodName)) ∈ lw_all := lw_g (lw_at lw_m4 39 rfl) rfl
theorem q832 : (Jvm.Cond.code ({ cls := "PuddleBoatyard$Hull", name := "sinksIn", desc := "(I)Z" } : Jvm.MethodName) prog_5_method_18_code (3 : Nat) (Option.some Jvm.ClassFile.FieldType.boolean)) ∈ lw_all := lw_g (lw_at lw_m4 40 rfl) rfl
theorem q833 : (Jvm.Cond.fieldLink "PuddleBoatyard$Hull" (117 : Nat) "PuddleBoatyard$State" "AFLOAT" "LPuddleBoatyard$State;") ∈ lw_all := lw_g (lw_at lw_m4 41 rfl) rfl
theorem q834 : (Jvm.Cond.methodLink "PuddleBoatyard$Hull" (120 : Nat) ({ cls := "PuddleBoatyard$Hull", name := "is", desc := "(LPuddleBoatyard$State;)Z" } : Jvm.MethodName)) ∈ lw_all := lw_g (lw_at lw_m4 42 rfl) rfl
theorem q835 : (Jvm.Cond.methodLink "PuddleBoatyard$Hull" (97 : Nat) ({ cls := "PuddleBoatyard$Hull", name := "canFloat", desc := "()Z" } : Jvm.MethodName)) ∈ lw_all := lw_g (lw_at lw_m4 43 rfl) rfl
theorem q836 : (Jvm.Cond.instanceMethod ({ cls := "PuddleBoatyard$Hull", name := "canFloat", desc := "()Z" } : Jvm.MethodName)) ∈ lw_all := lw_g (lw_at lw_m4 44 rfl) rfl
theorem q837 : (Jvm.Cond.selects "PuddleBoatyard$Hull" ({ cls := "PuddleBoatyard$Hull", name := "canFloat", desc := "()Z" } : Jvm.MethodName) ({ cls := "PuddleBoatyard$Hull", name := "canFloat", desc := "()Z" } : Jvm.MethodName)) ∈ lw_all := lw_g (lw_at lw_m4 45 rfl) rfl
theorem q838 : (Jvm.Cond.code ({ cls := "PuddleBoatyard$Hull", name := "canFloat", desc := "()Z" } : Jvm.MethodName) prog_5_method_10_code (1 : Nat) (Option.some Jvm.ClassFile.FieldType.boolean)) ∈ lw_all := lw_g (lw_at lw_m4 46 rfl) rfl
theorem q839 : (Jvm.Cond.fieldLink "PuddleBoatyard$Hull" (124 : Nat) "PuddleBoatyard$State" "SUNK" "LPuddleBoatyard$State;") ∈ lw_all := lw_g (lw_at lw_m4 47 rfl) rfl
theorem q910 : (Jvm.Cond.selects "PuddleBoatyard$Hull" ({ cls := "java/lang/Object", name := "equals", desc := "(Ljava/lang/Object;)Z" } : Jvm.MethodName) ({ cls := "java/lang/Object", name := "equals", desc := "(Ljava/lang/Object;)Z" } : Jvm.MethodName)) ∈ lw_all := lw_g (lw_at lw_m4 118 rfl) rfl
theorem q1180 : (Jvm.Cond.instanceMethod ({ cls := "PuddleBoatyard$Hull", name := "draughtByHalving", desc := "()I" } : Jvm.MethodName)) ∈ lw_all := lw_g (lw_at lw_m5 148 rfl) rfl
theorem q1181 : (Jvm.Cond.selects "PuddleBoatyard$Hull" ({ cls := "PuddleBoatyard$Hull", name := "draughtByHalving", desc := "()I" } : Jvm.MethodName) ({ cls := "PuddleBoatyard$Hull", name := "draughtByHalving", desc := "()I" } : Jvm.MethodName)) ∈ lw_all := lw_g (lw_at lw_m5 149 rfl) rfl
theorem q1182 : (Jvm.Cond.code ({ cls := "PuddleBoatyard$Hull", name := "draughtByHalving", desc := "()I" } : Jvm.MethodName) prog_5_method_12_code (4 : Nat) (Option.some Jvm.ClassFile.FieldType.int)) ∈ lw_all := lw_g (lw_at lw_m5 150 rfl) rfl
theorem q1191 : (Jvm.Cond.instanceMethod ({ cls := "PuddleBoatyard$Hull", name := "heel", desc := "()I" } : Jvm.MethodName)) ∈ lw_all := lw_g (lw_at lw_m5 159 rfl) rfl
theorem q1192 : (Jvm.Cond.selects "PuddleBoatyard$Hull" ({ cls := "PuddleBoatyard$Hull", name := "heel", desc := "()I" } : Jvm.MethodName) ({ cls := "PuddleBoatyard$Hull", name := "heel", desc := "()I" } : Jvm.MethodName)) ∈ lw_all := lw_g (lw_at lw_m5 160 rfl) rfl
theorem q1193 : (Jvm.Cond.code ({ cls := "PuddleBoatyard$Hull", name := "heel", desc := "()I" } : Jvm.MethodName) prog_5_method_7_code (3 : Nat) (Option.some Jvm.ClassFile.FieldType.int)) ∈ lw_all := lw_g (lw_at lw_m5 161 rfl) rfl
theorem q1216 : (Jvm.Cond.instanceMethod ({ cls := "PuddleBoatyard$Hull", name := "isReflectionOf", desc := "(LPuddleBoatyard$Hull;)Z" } : Jvm.MethodName)) ∈ lw_all := lw_g (lw_at lw_m5 184 rfl) rfl
theorem q1217 : (Jvm.Cond.selects "PuddleBoatyard$Hull" ({ cls := "PuddleBoatyard$Hull", name := "isReflectionOf", desc := "(LPuddleBoatyard$Hull;)Z" } : Jvm.MethodName) ({ cls := "PuddleBoatyard$Hull", name := "isReflectionOf", desc := "(LPuddleBoatyard$Hull;)Z" } : Jvm.MethodName)) ∈ lw_all := lw_g (lw_at lw_m5 185 rfl) rfl
theorem q1218 : (Jvm.Cond.code ({ cls := "PuddleBoatyard$Hull", name := "isReflectionOf", desc := "(LPuddleBoatyard$Hull;)Z" } : Jvm.MethodName) prog_5_method_14_code (3 : Nat) (Option.some Jvm.ClassFile.FieldType.boolean)) ∈ lw_all := lw_g (lw_at lw_m5 186 rfl) rfl
theorem q1219 : (Jvm.Cond.methodLink "PuddleBoatyard$Hull" (109 : Nat) ({ cls := "PuddleBoatyard$Frame", name := "isMirrorOf", desc := "(LPuddleBoatyard$Frame;)Z" } : Jvm.MethodName)) ∈ lw_all := lw_g (lw_at lw_m5 187 rfl) rfl
theorem q1238 : (Jvm.Cond.instanceMethod ({ cls := "PuddleBoatyard$Hull", name := "commonStretch", desc := "(LPuddleBoatyard$Hull;)I" } : Jvm.MethodName)) ∈ lw_all := lw_g (lw_at lw_m5 206 rfl) rfl
theorem q1239 : (Jvm.Cond.selects "PuddleBoatyard$Hull" ({ cls := "PuddleBoatyard$Hull", name := "commonStretch", desc := "(LPuddleBoatyard$Hull;)I" } : Jvm.MethodName) ({ cls := "PuddleBoatyard$Hull", name := "commonStretch", desc := "(LPuddleBoatyard$Hull;)I" } : Jvm.MethodName)) ∈ lw_all := lw_g (lw_at lw_m5 207 rfl) rfl
theorem q1240 : (Jvm.Cond.code ({ cls := "PuddleBoatyard$Hull", name := "commonStretch", desc := "(LPuddleBoatyard$Hull;)I" } : Jvm.MethodName) prog_5_method_15_code (6 : Nat) (Option.some Jvm.ClassFile.FieldType.int)) ∈ lw_all := lw_g (lw_at lw_m5 208 rfl) rfl
theorem q1249 : (Jvm.Cond.instanceMethod ({ cls := "PuddleBoatyard$Hull", name := "commonStretchByTrying", desc := "(LPuddleBoatyard$Hull;)I" } : Jvm.MethodName)) ∈ lw_all := lw_g (lw_at lw_m5 217 rfl) rfl
theorem q1250 : (Jvm.Cond.selects "PuddleBoatyard$Hull" ({ cls := "PuddleBoatyard$Hull", name := "commonStretchByTrying", desc := "(LPuddleBoatyard$Hull;)I" } : Jvm.MethodName) ({ cls := "PuddleBoatyard$Hull", name := "commonStretchByTrying", desc := "(LPuddleBoatyard$Hull;)I" } : Jvm.MethodName)) ∈ lw_all := lw_g (lw_at lw_m5 218 rfl) rfl
theorem q1251 : (Jvm.Cond.code ({ cls := "PuddleBoatyard$Hull", name := "commonStretchByTrying", desc := "(LPuddleBoatyard$Hull;)I" } : Jvm.MethodName) prog_5_method_17_code (5 : Nat) (Option.some Jvm.ClassFile.FieldType.int)) ∈ lw_all := lw_g (lw_at lw_m5 219 rfl) rfl
theorem q1252 : (Jvm.Cond.methodLink "PuddleBoatyard$Hull" (113 : Nat) ({ cls := "PuddleBoatyard$Hull", name := "stretch", desc := "(ILPuddleBoatyard$Hull;I)I" } : Jvm.MethodName)) ∈ lw_all := lw_g (lw_at lw_m5 220 rfl) rfl
theorem q1253 : (Jvm.Cond.privateMethod ({ cls := "PuddleBoatyard$Hull", name := "stretch", desc := "(ILPuddleBoatyard$Hull;I)I" } : Jvm.MethodName)) ∈ lw_tbl := lw_at lw_m5 221 rfl
theorem q1254 : (Jvm.Cond.instanceMethod ({ cls := "PuddleBoatyard$Hull", name := "stretch", desc := "(ILPuddleBoatyard$Hull;I)I" } : Jvm.MethodName)) ∈ lw_all := lw_g (lw_at lw_m5 222 rfl) rfl
theorem q1255 : (Jvm.Cond.code ({ cls := "PuddleBoatyard$Hull", name := "stretch", desc := "(ILPuddleBoatyard$Hull;I)I" } : Jvm.MethodName) prog_5_method_16_code (5 : Nat) (Option.some Jvm.ClassFile.FieldType.int)) ∈ lw_all := lw_g (lw_at lw_m5 223 rfl) rfl
theorem q1408 : (Jvm.Cond.instanceMethod ({ cls := "PuddleBoatyard$Hull", name := "toString", desc := "()Ljava/lang/String;" } : Jvm.MethodName)) ∈ lw_all := lw_g (lw_at lw_m6 136 rfl) rfl
theorem q1409 : (Jvm.Cond.selects "PuddleBoatyard$Hull" ({ cls := "PuddleBoatyard$Hull", name := "toString", desc := "()Ljava/lang/String;" } : Jvm.MethodName) ({ cls := "PuddleBoatyard$Hull", name := "toString", desc := "()Ljava/lang/String;" } : Jvm.MethodName)) ∈ lw_all := lw_g (lw_at lw_m6 137 rfl) rfl
theorem q1410 : (Jvm.Cond.code ({ cls := "PuddleBoatyard$Hull", name := "toString", desc := "()Ljava/lang/String;" } : Jvm.MethodName) prog_5_method_19_code (3 : Nat) (Option.some (Jvm.ClassFile.FieldType.object "java/lang/String"))) ∈ lw_all := lw_g (lw_at lw_m6 138 rfl) rfl
theorem q1411 : (Jvm.Cond.classLink "PuddleBoatyard$Hull" (127 : Nat) "java/lang/StringBuilder") ∈ lw_all := lw_g (lw_at lw_m6 139 rfl) rfl
theorem q1412 : (Jvm.Cond.methodLink "PuddleBoatyard$Hull" (129 : Nat) ({ cls := "java/lang/StringBuilder", name := "<init>", desc := "()V" } : Jvm.MethodName)) ∈ lw_all := lw_g (lw_at lw_m6 140 rfl) rfl
theorem q1413 : (Jvm.Cond.methodLink "PuddleBoatyard$Hull" (130 : Nat) ({ cls := "java/lang/StringBuilder", name := "append", desc := "(I)Ljava/lang/StringBuilder;" } : Jvm.MethodName)) ∈ lw_all := lw_g (lw_at lw_m6 141 rfl) rfl
theorem q1486 : (Jvm.Cond.methodLink "PuddleBoatyard$Hull" (138 : Nat) ({ cls := "java/lang/StringBuilder", name := "append", desc := "(C)Ljava/lang/StringBuilder;" } : Jvm.MethodName)) ∈ lw_all := lw_g (lw_at lw_m6 214 rfl) rfl
theorem q1525 : (Jvm.Cond.methodLink "PuddleBoatyard$Hull" (141 : Nat) ({ cls := "PuddleBoatyard$Frame", name := "toString", desc := "()Ljava/lang/String;" } : Jvm.MethodName)) ∈ lw_all := lw_g (lw_at lw_m7 13 rfl) rfl
theorem q1636 : (Jvm.Cond.methodLink "PuddleBoatyard$Hull" (145 : Nat) ({ cls := "java/lang/StringBuilder", name := "append", desc := "(Ljava/lang/String;)Ljava/lang/StringBuilder;" } : Jvm.MethodName)) ∈ lw_all := lw_g (lw_at lw_m7 124 rfl) rfl
theorem q1637 : (Jvm.Cond.methodLink "PuddleBoatyard$Hull" (148 : Nat) ({ cls := "java/lang/StringBuilder", name := "toString", desc := "()Ljava/lang/String;" } : Jvm.MethodName)) ∈ lw_all := lw_g (lw_at lw_m7 125 rfl) rfl
theorem q2424 : (Jvm.Cond.castable "PuddleBoatyard$Hull" "java/lang/Object") ∈ lw_tbl := lw_at lw_m10 192 rfl
theorem q2458 : (Jvm.Cond.fieldLink "PuddleBoatyard$Hull" (134 : Nat) "PuddleBoatyard$State" "letter" "C") ∈ lw_all := lw_g (lw_at lw_m10 226 rfl) rfl
theorem in_X6 : ∀ w ∈ wsX60, w ∈ lw_all := lw_in wsX60 [447, 449, 451, 453, 455, 457] (by decide +kernel) (by decide +kernel)
/-! java/util/Objects -/
def RJ9 : String := "java/util/Objects"
abbrev cJ9_checkIndex : ByteArray := prog_59_method_17_code
def yJ9_checkIndex : MethodName := ⟨RJ9, "checkIndex", "(II)I"⟩
theorem q88 : (Jvm.Cond.initialized "java/util/Objects") ∈ lw_all := lw_g (lw_at lw_m1 16 rfl) rfl
theorem q317 : (Jvm.Cond.static ({ cls := "java/util/Objects", name := "checkIndex", desc := "(II)I" } : Jvm.MethodName)) ∈ lw_all := lw_g (lw_at lw_m2 5 rfl) rfl
theorem q318 : (Jvm.Cond.code ({ cls := "java/util/Objects", name := "checkIndex", desc := "(II)I" } : Jvm.MethodName) prog_59_method_17_code (2 : Nat) (Option.some Jvm.ClassFile.FieldType.int)) ∈ lw_all := lw_g (lw_at lw_m2 6 rfl) rfl
theorem q319 : (Jvm.Cond.methodLink "java/util/Objects" (105 : Nat) ({ cls := "jdk/internal/util/Preconditions", name := "checkIndex", desc := "(IILjava/util/function/BiFunction;)I" } : Jvm.MethodName)) ∈ lw_all := lw_g (lw_at lw_m2 7 rfl) rfl
/-! jdk/internal/util/Preconditions -/
def RJ10 : String := "jdk/internal/util/Preconditions"
abbrev cJ10_checkIndex : ByteArray := prog_64_method_11_code
def yJ10_checkIndex : MethodName := ⟨RJ10, "checkIndex", "(IILjava/util/function/BiFunction;)I"⟩
abbrev cJ10_checkFromToIndex : ByteArray := prog_64_method_12_code
def yJ10_checkFromToIndex : MethodName := ⟨RJ10, "checkFromToIndex", "(IIILjava/util/function/BiFunction;)I"⟩
abbrev cJ10_checkFromIndexSize : ByteArray := prog_64_method_13_code
def yJ10_checkFromIndexSize : MethodName := ⟨RJ10, "checkFromIndexSize", "(IIILjava/util/function/BiFunction;)I"⟩
theorem q89 : (Jvm.Cond.initialized "jdk/internal/util/Preconditions") ∈ lw_all := lw_g (lw_at lw_m1 17 rfl) rfl
theorem q320 : (Jvm.Cond.static ({ cls := "jdk/internal/util/Preconditions", name := "checkIndex", desc := "(IILjava/util/function/BiFunction;)I" } : Jvm.MethodName)) ∈ lw_all := lw_g (lw_at lw_m2 8 rfl) rfl
theorem q321 : (Jvm.Cond.code ({ cls := "jdk/internal/util/Preconditions", name := "checkIndex", desc := "(IILjava/util/function/BiFunction;)I" } : Jvm.MethodName) prog_64_method_11_code (3 : Nat) (Option.some Jvm.ClassFile.FieldType.int)) ∈ lw_all := lw_g (lw_at lw_m2 9 rfl) rfl
theorem q1468 : (Jvm.Cond.laysStatic "jdk/internal/util/Preconditions" "SIOOBE_FORMATTER" "Ljava/util/function/BiFunction;") ∈ lw_tbl := lw_at lw_m6 196 rfl
theorem q1470 : (Jvm.Cond.static ({ cls := "jdk/internal/util/Preconditions", name := "checkFromToIndex", desc := "(IIILjava/util/function/BiFunction;)I" } : Jvm.MethodName)) ∈ lw_all := lw_g (lw_at lw_m6 198 rfl) rfl
theorem q1471 : (Jvm.Cond.code ({ cls := "jdk/internal/util/Preconditions", name := "checkFromToIndex", desc := "(IIILjava/util/function/BiFunction;)I" } : Jvm.MethodName) prog_64_method_12_code (4 : Nat) (Option.some Jvm.ClassFile.FieldType.int)) ∈ lw_all := lw_g (lw_at lw_m6 199 rfl) rfl
theorem q1513 : (Jvm.Cond.static ({ cls := "jdk/internal/util/Preconditions", name := "checkFromIndexSize", desc := "(IIILjava/util/function/BiFunction;)I" } : Jvm.MethodName)) ∈ lw_all := lw_g (lw_at lw_m7 1 rfl) rfl
theorem q1514 : (Jvm.Cond.code ({ cls := "jdk/internal/util/Preconditions", name := "checkFromIndexSize", desc := "(IIILjava/util/function/BiFunction;)I" } : Jvm.MethodName) prog_64_method_13_code (4 : Nat) (Option.some Jvm.ClassFile.FieldType.int)) ∈ lw_all := lw_g (lw_at lw_m7 2 rfl) rfl
/-! java/lang/Enum -/
def RJ11 : String := "java/lang/Enum"
abbrev cJ11_equals : ByteArray := prog_29_method_5_code
def yJ11_equals : MethodName := ⟨RJ11, "equals", "(Ljava/lang/Object;)Z"⟩
abbrev cJ11_ordinal : ByteArray := prog_29_method_2_code
def yJ11_ordinal : MethodName := ⟨RJ11, "ordinal", "()I"⟩
theorem q90 : (Jvm.Cond.initialized "java/lang/Enum") ∈ lw_all := lw_g (lw_at lw_m1 18 rfl) rfl
theorem q916 : (Jvm.Cond.instanceMethod ({ cls := "java/lang/Enum", name := "equals", desc := "(Ljava/lang/Object;)Z" } : Jvm.MethodName)) ∈ lw_all := lw_g (lw_at lw_m4 124 rfl) rfl
theorem q917 : (Jvm.Cond.code ({ cls := "java/lang/Enum", name := "equals", desc := "(Ljava/lang/Object;)Z" } : Jvm.MethodName) prog_29_method_5_code (2 : Nat) (Option.some Jvm.ClassFile.FieldType.boolean)) ∈ lw_all := lw_g (lw_at lw_m4 125 rfl) rfl
theorem q1106 : (Jvm.Cond.declares ({ cls := "java/lang/Enum", name := "ordinal", desc := "()I" } : Jvm.MethodName)) ∈ lw_tbl := lw_at lw_m5 74 rfl
theorem q1111 : (Jvm.Cond.instanceMethod ({ cls := "java/lang/Enum", name := "ordinal", desc := "()I" } : Jvm.MethodName)) ∈ lw_all := lw_g (lw_at lw_m5 79 rfl) rfl
theorem q1112 : (Jvm.Cond.code ({ cls := "java/lang/Enum", name := "ordinal", desc := "()I" } : Jvm.MethodName) prog_29_method_2_code (1 : Nat) (Option.some Jvm.ClassFile.FieldType.int)) ∈ lw_all := lw_g (lw_at lw_m5 80 rfl) rfl
theorem q2457 : (Jvm.Cond.fieldLink "java/lang/Enum" (7 : Nat) "java/lang/Enum" "ordinal" "I") ∈ lw_all := lw_g (lw_at lw_m10 225 rfl) rfl
/-! jdk/internal/util/ArraysSupport -/
def RJ12 : String := "jdk/internal/util/ArraysSupport"
abbrev cJ12_newLength : ByteArray := prog_63_method_27_code
def yJ12_newLength : MethodName := ⟨RJ12, "newLength", "(III)I"⟩
abbrev cJ12_hugeLength : ByteArray := prog_63_method_28_code
def yJ12_hugeLength : MethodName := ⟨RJ12, "hugeLength", "(II)I"⟩
theorem q92 : (Jvm.Cond.initialized "jdk/internal/util/ArraysSupport") ∈ lw_all := lw_g (lw_at lw_m1 20 rfl) rfl
theorem q479 : (Jvm.Cond.static ({ cls := "jdk/internal/util/ArraysSupport", name := "newLength", desc := "(III)I" } : Jvm.MethodName)) ∈ lw_all := lw_g (lw_at lw_m2 167 rfl) rfl
theorem q480 : (Jvm.Cond.code ({ cls := "jdk/internal/util/ArraysSupport", name := "newLength", desc := "(III)I" } : Jvm.MethodName) prog_63_method_27_code (4 : Nat) (Option.some Jvm.ClassFile.FieldType.int)) ∈ lw_all := lw_g (lw_at lw_m2 168 rfl) rfl
theorem q481 : (Jvm.Cond.methodLink "jdk/internal/util/ArraysSupport" (194 : Nat) ({ cls := "java/lang/Math", name := "max", desc := "(II)I" } : Jvm.MethodName)) ∈ lw_all := lw_g (lw_at lw_m2 169 rfl) rfl
theorem q482 : (Jvm.Cond.constant "jdk/internal/util/ArraysSupport" (200 : Nat) (2147483639 : Int32)) ∈ lw_all := lw_g (lw_at lw_m2 170 rfl) rfl
theorem q483 : (Jvm.Cond.methodLink "jdk/internal/util/ArraysSupport" (201 : Nat) ({ cls := "jdk/internal/util/ArraysSupport", name := "hugeLength", desc := "(II)I" } : Jvm.MethodName)) ∈ lw_all := lw_g (lw_at lw_m2 171 rfl) rfl
theorem q484 : (Jvm.Cond.static ({ cls := "jdk/internal/util/ArraysSupport", name := "hugeLength", desc := "(II)I" } : Jvm.MethodName)) ∈ lw_all := lw_g (lw_at lw_m2 172 rfl) rfl
theorem q485 : (Jvm.Cond.code ({ cls := "jdk/internal/util/ArraysSupport", name := "hugeLength", desc := "(II)I" } : Jvm.MethodName) prog_63_method_28_code (3 : Nat) (Option.some Jvm.ClassFile.FieldType.int)) ∈ lw_all := lw_g (lw_at lw_m2 173 rfl) rfl
/-! java/util/Arrays -/
def RJ13 : String := "java/util/Arrays"
abbrev cJ13_copyOf : ByteArray := prog_54_method_119_code
def yJ13_copyOf : MethodName := ⟨RJ13, "copyOf", "([Ljava/lang/Object;I)[Ljava/lang/Object;"⟩
abbrev cJ13_copyOf_2 : ByteArray := prog_54_method_120_code
def yJ13_copyOf_2 : MethodName := ⟨RJ13, "copyOf", "([Ljava/lang/Object;ILjava/lang/Class;)[Ljava/lang/Object;"⟩
abbrev cJ13_copyOf_3 : ByteArray := prog_54_method_121_code
def yJ13_copyOf_3 : MethodName := ⟨RJ13, "copyOf", "([BI)[B"⟩
abbrev cJ13_copyOfRange : ByteArray := prog_54_method_132_code
def yJ13_copyOfRange : MethodName := ⟨RJ13, "copyOfRange", "([BII)[B"⟩
abbrev cJ13_copyOfRangeByte : ByteArray := prog_54_method_133_code
def yJ13_copyOfRangeByte : MethodName := ⟨RJ13, "copyOfRangeByte", "([BII)[B"⟩
abbrev cJ13_checkLength : ByteArray := prog_54_method_131_code
def yJ13_checkLength : MethodName := ⟨RJ13, "checkLength", "(II)V"⟩
abbrev cJ13_fill : ByteArray := prog_54_method_110_code
def yJ13_fill : MethodName := ⟨RJ13, "fill", "([BIIB)V"⟩
abbrev cJ13_rangeCheck : ByteArray := prog_54_method_30_code
def yJ13_rangeCheck : MethodName := ⟨RJ13, "rangeCheck", "(III)V"⟩
theorem q93 : (Jvm.Cond.initialized "java/util/Arrays") ∈ lw_all := lw_g (lw_at lw_m1 21 rfl) rfl
theorem q487 : (Jvm.Cond.static ({ cls := "java/util/Arrays", name := "copyOf", desc := "([Ljava/lang/Object;I)[Ljava/lang/Object;" } : Jvm.MethodName)) ∈ lw_all := lw_g (lw_at lw_m2 175 rfl) rfl
theorem q488 : (Jvm.Cond.code ({ cls := "java/util/Arrays", name := "copyOf", desc := "([Ljava/lang/Object;I)[Ljava/lang/Object;" } : Jvm.MethodName) prog_54_method_119_code (2 : Nat) (Option.some (Jvm.ClassFile.FieldType.array (Jvm.ClassFile.FieldType.object "java/lang/Object")))) ∈ lw_all := lw_g (lw_at lw_m2 176 rfl) rfl
theorem q489 : (Jvm.Cond.methodLink "java/util/Arrays" (86 : Nat) ({ cls := "java/lang/Object", name := "getClass", desc := "()Ljava/lang/Class;" } : Jvm.MethodName)) ∈ lw_all := lw_g (lw_at lw_m2 177 rfl) rfl
theorem q521 : (Jvm.Cond.methodLink "java/util/Arrays" (300 : Nat) ({ cls := "java/util/Arrays", name := "copyOf", desc := "([Ljava/lang/Object;ILjava/lang/Class;)[Ljava/lang/Object;" } : Jvm.MethodName)) ∈ lw_all := lw_g (lw_at lw_m2 209 rfl) rfl
theorem q522 : (Jvm.Cond.static ({ cls := "java/util/Arrays", name := "copyOf", desc := "([Ljava/lang/Object;ILjava/lang/Class;)[Ljava/lang/Object;" } : Jvm.MethodName)) ∈ lw_all := lw_g (lw_at lw_m2 210 rfl) rfl
theorem q523 : (Jvm.Cond.code ({ cls := "java/util/Arrays", name := "copyOf", desc := "([Ljava/lang/Object;ILjava/lang/Class;)[Ljava/lang/Object;" } : Jvm.MethodName) prog_54_method_120_code (4 : Nat) (Option.some (Jvm.ClassFile.FieldType.array (Jvm.ClassFile.FieldType.object "java/lang/Object")))) ∈ lw_all := lw_g (lw_at lw_m2 211 rfl) rfl
theorem q524 : (Jvm.Cond.classLink "java/util/Arrays" (110 : Nat) "[Ljava/lang/Object;") ∈ lw_all := lw_g (lw_at lw_m2 212 rfl) rfl
theorem q525 : (Jvm.Cond.classLink "java/util/Arrays" (2 : Nat) "java/lang/Object") ∈ lw_all := lw_g (lw_at lw_m2 213 rfl) rfl
theorem q526 : (Jvm.Cond.methodLink "java/util/Arrays" (304 : Nat) ({ cls := "java/lang/Math", name := "min", desc := "(II)I" } : Jvm.MethodName)) ∈ lw_all := lw_g (lw_at lw_m2 214 rfl) rfl
theorem q527 : (Jvm.Cond.methodLink "java/util/Arrays" (150 : Nat) ({ cls := "java/lang/System", name := "arraycopy", desc := "(Ljava/lang/Object;ILjava/lang/Object;II)V" } : Jvm.MethodName)) ∈ lw_all := lw_g (lw_at lw_m2 215 rfl) rfl
theorem q1434 : (Jvm.Cond.static ({ cls := "java/util/Arrays", name := "copyOf", desc := "([BI)[B" } : Jvm.MethodName)) ∈ lw_all := lw_g (lw_at lw_m6 162 rfl) rfl
theorem q1435 : (Jvm.Cond.code ({ cls := "java/util/Arrays", name := "copyOf", desc := "([BI)[B" } : Jvm.MethodName) prog_54_method_121_code (3 : Nat) (Option.some (Jvm.ClassFile.FieldType.array Jvm.ClassFile.FieldType.byte))) ∈ lw_all := lw_g (lw_at lw_m6 163 rfl) rfl
theorem q1436 : (Jvm.Cond.methodLink "java/util/Arrays" (310 : Nat) ({ cls := "[B", name := "clone", desc := "()Ljava/lang/Object;" } : Jvm.MethodName)) ∈ lw_all := lw_g (lw_at lw_m6 164 rfl) rfl
theorem q1442 : (Jvm.Cond.classLink "java/util/Arrays" (311 : Nat) "[B") ∈ lw_all := lw_g (lw_at lw_m6 170 rfl) rfl
theorem q1597 : (Jvm.Cond.static ({ cls := "java/util/Arrays", name := "copyOfRange", desc := "([BII)[B" } : Jvm.MethodName)) ∈ lw_all := lw_g (lw_at lw_m7 85 rfl) rfl
theorem q1598 : (Jvm.Cond.code ({ cls := "java/util/Arrays", name := "copyOfRange", desc := "([BII)[B" } : Jvm.MethodName) prog_54_method_132_code (3 : Nat) (Option.some (Jvm.ClassFile.FieldType.array Jvm.ClassFile.FieldType.byte))) ∈ lw_all := lw_g (lw_at lw_m7 86 rfl) rfl
theorem q1599 : (Jvm.Cond.methodLink "java/util/Arrays" (339 : Nat) ({ cls := "java/util/Arrays", name := "copyOfRangeByte", desc := "([BII)[B" } : Jvm.MethodName)) ∈ lw_all := lw_g (lw_at lw_m7 87 rfl) rfl
theorem q1600 : (Jvm.Cond.static ({ cls := "java/util/Arrays", name := "copyOfRangeByte", desc := "([BII)[B" } : Jvm.MethodName)) ∈ lw_all := lw_g (lw_at lw_m7 88 rfl) rfl
theorem q1601 : (Jvm.Cond.code ({ cls := "java/util/Arrays", name := "copyOfRangeByte", desc := "([BII)[B" } : Jvm.MethodName) prog_54_method_133_code (5 : Nat) (Option.some (Jvm.ClassFile.FieldType.array Jvm.ClassFile.FieldType.byte))) ∈ lw_all := lw_g (lw_at lw_m7 89 rfl) rfl
theorem q1602 : (Jvm.Cond.methodLink "java/util/Arrays" (343 : Nat) ({ cls := "java/util/Arrays", name := "checkLength", desc := "(II)V" } : Jvm.MethodName)) ∈ lw_all := lw_g (lw_at lw_m7 90 rfl) rfl
theorem q1603 : (Jvm.Cond.static ({ cls := "java/util/Arrays", name := "checkLength", desc := "(II)V" } : Jvm.MethodName)) ∈ lw_all := lw_g (lw_at lw_m7 91 rfl) rfl
theorem q1604 : (Jvm.Cond.code ({ cls := "java/util/Arrays", name := "checkLength", desc := "(II)V" } : Jvm.MethodName) prog_54_method_131_code (2 : Nat) (Option.none : Option Jvm.ClassFile.FieldType)) ∈ lw_all := lw_g (lw_at lw_m7 92 rfl) rfl
theorem q1605 : (Jvm.Cond.classLink "java/util/Arrays" (43 : Nat) "java/lang/IllegalArgumentException") ∈ lw_all := lw_g (lw_at lw_m7 93 rfl) rfl
theorem q1606 : (Jvm.Cond.classLink "java/util/Arrays" (45 : Nat) "java/lang/StringBuilder") ∈ lw_all := lw_g (lw_at lw_m7 94 rfl) rfl
theorem q1607 : (Jvm.Cond.methodLink "java/util/Arrays" (47 : Nat) ({ cls := "java/lang/StringBuilder", name := "<init>", desc := "()V" } : Jvm.MethodName)) ∈ lw_all := lw_g (lw_at lw_m7 95 rfl) rfl
theorem q1608 : (Jvm.Cond.methodLink "java/util/Arrays" (54 : Nat) ({ cls := "java/lang/StringBuilder", name := "append", desc := "(I)Ljava/lang/StringBuilder;" } : Jvm.MethodName)) ∈ lw_all := lw_g (lw_at lw_m7 96 rfl) rfl
theorem q1609 : (Jvm.Cond.stringRef "java/util/Arrays" (337 : Nat) " > ") ∈ lw_tbl := lw_at lw_m7 97 rfl
theorem q1610 : (Jvm.Cond.methodLink "java/util/Arrays" (50 : Nat) ({ cls := "java/lang/StringBuilder", name := "append", desc := "(Ljava/lang/String;)Ljava/lang/StringBuilder;" } : Jvm.MethodName)) ∈ lw_all := lw_g (lw_at lw_m7 98 rfl) rfl
theorem q1611 : (Jvm.Cond.methodLink "java/util/Arrays" (61 : Nat) ({ cls := "java/lang/StringBuilder", name := "toString", desc := "()Ljava/lang/String;" } : Jvm.MethodName)) ∈ lw_all := lw_g (lw_at lw_m7 99 rfl) rfl
theorem q1612 : (Jvm.Cond.methodLink "java/util/Arrays" (65 : Nat) ({ cls := "java/lang/IllegalArgumentException", name := "<init>", desc := "(Ljava/lang/String;)V" } : Jvm.MethodName)) ∈ lw_all := lw_g (lw_at lw_m7 100 rfl) rfl
theorem q1709 : (Jvm.Cond.static ({ cls := "java/util/Arrays", name := "fill", desc := "([BIIB)V" } : Jvm.MethodName)) ∈ lw_all := lw_g (lw_at lw_m7 197 rfl) rfl
theorem q1710 : (Jvm.Cond.code ({ cls := "java/util/Arrays", name := "fill", desc := "([BIIB)V" } : Jvm.MethodName) prog_54_method_110_code (5 : Nat) (Option.none : Option Jvm.ClassFile.FieldType)) ∈ lw_all := lw_g (lw_at lw_m7 198 rfl) rfl
theorem q1711 : (Jvm.Cond.methodLink "java/util/Arrays" (13 : Nat) ({ cls := "java/util/Arrays", name := "rangeCheck", desc := "(III)V" } : Jvm.MethodName)) ∈ lw_all := lw_g (lw_at lw_m7 199 rfl) rfl
theorem q1712 : (Jvm.Cond.static ({ cls := "java/util/Arrays", name := "rangeCheck", desc := "(III)V" } : Jvm.MethodName)) ∈ lw_all := lw_g (lw_at lw_m7 200 rfl) rfl
theorem q1713 : (Jvm.Cond.code ({ cls := "java/util/Arrays", name := "rangeCheck", desc := "(III)V" } : Jvm.MethodName) prog_54_method_30_code (3 : Nat) (Option.none : Option Jvm.ClassFile.FieldType)) ∈ lw_all := lw_g (lw_at lw_m7 201 rfl) rfl
theorem q1714 : (Jvm.Cond.stringRef "java/util/Arrays" (48 : Nat) "fromIndex(") ∈ lw_tbl := lw_at lw_m7 202 rfl
theorem q1715 : (Jvm.Cond.stringRef "java/util/Arrays" (57 : Nat) ") > toIndex(") ∈ lw_tbl := lw_at lw_m7 203 rfl
theorem q1716 : (Jvm.Cond.stringRef "java/util/Arrays" (59 : Nat) ")") ∈ lw_tbl := lw_at lw_m7 204 rfl
theorem q1717 : (Jvm.Cond.classLink "java/util/Arrays" (68 : Nat) "java/lang/ArrayIndexOutOfBoundsException") ∈ lw_all := lw_g (lw_at lw_m7 205 rfl) rfl
theorem q1718 : (Jvm.Cond.methodLink "java/util/Arrays" (70 : Nat) ({ cls := "java/lang/ArrayIndexOutOfBoundsException", name := "<init>", desc := "(I)V" } : Jvm.MethodName)) ∈ lw_all := lw_g (lw_at lw_m7 206 rfl) rfl
/-! PuddleBoatyard$Checks -/
def RX7 : String := "PuddleBoatyard$Checks"
abbrev cX7_state : ByteArray := prog_2_method_4_code
def yX7_state : MethodName := ⟨RX7, "state", "(Z)V"⟩
abbrev cX7_isBetween : ByteArray := prog_2_method_1_code
def yX7_isBetween : MethodName := ⟨RX7, "isBetween", "(III)Z"⟩
abbrev cX7_index : ByteArray := prog_2_method_2_code
def yX7_index : MethodName := ⟨RX7, "index", "(Z)V"⟩
abbrev cX7_argument : ByteArray := prog_2_method_3_code
def yX7_argument : MethodName := ⟨RX7, "argument", "([Z)V"⟩
abbrev cX7_element : ByteArray := prog_2_method_5_code
def yX7_element : MethodName := ⟨RX7, "element", "(Z)V"⟩
theorem q96 : (Jvm.Cond.initialized "PuddleBoatyard$Checks") ∈ lw_all := lw_g (lw_at lw_m1 24 rfl) rfl
theorem q576 : (Jvm.Cond.static ({ cls := "PuddleBoatyard$Checks", name := "state", desc := "(Z)V" } : Jvm.MethodName)) ∈ lw_all := lw_g (lw_at lw_m3 24 rfl) rfl
theorem q577 : (Jvm.Cond.code ({ cls := "PuddleBoatyard$Checks", name := "state", desc := "(Z)V" } : Jvm.MethodName) prog_2_method_4_code (1 : Nat) (Option.none : Option Jvm.ClassFile.FieldType)) ∈ lw_all := lw_g (lw_at lw_m3 25 rfl) rfl
theorem q578 : (Jvm.Cond.classLink "PuddleBoatyard$Checks" (10 : Nat) "java/lang/IllegalStateException") ∈ lw_all := lw_g (lw_at lw_m3 26 rfl) rfl
theorem q626 : (Jvm.Cond.methodLink "PuddleBoatyard$Checks" (12 : Nat) ({ cls := "java/lang/IllegalStateException", name := "<init>", desc := "()V" } : Jvm.MethodName)) ∈ lw_all := lw_g (lw_at lw_m3 74 rfl) rfl
theorem q659 : (Jvm.Cond.static ({ cls := "PuddleBoatyard$Checks", name := "isBetween", desc := "(III)Z" } : Jvm.MethodName)) ∈ lw_all := lw_g (lw_at lw_m3 107 rfl) rfl
theorem q660 : (Jvm.Cond.code ({ cls := "PuddleBoatyard$Checks", name := "isBetween", desc := "(III)Z" } : Jvm.MethodName) prog_2_method_1_code (3 : Nat) (Option.some Jvm.ClassFile.FieldType.boolean)) ∈ lw_all := lw_g (lw_at lw_m3 108 rfl) rfl
theorem q662 : (Jvm.Cond.static ({ cls := "PuddleBoatyard$Checks", name := "index", desc := "(Z)V" } : Jvm.MethodName)) ∈ lw_all := lw_g (lw_at lw_m3 110 rfl) rfl
theorem q663 : (Jvm.Cond.code ({ cls := "PuddleBoatyard$Checks", name := "index", desc := "(Z)V" } : Jvm.MethodName) prog_2_method_2_code (1 : Nat) (Option.none : Option Jvm.ClassFile.FieldType)) ∈ lw_all := lw_g (lw_at lw_m3 111 rfl) rfl
theorem q664 : (Jvm.Cond.classLink "PuddleBoatyard$Checks" (1 : Nat) "java/lang/IndexOutOfBoundsException") ∈ lw_all := lw_g (lw_at lw_m3 112 rfl) rfl
theorem q673 : (Jvm.Cond.methodLink "PuddleBoatyard$Checks" (3 : Nat) ({ cls := "java/lang/IndexOutOfBoundsException", name := "<init>", desc := "()V" } : Jvm.MethodName)) ∈ lw_all := lw_g (lw_at lw_m3 121 rfl) rfl
theorem q680 : (Jvm.Cond.static ({ cls := "PuddleBoatyard$Checks", name := "argument", desc := "([Z)V" } : Jvm.MethodName)) ∈ lw_all := lw_g (lw_at lw_m3 128 rfl) rfl
theorem q681 : (Jvm.Cond.code ({ cls := "PuddleBoatyard$Checks", name := "argument", desc := "([Z)V" } : Jvm.MethodName) prog_2_method_3_code (5 : Nat) (Option.none : Option Jvm.ClassFile.FieldType)) ∈ lw_all := lw_g (lw_at lw_m3 129 rfl) rfl
theorem q682 : (Jvm.Cond.classLink "PuddleBoatyard$Checks" (7 : Nat) "java/lang/IllegalArgumentException") ∈ lw_all := lw_g (lw_at lw_m3 130 rfl) rfl
theorem q691 : (Jvm.Cond.methodLink "PuddleBoatyard$Checks" (9 : Nat) ({ cls := "java/lang/IllegalArgumentException", name := "<init>", desc := "()V" } : Jvm.MethodName)) ∈ lw_all := lw_g (lw_at lw_m3 139 rfl) rfl
theorem q1168 : (Jvm.Cond.static ({ cls := "PuddleBoatyard$Checks", name := "element", desc := "(Z)V" } : Jvm.MethodName)) ∈ lw_all := lw_g (lw_at lw_m5 136 rfl) rfl
theorem q1169 : (Jvm.Cond.code ({ cls := "PuddleBoatyard$Checks", name := "element", desc := "(Z)V" } : Jvm.MethodName) prog_2_method_5_code (1 : Nat) (Option.none : Option Jvm.ClassFile.FieldType)) ∈ lw_all := lw_g (lw_at lw_m5 137 rfl) rfl
theorem q1170 : (Jvm.Cond.classLink "PuddleBoatyard$Checks" (13 : Nat) "java/util/NoSuchElementException") ∈ lw_all := lw_g (lw_at lw_m5 138 rfl) rfl
theorem q1171 : (Jvm.Cond.methodLink "PuddleBoatyard$Checks" (15 : Nat) ({ cls := "java/util/NoSuchElementException", name := "<init>", desc := "()V" } : Jvm.MethodName)) ∈ lw_all := lw_g (lw_at lw_m5 139 rfl) rfl
/-! java/lang/Throwable -/
def RJ14 : String := "java/lang/Throwable"
def TJ14 : u_T := fun k => match k with
  | 0 => ("java/lang/Throwable", "cause", "Ljava/lang/Throwable;", false)
  | 1 => ("java/lang/Throwable", "stackTrace", "[Ljava/lang/StackTraceElement;", false)
  | 2 => ("java/lang/Throwable", "suppressedExceptions", "Ljava/util/List;", false)
  | 3 => ("java/lang/Throwable", "detailMessage", "Ljava/lang/String;", false)
  | _ => ("java/lang/Throwable", "backtrace", "Ljava/lang/Object;", false)
def tyJ14 : Nat → FieldType := fun k => match k with
  | 0 => .object "java/lang/Throwable"
  | 1 => .array (.object "java/lang/StackTraceElement")
  | 2 => .object "java/util/List"
  | 3 => .object "java/lang/String"
  | _ => .object "java/lang/Object"
abbrev wsJ140 : List Cond := u_ws RJ14 TJ14 5
theorem nmJ14 : ∀ a, a < 5 → ∀ b, b < 5 → a ≠ b → (TJ14 a).2.1 ≠ (TJ14 b).2.1 := by decide +kernel
theorem tyJ14_ok : ∀ k, k < 5 → parseFieldDescriptor (TJ14 k).2.2.1 = some (tyJ14 k) := by decide +kernel
abbrev cJ14_init : ByteArray := prog_45_method_1_code
def yJ14_init : MethodName := ⟨RJ14, "<init>", "()V"⟩
abbrev cJ14_init_2 : ByteArray := prog_45_method_2_code
def yJ14_init_2 : MethodName := ⟨RJ14, "<init>", "(Ljava/lang/String;)V"⟩
theorem q97 : (Jvm.Cond.initialized "java/lang/Throwable") ∈ lw_all := lw_g (lw_at lw_m1 25 rfl) rfl
theorem q585 : (Jvm.Cond.declares ({ cls := "java/lang/Throwable", name := "<init>", desc := "()V" } : Jvm.MethodName)) ∈ lw_tbl := lw_at lw_m3 33 rfl
theorem q586 : (Jvm.Cond.declares ({ cls := "java/lang/Throwable", name := "<init>", desc := "(Ljava/lang/String;)V" } : Jvm.MethodName)) ∈ lw_tbl := lw_at lw_m3 34 rfl
theorem q590 : (Jvm.Cond.lays "java/lang/Throwable" "java/lang/Throwable" "cause" "Ljava/lang/Throwable;") ∈ lw_all := lw_g (lw_at lw_m3 38 rfl) rfl
theorem q592 : (Jvm.Cond.lays "java/lang/Throwable" "java/lang/Throwable" "stackTrace" "[Ljava/lang/StackTraceElement;") ∈ lw_all := lw_g (lw_at lw_m3 40 rfl) rfl
theorem q594 : (Jvm.Cond.lays "java/lang/Throwable" "java/lang/Throwable" "suppressedExceptions" "Ljava/util/List;") ∈ lw_all := lw_g (lw_at lw_m3 42 rfl) rfl
theorem q596 : (Jvm.Cond.lays "java/lang/Throwable" "java/lang/Throwable" "detailMessage" "Ljava/lang/String;") ∈ lw_all := lw_g (lw_at lw_m3 44 rfl) rfl
theorem q598 : (Jvm.Cond.lays "java/lang/Throwable" "java/lang/Throwable" "backtrace" "Ljava/lang/Object;") ∈ lw_all := lw_g (lw_at lw_m3 46 rfl) rfl
theorem q599 : (Jvm.Cond.fieldLink "java/lang/Throwable" (198 : Nat) "java/lang/Throwable" "backtrace" "Ljava/lang/Object;") ∈ lw_all := lw_g (lw_at lw_m3 47 rfl) rfl
theorem q600 : (Jvm.Cond.superclass "java/lang/Throwable" "java/lang/Object") ∈ lw_all := lw_g (lw_at lw_m3 48 rfl) rfl
theorem q601 : (Jvm.Cond.instanceMethod ({ cls := "java/lang/Throwable", name := "<init>", desc := "()V" } : Jvm.MethodName)) ∈ lw_all := lw_g (lw_at lw_m3 49 rfl) rfl
theorem q602 : (Jvm.Cond.code ({ cls := "java/lang/Throwable", name := "<init>", desc := "()V" } : Jvm.MethodName) prog_45_method_1_code (1 : Nat) (Option.none : Option Jvm.ClassFile.FieldType)) ∈ lw_all := lw_g (lw_at lw_m3 50 rfl) rfl
theorem q603 : (Jvm.Cond.methodLink "java/lang/Throwable" (1 : Nat) ({ cls := "java/lang/Object", name := "<init>", desc := "()V" } : Jvm.MethodName)) ∈ lw_all := lw_g (lw_at lw_m3 51 rfl) rfl
theorem q604 : (Jvm.Cond.fieldLink "java/lang/Throwable" (13 : Nat) "java/lang/Throwable" "UNASSIGNED_STACK" "[Ljava/lang/StackTraceElement;") ∈ lw_all := lw_g (lw_at lw_m3 52 rfl) rfl
theorem q605 : (Jvm.Cond.laysStatic "java/lang/Throwable" "UNASSIGNED_STACK" "[Ljava/lang/StackTraceElement;") ∈ lw_tbl := lw_at lw_m3 53 rfl
theorem q606 : (Jvm.Cond.fieldLink "java/lang/Throwable" (20 : Nat) "java/lang/Throwable" "SUPPRESSED_SENTINEL" "Ljava/util/List;") ∈ lw_all := lw_g (lw_at lw_m3 54 rfl) rfl
theorem q607 : (Jvm.Cond.laysStatic "java/lang/Throwable" "SUPPRESSED_SENTINEL" "Ljava/util/List;") ∈ lw_tbl := lw_at lw_m3 55 rfl
theorem q608 : (Jvm.Cond.methodLink "java/lang/Throwable" (27 : Nat) ({ cls := "java/lang/Throwable", name := "fillInStackTrace", desc := "()Ljava/lang/Throwable;" } : Jvm.MethodName)) ∈ lw_all := lw_g (lw_at lw_m3 56 rfl) rfl
theorem q609 : (Jvm.Cond.instanceMethod ({ cls := "java/lang/Throwable", name := "fillInStackTrace", desc := "()Ljava/lang/Throwable;" } : Jvm.MethodName)) ∈ lw_all := lw_g (lw_at lw_m3 57 rfl) rfl
theorem q610 : (Jvm.Cond.sameMethod "java/lang/Throwable" "java/lang/Throwable" "fillInStackTrace" "()Ljava/lang/Throwable;") ∈ lw_all := lw_g (lw_at lw_m3 58 rfl) rfl
theorem q620 : (Jvm.Cond.codeSync ({ cls := "java/lang/Throwable", name := "fillInStackTrace", desc := "()Ljava/lang/Throwable;" } : Jvm.MethodName) prog_45_method_18_code (1 : Nat) (Option.some (Jvm.ClassFile.FieldType.object "java/lang/Throwable"))) ∈ lw_all := lw_g (lw_at lw_m3 68 rfl) rfl
theorem q621 : (Jvm.Cond.methodLink "java/lang/Throwable" (202 : Nat) ({ cls := "java/lang/Throwable", name := "fillInStackTrace", desc := "(I)Ljava/lang/Throwable;" } : Jvm.MethodName)) ∈ lw_all := lw_g (lw_at lw_m3 69 rfl) rfl
theorem q622 : (Jvm.Cond.privateMethod ({ cls := "java/lang/Throwable", name := "fillInStackTrace", desc := "(I)Ljava/lang/Throwable;" } : Jvm.MethodName)) ∈ lw_tbl := lw_at lw_m3 70 rfl
theorem q623 : (Jvm.Cond.instanceMethod ({ cls := "java/lang/Throwable", name := "fillInStackTrace", desc := "(I)Ljava/lang/Throwable;" } : Jvm.MethodName)) ∈ lw_all := lw_g (lw_at lw_m3 71 rfl) rfl
theorem q624 : (Jvm.Cond.instantiable "java/lang/Throwable" (6 : Nat)) ∈ lw_all := lw_g (lw_at lw_m3 72 rfl) rfl
theorem q625 : (Jvm.Cond.native ({ cls := "java/lang/Throwable", name := "fillInStackTrace", desc := "(I)Ljava/lang/Throwable;" } : Jvm.MethodName)) ∈ lw_all := lw_g (lw_at lw_m3 73 rfl) rfl
theorem q636 : (Jvm.Cond.fieldLink "java/lang/Throwable" (198 : Nat) "java/lang/Throwable" "backtrace" "Ljava/lang/Object;") ∈ lw_all := lw_g (lw_at lw_m3 84 rfl) rfl
theorem q637 : (Jvm.Cond.fieldLink "java/lang/Throwable" (31 : Nat) "java/lang/Throwable" "detailMessage" "Ljava/lang/String;") ∈ lw_all := lw_g (lw_at lw_m3 85 rfl) rfl
theorem q638 : (Jvm.Cond.fieldLink "java/lang/Throwable" (7 : Nat) "java/lang/Throwable" "cause" "Ljava/lang/Throwable;") ∈ lw_all := lw_g (lw_at lw_m3 86 rfl) rfl
theorem q639 : (Jvm.Cond.fieldLink "java/lang/Throwable" (17 : Nat) "java/lang/Throwable" "stackTrace" "[Ljava/lang/StackTraceElement;") ∈ lw_all := lw_g (lw_at lw_m3 87 rfl) rfl
theorem q640 : (Jvm.Cond.fieldLink "java/lang/Throwable" (24 : Nat) "java/lang/Throwable" "suppressedExceptions" "Ljava/util/List;") ∈ lw_all := lw_g (lw_at lw_m3 88 rfl) rfl
theorem q641 : (Jvm.Cond.soleField "java/lang/Throwable" "backtrace") ∈ lw_all := lw_g (lw_at lw_m3 89 rfl) rfl
theorem q642 : (Jvm.Cond.soleField "java/lang/Throwable" "detailMessage") ∈ lw_all := lw_g (lw_at lw_m3 90 rfl) rfl
theorem q643 : (Jvm.Cond.soleField "java/lang/Throwable" "cause") ∈ lw_all := lw_g (lw_at lw_m3 91 rfl) rfl
theorem q644 : (Jvm.Cond.soleField "java/lang/Throwable" "stackTrace") ∈ lw_all := lw_g (lw_at lw_m3 92 rfl) rfl
theorem q646 : (Jvm.Cond.soleField "java/lang/Throwable" "depth") ∈ lw_all := lw_g (lw_at lw_m3 94 rfl) rfl
theorem q647 : (Jvm.Cond.soleField "java/lang/Throwable" "suppressedExceptions") ∈ lw_all := lw_g (lw_at lw_m3 95 rfl) rfl
theorem q1008 : (Jvm.Cond.instanceMethod ({ cls := "java/lang/Throwable", name := "<init>", desc := "(Ljava/lang/String;)V" } : Jvm.MethodName)) ∈ lw_all := lw_g (lw_at lw_m4 216 rfl) rfl
theorem q1009 : (Jvm.Cond.code ({ cls := "java/lang/Throwable", name := "<init>", desc := "(Ljava/lang/String;)V" } : Jvm.MethodName) prog_45_method_2_code (2 : Nat) (Option.none : Option Jvm.ClassFile.FieldType)) ∈ lw_all := lw_g (lw_at lw_m4 217 rfl) rfl
theorem q2401 : (Jvm.Cond.sameMethod "java/lang/Throwable" "java/lang/Throwable" "fillInStackTrace" "(I)Ljava/lang/Throwable;") ∈ lw_all := lw_g (lw_at lw_m10 169 rfl) rfl
theorem q2444 : (Jvm.Cond.castable "java/lang/Throwable" "java/lang/Object") ∈ lw_tbl := lw_at lw_m10 212 rfl
theorem in_J14 : ∀ w ∈ wsJ140, w ∈ lw_all := lw_in wsJ140 [590, 592, 594, 596, 598] (by decide +kernel) (by decide +kernel)
/-! java/lang/Exception -/
def RJ15 : String := "java/lang/Exception"
abbrev cJ15_init : ByteArray := prog_30_method_1_code
def yJ15_init : MethodName := ⟨RJ15, "<init>", "()V"⟩
abbrev cJ15_init_2 : ByteArray := prog_30_method_2_code
def yJ15_init_2 : MethodName := ⟨RJ15, "<init>", "(Ljava/lang/String;)V"⟩
theorem q98 : (Jvm.Cond.initialized "java/lang/Exception") ∈ lw_all := lw_g (lw_at lw_m1 26 rfl) rfl
theorem q583 : (Jvm.Cond.declares ({ cls := "java/lang/Exception", name := "<init>", desc := "()V" } : Jvm.MethodName)) ∈ lw_tbl := lw_at lw_m3 31 rfl
theorem q584 : (Jvm.Cond.declares ({ cls := "java/lang/Exception", name := "<init>", desc := "(Ljava/lang/String;)V" } : Jvm.MethodName)) ∈ lw_tbl := lw_at lw_m3 32 rfl
theorem q633 : (Jvm.Cond.instanceMethod ({ cls := "java/lang/Exception", name := "<init>", desc := "()V" } : Jvm.MethodName)) ∈ lw_all := lw_g (lw_at lw_m3 81 rfl) rfl
theorem q634 : (Jvm.Cond.code ({ cls := "java/lang/Exception", name := "<init>", desc := "()V" } : Jvm.MethodName) prog_30_method_1_code (1 : Nat) (Option.none : Option Jvm.ClassFile.FieldType)) ∈ lw_all := lw_g (lw_at lw_m3 82 rfl) rfl
theorem q635 : (Jvm.Cond.methodLink "java/lang/Exception" (1 : Nat) ({ cls := "java/lang/Throwable", name := "<init>", desc := "()V" } : Jvm.MethodName)) ∈ lw_all := lw_g (lw_at lw_m3 83 rfl) rfl
theorem q1005 : (Jvm.Cond.instanceMethod ({ cls := "java/lang/Exception", name := "<init>", desc := "(Ljava/lang/String;)V" } : Jvm.MethodName)) ∈ lw_all := lw_g (lw_at lw_m4 213 rfl) rfl
theorem q1006 : (Jvm.Cond.code ({ cls := "java/lang/Exception", name := "<init>", desc := "(Ljava/lang/String;)V" } : Jvm.MethodName) prog_30_method_2_code (2 : Nat) (Option.none : Option Jvm.ClassFile.FieldType)) ∈ lw_all := lw_g (lw_at lw_m4 214 rfl) rfl
theorem q1007 : (Jvm.Cond.methodLink "java/lang/Exception" (7 : Nat) ({ cls := "java/lang/Throwable", name := "<init>", desc := "(Ljava/lang/String;)V" } : Jvm.MethodName)) ∈ lw_all := lw_g (lw_at lw_m4 215 rfl) rfl
/-! java/lang/RuntimeException -/
def RJ16 : String := "java/lang/RuntimeException"
abbrev cJ16_init : ByteArray := prog_38_method_1_code
def yJ16_init : MethodName := ⟨RJ16, "<init>", "()V"⟩
abbrev cJ16_init_2 : ByteArray := prog_38_method_2_code
def yJ16_init_2 : MethodName := ⟨RJ16, "<init>", "(Ljava/lang/String;)V"⟩
theorem q99 : (Jvm.Cond.initialized "java/lang/RuntimeException") ∈ lw_all := lw_g (lw_at lw_m1 27 rfl) rfl
theorem q581 : (Jvm.Cond.declares ({ cls := "java/lang/RuntimeException", name := "<init>", desc := "()V" } : Jvm.MethodName)) ∈ lw_tbl := lw_at lw_m3 29 rfl
theorem q582 : (Jvm.Cond.declares ({ cls := "java/lang/RuntimeException", name := "<init>", desc := "(Ljava/lang/String;)V" } : Jvm.MethodName)) ∈ lw_tbl := lw_at lw_m3 30 rfl
theorem q630 : (Jvm.Cond.instanceMethod ({ cls := "java/lang/RuntimeException", name := "<init>", desc := "()V" } : Jvm.MethodName)) ∈ lw_all := lw_g (lw_at lw_m3 78 rfl) rfl
theorem q631 : (Jvm.Cond.code ({ cls := "java/lang/RuntimeException", name := "<init>", desc := "()V" } : Jvm.MethodName) prog_38_method_1_code (1 : Nat) (Option.none : Option Jvm.ClassFile.FieldType)) ∈ lw_all := lw_g (lw_at lw_m3 79 rfl) rfl
theorem q632 : (Jvm.Cond.methodLink "java/lang/RuntimeException" (1 : Nat) ({ cls := "java/lang/Exception", name := "<init>", desc := "()V" } : Jvm.MethodName)) ∈ lw_all := lw_g (lw_at lw_m3 80 rfl) rfl
theorem q1002 : (Jvm.Cond.instanceMethod ({ cls := "java/lang/RuntimeException", name := "<init>", desc := "(Ljava/lang/String;)V" } : Jvm.MethodName)) ∈ lw_all := lw_g (lw_at lw_m4 210 rfl) rfl
theorem q1003 : (Jvm.Cond.code ({ cls := "java/lang/RuntimeException", name := "<init>", desc := "(Ljava/lang/String;)V" } : Jvm.MethodName) prog_38_method_2_code (2 : Nat) (Option.none : Option Jvm.ClassFile.FieldType)) ∈ lw_all := lw_g (lw_at lw_m4 211 rfl) rfl
theorem q1004 : (Jvm.Cond.methodLink "java/lang/RuntimeException" (7 : Nat) ({ cls := "java/lang/Exception", name := "<init>", desc := "(Ljava/lang/String;)V" } : Jvm.MethodName)) ∈ lw_all := lw_g (lw_at lw_m4 212 rfl) rfl
/-! java/lang/IllegalStateException -/
def RJ17 : String := "java/lang/IllegalStateException"
def TJ17 : u_T := fun k => match k with
  | 0 => ("java/lang/Throwable", "cause", "Ljava/lang/Throwable;", false)
  | 1 => ("java/lang/Throwable", "stackTrace", "[Ljava/lang/StackTraceElement;", false)
  | 2 => ("java/lang/Throwable", "suppressedExceptions", "Ljava/util/List;", false)
  | 3 => ("java/lang/Throwable", "detailMessage", "Ljava/lang/String;", false)
  | 4 => ("java/lang/Throwable", "backtrace", "Ljava/lang/Object;", false)
  | _ => ("java/lang/Throwable", "depth", "I", false)
def tyJ17 : Nat → FieldType := fun k => match k with
  | 0 => .object "java/lang/Throwable"
  | 1 => .array (.object "java/lang/StackTraceElement")
  | 2 => .object "java/util/List"
  | 3 => .object "java/lang/String"
  | 4 => .object "java/lang/Object"
  | _ => .int
abbrev wsJ170 : List Cond := u_ws RJ17 TJ17 6
theorem nmJ17 : ∀ a, a < 6 → ∀ b, b < 6 → a ≠ b → (TJ17 a).2.1 ≠ (TJ17 b).2.1 := by decide +kernel
theorem tyJ17_ok : ∀ k, k < 6 → parseFieldDescriptor (TJ17 k).2.2.1 = some (tyJ17 k) := by decide +kernel
abbrev cJ17_init : ByteArray := prog_32_method_1_code
def yJ17_init : MethodName := ⟨RJ17, "<init>", "()V"⟩
abbrev cJ17_init_2 : ByteArray := prog_32_method_2_code
def yJ17_init_2 : MethodName := ⟨RJ17, "<init>", "(Ljava/lang/String;)V"⟩
theorem q100 : (Jvm.Cond.initialized "java/lang/IllegalStateException") ∈ lw_all := lw_g (lw_at lw_m1 28 rfl) rfl
theorem q511 : (Jvm.Cond.selects "java/lang/IllegalStateException" ({ cls := "java/lang/Object", name := "getClass", desc := "()Ljava/lang/Class;" } : Jvm.MethodName) ({ cls := "java/lang/Object", name := "getClass", desc := "()Ljava/lang/Class;" } : Jvm.MethodName)) ∈ lw_all := lw_g (lw_at lw_m2 199 rfl) rfl
theorem q579 : (Jvm.Cond.instantiable "java/lang/IllegalStateException" (6 : Nat)) ∈ lw_all := lw_g (lw_at lw_m3 27 rfl) rfl
theorem q580 : (Jvm.Cond.castable "java/lang/IllegalStateException" "java/lang/IllegalStateException") ∈ lw_tbl := lw_at lw_m3 28 rfl
theorem q587 : (Jvm.Cond.selects "java/lang/IllegalStateException" ({ cls := "java/lang/Throwable", name := "fillInStackTrace", desc := "(I)Ljava/lang/Throwable;" } : Jvm.MethodName) ({ cls := "java/lang/Throwable", name := "fillInStackTrace", desc := "(I)Ljava/lang/Throwable;" } : Jvm.MethodName)) ∈ lw_all := lw_g (lw_at lw_m3 35 rfl) rfl
theorem q588 : (Jvm.Cond.selects "java/lang/IllegalStateException" ({ cls := "java/lang/Throwable", name := "fillInStackTrace", desc := "()Ljava/lang/Throwable;" } : Jvm.MethodName) ({ cls := "java/lang/Throwable", name := "fillInStackTrace", desc := "()Ljava/lang/Throwable;" } : Jvm.MethodName)) ∈ lw_all := lw_g (lw_at lw_m3 36 rfl) rfl
theorem q589 : (Jvm.Cond.lays "java/lang/IllegalStateException" "java/lang/Throwable" "cause" "Ljava/lang/Throwable;") ∈ lw_all := lw_g (lw_at lw_m3 37 rfl) rfl
theorem q591 : (Jvm.Cond.lays "java/lang/IllegalStateException" "java/lang/Throwable" "stackTrace" "[Ljava/lang/StackTraceElement;") ∈ lw_all := lw_g (lw_at lw_m3 39 rfl) rfl
theorem q593 : (Jvm.Cond.lays "java/lang/IllegalStateException" "java/lang/Throwable" "suppressedExceptions" "Ljava/util/List;") ∈ lw_all := lw_g (lw_at lw_m3 41 rfl) rfl
theorem q595 : (Jvm.Cond.lays "java/lang/IllegalStateException" "java/lang/Throwable" "detailMessage" "Ljava/lang/String;") ∈ lw_all := lw_g (lw_at lw_m3 43 rfl) rfl
theorem q597 : (Jvm.Cond.lays "java/lang/IllegalStateException" "java/lang/Throwable" "backtrace" "Ljava/lang/Object;") ∈ lw_all := lw_g (lw_at lw_m3 45 rfl) rfl
theorem q627 : (Jvm.Cond.instanceMethod ({ cls := "java/lang/IllegalStateException", name := "<init>", desc := "()V" } : Jvm.MethodName)) ∈ lw_all := lw_g (lw_at lw_m3 75 rfl) rfl
theorem q628 : (Jvm.Cond.code ({ cls := "java/lang/IllegalStateException", name := "<init>", desc := "()V" } : Jvm.MethodName) prog_32_method_1_code (1 : Nat) (Option.none : Option Jvm.ClassFile.FieldType)) ∈ lw_all := lw_g (lw_at lw_m3 76 rfl) rfl
theorem q629 : (Jvm.Cond.methodLink "java/lang/IllegalStateException" (1 : Nat) ({ cls := "java/lang/RuntimeException", name := "<init>", desc := "()V" } : Jvm.MethodName)) ∈ lw_all := lw_g (lw_at lw_m3 77 rfl) rfl
theorem q645 : (Jvm.Cond.lays "java/lang/IllegalStateException" "java/lang/Throwable" "depth" "I") ∈ lw_all := lw_g (lw_at lw_m3 93 rfl) rfl
theorem q648 : (Jvm.Cond.superclass "java/lang/IllegalStateException" "java/lang/RuntimeException") ∈ lw_all := lw_g (lw_at lw_m3 96 rfl) rfl
theorem q928 : (Jvm.Cond.selects "java/lang/IllegalStateException" ({ cls := "java/lang/Object", name := "equals", desc := "(Ljava/lang/Object;)Z" } : Jvm.MethodName) ({ cls := "java/lang/Object", name := "equals", desc := "(Ljava/lang/Object;)Z" } : Jvm.MethodName)) ∈ lw_all := lw_g (lw_at lw_m4 136 rfl) rfl
theorem q999 : (Jvm.Cond.instanceMethod ({ cls := "java/lang/IllegalStateException", name := "<init>", desc := "(Ljava/lang/String;)V" } : Jvm.MethodName)) ∈ lw_all := lw_g (lw_at lw_m4 207 rfl) rfl
theorem q1000 : (Jvm.Cond.code ({ cls := "java/lang/IllegalStateException", name := "<init>", desc := "(Ljava/lang/String;)V" } : Jvm.MethodName) prog_32_method_2_code (2 : Nat) (Option.none : Option Jvm.ClassFile.FieldType)) ∈ lw_all := lw_g (lw_at lw_m4 208 rfl) rfl
theorem q1001 : (Jvm.Cond.methodLink "java/lang/IllegalStateException" (7 : Nat) ({ cls := "java/lang/RuntimeException", name := "<init>", desc := "(Ljava/lang/String;)V" } : Jvm.MethodName)) ∈ lw_all := lw_g (lw_at lw_m4 209 rfl) rfl
theorem q2426 : (Jvm.Cond.castable "java/lang/IllegalStateException" "java/lang/Object") ∈ lw_tbl := lw_at lw_m10 194 rfl
theorem in_J17 : ∀ w ∈ wsJ170, w ∈ lw_all := lw_in wsJ170 [589, 591, 593, 595, 597, 645] (by decide +kernel) (by decide +kernel)
/-! java/lang/IndexOutOfBoundsException -/
def RJ18 : String := "java/lang/IndexOutOfBoundsException"
def TJ18 : u_T := fun k => match k with
  | 0 => ("java/lang/Throwable", "cause", "Ljava/lang/Throwable;", false)
  | 1 => ("java/lang/Throwable", "stackTrace", "[Ljava/lang/StackTraceElement;", false)
  | 2 => ("java/lang/Throwable", "suppressedExceptions", "Ljava/util/List;", false)
  | 3 => ("java/lang/Throwable", "detailMessage", "Ljava/lang/String;", false)
  | 4 => ("java/lang/Throwable", "backtrace", "Ljava/lang/Object;", false)
  | _ => ("java/lang/Throwable", "depth", "I", false)
def tyJ18 : Nat → FieldType := fun k => match k with
  | 0 => .object "java/lang/Throwable"
  | 1 => .array (.object "java/lang/StackTraceElement")
  | 2 => .object "java/util/List"
  | 3 => .object "java/lang/String"
  | 4 => .object "java/lang/Object"
  | _ => .int
abbrev wsJ180 : List Cond := u_ws RJ18 TJ18 6
theorem nmJ18 : ∀ a, a < 6 → ∀ b, b < 6 → a ≠ b → (TJ18 a).2.1 ≠ (TJ18 b).2.1 := by decide +kernel
theorem tyJ18_ok : ∀ k, k < 6 → parseFieldDescriptor (TJ18 k).2.2.1 = some (tyJ18 k) := by decide +kernel
abbrev cJ18_init : ByteArray := prog_33_method_1_code
def yJ18_init : MethodName := ⟨RJ18, "<init>", "()V"⟩
abbrev cJ18_init_2 : ByteArray := prog_33_method_2_code
def yJ18_init_2 : MethodName := ⟨RJ18, "<init>", "(Ljava/lang/String;)V"⟩
theorem q101 : (Jvm.Cond.initialized "java/lang/IndexOutOfBoundsException") ∈ lw_all := lw_g (lw_at lw_m1 29 rfl) rfl
theorem q512 : (Jvm.Cond.selects "java/lang/IndexOutOfBoundsException" ({ cls := "java/lang/Object", name := "getClass", desc := "()Ljava/lang/Class;" } : Jvm.MethodName) ({ cls := "java/lang/Object", name := "getClass", desc := "()Ljava/lang/Class;" } : Jvm.MethodName)) ∈ lw_all := lw_g (lw_at lw_m2 200 rfl) rfl
theorem q616 : (Jvm.Cond.selects "java/lang/IndexOutOfBoundsException" ({ cls := "java/lang/Throwable", name := "fillInStackTrace", desc := "()Ljava/lang/Throwable;" } : Jvm.MethodName) ({ cls := "java/lang/Throwable", name := "fillInStackTrace", desc := "()Ljava/lang/Throwable;" } : Jvm.MethodName)) ∈ lw_all := lw_g (lw_at lw_m3 64 rfl) rfl
theorem q665 : (Jvm.Cond.instantiable "java/lang/IndexOutOfBoundsException" (6 : Nat)) ∈ lw_all := lw_g (lw_at lw_m3 113 rfl) rfl
theorem q666 : (Jvm.Cond.castable "java/lang/IndexOutOfBoundsException" "java/lang/IndexOutOfBoundsException") ∈ lw_tbl := lw_at lw_m3 114 rfl
theorem q667 : (Jvm.Cond.selects "java/lang/IndexOutOfBoundsException" ({ cls := "java/lang/Throwable", name := "fillInStackTrace", desc := "(I)Ljava/lang/Throwable;" } : Jvm.MethodName) ({ cls := "java/lang/Throwable", name := "fillInStackTrace", desc := "(I)Ljava/lang/Throwable;" } : Jvm.MethodName)) ∈ lw_all := lw_g (lw_at lw_m3 115 rfl) rfl
theorem q668 : (Jvm.Cond.lays "java/lang/IndexOutOfBoundsException" "java/lang/Throwable" "cause" "Ljava/lang/Throwable;") ∈ lw_all := lw_g (lw_at lw_m3 116 rfl) rfl
theorem q669 : (Jvm.Cond.lays "java/lang/IndexOutOfBoundsException" "java/lang/Throwable" "stackTrace" "[Ljava/lang/StackTraceElement;") ∈ lw_all := lw_g (lw_at lw_m3 117 rfl) rfl
theorem q670 : (Jvm.Cond.lays "java/lang/IndexOutOfBoundsException" "java/lang/Throwable" "suppressedExceptions" "Ljava/util/List;") ∈ lw_all := lw_g (lw_at lw_m3 118 rfl) rfl
theorem q671 : (Jvm.Cond.lays "java/lang/IndexOutOfBoundsException" "java/lang/Throwable" "detailMessage" "Ljava/lang/String;") ∈ lw_all := lw_g (lw_at lw_m3 119 rfl) rfl
theorem q672 : (Jvm.Cond.lays "java/lang/IndexOutOfBoundsException" "java/lang/Throwable" "backtrace" "Ljava/lang/Object;") ∈ lw_all := lw_g (lw_at lw_m3 120 rfl) rfl
theorem q674 : (Jvm.Cond.instanceMethod ({ cls := "java/lang/IndexOutOfBoundsException", name := "<init>", desc := "()V" } : Jvm.MethodName)) ∈ lw_all := lw_g (lw_at lw_m3 122 rfl) rfl
theorem q675 : (Jvm.Cond.code ({ cls := "java/lang/IndexOutOfBoundsException", name := "<init>", desc := "()V" } : Jvm.MethodName) prog_33_method_1_code (1 : Nat) (Option.none : Option Jvm.ClassFile.FieldType)) ∈ lw_all := lw_g (lw_at lw_m3 123 rfl) rfl
theorem q676 : (Jvm.Cond.methodLink "java/lang/IndexOutOfBoundsException" (1 : Nat) ({ cls := "java/lang/RuntimeException", name := "<init>", desc := "()V" } : Jvm.MethodName)) ∈ lw_all := lw_g (lw_at lw_m3 124 rfl) rfl
theorem q677 : (Jvm.Cond.lays "java/lang/IndexOutOfBoundsException" "java/lang/Throwable" "depth" "I") ∈ lw_all := lw_g (lw_at lw_m3 125 rfl) rfl
theorem q678 : (Jvm.Cond.superclass "java/lang/IndexOutOfBoundsException" "java/lang/RuntimeException") ∈ lw_all := lw_g (lw_at lw_m3 126 rfl) rfl
theorem q929 : (Jvm.Cond.selects "java/lang/IndexOutOfBoundsException" ({ cls := "java/lang/Object", name := "equals", desc := "(Ljava/lang/Object;)Z" } : Jvm.MethodName) ({ cls := "java/lang/Object", name := "equals", desc := "(Ljava/lang/Object;)Z" } : Jvm.MethodName)) ∈ lw_all := lw_g (lw_at lw_m4 137 rfl) rfl
theorem q1036 : (Jvm.Cond.instanceMethod ({ cls := "java/lang/IndexOutOfBoundsException", name := "<init>", desc := "(Ljava/lang/String;)V" } : Jvm.MethodName)) ∈ lw_all := lw_g (lw_at lw_m5 4 rfl) rfl
theorem q1037 : (Jvm.Cond.code ({ cls := "java/lang/IndexOutOfBoundsException", name := "<init>", desc := "(Ljava/lang/String;)V" } : Jvm.MethodName) prog_33_method_2_code (2 : Nat) (Option.none : Option Jvm.ClassFile.FieldType)) ∈ lw_all := lw_g (lw_at lw_m5 5 rfl) rfl
theorem q1038 : (Jvm.Cond.methodLink "java/lang/IndexOutOfBoundsException" (7 : Nat) ({ cls := "java/lang/RuntimeException", name := "<init>", desc := "(Ljava/lang/String;)V" } : Jvm.MethodName)) ∈ lw_all := lw_g (lw_at lw_m5 6 rfl) rfl
theorem q1047 : (Jvm.Cond.declares ({ cls := "java/lang/IndexOutOfBoundsException", name := "<init>", desc := "()V" } : Jvm.MethodName)) ∈ lw_tbl := lw_at lw_m5 15 rfl
theorem q1048 : (Jvm.Cond.declares ({ cls := "java/lang/IndexOutOfBoundsException", name := "<init>", desc := "(Ljava/lang/String;)V" } : Jvm.MethodName)) ∈ lw_tbl := lw_at lw_m5 16 rfl
theorem q2427 : (Jvm.Cond.castable "java/lang/IndexOutOfBoundsException" "java/lang/Object") ∈ lw_tbl := lw_at lw_m10 195 rfl
theorem in_J18 : ∀ w ∈ wsJ180, w ∈ lw_all := lw_in wsJ180 [668, 669, 670, 671, 672, 677] (by decide +kernel) (by decide +kernel)
/-! java/lang/IllegalArgumentException -/
def RJ19 : String := "java/lang/IllegalArgumentException"
def TJ19 : u_T := fun k => match k with
  | 0 => ("java/lang/Throwable", "cause", "Ljava/lang/Throwable;", false)
  | 1 => ("java/lang/Throwable", "stackTrace", "[Ljava/lang/StackTraceElement;", false)
  | 2 => ("java/lang/Throwable", "suppressedExceptions", "Ljava/util/List;", false)
  | 3 => ("java/lang/Throwable", "detailMessage", "Ljava/lang/String;", false)
  | 4 => ("java/lang/Throwable", "backtrace", "Ljava/lang/Object;", false)
  | _ => ("java/lang/Throwable", "depth", "I", false)
def tyJ19 : Nat → FieldType := fun k => match k with
  | 0 => .object "java/lang/Throwable"
  | 1 => .array (.object "java/lang/StackTraceElement")
  | 2 => .object "java/util/List"
  | 3 => .object "java/lang/String"
  | 4 => .object "java/lang/Object"
  | _ => .int
abbrev wsJ190 : List Cond := u_ws RJ19 TJ19 6
theorem nmJ19 : ∀ a, a < 6 → ∀ b, b < 6 → a ≠ b → (TJ19 a).2.1 ≠ (TJ19 b).2.1 := by decide +kernel
theorem tyJ19_ok : ∀ k, k < 6 → parseFieldDescriptor (TJ19 k).2.2.1 = some (tyJ19 k) := by decide +kernel
abbrev cJ19_init : ByteArray := prog_31_method_1_code
def yJ19_init : MethodName := ⟨RJ19, "<init>", "()V"⟩
abbrev cJ19_init_2 : ByteArray := prog_31_method_2_code
def yJ19_init_2 : MethodName := ⟨RJ19, "<init>", "(Ljava/lang/String;)V"⟩
theorem q102 : (Jvm.Cond.initialized "java/lang/IllegalArgumentException") ∈ lw_all := lw_g (lw_at lw_m1 30 rfl) rfl
theorem q510 : (Jvm.Cond.selects "java/lang/IllegalArgumentException" ({ cls := "java/lang/Object", name := "getClass", desc := "()Ljava/lang/Class;" } : Jvm.MethodName) ({ cls := "java/lang/Object", name := "getClass", desc := "()Ljava/lang/Class;" } : Jvm.MethodName)) ∈ lw_all := lw_g (lw_at lw_m2 198 rfl) rfl
theorem q615 : (Jvm.Cond.selects "java/lang/IllegalArgumentException" ({ cls := "java/lang/Throwable", name := "fillInStackTrace", desc := "()Ljava/lang/Throwable;" } : Jvm.MethodName) ({ cls := "java/lang/Throwable", name := "fillInStackTrace", desc := "()Ljava/lang/Throwable;" } : Jvm.MethodName)) ∈ lw_all := lw_g (lw_at lw_m3 63 rfl) rfl
theorem q683 : (Jvm.Cond.instantiable "java/lang/IllegalArgumentException" (6 : Nat)) ∈ lw_all := lw_g (lw_at lw_m3 131 rfl) rfl
theorem q684 : (Jvm.Cond.castable "java/lang/IllegalArgumentException" "java/lang/IllegalArgumentException") ∈ lw_tbl := lw_at lw_m3 132 rfl
theorem q685 : (Jvm.Cond.selects "java/lang/IllegalArgumentException" ({ cls := "java/lang/Throwable", name := "fillInStackTrace", desc := "(I)Ljava/lang/Throwable;" } : Jvm.MethodName) ({ cls := "java/lang/Throwable", name := "fillInStackTrace", desc := "(I)Ljava/lang/Throwable;" } : Jvm.MethodName)) ∈ lw_all := lw_g (lw_at lw_m3 133 rfl) rfl
theorem q686 : (Jvm.Cond.lays "java/lang/IllegalArgumentException" "java/lang/Throwable" "cause" "Ljava/lang/Throwable;") ∈ lw_all := lw_g (lw_at lw_m3 134 rfl) rfl
theorem q687 : (Jvm.Cond.lays "java/lang/IllegalArgumentException" "java/lang/Throwable" "stackTrace" "[Ljava/lang/StackTraceElement;") ∈ lw_all := lw_g (lw_at lw_m3 135 rfl) rfl
theorem q688 : (Jvm.Cond.lays "java/lang/IllegalArgumentException" "java/lang/Throwable" "suppressedExceptions" "Ljava/util/List;") ∈ lw_all := lw_g (lw_at lw_m3 136 rfl) rfl
theorem q689 : (Jvm.Cond.lays "java/lang/IllegalArgumentException" "java/lang/Throwable" "detailMessage" "Ljava/lang/String;") ∈ lw_all := lw_g (lw_at lw_m3 137 rfl) rfl
theorem q690 : (Jvm.Cond.lays "java/lang/IllegalArgumentException" "java/lang/Throwable" "backtrace" "Ljava/lang/Object;") ∈ lw_all := lw_g (lw_at lw_m3 138 rfl) rfl
theorem q692 : (Jvm.Cond.instanceMethod ({ cls := "java/lang/IllegalArgumentException", name := "<init>", desc := "()V" } : Jvm.MethodName)) ∈ lw_all := lw_g (lw_at lw_m3 140 rfl) rfl
theorem q693 : (Jvm.Cond.code ({ cls := "java/lang/IllegalArgumentException", name := "<init>", desc := "()V" } : Jvm.MethodName) prog_31_method_1_code (1 : Nat) (Option.none : Option Jvm.ClassFile.FieldType)) ∈ lw_all := lw_g (lw_at lw_m3 141 rfl) rfl
theorem q694 : (Jvm.Cond.methodLink "java/lang/IllegalArgumentException" (1 : Nat) ({ cls := "java/lang/RuntimeException", name := "<init>", desc := "()V" } : Jvm.MethodName)) ∈ lw_all := lw_g (lw_at lw_m3 142 rfl) rfl
theorem q695 : (Jvm.Cond.lays "java/lang/IllegalArgumentException" "java/lang/Throwable" "depth" "I") ∈ lw_all := lw_g (lw_at lw_m3 143 rfl) rfl
theorem q696 : (Jvm.Cond.superclass "java/lang/IllegalArgumentException" "java/lang/RuntimeException") ∈ lw_all := lw_g (lw_at lw_m3 144 rfl) rfl
theorem q927 : (Jvm.Cond.selects "java/lang/IllegalArgumentException" ({ cls := "java/lang/Object", name := "equals", desc := "(Ljava/lang/Object;)Z" } : Jvm.MethodName) ({ cls := "java/lang/Object", name := "equals", desc := "(Ljava/lang/Object;)Z" } : Jvm.MethodName)) ∈ lw_all := lw_g (lw_at lw_m4 135 rfl) rfl
theorem q1613 : (Jvm.Cond.instanceMethod ({ cls := "java/lang/IllegalArgumentException", name := "<init>", desc := "(Ljava/lang/String;)V" } : Jvm.MethodName)) ∈ lw_all := lw_g (lw_at lw_m7 101 rfl) rfl
theorem q1614 : (Jvm.Cond.code ({ cls := "java/lang/IllegalArgumentException", name := "<init>", desc := "(Ljava/lang/String;)V" } : Jvm.MethodName) prog_31_method_2_code (2 : Nat) (Option.none : Option Jvm.ClassFile.FieldType)) ∈ lw_all := lw_g (lw_at lw_m7 102 rfl) rfl
theorem q1615 : (Jvm.Cond.methodLink "java/lang/IllegalArgumentException" (7 : Nat) ({ cls := "java/lang/RuntimeException", name := "<init>", desc := "(Ljava/lang/String;)V" } : Jvm.MethodName)) ∈ lw_all := lw_g (lw_at lw_m7 103 rfl) rfl
theorem q2428 : (Jvm.Cond.castable "java/lang/IllegalArgumentException" "java/lang/Object") ∈ lw_tbl := lw_at lw_m10 196 rfl
theorem in_J19 : ∀ w ∈ wsJ190, w ∈ lw_all := lw_in wsJ190 [686, 687, 688, 689, 690, 695] (by decide +kernel) (by decide +kernel)
/-! PuddleBoatyard$Frame -/
def RX8 : String := "PuddleBoatyard$Frame"
def TX8 : u_T := fun k => match k with
  | 0 => ("PuddleBoatyard$Frame", "left", "I", true)
  | _ => ("PuddleBoatyard$Frame", "right", "I", true)
def tyX8 : Nat → FieldType := fun k => match k with
  | 0 => .int
  | _ => .int
abbrev wsX80 : List Cond := u_ws RX8 TX8 2
theorem nmX8 : ∀ a, a < 2 → ∀ b, b < 2 → a ≠ b → (TX8 a).2.1 ≠ (TX8 b).2.1 := by decide +kernel
theorem tyX8_ok : ∀ k, k < 2 → parseFieldDescriptor (TX8 k).2.2.1 = some (tyX8 k) := by decide +kernel
abbrev cX8_init : ByteArray := prog_3_method_1_code
def yX8_init : MethodName := ⟨RX8, "<init>", "(II)V"⟩
abbrev cX8_mirrored : ByteArray := prog_3_method_2_code
def yX8_mirrored : MethodName := ⟨RX8, "mirrored", "()LPuddleBoatyard$Frame;"⟩
abbrev cX8_width : ByteArray := prog_3_method_3_code
def yX8_width : MethodName := ⟨RX8, "width", "()I"⟩
abbrev cX8_isMirrorOf : ByteArray := prog_3_method_5_code
def yX8_isMirrorOf : MethodName := ⟨RX8, "isMirrorOf", "(LPuddleBoatyard$Frame;)Z"⟩
abbrev cX8_toString : ByteArray := prog_3_method_6_code
def yX8_toString : MethodName := ⟨RX8, "toString", "()Ljava/lang/String;"⟩
theorem q103 : (Jvm.Cond.initialized "PuddleBoatyard$Frame") ∈ lw_all := lw_g (lw_at lw_m1 31 rfl) rfl
theorem q493 : (Jvm.Cond.selects "PuddleBoatyard$Frame" ({ cls := "java/lang/Object", name := "getClass", desc := "()Ljava/lang/Class;" } : Jvm.MethodName) ({ cls := "java/lang/Object", name := "getClass", desc := "()Ljava/lang/Class;" } : Jvm.MethodName)) ∈ lw_all := lw_g (lw_at lw_m2 181 rfl) rfl
theorem q698 : (Jvm.Cond.instantiable "PuddleBoatyard$Frame" (2 : Nat)) ∈ lw_all := lw_g (lw_at lw_m3 146 rfl) rfl
theorem q700 : (Jvm.Cond.instanceMethod ({ cls := "PuddleBoatyard$Frame", name := "<init>", desc := "(II)V" } : Jvm.MethodName)) ∈ lw_all := lw_g (lw_at lw_m3 148 rfl) rfl
theorem q701 : (Jvm.Cond.code ({ cls := "PuddleBoatyard$Frame", name := "<init>", desc := "(II)V" } : Jvm.MethodName) prog_3_method_1_code (3 : Nat) (Option.none : Option Jvm.ClassFile.FieldType)) ∈ lw_all := lw_g (lw_at lw_m3 149 rfl) rfl
theorem q702 : (Jvm.Cond.methodLink "PuddleBoatyard$Frame" (1 : Nat) ({ cls := "java/lang/Object", name := "<init>", desc := "()V" } : Jvm.MethodName)) ∈ lw_all := lw_g (lw_at lw_m3 150 rfl) rfl
theorem q703 : (Jvm.Cond.fieldLink "PuddleBoatyard$Frame" (7 : Nat) "PuddleBoatyard$Frame" "left" "I") ∈ lw_all := lw_g (lw_at lw_m3 151 rfl) rfl
theorem q706 : (Jvm.Cond.fieldLink "PuddleBoatyard$Frame" (13 : Nat) "PuddleBoatyard$Frame" "right" "I") ∈ lw_all := lw_g (lw_at lw_m3 154 rfl) rfl
theorem q709 : (Jvm.Cond.laysFinal "PuddleBoatyard$Frame" "PuddleBoatyard$Frame" "left" "I") ∈ lw_all := lw_g (lw_at lw_m3 157 rfl) rfl
theorem q710 : (Jvm.Cond.soleField "PuddleBoatyard$Frame" "left") ∈ lw_all := lw_g (lw_at lw_m3 158 rfl) rfl
theorem q711 : (Jvm.Cond.laysFinal "PuddleBoatyard$Frame" "PuddleBoatyard$Frame" "right" "I") ∈ lw_all := lw_g (lw_at lw_m3 159 rfl) rfl
theorem q712 : (Jvm.Cond.soleField "PuddleBoatyard$Frame" "right") ∈ lw_all := lw_g (lw_at lw_m3 160 rfl) rfl
theorem q713 : (Jvm.Cond.superclass "PuddleBoatyard$Frame" "java/lang/Object") ∈ lw_all := lw_g (lw_at lw_m3 161 rfl) rfl
theorem q724 : (Jvm.Cond.instanceMethod ({ cls := "PuddleBoatyard$Frame", name := "mirrored", desc := "()LPuddleBoatyard$Frame;" } : Jvm.MethodName)) ∈ lw_all := lw_g (lw_at lw_m3 172 rfl) rfl
theorem q725 : (Jvm.Cond.selects "PuddleBoatyard$Frame" ({ cls := "PuddleBoatyard$Frame", name := "mirrored", desc := "()LPuddleBoatyard$Frame;" } : Jvm.MethodName) ({ cls := "PuddleBoatyard$Frame", name := "mirrored", desc := "()LPuddleBoatyard$Frame;" } : Jvm.MethodName)) ∈ lw_all := lw_g (lw_at lw_m3 173 rfl) rfl
theorem q726 : (Jvm.Cond.code ({ cls := "PuddleBoatyard$Frame", name := "mirrored", desc := "()LPuddleBoatyard$Frame;" } : Jvm.MethodName) prog_3_method_2_code (1 : Nat) (Option.some (Jvm.ClassFile.FieldType.object "PuddleBoatyard$Frame"))) ∈ lw_all := lw_g (lw_at lw_m3 174 rfl) rfl
theorem q727 : (Jvm.Cond.classLink "PuddleBoatyard$Frame" (8 : Nat) "PuddleBoatyard$Frame") ∈ lw_all := lw_g (lw_at lw_m3 175 rfl) rfl
theorem q728 : (Jvm.Cond.methodLink "PuddleBoatyard$Frame" (16 : Nat) ({ cls := "PuddleBoatyard$Frame", name := "<init>", desc := "(II)V" } : Jvm.MethodName)) ∈ lw_all := lw_g (lw_at lw_m3 176 rfl) rfl
theorem q793 : (Jvm.Cond.instanceMethod ({ cls := "PuddleBoatyard$Frame", name := "width", desc := "()I" } : Jvm.MethodName)) ∈ lw_all := lw_g (lw_at lw_m4 1 rfl) rfl
theorem q794 : (Jvm.Cond.selects "PuddleBoatyard$Frame" ({ cls := "PuddleBoatyard$Frame", name := "width", desc := "()I" } : Jvm.MethodName) ({ cls := "PuddleBoatyard$Frame", name := "width", desc := "()I" } : Jvm.MethodName)) ∈ lw_all := lw_g (lw_at lw_m4 2 rfl) rfl
theorem q795 : (Jvm.Cond.code ({ cls := "PuddleBoatyard$Frame", name := "width", desc := "()I" } : Jvm.MethodName) prog_3_method_3_code (1 : Nat) (Option.some Jvm.ClassFile.FieldType.int)) ∈ lw_all := lw_g (lw_at lw_m4 3 rfl) rfl
theorem q908 : (Jvm.Cond.selects "PuddleBoatyard$Frame" ({ cls := "java/lang/Object", name := "equals", desc := "(Ljava/lang/Object;)Z" } : Jvm.MethodName) ({ cls := "java/lang/Object", name := "equals", desc := "(Ljava/lang/Object;)Z" } : Jvm.MethodName)) ∈ lw_all := lw_g (lw_at lw_m4 116 rfl) rfl
theorem q1220 : (Jvm.Cond.instanceMethod ({ cls := "PuddleBoatyard$Frame", name := "isMirrorOf", desc := "(LPuddleBoatyard$Frame;)Z" } : Jvm.MethodName)) ∈ lw_all := lw_g (lw_at lw_m5 188 rfl) rfl
theorem q1221 : (Jvm.Cond.selects "PuddleBoatyard$Frame" ({ cls := "PuddleBoatyard$Frame", name := "isMirrorOf", desc := "(LPuddleBoatyard$Frame;)Z" } : Jvm.MethodName) ({ cls := "PuddleBoatyard$Frame", name := "isMirrorOf", desc := "(LPuddleBoatyard$Frame;)Z" } : Jvm.MethodName)) ∈ lw_all := lw_g (lw_at lw_m5 189 rfl) rfl
theorem q1222 : (Jvm.Cond.code ({ cls := "PuddleBoatyard$Frame", name := "isMirrorOf", desc := "(LPuddleBoatyard$Frame;)Z" } : Jvm.MethodName) prog_3_method_5_code (2 : Nat) (Option.some Jvm.ClassFile.FieldType.boolean)) ∈ lw_all := lw_g (lw_at lw_m5 190 rfl) rfl
theorem q1526 : (Jvm.Cond.instanceMethod ({ cls := "PuddleBoatyard$Frame", name := "toString", desc := "()Ljava/lang/String;" } : Jvm.MethodName)) ∈ lw_all := lw_g (lw_at lw_m7 14 rfl) rfl
theorem q1527 : (Jvm.Cond.selects "PuddleBoatyard$Frame" ({ cls := "PuddleBoatyard$Frame", name := "toString", desc := "()Ljava/lang/String;" } : Jvm.MethodName) ({ cls := "PuddleBoatyard$Frame", name := "toString", desc := "()Ljava/lang/String;" } : Jvm.MethodName)) ∈ lw_all := lw_g (lw_at lw_m7 15 rfl) rfl
theorem q1528 : (Jvm.Cond.code ({ cls := "PuddleBoatyard$Frame", name := "toString", desc := "()Ljava/lang/String;" } : Jvm.MethodName) prog_3_method_6_code (1 : Nat) (Option.some (Jvm.ClassFile.FieldType.object "java/lang/String"))) ∈ lw_all := lw_g (lw_at lw_m7 16 rfl) rfl
theorem q1529 : (Jvm.Cond.classLink "PuddleBoatyard$Frame" (19 : Nat) "java/lang/StringBuilder") ∈ lw_all := lw_g (lw_at lw_m7 17 rfl) rfl
theorem q1530 : (Jvm.Cond.methodLink "PuddleBoatyard$Frame" (21 : Nat) ({ cls := "java/lang/StringBuilder", name := "<init>", desc := "()V" } : Jvm.MethodName)) ∈ lw_all := lw_g (lw_at lw_m7 18 rfl) rfl
theorem q1531 : (Jvm.Cond.methodLink "PuddleBoatyard$Frame" (22 : Nat) ({ cls := "java/lang/StringBuilder", name := "append", desc := "(I)Ljava/lang/StringBuilder;" } : Jvm.MethodName)) ∈ lw_all := lw_g (lw_at lw_m7 19 rfl) rfl
theorem q1532 : (Jvm.Cond.stringRef "PuddleBoatyard$Frame" (26 : Nat) "|") ∈ lw_tbl := lw_at lw_m7 20 rfl
theorem q1533 : (Jvm.Cond.methodLink "PuddleBoatyard$Frame" (28 : Nat) ({ cls := "java/lang/StringBuilder", name := "append", desc := "(Ljava/lang/String;)Ljava/lang/StringBuilder;" } : Jvm.MethodName)) ∈ lw_all := lw_g (lw_at lw_m7 21 rfl) rfl
theorem q1570 : (Jvm.Cond.methodLink "PuddleBoatyard$Frame" (31 : Nat) ({ cls := "java/lang/StringBuilder", name := "toString", desc := "()Ljava/lang/String;" } : Jvm.MethodName)) ∈ lw_all := lw_g (lw_at lw_m7 58 rfl) rfl
theorem q2429 : (Jvm.Cond.castable "PuddleBoatyard$Frame" "java/lang/Object") ∈ lw_tbl := lw_at lw_m10 197 rfl
theorem in_X8 : ∀ w ∈ wsX80, w ∈ lw_all := lw_in wsX80 [709, 711] (by decide +kernel) (by decide +kernel)
/-! PuddleBoatyard$LaunchRefused -/
def RX9 : String := "PuddleBoatyard$LaunchRefused"
def TX9 : u_T := fun k => match k with
  | 0 => ("java/lang/Throwable", "cause", "Ljava/lang/Throwable;", false)
  | 1 => ("java/lang/Throwable", "stackTrace", "[Ljava/lang/StackTraceElement;", false)
  | 2 => ("java/lang/Throwable", "suppressedExceptions", "Ljava/util/List;", false)
  | 3 => ("java/lang/Throwable", "detailMessage", "Ljava/lang/String;", false)
  | 4 => ("java/lang/Throwable", "backtrace", "Ljava/lang/Object;", false)
  | 5 => ("java/lang/Throwable", "depth", "I", false)
  | _ => ("PuddleBoatyard$LaunchRefused", "reason", "I", true)
def tyX9 : Nat → FieldType := fun k => match k with
  | 0 => .object "java/lang/Throwable"
  | 1 => .array (.object "java/lang/StackTraceElement")
  | 2 => .object "java/util/List"
  | 3 => .object "java/lang/String"
  | 4 => .object "java/lang/Object"
  | 5 => .int
  | _ => .int
abbrev wsX90 : List Cond := u_ws RX9 TX9 7
theorem nmX9 : ∀ a, a < 7 → ∀ b, b < 7 → a ≠ b → (TX9 a).2.1 ≠ (TX9 b).2.1 := by decide +kernel
theorem tyX9_ok : ∀ k, k < 7 → parseFieldDescriptor (TX9 k).2.2.1 = some (tyX9 k) := by decide +kernel
abbrev cX9_init : ByteArray := prog_6_method_1_code
def yX9_init : MethodName := ⟨RX9, "<init>", "(I)V"⟩
theorem q104 : (Jvm.Cond.initialized "PuddleBoatyard$LaunchRefused") ∈ lw_all := lw_g (lw_at lw_m1 32 rfl) rfl
theorem q496 : (Jvm.Cond.selects "PuddleBoatyard$LaunchRefused" ({ cls := "java/lang/Object", name := "getClass", desc := "()Ljava/lang/Class;" } : Jvm.MethodName) ({ cls := "java/lang/Object", name := "getClass", desc := "()Ljava/lang/Class;" } : Jvm.MethodName)) ∈ lw_all := lw_g (lw_at lw_m2 184 rfl) rfl
theorem q611 : (Jvm.Cond.selects "PuddleBoatyard$LaunchRefused" ({ cls := "java/lang/Throwable", name := "fillInStackTrace", desc := "()Ljava/lang/Throwable;" } : Jvm.MethodName) ({ cls := "java/lang/Throwable", name := "fillInStackTrace", desc := "()Ljava/lang/Throwable;" } : Jvm.MethodName)) ∈ lw_all := lw_g (lw_at lw_m3 59 rfl) rfl
theorem q757 : (Jvm.Cond.instantiable "PuddleBoatyard$LaunchRefused" (7 : Nat)) ∈ lw_all := lw_g (lw_at lw_m3 205 rfl) rfl
theorem q758 : (Jvm.Cond.castable "PuddleBoatyard$LaunchRefused" "PuddleBoatyard$LaunchRefused") ∈ lw_tbl := lw_at lw_m3 206 rfl
theorem q759 : (Jvm.Cond.selects "PuddleBoatyard$LaunchRefused" ({ cls := "java/lang/Throwable", name := "fillInStackTrace", desc := "(I)Ljava/lang/Throwable;" } : Jvm.MethodName) ({ cls := "java/lang/Throwable", name := "fillInStackTrace", desc := "(I)Ljava/lang/Throwable;" } : Jvm.MethodName)) ∈ lw_all := lw_g (lw_at lw_m3 207 rfl) rfl
theorem q760 : (Jvm.Cond.lays "PuddleBoatyard$LaunchRefused" "java/lang/Throwable" "cause" "Ljava/lang/Throwable;") ∈ lw_all := lw_g (lw_at lw_m3 208 rfl) rfl
theorem q761 : (Jvm.Cond.lays "PuddleBoatyard$LaunchRefused" "java/lang/Throwable" "stackTrace" "[Ljava/lang/StackTraceElement;") ∈ lw_all := lw_g (lw_at lw_m3 209 rfl) rfl
theorem q762 : (Jvm.Cond.lays "PuddleBoatyard$LaunchRefused" "java/lang/Throwable" "suppressedExceptions" "Ljava/util/List;") ∈ lw_all := lw_g (lw_at lw_m3 210 rfl) rfl
theorem q763 : (Jvm.Cond.lays "PuddleBoatyard$LaunchRefused" "java/lang/Throwable" "detailMessage" "Ljava/lang/String;") ∈ lw_all := lw_g (lw_at lw_m3 211 rfl) rfl
theorem q764 : (Jvm.Cond.lays "PuddleBoatyard$LaunchRefused" "java/lang/Throwable" "backtrace" "Ljava/lang/Object;") ∈ lw_all := lw_g (lw_at lw_m3 212 rfl) rfl
theorem q766 : (Jvm.Cond.instanceMethod ({ cls := "PuddleBoatyard$LaunchRefused", name := "<init>", desc := "(I)V" } : Jvm.MethodName)) ∈ lw_all := lw_g (lw_at lw_m3 214 rfl) rfl
theorem q767 : (Jvm.Cond.code ({ cls := "PuddleBoatyard$LaunchRefused", name := "<init>", desc := "(I)V" } : Jvm.MethodName) prog_6_method_1_code (2 : Nat) (Option.none : Option Jvm.ClassFile.FieldType)) ∈ lw_all := lw_g (lw_at lw_m3 215 rfl) rfl
theorem q768 : (Jvm.Cond.methodLink "PuddleBoatyard$LaunchRefused" (1 : Nat) ({ cls := "java/lang/Exception", name := "<init>", desc := "()V" } : Jvm.MethodName)) ∈ lw_all := lw_g (lw_at lw_m3 216 rfl) rfl
theorem q769 : (Jvm.Cond.fieldLink "PuddleBoatyard$LaunchRefused" (7 : Nat) "PuddleBoatyard$LaunchRefused" "reason" "I") ∈ lw_all := lw_g (lw_at lw_m3 217 rfl) rfl
theorem q771 : (Jvm.Cond.laysFinal "PuddleBoatyard$LaunchRefused" "PuddleBoatyard$LaunchRefused" "reason" "I") ∈ lw_all := lw_g (lw_at lw_m3 219 rfl) rfl
theorem q772 : (Jvm.Cond.soleField "PuddleBoatyard$LaunchRefused" "reason") ∈ lw_all := lw_g (lw_at lw_m3 220 rfl) rfl
theorem q773 : (Jvm.Cond.lays "PuddleBoatyard$LaunchRefused" "java/lang/Throwable" "depth" "I") ∈ lw_all := lw_g (lw_at lw_m3 221 rfl) rfl
theorem q774 : (Jvm.Cond.superclass "PuddleBoatyard$LaunchRefused" "java/lang/Exception") ∈ lw_all := lw_g (lw_at lw_m3 222 rfl) rfl
theorem q911 : (Jvm.Cond.selects "PuddleBoatyard$LaunchRefused" ({ cls := "java/lang/Object", name := "equals", desc := "(Ljava/lang/Object;)Z" } : Jvm.MethodName) ({ cls := "java/lang/Object", name := "equals", desc := "(Ljava/lang/Object;)Z" } : Jvm.MethodName)) ∈ lw_all := lw_g (lw_at lw_m4 119 rfl) rfl
theorem q2430 : (Jvm.Cond.castable "PuddleBoatyard$LaunchRefused" "java/lang/Object") ∈ lw_tbl := lw_at lw_m10 198 rfl
theorem in_X9 : ∀ w ∈ wsX90, w ∈ lw_all := lw_in wsX90 [760, 761, 762, 763, 764, 773, 771] (by decide +kernel) (by decide +kernel)
/-! PuddleBoatyard$Order -/
def RX10 : String := "PuddleBoatyard$Order"
def TX10 : u_T := fun k => match k with
  | 0 => ("PuddleBoatyard$Order", "id", "I", true)
  | 1 => ("PuddleBoatyard$Order", "frames", "I", true)
  | 2 => ("PuddleBoatyard$Order", "hour", "I", true)
  | _ => ("PuddleBoatyard$Order", "coins", "I", true)
def tyX10 : Nat → FieldType := fun k => match k with
  | 0 => .int
  | 1 => .int
  | 2 => .int
  | _ => .int
abbrev wsX100 : List Cond := u_ws RX10 TX10 4
theorem nmX10 : ∀ a, a < 4 → ∀ b, b < 4 → a ≠ b → (TX10 a).2.1 ≠ (TX10 b).2.1 := by decide +kernel
theorem tyX10_ok : ∀ k, k < 4 → parseFieldDescriptor (TX10 k).2.2.1 = some (tyX10 k) := by decide +kernel
abbrev cX10_coinsAt : ByteArray := prog_8_method_2_code
def yX10_coinsAt : MethodName := ⟨RX10, "coinsAt", "(I)I"⟩
abbrev cX10_init : ByteArray := prog_8_method_1_code
def yX10_init : MethodName := ⟨RX10, "<init>", "(IIII)V"⟩
theorem q105 : (Jvm.Cond.initialized "PuddleBoatyard$Order") ∈ lw_all := lw_g (lw_at lw_m1 33 rfl) rfl
theorem q400 : (Jvm.Cond.instanceMethod ({ cls := "PuddleBoatyard$Order", name := "coinsAt", desc := "(I)I" } : Jvm.MethodName)) ∈ lw_all := lw_g (lw_at lw_m2 88 rfl) rfl
theorem q401 : (Jvm.Cond.selects "PuddleBoatyard$Order" ({ cls := "PuddleBoatyard$Order", name := "coinsAt", desc := "(I)I" } : Jvm.MethodName) ({ cls := "PuddleBoatyard$Order", name := "coinsAt", desc := "(I)I" } : Jvm.MethodName)) ∈ lw_all := lw_g (lw_at lw_m2 89 rfl) rfl
theorem q402 : (Jvm.Cond.code ({ cls := "PuddleBoatyard$Order", name := "coinsAt", desc := "(I)I" } : Jvm.MethodName) prog_8_method_2_code (2 : Nat) (Option.some Jvm.ClassFile.FieldType.int)) ∈ lw_all := lw_g (lw_at lw_m2 90 rfl) rfl
theorem q403 : (Jvm.Cond.methodLink "PuddleBoatyard$Order" (22 : Nat) ({ cls := "java/lang/Math", name := "max", desc := "(II)I" } : Jvm.MethodName)) ∈ lw_all := lw_g (lw_at lw_m2 91 rfl) rfl
theorem q498 : (Jvm.Cond.selects "PuddleBoatyard$Order" ({ cls := "java/lang/Object", name := "getClass", desc := "()Ljava/lang/Class;" } : Jvm.MethodName) ({ cls := "java/lang/Object", name := "getClass", desc := "()Ljava/lang/Class;" } : Jvm.MethodName)) ∈ lw_all := lw_g (lw_at lw_m2 186 rfl) rfl
theorem q853 : (Jvm.Cond.instantiable "PuddleBoatyard$Order" (4 : Nat)) ∈ lw_all := lw_g (lw_at lw_m4 61 rfl) rfl
theorem q855 : (Jvm.Cond.instanceMethod ({ cls := "PuddleBoatyard$Order", name := "<init>", desc := "(IIII)V" } : Jvm.MethodName)) ∈ lw_all := lw_g (lw_at lw_m4 63 rfl) rfl
theorem q856 : (Jvm.Cond.code ({ cls := "PuddleBoatyard$Order", name := "<init>", desc := "(IIII)V" } : Jvm.MethodName) prog_8_method_1_code (5 : Nat) (Option.none : Option Jvm.ClassFile.FieldType)) ∈ lw_all := lw_g (lw_at lw_m4 64 rfl) rfl
theorem q857 : (Jvm.Cond.methodLink "PuddleBoatyard$Order" (1 : Nat) ({ cls := "java/lang/Object", name := "<init>", desc := "()V" } : Jvm.MethodName)) ∈ lw_all := lw_g (lw_at lw_m4 65 rfl) rfl
theorem q858 : (Jvm.Cond.fieldLink "PuddleBoatyard$Order" (7 : Nat) "PuddleBoatyard$Order" "id" "I") ∈ lw_all := lw_g (lw_at lw_m4 66 rfl) rfl
theorem q861 : (Jvm.Cond.fieldLink "PuddleBoatyard$Order" (13 : Nat) "PuddleBoatyard$Order" "frames" "I") ∈ lw_all := lw_g (lw_at lw_m4 69 rfl) rfl
theorem q863 : (Jvm.Cond.fieldLink "PuddleBoatyard$Order" (16 : Nat) "PuddleBoatyard$Order" "hour" "I") ∈ lw_all := lw_g (lw_at lw_m4 71 rfl) rfl
theorem q864 : (Jvm.Cond.fieldLink "PuddleBoatyard$Order" (19 : Nat) "PuddleBoatyard$Order" "coins" "I") ∈ lw_all := lw_g (lw_at lw_m4 72 rfl) rfl
theorem q865 : (Jvm.Cond.laysFinal "PuddleBoatyard$Order" "PuddleBoatyard$Order" "id" "I") ∈ lw_all := lw_g (lw_at lw_m4 73 rfl) rfl
theorem q866 : (Jvm.Cond.soleField "PuddleBoatyard$Order" "id") ∈ lw_all := lw_g (lw_at lw_m4 74 rfl) rfl
theorem q867 : (Jvm.Cond.laysFinal "PuddleBoatyard$Order" "PuddleBoatyard$Order" "frames" "I") ∈ lw_all := lw_g (lw_at lw_m4 75 rfl) rfl
theorem q868 : (Jvm.Cond.soleField "PuddleBoatyard$Order" "frames") ∈ lw_all := lw_g (lw_at lw_m4 76 rfl) rfl
theorem q869 : (Jvm.Cond.laysFinal "PuddleBoatyard$Order" "PuddleBoatyard$Order" "hour" "I") ∈ lw_all := lw_g (lw_at lw_m4 77 rfl) rfl
theorem q870 : (Jvm.Cond.soleField "PuddleBoatyard$Order" "hour") ∈ lw_all := lw_g (lw_at lw_m4 78 rfl) rfl
theorem q871 : (Jvm.Cond.laysFinal "PuddleBoatyard$Order" "PuddleBoatyard$Order" "coins" "I") ∈ lw_all := lw_g (lw_at lw_m4 79 rfl) rfl
theorem q872 : (Jvm.Cond.soleField "PuddleBoatyard$Order" "coins") ∈ lw_all := lw_g (lw_at lw_m4 80 rfl) rfl
theorem q873 : (Jvm.Cond.superclass "PuddleBoatyard$Order" "java/lang/Object") ∈ lw_all := lw_g (lw_at lw_m4 81 rfl) rfl
theorem q913 : (Jvm.Cond.selects "PuddleBoatyard$Order" ({ cls := "java/lang/Object", name := "equals", desc := "(Ljava/lang/Object;)Z" } : Jvm.MethodName) ({ cls := "java/lang/Object", name := "equals", desc := "(Ljava/lang/Object;)Z" } : Jvm.MethodName)) ∈ lw_all := lw_g (lw_at lw_m4 121 rfl) rfl
theorem q2433 : (Jvm.Cond.castable "PuddleBoatyard$Order" "java/lang/Object") ∈ lw_tbl := lw_at lw_m10 201 rfl
theorem in_X10 : ∀ w ∈ wsX100, w ∈ lw_all := lw_in wsX100 [865, 867, 869, 871] (by decide +kernel) (by decide +kernel)
/-! java/util/NoSuchElementException -/
def RJ20 : String := "java/util/NoSuchElementException"
def TJ20 : u_T := fun k => match k with
  | 0 => ("java/lang/Throwable", "cause", "Ljava/lang/Throwable;", false)
  | 1 => ("java/lang/Throwable", "stackTrace", "[Ljava/lang/StackTraceElement;", false)
  | 2 => ("java/lang/Throwable", "suppressedExceptions", "Ljava/util/List;", false)
  | 3 => ("java/lang/Throwable", "detailMessage", "Ljava/lang/String;", false)
  | 4 => ("java/lang/Throwable", "backtrace", "Ljava/lang/Object;", false)
  | _ => ("java/lang/Throwable", "depth", "I", false)
def tyJ20 : Nat → FieldType := fun k => match k with
  | 0 => .object "java/lang/Throwable"
  | 1 => .array (.object "java/lang/StackTraceElement")
  | 2 => .object "java/util/List"
  | 3 => .object "java/lang/String"
  | 4 => .object "java/lang/Object"
  | _ => .int
abbrev wsJ200 : List Cond := u_ws RJ20 TJ20 6
theorem nmJ20 : ∀ a, a < 6 → ∀ b, b < 6 → a ≠ b → (TJ20 a).2.1 ≠ (TJ20 b).2.1 := by decide +kernel
theorem tyJ20_ok : ∀ k, k < 6 → parseFieldDescriptor (TJ20 k).2.2.1 = some (tyJ20 k) := by decide +kernel
abbrev cJ20_init : ByteArray := prog_58_method_1_code
def yJ20_init : MethodName := ⟨RJ20, "<init>", "()V"⟩
theorem q106 : (Jvm.Cond.initialized "java/util/NoSuchElementException") ∈ lw_all := lw_g (lw_at lw_m1 34 rfl) rfl
theorem q519 : (Jvm.Cond.selects "java/util/NoSuchElementException" ({ cls := "java/lang/Object", name := "getClass", desc := "()Ljava/lang/Class;" } : Jvm.MethodName) ({ cls := "java/lang/Object", name := "getClass", desc := "()Ljava/lang/Class;" } : Jvm.MethodName)) ∈ lw_all := lw_g (lw_at lw_m2 207 rfl) rfl
theorem q619 : (Jvm.Cond.selects "java/util/NoSuchElementException" ({ cls := "java/lang/Throwable", name := "fillInStackTrace", desc := "()Ljava/lang/Throwable;" } : Jvm.MethodName) ({ cls := "java/lang/Throwable", name := "fillInStackTrace", desc := "()Ljava/lang/Throwable;" } : Jvm.MethodName)) ∈ lw_all := lw_g (lw_at lw_m3 67 rfl) rfl
theorem q883 : (Jvm.Cond.instantiable "java/util/NoSuchElementException" (6 : Nat)) ∈ lw_all := lw_g (lw_at lw_m4 91 rfl) rfl
theorem q884 : (Jvm.Cond.castable "java/util/NoSuchElementException" "java/util/NoSuchElementException") ∈ lw_tbl := lw_at lw_m4 92 rfl
theorem q885 : (Jvm.Cond.selects "java/util/NoSuchElementException" ({ cls := "java/lang/Throwable", name := "fillInStackTrace", desc := "(I)Ljava/lang/Throwable;" } : Jvm.MethodName) ({ cls := "java/lang/Throwable", name := "fillInStackTrace", desc := "(I)Ljava/lang/Throwable;" } : Jvm.MethodName)) ∈ lw_all := lw_g (lw_at lw_m4 93 rfl) rfl
theorem q886 : (Jvm.Cond.lays "java/util/NoSuchElementException" "java/lang/Throwable" "cause" "Ljava/lang/Throwable;") ∈ lw_all := lw_g (lw_at lw_m4 94 rfl) rfl
theorem q887 : (Jvm.Cond.lays "java/util/NoSuchElementException" "java/lang/Throwable" "stackTrace" "[Ljava/lang/StackTraceElement;") ∈ lw_all := lw_g (lw_at lw_m4 95 rfl) rfl
theorem q888 : (Jvm.Cond.lays "java/util/NoSuchElementException" "java/lang/Throwable" "suppressedExceptions" "Ljava/util/List;") ∈ lw_all := lw_g (lw_at lw_m4 96 rfl) rfl
theorem q889 : (Jvm.Cond.lays "java/util/NoSuchElementException" "java/lang/Throwable" "detailMessage" "Ljava/lang/String;") ∈ lw_all := lw_g (lw_at lw_m4 97 rfl) rfl
theorem q890 : (Jvm.Cond.lays "java/util/NoSuchElementException" "java/lang/Throwable" "backtrace" "Ljava/lang/Object;") ∈ lw_all := lw_g (lw_at lw_m4 98 rfl) rfl
theorem q892 : (Jvm.Cond.instanceMethod ({ cls := "java/util/NoSuchElementException", name := "<init>", desc := "()V" } : Jvm.MethodName)) ∈ lw_all := lw_g (lw_at lw_m4 100 rfl) rfl
theorem q893 : (Jvm.Cond.code ({ cls := "java/util/NoSuchElementException", name := "<init>", desc := "()V" } : Jvm.MethodName) prog_58_method_1_code (1 : Nat) (Option.none : Option Jvm.ClassFile.FieldType)) ∈ lw_all := lw_g (lw_at lw_m4 101 rfl) rfl
theorem q894 : (Jvm.Cond.methodLink "java/util/NoSuchElementException" (1 : Nat) ({ cls := "java/lang/RuntimeException", name := "<init>", desc := "()V" } : Jvm.MethodName)) ∈ lw_all := lw_g (lw_at lw_m4 102 rfl) rfl
theorem q895 : (Jvm.Cond.lays "java/util/NoSuchElementException" "java/lang/Throwable" "depth" "I") ∈ lw_all := lw_g (lw_at lw_m4 103 rfl) rfl
theorem q896 : (Jvm.Cond.superclass "java/util/NoSuchElementException" "java/lang/RuntimeException") ∈ lw_all := lw_g (lw_at lw_m4 104 rfl) rfl
theorem q2434 : (Jvm.Cond.castable "java/util/NoSuchElementException" "java/lang/Object") ∈ lw_tbl := lw_at lw_m10 202 rfl
theorem in_J20 : ∀ w ∈ wsJ200, w ∈ lw_all := lw_in wsJ200 [886, 887, 888, 889, 890, 895] (by decide +kernel) (by decide +kernel)
/-! java/lang/StringLatin1 -/
def RJ21 : String := "java/lang/StringLatin1"
abbrev cJ21_equals : ByteArray := prog_42_method_13_code
def yJ21_equals : MethodName := ⟨RJ21, "equals", "([B[B)Z"⟩
abbrev cJ21_canEncode : ByteArray := prog_42_method_3_code
def yJ21_canEncode : MethodName := ⟨RJ21, "canEncode", "(C)Z"⟩
abbrev cJ21_inflate : ByteArray := prog_42_method_50_code
def yJ21_inflate : MethodName := ⟨RJ21, "inflate", "([BI[BII)V"⟩
abbrev cJ21_charAt : ByteArray := prog_42_method_2_code
def yJ21_charAt : MethodName := ⟨RJ21, "charAt", "([BI)C"⟩
abbrev cJ21_fillNull : ByteArray := prog_42_method_48_code
def yJ21_fillNull : MethodName := ⟨RJ21, "fillNull", "([BII)V"⟩
theorem q107 : (Jvm.Cond.initialized "java/lang/StringLatin1") ∈ lw_all := lw_g (lw_at lw_m1 35 rfl) rfl
theorem q936 : (Jvm.Cond.static ({ cls := "java/lang/StringLatin1", name := "equals", desc := "([B[B)Z" } : Jvm.MethodName)) ∈ lw_all := lw_g (lw_at lw_m4 144 rfl) rfl
theorem q937 : (Jvm.Cond.code ({ cls := "java/lang/StringLatin1", name := "equals", desc := "([B[B)Z" } : Jvm.MethodName) prog_42_method_13_code (3 : Nat) (Option.some Jvm.ClassFile.FieldType.boolean)) ∈ lw_all := lw_g (lw_at lw_m4 145 rfl) rfl
theorem q1494 : (Jvm.Cond.static ({ cls := "java/lang/StringLatin1", name := "canEncode", desc := "(C)Z" } : Jvm.MethodName)) ∈ lw_all := lw_g (lw_at lw_m6 222 rfl) rfl
theorem q1495 : (Jvm.Cond.code ({ cls := "java/lang/StringLatin1", name := "canEncode", desc := "(C)Z" } : Jvm.MethodName) prog_42_method_3_code (1 : Nat) (Option.some Jvm.ClassFile.FieldType.boolean)) ∈ lw_all := lw_g (lw_at lw_m6 223 rfl) rfl
theorem q1501 : (Jvm.Cond.static ({ cls := "java/lang/StringLatin1", name := "inflate", desc := "([BI[BII)V" } : Jvm.MethodName)) ∈ lw_all := lw_g (lw_at lw_m6 229 rfl) rfl
theorem q1502 : (Jvm.Cond.code ({ cls := "java/lang/StringLatin1", name := "inflate", desc := "([BI[BII)V" } : Jvm.MethodName) prog_42_method_50_code (5 : Nat) (Option.none : Option Jvm.ClassFile.FieldType)) ∈ lw_all := lw_g (lw_at lw_m6 230 rfl) rfl
theorem q1503 : (Jvm.Cond.methodLink "java/lang/StringLatin1" (240 : Nat) ({ cls := "java/lang/StringUTF16", name := "inflate", desc := "([BI[BII)V" } : Jvm.MethodName)) ∈ lw_all := lw_g (lw_at lw_m6 231 rfl) rfl
theorem q1655 : (Jvm.Cond.static ({ cls := "java/lang/StringLatin1", name := "charAt", desc := "([BI)C" } : Jvm.MethodName)) ∈ lw_all := lw_g (lw_at lw_m7 143 rfl) rfl
theorem q1656 : (Jvm.Cond.code ({ cls := "java/lang/StringLatin1", name := "charAt", desc := "([BI)C" } : Jvm.MethodName) prog_42_method_2_code (2 : Nat) (Option.some Jvm.ClassFile.FieldType.char)) ∈ lw_all := lw_g (lw_at lw_m7 144 rfl) rfl
theorem q1657 : (Jvm.Cond.methodLink "java/lang/StringLatin1" (9 : Nat) ({ cls := "java/lang/String", name := "checkIndex", desc := "(II)V" } : Jvm.MethodName)) ∈ lw_all := lw_g (lw_at lw_m7 145 rfl) rfl
theorem q1706 : (Jvm.Cond.static ({ cls := "java/lang/StringLatin1", name := "fillNull", desc := "([BII)V" } : Jvm.MethodName)) ∈ lw_all := lw_g (lw_at lw_m7 194 rfl) rfl
theorem q1707 : (Jvm.Cond.code ({ cls := "java/lang/StringLatin1", name := "fillNull", desc := "([BII)V" } : Jvm.MethodName) prog_42_method_48_code (3 : Nat) (Option.none : Option Jvm.ClassFile.FieldType)) ∈ lw_all := lw_g (lw_at lw_m7 195 rfl) rfl
theorem q1708 : (Jvm.Cond.methodLink "java/lang/StringLatin1" (236 : Nat) ({ cls := "java/util/Arrays", name := "fill", desc := "([BIIB)V" } : Jvm.MethodName)) ∈ lw_all := lw_g (lw_at lw_m7 196 rfl) rfl
/-! java/lang/UnsupportedOperationException -/
def RJ22 : String := "java/lang/UnsupportedOperationException"
def TJ22 : u_T := fun k => match k with
  | 0 => ("java/lang/Throwable", "cause", "Ljava/lang/Throwable;", false)
  | 1 => ("java/lang/Throwable", "stackTrace", "[Ljava/lang/StackTraceElement;", false)
  | 2 => ("java/lang/Throwable", "suppressedExceptions", "Ljava/util/List;", false)
  | 3 => ("java/lang/Throwable", "detailMessage", "Ljava/lang/String;", false)
  | 4 => ("java/lang/Throwable", "backtrace", "Ljava/lang/Object;", false)
  | _ => ("java/lang/Throwable", "depth", "I", false)
def tyJ22 : Nat → FieldType := fun k => match k with
  | 0 => .object "java/lang/Throwable"
  | 1 => .array (.object "java/lang/StackTraceElement")
  | 2 => .object "java/util/List"
  | 3 => .object "java/lang/String"
  | 4 => .object "java/lang/Object"
  | _ => .int
abbrev wsJ220 : List Cond := u_ws RJ22 TJ22 6
theorem nmJ22 : ∀ a, a < 6 → ∀ b, b < 6 → a ≠ b → (TJ22 a).2.1 ≠ (TJ22 b).2.1 := by decide +kernel
theorem tyJ22_ok : ∀ k, k < 6 → parseFieldDescriptor (TJ22 k).2.2.1 = some (tyJ22 k) := by decide +kernel
abbrev cJ22_init : ByteArray := prog_46_method_1_code
def yJ22_init : MethodName := ⟨RJ22, "<init>", "()V"⟩
theorem q108 : (Jvm.Cond.initialized "java/lang/UnsupportedOperationException") ∈ lw_all := lw_g (lw_at lw_m1 36 rfl) rfl
theorem q516 : (Jvm.Cond.selects "java/lang/UnsupportedOperationException" ({ cls := "java/lang/Object", name := "getClass", desc := "()Ljava/lang/Class;" } : Jvm.MethodName) ({ cls := "java/lang/Object", name := "getClass", desc := "()Ljava/lang/Class;" } : Jvm.MethodName)) ∈ lw_all := lw_g (lw_at lw_m2 204 rfl) rfl
theorem q618 : (Jvm.Cond.selects "java/lang/UnsupportedOperationException" ({ cls := "java/lang/Throwable", name := "fillInStackTrace", desc := "()Ljava/lang/Throwable;" } : Jvm.MethodName) ({ cls := "java/lang/Throwable", name := "fillInStackTrace", desc := "()Ljava/lang/Throwable;" } : Jvm.MethodName)) ∈ lw_all := lw_g (lw_at lw_m3 66 rfl) rfl
theorem q940 : (Jvm.Cond.selects "java/lang/UnsupportedOperationException" ({ cls := "java/lang/Object", name := "equals", desc := "(Ljava/lang/Object;)Z" } : Jvm.MethodName) ({ cls := "java/lang/Object", name := "equals", desc := "(Ljava/lang/Object;)Z" } : Jvm.MethodName)) ∈ lw_all := lw_g (lw_at lw_m4 148 rfl) rfl
theorem q1014 : (Jvm.Cond.instantiable "java/lang/UnsupportedOperationException" (6 : Nat)) ∈ lw_all := lw_g (lw_at lw_m4 222 rfl) rfl
theorem q1015 : (Jvm.Cond.castable "java/lang/UnsupportedOperationException" "java/lang/UnsupportedOperationException") ∈ lw_tbl := lw_at lw_m4 223 rfl
theorem q1016 : (Jvm.Cond.selects "java/lang/UnsupportedOperationException" ({ cls := "java/lang/Throwable", name := "fillInStackTrace", desc := "(I)Ljava/lang/Throwable;" } : Jvm.MethodName) ({ cls := "java/lang/Throwable", name := "fillInStackTrace", desc := "(I)Ljava/lang/Throwable;" } : Jvm.MethodName)) ∈ lw_all := lw_g (lw_at lw_m4 224 rfl) rfl
theorem q1017 : (Jvm.Cond.lays "java/lang/UnsupportedOperationException" "java/lang/Throwable" "cause" "Ljava/lang/Throwable;") ∈ lw_all := lw_g (lw_at lw_m4 225 rfl) rfl
theorem q1018 : (Jvm.Cond.lays "java/lang/UnsupportedOperationException" "java/lang/Throwable" "stackTrace" "[Ljava/lang/StackTraceElement;") ∈ lw_all := lw_g (lw_at lw_m4 226 rfl) rfl
theorem q1019 : (Jvm.Cond.lays "java/lang/UnsupportedOperationException" "java/lang/Throwable" "suppressedExceptions" "Ljava/util/List;") ∈ lw_all := lw_g (lw_at lw_m4 227 rfl) rfl
theorem q1020 : (Jvm.Cond.lays "java/lang/UnsupportedOperationException" "java/lang/Throwable" "detailMessage" "Ljava/lang/String;") ∈ lw_all := lw_g (lw_at lw_m4 228 rfl) rfl
theorem q1021 : (Jvm.Cond.lays "java/lang/UnsupportedOperationException" "java/lang/Throwable" "backtrace" "Ljava/lang/Object;") ∈ lw_all := lw_g (lw_at lw_m4 229 rfl) rfl
theorem q1023 : (Jvm.Cond.instanceMethod ({ cls := "java/lang/UnsupportedOperationException", name := "<init>", desc := "()V" } : Jvm.MethodName)) ∈ lw_all := lw_g (lw_at lw_m4 231 rfl) rfl
theorem q1024 : (Jvm.Cond.code ({ cls := "java/lang/UnsupportedOperationException", name := "<init>", desc := "()V" } : Jvm.MethodName) prog_46_method_1_code (1 : Nat) (Option.none : Option Jvm.ClassFile.FieldType)) ∈ lw_all := lw_g (lw_at lw_m4 232 rfl) rfl
theorem q1025 : (Jvm.Cond.methodLink "java/lang/UnsupportedOperationException" (1 : Nat) ({ cls := "java/lang/RuntimeException", name := "<init>", desc := "()V" } : Jvm.MethodName)) ∈ lw_all := lw_g (lw_at lw_m4 233 rfl) rfl
theorem q1026 : (Jvm.Cond.lays "java/lang/UnsupportedOperationException" "java/lang/Throwable" "depth" "I") ∈ lw_all := lw_g (lw_at lw_m4 234 rfl) rfl
theorem q1027 : (Jvm.Cond.superclass "java/lang/UnsupportedOperationException" "java/lang/RuntimeException") ∈ lw_all := lw_g (lw_at lw_m4 235 rfl) rfl
theorem q2436 : (Jvm.Cond.castable "java/lang/UnsupportedOperationException" "java/lang/Object") ∈ lw_tbl := lw_at lw_m10 204 rfl
theorem in_J22 : ∀ w ∈ wsJ220, w ∈ lw_all := lw_in wsJ220 [1017, 1018, 1019, 1020, 1021, 1026] (by decide +kernel) (by decide +kernel)
/-! java/lang/ArrayIndexOutOfBoundsException -/
def RJ23 : String := "java/lang/ArrayIndexOutOfBoundsException"
def TJ23 : u_T := fun k => match k with
  | 0 => ("java/lang/Throwable", "backtrace", "Ljava/lang/Object;", false)
  | 1 => ("java/lang/Throwable", "detailMessage", "Ljava/lang/String;", false)
  | 2 => ("java/lang/Throwable", "cause", "Ljava/lang/Throwable;", false)
  | 3 => ("java/lang/Throwable", "stackTrace", "[Ljava/lang/StackTraceElement;", false)
  | 4 => ("java/lang/Throwable", "depth", "I", false)
  | _ => ("java/lang/Throwable", "suppressedExceptions", "Ljava/util/List;", false)
def tyJ23 : Nat → FieldType := fun k => match k with
  | 0 => .object "java/lang/Object"
  | 1 => .object "java/lang/String"
  | 2 => .object "java/lang/Throwable"
  | 3 => .array (.object "java/lang/StackTraceElement")
  | 4 => .int
  | _ => .object "java/util/List"
abbrev wsJ230 : List Cond := u_ws RJ23 TJ23 6
theorem nmJ23 : ∀ a, a < 6 → ∀ b, b < 6 → a ≠ b → (TJ23 a).2.1 ≠ (TJ23 b).2.1 := by decide +kernel
theorem tyJ23_ok : ∀ k, k < 6 → parseFieldDescriptor (TJ23 k).2.2.1 = some (tyJ23 k) := by decide +kernel
abbrev cJ23_init : ByteArray := prog_24_method_2_code
def yJ23_init : MethodName := ⟨RJ23, "<init>", "(Ljava/lang/String;)V"⟩
abbrev cJ23_init_2 : ByteArray := prog_24_method_3_code
def yJ23_init_2 : MethodName := ⟨RJ23, "<init>", "(I)V"⟩
theorem q109 : (Jvm.Cond.initialized "java/lang/ArrayIndexOutOfBoundsException") ∈ lw_all := lw_g (lw_at lw_m1 37 rfl) rfl
theorem q509 : (Jvm.Cond.selects "java/lang/ArrayIndexOutOfBoundsException" ({ cls := "java/lang/Object", name := "getClass", desc := "()Ljava/lang/Class;" } : Jvm.MethodName) ({ cls := "java/lang/Object", name := "getClass", desc := "()Ljava/lang/Class;" } : Jvm.MethodName)) ∈ lw_all := lw_g (lw_at lw_m2 197 rfl) rfl
theorem q614 : (Jvm.Cond.selects "java/lang/ArrayIndexOutOfBoundsException" ({ cls := "java/lang/Throwable", name := "fillInStackTrace", desc := "()Ljava/lang/Throwable;" } : Jvm.MethodName) ({ cls := "java/lang/Throwable", name := "fillInStackTrace", desc := "()Ljava/lang/Throwable;" } : Jvm.MethodName)) ∈ lw_all := lw_g (lw_at lw_m3 62 rfl) rfl
theorem q926 : (Jvm.Cond.selects "java/lang/ArrayIndexOutOfBoundsException" ({ cls := "java/lang/Object", name := "equals", desc := "(Ljava/lang/Object;)Z" } : Jvm.MethodName) ({ cls := "java/lang/Object", name := "equals", desc := "(Ljava/lang/Object;)Z" } : Jvm.MethodName)) ∈ lw_all := lw_g (lw_at lw_m4 134 rfl) rfl
theorem q1032 : (Jvm.Cond.instantiable "java/lang/ArrayIndexOutOfBoundsException" (6 : Nat)) ∈ lw_all := lw_g (lw_at lw_m5 0 rfl) rfl
theorem q1033 : (Jvm.Cond.instanceMethod ({ cls := "java/lang/ArrayIndexOutOfBoundsException", name := "<init>", desc := "(Ljava/lang/String;)V" } : Jvm.MethodName)) ∈ lw_all := lw_g (lw_at lw_m5 1 rfl) rfl
theorem q1034 : (Jvm.Cond.code ({ cls := "java/lang/ArrayIndexOutOfBoundsException", name := "<init>", desc := "(Ljava/lang/String;)V" } : Jvm.MethodName) prog_24_method_2_code (2 : Nat) (Option.none : Option Jvm.ClassFile.FieldType)) ∈ lw_all := lw_g (lw_at lw_m5 2 rfl) rfl
theorem q1035 : (Jvm.Cond.methodLink "java/lang/ArrayIndexOutOfBoundsException" (7 : Nat) ({ cls := "java/lang/IndexOutOfBoundsException", name := "<init>", desc := "(Ljava/lang/String;)V" } : Jvm.MethodName)) ∈ lw_all := lw_g (lw_at lw_m5 3 rfl) rfl
theorem q1039 : (Jvm.Cond.lays "java/lang/ArrayIndexOutOfBoundsException" "java/lang/Throwable" "backtrace" "Ljava/lang/Object;") ∈ lw_all := lw_g (lw_at lw_m5 7 rfl) rfl
theorem q1040 : (Jvm.Cond.lays "java/lang/ArrayIndexOutOfBoundsException" "java/lang/Throwable" "detailMessage" "Ljava/lang/String;") ∈ lw_all := lw_g (lw_at lw_m5 8 rfl) rfl
theorem q1041 : (Jvm.Cond.lays "java/lang/ArrayIndexOutOfBoundsException" "java/lang/Throwable" "cause" "Ljava/lang/Throwable;") ∈ lw_all := lw_g (lw_at lw_m5 9 rfl) rfl
theorem q1042 : (Jvm.Cond.lays "java/lang/ArrayIndexOutOfBoundsException" "java/lang/Throwable" "stackTrace" "[Ljava/lang/StackTraceElement;") ∈ lw_all := lw_g (lw_at lw_m5 10 rfl) rfl
theorem q1043 : (Jvm.Cond.lays "java/lang/ArrayIndexOutOfBoundsException" "java/lang/Throwable" "depth" "I") ∈ lw_all := lw_g (lw_at lw_m5 11 rfl) rfl
theorem q1044 : (Jvm.Cond.lays "java/lang/ArrayIndexOutOfBoundsException" "java/lang/Throwable" "suppressedExceptions" "Ljava/util/List;") ∈ lw_all := lw_g (lw_at lw_m5 12 rfl) rfl
theorem q1045 : (Jvm.Cond.superclass "java/lang/ArrayIndexOutOfBoundsException" "java/lang/IndexOutOfBoundsException") ∈ lw_all := lw_g (lw_at lw_m5 13 rfl) rfl
theorem q1046 : (Jvm.Cond.castable "java/lang/ArrayIndexOutOfBoundsException" "java/lang/ArrayIndexOutOfBoundsException") ∈ lw_tbl := lw_at lw_m5 14 rfl
theorem q1049 : (Jvm.Cond.selects "java/lang/ArrayIndexOutOfBoundsException" ({ cls := "java/lang/Throwable", name := "fillInStackTrace", desc := "(I)Ljava/lang/Throwable;" } : Jvm.MethodName) ({ cls := "java/lang/Throwable", name := "fillInStackTrace", desc := "(I)Ljava/lang/Throwable;" } : Jvm.MethodName)) ∈ lw_all := lw_g (lw_at lw_m5 17 rfl) rfl
theorem q1719 : (Jvm.Cond.instanceMethod ({ cls := "java/lang/ArrayIndexOutOfBoundsException", name := "<init>", desc := "(I)V" } : Jvm.MethodName)) ∈ lw_all := lw_g (lw_at lw_m7 207 rfl) rfl
theorem q1720 : (Jvm.Cond.code ({ cls := "java/lang/ArrayIndexOutOfBoundsException", name := "<init>", desc := "(I)V" } : Jvm.MethodName) prog_24_method_3_code (2 : Nat) (Option.none : Option Jvm.ClassFile.FieldType)) ∈ lw_all := lw_g (lw_at lw_m7 208 rfl) rfl
theorem q1721 : (Jvm.Cond.classLink "java/lang/ArrayIndexOutOfBoundsException" (10 : Nat) "java/lang/StringBuilder") ∈ lw_all := lw_g (lw_at lw_m7 209 rfl) rfl
theorem q1722 : (Jvm.Cond.methodLink "java/lang/ArrayIndexOutOfBoundsException" (12 : Nat) ({ cls := "java/lang/StringBuilder", name := "<init>", desc := "()V" } : Jvm.MethodName)) ∈ lw_all := lw_g (lw_at lw_m7 210 rfl) rfl
theorem q1723 : (Jvm.Cond.stringRef "java/lang/ArrayIndexOutOfBoundsException" (13 : Nat) "Array index out of range: ") ∈ lw_tbl := lw_at lw_m7 211 rfl
theorem q1724 : (Jvm.Cond.methodLink "java/lang/ArrayIndexOutOfBoundsException" (15 : Nat) ({ cls := "java/lang/StringBuilder", name := "append", desc := "(Ljava/lang/String;)Ljava/lang/StringBuilder;" } : Jvm.MethodName)) ∈ lw_all := lw_g (lw_at lw_m7 212 rfl) rfl
theorem q1725 : (Jvm.Cond.methodLink "java/lang/ArrayIndexOutOfBoundsException" (19 : Nat) ({ cls := "java/lang/StringBuilder", name := "append", desc := "(I)Ljava/lang/StringBuilder;" } : Jvm.MethodName)) ∈ lw_all := lw_g (lw_at lw_m7 213 rfl) rfl
theorem q1726 : (Jvm.Cond.methodLink "java/lang/ArrayIndexOutOfBoundsException" (22 : Nat) ({ cls := "java/lang/StringBuilder", name := "toString", desc := "()Ljava/lang/String;" } : Jvm.MethodName)) ∈ lw_all := lw_g (lw_at lw_m7 214 rfl) rfl
theorem q2414 : (Jvm.Cond.castable "java/lang/ArrayIndexOutOfBoundsException" "java/lang/IndexOutOfBoundsException") ∈ lw_tbl := lw_at lw_m10 182 rfl
theorem q2437 : (Jvm.Cond.castable "java/lang/ArrayIndexOutOfBoundsException" "java/lang/Object") ∈ lw_tbl := lw_at lw_m10 205 rfl
theorem in_J23 : ∀ w ∈ wsJ230, w ∈ lw_all := lw_in wsJ230 [1039, 1040, 1041, 1042, 1043, 1044] (by decide +kernel) (by decide +kernel)
/-! PuddleBoatyard$Yard$Matching -/
def RX11 : String := "PuddleBoatyard$Yard$Matching"
def TX11 : u_T := fun k => match k with
  | 0 => ("PuddleBoatyard$Yard$Matching", "onSlip", "[I", true)
  | 1 => ("PuddleBoatyard$Yard$Matching", "isTried", "[Z", true)
  | 2 => ("PuddleBoatyard$Yard$Matching", "size", "I", false)
  | _ => ("PuddleBoatyard$Yard$Matching", "this$0", "LPuddleBoatyard$Yard;", true)
def tyX11 : Nat → FieldType := fun k => match k with
  | 0 => .array .int
  | 1 => .array .boolean
  | 2 => .int
  | _ => .object "PuddleBoatyard$Yard"
abbrev wsX110 : List Cond := u_ws RX11 TX11 4
theorem nmX11 : ∀ a, a < 4 → ∀ b, b < 4 → a ≠ b → (TX11 a).2.1 ≠ (TX11 b).2.1 := by decide +kernel
theorem tyX11_ok : ∀ k, k < 4 → parseFieldDescriptor (TX11 k).2.2.1 = some (tyX11 k) := by decide +kernel
abbrev cX11_init : ByteArray := prog_17_method_1_code
def yX11_init : MethodName := ⟨RX11, "<init>", "(LPuddleBoatyard$Yard;)V"⟩
abbrev cX11_finds : ByteArray := prog_17_method_2_code
def yX11_finds : MethodName := ⟨RX11, "finds", "(I)Z"⟩
theorem q110 : (Jvm.Cond.initialized "PuddleBoatyard$Yard$Matching") ∈ lw_all := lw_g (lw_at lw_m1 38 rfl) rfl
theorem q161 : (Jvm.Cond.fieldLink "PuddleBoatyard$Yard$Matching" (23 : Nat) "PuddleBoatyard$Yard" "hulls" "Ljava/util/ArrayList;") ∈ lw_all := lw_g (lw_at lw_m1 89 rfl) rfl
theorem q298 : (Jvm.Cond.instantiable "PuddleBoatyard$Yard$Matching" (4 : Nat)) ∈ lw_all := lw_g (lw_at lw_m1 226 rfl) rfl
theorem q300 : (Jvm.Cond.instanceMethod ({ cls := "PuddleBoatyard$Yard$Matching", name := "<init>", desc := "(LPuddleBoatyard$Yard;)V" } : Jvm.MethodName)) ∈ lw_all := lw_g (lw_at lw_m1 228 rfl) rfl
theorem q301 : (Jvm.Cond.code ({ cls := "PuddleBoatyard$Yard$Matching", name := "<init>", desc := "(LPuddleBoatyard$Yard;)V" } : Jvm.MethodName) prog_17_method_1_code (4 : Nat) (Option.none : Option Jvm.ClassFile.FieldType)) ∈ lw_all := lw_g (lw_at lw_m1 229 rfl) rfl
theorem q302 : (Jvm.Cond.methodLink "PuddleBoatyard$Yard$Matching" (9 : Nat) ({ cls := "java/lang/Object", name := "<init>", desc := "()V" } : Jvm.MethodName)) ∈ lw_all := lw_g (lw_at lw_m1 230 rfl) rfl
theorem q303 : (Jvm.Cond.methodLink "PuddleBoatyard$Yard$Matching" (29 : Nat) ({ cls := "java/util/ArrayList", name := "size", desc := "()I" } : Jvm.MethodName)) ∈ lw_all := lw_g (lw_at lw_m1 231 rfl) rfl
theorem q304 : (Jvm.Cond.methodLink "PuddleBoatyard$Yard$Matching" (38 : Nat) ({ cls := "PuddleBoatyard$Yard$Matching", name := "finds", desc := "(I)Z" } : Jvm.MethodName)) ∈ lw_all := lw_g (lw_at lw_m1 232 rfl) rfl
theorem q305 : (Jvm.Cond.privateMethod ({ cls := "PuddleBoatyard$Yard$Matching", name := "finds", desc := "(I)Z" } : Jvm.MethodName)) ∈ lw_tbl := lw_at lw_m1 233 rfl
theorem q306 : (Jvm.Cond.instanceMethod ({ cls := "PuddleBoatyard$Yard$Matching", name := "finds", desc := "(I)Z" } : Jvm.MethodName)) ∈ lw_all := lw_g (lw_at lw_m1 234 rfl) rfl
theorem q307 : (Jvm.Cond.code ({ cls := "PuddleBoatyard$Yard$Matching", name := "finds", desc := "(I)Z" } : Jvm.MethodName) prog_17_method_2_code (3 : Nat) (Option.some Jvm.ClassFile.FieldType.boolean)) ∈ lw_all := lw_g (lw_at lw_m1 235 rfl) rfl
theorem q308 : (Jvm.Cond.methodLink "PuddleBoatyard$Yard$Matching" (42 : Nat) ({ cls := "PuddleBoatyard$Yard", name := "fits", desc := "(II)Z" } : Jvm.MethodName)) ∈ lw_all := lw_g (lw_at lw_m1 236 rfl) rfl
theorem q338 : (Jvm.Cond.fieldLink "PuddleBoatyard$Yard$Matching" (15 : Nat) "PuddleBoatyard$Yard$Matching" "onSlip" "[I") ∈ lw_all := lw_g (lw_at lw_m2 26 rfl) rfl
theorem q339 : (Jvm.Cond.fieldLink "PuddleBoatyard$Yard$Matching" (19 : Nat) "PuddleBoatyard$Yard$Matching" "isTried" "[Z") ∈ lw_all := lw_g (lw_at lw_m2 27 rfl) rfl
theorem q340 : (Jvm.Cond.fieldLink "PuddleBoatyard$Yard$Matching" (35 : Nat) "PuddleBoatyard$Yard$Matching" "size" "I") ∈ lw_all := lw_g (lw_at lw_m2 28 rfl) rfl
theorem q342 : (Jvm.Cond.fieldLink "PuddleBoatyard$Yard$Matching" (3 : Nat) "PuddleBoatyard$Yard$Matching" "this$0" "LPuddleBoatyard$Yard;") ∈ lw_all := lw_g (lw_at lw_m2 30 rfl) rfl
theorem q343 : (Jvm.Cond.laysFinal "PuddleBoatyard$Yard$Matching" "PuddleBoatyard$Yard$Matching" "onSlip" "[I") ∈ lw_all := lw_g (lw_at lw_m2 31 rfl) rfl
theorem q344 : (Jvm.Cond.soleField "PuddleBoatyard$Yard$Matching" "onSlip") ∈ lw_all := lw_g (lw_at lw_m2 32 rfl) rfl
theorem q345 : (Jvm.Cond.laysFinal "PuddleBoatyard$Yard$Matching" "PuddleBoatyard$Yard$Matching" "isTried" "[Z") ∈ lw_all := lw_g (lw_at lw_m2 33 rfl) rfl
theorem q346 : (Jvm.Cond.soleField "PuddleBoatyard$Yard$Matching" "isTried") ∈ lw_all := lw_g (lw_at lw_m2 34 rfl) rfl
theorem q347 : (Jvm.Cond.lays "PuddleBoatyard$Yard$Matching" "PuddleBoatyard$Yard$Matching" "size" "I") ∈ lw_all := lw_g (lw_at lw_m2 35 rfl) rfl
theorem q348 : (Jvm.Cond.soleField "PuddleBoatyard$Yard$Matching" "size") ∈ lw_all := lw_g (lw_at lw_m2 36 rfl) rfl
theorem q349 : (Jvm.Cond.laysFinal "PuddleBoatyard$Yard$Matching" "PuddleBoatyard$Yard$Matching" "this$0" "LPuddleBoatyard$Yard;") ∈ lw_all := lw_g (lw_at lw_m2 37 rfl) rfl
theorem q350 : (Jvm.Cond.soleField "PuddleBoatyard$Yard$Matching" "this$0") ∈ lw_all := lw_g (lw_at lw_m2 38 rfl) rfl
theorem q351 : (Jvm.Cond.superclass "PuddleBoatyard$Yard$Matching" "java/lang/Object") ∈ lw_all := lw_g (lw_at lw_m2 39 rfl) rfl
theorem q506 : (Jvm.Cond.selects "PuddleBoatyard$Yard$Matching" ({ cls := "java/lang/Object", name := "getClass", desc := "()Ljava/lang/Class;" } : Jvm.MethodName) ({ cls := "java/lang/Object", name := "getClass", desc := "()Ljava/lang/Class;" } : Jvm.MethodName)) ∈ lw_all := lw_g (lw_at lw_m2 194 rfl) rfl
theorem q923 : (Jvm.Cond.selects "PuddleBoatyard$Yard$Matching" ({ cls := "java/lang/Object", name := "equals", desc := "(Ljava/lang/Object;)Z" } : Jvm.MethodName) ({ cls := "java/lang/Object", name := "equals", desc := "(Ljava/lang/Object;)Z" } : Jvm.MethodName)) ∈ lw_all := lw_g (lw_at lw_m4 131 rfl) rfl
theorem q2438 : (Jvm.Cond.castable "PuddleBoatyard$Yard$Matching" "java/lang/Object") ∈ lw_tbl := lw_at lw_m10 206 rfl
theorem in_X11 : ∀ w ∈ wsX110, w ∈ lw_all := lw_in wsX110 [343, 345, 347, 349] (by decide +kernel) (by decide +kernel)
/-! java/lang/ArithmeticException -/
def RJ24 : String := "java/lang/ArithmeticException"
def TJ24 : u_T := fun k => match k with
  | 0 => ("java/lang/Throwable", "backtrace", "Ljava/lang/Object;", false)
  | 1 => ("java/lang/Throwable", "detailMessage", "Ljava/lang/String;", false)
  | 2 => ("java/lang/Throwable", "cause", "Ljava/lang/Throwable;", false)
  | 3 => ("java/lang/Throwable", "stackTrace", "[Ljava/lang/StackTraceElement;", false)
  | 4 => ("java/lang/Throwable", "depth", "I", false)
  | _ => ("java/lang/Throwable", "suppressedExceptions", "Ljava/util/List;", false)
def tyJ24 : Nat → FieldType := fun k => match k with
  | 0 => .object "java/lang/Object"
  | 1 => .object "java/lang/String"
  | 2 => .object "java/lang/Throwable"
  | 3 => .array (.object "java/lang/StackTraceElement")
  | 4 => .int
  | _ => .object "java/util/List"
abbrev wsJ240 : List Cond := u_ws RJ24 TJ24 6
theorem nmJ24 : ∀ a, a < 6 → ∀ b, b < 6 → a ≠ b → (TJ24 a).2.1 ≠ (TJ24 b).2.1 := by decide +kernel
theorem tyJ24_ok : ∀ k, k < 6 → parseFieldDescriptor (TJ24 k).2.2.1 = some (tyJ24 k) := by decide +kernel
abbrev cJ24_init : ByteArray := prog_23_method_2_code
def yJ24_init : MethodName := ⟨RJ24, "<init>", "(Ljava/lang/String;)V"⟩
abbrev cJ24_init_2 : ByteArray := prog_23_method_1_code
def yJ24_init_2 : MethodName := ⟨RJ24, "<init>", "()V"⟩
theorem q111 : (Jvm.Cond.initialized "java/lang/ArithmeticException") ∈ lw_all := lw_g (lw_at lw_m1 39 rfl) rfl
theorem q508 : (Jvm.Cond.selects "java/lang/ArithmeticException" ({ cls := "java/lang/Object", name := "getClass", desc := "()Ljava/lang/Class;" } : Jvm.MethodName) ({ cls := "java/lang/Object", name := "getClass", desc := "()Ljava/lang/Class;" } : Jvm.MethodName)) ∈ lw_all := lw_g (lw_at lw_m2 196 rfl) rfl
theorem q613 : (Jvm.Cond.selects "java/lang/ArithmeticException" ({ cls := "java/lang/Throwable", name := "fillInStackTrace", desc := "()Ljava/lang/Throwable;" } : Jvm.MethodName) ({ cls := "java/lang/Throwable", name := "fillInStackTrace", desc := "()Ljava/lang/Throwable;" } : Jvm.MethodName)) ∈ lw_all := lw_g (lw_at lw_m3 61 rfl) rfl
theorem q925 : (Jvm.Cond.selects "java/lang/ArithmeticException" ({ cls := "java/lang/Object", name := "equals", desc := "(Ljava/lang/Object;)Z" } : Jvm.MethodName) ({ cls := "java/lang/Object", name := "equals", desc := "(Ljava/lang/Object;)Z" } : Jvm.MethodName)) ∈ lw_all := lw_g (lw_at lw_m4 133 rfl) rfl
theorem q1374 : (Jvm.Cond.instantiable "java/lang/ArithmeticException" (6 : Nat)) ∈ lw_all := lw_g (lw_at lw_m6 102 rfl) rfl
theorem q1375 : (Jvm.Cond.instanceMethod ({ cls := "java/lang/ArithmeticException", name := "<init>", desc := "(Ljava/lang/String;)V" } : Jvm.MethodName)) ∈ lw_all := lw_g (lw_at lw_m6 103 rfl) rfl
theorem q1376 : (Jvm.Cond.code ({ cls := "java/lang/ArithmeticException", name := "<init>", desc := "(Ljava/lang/String;)V" } : Jvm.MethodName) prog_23_method_2_code (2 : Nat) (Option.none : Option Jvm.ClassFile.FieldType)) ∈ lw_all := lw_g (lw_at lw_m6 104 rfl) rfl
theorem q1377 : (Jvm.Cond.methodLink "java/lang/ArithmeticException" (7 : Nat) ({ cls := "java/lang/RuntimeException", name := "<init>", desc := "(Ljava/lang/String;)V" } : Jvm.MethodName)) ∈ lw_all := lw_g (lw_at lw_m6 105 rfl) rfl
theorem q1378 : (Jvm.Cond.lays "java/lang/ArithmeticException" "java/lang/Throwable" "backtrace" "Ljava/lang/Object;") ∈ lw_all := lw_g (lw_at lw_m6 106 rfl) rfl
theorem q1379 : (Jvm.Cond.lays "java/lang/ArithmeticException" "java/lang/Throwable" "detailMessage" "Ljava/lang/String;") ∈ lw_all := lw_g (lw_at lw_m6 107 rfl) rfl
theorem q1380 : (Jvm.Cond.lays "java/lang/ArithmeticException" "java/lang/Throwable" "cause" "Ljava/lang/Throwable;") ∈ lw_all := lw_g (lw_at lw_m6 108 rfl) rfl
theorem q1381 : (Jvm.Cond.lays "java/lang/ArithmeticException" "java/lang/Throwable" "stackTrace" "[Ljava/lang/StackTraceElement;") ∈ lw_all := lw_g (lw_at lw_m6 109 rfl) rfl
theorem q1382 : (Jvm.Cond.lays "java/lang/ArithmeticException" "java/lang/Throwable" "depth" "I") ∈ lw_all := lw_g (lw_at lw_m6 110 rfl) rfl
theorem q1383 : (Jvm.Cond.lays "java/lang/ArithmeticException" "java/lang/Throwable" "suppressedExceptions" "Ljava/util/List;") ∈ lw_all := lw_g (lw_at lw_m6 111 rfl) rfl
theorem q1384 : (Jvm.Cond.superclass "java/lang/ArithmeticException" "java/lang/RuntimeException") ∈ lw_all := lw_g (lw_at lw_m6 112 rfl) rfl
theorem q1385 : (Jvm.Cond.castable "java/lang/ArithmeticException" "java/lang/ArithmeticException") ∈ lw_tbl := lw_at lw_m6 113 rfl
theorem q1386 : (Jvm.Cond.selects "java/lang/ArithmeticException" ({ cls := "java/lang/Throwable", name := "fillInStackTrace", desc := "(I)Ljava/lang/Throwable;" } : Jvm.MethodName) ({ cls := "java/lang/Throwable", name := "fillInStackTrace", desc := "(I)Ljava/lang/Throwable;" } : Jvm.MethodName)) ∈ lw_all := lw_g (lw_at lw_m6 114 rfl) rfl
theorem q1397 : (Jvm.Cond.instanceMethod ({ cls := "java/lang/ArithmeticException", name := "<init>", desc := "()V" } : Jvm.MethodName)) ∈ lw_all := lw_g (lw_at lw_m6 125 rfl) rfl
theorem q1398 : (Jvm.Cond.code ({ cls := "java/lang/ArithmeticException", name := "<init>", desc := "()V" } : Jvm.MethodName) prog_23_method_1_code (1 : Nat) (Option.none : Option Jvm.ClassFile.FieldType)) ∈ lw_all := lw_g (lw_at lw_m6 126 rfl) rfl
theorem q1399 : (Jvm.Cond.methodLink "java/lang/ArithmeticException" (1 : Nat) ({ cls := "java/lang/RuntimeException", name := "<init>", desc := "()V" } : Jvm.MethodName)) ∈ lw_all := lw_g (lw_at lw_m6 127 rfl) rfl
theorem q2439 : (Jvm.Cond.castable "java/lang/ArithmeticException" "java/lang/Object") ∈ lw_tbl := lw_at lw_m10 207 rfl
theorem in_J24 : ∀ w ∈ wsJ240, w ∈ lw_all := lw_in wsJ240 [1378, 1379, 1380, 1381, 1382, 1383] (by decide +kernel) (by decide +kernel)
/-! java/lang/Integer -/
def RJ25 : String := "java/lang/Integer"
abbrev cJ25_stringSize : ByteArray := prog_34_method_13_code
def yJ25_stringSize : MethodName := ⟨RJ25, "stringSize", "(I)I"⟩
abbrev cJ25_getChars : ByteArray := prog_34_method_12_code
def yJ25_getChars : MethodName := ⟨RJ25, "getChars", "(II[B)I"⟩
theorem q113 : (Jvm.Cond.initialized "java/lang/Integer") ∈ lw_all := lw_g (lw_at lw_m1 41 rfl) rfl
theorem q1421 : (Jvm.Cond.static ({ cls := "java/lang/Integer", name := "stringSize", desc := "(I)I" } : Jvm.MethodName)) ∈ lw_all := lw_g (lw_at lw_m6 149 rfl) rfl
theorem q1422 : (Jvm.Cond.code ({ cls := "java/lang/Integer", name := "stringSize", desc := "(I)I" } : Jvm.MethodName) prog_34_method_13_code (4 : Nat) (Option.some Jvm.ClassFile.FieldType.int)) ∈ lw_all := lw_g (lw_at lw_m6 150 rfl) rfl
theorem q1449 : (Jvm.Cond.static ({ cls := "java/lang/Integer", name := "getChars", desc := "(II[B)I" } : Jvm.MethodName)) ∈ lw_all := lw_g (lw_at lw_m6 177 rfl) rfl
theorem q1450 : (Jvm.Cond.code ({ cls := "java/lang/Integer", name := "getChars", desc := "(II[B)I" } : Jvm.MethodName) prog_34_method_12_code (7 : Nat) (Option.some Jvm.ClassFile.FieldType.int)) ∈ lw_all := lw_g (lw_at lw_m6 178 rfl) rfl
theorem q1451 : (Jvm.Cond.fieldLink "java/lang/Integer" (83 : Nat) "java/lang/Integer" "DigitOnes" "[B") ∈ lw_all := lw_g (lw_at lw_m6 179 rfl) rfl
theorem q1452 : (Jvm.Cond.laysStatic "java/lang/Integer" "DigitOnes" "[B") ∈ lw_tbl := lw_at lw_m6 180 rfl
theorem q1453 : (Jvm.Cond.fieldLink "java/lang/Integer" (87 : Nat) "java/lang/Integer" "DigitTens" "[B") ∈ lw_all := lw_g (lw_at lw_m6 181 rfl) rfl
theorem q1454 : (Jvm.Cond.laysStatic "java/lang/Integer" "DigitTens" "[B") ∈ lw_tbl := lw_at lw_m6 182 rfl
/-! java/lang/StringIndexOutOfBoundsException -/
def RJ26 : String := "java/lang/StringIndexOutOfBoundsException"
def TJ26 : u_T := fun k => match k with
  | 0 => ("java/lang/Throwable", "backtrace", "Ljava/lang/Object;", false)
  | 1 => ("java/lang/Throwable", "detailMessage", "Ljava/lang/String;", false)
  | 2 => ("java/lang/Throwable", "cause", "Ljava/lang/Throwable;", false)
  | 3 => ("java/lang/Throwable", "stackTrace", "[Ljava/lang/StackTraceElement;", false)
  | 4 => ("java/lang/Throwable", "depth", "I", false)
  | _ => ("java/lang/Throwable", "suppressedExceptions", "Ljava/util/List;", false)
def tyJ26 : Nat → FieldType := fun k => match k with
  | 0 => .object "java/lang/Object"
  | 1 => .object "java/lang/String"
  | 2 => .object "java/lang/Throwable"
  | 3 => .array (.object "java/lang/StackTraceElement")
  | 4 => .int
  | _ => .object "java/util/List"
abbrev wsJ260 : List Cond := u_ws RJ26 TJ26 6
theorem nmJ26 : ∀ a, a < 6 → ∀ b, b < 6 → a ≠ b → (TJ26 a).2.1 ≠ (TJ26 b).2.1 := by decide +kernel
theorem tyJ26_ok : ∀ k, k < 6 → parseFieldDescriptor (TJ26 k).2.2.1 = some (tyJ26 k) := by decide +kernel
abbrev cJ26_init : ByteArray := prog_41_method_3_code
def yJ26_init : MethodName := ⟨RJ26, "<init>", "(I)V"⟩
theorem q114 : (Jvm.Cond.initialized "java/lang/StringIndexOutOfBoundsException") ∈ lw_all := lw_g (lw_at lw_m1 42 rfl) rfl
theorem q515 : (Jvm.Cond.selects "java/lang/StringIndexOutOfBoundsException" ({ cls := "java/lang/Object", name := "getClass", desc := "()Ljava/lang/Class;" } : Jvm.MethodName) ({ cls := "java/lang/Object", name := "getClass", desc := "()Ljava/lang/Class;" } : Jvm.MethodName)) ∈ lw_all := lw_g (lw_at lw_m2 203 rfl) rfl
theorem q617 : (Jvm.Cond.selects "java/lang/StringIndexOutOfBoundsException" ({ cls := "java/lang/Throwable", name := "fillInStackTrace", desc := "()Ljava/lang/Throwable;" } : Jvm.MethodName) ({ cls := "java/lang/Throwable", name := "fillInStackTrace", desc := "()Ljava/lang/Throwable;" } : Jvm.MethodName)) ∈ lw_all := lw_g (lw_at lw_m3 65 rfl) rfl
theorem q939 : (Jvm.Cond.selects "java/lang/StringIndexOutOfBoundsException" ({ cls := "java/lang/Object", name := "equals", desc := "(Ljava/lang/Object;)Z" } : Jvm.MethodName) ({ cls := "java/lang/Object", name := "equals", desc := "(Ljava/lang/Object;)Z" } : Jvm.MethodName)) ∈ lw_all := lw_g (lw_at lw_m4 147 rfl) rfl
theorem q1687 : (Jvm.Cond.instantiable "java/lang/StringIndexOutOfBoundsException" (6 : Nat)) ∈ lw_all := lw_g (lw_at lw_m7 175 rfl) rfl
theorem q1689 : (Jvm.Cond.instanceMethod ({ cls := "java/lang/StringIndexOutOfBoundsException", name := "<init>", desc := "(I)V" } : Jvm.MethodName)) ∈ lw_all := lw_g (lw_at lw_m7 177 rfl) rfl
theorem q1690 : (Jvm.Cond.code ({ cls := "java/lang/StringIndexOutOfBoundsException", name := "<init>", desc := "(I)V" } : Jvm.MethodName) prog_41_method_3_code (2 : Nat) (Option.none : Option Jvm.ClassFile.FieldType)) ∈ lw_all := lw_g (lw_at lw_m7 178 rfl) rfl
theorem q1691 : (Jvm.Cond.classLink "java/lang/StringIndexOutOfBoundsException" (10 : Nat) "java/lang/StringBuilder") ∈ lw_all := lw_g (lw_at lw_m7 179 rfl) rfl
theorem q1692 : (Jvm.Cond.methodLink "java/lang/StringIndexOutOfBoundsException" (12 : Nat) ({ cls := "java/lang/StringBuilder", name := "<init>", desc := "()V" } : Jvm.MethodName)) ∈ lw_all := lw_g (lw_at lw_m7 180 rfl) rfl
theorem q1693 : (Jvm.Cond.stringRef "java/lang/StringIndexOutOfBoundsException" (13 : Nat) "String index out of range: ") ∈ lw_tbl := lw_at lw_m7 181 rfl
theorem q1694 : (Jvm.Cond.methodLink "java/lang/StringIndexOutOfBoundsException" (15 : Nat) ({ cls := "java/lang/StringBuilder", name := "append", desc := "(Ljava/lang/String;)Ljava/lang/StringBuilder;" } : Jvm.MethodName)) ∈ lw_all := lw_g (lw_at lw_m7 182 rfl) rfl
theorem q1695 : (Jvm.Cond.methodLink "java/lang/StringIndexOutOfBoundsException" (19 : Nat) ({ cls := "java/lang/StringBuilder", name := "append", desc := "(I)Ljava/lang/StringBuilder;" } : Jvm.MethodName)) ∈ lw_all := lw_g (lw_at lw_m7 183 rfl) rfl
theorem q1696 : (Jvm.Cond.methodLink "java/lang/StringIndexOutOfBoundsException" (22 : Nat) ({ cls := "java/lang/StringBuilder", name := "toString", desc := "()Ljava/lang/String;" } : Jvm.MethodName)) ∈ lw_all := lw_g (lw_at lw_m7 184 rfl) rfl
theorem q1697 : (Jvm.Cond.methodLink "java/lang/StringIndexOutOfBoundsException" (7 : Nat) ({ cls := "java/lang/IndexOutOfBoundsException", name := "<init>", desc := "(Ljava/lang/String;)V" } : Jvm.MethodName)) ∈ lw_all := lw_g (lw_at lw_m7 185 rfl) rfl
theorem q1698 : (Jvm.Cond.lays "java/lang/StringIndexOutOfBoundsException" "java/lang/Throwable" "backtrace" "Ljava/lang/Object;") ∈ lw_all := lw_g (lw_at lw_m7 186 rfl) rfl
theorem q1699 : (Jvm.Cond.lays "java/lang/StringIndexOutOfBoundsException" "java/lang/Throwable" "detailMessage" "Ljava/lang/String;") ∈ lw_all := lw_g (lw_at lw_m7 187 rfl) rfl
theorem q1700 : (Jvm.Cond.lays "java/lang/StringIndexOutOfBoundsException" "java/lang/Throwable" "cause" "Ljava/lang/Throwable;") ∈ lw_all := lw_g (lw_at lw_m7 188 rfl) rfl
theorem q1701 : (Jvm.Cond.lays "java/lang/StringIndexOutOfBoundsException" "java/lang/Throwable" "stackTrace" "[Ljava/lang/StackTraceElement;") ∈ lw_all := lw_g (lw_at lw_m7 189 rfl) rfl
theorem q1702 : (Jvm.Cond.lays "java/lang/StringIndexOutOfBoundsException" "java/lang/Throwable" "depth" "I") ∈ lw_all := lw_g (lw_at lw_m7 190 rfl) rfl
theorem q1703 : (Jvm.Cond.lays "java/lang/StringIndexOutOfBoundsException" "java/lang/Throwable" "suppressedExceptions" "Ljava/util/List;") ∈ lw_all := lw_g (lw_at lw_m7 191 rfl) rfl
theorem q1704 : (Jvm.Cond.superclass "java/lang/StringIndexOutOfBoundsException" "java/lang/IndexOutOfBoundsException") ∈ lw_all := lw_g (lw_at lw_m7 192 rfl) rfl
theorem q2415 : (Jvm.Cond.castable "java/lang/StringIndexOutOfBoundsException" "java/lang/IndexOutOfBoundsException") ∈ lw_tbl := lw_at lw_m10 183 rfl
theorem q2441 : (Jvm.Cond.castable "java/lang/StringIndexOutOfBoundsException" "java/lang/Object") ∈ lw_tbl := lw_at lw_m10 209 rfl
theorem in_J26 : ∀ w ∈ wsJ260, w ∈ lw_all := lw_in wsJ260 [1698, 1699, 1700, 1701, 1702, 1703] (by decide +kernel) (by decide +kernel)
/-! PuddleBoatyard$Parser -/
def RX12 : String := "PuddleBoatyard$Parser"
def TX12 : u_T := fun k => match k with
  | 0 => ("PuddleBoatyard$Parser", "text", "Ljava/lang/String;", true)
  | _ => ("PuddleBoatyard$Parser", "next", "I", false)
def tyX12 : Nat → FieldType := fun k => match k with
  | 0 => .object "java/lang/String"
  | _ => .int
abbrev wsX120 : List Cond := u_ws RX12 TX12 2
theorem nmX12 : ∀ a, a < 2 → ∀ b, b < 2 → a ≠ b → (TX12 a).2.1 ≠ (TX12 b).2.1 := by decide +kernel
theorem tyX12_ok : ∀ k, k < 2 → parseFieldDescriptor (TX12 k).2.2.1 = some (tyX12 k) := by decide +kernel
abbrev cX12_init : ByteArray := prog_9_method_1_code
def yX12_init : MethodName := ⟨RX12, "<init>", "(Ljava/lang/String;)V"⟩
abbrev cX12_program : ByteArray := prog_9_method_8_code
def yX12_program : MethodName := ⟨RX12, "program", "()Ljava/util/ArrayList;"⟩
abbrev cX12_command : ByteArray := prog_9_method_7_code
def yX12_command : MethodName := ⟨RX12, "command", "()LPuddleBoatyard$Operation;"⟩
abbrev cX12_peek : ByteArray := prog_9_method_2_code
def yX12_peek : MethodName := ⟨RX12, "peek", "()C"⟩
abbrev cX12_hullOrHours : ByteArray := prog_9_method_5_code
def yX12_hullOrHours : MethodName := ⟨RX12, "hullOrHours", "()LPuddleBoatyard$Operation;"⟩
abbrev cX12_expect : ByteArray := prog_9_method_3_code
def yX12_expect : MethodName := ⟨RX12, "expect", "(Ljava/lang/String;)V"⟩
abbrev cX12_number : ByteArray := prog_9_method_4_code
def yX12_number : MethodName := ⟨RX12, "number", "(Ljava/lang/String;I)I"⟩
abbrev cX12_cargoOrCaulk : ByteArray := prog_9_method_6_code
def yX12_cargoOrCaulk : MethodName := ⟨RX12, "cargoOrCaulk", "()LPuddleBoatyard$Operation;"⟩
theorem q115 : (Jvm.Cond.initialized "PuddleBoatyard$Parser") ∈ lw_all := lw_g (lw_at lw_m1 43 rfl) rfl
theorem q499 : (Jvm.Cond.selects "PuddleBoatyard$Parser" ({ cls := "java/lang/Object", name := "getClass", desc := "()Ljava/lang/Class;" } : Jvm.MethodName) ({ cls := "java/lang/Object", name := "getClass", desc := "()Ljava/lang/Class;" } : Jvm.MethodName)) ∈ lw_all := lw_g (lw_at lw_m2 187 rfl) rfl
theorem q914 : (Jvm.Cond.selects "PuddleBoatyard$Parser" ({ cls := "java/lang/Object", name := "equals", desc := "(Ljava/lang/Object;)Z" } : Jvm.MethodName) ({ cls := "java/lang/Object", name := "equals", desc := "(Ljava/lang/Object;)Z" } : Jvm.MethodName)) ∈ lw_all := lw_g (lw_at lw_m4 122 rfl) rfl
theorem q1732 : (Jvm.Cond.instantiable "PuddleBoatyard$Parser" (2 : Nat)) ∈ lw_all := lw_g (lw_at lw_m7 220 rfl) rfl
theorem q1734 : (Jvm.Cond.instanceMethod ({ cls := "PuddleBoatyard$Parser", name := "<init>", desc := "(Ljava/lang/String;)V" } : Jvm.MethodName)) ∈ lw_all := lw_g (lw_at lw_m7 222 rfl) rfl
theorem q1735 : (Jvm.Cond.code ({ cls := "PuddleBoatyard$Parser", name := "<init>", desc := "(Ljava/lang/String;)V" } : Jvm.MethodName) prog_9_method_1_code (2 : Nat) (Option.none : Option Jvm.ClassFile.FieldType)) ∈ lw_all := lw_g (lw_at lw_m7 223 rfl) rfl
theorem q1736 : (Jvm.Cond.methodLink "PuddleBoatyard$Parser" (1 : Nat) ({ cls := "java/lang/Object", name := "<init>", desc := "()V" } : Jvm.MethodName)) ∈ lw_all := lw_g (lw_at lw_m7 224 rfl) rfl
theorem q1737 : (Jvm.Cond.fieldLink "PuddleBoatyard$Parser" (7 : Nat) "PuddleBoatyard$Parser" "text" "Ljava/lang/String;") ∈ lw_all := lw_g (lw_at lw_m7 225 rfl) rfl
theorem q1738 : (Jvm.Cond.fieldLink "PuddleBoatyard$Parser" (13 : Nat) "PuddleBoatyard$Parser" "next" "I") ∈ lw_all := lw_g (lw_at lw_m7 226 rfl) rfl
theorem q1739 : (Jvm.Cond.laysFinal "PuddleBoatyard$Parser" "PuddleBoatyard$Parser" "text" "Ljava/lang/String;") ∈ lw_all := lw_g (lw_at lw_m7 227 rfl) rfl
theorem q1740 : (Jvm.Cond.soleField "PuddleBoatyard$Parser" "text") ∈ lw_all := lw_g (lw_at lw_m7 228 rfl) rfl
theorem q1741 : (Jvm.Cond.lays "PuddleBoatyard$Parser" "PuddleBoatyard$Parser" "next" "I") ∈ lw_all := lw_g (lw_at lw_m7 229 rfl) rfl
theorem q1742 : (Jvm.Cond.soleField "PuddleBoatyard$Parser" "next") ∈ lw_all := lw_g (lw_at lw_m7 230 rfl) rfl
theorem q1743 : (Jvm.Cond.superclass "PuddleBoatyard$Parser" "java/lang/Object") ∈ lw_all := lw_g (lw_at lw_m7 231 rfl) rfl
theorem q1745 : (Jvm.Cond.instanceMethod ({ cls := "PuddleBoatyard$Parser", name := "program", desc := "()Ljava/util/ArrayList;" } : Jvm.MethodName)) ∈ lw_all := lw_g (lw_at lw_m7 233 rfl) rfl
theorem q1746 : (Jvm.Cond.selects "PuddleBoatyard$Parser" ({ cls := "PuddleBoatyard$Parser", name := "program", desc := "()Ljava/util/ArrayList;" } : Jvm.MethodName) ({ cls := "PuddleBoatyard$Parser", name := "program", desc := "()Ljava/util/ArrayList;" } : Jvm.MethodName)) ∈ lw_all := lw_g (lw_at lw_m7 234 rfl) rfl
theorem q1747 : (Jvm.Cond.code ({ cls := "PuddleBoatyard$Parser", name := "program", desc := "()Ljava/util/ArrayList;" } : Jvm.MethodName) prog_9_method_8_code (3 : Nat) (Option.some (Jvm.ClassFile.FieldType.object "java/util/ArrayList"))) ∈ lw_all := lw_g (lw_at lw_m7 235 rfl) rfl
theorem q1748 : (Jvm.Cond.classLink "PuddleBoatyard$Parser" (92 : Nat) "java/util/ArrayList") ∈ lw_all := lw_g (lw_at lw_m7 236 rfl) rfl
theorem q1749 : (Jvm.Cond.methodLink "PuddleBoatyard$Parser" (94 : Nat) ({ cls := "java/util/ArrayList", name := "<init>", desc := "()V" } : Jvm.MethodName)) ∈ lw_all := lw_g (lw_at lw_m7 237 rfl) rfl
theorem q1750 : (Jvm.Cond.methodLink "PuddleBoatyard$Parser" (95 : Nat) ({ cls := "PuddleBoatyard$Parser", name := "command", desc := "()LPuddleBoatyard$Operation;" } : Jvm.MethodName)) ∈ lw_all := lw_g (lw_at lw_m7 238 rfl) rfl
theorem q1751 : (Jvm.Cond.privateMethod ({ cls := "PuddleBoatyard$Parser", name := "command", desc := "()LPuddleBoatyard$Operation;" } : Jvm.MethodName)) ∈ lw_tbl := lw_at lw_m7 239 rfl
theorem q1752 : (Jvm.Cond.instanceMethod ({ cls := "PuddleBoatyard$Parser", name := "command", desc := "()LPuddleBoatyard$Operation;" } : Jvm.MethodName)) ∈ lw_all := lw_g (lw_at lw_m8 0 rfl) rfl
theorem q1753 : (Jvm.Cond.code ({ cls := "PuddleBoatyard$Parser", name := "command", desc := "()LPuddleBoatyard$Operation;" } : Jvm.MethodName) prog_9_method_7_code (1 : Nat) (Option.some (Jvm.ClassFile.FieldType.object "PuddleBoatyard$Operation"))) ∈ lw_all := lw_g (lw_at lw_m8 1 rfl) rfl
theorem q1754 : (Jvm.Cond.methodLink "PuddleBoatyard$Parser" (27 : Nat) ({ cls := "PuddleBoatyard$Parser", name := "peek", desc := "()C" } : Jvm.MethodName)) ∈ lw_all := lw_g (lw_at lw_m8 2 rfl) rfl
theorem q1755 : (Jvm.Cond.privateMethod ({ cls := "PuddleBoatyard$Parser", name := "peek", desc := "()C" } : Jvm.MethodName)) ∈ lw_tbl := lw_at lw_m8 3 rfl
theorem q1756 : (Jvm.Cond.instanceMethod ({ cls := "PuddleBoatyard$Parser", name := "peek", desc := "()C" } : Jvm.MethodName)) ∈ lw_all := lw_g (lw_at lw_m8 4 rfl) rfl
theorem q1757 : (Jvm.Cond.code ({ cls := "PuddleBoatyard$Parser", name := "peek", desc := "()C" } : Jvm.MethodName) prog_9_method_2_code (1 : Nat) (Option.some Jvm.ClassFile.FieldType.char)) ∈ lw_all := lw_g (lw_at lw_m8 5 rfl) rfl
theorem q1758 : (Jvm.Cond.methodLink "PuddleBoatyard$Parser" (17 : Nat) ({ cls := "java/lang/String", name := "length", desc := "()I" } : Jvm.MethodName)) ∈ lw_all := lw_g (lw_at lw_m8 6 rfl) rfl
theorem q1759 : (Jvm.Cond.methodLink "PuddleBoatyard$Parser" (23 : Nat) ({ cls := "java/lang/String", name := "charAt", desc := "(I)C" } : Jvm.MethodName)) ∈ lw_all := lw_g (lw_at lw_m8 7 rfl) rfl
theorem q1760 : (Jvm.Cond.methodLink "PuddleBoatyard$Parser" (69 : Nat) ({ cls := "PuddleBoatyard$Parser", name := "hullOrHours", desc := "()LPuddleBoatyard$Operation;" } : Jvm.MethodName)) ∈ lw_all := lw_g (lw_at lw_m8 8 rfl) rfl
theorem q1761 : (Jvm.Cond.privateMethod ({ cls := "PuddleBoatyard$Parser", name := "hullOrHours", desc := "()LPuddleBoatyard$Operation;" } : Jvm.MethodName)) ∈ lw_tbl := lw_at lw_m8 9 rfl
theorem q1762 : (Jvm.Cond.instanceMethod ({ cls := "PuddleBoatyard$Parser", name := "hullOrHours", desc := "()LPuddleBoatyard$Operation;" } : Jvm.MethodName)) ∈ lw_all := lw_g (lw_at lw_m8 10 rfl) rfl
theorem q1763 : (Jvm.Cond.code ({ cls := "PuddleBoatyard$Parser", name := "hullOrHours", desc := "()LPuddleBoatyard$Operation;" } : Jvm.MethodName) prog_9_method_5_code (1 : Nat) (Option.some (Jvm.ClassFile.FieldType.object "PuddleBoatyard$Operation"))) ∈ lw_all := lw_g (lw_at lw_m8 11 rfl) rfl
theorem q1764 : (Jvm.Cond.stringRef "PuddleBoatyard$Parser" (46 : Nat) "h") ∈ lw_tbl := lw_at lw_m8 12 rfl
theorem q1765 : (Jvm.Cond.methodLink "PuddleBoatyard$Parser" (36 : Nat) ({ cls := "PuddleBoatyard$Parser", name := "expect", desc := "(Ljava/lang/String;)V" } : Jvm.MethodName)) ∈ lw_all := lw_g (lw_at lw_m8 13 rfl) rfl
theorem q1766 : (Jvm.Cond.privateMethod ({ cls := "PuddleBoatyard$Parser", name := "expect", desc := "(Ljava/lang/String;)V" } : Jvm.MethodName)) ∈ lw_tbl := lw_at lw_m8 14 rfl
theorem q1767 : (Jvm.Cond.instanceMethod ({ cls := "PuddleBoatyard$Parser", name := "expect", desc := "(Ljava/lang/String;)V" } : Jvm.MethodName)) ∈ lw_all := lw_g (lw_at lw_m8 15 rfl) rfl
theorem q1768 : (Jvm.Cond.code ({ cls := "PuddleBoatyard$Parser", name := "expect", desc := "(Ljava/lang/String;)V" } : Jvm.MethodName) prog_9_method_3_code (3 : Nat) (Option.none : Option Jvm.ClassFile.FieldType)) ∈ lw_all := lw_g (lw_at lw_m8 16 rfl) rfl
theorem q1769 : (Jvm.Cond.classLink "PuddleBoatyard$Parser" (31 : Nat) "PuddleBoatyard$SyntaxError") ∈ lw_all := lw_g (lw_at lw_m8 17 rfl) rfl
theorem q1778 : (Jvm.Cond.methodLink "PuddleBoatyard$Parser" (33 : Nat) ({ cls := "PuddleBoatyard$SyntaxError", name := "<init>", desc := "(I)V" } : Jvm.MethodName)) ∈ lw_all := lw_g (lw_at lw_m8 26 rfl) rfl
theorem q1788 : (Jvm.Cond.classLink "PuddleBoatyard$Parser" (48 : Nat) "PuddleBoatyard$Operation") ∈ lw_all := lw_g (lw_at lw_m8 36 rfl) rfl
theorem q1789 : (Jvm.Cond.stringRef "PuddleBoatyard$Parser" (50 : Nat) "ours ") ∈ lw_tbl := lw_at lw_m8 37 rfl
theorem q1790 : (Jvm.Cond.methodLink "PuddleBoatyard$Parser" (52 : Nat) ({ cls := "PuddleBoatyard$Parser", name := "number", desc := "(Ljava/lang/String;I)I" } : Jvm.MethodName)) ∈ lw_all := lw_g (lw_at lw_m8 38 rfl) rfl
theorem q1791 : (Jvm.Cond.privateMethod ({ cls := "PuddleBoatyard$Parser", name := "number", desc := "(Ljava/lang/String;I)I" } : Jvm.MethodName)) ∈ lw_tbl := lw_at lw_m8 39 rfl
theorem q1792 : (Jvm.Cond.instanceMethod ({ cls := "PuddleBoatyard$Parser", name := "number", desc := "(Ljava/lang/String;I)I" } : Jvm.MethodName)) ∈ lw_all := lw_g (lw_at lw_m8 40 rfl) rfl
theorem q1793 : (Jvm.Cond.code ({ cls := "PuddleBoatyard$Parser", name := "number", desc := "(Ljava/lang/String;I)I" } : Jvm.MethodName) prog_9_method_4_code (5 : Nat) (Option.some Jvm.ClassFile.FieldType.int)) ∈ lw_all := lw_g (lw_at lw_m8 41 rfl) rfl
theorem q1794 : (Jvm.Cond.methodLink "PuddleBoatyard$Parser" (40 : Nat) ({ cls := "PuddleBoatyard$Checks", name := "isBetween", desc := "(III)Z" } : Jvm.MethodName)) ∈ lw_all := lw_g (lw_at lw_m8 42 rfl) rfl
theorem q1795 : (Jvm.Cond.methodLink "PuddleBoatyard$Parser" (56 : Nat) ({ cls := "PuddleBoatyard$Operation", name := "<init>", desc := "(C[I)V" } : Jvm.MethodName)) ∈ lw_all := lw_g (lw_at lw_m8 43 rfl) rfl
theorem q1796 : (Jvm.Cond.stringRef "PuddleBoatyard$Parser" (59 : Nat) "ull") ∈ lw_tbl := lw_at lw_m8 44 rfl
theorem q1797 : (Jvm.Cond.stringRef "PuddleBoatyard$Parser" (73 : Nat) "frame ") ∈ lw_tbl := lw_at lw_m8 45 rfl
theorem q1798 : (Jvm.Cond.stringRef "PuddleBoatyard$Parser" (65 : Nat) " ") ∈ lw_tbl := lw_at lw_m8 46 rfl
theorem q1799 : (Jvm.Cond.stringRef "PuddleBoatyard$Parser" (75 : Nat) "/") ∈ lw_tbl := lw_at lw_m8 47 rfl
theorem q1800 : (Jvm.Cond.stringRef "PuddleBoatyard$Parser" (77 : Nat) "mirror ") ∈ lw_tbl := lw_at lw_m8 48 rfl
theorem q1801 : (Jvm.Cond.methodLink "PuddleBoatyard$Parser" (79 : Nat) ({ cls := "PuddleBoatyard$Parser", name := "cargoOrCaulk", desc := "()LPuddleBoatyard$Operation;" } : Jvm.MethodName)) ∈ lw_all := lw_g (lw_at lw_m8 49 rfl) rfl
theorem q1802 : (Jvm.Cond.privateMethod ({ cls := "PuddleBoatyard$Parser", name := "cargoOrCaulk", desc := "()LPuddleBoatyard$Operation;" } : Jvm.MethodName)) ∈ lw_tbl := lw_at lw_m8 50 rfl
theorem q1803 : (Jvm.Cond.instanceMethod ({ cls := "PuddleBoatyard$Parser", name := "cargoOrCaulk", desc := "()LPuddleBoatyard$Operation;" } : Jvm.MethodName)) ∈ lw_all := lw_g (lw_at lw_m8 51 rfl) rfl
theorem q1804 : (Jvm.Cond.code ({ cls := "PuddleBoatyard$Parser", name := "cargoOrCaulk", desc := "()LPuddleBoatyard$Operation;" } : Jvm.MethodName) prog_9_method_6_code (1 : Nat) (Option.some (Jvm.ClassFile.FieldType.object "PuddleBoatyard$Operation"))) ∈ lw_all := lw_g (lw_at lw_m8 52 rfl) rfl
theorem q1805 : (Jvm.Cond.stringRef "PuddleBoatyard$Parser" (61 : Nat) "ca") ∈ lw_tbl := lw_at lw_m8 53 rfl
theorem q1806 : (Jvm.Cond.stringRef "PuddleBoatyard$Parser" (63 : Nat) "ulk ") ∈ lw_tbl := lw_at lw_m8 54 rfl
theorem q1807 : (Jvm.Cond.stringRef "PuddleBoatyard$Parser" (67 : Nat) "rgo ") ∈ lw_tbl := lw_at lw_m8 55 rfl
theorem q1808 : (Jvm.Cond.stringRef "PuddleBoatyard$Parser" (82 : Nat) "launch ") ∈ lw_tbl := lw_at lw_m8 56 rfl
theorem q1809 : (Jvm.Cond.stringRef "PuddleBoatyard$Parser" (84 : Nat) "pump ") ∈ lw_tbl := lw_at lw_m8 57 rfl
theorem q1810 : (Jvm.Cond.stringRef "PuddleBoatyard$Parser" (86 : Nat) "tide ") ∈ lw_tbl := lw_at lw_m8 58 rfl
theorem q1811 : (Jvm.Cond.stringRef "PuddleBoatyard$Parser" (88 : Nat) "order ") ∈ lw_tbl := lw_at lw_m8 59 rfl
theorem q1812 : (Jvm.Cond.stringRef "PuddleBoatyard$Parser" (90 : Nat) "deliver ") ∈ lw_tbl := lw_at lw_m8 60 rfl
theorem q1813 : (Jvm.Cond.methodLink "PuddleBoatyard$Parser" (98 : Nat) ({ cls := "java/util/ArrayList", name := "add", desc := "(Ljava/lang/Object;)Z" } : Jvm.MethodName)) ∈ lw_all := lw_g (lw_at lw_m8 61 rfl) rfl
theorem q1814 : (Jvm.Cond.stringRef "PuddleBoatyard$Parser" (102 : Nat) ";") ∈ lw_tbl := lw_at lw_m8 62 rfl
theorem q2442 : (Jvm.Cond.castable "PuddleBoatyard$Parser" "java/lang/Object") ∈ lw_tbl := lw_at lw_m10 210 rfl
theorem in_X12 : ∀ w ∈ wsX120, w ∈ lw_all := lw_in wsX120 [1739, 1741] (by decide +kernel) (by decide +kernel)
/-! PuddleBoatyard$SyntaxError -/
def RX13 : String := "PuddleBoatyard$SyntaxError"
def TX13 : u_T := fun k => match k with
  | 0 => ("java/lang/Throwable", "cause", "Ljava/lang/Throwable;", false)
  | 1 => ("java/lang/Throwable", "stackTrace", "[Ljava/lang/StackTraceElement;", false)
  | 2 => ("java/lang/Throwable", "suppressedExceptions", "Ljava/util/List;", false)
  | 3 => ("java/lang/Throwable", "detailMessage", "Ljava/lang/String;", false)
  | 4 => ("java/lang/Throwable", "backtrace", "Ljava/lang/Object;", false)
  | 5 => ("java/lang/Throwable", "depth", "I", false)
  | _ => ("PuddleBoatyard$SyntaxError", "position", "I", true)
def tyX13 : Nat → FieldType := fun k => match k with
  | 0 => .object "java/lang/Throwable"
  | 1 => .array (.object "java/lang/StackTraceElement")
  | 2 => .object "java/util/List"
  | 3 => .object "java/lang/String"
  | 4 => .object "java/lang/Object"
  | 5 => .int
  | _ => .int
abbrev wsX130 : List Cond := u_ws RX13 TX13 7
theorem nmX13 : ∀ a, a < 7 → ∀ b, b < 7 → a ≠ b → (TX13 a).2.1 ≠ (TX13 b).2.1 := by decide +kernel
theorem tyX13_ok : ∀ k, k < 7 → parseFieldDescriptor (TX13 k).2.2.1 = some (tyX13 k) := by decide +kernel
abbrev cX13_init : ByteArray := prog_15_method_1_code
def yX13_init : MethodName := ⟨RX13, "<init>", "(I)V"⟩
theorem q116 : (Jvm.Cond.initialized "PuddleBoatyard$SyntaxError") ∈ lw_all := lw_g (lw_at lw_m1 44 rfl) rfl
theorem q504 : (Jvm.Cond.selects "PuddleBoatyard$SyntaxError" ({ cls := "java/lang/Object", name := "getClass", desc := "()Ljava/lang/Class;" } : Jvm.MethodName) ({ cls := "java/lang/Object", name := "getClass", desc := "()Ljava/lang/Class;" } : Jvm.MethodName)) ∈ lw_all := lw_g (lw_at lw_m2 192 rfl) rfl
theorem q612 : (Jvm.Cond.selects "PuddleBoatyard$SyntaxError" ({ cls := "java/lang/Throwable", name := "fillInStackTrace", desc := "()Ljava/lang/Throwable;" } : Jvm.MethodName) ({ cls := "java/lang/Throwable", name := "fillInStackTrace", desc := "()Ljava/lang/Throwable;" } : Jvm.MethodName)) ∈ lw_all := lw_g (lw_at lw_m3 60 rfl) rfl
theorem q921 : (Jvm.Cond.selects "PuddleBoatyard$SyntaxError" ({ cls := "java/lang/Object", name := "equals", desc := "(Ljava/lang/Object;)Z" } : Jvm.MethodName) ({ cls := "java/lang/Object", name := "equals", desc := "(Ljava/lang/Object;)Z" } : Jvm.MethodName)) ∈ lw_all := lw_g (lw_at lw_m4 129 rfl) rfl
theorem q1770 : (Jvm.Cond.instantiable "PuddleBoatyard$SyntaxError" (7 : Nat)) ∈ lw_all := lw_g (lw_at lw_m8 18 rfl) rfl
theorem q1771 : (Jvm.Cond.castable "PuddleBoatyard$SyntaxError" "PuddleBoatyard$SyntaxError") ∈ lw_tbl := lw_at lw_m8 19 rfl
theorem q1772 : (Jvm.Cond.selects "PuddleBoatyard$SyntaxError" ({ cls := "java/lang/Throwable", name := "fillInStackTrace", desc := "(I)Ljava/lang/Throwable;" } : Jvm.MethodName) ({ cls := "java/lang/Throwable", name := "fillInStackTrace", desc := "(I)Ljava/lang/Throwable;" } : Jvm.MethodName)) ∈ lw_all := lw_g (lw_at lw_m8 20 rfl) rfl
theorem q1773 : (Jvm.Cond.lays "PuddleBoatyard$SyntaxError" "java/lang/Throwable" "cause" "Ljava/lang/Throwable;") ∈ lw_all := lw_g (lw_at lw_m8 21 rfl) rfl
theorem q1774 : (Jvm.Cond.lays "PuddleBoatyard$SyntaxError" "java/lang/Throwable" "stackTrace" "[Ljava/lang/StackTraceElement;") ∈ lw_all := lw_g (lw_at lw_m8 22 rfl) rfl
theorem q1775 : (Jvm.Cond.lays "PuddleBoatyard$SyntaxError" "java/lang/Throwable" "suppressedExceptions" "Ljava/util/List;") ∈ lw_all := lw_g (lw_at lw_m8 23 rfl) rfl
theorem q1776 : (Jvm.Cond.lays "PuddleBoatyard$SyntaxError" "java/lang/Throwable" "detailMessage" "Ljava/lang/String;") ∈ lw_all := lw_g (lw_at lw_m8 24 rfl) rfl
theorem q1777 : (Jvm.Cond.lays "PuddleBoatyard$SyntaxError" "java/lang/Throwable" "backtrace" "Ljava/lang/Object;") ∈ lw_all := lw_g (lw_at lw_m8 25 rfl) rfl
theorem q1779 : (Jvm.Cond.instanceMethod ({ cls := "PuddleBoatyard$SyntaxError", name := "<init>", desc := "(I)V" } : Jvm.MethodName)) ∈ lw_all := lw_g (lw_at lw_m8 27 rfl) rfl
theorem q1780 : (Jvm.Cond.code ({ cls := "PuddleBoatyard$SyntaxError", name := "<init>", desc := "(I)V" } : Jvm.MethodName) prog_15_method_1_code (2 : Nat) (Option.none : Option Jvm.ClassFile.FieldType)) ∈ lw_all := lw_g (lw_at lw_m8 28 rfl) rfl
theorem q1781 : (Jvm.Cond.methodLink "PuddleBoatyard$SyntaxError" (1 : Nat) ({ cls := "java/lang/Exception", name := "<init>", desc := "()V" } : Jvm.MethodName)) ∈ lw_all := lw_g (lw_at lw_m8 29 rfl) rfl
theorem q1782 : (Jvm.Cond.fieldLink "PuddleBoatyard$SyntaxError" (7 : Nat) "PuddleBoatyard$SyntaxError" "position" "I") ∈ lw_all := lw_g (lw_at lw_m8 30 rfl) rfl
theorem q1784 : (Jvm.Cond.laysFinal "PuddleBoatyard$SyntaxError" "PuddleBoatyard$SyntaxError" "position" "I") ∈ lw_all := lw_g (lw_at lw_m8 32 rfl) rfl
theorem q1785 : (Jvm.Cond.soleField "PuddleBoatyard$SyntaxError" "position") ∈ lw_all := lw_g (lw_at lw_m8 33 rfl) rfl
theorem q1786 : (Jvm.Cond.lays "PuddleBoatyard$SyntaxError" "java/lang/Throwable" "depth" "I") ∈ lw_all := lw_g (lw_at lw_m8 34 rfl) rfl
theorem q1787 : (Jvm.Cond.superclass "PuddleBoatyard$SyntaxError" "java/lang/Exception") ∈ lw_all := lw_g (lw_at lw_m8 35 rfl) rfl
theorem q2443 : (Jvm.Cond.castable "PuddleBoatyard$SyntaxError" "java/lang/Object") ∈ lw_tbl := lw_at lw_m10 211 rfl
theorem in_X13 : ∀ w ∈ wsX130, w ∈ lw_all := lw_in wsX130 [1773, 1774, 1775, 1776, 1777, 1786, 1784] (by decide +kernel) (by decide +kernel)
/-! java/lang/Object -/
def RJ27 : String := "java/lang/Object"
abbrev cJ27_init : ByteArray := object_method_1_code
def yJ27_init : MethodName := ⟨RJ27, "<init>", "()V"⟩
abbrev cJ27_equals : ByteArray := object_method_4_code
def yJ27_equals : MethodName := ⟨RJ27, "equals", "(Ljava/lang/Object;)Z"⟩
theorem q123 : (Jvm.Cond.instanceMethod ({ cls := "java/lang/Object", name := "<init>", desc := "()V" } : Jvm.MethodName)) ∈ lw_all := lw_g (lw_at lw_m1 51 rfl) rfl
theorem q124 : (Jvm.Cond.code ({ cls := "java/lang/Object", name := "<init>", desc := "()V" } : Jvm.MethodName) object_method_1_code (1 : Nat) (Option.none : Option Jvm.ClassFile.FieldType)) ∈ lw_all := lw_g (lw_at lw_m1 52 rfl) rfl
theorem q490 : (Jvm.Cond.instanceMethod ({ cls := "java/lang/Object", name := "getClass", desc := "()Ljava/lang/Class;" } : Jvm.MethodName)) ∈ lw_all := lw_g (lw_at lw_m2 178 rfl) rfl
theorem q491 : (Jvm.Cond.sameMethod "java/lang/Object" "java/lang/Object" "getClass" "()Ljava/lang/Class;") ∈ lw_all := lw_g (lw_at lw_m2 179 rfl) rfl
theorem q520 : (Jvm.Cond.native ({ cls := "java/lang/Object", name := "getClass", desc := "()Ljava/lang/Class;" } : Jvm.MethodName)) ∈ lw_all := lw_g (lw_at lw_m2 208 rfl) rfl
theorem q903 : (Jvm.Cond.declares ({ cls := "java/lang/Object", name := "equals", desc := "(Ljava/lang/Object;)Z" } : Jvm.MethodName)) ∈ lw_tbl := lw_at lw_m4 111 rfl
theorem q905 : (Jvm.Cond.instanceMethod ({ cls := "java/lang/Object", name := "equals", desc := "(Ljava/lang/Object;)Z" } : Jvm.MethodName)) ∈ lw_all := lw_g (lw_at lw_m4 113 rfl) rfl
theorem q906 : (Jvm.Cond.sameMethod "java/lang/Object" "java/lang/Object" "equals" "(Ljava/lang/Object;)Z") ∈ lw_all := lw_g (lw_at lw_m4 114 rfl) rfl
theorem q941 : (Jvm.Cond.code ({ cls := "java/lang/Object", name := "equals", desc := "(Ljava/lang/Object;)Z" } : Jvm.MethodName) object_method_4_code (2 : Nat) (Option.some Jvm.ClassFile.FieldType.boolean)) ∈ lw_all := lw_g (lw_at lw_m4 149 rfl) rfl
theorem q1438 : (Jvm.Cond.native ({ cls := "java/lang/Object", name := "clone", desc := "()Ljava/lang/Object;" } : Jvm.MethodName)) ∈ lw_all := lw_g (lw_at lw_m6 166 rfl) rfl
theorem q1439 : (Jvm.Cond.instanceMethod ({ cls := "java/lang/Object", name := "clone", desc := "()Ljava/lang/Object;" } : Jvm.MethodName)) ∈ lw_all := lw_g (lw_at lw_m6 167 rfl) rfl
theorem q2413 : (Jvm.Cond.initialized "java/lang/Object") ∈ lw_all := lw_g (lw_at lw_m10 181 rfl) rfl
theorem q2447 : (Jvm.Cond.declares ({ cls := "java/lang/Object", name := "getClass", desc := "()Ljava/lang/Class;" } : Jvm.MethodName)) ∈ lw_tbl := lw_at lw_m10 215 rfl
/-! PuddleBoatyard$State$1 -/
def RX14 : String := "PuddleBoatyard$State$1"
abbrev cX14_canBeWorkedOn : ByteArray := prog_11_method_2_code
def yX14_canBeWorkedOn : MethodName := ⟨RX14, "canBeWorkedOn", "()Z"⟩
theorem q500 : (Jvm.Cond.selects "PuddleBoatyard$State$1" ({ cls := "java/lang/Object", name := "getClass", desc := "()Ljava/lang/Class;" } : Jvm.MethodName) ({ cls := "java/lang/Object", name := "getClass", desc := "()Ljava/lang/Class;" } : Jvm.MethodName)) ∈ lw_all := lw_g (lw_at lw_m2 188 rfl) rfl
theorem q740 : (Jvm.Cond.selects "PuddleBoatyard$State$1" ({ cls := "PuddleBoatyard$State", name := "canBeWorkedOn", desc := "()Z" } : Jvm.MethodName) ({ cls := "PuddleBoatyard$State$1", name := "canBeWorkedOn", desc := "()Z" } : Jvm.MethodName)) ∈ lw_all := lw_g (lw_at lw_m3 188 rfl) rfl
theorem q741 : (Jvm.Cond.instanceMethod ({ cls := "PuddleBoatyard$State$1", name := "canBeWorkedOn", desc := "()Z" } : Jvm.MethodName)) ∈ lw_all := lw_g (lw_at lw_m3 189 rfl) rfl
theorem q742 : (Jvm.Cond.code ({ cls := "PuddleBoatyard$State$1", name := "canBeWorkedOn", desc := "()Z" } : Jvm.MethodName) prog_11_method_2_code (1 : Nat) (Option.some Jvm.ClassFile.FieldType.boolean)) ∈ lw_all := lw_g (lw_at lw_m3 190 rfl) rfl
theorem q915 : (Jvm.Cond.selects "PuddleBoatyard$State$1" ({ cls := "java/lang/Object", name := "equals", desc := "(Ljava/lang/Object;)Z" } : Jvm.MethodName) ({ cls := "java/lang/Enum", name := "equals", desc := "(Ljava/lang/Object;)Z" } : Jvm.MethodName)) ∈ lw_all := lw_g (lw_at lw_m4 123 rfl) rfl
theorem q1107 : (Jvm.Cond.selects "PuddleBoatyard$State$1" ({ cls := "PuddleBoatyard$State", name := "ordinal", desc := "()I" } : Jvm.MethodName) ({ cls := "java/lang/Enum", name := "ordinal", desc := "()I" } : Jvm.MethodName)) ∈ lw_all := lw_g (lw_at lw_m5 75 rfl) rfl
theorem q2425 : (Jvm.Cond.castable "PuddleBoatyard$State$1" "java/lang/Object") ∈ lw_tbl := lw_at lw_m10 193 rfl
/-! PuddleBoatyard$State$2 -/
def RX15 : String := "PuddleBoatyard$State$2"
abbrev cX15_canBeWorkedOn : ByteArray := prog_12_method_2_code
def yX15_canBeWorkedOn : MethodName := ⟨RX15, "canBeWorkedOn", "()Z"⟩
theorem q501 : (Jvm.Cond.selects "PuddleBoatyard$State$2" ({ cls := "java/lang/Object", name := "getClass", desc := "()Ljava/lang/Class;" } : Jvm.MethodName) ({ cls := "java/lang/Object", name := "getClass", desc := "()Ljava/lang/Class;" } : Jvm.MethodName)) ∈ lw_all := lw_g (lw_at lw_m2 189 rfl) rfl
theorem q743 : (Jvm.Cond.selects "PuddleBoatyard$State$2" ({ cls := "PuddleBoatyard$State", name := "canBeWorkedOn", desc := "()Z" } : Jvm.MethodName) ({ cls := "PuddleBoatyard$State$2", name := "canBeWorkedOn", desc := "()Z" } : Jvm.MethodName)) ∈ lw_all := lw_g (lw_at lw_m3 191 rfl) rfl
theorem q744 : (Jvm.Cond.instanceMethod ({ cls := "PuddleBoatyard$State$2", name := "canBeWorkedOn", desc := "()Z" } : Jvm.MethodName)) ∈ lw_all := lw_g (lw_at lw_m3 192 rfl) rfl
theorem q745 : (Jvm.Cond.code ({ cls := "PuddleBoatyard$State$2", name := "canBeWorkedOn", desc := "()Z" } : Jvm.MethodName) prog_12_method_2_code (1 : Nat) (Option.some Jvm.ClassFile.FieldType.boolean)) ∈ lw_all := lw_g (lw_at lw_m3 193 rfl) rfl
theorem q918 : (Jvm.Cond.selects "PuddleBoatyard$State$2" ({ cls := "java/lang/Object", name := "equals", desc := "(Ljava/lang/Object;)Z" } : Jvm.MethodName) ({ cls := "java/lang/Enum", name := "equals", desc := "(Ljava/lang/Object;)Z" } : Jvm.MethodName)) ∈ lw_all := lw_g (lw_at lw_m4 126 rfl) rfl
theorem q1108 : (Jvm.Cond.selects "PuddleBoatyard$State$2" ({ cls := "PuddleBoatyard$State", name := "ordinal", desc := "()I" } : Jvm.MethodName) ({ cls := "java/lang/Enum", name := "ordinal", desc := "()I" } : Jvm.MethodName)) ∈ lw_all := lw_g (lw_at lw_m5 76 rfl) rfl
theorem q2431 : (Jvm.Cond.castable "PuddleBoatyard$State$2" "java/lang/Object") ∈ lw_tbl := lw_at lw_m10 199 rfl
/-! PuddleBoatyard$State$3 -/
def RX16 : String := "PuddleBoatyard$State$3"
abbrev cX16_canBeWorkedOn : ByteArray := prog_13_method_2_code
def yX16_canBeWorkedOn : MethodName := ⟨RX16, "canBeWorkedOn", "()Z"⟩
theorem q502 : (Jvm.Cond.selects "PuddleBoatyard$State$3" ({ cls := "java/lang/Object", name := "getClass", desc := "()Ljava/lang/Class;" } : Jvm.MethodName) ({ cls := "java/lang/Object", name := "getClass", desc := "()Ljava/lang/Class;" } : Jvm.MethodName)) ∈ lw_all := lw_g (lw_at lw_m2 190 rfl) rfl
theorem q746 : (Jvm.Cond.selects "PuddleBoatyard$State$3" ({ cls := "PuddleBoatyard$State", name := "canBeWorkedOn", desc := "()Z" } : Jvm.MethodName) ({ cls := "PuddleBoatyard$State$3", name := "canBeWorkedOn", desc := "()Z" } : Jvm.MethodName)) ∈ lw_all := lw_g (lw_at lw_m3 194 rfl) rfl
theorem q747 : (Jvm.Cond.instanceMethod ({ cls := "PuddleBoatyard$State$3", name := "canBeWorkedOn", desc := "()Z" } : Jvm.MethodName)) ∈ lw_all := lw_g (lw_at lw_m3 195 rfl) rfl
theorem q748 : (Jvm.Cond.code ({ cls := "PuddleBoatyard$State$3", name := "canBeWorkedOn", desc := "()Z" } : Jvm.MethodName) prog_13_method_2_code (1 : Nat) (Option.some Jvm.ClassFile.FieldType.boolean)) ∈ lw_all := lw_g (lw_at lw_m3 196 rfl) rfl
theorem q919 : (Jvm.Cond.selects "PuddleBoatyard$State$3" ({ cls := "java/lang/Object", name := "equals", desc := "(Ljava/lang/Object;)Z" } : Jvm.MethodName) ({ cls := "java/lang/Enum", name := "equals", desc := "(Ljava/lang/Object;)Z" } : Jvm.MethodName)) ∈ lw_all := lw_g (lw_at lw_m4 127 rfl) rfl
theorem q1109 : (Jvm.Cond.selects "PuddleBoatyard$State$3" ({ cls := "PuddleBoatyard$State", name := "ordinal", desc := "()I" } : Jvm.MethodName) ({ cls := "java/lang/Enum", name := "ordinal", desc := "()I" } : Jvm.MethodName)) ∈ lw_all := lw_g (lw_at lw_m5 77 rfl) rfl
theorem q2435 : (Jvm.Cond.castable "PuddleBoatyard$State$3" "java/lang/Object") ∈ lw_tbl := lw_at lw_m10 203 rfl
/-! PuddleBoatyard$State$4 -/
def RX17 : String := "PuddleBoatyard$State$4"
abbrev cX17_canBeWorkedOn : ByteArray := prog_14_method_2_code
def yX17_canBeWorkedOn : MethodName := ⟨RX17, "canBeWorkedOn", "()Z"⟩
theorem q503 : (Jvm.Cond.selects "PuddleBoatyard$State$4" ({ cls := "java/lang/Object", name := "getClass", desc := "()Ljava/lang/Class;" } : Jvm.MethodName) ({ cls := "java/lang/Object", name := "getClass", desc := "()Ljava/lang/Class;" } : Jvm.MethodName)) ∈ lw_all := lw_g (lw_at lw_m2 191 rfl) rfl
theorem q749 : (Jvm.Cond.selects "PuddleBoatyard$State$4" ({ cls := "PuddleBoatyard$State", name := "canBeWorkedOn", desc := "()Z" } : Jvm.MethodName) ({ cls := "PuddleBoatyard$State$4", name := "canBeWorkedOn", desc := "()Z" } : Jvm.MethodName)) ∈ lw_all := lw_g (lw_at lw_m3 197 rfl) rfl
theorem q750 : (Jvm.Cond.instanceMethod ({ cls := "PuddleBoatyard$State$4", name := "canBeWorkedOn", desc := "()Z" } : Jvm.MethodName)) ∈ lw_all := lw_g (lw_at lw_m3 198 rfl) rfl
theorem q751 : (Jvm.Cond.code ({ cls := "PuddleBoatyard$State$4", name := "canBeWorkedOn", desc := "()Z" } : Jvm.MethodName) prog_14_method_2_code (1 : Nat) (Option.some Jvm.ClassFile.FieldType.boolean)) ∈ lw_all := lw_g (lw_at lw_m3 199 rfl) rfl
theorem q920 : (Jvm.Cond.selects "PuddleBoatyard$State$4" ({ cls := "java/lang/Object", name := "equals", desc := "(Ljava/lang/Object;)Z" } : Jvm.MethodName) ({ cls := "java/lang/Enum", name := "equals", desc := "(Ljava/lang/Object;)Z" } : Jvm.MethodName)) ∈ lw_all := lw_g (lw_at lw_m4 128 rfl) rfl
theorem q1110 : (Jvm.Cond.selects "PuddleBoatyard$State$4" ({ cls := "PuddleBoatyard$State", name := "ordinal", desc := "()I" } : Jvm.MethodName) ({ cls := "java/lang/Enum", name := "ordinal", desc := "()I" } : Jvm.MethodName)) ∈ lw_all := lw_g (lw_at lw_m5 78 rfl) rfl
theorem q2432 : (Jvm.Cond.castable "PuddleBoatyard$State$4" "java/lang/Object") ∈ lw_tbl := lw_at lw_m10 200 rfl
/-! the law's own entry -/
abbrev cL_law : ByteArray := code
theorem q189 : (Jvm.Cond.arrayClass Jvm.ClassFile.FieldType.int) ∈ lw_all := lw_g (lw_at lw_m1 117 rfl) rfl
theorem q203 : (Jvm.Cond.arrayOver (Jvm.ClassFile.FieldType.object "java/lang/Object")) ∈ lw_tbl := lw_at lw_m1 131 rfl
theorem q251 : (Jvm.Cond.arrayClass Jvm.ClassFile.FieldType.byte) ∈ lw_all := lw_g (lw_at lw_m1 179 rfl) rfl
theorem q352 : (Jvm.Cond.arrayClass Jvm.ClassFile.FieldType.boolean) ∈ lw_all := lw_g (lw_at lw_m2 40 rfl) rfl
theorem q1974 : (Jvm.Cond.arrayClass Jvm.ClassFile.FieldType.char) ∈ lw_all := lw_g (lw_at lw_m8 222 rfl) rfl
theorem q2399 : (Jvm.Cond.arrayClass Jvm.ClassFile.FieldType.long) ∈ lw_all := lw_g (lw_at lw_m10 167 rfl) rfl
theorem q2400 : (Jvm.Cond.arrayClass Jvm.ClassFile.FieldType.double) ∈ lw_all := lw_g (lw_at lw_m10 168 rfl) rfl
theorem q91 : (Jvm.Cond.initialized "PuddleBoatyard$State") ∈ lw_all := lw_g (lw_at lw_m1 19 rfl) rfl
theorem q328 : (Jvm.Cond.laysStatic "PuddleBoatyard$State" "BUILT" "LPuddleBoatyard$State;") ∈ lw_tbl := lw_at lw_m2 16 rfl
theorem q393 : (Jvm.Cond.laysStatic "PuddleBoatyard$State" "AFLOAT" "LPuddleBoatyard$State;") ∈ lw_tbl := lw_at lw_m2 81 rfl
theorem q738 : (Jvm.Cond.declares ({ cls := "PuddleBoatyard$State", name := "canBeWorkedOn", desc := "()Z" } : Jvm.MethodName)) ∈ lw_tbl := lw_at lw_m3 186 rfl
theorem q739 : (Jvm.Cond.sameMethod "PuddleBoatyard$State" "PuddleBoatyard$State" "canBeWorkedOn" "()Z") ∈ lw_all := lw_g (lw_at lw_m3 187 rfl) rfl
theorem q840 : (Jvm.Cond.laysStatic "PuddleBoatyard$State" "SUNK" "LPuddleBoatyard$State;") ∈ lw_tbl := lw_at lw_m4 48 rfl
theorem q898 : (Jvm.Cond.laysStatic "PuddleBoatyard$State" "DELIVERED" "LPuddleBoatyard$State;") ∈ lw_tbl := lw_at lw_m4 106 rfl
theorem q1105 : (Jvm.Cond.sameMethod "PuddleBoatyard$State" "java/lang/Enum" "ordinal" "()I") ∈ lw_all := lw_g (lw_at lw_m5 73 rfl) rfl
theorem q2448 : (Jvm.Cond.castable "PuddleBoatyard$State" "java/lang/Object") ∈ lw_tbl := lw_at lw_m10 216 rfl
theorem q94 : (Jvm.Cond.initialized "java/lang/reflect/Array") ∈ lw_all := lw_g (lw_at lw_m1 22 rfl) rfl
theorem q95 : (Jvm.Cond.initialized "java/lang/System") ∈ lw_all := lw_g (lw_at lw_m1 23 rfl) rfl
theorem q528 : (Jvm.Cond.static ({ cls := "java/lang/System", name := "arraycopy", desc := "(Ljava/lang/Object;ILjava/lang/Object;II)V" } : Jvm.MethodName)) ∈ lw_all := lw_g (lw_at lw_m2 216 rfl) rfl
theorem q529 : (Jvm.Cond.native ({ cls := "java/lang/System", name := "arraycopy", desc := "(Ljava/lang/Object;ILjava/lang/Object;II)V" } : Jvm.MethodName)) ∈ lw_all := lw_g (lw_at lw_m2 217 rfl) rfl
theorem q112 : (Jvm.Cond.initialized "java/lang/Number") ∈ lw_all := lw_g (lw_at lw_m1 40 rfl) rfl
theorem q1437 : (Jvm.Cond.sameMethod "[B" "java/lang/Object" "clone" "()Ljava/lang/Object;") ∈ lw_all := lw_g (lw_at lw_m6 165 rfl) rfl
theorem q1440 : (Jvm.Cond.selects "[B" ({ cls := "[B", name := "clone", desc := "()Ljava/lang/Object;" } : Jvm.MethodName) ({ cls := "java/lang/Object", name := "clone", desc := "()Ljava/lang/Object;" } : Jvm.MethodName)) ∈ lw_all := lw_g (lw_at lw_m6 168 rfl) rfl
theorem q1441 : (Jvm.Cond.castable "[B" "java/lang/Cloneable") ∈ lw_tbl := lw_at lw_m6 169 rfl
theorem q2451 : (Jvm.Cond.castable "[B" "java/lang/Object") ∈ lw_tbl := lw_at lw_m10 219 rfl
theorem q2445 : (Jvm.Cond.sameMethod "[Ljava/lang/Object;" "java/lang/Object" "getClass" "()Ljava/lang/Class;") ∈ lw_all := lw_g (lw_at lw_m10 213 rfl) rfl
theorem q2446 : (Jvm.Cond.selects "[Ljava/lang/Object;" ({ cls := "java/lang/Object", name := "getClass", desc := "()Ljava/lang/Class;" } : Jvm.MethodName) ({ cls := "java/lang/Object", name := "getClass", desc := "()Ljava/lang/Class;" } : Jvm.MethodName)) ∈ lw_all := lw_g (lw_at lw_m10 214 rfl) rfl
theorem q2450 : (Jvm.Cond.castable "[Ljava/lang/Object;" "java/lang/Object") ∈ lw_tbl := lw_at lw_m10 218 rfl
theorem q2449 : (Jvm.Cond.castable "[I" "java/lang/Object") ∈ lw_tbl := lw_at lw_m10 217 rfl
theorem q2452 : (Jvm.Cond.castable "[Z" "java/lang/Object") ∈ lw_tbl := lw_at lw_m10 220 rfl
theorem q2453 : (Jvm.Cond.castable "[C" "java/lang/Object") ∈ lw_tbl := lw_at lw_m10 221 rfl
theorem q2454 : (Jvm.Cond.castable "[J" "java/lang/Object") ∈ lw_tbl := lw_at lw_m10 222 rfl
theorem q2455 : (Jvm.Cond.castable "[D" "java/lang/Object") ∈ lw_tbl := lw_at lw_m10 223 rfl
theorem q2456 : (Jvm.Cond.fieldLink "java/lang/Class" (13 : Nat) "java/lang/Class" "componentType" "Ljava/lang/Class;") ∈ lw_all := lw_g (lw_at lw_m10 224 rfl) rfl
