/-! DECODE ROWS BY BYTES: one lemma an opcode; a method's code is cut into short pieces once, and a row reads its own piece alone. -/
set_option maxRecDepth 100000
/-- the code has just these bytes from pc on -/
def DkAt (code : ByteArray) (pc : Nat) (bs : List UInt8) : Prop := ∀ (j : Nat) (b : UInt8), bs[j]? = some b → code.data.toList[pc + j]? = some b
/-- the piece W has the bytes bs from its place j on -/
def dkIn (W : List UInt8) (j : Nat) (bs : List UInt8) : Bool := decide ((W.drop j).take bs.length = bs)
theorem dk_seg {l W T : List UInt8} {o o2 : Nat} (h : l.drop o = W ++ T) (n : Nat) (hn : W.length = n) (ho : o + n = o2) : l.drop o2 = T := by
  subst ho
  rw [← List.drop_drop, h, List.drop_left' hn]
theorem dk_at {code : ByteArray} {W T bs : List UInt8} {o pc : Nat} (h : code.data.toList.drop o = W ++ T) (j : Nat) (hp : o + j = pc) (hw : dkIn W j bs = true) : DkAt code pc bs := by
  subst hp
  intro i b e
  have h1 := of_decide_eq_true hw
  have h2 : i < bs.length := (List.getElem?_eq_some_iff.mp e).1
  have h3 : W[j + i]? = some b := by
    rw [← h1, List.getElem?_take, if_pos h2, List.getElem?_drop] at e
    exact e
  have h4 : j + i < W.length := (List.getElem?_eq_some_iff.mp h3).1
  have h5 : (code.data.toList.drop o)[j + i]? = some b := by
    rw [h, List.getElem?_append_left h4]
    exact h3
  rw [List.getElem?_drop, ← Nat.add_assoc] at h5
  exact h5
theorem dk_u1 {A : ByteArray} {p : Nat} {b : UInt8} (h : A.data.toList[p]? = some b) : (Reader.u1 : Reader DecodeError Nat) A p = .ok (b.toNat, p + 1) := by
  obtain ⟨h1, h2⟩ := List.getElem?_eq_some_iff.mp h
  have h3 : p < A.size := by simpa using h1
  have h4 : A[p]'h3 = b := h2
  have e : (Reader.u1 : Reader DecodeError Nat) A p = (if h : p < A.size then .ok (A[p].toNat, p + 1) else .error (HasTruncated.truncated p)) := by
    show (do if h : p < A.size then do set (p + 1); Pure.pure A[p].toNat else MonadExcept.throw (HasTruncated.truncated p) : Reader DecodeError Nat) A p = _
    by_cases hi : p < A.size
    · rw [dif_pos hi, dif_pos hi]; rfl
    · rw [dif_neg hi, dif_neg hi]; rfl
  rw [e, dif_pos h3, h4]
theorem dk_bind {α β : Type} {r : Reader DecodeError α} {f : α → Reader DecodeError β} {A : ByteArray} {p s : Nat} {a : α} (h : r A p = .ok (a, s)) : (r >>= f) A p = f a A s := by
  show (do let (a, s) ← r A p; f a A s : Except DecodeError (β × Nat)) = _
  rw [h]
  rfl
theorem dk_map {α β : Type} {r : Reader DecodeError α} {g : α → β} {A : ByteArray} {p s : Nat} {a : α} (h : r A p = .ok (a, s)) : (g <$> r) A p = .ok (g a, s) := by
  show (do let (a, s) ← r A p; .ok (g a, s) : Except DecodeError (β × Nat)) = _
  rw [h]
  rfl
theorem dk_u2 {A : ByteArray} {p : Nat} {a b : UInt8} (h : A.data.toList[p]? = some a) (h2 : A.data.toList[p + 1]? = some b) : (Reader.u2 : Reader DecodeError Nat) A p = .ok (a.toNat * 256 + b.toNat, p + 2) := by
  show (Reader.u1 >>= fun hi => Reader.u1 >>= fun lo => Pure.pure (hi * 256 + lo) : Reader DecodeError Nat) A p = _
  rw [dk_bind (dk_u1 h), dk_bind (dk_u1 h2)]
  rfl
theorem dk_of {code : ByteArray} {pc n : Nat} {i : Instr} (h : Decoder.instr pc code pc = .ok (i, pc + n)) : decode code pc = .ok (i, n) := by
  have e : decode code pc = (match Decoder.instr pc code pc with | .error x => .error x | .ok (j, s) => .ok (j, s - pc)) := by
    show (do let (j, s) ← Decoder.instr pc code pc; Pure.pure (j, s - pc) : Except DecodeError (Instr × Nat)) = _
    cases Decoder.instr pc code pc <;> rfl
  rw [e, h]
  show Except.ok (i, pc + n - pc) = _
  rw [Nat.add_sub_cancel_left]
theorem dk_1 {code : ByteArray} {pc : Nat} (h : DkAt code pc [1]) : decode code pc = .ok (.aconst_null, 1) := dk_of ((dk_bind (dk_u1 (h 0 _ rfl))).trans rfl)
theorem dk_2 {code : ByteArray} {pc : Nat} (h : DkAt code pc [2]) : decode code pc = .ok (.iconst (-1), 1) := dk_of ((dk_bind (dk_u1 (h 0 _ rfl))).trans rfl)
theorem dk_3 {code : ByteArray} {pc : Nat} (h : DkAt code pc [3]) : decode code pc = .ok (.iconst 0, 1) := dk_of ((dk_bind (dk_u1 (h 0 _ rfl))).trans rfl)
theorem dk_4 {code : ByteArray} {pc : Nat} (h : DkAt code pc [4]) : decode code pc = .ok (.iconst 1, 1) := dk_of ((dk_bind (dk_u1 (h 0 _ rfl))).trans rfl)
theorem dk_5 {code : ByteArray} {pc : Nat} (h : DkAt code pc [5]) : decode code pc = .ok (.iconst 2, 1) := dk_of ((dk_bind (dk_u1 (h 0 _ rfl))).trans rfl)
theorem dk_6 {code : ByteArray} {pc : Nat} (h : DkAt code pc [6]) : decode code pc = .ok (.iconst 3, 1) := dk_of ((dk_bind (dk_u1 (h 0 _ rfl))).trans rfl)
theorem dk_7 {code : ByteArray} {pc : Nat} (h : DkAt code pc [7]) : decode code pc = .ok (.iconst 4, 1) := dk_of ((dk_bind (dk_u1 (h 0 _ rfl))).trans rfl)
theorem dk_8 {code : ByteArray} {pc : Nat} (h : DkAt code pc [8]) : decode code pc = .ok (.iconst 5, 1) := dk_of ((dk_bind (dk_u1 (h 0 _ rfl))).trans rfl)
theorem dk_9 {code : ByteArray} {pc : Nat} (h : DkAt code pc [9]) : decode code pc = .ok (.lconst 0, 1) := dk_of ((dk_bind (dk_u1 (h 0 _ rfl))).trans rfl)
theorem dk_10 {code : ByteArray} {pc : Nat} (h : DkAt code pc [10]) : decode code pc = .ok (.lconst 1, 1) := dk_of ((dk_bind (dk_u1 (h 0 _ rfl))).trans rfl)
theorem dk_16 {code : ByteArray} {pc : Nat} (a : UInt8) (h : DkAt code pc [16, a]) : decode code pc = .ok (.bipush (Reader.signed 8 a.toNat), 2) := dk_of ((dk_bind (dk_u1 (h 0 _ rfl))).trans ((dk_bind (dk_map (dk_u1 (h 1 _ rfl)))).trans rfl))
theorem dk_17 {code : ByteArray} {pc : Nat} (a b : UInt8) (h : DkAt code pc [17, a, b]) : decode code pc = .ok (.sipush (Reader.signed 16 (a.toNat * 256 + b.toNat)), 3) := dk_of ((dk_bind (dk_u1 (h 0 _ rfl))).trans ((dk_bind (dk_map (dk_u2 (h 1 _ rfl) (h 2 _ rfl)))).trans rfl))
theorem dk_18 {code : ByteArray} {pc : Nat} (a : UInt8) (h : DkAt code pc [18, a]) : decode code pc = .ok (.ldc a.toNat, 2) := dk_of ((dk_bind (dk_u1 (h 0 _ rfl))).trans ((dk_bind (dk_u1 (h 1 _ rfl))).trans rfl))
theorem dk_20 {code : ByteArray} {pc : Nat} (a b : UInt8) (h : DkAt code pc [20, a, b]) : decode code pc = .ok (.ldc2_w (a.toNat * 256 + b.toNat), 3) := dk_of ((dk_bind (dk_u1 (h 0 _ rfl))).trans ((dk_bind (dk_u2 (h 1 _ rfl) (h 2 _ rfl))).trans rfl))
theorem dk_21 {code : ByteArray} {pc : Nat} (a : UInt8) (h : DkAt code pc [21, a]) : decode code pc = .ok (.iload a.toNat, 2) := dk_of ((dk_bind (dk_u1 (h 0 _ rfl))).trans ((dk_bind (dk_u1 (h 1 _ rfl))).trans rfl))
theorem dk_22 {code : ByteArray} {pc : Nat} (a : UInt8) (h : DkAt code pc [22, a]) : decode code pc = .ok (.lload a.toNat, 2) := dk_of ((dk_bind (dk_u1 (h 0 _ rfl))).trans ((dk_bind (dk_u1 (h 1 _ rfl))).trans rfl))
theorem dk_24 {code : ByteArray} {pc : Nat} (a : UInt8) (h : DkAt code pc [24, a]) : decode code pc = .ok (.dload a.toNat, 2) := dk_of ((dk_bind (dk_u1 (h 0 _ rfl))).trans ((dk_bind (dk_u1 (h 1 _ rfl))).trans rfl))
theorem dk_25 {code : ByteArray} {pc : Nat} (a : UInt8) (h : DkAt code pc [25, a]) : decode code pc = .ok (.aload a.toNat, 2) := dk_of ((dk_bind (dk_u1 (h 0 _ rfl))).trans ((dk_bind (dk_u1 (h 1 _ rfl))).trans rfl))
theorem dk_26 {code : ByteArray} {pc : Nat} (h : DkAt code pc [26]) : decode code pc = .ok (.iload_n 0, 1) := dk_of ((dk_bind (dk_u1 (h 0 _ rfl))).trans rfl)
theorem dk_27 {code : ByteArray} {pc : Nat} (h : DkAt code pc [27]) : decode code pc = .ok (.iload_n 1, 1) := dk_of ((dk_bind (dk_u1 (h 0 _ rfl))).trans rfl)
theorem dk_28 {code : ByteArray} {pc : Nat} (h : DkAt code pc [28]) : decode code pc = .ok (.iload_n 2, 1) := dk_of ((dk_bind (dk_u1 (h 0 _ rfl))).trans rfl)
theorem dk_29 {code : ByteArray} {pc : Nat} (h : DkAt code pc [29]) : decode code pc = .ok (.iload_n 3, 1) := dk_of ((dk_bind (dk_u1 (h 0 _ rfl))).trans rfl)
theorem dk_31 {code : ByteArray} {pc : Nat} (h : DkAt code pc [31]) : decode code pc = .ok (.lload_n 1, 1) := dk_of ((dk_bind (dk_u1 (h 0 _ rfl))).trans rfl)
theorem dk_33 {code : ByteArray} {pc : Nat} (h : DkAt code pc [33]) : decode code pc = .ok (.lload_n 3, 1) := dk_of ((dk_bind (dk_u1 (h 0 _ rfl))).trans rfl)
theorem dk_42 {code : ByteArray} {pc : Nat} (h : DkAt code pc [42]) : decode code pc = .ok (.aload_n 0, 1) := dk_of ((dk_bind (dk_u1 (h 0 _ rfl))).trans rfl)
theorem dk_43 {code : ByteArray} {pc : Nat} (h : DkAt code pc [43]) : decode code pc = .ok (.aload_n 1, 1) := dk_of ((dk_bind (dk_u1 (h 0 _ rfl))).trans rfl)
theorem dk_44 {code : ByteArray} {pc : Nat} (h : DkAt code pc [44]) : decode code pc = .ok (.aload_n 2, 1) := dk_of ((dk_bind (dk_u1 (h 0 _ rfl))).trans rfl)
theorem dk_45 {code : ByteArray} {pc : Nat} (h : DkAt code pc [45]) : decode code pc = .ok (.aload_n 3, 1) := dk_of ((dk_bind (dk_u1 (h 0 _ rfl))).trans rfl)
theorem dk_46 {code : ByteArray} {pc : Nat} (h : DkAt code pc [46]) : decode code pc = .ok (.iaload, 1) := dk_of ((dk_bind (dk_u1 (h 0 _ rfl))).trans rfl)
theorem dk_47 {code : ByteArray} {pc : Nat} (h : DkAt code pc [47]) : decode code pc = .ok (.laload, 1) := dk_of ((dk_bind (dk_u1 (h 0 _ rfl))).trans rfl)
theorem dk_49 {code : ByteArray} {pc : Nat} (h : DkAt code pc [49]) : decode code pc = .ok (.daload, 1) := dk_of ((dk_bind (dk_u1 (h 0 _ rfl))).trans rfl)
theorem dk_50 {code : ByteArray} {pc : Nat} (h : DkAt code pc [50]) : decode code pc = .ok (.aaload, 1) := dk_of ((dk_bind (dk_u1 (h 0 _ rfl))).trans rfl)
theorem dk_51 {code : ByteArray} {pc : Nat} (h : DkAt code pc [51]) : decode code pc = .ok (.baload, 1) := dk_of ((dk_bind (dk_u1 (h 0 _ rfl))).trans rfl)
theorem dk_52 {code : ByteArray} {pc : Nat} (h : DkAt code pc [52]) : decode code pc = .ok (.caload, 1) := dk_of ((dk_bind (dk_u1 (h 0 _ rfl))).trans rfl)
theorem dk_53 {code : ByteArray} {pc : Nat} (h : DkAt code pc [53]) : decode code pc = .ok (.saload, 1) := dk_of ((dk_bind (dk_u1 (h 0 _ rfl))).trans rfl)
theorem dk_54 {code : ByteArray} {pc : Nat} (a : UInt8) (h : DkAt code pc [54, a]) : decode code pc = .ok (.istore a.toNat, 2) := dk_of ((dk_bind (dk_u1 (h 0 _ rfl))).trans ((dk_bind (dk_u1 (h 1 _ rfl))).trans rfl))
theorem dk_55 {code : ByteArray} {pc : Nat} (a : UInt8) (h : DkAt code pc [55, a]) : decode code pc = .ok (.lstore a.toNat, 2) := dk_of ((dk_bind (dk_u1 (h 0 _ rfl))).trans ((dk_bind (dk_u1 (h 1 _ rfl))).trans rfl))
theorem dk_57 {code : ByteArray} {pc : Nat} (a : UInt8) (h : DkAt code pc [57, a]) : decode code pc = .ok (.dstore a.toNat, 2) := dk_of ((dk_bind (dk_u1 (h 0 _ rfl))).trans ((dk_bind (dk_u1 (h 1 _ rfl))).trans rfl))
theorem dk_58 {code : ByteArray} {pc : Nat} (a : UInt8) (h : DkAt code pc [58, a]) : decode code pc = .ok (.astore a.toNat, 2) := dk_of ((dk_bind (dk_u1 (h 0 _ rfl))).trans ((dk_bind (dk_u1 (h 1 _ rfl))).trans rfl))
theorem dk_60 {code : ByteArray} {pc : Nat} (h : DkAt code pc [60]) : decode code pc = .ok (.istore_n 1, 1) := dk_of ((dk_bind (dk_u1 (h 0 _ rfl))).trans rfl)
theorem dk_61 {code : ByteArray} {pc : Nat} (h : DkAt code pc [61]) : decode code pc = .ok (.istore_n 2, 1) := dk_of ((dk_bind (dk_u1 (h 0 _ rfl))).trans rfl)
theorem dk_62 {code : ByteArray} {pc : Nat} (h : DkAt code pc [62]) : decode code pc = .ok (.istore_n 3, 1) := dk_of ((dk_bind (dk_u1 (h 0 _ rfl))).trans rfl)
theorem dk_66 {code : ByteArray} {pc : Nat} (h : DkAt code pc [66]) : decode code pc = .ok (.lstore_n 3, 1) := dk_of ((dk_bind (dk_u1 (h 0 _ rfl))).trans rfl)
theorem dk_76 {code : ByteArray} {pc : Nat} (h : DkAt code pc [76]) : decode code pc = .ok (.astore_n 1, 1) := dk_of ((dk_bind (dk_u1 (h 0 _ rfl))).trans rfl)
theorem dk_77 {code : ByteArray} {pc : Nat} (h : DkAt code pc [77]) : decode code pc = .ok (.astore_n 2, 1) := dk_of ((dk_bind (dk_u1 (h 0 _ rfl))).trans rfl)
theorem dk_78 {code : ByteArray} {pc : Nat} (h : DkAt code pc [78]) : decode code pc = .ok (.astore_n 3, 1) := dk_of ((dk_bind (dk_u1 (h 0 _ rfl))).trans rfl)
theorem dk_79 {code : ByteArray} {pc : Nat} (h : DkAt code pc [79]) : decode code pc = .ok (.iastore, 1) := dk_of ((dk_bind (dk_u1 (h 0 _ rfl))).trans rfl)
theorem dk_80 {code : ByteArray} {pc : Nat} (h : DkAt code pc [80]) : decode code pc = .ok (.lastore, 1) := dk_of ((dk_bind (dk_u1 (h 0 _ rfl))).trans rfl)
theorem dk_82 {code : ByteArray} {pc : Nat} (h : DkAt code pc [82]) : decode code pc = .ok (.dastore, 1) := dk_of ((dk_bind (dk_u1 (h 0 _ rfl))).trans rfl)
theorem dk_83 {code : ByteArray} {pc : Nat} (h : DkAt code pc [83]) : decode code pc = .ok (.aastore, 1) := dk_of ((dk_bind (dk_u1 (h 0 _ rfl))).trans rfl)
theorem dk_84 {code : ByteArray} {pc : Nat} (h : DkAt code pc [84]) : decode code pc = .ok (.bastore, 1) := dk_of ((dk_bind (dk_u1 (h 0 _ rfl))).trans rfl)
theorem dk_85 {code : ByteArray} {pc : Nat} (h : DkAt code pc [85]) : decode code pc = .ok (.castore, 1) := dk_of ((dk_bind (dk_u1 (h 0 _ rfl))).trans rfl)
theorem dk_86 {code : ByteArray} {pc : Nat} (h : DkAt code pc [86]) : decode code pc = .ok (.sastore, 1) := dk_of ((dk_bind (dk_u1 (h 0 _ rfl))).trans rfl)
theorem dk_87 {code : ByteArray} {pc : Nat} (h : DkAt code pc [87]) : decode code pc = .ok (.pop, 1) := dk_of ((dk_bind (dk_u1 (h 0 _ rfl))).trans rfl)
theorem dk_89 {code : ByteArray} {pc : Nat} (h : DkAt code pc [89]) : decode code pc = .ok (.dup, 1) := dk_of ((dk_bind (dk_u1 (h 0 _ rfl))).trans rfl)
theorem dk_92 {code : ByteArray} {pc : Nat} (h : DkAt code pc [92]) : decode code pc = .ok (.dup2, 1) := dk_of ((dk_bind (dk_u1 (h 0 _ rfl))).trans rfl)
theorem dk_96 {code : ByteArray} {pc : Nat} (h : DkAt code pc [96]) : decode code pc = .ok (.iadd, 1) := dk_of ((dk_bind (dk_u1 (h 0 _ rfl))).trans rfl)
theorem dk_97 {code : ByteArray} {pc : Nat} (h : DkAt code pc [97]) : decode code pc = .ok (.ladd, 1) := dk_of ((dk_bind (dk_u1 (h 0 _ rfl))).trans rfl)
theorem dk_99 {code : ByteArray} {pc : Nat} (h : DkAt code pc [99]) : decode code pc = .ok (.dadd, 1) := dk_of ((dk_bind (dk_u1 (h 0 _ rfl))).trans rfl)
theorem dk_100 {code : ByteArray} {pc : Nat} (h : DkAt code pc [100]) : decode code pc = .ok (.isub, 1) := dk_of ((dk_bind (dk_u1 (h 0 _ rfl))).trans rfl)
theorem dk_101 {code : ByteArray} {pc : Nat} (h : DkAt code pc [101]) : decode code pc = .ok (.lsub, 1) := dk_of ((dk_bind (dk_u1 (h 0 _ rfl))).trans rfl)
theorem dk_104 {code : ByteArray} {pc : Nat} (h : DkAt code pc [104]) : decode code pc = .ok (.imul, 1) := dk_of ((dk_bind (dk_u1 (h 0 _ rfl))).trans rfl)
theorem dk_107 {code : ByteArray} {pc : Nat} (h : DkAt code pc [107]) : decode code pc = .ok (.dmul, 1) := dk_of ((dk_bind (dk_u1 (h 0 _ rfl))).trans rfl)
theorem dk_108 {code : ByteArray} {pc : Nat} (h : DkAt code pc [108]) : decode code pc = .ok (.idiv, 1) := dk_of ((dk_bind (dk_u1 (h 0 _ rfl))).trans rfl)
theorem dk_111 {code : ByteArray} {pc : Nat} (h : DkAt code pc [111]) : decode code pc = .ok (.ddiv, 1) := dk_of ((dk_bind (dk_u1 (h 0 _ rfl))).trans rfl)
theorem dk_126 {code : ByteArray} {pc : Nat} (h : DkAt code pc [126]) : decode code pc = .ok (.iand, 1) := dk_of ((dk_bind (dk_u1 (h 0 _ rfl))).trans rfl)
theorem dk_127 {code : ByteArray} {pc : Nat} (h : DkAt code pc [127]) : decode code pc = .ok (.land, 1) := dk_of ((dk_bind (dk_u1 (h 0 _ rfl))).trans rfl)
theorem dk_132 {code : ByteArray} {pc : Nat} (a b : UInt8) (h : DkAt code pc [132, a, b]) : decode code pc = .ok (.iinc a.toNat (Reader.signed 8 b.toNat), 3) := dk_of ((dk_bind (dk_u1 (h 0 _ rfl))).trans ((dk_bind (dk_u1 (h 1 _ rfl))).trans ((dk_bind (dk_map (dk_u1 (h 2 _ rfl)))).trans rfl)))
theorem dk_133 {code : ByteArray} {pc : Nat} (h : DkAt code pc [133]) : decode code pc = .ok (.i2l, 1) := dk_of ((dk_bind (dk_u1 (h 0 _ rfl))).trans rfl)
theorem dk_135 {code : ByteArray} {pc : Nat} (h : DkAt code pc [135]) : decode code pc = .ok (.i2d, 1) := dk_of ((dk_bind (dk_u1 (h 0 _ rfl))).trans rfl)
theorem dk_136 {code : ByteArray} {pc : Nat} (h : DkAt code pc [136]) : decode code pc = .ok (.l2i, 1) := dk_of ((dk_bind (dk_u1 (h 0 _ rfl))).trans rfl)
theorem dk_142 {code : ByteArray} {pc : Nat} (h : DkAt code pc [142]) : decode code pc = .ok (.d2i, 1) := dk_of ((dk_bind (dk_u1 (h 0 _ rfl))).trans rfl)
theorem dk_146 {code : ByteArray} {pc : Nat} (h : DkAt code pc [146]) : decode code pc = .ok (.i2c, 1) := dk_of ((dk_bind (dk_u1 (h 0 _ rfl))).trans rfl)
theorem dk_147 {code : ByteArray} {pc : Nat} (h : DkAt code pc [147]) : decode code pc = .ok (.i2s, 1) := dk_of ((dk_bind (dk_u1 (h 0 _ rfl))).trans rfl)
theorem dk_148 {code : ByteArray} {pc : Nat} (h : DkAt code pc [148]) : decode code pc = .ok (.lcmp, 1) := dk_of ((dk_bind (dk_u1 (h 0 _ rfl))).trans rfl)
theorem dk_153 {code : ByteArray} {pc : Nat} (a b : UInt8) (h : DkAt code pc [153, a, b]) : decode code pc = .ok (.ifCond .eq (Reader.signed 16 (a.toNat * 256 + b.toNat)), 3) := dk_of ((dk_bind (dk_u1 (h 0 _ rfl))).trans ((dk_bind (dk_map (dk_u2 (h 1 _ rfl) (h 2 _ rfl)))).trans rfl))
theorem dk_154 {code : ByteArray} {pc : Nat} (a b : UInt8) (h : DkAt code pc [154, a, b]) : decode code pc = .ok (.ifCond .ne (Reader.signed 16 (a.toNat * 256 + b.toNat)), 3) := dk_of ((dk_bind (dk_u1 (h 0 _ rfl))).trans ((dk_bind (dk_map (dk_u2 (h 1 _ rfl) (h 2 _ rfl)))).trans rfl))
theorem dk_158 {code : ByteArray} {pc : Nat} (a b : UInt8) (h : DkAt code pc [158, a, b]) : decode code pc = .ok (.ifCond .le (Reader.signed 16 (a.toNat * 256 + b.toNat)), 3) := dk_of ((dk_bind (dk_u1 (h 0 _ rfl))).trans ((dk_bind (dk_map (dk_u2 (h 1 _ rfl) (h 2 _ rfl)))).trans rfl))
theorem dk_159 {code : ByteArray} {pc : Nat} (a b : UInt8) (h : DkAt code pc [159, a, b]) : decode code pc = .ok (.if_icmp .eq (Reader.signed 16 (a.toNat * 256 + b.toNat)), 3) := dk_of ((dk_bind (dk_u1 (h 0 _ rfl))).trans ((dk_bind (dk_map (dk_u2 (h 1 _ rfl) (h 2 _ rfl)))).trans rfl))
theorem dk_160 {code : ByteArray} {pc : Nat} (a b : UInt8) (h : DkAt code pc [160, a, b]) : decode code pc = .ok (.if_icmp .ne (Reader.signed 16 (a.toNat * 256 + b.toNat)), 3) := dk_of ((dk_bind (dk_u1 (h 0 _ rfl))).trans ((dk_bind (dk_map (dk_u2 (h 1 _ rfl) (h 2 _ rfl)))).trans rfl))
theorem dk_161 {code : ByteArray} {pc : Nat} (a b : UInt8) (h : DkAt code pc [161, a, b]) : decode code pc = .ok (.if_icmp .lt (Reader.signed 16 (a.toNat * 256 + b.toNat)), 3) := dk_of ((dk_bind (dk_u1 (h 0 _ rfl))).trans ((dk_bind (dk_map (dk_u2 (h 1 _ rfl) (h 2 _ rfl)))).trans rfl))
theorem dk_162 {code : ByteArray} {pc : Nat} (a b : UInt8) (h : DkAt code pc [162, a, b]) : decode code pc = .ok (.if_icmp .ge (Reader.signed 16 (a.toNat * 256 + b.toNat)), 3) := dk_of ((dk_bind (dk_u1 (h 0 _ rfl))).trans ((dk_bind (dk_map (dk_u2 (h 1 _ rfl) (h 2 _ rfl)))).trans rfl))
theorem dk_163 {code : ByteArray} {pc : Nat} (a b : UInt8) (h : DkAt code pc [163, a, b]) : decode code pc = .ok (.if_icmp .gt (Reader.signed 16 (a.toNat * 256 + b.toNat)), 3) := dk_of ((dk_bind (dk_u1 (h 0 _ rfl))).trans ((dk_bind (dk_map (dk_u2 (h 1 _ rfl) (h 2 _ rfl)))).trans rfl))
theorem dk_164 {code : ByteArray} {pc : Nat} (a b : UInt8) (h : DkAt code pc [164, a, b]) : decode code pc = .ok (.if_icmp .le (Reader.signed 16 (a.toNat * 256 + b.toNat)), 3) := dk_of ((dk_bind (dk_u1 (h 0 _ rfl))).trans ((dk_bind (dk_map (dk_u2 (h 1 _ rfl) (h 2 _ rfl)))).trans rfl))
theorem dk_166 {code : ByteArray} {pc : Nat} (a b : UInt8) (h : DkAt code pc [166, a, b]) : decode code pc = .ok (.if_acmp .ne (Reader.signed 16 (a.toNat * 256 + b.toNat)), 3) := dk_of ((dk_bind (dk_u1 (h 0 _ rfl))).trans ((dk_bind (dk_map (dk_u2 (h 1 _ rfl) (h 2 _ rfl)))).trans rfl))
theorem dk_167 {code : ByteArray} {pc : Nat} (a b : UInt8) (h : DkAt code pc [167, a, b]) : decode code pc = .ok (.goto (Reader.signed 16 (a.toNat * 256 + b.toNat)), 3) := dk_of ((dk_bind (dk_u1 (h 0 _ rfl))).trans ((dk_bind (dk_map (dk_u2 (h 1 _ rfl) (h 2 _ rfl)))).trans rfl))
theorem dk_172 {code : ByteArray} {pc : Nat} (h : DkAt code pc [172]) : decode code pc = .ok (.ireturn, 1) := dk_of ((dk_bind (dk_u1 (h 0 _ rfl))).trans rfl)
theorem dk_173 {code : ByteArray} {pc : Nat} (h : DkAt code pc [173]) : decode code pc = .ok (.lreturn, 1) := dk_of ((dk_bind (dk_u1 (h 0 _ rfl))).trans rfl)
theorem dk_176 {code : ByteArray} {pc : Nat} (h : DkAt code pc [176]) : decode code pc = .ok (.areturn, 1) := dk_of ((dk_bind (dk_u1 (h 0 _ rfl))).trans rfl)
theorem dk_177 {code : ByteArray} {pc : Nat} (h : DkAt code pc [177]) : decode code pc = .ok (.return_, 1) := dk_of ((dk_bind (dk_u1 (h 0 _ rfl))).trans rfl)
theorem dk_178 {code : ByteArray} {pc : Nat} (a b : UInt8) (h : DkAt code pc [178, a, b]) : decode code pc = .ok (.getstatic (a.toNat * 256 + b.toNat), 3) := dk_of ((dk_bind (dk_u1 (h 0 _ rfl))).trans ((dk_bind (dk_u2 (h 1 _ rfl) (h 2 _ rfl))).trans rfl))
theorem dk_180 {code : ByteArray} {pc : Nat} (a b : UInt8) (h : DkAt code pc [180, a, b]) : decode code pc = .ok (.getfield (a.toNat * 256 + b.toNat), 3) := dk_of ((dk_bind (dk_u1 (h 0 _ rfl))).trans ((dk_bind (dk_u2 (h 1 _ rfl) (h 2 _ rfl))).trans rfl))
theorem dk_181 {code : ByteArray} {pc : Nat} (a b : UInt8) (h : DkAt code pc [181, a, b]) : decode code pc = .ok (.putfield (a.toNat * 256 + b.toNat), 3) := dk_of ((dk_bind (dk_u1 (h 0 _ rfl))).trans ((dk_bind (dk_u2 (h 1 _ rfl) (h 2 _ rfl))).trans rfl))
theorem dk_182 {code : ByteArray} {pc : Nat} (a b : UInt8) (h : DkAt code pc [182, a, b]) : decode code pc = .ok (.invokevirtual (a.toNat * 256 + b.toNat), 3) := dk_of ((dk_bind (dk_u1 (h 0 _ rfl))).trans ((dk_bind (dk_u2 (h 1 _ rfl) (h 2 _ rfl))).trans rfl))
theorem dk_183 {code : ByteArray} {pc : Nat} (a b : UInt8) (h : DkAt code pc [183, a, b]) : decode code pc = .ok (.invokespecial (a.toNat * 256 + b.toNat), 3) := dk_of ((dk_bind (dk_u1 (h 0 _ rfl))).trans ((dk_bind (dk_u2 (h 1 _ rfl) (h 2 _ rfl))).trans rfl))
theorem dk_184 {code : ByteArray} {pc : Nat} (a b : UInt8) (h : DkAt code pc [184, a, b]) : decode code pc = .ok (.invokestatic (a.toNat * 256 + b.toNat), 3) := dk_of ((dk_bind (dk_u1 (h 0 _ rfl))).trans ((dk_bind (dk_u2 (h 1 _ rfl) (h 2 _ rfl))).trans rfl))
theorem dk_187 {code : ByteArray} {pc : Nat} (a b : UInt8) (h : DkAt code pc [187, a, b]) : decode code pc = .ok (.new (a.toNat * 256 + b.toNat), 3) := dk_of ((dk_bind (dk_u1 (h 0 _ rfl))).trans ((dk_bind (dk_u2 (h 1 _ rfl) (h 2 _ rfl))).trans rfl))
theorem dk_188_4 {code : ByteArray} {pc : Nat} (h : DkAt code pc [188, 4]) : decode code pc = .ok (.newarray .boolean, 2) := dk_of ((dk_bind (dk_u1 (h 0 _ rfl))).trans ((dk_bind (dk_u1 (h 1 _ rfl))).trans rfl))
theorem dk_188_5 {code : ByteArray} {pc : Nat} (h : DkAt code pc [188, 5]) : decode code pc = .ok (.newarray .char, 2) := dk_of ((dk_bind (dk_u1 (h 0 _ rfl))).trans ((dk_bind (dk_u1 (h 1 _ rfl))).trans rfl))
theorem dk_188_7 {code : ByteArray} {pc : Nat} (h : DkAt code pc [188, 7]) : decode code pc = .ok (.newarray .double, 2) := dk_of ((dk_bind (dk_u1 (h 0 _ rfl))).trans ((dk_bind (dk_u1 (h 1 _ rfl))).trans rfl))
theorem dk_188_9 {code : ByteArray} {pc : Nat} (h : DkAt code pc [188, 9]) : decode code pc = .ok (.newarray .short, 2) := dk_of ((dk_bind (dk_u1 (h 0 _ rfl))).trans ((dk_bind (dk_u1 (h 1 _ rfl))).trans rfl))
theorem dk_188_10 {code : ByteArray} {pc : Nat} (h : DkAt code pc [188, 10]) : decode code pc = .ok (.newarray .int, 2) := dk_of ((dk_bind (dk_u1 (h 0 _ rfl))).trans ((dk_bind (dk_u1 (h 1 _ rfl))).trans rfl))
theorem dk_188_11 {code : ByteArray} {pc : Nat} (h : DkAt code pc [188, 11]) : decode code pc = .ok (.newarray .long, 2) := dk_of ((dk_bind (dk_u1 (h 0 _ rfl))).trans ((dk_bind (dk_u1 (h 1 _ rfl))).trans rfl))
theorem dk_189 {code : ByteArray} {pc : Nat} (a b : UInt8) (h : DkAt code pc [189, a, b]) : decode code pc = .ok (.anewarray (a.toNat * 256 + b.toNat), 3) := dk_of ((dk_bind (dk_u1 (h 0 _ rfl))).trans ((dk_bind (dk_u2 (h 1 _ rfl) (h 2 _ rfl))).trans rfl))
theorem dk_190 {code : ByteArray} {pc : Nat} (h : DkAt code pc [190]) : decode code pc = .ok (.arraylength, 1) := dk_of ((dk_bind (dk_u1 (h 0 _ rfl))).trans rfl)
theorem dk_192 {code : ByteArray} {pc : Nat} (a b : UInt8) (h : DkAt code pc [192, a, b]) : decode code pc = .ok (.checkcast (a.toNat * 256 + b.toNat), 3) := dk_of ((dk_bind (dk_u1 (h 0 _ rfl))).trans ((dk_bind (dk_u2 (h 1 _ rfl) (h 2 _ rfl))).trans rfl))
theorem dk_193 {code : ByteArray} {pc : Nat} (a b : UInt8) (h : DkAt code pc [193, a, b]) : decode code pc = .ok (.instanceof (a.toNat * 256 + b.toNat), 3) := dk_of ((dk_bind (dk_u1 (h 0 _ rfl))).trans ((dk_bind (dk_u2 (h 1 _ rfl) (h 2 _ rfl))).trans rfl))
theorem dk_198 {code : ByteArray} {pc : Nat} (a b : UInt8) (h : DkAt code pc [198, a, b]) : decode code pc = .ok (.ifnull (Reader.signed 16 (a.toNat * 256 + b.toNat)), 3) := dk_of ((dk_bind (dk_u1 (h 0 _ rfl))).trans ((dk_bind (dk_map (dk_u2 (h 1 _ rfl) (h 2 _ rfl)))).trans rfl))
theorem dk_199 {code : ByteArray} {pc : Nat} (a b : UInt8) (h : DkAt code pc [199, a, b]) : decode code pc = .ok (.ifnonnull (Reader.signed 16 (a.toNat * 256 + b.toNat)), 3) := dk_of ((dk_bind (dk_u1 (h 0 _ rfl))).trans ((dk_bind (dk_map (dk_u2 (h 1 _ rfl) (h 2 _ rfl)))).trans rfl))
theorem q47 : (Jvm.Cond.arrayOver (Jvm.ClassFile.FieldType.object "MailRooms$Item")) ∈ lw_tbl := lw_at lw_m1 25 rfl
set_option maxRecDepth 100000
theorem q49 : (Jvm.Cond.arrayOver (Jvm.ClassFile.FieldType.object "MailRooms$Desk")) ∈ lw_tbl := lw_at lw_m1 27 rfl
theorem q84 : (Jvm.Cond.arrayClass Jvm.ClassFile.FieldType.int) ∈ lw_all := lw_g (lw_at lw_m1 62 rfl) rfl
theorem q101 : (Jvm.Cond.arrayOver (Jvm.ClassFile.FieldType.array Jvm.ClassFile.FieldType.char)) ∈ lw_tbl := lw_at lw_m1 79 rfl
theorem q112 : (Jvm.Cond.arrayClass Jvm.ClassFile.FieldType.char) ∈ lw_all := lw_g (lw_at lw_m1 90 rfl) rfl
theorem q113 : (Jvm.Cond.arrayClass Jvm.ClassFile.FieldType.short) ∈ lw_all := lw_g (lw_at lw_m1 91 rfl) rfl
theorem q114 : (Jvm.Cond.arrayClass Jvm.ClassFile.FieldType.double) ∈ lw_all := lw_g (lw_at lw_m1 92 rfl) rfl
theorem q115 : (Jvm.Cond.arrayClass Jvm.ClassFile.FieldType.boolean) ∈ lw_all := lw_g (lw_at lw_m1 93 rfl) rfl
theorem q134 : (Jvm.Cond.arrayOver (Jvm.ClassFile.FieldType.object "MailRooms$Card")) ∈ lw_tbl := lw_at lw_m1 112 rfl
theorem q135 : (Jvm.Cond.arrayOver (Jvm.ClassFile.FieldType.object "MailRooms$GoldCard")) ∈ lw_tbl := lw_at lw_m1 113 rfl
theorem q137 : (Jvm.Cond.arrayOver (Jvm.ClassFile.FieldType.object "MailRooms$Stamped")) ∈ lw_tbl := lw_at lw_m1 115 rfl
theorem q139 : (Jvm.Cond.arrayOver (Jvm.ClassFile.FieldType.array (Jvm.ClassFile.FieldType.object "MailRooms$Card"))) ∈ lw_tbl := lw_at lw_m1 117 rfl
theorem q141 : (Jvm.Cond.arrayOver (Jvm.ClassFile.FieldType.array (Jvm.ClassFile.FieldType.object "MailRooms$GoldCard"))) ∈ lw_tbl := lw_at lw_m1 119 rfl
theorem q221 : (Jvm.Cond.arrayClass Jvm.ClassFile.FieldType.byte) ∈ lw_all := lw_g (lw_at lw_m1 199 rfl) rfl
theorem q555 : (Jvm.Cond.arrayClass Jvm.ClassFile.FieldType.long) ∈ lw_all := lw_g (lw_at lw_m3 53 rfl) rfl
theorem q312 : (Jvm.Cond.interfaceMethod "MailRooms$Stamped" "MailRooms$Stamped" "stamps" "()I") ∈ lw_tbl := lw_at lw_m2 50 rfl
set_option maxRecDepth 100000
theorem q313 : (Jvm.Cond.declares ({ cls := "MailRooms$Stamped", name := "stamps", desc := "()I" } : Jvm.MethodName)) ∈ lw_tbl := lw_at lw_m2 51 rfl
theorem q416 : (Jvm.Cond.interfaceMethod "MailRooms$Stamped" "MailRooms$Stamped" "stamp" "()V") ∈ lw_tbl := lw_at lw_m2 154 rfl
theorem q417 : (Jvm.Cond.declares ({ cls := "MailRooms$Stamped", name := "stamp", desc := "()V" } : Jvm.MethodName)) ∈ lw_tbl := lw_at lw_m2 155 rfl
/-! MailRooms -/
set_option maxRecDepth 100000
def RX0 : String := "MailRooms"
def TX0 : u_T := fun k => match k with
  | 0 => ("MailRooms", "items", "[LMailRooms$Item;", true)
  | 1 => ("MailRooms", "many", "I", false)
  | 2 => ("MailRooms", "refused", "I", false)
  | 3 => ("MailRooms", "casts", "I", false)
  | 4 => ("MailRooms", "indexes", "I", false)
  | 5 => ("MailRooms", "stores", "I", false)
  | 6 => ("MailRooms", "back", "I", false)
  | 7 => ("MailRooms", "desks", "[LMailRooms$Desk;", true)
  | 8 => ("MailRooms", "deskMany", "[I", true)
  | 9 => ("MailRooms", "works", "I", false)
  | _ => ("MailRooms", "out", "Ljava/lang/Object;", false)
def tyX0 : Nat → FieldType := fun k => match k with
  | 0 => .array (.object "MailRooms$Item")
  | 1 => .int
  | 2 => .int
  | 3 => .int
  | 4 => .int
  | 5 => .int
  | 6 => .int
  | 7 => .array (.object "MailRooms$Desk")
  | 8 => .array .int
  | 9 => .int
  | _ => .object "java/lang/Object"
abbrev wsX00 : List Cond := u_ws RX0 TX0 11
theorem nmX0 : ∀ a, a < 11 → ∀ b, b < 11 → a ≠ b → (TX0 a).2.1 ≠ (TX0 b).2.1 := by decide +kernel
theorem tyX0_ok : ∀ k, k < 11 → parseFieldDescriptor (TX0 k).2.2.1 = some (tyX0 k) := by decide +kernel
abbrev cX0_init : ByteArray := prog_1_method_1_code
def yX0_init : MethodName := ⟨RX0, "<init>", "()V"⟩
def dkwX0_init_1 : List UInt8 := [16, 8, 188, 10, 181, 0, 21, 177]
abbrev dktX0_init_1 : List UInt8 := dkwX0_init_1 ++ []
def dkwX0_init_0 : List UInt8 := [42, 183, 0, 1, 42, 16, 60, 189, 0, 9, 181, 0, 11, 42, 16, 32, 189, 0, 15, 181, 0, 17, 42]
abbrev dktX0_init_0 : List UInt8 := dkwX0_init_0 ++ dktX0_init_1
theorem dksX0_init_0 : cX0_init.data.toList.drop 0 = dktX0_init_0 := by decide +kernel
theorem dksX0_init_1 : cX0_init.data.toList.drop 23 = dktX0_init_1 := dk_seg dksX0_init_0 23 rfl rfl
theorem dX0_init_0 : decode cX0_init 0 = .ok (.aload_n 0, 1) := dk_42 (dk_at dksX0_init_0 0 rfl rfl)
theorem dX0_init_1 : decode cX0_init 1 = .ok (.invokespecial 1, 3) := dk_183 0 1 (dk_at dksX0_init_0 1 rfl rfl)
theorem dX0_init_4 : decode cX0_init 4 = .ok (.aload_n 0, 1) := dk_42 (dk_at dksX0_init_0 4 rfl rfl)
theorem dX0_init_5 : decode cX0_init 5 = .ok (.bipush 60, 2) := dk_16 60 (dk_at dksX0_init_0 5 rfl rfl)
theorem dX0_init_7 : decode cX0_init 7 = .ok (.anewarray 9, 3) := dk_189 0 9 (dk_at dksX0_init_0 7 rfl rfl)
theorem dX0_init_10 : decode cX0_init 10 = .ok (.putfield 11, 3) := dk_181 0 11 (dk_at dksX0_init_0 10 rfl rfl)
theorem dX0_init_13 : decode cX0_init 13 = .ok (.aload_n 0, 1) := dk_42 (dk_at dksX0_init_0 13 rfl rfl)
theorem dX0_init_14 : decode cX0_init 14 = .ok (.bipush 32, 2) := dk_16 32 (dk_at dksX0_init_0 14 rfl rfl)
theorem dX0_init_16 : decode cX0_init 16 = .ok (.anewarray 15, 3) := dk_189 0 15 (dk_at dksX0_init_0 16 rfl rfl)
theorem dX0_init_19 : decode cX0_init 19 = .ok (.putfield 17, 3) := dk_181 0 17 (dk_at dksX0_init_0 19 rfl rfl)
theorem dX0_init_22 : decode cX0_init 22 = .ok (.aload_n 0, 1) := dk_42 (dk_at dksX0_init_0 22 rfl rfl)
theorem dX0_init_23 : decode cX0_init 23 = .ok (.bipush 8, 2) := dk_16 8 (dk_at dksX0_init_1 0 rfl rfl)
theorem dX0_init_25 : decode cX0_init 25 = .ok (.newarray .int, 2) := dk_188_10 (dk_at dksX0_init_1 2 rfl rfl)
theorem dX0_init_27 : decode cX0_init 27 = .ok (.putfield 21, 3) := dk_181 0 21 (dk_at dksX0_init_1 4 rfl rfl)
theorem dX0_init_30 : decode cX0_init 30 = .ok (.return_, 1) := dk_177 (dk_at dksX0_init_1 7 rfl rfl)
abbrev cX0_make : ByteArray := prog_1_method_6_code
def yX0_make : MethodName := ⟨RX0, "make", "(II)I"⟩
def dkwX0_make_4 : List UInt8 := [100, 172]
abbrev dktX0_make_4 : List UInt8 := dkwX0_make_4 ++ []
def dkwX0_make_3 : List UInt8 := [27, 28, 184, 0, 66, 183, 0, 70, 83, 42, 89, 180, 0, 25, 4, 96, 181, 0, 25, 42, 180, 0, 25, 4]
abbrev dktX0_make_3 : List UInt8 := dkwX0_make_3 ++ dktX0_make_4
def dkwX0_make_2 : List UInt8 := [16, 60, 160, 0, 10, 42, 16, 253, 182, 0, 62, 172, 42, 180, 0, 11, 42, 180, 0, 25, 187, 0, 9, 89]
abbrev dktX0_make_2 : List UInt8 := dkwX0_make_2 ++ dktX0_make_3
def dkwX0_make_1 : List UInt8 := [154, 0, 19, 28, 3, 6, 184, 0, 29, 154, 0, 10, 42, 16, 254, 182, 0, 62, 172, 42, 180, 0, 25]
abbrev dktX0_make_1 : List UInt8 := dkwX0_make_1 ++ dktX0_make_2
def dkwX0_make_0 : List UInt8 := [42, 3, 181, 0, 33, 27, 3, 16, 12, 184, 0, 29, 153, 0, 22, 27, 8, 16, 7, 184, 0, 29]
abbrev dktX0_make_0 : List UInt8 := dkwX0_make_0 ++ dktX0_make_1
theorem dksX0_make_0 : cX0_make.data.toList.drop 0 = dktX0_make_0 := by decide +kernel
theorem dksX0_make_1 : cX0_make.data.toList.drop 22 = dktX0_make_1 := dk_seg dksX0_make_0 22 rfl rfl
theorem dksX0_make_2 : cX0_make.data.toList.drop 45 = dktX0_make_2 := dk_seg dksX0_make_1 23 rfl rfl
theorem dksX0_make_3 : cX0_make.data.toList.drop 69 = dktX0_make_3 := dk_seg dksX0_make_2 24 rfl rfl
theorem dksX0_make_4 : cX0_make.data.toList.drop 93 = dktX0_make_4 := dk_seg dksX0_make_3 24 rfl rfl
theorem dX0_make_0 : decode cX0_make 0 = .ok (.aload_n 0, 1) := dk_42 (dk_at dksX0_make_0 0 rfl rfl)
theorem dX0_make_1 : decode cX0_make 1 = .ok (.iconst 0, 1) := dk_3 (dk_at dksX0_make_0 1 rfl rfl)
theorem dX0_make_2 : decode cX0_make 2 = .ok (.putfield 33, 3) := dk_181 0 33 (dk_at dksX0_make_0 2 rfl rfl)
theorem dX0_make_5 : decode cX0_make 5 = .ok (.iload_n 1, 1) := dk_27 (dk_at dksX0_make_0 5 rfl rfl)
theorem dX0_make_6 : decode cX0_make 6 = .ok (.iconst 0, 1) := dk_3 (dk_at dksX0_make_0 6 rfl rfl)
theorem dX0_make_7 : decode cX0_make 7 = .ok (.bipush 12, 2) := dk_16 12 (dk_at dksX0_make_0 7 rfl rfl)
theorem dX0_make_9 : decode cX0_make 9 = .ok (.invokestatic 29, 3) := dk_184 0 29 (dk_at dksX0_make_0 9 rfl rfl)
theorem dX0_make_12 : decode cX0_make 12 = .ok (.ifCond .eq 22, 3) := dk_153 0 22 (dk_at dksX0_make_0 12 rfl rfl)
theorem dX0_make_15 : decode cX0_make 15 = .ok (.iload_n 1, 1) := dk_27 (dk_at dksX0_make_0 15 rfl rfl)
theorem dX0_make_16 : decode cX0_make 16 = .ok (.iconst 5, 1) := dk_8 (dk_at dksX0_make_0 16 rfl rfl)
theorem dX0_make_17 : decode cX0_make 17 = .ok (.bipush 7, 2) := dk_16 7 (dk_at dksX0_make_0 17 rfl rfl)
theorem dX0_make_19 : decode cX0_make 19 = .ok (.invokestatic 29, 3) := dk_184 0 29 (dk_at dksX0_make_0 19 rfl rfl)
theorem dX0_make_22 : decode cX0_make 22 = .ok (.ifCond .ne 19, 3) := dk_154 0 19 (dk_at dksX0_make_1 0 rfl rfl)
theorem dX0_make_25 : decode cX0_make 25 = .ok (.iload_n 2, 1) := dk_28 (dk_at dksX0_make_1 3 rfl rfl)
theorem dX0_make_26 : decode cX0_make 26 = .ok (.iconst 0, 1) := dk_3 (dk_at dksX0_make_1 4 rfl rfl)
theorem dX0_make_27 : decode cX0_make 27 = .ok (.iconst 3, 1) := dk_6 (dk_at dksX0_make_1 5 rfl rfl)
theorem dX0_make_28 : decode cX0_make 28 = .ok (.invokestatic 29, 3) := dk_184 0 29 (dk_at dksX0_make_1 6 rfl rfl)
theorem dX0_make_31 : decode cX0_make 31 = .ok (.ifCond .ne 10, 3) := dk_154 0 10 (dk_at dksX0_make_1 9 rfl rfl)
theorem dX0_make_34 : decode cX0_make 34 = .ok (.aload_n 0, 1) := dk_42 (dk_at dksX0_make_1 12 rfl rfl)
theorem dX0_make_35 : decode cX0_make 35 = .ok (.bipush (-2), 2) := dk_16 254 (dk_at dksX0_make_1 13 rfl rfl)
theorem dX0_make_37 : decode cX0_make 37 = .ok (.invokevirtual 62, 3) := dk_182 0 62 (dk_at dksX0_make_1 15 rfl rfl)
theorem dX0_make_40 : decode cX0_make 40 = .ok (.ireturn, 1) := dk_172 (dk_at dksX0_make_1 18 rfl rfl)
theorem dX0_make_41 : decode cX0_make 41 = .ok (.aload_n 0, 1) := dk_42 (dk_at dksX0_make_1 19 rfl rfl)
theorem dX0_make_42 : decode cX0_make 42 = .ok (.getfield 25, 3) := dk_180 0 25 (dk_at dksX0_make_1 20 rfl rfl)
theorem dX0_make_45 : decode cX0_make 45 = .ok (.bipush 60, 2) := dk_16 60 (dk_at dksX0_make_2 0 rfl rfl)
theorem dX0_make_47 : decode cX0_make 47 = .ok (.if_icmp .ne 10, 3) := dk_160 0 10 (dk_at dksX0_make_2 2 rfl rfl)
theorem dX0_make_50 : decode cX0_make 50 = .ok (.aload_n 0, 1) := dk_42 (dk_at dksX0_make_2 5 rfl rfl)
theorem dX0_make_51 : decode cX0_make 51 = .ok (.bipush (-3), 2) := dk_16 253 (dk_at dksX0_make_2 6 rfl rfl)
theorem dX0_make_53 : decode cX0_make 53 = .ok (.invokevirtual 62, 3) := dk_182 0 62 (dk_at dksX0_make_2 8 rfl rfl)
theorem dX0_make_56 : decode cX0_make 56 = .ok (.ireturn, 1) := dk_172 (dk_at dksX0_make_2 11 rfl rfl)
theorem dX0_make_57 : decode cX0_make 57 = .ok (.aload_n 0, 1) := dk_42 (dk_at dksX0_make_2 12 rfl rfl)
theorem dX0_make_58 : decode cX0_make 58 = .ok (.getfield 11, 3) := dk_180 0 11 (dk_at dksX0_make_2 13 rfl rfl)
theorem dX0_make_61 : decode cX0_make 61 = .ok (.aload_n 0, 1) := dk_42 (dk_at dksX0_make_2 16 rfl rfl)
theorem dX0_make_62 : decode cX0_make 62 = .ok (.getfield 25, 3) := dk_180 0 25 (dk_at dksX0_make_2 17 rfl rfl)
theorem dX0_make_65 : decode cX0_make 65 = .ok (.new 9, 3) := dk_187 0 9 (dk_at dksX0_make_2 20 rfl rfl)
theorem dX0_make_68 : decode cX0_make 68 = .ok (.dup, 1) := dk_89 (dk_at dksX0_make_2 23 rfl rfl)
theorem dX0_make_69 : decode cX0_make 69 = .ok (.iload_n 1, 1) := dk_27 (dk_at dksX0_make_3 0 rfl rfl)
theorem dX0_make_70 : decode cX0_make 70 = .ok (.iload_n 2, 1) := dk_28 (dk_at dksX0_make_3 1 rfl rfl)
theorem dX0_make_71 : decode cX0_make 71 = .ok (.invokestatic 66, 3) := dk_184 0 66 (dk_at dksX0_make_3 2 rfl rfl)
theorem dX0_make_74 : decode cX0_make 74 = .ok (.invokespecial 70, 3) := dk_183 0 70 (dk_at dksX0_make_3 5 rfl rfl)
theorem dX0_make_77 : decode cX0_make 77 = .ok (.aastore, 1) := dk_83 (dk_at dksX0_make_3 8 rfl rfl)
theorem dX0_make_78 : decode cX0_make 78 = .ok (.aload_n 0, 1) := dk_42 (dk_at dksX0_make_3 9 rfl rfl)
theorem dX0_make_79 : decode cX0_make 79 = .ok (.dup, 1) := dk_89 (dk_at dksX0_make_3 10 rfl rfl)
theorem dX0_make_80 : decode cX0_make 80 = .ok (.getfield 25, 3) := dk_180 0 25 (dk_at dksX0_make_3 11 rfl rfl)
theorem dX0_make_83 : decode cX0_make 83 = .ok (.iconst 1, 1) := dk_4 (dk_at dksX0_make_3 14 rfl rfl)
theorem dX0_make_84 : decode cX0_make 84 = .ok (.iadd, 1) := dk_96 (dk_at dksX0_make_3 15 rfl rfl)
theorem dX0_make_85 : decode cX0_make 85 = .ok (.putfield 25, 3) := dk_181 0 25 (dk_at dksX0_make_3 16 rfl rfl)
theorem dX0_make_88 : decode cX0_make 88 = .ok (.aload_n 0, 1) := dk_42 (dk_at dksX0_make_3 19 rfl rfl)
theorem dX0_make_89 : decode cX0_make 89 = .ok (.getfield 25, 3) := dk_180 0 25 (dk_at dksX0_make_3 20 rfl rfl)
theorem dX0_make_92 : decode cX0_make 92 = .ok (.iconst 1, 1) := dk_4 (dk_at dksX0_make_3 23 rfl rfl)
theorem dX0_make_93 : decode cX0_make 93 = .ok (.isub, 1) := dk_100 (dk_at dksX0_make_4 0 rfl rfl)
theorem dX0_make_94 : decode cX0_make 94 = .ok (.ireturn, 1) := dk_172 (dk_at dksX0_make_4 1 rfl rfl)
abbrev cX0_isIn : ByteArray := prog_1_method_2_code
def yX0_isIn : MethodName := ⟨RX0, "isIn", "(III)Z"⟩
def dkwX0_isIn_0 : List UInt8 := [26, 27, 161, 0, 12, 26, 28, 163, 0, 7, 4, 167, 0, 4, 3, 172]
abbrev dktX0_isIn_0 : List UInt8 := dkwX0_isIn_0 ++ []
theorem dksX0_isIn_0 : cX0_isIn.data.toList.drop 0 = dktX0_isIn_0 := by decide +kernel
theorem dX0_isIn_0 : decode cX0_isIn 0 = .ok (.iload_n 0, 1) := dk_26 (dk_at dksX0_isIn_0 0 rfl rfl)
theorem dX0_isIn_1 : decode cX0_isIn 1 = .ok (.iload_n 1, 1) := dk_27 (dk_at dksX0_isIn_0 1 rfl rfl)
theorem dX0_isIn_2 : decode cX0_isIn 2 = .ok (.if_icmp .lt 12, 3) := dk_161 0 12 (dk_at dksX0_isIn_0 2 rfl rfl)
theorem dX0_isIn_5 : decode cX0_isIn 5 = .ok (.iload_n 0, 1) := dk_26 (dk_at dksX0_isIn_0 5 rfl rfl)
theorem dX0_isIn_6 : decode cX0_isIn 6 = .ok (.iload_n 2, 1) := dk_28 (dk_at dksX0_isIn_0 6 rfl rfl)
theorem dX0_isIn_7 : decode cX0_isIn 7 = .ok (.if_icmp .gt 7, 3) := dk_163 0 7 (dk_at dksX0_isIn_0 7 rfl rfl)
theorem dX0_isIn_10 : decode cX0_isIn 10 = .ok (.iconst 1, 1) := dk_4 (dk_at dksX0_isIn_0 10 rfl rfl)
theorem dX0_isIn_11 : decode cX0_isIn 11 = .ok (.goto 4, 3) := dk_167 0 4 (dk_at dksX0_isIn_0 11 rfl rfl)
theorem dX0_isIn_14 : decode cX0_isIn 14 = .ok (.iconst 0, 1) := dk_3 (dk_at dksX0_isIn_0 14 rfl rfl)
theorem dX0_isIn_15 : decode cX0_isIn 15 = .ok (.ireturn, 1) := dk_172 (dk_at dksX0_isIn_0 15 rfl rfl)
abbrev cX0_no : ByteArray := prog_1_method_4_code
def yX0_no : MethodName := ⟨RX0, "no", "(I)I"⟩
def dkwX0_no_2 : List UInt8 := [89, 180, 0, 42, 27, 16, 250, 160, 0, 7, 4, 167, 0, 4, 3, 96, 181, 0, 42, 27, 172]
abbrev dktX0_no_2 : List UInt8 := dkwX0_no_2 ++ []
def dkwX0_no_1 : List UInt8 := [181, 0, 36, 42, 89, 180, 0, 39, 27, 16, 251, 160, 0, 7, 4, 167, 0, 4, 3, 96, 181, 0, 39, 42]
abbrev dktX0_no_1 : List UInt8 := dkwX0_no_1 ++ dktX0_no_2
def dkwX0_no_0 : List UInt8 := [42, 27, 181, 0, 33, 42, 89, 180, 0, 36, 27, 16, 252, 160, 0, 7, 4, 167, 0, 4, 3, 96]
abbrev dktX0_no_0 : List UInt8 := dkwX0_no_0 ++ dktX0_no_1
theorem dksX0_no_0 : cX0_no.data.toList.drop 0 = dktX0_no_0 := by decide +kernel
theorem dksX0_no_1 : cX0_no.data.toList.drop 22 = dktX0_no_1 := dk_seg dksX0_no_0 22 rfl rfl
theorem dksX0_no_2 : cX0_no.data.toList.drop 46 = dktX0_no_2 := dk_seg dksX0_no_1 24 rfl rfl
theorem dX0_no_0 : decode cX0_no 0 = .ok (.aload_n 0, 1) := dk_42 (dk_at dksX0_no_0 0 rfl rfl)
theorem dX0_no_1 : decode cX0_no 1 = .ok (.iload_n 1, 1) := dk_27 (dk_at dksX0_no_0 1 rfl rfl)
theorem dX0_no_2 : decode cX0_no 2 = .ok (.putfield 33, 3) := dk_181 0 33 (dk_at dksX0_no_0 2 rfl rfl)
theorem dX0_no_5 : decode cX0_no 5 = .ok (.aload_n 0, 1) := dk_42 (dk_at dksX0_no_0 5 rfl rfl)
theorem dX0_no_6 : decode cX0_no 6 = .ok (.dup, 1) := dk_89 (dk_at dksX0_no_0 6 rfl rfl)
theorem dX0_no_7 : decode cX0_no 7 = .ok (.getfield 36, 3) := dk_180 0 36 (dk_at dksX0_no_0 7 rfl rfl)
theorem dX0_no_10 : decode cX0_no 10 = .ok (.iload_n 1, 1) := dk_27 (dk_at dksX0_no_0 10 rfl rfl)
theorem dX0_no_11 : decode cX0_no 11 = .ok (.bipush (-4), 2) := dk_16 252 (dk_at dksX0_no_0 11 rfl rfl)
theorem dX0_no_13 : decode cX0_no 13 = .ok (.if_icmp .ne 7, 3) := dk_160 0 7 (dk_at dksX0_no_0 13 rfl rfl)
theorem dX0_no_16 : decode cX0_no 16 = .ok (.iconst 1, 1) := dk_4 (dk_at dksX0_no_0 16 rfl rfl)
theorem dX0_no_17 : decode cX0_no 17 = .ok (.goto 4, 3) := dk_167 0 4 (dk_at dksX0_no_0 17 rfl rfl)
theorem dX0_no_20 : decode cX0_no 20 = .ok (.iconst 0, 1) := dk_3 (dk_at dksX0_no_0 20 rfl rfl)
theorem dX0_no_21 : decode cX0_no 21 = .ok (.iadd, 1) := dk_96 (dk_at dksX0_no_0 21 rfl rfl)
theorem dX0_no_22 : decode cX0_no 22 = .ok (.putfield 36, 3) := dk_181 0 36 (dk_at dksX0_no_1 0 rfl rfl)
theorem dX0_no_25 : decode cX0_no 25 = .ok (.aload_n 0, 1) := dk_42 (dk_at dksX0_no_1 3 rfl rfl)
theorem dX0_no_26 : decode cX0_no 26 = .ok (.dup, 1) := dk_89 (dk_at dksX0_no_1 4 rfl rfl)
theorem dX0_no_27 : decode cX0_no 27 = .ok (.getfield 39, 3) := dk_180 0 39 (dk_at dksX0_no_1 5 rfl rfl)
theorem dX0_no_30 : decode cX0_no 30 = .ok (.iload_n 1, 1) := dk_27 (dk_at dksX0_no_1 8 rfl rfl)
theorem dX0_no_31 : decode cX0_no 31 = .ok (.bipush (-5), 2) := dk_16 251 (dk_at dksX0_no_1 9 rfl rfl)
theorem dX0_no_33 : decode cX0_no 33 = .ok (.if_icmp .ne 7, 3) := dk_160 0 7 (dk_at dksX0_no_1 11 rfl rfl)
theorem dX0_no_36 : decode cX0_no 36 = .ok (.iconst 1, 1) := dk_4 (dk_at dksX0_no_1 14 rfl rfl)
theorem dX0_no_37 : decode cX0_no 37 = .ok (.goto 4, 3) := dk_167 0 4 (dk_at dksX0_no_1 15 rfl rfl)
theorem dX0_no_40 : decode cX0_no 40 = .ok (.iconst 0, 1) := dk_3 (dk_at dksX0_no_1 18 rfl rfl)
theorem dX0_no_41 : decode cX0_no 41 = .ok (.iadd, 1) := dk_96 (dk_at dksX0_no_1 19 rfl rfl)
theorem dX0_no_42 : decode cX0_no 42 = .ok (.putfield 39, 3) := dk_181 0 39 (dk_at dksX0_no_1 20 rfl rfl)
theorem dX0_no_45 : decode cX0_no 45 = .ok (.aload_n 0, 1) := dk_42 (dk_at dksX0_no_1 23 rfl rfl)
theorem dX0_no_46 : decode cX0_no 46 = .ok (.dup, 1) := dk_89 (dk_at dksX0_no_2 0 rfl rfl)
theorem dX0_no_47 : decode cX0_no 47 = .ok (.getfield 42, 3) := dk_180 0 42 (dk_at dksX0_no_2 1 rfl rfl)
theorem dX0_no_50 : decode cX0_no 50 = .ok (.iload_n 1, 1) := dk_27 (dk_at dksX0_no_2 4 rfl rfl)
theorem dX0_no_51 : decode cX0_no 51 = .ok (.bipush (-6), 2) := dk_16 250 (dk_at dksX0_no_2 5 rfl rfl)
theorem dX0_no_53 : decode cX0_no 53 = .ok (.if_icmp .ne 7, 3) := dk_160 0 7 (dk_at dksX0_no_2 7 rfl rfl)
theorem dX0_no_56 : decode cX0_no 56 = .ok (.iconst 1, 1) := dk_4 (dk_at dksX0_no_2 10 rfl rfl)
theorem dX0_no_57 : decode cX0_no 57 = .ok (.goto 4, 3) := dk_167 0 4 (dk_at dksX0_no_2 11 rfl rfl)
theorem dX0_no_60 : decode cX0_no 60 = .ok (.iconst 0, 1) := dk_3 (dk_at dksX0_no_2 14 rfl rfl)
theorem dX0_no_61 : decode cX0_no 61 = .ok (.iadd, 1) := dk_96 (dk_at dksX0_no_2 15 rfl rfl)
theorem dX0_no_62 : decode cX0_no 62 = .ok (.putfield 42, 3) := dk_181 0 42 (dk_at dksX0_no_2 16 rfl rfl)
theorem dX0_no_65 : decode cX0_no 65 = .ok (.iload_n 1, 1) := dk_27 (dk_at dksX0_no_2 19 rfl rfl)
theorem dX0_no_66 : decode cX0_no 66 = .ok (.ireturn, 1) := dk_172 (dk_at dksX0_no_2 20 rfl rfl)
abbrev cX0_made : ByteArray := prog_1_method_5_code
def yX0_made : MethodName := ⟨RX0, "made", "(II)Ljava/lang/Object;"⟩
def dkwX0_made_4 : List UInt8 := [189, 0, 47, 176, 27, 189, 0, 50, 176, 27, 189, 0, 56, 176, 27, 189, 0, 58, 176, 27, 189, 0, 60, 176]
abbrev dktX0_made_4 : List UInt8 := dkwX0_made_4 ++ []
def dkwX0_made_3 : List UInt8 := [89, 183, 0, 49, 176, 187, 0, 50, 89, 183, 0, 52, 176, 187, 0, 53, 89, 183, 0, 55, 176, 27]
abbrev dktX0_made_3 : List UInt8 := dkwX0_made_3 ++ dktX0_made_4
def dkwX0_made_2 : List UInt8 := [27, 188, 5, 176, 27, 188, 9, 176, 27, 188, 7, 176, 27, 188, 4, 176, 27, 189, 0, 45, 176, 187, 0, 47]
abbrev dktX0_made_2 : List UInt8 := dkwX0_made_2 ++ dktX0_made_3
def dkwX0_made_1 : List UInt8 := [170, 0, 0, 0, 0, 0, 128, 0, 0, 0, 0, 0, 0, 0, 11, 0, 0, 0, 63, 0, 0, 0, 67, 0, 0, 0, 71, 0, 0, 0, 75, 0, 0, 0, 79, 0, 0, 0, 84, 0, 0, 0, 92, 0, 0, 0, 100, 0, 0, 0, 108, 0, 0, 0, 113, 0, 0, 0, 118, 0, 0, 0, 123]
abbrev dktX0_made_1 : List UInt8 := dkwX0_made_1 ++ dktX0_made_2
def dkwX0_made_0 : List UInt8 := [26]
abbrev dktX0_made_0 : List UInt8 := dkwX0_made_0 ++ dktX0_made_1
theorem dksX0_made_0 : cX0_made.data.toList.drop 0 = dktX0_made_0 := by decide +kernel
theorem dksX0_made_1 : cX0_made.data.toList.drop 1 = dktX0_made_1 := dk_seg dksX0_made_0 1 rfl rfl
theorem dksX0_made_2 : cX0_made.data.toList.drop 64 = dktX0_made_2 := dk_seg dksX0_made_1 63 rfl rfl
theorem dksX0_made_3 : cX0_made.data.toList.drop 88 = dktX0_made_3 := dk_seg dksX0_made_2 24 rfl rfl
theorem dksX0_made_4 : cX0_made.data.toList.drop 110 = dktX0_made_4 := dk_seg dksX0_made_3 22 rfl rfl
theorem dX0_made_0 : decode cX0_made 0 = .ok (.iload_n 0, 1) := dk_26 (dk_at dksX0_made_0 0 rfl rfl)
theorem dX0_made_1 : decode cX0_made 1 = .ok (.tableswitch 128 0 11 #[63, 67, 71, 75, 79, 84, 92, 100, 108, 113, 118, 123], 63) := by decide +kernel
theorem dX0_made_64 : decode cX0_made 64 = .ok (.iload_n 1, 1) := dk_27 (dk_at dksX0_made_2 0 rfl rfl)
theorem dX0_made_65 : decode cX0_made 65 = .ok (.newarray .char, 2) := dk_188_5 (dk_at dksX0_made_2 1 rfl rfl)
theorem dX0_made_67 : decode cX0_made 67 = .ok (.areturn, 1) := dk_176 (dk_at dksX0_made_2 3 rfl rfl)
theorem dX0_made_68 : decode cX0_made 68 = .ok (.iload_n 1, 1) := dk_27 (dk_at dksX0_made_2 4 rfl rfl)
theorem dX0_made_69 : decode cX0_made 69 = .ok (.newarray .short, 2) := dk_188_9 (dk_at dksX0_made_2 5 rfl rfl)
theorem dX0_made_71 : decode cX0_made 71 = .ok (.areturn, 1) := dk_176 (dk_at dksX0_made_2 7 rfl rfl)
theorem dX0_made_72 : decode cX0_made 72 = .ok (.iload_n 1, 1) := dk_27 (dk_at dksX0_made_2 8 rfl rfl)
theorem dX0_made_73 : decode cX0_made 73 = .ok (.newarray .double, 2) := dk_188_7 (dk_at dksX0_made_2 9 rfl rfl)
theorem dX0_made_75 : decode cX0_made 75 = .ok (.areturn, 1) := dk_176 (dk_at dksX0_made_2 11 rfl rfl)
theorem dX0_made_76 : decode cX0_made 76 = .ok (.iload_n 1, 1) := dk_27 (dk_at dksX0_made_2 12 rfl rfl)
theorem dX0_made_77 : decode cX0_made 77 = .ok (.newarray .boolean, 2) := dk_188_4 (dk_at dksX0_made_2 13 rfl rfl)
theorem dX0_made_79 : decode cX0_made 79 = .ok (.areturn, 1) := dk_176 (dk_at dksX0_made_2 15 rfl rfl)
theorem dX0_made_80 : decode cX0_made 80 = .ok (.iload_n 1, 1) := dk_27 (dk_at dksX0_made_2 16 rfl rfl)
theorem dX0_made_81 : decode cX0_made 81 = .ok (.anewarray 45, 3) := dk_189 0 45 (dk_at dksX0_made_2 17 rfl rfl)
theorem dX0_made_84 : decode cX0_made 84 = .ok (.areturn, 1) := dk_176 (dk_at dksX0_made_2 20 rfl rfl)
theorem dX0_made_85 : decode cX0_made 85 = .ok (.new 47, 3) := dk_187 0 47 (dk_at dksX0_made_2 21 rfl rfl)
theorem dX0_made_88 : decode cX0_made 88 = .ok (.dup, 1) := dk_89 (dk_at dksX0_made_3 0 rfl rfl)
theorem dX0_made_89 : decode cX0_made 89 = .ok (.invokespecial 49, 3) := dk_183 0 49 (dk_at dksX0_made_3 1 rfl rfl)
theorem dX0_made_92 : decode cX0_made 92 = .ok (.areturn, 1) := dk_176 (dk_at dksX0_made_3 4 rfl rfl)
theorem dX0_made_93 : decode cX0_made 93 = .ok (.new 50, 3) := dk_187 0 50 (dk_at dksX0_made_3 5 rfl rfl)
theorem dX0_made_96 : decode cX0_made 96 = .ok (.dup, 1) := dk_89 (dk_at dksX0_made_3 8 rfl rfl)
theorem dX0_made_97 : decode cX0_made 97 = .ok (.invokespecial 52, 3) := dk_183 0 52 (dk_at dksX0_made_3 9 rfl rfl)
theorem dX0_made_100 : decode cX0_made 100 = .ok (.areturn, 1) := dk_176 (dk_at dksX0_made_3 12 rfl rfl)
theorem dX0_made_101 : decode cX0_made 101 = .ok (.new 53, 3) := dk_187 0 53 (dk_at dksX0_made_3 13 rfl rfl)
theorem dX0_made_104 : decode cX0_made 104 = .ok (.dup, 1) := dk_89 (dk_at dksX0_made_3 16 rfl rfl)
theorem dX0_made_105 : decode cX0_made 105 = .ok (.invokespecial 55, 3) := dk_183 0 55 (dk_at dksX0_made_3 17 rfl rfl)
theorem dX0_made_108 : decode cX0_made 108 = .ok (.areturn, 1) := dk_176 (dk_at dksX0_made_3 20 rfl rfl)
theorem dX0_made_109 : decode cX0_made 109 = .ok (.iload_n 1, 1) := dk_27 (dk_at dksX0_made_3 21 rfl rfl)
theorem dX0_made_110 : decode cX0_made 110 = .ok (.anewarray 47, 3) := dk_189 0 47 (dk_at dksX0_made_4 0 rfl rfl)
theorem dX0_made_113 : decode cX0_made 113 = .ok (.areturn, 1) := dk_176 (dk_at dksX0_made_4 3 rfl rfl)
theorem dX0_made_114 : decode cX0_made 114 = .ok (.iload_n 1, 1) := dk_27 (dk_at dksX0_made_4 4 rfl rfl)
theorem dX0_made_115 : decode cX0_made 115 = .ok (.anewarray 50, 3) := dk_189 0 50 (dk_at dksX0_made_4 5 rfl rfl)
theorem dX0_made_118 : decode cX0_made 118 = .ok (.areturn, 1) := dk_176 (dk_at dksX0_made_4 8 rfl rfl)
theorem dX0_made_119 : decode cX0_made 119 = .ok (.iload_n 1, 1) := dk_27 (dk_at dksX0_made_4 9 rfl rfl)
theorem dX0_made_120 : decode cX0_made 120 = .ok (.anewarray 56, 3) := dk_189 0 56 (dk_at dksX0_made_4 10 rfl rfl)
theorem dX0_made_123 : decode cX0_made 123 = .ok (.areturn, 1) := dk_176 (dk_at dksX0_made_4 13 rfl rfl)
theorem dX0_made_124 : decode cX0_made 124 = .ok (.iload_n 1, 1) := dk_27 (dk_at dksX0_made_4 14 rfl rfl)
theorem dX0_made_125 : decode cX0_made 125 = .ok (.anewarray 58, 3) := dk_189 0 58 (dk_at dksX0_made_4 15 rfl rfl)
theorem dX0_made_128 : decode cX0_made 128 = .ok (.areturn, 1) := dk_176 (dk_at dksX0_made_4 18 rfl rfl)
theorem dX0_made_129 : decode cX0_made 129 = .ok (.iload_n 1, 1) := dk_27 (dk_at dksX0_made_4 19 rfl rfl)
theorem dX0_made_130 : decode cX0_made 130 = .ok (.anewarray 60, 3) := dk_189 0 60 (dk_at dksX0_made_4 20 rfl rfl)
theorem dX0_made_133 : decode cX0_made 133 = .ok (.areturn, 1) := dk_176 (dk_at dksX0_made_4 23 rfl rfl)
abbrev cX0_put : ByteArray := prog_1_method_10_code
def yX0_put : MethodName := ⟨RX0, "put", "(III)I"⟩
def dkwX0_put_2 : List UInt8 := [16, 251, 182, 0, 62, 172]
abbrev dktX0_put_2 : List UInt8 := dkwX0_put_2 ++ []
def dkwX0_put_1 : List UInt8 := [27, 50, 180, 0, 73, 28, 29, 184, 0, 89, 4, 172, 58, 4, 42, 16, 252, 182, 0, 62, 172, 58, 4, 42]
abbrev dktX0_put_1 : List UInt8 := dkwX0_put_1 ++ dktX0_put_2
def dkwX0_put_0 : List UInt8 := [42, 3, 181, 0, 33, 42, 27, 182, 0, 85, 154, 0, 10, 42, 16, 254, 182, 0, 62, 172, 42, 180, 0, 11]
abbrev dktX0_put_0 : List UInt8 := dkwX0_put_0 ++ dktX0_put_1
theorem dksX0_put_0 : cX0_put.data.toList.drop 0 = dktX0_put_0 := by decide +kernel
theorem dksX0_put_1 : cX0_put.data.toList.drop 24 = dktX0_put_1 := dk_seg dksX0_put_0 24 rfl rfl
theorem dksX0_put_2 : cX0_put.data.toList.drop 48 = dktX0_put_2 := dk_seg dksX0_put_1 24 rfl rfl
theorem dX0_put_0 : decode cX0_put 0 = .ok (.aload_n 0, 1) := dk_42 (dk_at dksX0_put_0 0 rfl rfl)
theorem dX0_put_1 : decode cX0_put 1 = .ok (.iconst 0, 1) := dk_3 (dk_at dksX0_put_0 1 rfl rfl)
theorem dX0_put_2 : decode cX0_put 2 = .ok (.putfield 33, 3) := dk_181 0 33 (dk_at dksX0_put_0 2 rfl rfl)
theorem dX0_put_5 : decode cX0_put 5 = .ok (.aload_n 0, 1) := dk_42 (dk_at dksX0_put_0 5 rfl rfl)
theorem dX0_put_6 : decode cX0_put 6 = .ok (.iload_n 1, 1) := dk_27 (dk_at dksX0_put_0 6 rfl rfl)
theorem dX0_put_7 : decode cX0_put 7 = .ok (.invokevirtual 85, 3) := dk_182 0 85 (dk_at dksX0_put_0 7 rfl rfl)
theorem dX0_put_10 : decode cX0_put 10 = .ok (.ifCond .ne 10, 3) := dk_154 0 10 (dk_at dksX0_put_0 10 rfl rfl)
theorem dX0_put_13 : decode cX0_put 13 = .ok (.aload_n 0, 1) := dk_42 (dk_at dksX0_put_0 13 rfl rfl)
theorem dX0_put_14 : decode cX0_put 14 = .ok (.bipush (-2), 2) := dk_16 254 (dk_at dksX0_put_0 14 rfl rfl)
theorem dX0_put_16 : decode cX0_put 16 = .ok (.invokevirtual 62, 3) := dk_182 0 62 (dk_at dksX0_put_0 16 rfl rfl)
theorem dX0_put_19 : decode cX0_put 19 = .ok (.ireturn, 1) := dk_172 (dk_at dksX0_put_0 19 rfl rfl)
theorem dX0_put_20 : decode cX0_put 20 = .ok (.aload_n 0, 1) := dk_42 (dk_at dksX0_put_0 20 rfl rfl)
theorem dX0_put_21 : decode cX0_put 21 = .ok (.getfield 11, 3) := dk_180 0 11 (dk_at dksX0_put_0 21 rfl rfl)
theorem dX0_put_24 : decode cX0_put 24 = .ok (.iload_n 1, 1) := dk_27 (dk_at dksX0_put_1 0 rfl rfl)
theorem dX0_put_25 : decode cX0_put 25 = .ok (.aaload, 1) := dk_50 (dk_at dksX0_put_1 1 rfl rfl)
theorem dX0_put_26 : decode cX0_put 26 = .ok (.getfield 73, 3) := dk_180 0 73 (dk_at dksX0_put_1 2 rfl rfl)
theorem dX0_put_29 : decode cX0_put 29 = .ok (.iload_n 2, 1) := dk_28 (dk_at dksX0_put_1 5 rfl rfl)
theorem dX0_put_30 : decode cX0_put 30 = .ok (.iload_n 3, 1) := dk_29 (dk_at dksX0_put_1 6 rfl rfl)
theorem dX0_put_31 : decode cX0_put 31 = .ok (.invokestatic 89, 3) := dk_184 0 89 (dk_at dksX0_put_1 7 rfl rfl)
theorem dX0_put_34 : decode cX0_put 34 = .ok (.iconst 1, 1) := dk_4 (dk_at dksX0_put_1 10 rfl rfl)
theorem dX0_put_35 : decode cX0_put 35 = .ok (.ireturn, 1) := dk_172 (dk_at dksX0_put_1 11 rfl rfl)
theorem dX0_put_36 : decode cX0_put 36 = .ok (.astore 4, 2) := dk_58 4 (dk_at dksX0_put_1 12 rfl rfl)
theorem dX0_put_38 : decode cX0_put 38 = .ok (.aload_n 0, 1) := dk_42 (dk_at dksX0_put_1 14 rfl rfl)
theorem dX0_put_39 : decode cX0_put 39 = .ok (.bipush (-4), 2) := dk_16 252 (dk_at dksX0_put_1 15 rfl rfl)
theorem dX0_put_41 : decode cX0_put 41 = .ok (.invokevirtual 62, 3) := dk_182 0 62 (dk_at dksX0_put_1 17 rfl rfl)
theorem dX0_put_44 : decode cX0_put 44 = .ok (.ireturn, 1) := dk_172 (dk_at dksX0_put_1 20 rfl rfl)
theorem dX0_put_45 : decode cX0_put 45 = .ok (.astore 4, 2) := dk_58 4 (dk_at dksX0_put_1 21 rfl rfl)
theorem dX0_put_47 : decode cX0_put 47 = .ok (.aload_n 0, 1) := dk_42 (dk_at dksX0_put_1 23 rfl rfl)
theorem dX0_put_48 : decode cX0_put 48 = .ok (.bipush (-5), 2) := dk_16 251 (dk_at dksX0_put_2 0 rfl rfl)
theorem dX0_put_50 : decode cX0_put 50 = .ok (.invokevirtual 62, 3) := dk_182 0 62 (dk_at dksX0_put_2 2 rfl rfl)
theorem dX0_put_53 : decode cX0_put 53 = .ok (.ireturn, 1) := dk_172 (dk_at dksX0_put_2 5 rfl rfl)
abbrev cX0_isItem : ByteArray := prog_1_method_3_code
def yX0_isItem : MethodName := ⟨RX0, "isItem", "(I)Z"⟩
def dkwX0_isItem_0 : List UInt8 := [27, 3, 42, 180, 0, 25, 4, 100, 184, 0, 29, 172]
abbrev dktX0_isItem_0 : List UInt8 := dkwX0_isItem_0 ++ []
theorem dksX0_isItem_0 : cX0_isItem.data.toList.drop 0 = dktX0_isItem_0 := by decide +kernel
theorem dX0_isItem_0 : decode cX0_isItem 0 = .ok (.iload_n 1, 1) := dk_27 (dk_at dksX0_isItem_0 0 rfl rfl)
theorem dX0_isItem_1 : decode cX0_isItem 1 = .ok (.iconst 0, 1) := dk_3 (dk_at dksX0_isItem_0 1 rfl rfl)
theorem dX0_isItem_2 : decode cX0_isItem 2 = .ok (.aload_n 0, 1) := dk_42 (dk_at dksX0_isItem_0 2 rfl rfl)
theorem dX0_isItem_3 : decode cX0_isItem 3 = .ok (.getfield 25, 3) := dk_180 0 25 (dk_at dksX0_isItem_0 3 rfl rfl)
theorem dX0_isItem_6 : decode cX0_isItem 6 = .ok (.iconst 1, 1) := dk_4 (dk_at dksX0_isItem_0 6 rfl rfl)
theorem dX0_isItem_7 : decode cX0_isItem 7 = .ok (.isub, 1) := dk_100 (dk_at dksX0_isItem_0 7 rfl rfl)
theorem dX0_isItem_8 : decode cX0_isItem 8 = .ok (.invokestatic 29, 3) := dk_184 0 29 (dk_at dksX0_isItem_0 8 rfl rfl)
theorem dX0_isItem_11 : decode cX0_isItem 11 = .ok (.ireturn, 1) := dk_172 (dk_at dksX0_isItem_0 11 rfl rfl)
abbrev cX0_set : ByteArray := prog_1_method_8_code
def yX0_set : MethodName := ⟨RX0, "set", "(Ljava/lang/Object;II)V"⟩
def dkwX0_set_3 : List UInt8 := [167, 0, 4, 3, 84, 177]
abbrev dktX0_set_3 : List UInt8 := dkwX0_set_3 ++ []
def dkwX0_set_2 : List UInt8 := [192, 0, 79, 27, 28, 135, 20, 0, 81, 111, 82, 167, 0, 18, 42, 192, 0, 83, 27, 28, 153, 0, 7, 4]
abbrev dktX0_set_2 : List UInt8 := dkwX0_set_2 ++ dktX0_set_3
def dkwX0_set_1 : List UInt8 := [153, 0, 14, 42, 192, 0, 77, 27, 28, 147, 86, 167, 0, 40, 42, 193, 0, 79, 153, 0, 18, 42]
abbrev dktX0_set_1 : List UInt8 := dkwX0_set_1 ++ dktX0_set_2
def dkwX0_set_0 : List UInt8 := [42, 193, 0, 45, 153, 0, 14, 42, 192, 0, 45, 27, 28, 146, 85, 167, 0, 58, 42, 193, 0, 77]
abbrev dktX0_set_0 : List UInt8 := dkwX0_set_0 ++ dktX0_set_1
theorem dksX0_set_0 : cX0_set.data.toList.drop 0 = dktX0_set_0 := by decide +kernel
theorem dksX0_set_1 : cX0_set.data.toList.drop 22 = dktX0_set_1 := dk_seg dksX0_set_0 22 rfl rfl
theorem dksX0_set_2 : cX0_set.data.toList.drop 44 = dktX0_set_2 := dk_seg dksX0_set_1 22 rfl rfl
theorem dksX0_set_3 : cX0_set.data.toList.drop 68 = dktX0_set_3 := dk_seg dksX0_set_2 24 rfl rfl
theorem dX0_set_0 : decode cX0_set 0 = .ok (.aload_n 0, 1) := dk_42 (dk_at dksX0_set_0 0 rfl rfl)
theorem dX0_set_1 : decode cX0_set 1 = .ok (.instanceof 45, 3) := dk_193 0 45 (dk_at dksX0_set_0 1 rfl rfl)
theorem dX0_set_4 : decode cX0_set 4 = .ok (.ifCond .eq 14, 3) := dk_153 0 14 (dk_at dksX0_set_0 4 rfl rfl)
theorem dX0_set_7 : decode cX0_set 7 = .ok (.aload_n 0, 1) := dk_42 (dk_at dksX0_set_0 7 rfl rfl)
theorem dX0_set_8 : decode cX0_set 8 = .ok (.checkcast 45, 3) := dk_192 0 45 (dk_at dksX0_set_0 8 rfl rfl)
theorem dX0_set_11 : decode cX0_set 11 = .ok (.iload_n 1, 1) := dk_27 (dk_at dksX0_set_0 11 rfl rfl)
theorem dX0_set_12 : decode cX0_set 12 = .ok (.iload_n 2, 1) := dk_28 (dk_at dksX0_set_0 12 rfl rfl)
theorem dX0_set_13 : decode cX0_set 13 = .ok (.i2c, 1) := dk_146 (dk_at dksX0_set_0 13 rfl rfl)
theorem dX0_set_14 : decode cX0_set 14 = .ok (.castore, 1) := dk_85 (dk_at dksX0_set_0 14 rfl rfl)
theorem dX0_set_15 : decode cX0_set 15 = .ok (.goto 58, 3) := dk_167 0 58 (dk_at dksX0_set_0 15 rfl rfl)
theorem dX0_set_18 : decode cX0_set 18 = .ok (.aload_n 0, 1) := dk_42 (dk_at dksX0_set_0 18 rfl rfl)
theorem dX0_set_19 : decode cX0_set 19 = .ok (.instanceof 77, 3) := dk_193 0 77 (dk_at dksX0_set_0 19 rfl rfl)
theorem dX0_set_22 : decode cX0_set 22 = .ok (.ifCond .eq 14, 3) := dk_153 0 14 (dk_at dksX0_set_1 0 rfl rfl)
theorem dX0_set_25 : decode cX0_set 25 = .ok (.aload_n 0, 1) := dk_42 (dk_at dksX0_set_1 3 rfl rfl)
theorem dX0_set_26 : decode cX0_set 26 = .ok (.checkcast 77, 3) := dk_192 0 77 (dk_at dksX0_set_1 4 rfl rfl)
theorem dX0_set_29 : decode cX0_set 29 = .ok (.iload_n 1, 1) := dk_27 (dk_at dksX0_set_1 7 rfl rfl)
theorem dX0_set_30 : decode cX0_set 30 = .ok (.iload_n 2, 1) := dk_28 (dk_at dksX0_set_1 8 rfl rfl)
theorem dX0_set_31 : decode cX0_set 31 = .ok (.i2s, 1) := dk_147 (dk_at dksX0_set_1 9 rfl rfl)
theorem dX0_set_32 : decode cX0_set 32 = .ok (.sastore, 1) := dk_86 (dk_at dksX0_set_1 10 rfl rfl)
theorem dX0_set_33 : decode cX0_set 33 = .ok (.goto 40, 3) := dk_167 0 40 (dk_at dksX0_set_1 11 rfl rfl)
theorem dX0_set_36 : decode cX0_set 36 = .ok (.aload_n 0, 1) := dk_42 (dk_at dksX0_set_1 14 rfl rfl)
theorem dX0_set_37 : decode cX0_set 37 = .ok (.instanceof 79, 3) := dk_193 0 79 (dk_at dksX0_set_1 15 rfl rfl)
theorem dX0_set_40 : decode cX0_set 40 = .ok (.ifCond .eq 18, 3) := dk_153 0 18 (dk_at dksX0_set_1 18 rfl rfl)
theorem dX0_set_43 : decode cX0_set 43 = .ok (.aload_n 0, 1) := dk_42 (dk_at dksX0_set_1 21 rfl rfl)
theorem dX0_set_44 : decode cX0_set 44 = .ok (.checkcast 79, 3) := dk_192 0 79 (dk_at dksX0_set_2 0 rfl rfl)
theorem dX0_set_47 : decode cX0_set 47 = .ok (.iload_n 1, 1) := dk_27 (dk_at dksX0_set_2 3 rfl rfl)
theorem dX0_set_48 : decode cX0_set 48 = .ok (.iload_n 2, 1) := dk_28 (dk_at dksX0_set_2 4 rfl rfl)
theorem dX0_set_49 : decode cX0_set 49 = .ok (.i2d, 1) := dk_135 (dk_at dksX0_set_2 5 rfl rfl)
theorem dX0_set_50 : decode cX0_set 50 = .ok (.ldc2_w 81, 3) := dk_20 0 81 (dk_at dksX0_set_2 6 rfl rfl)
theorem dX0_set_53 : decode cX0_set 53 = .ok (.ddiv, 1) := dk_111 (dk_at dksX0_set_2 9 rfl rfl)
theorem dX0_set_54 : decode cX0_set 54 = .ok (.dastore, 1) := dk_82 (dk_at dksX0_set_2 10 rfl rfl)
theorem dX0_set_55 : decode cX0_set 55 = .ok (.goto 18, 3) := dk_167 0 18 (dk_at dksX0_set_2 11 rfl rfl)
theorem dX0_set_58 : decode cX0_set 58 = .ok (.aload_n 0, 1) := dk_42 (dk_at dksX0_set_2 14 rfl rfl)
theorem dX0_set_59 : decode cX0_set 59 = .ok (.checkcast 83, 3) := dk_192 0 83 (dk_at dksX0_set_2 15 rfl rfl)
theorem dX0_set_62 : decode cX0_set 62 = .ok (.iload_n 1, 1) := dk_27 (dk_at dksX0_set_2 18 rfl rfl)
theorem dX0_set_63 : decode cX0_set 63 = .ok (.iload_n 2, 1) := dk_28 (dk_at dksX0_set_2 19 rfl rfl)
theorem dX0_set_64 : decode cX0_set 64 = .ok (.ifCond .eq 7, 3) := dk_153 0 7 (dk_at dksX0_set_2 20 rfl rfl)
theorem dX0_set_67 : decode cX0_set 67 = .ok (.iconst 1, 1) := dk_4 (dk_at dksX0_set_2 23 rfl rfl)
theorem dX0_set_68 : decode cX0_set 68 = .ok (.goto 4, 3) := dk_167 0 4 (dk_at dksX0_set_3 0 rfl rfl)
theorem dX0_set_71 : decode cX0_set 71 = .ok (.iconst 0, 1) := dk_3 (dk_at dksX0_set_3 3 rfl rfl)
theorem dX0_set_72 : decode cX0_set 72 = .ok (.bastore, 1) := dk_84 (dk_at dksX0_set_3 4 rfl rfl)
theorem dX0_set_73 : decode cX0_set 73 = .ok (.return_, 1) := dk_177 (dk_at dksX0_set_3 5 rfl rfl)
abbrev cX0_get : ByteArray := prog_1_method_11_code
def yX0_get : MethodName := ⟨RX0, "get", "(II)I"⟩
def dkwX0_get_2 : List UInt8 := [16, 251, 62, 42, 29, 182, 0, 62, 62, 3, 172]
abbrev dktX0_get_2 : List UInt8 := dkwX0_get_2 ++ []
def dkwX0_get_1 : List UInt8 := [42, 180, 0, 11, 27, 50, 180, 0, 73, 28, 184, 0, 97, 172, 58, 4, 16, 252, 62, 167, 0, 8, 58, 4]
abbrev dktX0_get_1 : List UInt8 := dkwX0_get_1 ++ dktX0_get_2
def dkwX0_get_0 : List UInt8 := [42, 3, 181, 0, 33, 42, 27, 182, 0, 85, 154, 0, 11, 42, 16, 254, 181, 0, 33, 3, 172, 16, 252, 62]
abbrev dktX0_get_0 : List UInt8 := dkwX0_get_0 ++ dktX0_get_1
theorem dksX0_get_0 : cX0_get.data.toList.drop 0 = dktX0_get_0 := by decide +kernel
theorem dksX0_get_1 : cX0_get.data.toList.drop 24 = dktX0_get_1 := dk_seg dksX0_get_0 24 rfl rfl
theorem dksX0_get_2 : cX0_get.data.toList.drop 48 = dktX0_get_2 := dk_seg dksX0_get_1 24 rfl rfl
theorem dX0_get_0 : decode cX0_get 0 = .ok (.aload_n 0, 1) := dk_42 (dk_at dksX0_get_0 0 rfl rfl)
theorem dX0_get_1 : decode cX0_get 1 = .ok (.iconst 0, 1) := dk_3 (dk_at dksX0_get_0 1 rfl rfl)
theorem dX0_get_2 : decode cX0_get 2 = .ok (.putfield 33, 3) := dk_181 0 33 (dk_at dksX0_get_0 2 rfl rfl)
theorem dX0_get_5 : decode cX0_get 5 = .ok (.aload_n 0, 1) := dk_42 (dk_at dksX0_get_0 5 rfl rfl)
theorem dX0_get_6 : decode cX0_get 6 = .ok (.iload_n 1, 1) := dk_27 (dk_at dksX0_get_0 6 rfl rfl)
theorem dX0_get_7 : decode cX0_get 7 = .ok (.invokevirtual 85, 3) := dk_182 0 85 (dk_at dksX0_get_0 7 rfl rfl)
theorem dX0_get_10 : decode cX0_get 10 = .ok (.ifCond .ne 11, 3) := dk_154 0 11 (dk_at dksX0_get_0 10 rfl rfl)
theorem dX0_get_13 : decode cX0_get 13 = .ok (.aload_n 0, 1) := dk_42 (dk_at dksX0_get_0 13 rfl rfl)
theorem dX0_get_14 : decode cX0_get 14 = .ok (.bipush (-2), 2) := dk_16 254 (dk_at dksX0_get_0 14 rfl rfl)
theorem dX0_get_16 : decode cX0_get 16 = .ok (.putfield 33, 3) := dk_181 0 33 (dk_at dksX0_get_0 16 rfl rfl)
theorem dX0_get_19 : decode cX0_get 19 = .ok (.iconst 0, 1) := dk_3 (dk_at dksX0_get_0 19 rfl rfl)
theorem dX0_get_20 : decode cX0_get 20 = .ok (.ireturn, 1) := dk_172 (dk_at dksX0_get_0 20 rfl rfl)
theorem dX0_get_21 : decode cX0_get 21 = .ok (.bipush (-4), 2) := dk_16 252 (dk_at dksX0_get_0 21 rfl rfl)
theorem dX0_get_23 : decode cX0_get 23 = .ok (.istore_n 3, 1) := dk_62 (dk_at dksX0_get_0 23 rfl rfl)
theorem dX0_get_24 : decode cX0_get 24 = .ok (.aload_n 0, 1) := dk_42 (dk_at dksX0_get_1 0 rfl rfl)
theorem dX0_get_25 : decode cX0_get 25 = .ok (.getfield 11, 3) := dk_180 0 11 (dk_at dksX0_get_1 1 rfl rfl)
theorem dX0_get_28 : decode cX0_get 28 = .ok (.iload_n 1, 1) := dk_27 (dk_at dksX0_get_1 4 rfl rfl)
theorem dX0_get_29 : decode cX0_get 29 = .ok (.aaload, 1) := dk_50 (dk_at dksX0_get_1 5 rfl rfl)
theorem dX0_get_30 : decode cX0_get 30 = .ok (.getfield 73, 3) := dk_180 0 73 (dk_at dksX0_get_1 6 rfl rfl)
theorem dX0_get_33 : decode cX0_get 33 = .ok (.iload_n 2, 1) := dk_28 (dk_at dksX0_get_1 9 rfl rfl)
theorem dX0_get_34 : decode cX0_get 34 = .ok (.invokestatic 97, 3) := dk_184 0 97 (dk_at dksX0_get_1 10 rfl rfl)
theorem dX0_get_37 : decode cX0_get 37 = .ok (.ireturn, 1) := dk_172 (dk_at dksX0_get_1 13 rfl rfl)
theorem dX0_get_38 : decode cX0_get 38 = .ok (.astore 4, 2) := dk_58 4 (dk_at dksX0_get_1 14 rfl rfl)
theorem dX0_get_40 : decode cX0_get 40 = .ok (.bipush (-4), 2) := dk_16 252 (dk_at dksX0_get_1 16 rfl rfl)
theorem dX0_get_42 : decode cX0_get 42 = .ok (.istore_n 3, 1) := dk_62 (dk_at dksX0_get_1 18 rfl rfl)
theorem dX0_get_43 : decode cX0_get 43 = .ok (.goto 8, 3) := dk_167 0 8 (dk_at dksX0_get_1 19 rfl rfl)
theorem dX0_get_46 : decode cX0_get 46 = .ok (.astore 4, 2) := dk_58 4 (dk_at dksX0_get_1 22 rfl rfl)
theorem dX0_get_48 : decode cX0_get 48 = .ok (.bipush (-5), 2) := dk_16 251 (dk_at dksX0_get_2 0 rfl rfl)
theorem dX0_get_50 : decode cX0_get 50 = .ok (.istore_n 3, 1) := dk_62 (dk_at dksX0_get_2 2 rfl rfl)
theorem dX0_get_51 : decode cX0_get 51 = .ok (.aload_n 0, 1) := dk_42 (dk_at dksX0_get_2 3 rfl rfl)
theorem dX0_get_52 : decode cX0_get 52 = .ok (.iload_n 3, 1) := dk_29 (dk_at dksX0_get_2 4 rfl rfl)
theorem dX0_get_53 : decode cX0_get 53 = .ok (.invokevirtual 62, 3) := dk_182 0 62 (dk_at dksX0_get_2 5 rfl rfl)
theorem dX0_get_56 : decode cX0_get 56 = .ok (.istore_n 3, 1) := dk_62 (dk_at dksX0_get_2 8 rfl rfl)
theorem dX0_get_57 : decode cX0_get 57 = .ok (.iconst 0, 1) := dk_3 (dk_at dksX0_get_2 9 rfl rfl)
theorem dX0_get_58 : decode cX0_get 58 = .ok (.ireturn, 1) := dk_172 (dk_at dksX0_get_2 10 rfl rfl)
abbrev cX0_number : ByteArray := prog_1_method_9_code
def yX0_number : MethodName := ⟨RX0, "number", "(Ljava/lang/Object;I)I"⟩
def dkwX0_number_2 : List UInt8 := [172, 42, 192, 0, 83, 27, 51, 153, 0, 7, 4, 167, 0, 4, 3, 172]
abbrev dktX0_number_2 : List UInt8 := dkwX0_number_2 ++ []
def dkwX0_number_1 : List UInt8 := [192, 0, 77, 27, 53, 172, 42, 193, 0, 79, 153, 0, 15, 42, 192, 0, 79, 27, 49, 20, 0, 81, 107, 142]
abbrev dktX0_number_1 : List UInt8 := dkwX0_number_1 ++ dktX0_number_2
def dkwX0_number_0 : List UInt8 := [42, 193, 0, 45, 153, 0, 10, 42, 192, 0, 45, 27, 52, 172, 42, 193, 0, 77, 153, 0, 10, 42]
abbrev dktX0_number_0 : List UInt8 := dkwX0_number_0 ++ dktX0_number_1
theorem dksX0_number_0 : cX0_number.data.toList.drop 0 = dktX0_number_0 := by decide +kernel
theorem dksX0_number_1 : cX0_number.data.toList.drop 22 = dktX0_number_1 := dk_seg dksX0_number_0 22 rfl rfl
theorem dksX0_number_2 : cX0_number.data.toList.drop 46 = dktX0_number_2 := dk_seg dksX0_number_1 24 rfl rfl
theorem dX0_number_0 : decode cX0_number 0 = .ok (.aload_n 0, 1) := dk_42 (dk_at dksX0_number_0 0 rfl rfl)
theorem dX0_number_1 : decode cX0_number 1 = .ok (.instanceof 45, 3) := dk_193 0 45 (dk_at dksX0_number_0 1 rfl rfl)
theorem dX0_number_4 : decode cX0_number 4 = .ok (.ifCond .eq 10, 3) := dk_153 0 10 (dk_at dksX0_number_0 4 rfl rfl)
theorem dX0_number_7 : decode cX0_number 7 = .ok (.aload_n 0, 1) := dk_42 (dk_at dksX0_number_0 7 rfl rfl)
theorem dX0_number_8 : decode cX0_number 8 = .ok (.checkcast 45, 3) := dk_192 0 45 (dk_at dksX0_number_0 8 rfl rfl)
theorem dX0_number_11 : decode cX0_number 11 = .ok (.iload_n 1, 1) := dk_27 (dk_at dksX0_number_0 11 rfl rfl)
theorem dX0_number_12 : decode cX0_number 12 = .ok (.caload, 1) := dk_52 (dk_at dksX0_number_0 12 rfl rfl)
theorem dX0_number_13 : decode cX0_number 13 = .ok (.ireturn, 1) := dk_172 (dk_at dksX0_number_0 13 rfl rfl)
theorem dX0_number_14 : decode cX0_number 14 = .ok (.aload_n 0, 1) := dk_42 (dk_at dksX0_number_0 14 rfl rfl)
theorem dX0_number_15 : decode cX0_number 15 = .ok (.instanceof 77, 3) := dk_193 0 77 (dk_at dksX0_number_0 15 rfl rfl)
theorem dX0_number_18 : decode cX0_number 18 = .ok (.ifCond .eq 10, 3) := dk_153 0 10 (dk_at dksX0_number_0 18 rfl rfl)
theorem dX0_number_21 : decode cX0_number 21 = .ok (.aload_n 0, 1) := dk_42 (dk_at dksX0_number_0 21 rfl rfl)
theorem dX0_number_22 : decode cX0_number 22 = .ok (.checkcast 77, 3) := dk_192 0 77 (dk_at dksX0_number_1 0 rfl rfl)
theorem dX0_number_25 : decode cX0_number 25 = .ok (.iload_n 1, 1) := dk_27 (dk_at dksX0_number_1 3 rfl rfl)
theorem dX0_number_26 : decode cX0_number 26 = .ok (.saload, 1) := dk_53 (dk_at dksX0_number_1 4 rfl rfl)
theorem dX0_number_27 : decode cX0_number 27 = .ok (.ireturn, 1) := dk_172 (dk_at dksX0_number_1 5 rfl rfl)
theorem dX0_number_28 : decode cX0_number 28 = .ok (.aload_n 0, 1) := dk_42 (dk_at dksX0_number_1 6 rfl rfl)
theorem dX0_number_29 : decode cX0_number 29 = .ok (.instanceof 79, 3) := dk_193 0 79 (dk_at dksX0_number_1 7 rfl rfl)
theorem dX0_number_32 : decode cX0_number 32 = .ok (.ifCond .eq 15, 3) := dk_153 0 15 (dk_at dksX0_number_1 10 rfl rfl)
theorem dX0_number_35 : decode cX0_number 35 = .ok (.aload_n 0, 1) := dk_42 (dk_at dksX0_number_1 13 rfl rfl)
theorem dX0_number_36 : decode cX0_number 36 = .ok (.checkcast 79, 3) := dk_192 0 79 (dk_at dksX0_number_1 14 rfl rfl)
theorem dX0_number_39 : decode cX0_number 39 = .ok (.iload_n 1, 1) := dk_27 (dk_at dksX0_number_1 17 rfl rfl)
theorem dX0_number_40 : decode cX0_number 40 = .ok (.daload, 1) := dk_49 (dk_at dksX0_number_1 18 rfl rfl)
theorem dX0_number_41 : decode cX0_number 41 = .ok (.ldc2_w 81, 3) := dk_20 0 81 (dk_at dksX0_number_1 19 rfl rfl)
theorem dX0_number_44 : decode cX0_number 44 = .ok (.dmul, 1) := dk_107 (dk_at dksX0_number_1 22 rfl rfl)
theorem dX0_number_45 : decode cX0_number 45 = .ok (.d2i, 1) := dk_142 (dk_at dksX0_number_1 23 rfl rfl)
theorem dX0_number_46 : decode cX0_number 46 = .ok (.ireturn, 1) := dk_172 (dk_at dksX0_number_2 0 rfl rfl)
theorem dX0_number_47 : decode cX0_number 47 = .ok (.aload_n 0, 1) := dk_42 (dk_at dksX0_number_2 1 rfl rfl)
theorem dX0_number_48 : decode cX0_number 48 = .ok (.checkcast 83, 3) := dk_192 0 83 (dk_at dksX0_number_2 2 rfl rfl)
theorem dX0_number_51 : decode cX0_number 51 = .ok (.iload_n 1, 1) := dk_27 (dk_at dksX0_number_2 5 rfl rfl)
theorem dX0_number_52 : decode cX0_number 52 = .ok (.baload, 1) := dk_51 (dk_at dksX0_number_2 6 rfl rfl)
theorem dX0_number_53 : decode cX0_number 53 = .ok (.ifCond .eq 7, 3) := dk_153 0 7 (dk_at dksX0_number_2 7 rfl rfl)
theorem dX0_number_56 : decode cX0_number 56 = .ok (.iconst 1, 1) := dk_4 (dk_at dksX0_number_2 10 rfl rfl)
theorem dX0_number_57 : decode cX0_number 57 = .ok (.goto 4, 3) := dk_167 0 4 (dk_at dksX0_number_2 11 rfl rfl)
theorem dX0_number_60 : decode cX0_number 60 = .ok (.iconst 0, 1) := dk_3 (dk_at dksX0_number_2 14 rfl rfl)
theorem dX0_number_61 : decode cX0_number 61 = .ok (.ireturn, 1) := dk_172 (dk_at dksX0_number_2 15 rfl rfl)
abbrev cX0_lay : ByteArray := prog_1_method_13_code
def yX0_lay : MethodName := ⟨RX0, "lay", "(III)I"⟩
def dkwX0_lay_4 : List UInt8 := [182, 0, 62, 172]
abbrev dktX0_lay_4 : List UInt8 := dkwX0_lay_4 ++ []
def dkwX0_lay_3 : List UInt8 := [58, 5, 42, 16, 252, 182, 0, 62, 172, 58, 5, 42, 16, 251, 182, 0, 62, 172, 58, 5, 42, 16, 250]
abbrev dktX0_lay_3 : List UInt8 := dkwX0_lay_3 ++ dktX0_lay_4
def dkwX0_lay_2 : List UInt8 := [50, 180, 0, 73, 58, 4, 42, 180, 0, 11, 27, 50, 180, 0, 73, 28, 25, 4, 184, 0, 107, 4, 172]
abbrev dktX0_lay_2 : List UInt8 := dkwX0_lay_2 ++ dktX0_lay_3
def dkwX0_lay_1 : List UInt8 := [154, 0, 10, 42, 16, 254, 182, 0, 62, 172, 29, 2, 160, 0, 7, 1, 167, 0, 12, 42, 180, 0, 11, 29]
abbrev dktX0_lay_1 : List UInt8 := dkwX0_lay_1 ++ dktX0_lay_2
def dkwX0_lay_0 : List UInt8 := [42, 3, 181, 0, 33, 42, 27, 182, 0, 85, 153, 0, 16, 29, 2, 159, 0, 18, 42, 29, 182, 0, 85]
abbrev dktX0_lay_0 : List UInt8 := dkwX0_lay_0 ++ dktX0_lay_1
theorem dksX0_lay_0 : cX0_lay.data.toList.drop 0 = dktX0_lay_0 := by decide +kernel
theorem dksX0_lay_1 : cX0_lay.data.toList.drop 23 = dktX0_lay_1 := dk_seg dksX0_lay_0 23 rfl rfl
theorem dksX0_lay_2 : cX0_lay.data.toList.drop 47 = dktX0_lay_2 := dk_seg dksX0_lay_1 24 rfl rfl
theorem dksX0_lay_3 : cX0_lay.data.toList.drop 70 = dktX0_lay_3 := dk_seg dksX0_lay_2 23 rfl rfl
theorem dksX0_lay_4 : cX0_lay.data.toList.drop 93 = dktX0_lay_4 := dk_seg dksX0_lay_3 23 rfl rfl
theorem dX0_lay_0 : decode cX0_lay 0 = .ok (.aload_n 0, 1) := dk_42 (dk_at dksX0_lay_0 0 rfl rfl)
theorem dX0_lay_1 : decode cX0_lay 1 = .ok (.iconst 0, 1) := dk_3 (dk_at dksX0_lay_0 1 rfl rfl)
theorem dX0_lay_2 : decode cX0_lay 2 = .ok (.putfield 33, 3) := dk_181 0 33 (dk_at dksX0_lay_0 2 rfl rfl)
theorem dX0_lay_5 : decode cX0_lay 5 = .ok (.aload_n 0, 1) := dk_42 (dk_at dksX0_lay_0 5 rfl rfl)
theorem dX0_lay_6 : decode cX0_lay 6 = .ok (.iload_n 1, 1) := dk_27 (dk_at dksX0_lay_0 6 rfl rfl)
theorem dX0_lay_7 : decode cX0_lay 7 = .ok (.invokevirtual 85, 3) := dk_182 0 85 (dk_at dksX0_lay_0 7 rfl rfl)
theorem dX0_lay_10 : decode cX0_lay 10 = .ok (.ifCond .eq 16, 3) := dk_153 0 16 (dk_at dksX0_lay_0 10 rfl rfl)
theorem dX0_lay_13 : decode cX0_lay 13 = .ok (.iload_n 3, 1) := dk_29 (dk_at dksX0_lay_0 13 rfl rfl)
theorem dX0_lay_14 : decode cX0_lay 14 = .ok (.iconst (-1), 1) := dk_2 (dk_at dksX0_lay_0 14 rfl rfl)
theorem dX0_lay_15 : decode cX0_lay 15 = .ok (.if_icmp .eq 18, 3) := dk_159 0 18 (dk_at dksX0_lay_0 15 rfl rfl)
theorem dX0_lay_18 : decode cX0_lay 18 = .ok (.aload_n 0, 1) := dk_42 (dk_at dksX0_lay_0 18 rfl rfl)
theorem dX0_lay_19 : decode cX0_lay 19 = .ok (.iload_n 3, 1) := dk_29 (dk_at dksX0_lay_0 19 rfl rfl)
theorem dX0_lay_20 : decode cX0_lay 20 = .ok (.invokevirtual 85, 3) := dk_182 0 85 (dk_at dksX0_lay_0 20 rfl rfl)
theorem dX0_lay_23 : decode cX0_lay 23 = .ok (.ifCond .ne 10, 3) := dk_154 0 10 (dk_at dksX0_lay_1 0 rfl rfl)
theorem dX0_lay_26 : decode cX0_lay 26 = .ok (.aload_n 0, 1) := dk_42 (dk_at dksX0_lay_1 3 rfl rfl)
theorem dX0_lay_27 : decode cX0_lay 27 = .ok (.bipush (-2), 2) := dk_16 254 (dk_at dksX0_lay_1 4 rfl rfl)
theorem dX0_lay_29 : decode cX0_lay 29 = .ok (.invokevirtual 62, 3) := dk_182 0 62 (dk_at dksX0_lay_1 6 rfl rfl)
theorem dX0_lay_32 : decode cX0_lay 32 = .ok (.ireturn, 1) := dk_172 (dk_at dksX0_lay_1 9 rfl rfl)
theorem dX0_lay_33 : decode cX0_lay 33 = .ok (.iload_n 3, 1) := dk_29 (dk_at dksX0_lay_1 10 rfl rfl)
theorem dX0_lay_34 : decode cX0_lay 34 = .ok (.iconst (-1), 1) := dk_2 (dk_at dksX0_lay_1 11 rfl rfl)
theorem dX0_lay_35 : decode cX0_lay 35 = .ok (.if_icmp .ne 7, 3) := dk_160 0 7 (dk_at dksX0_lay_1 12 rfl rfl)
theorem dX0_lay_38 : decode cX0_lay 38 = .ok (.aconst_null, 1) := dk_1 (dk_at dksX0_lay_1 15 rfl rfl)
theorem dX0_lay_39 : decode cX0_lay 39 = .ok (.goto 12, 3) := dk_167 0 12 (dk_at dksX0_lay_1 16 rfl rfl)
theorem dX0_lay_42 : decode cX0_lay 42 = .ok (.aload_n 0, 1) := dk_42 (dk_at dksX0_lay_1 19 rfl rfl)
theorem dX0_lay_43 : decode cX0_lay 43 = .ok (.getfield 11, 3) := dk_180 0 11 (dk_at dksX0_lay_1 20 rfl rfl)
theorem dX0_lay_46 : decode cX0_lay 46 = .ok (.iload_n 3, 1) := dk_29 (dk_at dksX0_lay_1 23 rfl rfl)
theorem dX0_lay_47 : decode cX0_lay 47 = .ok (.aaload, 1) := dk_50 (dk_at dksX0_lay_2 0 rfl rfl)
theorem dX0_lay_48 : decode cX0_lay 48 = .ok (.getfield 73, 3) := dk_180 0 73 (dk_at dksX0_lay_2 1 rfl rfl)
theorem dX0_lay_51 : decode cX0_lay 51 = .ok (.astore 4, 2) := dk_58 4 (dk_at dksX0_lay_2 4 rfl rfl)
theorem dX0_lay_53 : decode cX0_lay 53 = .ok (.aload_n 0, 1) := dk_42 (dk_at dksX0_lay_2 6 rfl rfl)
theorem dX0_lay_54 : decode cX0_lay 54 = .ok (.getfield 11, 3) := dk_180 0 11 (dk_at dksX0_lay_2 7 rfl rfl)
theorem dX0_lay_57 : decode cX0_lay 57 = .ok (.iload_n 1, 1) := dk_27 (dk_at dksX0_lay_2 10 rfl rfl)
theorem dX0_lay_58 : decode cX0_lay 58 = .ok (.aaload, 1) := dk_50 (dk_at dksX0_lay_2 11 rfl rfl)
theorem dX0_lay_59 : decode cX0_lay 59 = .ok (.getfield 73, 3) := dk_180 0 73 (dk_at dksX0_lay_2 12 rfl rfl)
theorem dX0_lay_62 : decode cX0_lay 62 = .ok (.iload_n 2, 1) := dk_28 (dk_at dksX0_lay_2 15 rfl rfl)
theorem dX0_lay_63 : decode cX0_lay 63 = .ok (.aload 4, 2) := dk_25 4 (dk_at dksX0_lay_2 16 rfl rfl)
theorem dX0_lay_65 : decode cX0_lay 65 = .ok (.invokestatic 107, 3) := dk_184 0 107 (dk_at dksX0_lay_2 18 rfl rfl)
theorem dX0_lay_68 : decode cX0_lay 68 = .ok (.iconst 1, 1) := dk_4 (dk_at dksX0_lay_2 21 rfl rfl)
theorem dX0_lay_69 : decode cX0_lay 69 = .ok (.ireturn, 1) := dk_172 (dk_at dksX0_lay_2 22 rfl rfl)
theorem dX0_lay_70 : decode cX0_lay 70 = .ok (.astore 5, 2) := dk_58 5 (dk_at dksX0_lay_3 0 rfl rfl)
theorem dX0_lay_72 : decode cX0_lay 72 = .ok (.aload_n 0, 1) := dk_42 (dk_at dksX0_lay_3 2 rfl rfl)
theorem dX0_lay_73 : decode cX0_lay 73 = .ok (.bipush (-4), 2) := dk_16 252 (dk_at dksX0_lay_3 3 rfl rfl)
theorem dX0_lay_75 : decode cX0_lay 75 = .ok (.invokevirtual 62, 3) := dk_182 0 62 (dk_at dksX0_lay_3 5 rfl rfl)
theorem dX0_lay_78 : decode cX0_lay 78 = .ok (.ireturn, 1) := dk_172 (dk_at dksX0_lay_3 8 rfl rfl)
theorem dX0_lay_79 : decode cX0_lay 79 = .ok (.astore 5, 2) := dk_58 5 (dk_at dksX0_lay_3 9 rfl rfl)
theorem dX0_lay_81 : decode cX0_lay 81 = .ok (.aload_n 0, 1) := dk_42 (dk_at dksX0_lay_3 11 rfl rfl)
theorem dX0_lay_82 : decode cX0_lay 82 = .ok (.bipush (-5), 2) := dk_16 251 (dk_at dksX0_lay_3 12 rfl rfl)
theorem dX0_lay_84 : decode cX0_lay 84 = .ok (.invokevirtual 62, 3) := dk_182 0 62 (dk_at dksX0_lay_3 14 rfl rfl)
theorem dX0_lay_87 : decode cX0_lay 87 = .ok (.ireturn, 1) := dk_172 (dk_at dksX0_lay_3 17 rfl rfl)
theorem dX0_lay_88 : decode cX0_lay 88 = .ok (.astore 5, 2) := dk_58 5 (dk_at dksX0_lay_3 18 rfl rfl)
theorem dX0_lay_90 : decode cX0_lay 90 = .ok (.aload_n 0, 1) := dk_42 (dk_at dksX0_lay_3 20 rfl rfl)
theorem dX0_lay_91 : decode cX0_lay 91 = .ok (.bipush (-6), 2) := dk_16 250 (dk_at dksX0_lay_3 21 rfl rfl)
theorem dX0_lay_93 : decode cX0_lay 93 = .ok (.invokevirtual 62, 3) := dk_182 0 62 (dk_at dksX0_lay_4 0 rfl rfl)
theorem dX0_lay_96 : decode cX0_lay 96 = .ok (.ireturn, 1) := dk_172 (dk_at dksX0_lay_4 3 rfl rfl)
abbrev cX0_laid : ByteArray := prog_1_method_12_code
def yX0_laid : MethodName := ⟨RX0, "laid", "(Ljava/lang/Object;ILjava/lang/Object;)V"⟩
def dkwX0_laid_2 : List UInt8 := [192, 0, 103, 27, 44, 192, 0, 56, 83, 167, 0, 13, 42, 192, 0, 105, 27, 44, 192, 0, 58, 83, 177]
abbrev dktX0_laid_2 : List UInt8 := dkwX0_laid_2 ++ []
def dkwX0_laid_1 : List UInt8 := [153, 0, 16, 42, 192, 0, 58, 27, 44, 192, 0, 47, 83, 167, 0, 33, 42, 193, 0, 103, 153, 0, 16, 42]
abbrev dktX0_laid_1 : List UInt8 := dkwX0_laid_1 ++ dktX0_laid_2
def dkwX0_laid_0 : List UInt8 := [42, 193, 0, 101, 153, 0, 16, 42, 192, 0, 101, 27, 44, 192, 0, 45, 83, 167, 0, 53, 42, 193, 0, 58]
abbrev dktX0_laid_0 : List UInt8 := dkwX0_laid_0 ++ dktX0_laid_1
theorem dksX0_laid_0 : cX0_laid.data.toList.drop 0 = dktX0_laid_0 := by decide +kernel
theorem dksX0_laid_1 : cX0_laid.data.toList.drop 24 = dktX0_laid_1 := dk_seg dksX0_laid_0 24 rfl rfl
theorem dksX0_laid_2 : cX0_laid.data.toList.drop 48 = dktX0_laid_2 := dk_seg dksX0_laid_1 24 rfl rfl
theorem dX0_laid_0 : decode cX0_laid 0 = .ok (.aload_n 0, 1) := dk_42 (dk_at dksX0_laid_0 0 rfl rfl)
theorem dX0_laid_1 : decode cX0_laid 1 = .ok (.instanceof 101, 3) := dk_193 0 101 (dk_at dksX0_laid_0 1 rfl rfl)
theorem dX0_laid_4 : decode cX0_laid 4 = .ok (.ifCond .eq 16, 3) := dk_153 0 16 (dk_at dksX0_laid_0 4 rfl rfl)
theorem dX0_laid_7 : decode cX0_laid 7 = .ok (.aload_n 0, 1) := dk_42 (dk_at dksX0_laid_0 7 rfl rfl)
theorem dX0_laid_8 : decode cX0_laid 8 = .ok (.checkcast 101, 3) := dk_192 0 101 (dk_at dksX0_laid_0 8 rfl rfl)
theorem dX0_laid_11 : decode cX0_laid 11 = .ok (.iload_n 1, 1) := dk_27 (dk_at dksX0_laid_0 11 rfl rfl)
theorem dX0_laid_12 : decode cX0_laid 12 = .ok (.aload_n 2, 1) := dk_44 (dk_at dksX0_laid_0 12 rfl rfl)
theorem dX0_laid_13 : decode cX0_laid 13 = .ok (.checkcast 45, 3) := dk_192 0 45 (dk_at dksX0_laid_0 13 rfl rfl)
theorem dX0_laid_16 : decode cX0_laid 16 = .ok (.aastore, 1) := dk_83 (dk_at dksX0_laid_0 16 rfl rfl)
theorem dX0_laid_17 : decode cX0_laid 17 = .ok (.goto 53, 3) := dk_167 0 53 (dk_at dksX0_laid_0 17 rfl rfl)
theorem dX0_laid_20 : decode cX0_laid 20 = .ok (.aload_n 0, 1) := dk_42 (dk_at dksX0_laid_0 20 rfl rfl)
theorem dX0_laid_21 : decode cX0_laid 21 = .ok (.instanceof 58, 3) := dk_193 0 58 (dk_at dksX0_laid_0 21 rfl rfl)
theorem dX0_laid_24 : decode cX0_laid 24 = .ok (.ifCond .eq 16, 3) := dk_153 0 16 (dk_at dksX0_laid_1 0 rfl rfl)
theorem dX0_laid_27 : decode cX0_laid 27 = .ok (.aload_n 0, 1) := dk_42 (dk_at dksX0_laid_1 3 rfl rfl)
theorem dX0_laid_28 : decode cX0_laid 28 = .ok (.checkcast 58, 3) := dk_192 0 58 (dk_at dksX0_laid_1 4 rfl rfl)
theorem dX0_laid_31 : decode cX0_laid 31 = .ok (.iload_n 1, 1) := dk_27 (dk_at dksX0_laid_1 7 rfl rfl)
theorem dX0_laid_32 : decode cX0_laid 32 = .ok (.aload_n 2, 1) := dk_44 (dk_at dksX0_laid_1 8 rfl rfl)
theorem dX0_laid_33 : decode cX0_laid 33 = .ok (.checkcast 47, 3) := dk_192 0 47 (dk_at dksX0_laid_1 9 rfl rfl)
theorem dX0_laid_36 : decode cX0_laid 36 = .ok (.aastore, 1) := dk_83 (dk_at dksX0_laid_1 12 rfl rfl)
theorem dX0_laid_37 : decode cX0_laid 37 = .ok (.goto 33, 3) := dk_167 0 33 (dk_at dksX0_laid_1 13 rfl rfl)
theorem dX0_laid_40 : decode cX0_laid 40 = .ok (.aload_n 0, 1) := dk_42 (dk_at dksX0_laid_1 16 rfl rfl)
theorem dX0_laid_41 : decode cX0_laid 41 = .ok (.instanceof 103, 3) := dk_193 0 103 (dk_at dksX0_laid_1 17 rfl rfl)
theorem dX0_laid_44 : decode cX0_laid 44 = .ok (.ifCond .eq 16, 3) := dk_153 0 16 (dk_at dksX0_laid_1 20 rfl rfl)
theorem dX0_laid_47 : decode cX0_laid 47 = .ok (.aload_n 0, 1) := dk_42 (dk_at dksX0_laid_1 23 rfl rfl)
theorem dX0_laid_48 : decode cX0_laid 48 = .ok (.checkcast 103, 3) := dk_192 0 103 (dk_at dksX0_laid_2 0 rfl rfl)
theorem dX0_laid_51 : decode cX0_laid 51 = .ok (.iload_n 1, 1) := dk_27 (dk_at dksX0_laid_2 3 rfl rfl)
theorem dX0_laid_52 : decode cX0_laid 52 = .ok (.aload_n 2, 1) := dk_44 (dk_at dksX0_laid_2 4 rfl rfl)
theorem dX0_laid_53 : decode cX0_laid 53 = .ok (.checkcast 56, 3) := dk_192 0 56 (dk_at dksX0_laid_2 5 rfl rfl)
theorem dX0_laid_56 : decode cX0_laid 56 = .ok (.aastore, 1) := dk_83 (dk_at dksX0_laid_2 8 rfl rfl)
theorem dX0_laid_57 : decode cX0_laid 57 = .ok (.goto 13, 3) := dk_167 0 13 (dk_at dksX0_laid_2 9 rfl rfl)
theorem dX0_laid_60 : decode cX0_laid 60 = .ok (.aload_n 0, 1) := dk_42 (dk_at dksX0_laid_2 12 rfl rfl)
theorem dX0_laid_61 : decode cX0_laid 61 = .ok (.checkcast 105, 3) := dk_192 0 105 (dk_at dksX0_laid_2 13 rfl rfl)
theorem dX0_laid_64 : decode cX0_laid 64 = .ok (.iload_n 1, 1) := dk_27 (dk_at dksX0_laid_2 16 rfl rfl)
theorem dX0_laid_65 : decode cX0_laid 65 = .ok (.aload_n 2, 1) := dk_44 (dk_at dksX0_laid_2 17 rfl rfl)
theorem dX0_laid_66 : decode cX0_laid 66 = .ok (.checkcast 58, 3) := dk_192 0 58 (dk_at dksX0_laid_2 18 rfl rfl)
theorem dX0_laid_69 : decode cX0_laid 69 = .ok (.aastore, 1) := dk_83 (dk_at dksX0_laid_2 21 rfl rfl)
theorem dX0_laid_70 : decode cX0_laid 70 = .ok (.return_, 1) := dk_177 (dk_at dksX0_laid_2 22 rfl rfl)
abbrev cX0_at : ByteArray := prog_1_method_15_code
def yX0_at : MethodName := ⟨RX0, "at", "(II)I"⟩
def dkwX0_at_2 : List UInt8 := [78, 42, 16, 251, 182, 0, 62, 172]
abbrev dktX0_at_2 : List UInt8 := dkwX0_at_2 ++ []
def dkwX0_at_1 : List UInt8 := [180, 0, 11, 27, 50, 180, 0, 73, 28, 184, 0, 113, 182, 0, 117, 172, 78, 42, 16, 252, 182, 0, 62, 172]
abbrev dktX0_at_1 : List UInt8 := dkwX0_at_1 ++ dktX0_at_2
def dkwX0_at_0 : List UInt8 := [42, 3, 181, 0, 33, 42, 27, 182, 0, 85, 154, 0, 10, 42, 16, 254, 182, 0, 62, 172, 42, 42]
abbrev dktX0_at_0 : List UInt8 := dkwX0_at_0 ++ dktX0_at_1
theorem dksX0_at_0 : cX0_at.data.toList.drop 0 = dktX0_at_0 := by decide +kernel
theorem dksX0_at_1 : cX0_at.data.toList.drop 22 = dktX0_at_1 := dk_seg dksX0_at_0 22 rfl rfl
theorem dksX0_at_2 : cX0_at.data.toList.drop 46 = dktX0_at_2 := dk_seg dksX0_at_1 24 rfl rfl
theorem dX0_at_0 : decode cX0_at 0 = .ok (.aload_n 0, 1) := dk_42 (dk_at dksX0_at_0 0 rfl rfl)
theorem dX0_at_1 : decode cX0_at 1 = .ok (.iconst 0, 1) := dk_3 (dk_at dksX0_at_0 1 rfl rfl)
theorem dX0_at_2 : decode cX0_at 2 = .ok (.putfield 33, 3) := dk_181 0 33 (dk_at dksX0_at_0 2 rfl rfl)
theorem dX0_at_5 : decode cX0_at 5 = .ok (.aload_n 0, 1) := dk_42 (dk_at dksX0_at_0 5 rfl rfl)
theorem dX0_at_6 : decode cX0_at 6 = .ok (.iload_n 1, 1) := dk_27 (dk_at dksX0_at_0 6 rfl rfl)
theorem dX0_at_7 : decode cX0_at 7 = .ok (.invokevirtual 85, 3) := dk_182 0 85 (dk_at dksX0_at_0 7 rfl rfl)
theorem dX0_at_10 : decode cX0_at 10 = .ok (.ifCond .ne 10, 3) := dk_154 0 10 (dk_at dksX0_at_0 10 rfl rfl)
theorem dX0_at_13 : decode cX0_at 13 = .ok (.aload_n 0, 1) := dk_42 (dk_at dksX0_at_0 13 rfl rfl)
theorem dX0_at_14 : decode cX0_at 14 = .ok (.bipush (-2), 2) := dk_16 254 (dk_at dksX0_at_0 14 rfl rfl)
theorem dX0_at_16 : decode cX0_at 16 = .ok (.invokevirtual 62, 3) := dk_182 0 62 (dk_at dksX0_at_0 16 rfl rfl)
theorem dX0_at_19 : decode cX0_at 19 = .ok (.ireturn, 1) := dk_172 (dk_at dksX0_at_0 19 rfl rfl)
theorem dX0_at_20 : decode cX0_at 20 = .ok (.aload_n 0, 1) := dk_42 (dk_at dksX0_at_0 20 rfl rfl)
theorem dX0_at_21 : decode cX0_at 21 = .ok (.aload_n 0, 1) := dk_42 (dk_at dksX0_at_0 21 rfl rfl)
theorem dX0_at_22 : decode cX0_at 22 = .ok (.getfield 11, 3) := dk_180 0 11 (dk_at dksX0_at_1 0 rfl rfl)
theorem dX0_at_25 : decode cX0_at 25 = .ok (.iload_n 1, 1) := dk_27 (dk_at dksX0_at_1 3 rfl rfl)
theorem dX0_at_26 : decode cX0_at 26 = .ok (.aaload, 1) := dk_50 (dk_at dksX0_at_1 4 rfl rfl)
theorem dX0_at_27 : decode cX0_at 27 = .ok (.getfield 73, 3) := dk_180 0 73 (dk_at dksX0_at_1 5 rfl rfl)
theorem dX0_at_30 : decode cX0_at 30 = .ok (.iload_n 2, 1) := dk_28 (dk_at dksX0_at_1 8 rfl rfl)
theorem dX0_at_31 : decode cX0_at 31 = .ok (.invokestatic 113, 3) := dk_184 0 113 (dk_at dksX0_at_1 9 rfl rfl)
theorem dX0_at_34 : decode cX0_at 34 = .ok (.invokevirtual 117, 3) := dk_182 0 117 (dk_at dksX0_at_1 12 rfl rfl)
theorem dX0_at_37 : decode cX0_at 37 = .ok (.ireturn, 1) := dk_172 (dk_at dksX0_at_1 15 rfl rfl)
theorem dX0_at_38 : decode cX0_at 38 = .ok (.astore_n 3, 1) := dk_78 (dk_at dksX0_at_1 16 rfl rfl)
theorem dX0_at_39 : decode cX0_at 39 = .ok (.aload_n 0, 1) := dk_42 (dk_at dksX0_at_1 17 rfl rfl)
theorem dX0_at_40 : decode cX0_at 40 = .ok (.bipush (-4), 2) := dk_16 252 (dk_at dksX0_at_1 18 rfl rfl)
theorem dX0_at_42 : decode cX0_at 42 = .ok (.invokevirtual 62, 3) := dk_182 0 62 (dk_at dksX0_at_1 20 rfl rfl)
theorem dX0_at_45 : decode cX0_at 45 = .ok (.ireturn, 1) := dk_172 (dk_at dksX0_at_1 23 rfl rfl)
theorem dX0_at_46 : decode cX0_at 46 = .ok (.astore_n 3, 1) := dk_78 (dk_at dksX0_at_2 0 rfl rfl)
theorem dX0_at_47 : decode cX0_at 47 = .ok (.aload_n 0, 1) := dk_42 (dk_at dksX0_at_2 1 rfl rfl)
theorem dX0_at_48 : decode cX0_at 48 = .ok (.bipush (-5), 2) := dk_16 251 (dk_at dksX0_at_2 2 rfl rfl)
theorem dX0_at_50 : decode cX0_at 50 = .ok (.invokevirtual 62, 3) := dk_182 0 62 (dk_at dksX0_at_2 4 rfl rfl)
theorem dX0_at_53 : decode cX0_at 53 = .ok (.ireturn, 1) := dk_172 (dk_at dksX0_at_2 7 rfl rfl)
abbrev cX0_part : ByteArray := prog_1_method_14_code
def yX0_part : MethodName := ⟨RX0, "part", "(Ljava/lang/Object;I)Ljava/lang/Object;"⟩
def dkwX0_part_1 : List UInt8 := [192, 0, 103, 27, 50, 176, 42, 192, 0, 105, 27, 50, 176]
abbrev dktX0_part_1 : List UInt8 := dkwX0_part_1 ++ []
def dkwX0_part_0 : List UInt8 := [42, 193, 0, 101, 153, 0, 10, 42, 192, 0, 101, 27, 50, 176, 42, 193, 0, 103, 153, 0, 10, 42]
abbrev dktX0_part_0 : List UInt8 := dkwX0_part_0 ++ dktX0_part_1
theorem dksX0_part_0 : cX0_part.data.toList.drop 0 = dktX0_part_0 := by decide +kernel
theorem dksX0_part_1 : cX0_part.data.toList.drop 22 = dktX0_part_1 := dk_seg dksX0_part_0 22 rfl rfl
theorem dX0_part_0 : decode cX0_part 0 = .ok (.aload_n 0, 1) := dk_42 (dk_at dksX0_part_0 0 rfl rfl)
theorem dX0_part_1 : decode cX0_part 1 = .ok (.instanceof 101, 3) := dk_193 0 101 (dk_at dksX0_part_0 1 rfl rfl)
theorem dX0_part_4 : decode cX0_part 4 = .ok (.ifCond .eq 10, 3) := dk_153 0 10 (dk_at dksX0_part_0 4 rfl rfl)
theorem dX0_part_7 : decode cX0_part 7 = .ok (.aload_n 0, 1) := dk_42 (dk_at dksX0_part_0 7 rfl rfl)
theorem dX0_part_8 : decode cX0_part 8 = .ok (.checkcast 101, 3) := dk_192 0 101 (dk_at dksX0_part_0 8 rfl rfl)
theorem dX0_part_11 : decode cX0_part 11 = .ok (.iload_n 1, 1) := dk_27 (dk_at dksX0_part_0 11 rfl rfl)
theorem dX0_part_12 : decode cX0_part 12 = .ok (.aaload, 1) := dk_50 (dk_at dksX0_part_0 12 rfl rfl)
theorem dX0_part_13 : decode cX0_part 13 = .ok (.areturn, 1) := dk_176 (dk_at dksX0_part_0 13 rfl rfl)
theorem dX0_part_14 : decode cX0_part 14 = .ok (.aload_n 0, 1) := dk_42 (dk_at dksX0_part_0 14 rfl rfl)
theorem dX0_part_15 : decode cX0_part 15 = .ok (.instanceof 103, 3) := dk_193 0 103 (dk_at dksX0_part_0 15 rfl rfl)
theorem dX0_part_18 : decode cX0_part 18 = .ok (.ifCond .eq 10, 3) := dk_153 0 10 (dk_at dksX0_part_0 18 rfl rfl)
theorem dX0_part_21 : decode cX0_part 21 = .ok (.aload_n 0, 1) := dk_42 (dk_at dksX0_part_0 21 rfl rfl)
theorem dX0_part_22 : decode cX0_part 22 = .ok (.checkcast 103, 3) := dk_192 0 103 (dk_at dksX0_part_1 0 rfl rfl)
theorem dX0_part_25 : decode cX0_part 25 = .ok (.iload_n 1, 1) := dk_27 (dk_at dksX0_part_1 3 rfl rfl)
theorem dX0_part_26 : decode cX0_part 26 = .ok (.aaload, 1) := dk_50 (dk_at dksX0_part_1 4 rfl rfl)
theorem dX0_part_27 : decode cX0_part 27 = .ok (.areturn, 1) := dk_176 (dk_at dksX0_part_1 5 rfl rfl)
theorem dX0_part_28 : decode cX0_part 28 = .ok (.aload_n 0, 1) := dk_42 (dk_at dksX0_part_1 6 rfl rfl)
theorem dX0_part_29 : decode cX0_part 29 = .ok (.checkcast 105, 3) := dk_192 0 105 (dk_at dksX0_part_1 7 rfl rfl)
theorem dX0_part_32 : decode cX0_part 32 = .ok (.iload_n 1, 1) := dk_27 (dk_at dksX0_part_1 10 rfl rfl)
theorem dX0_part_33 : decode cX0_part 33 = .ok (.aaload, 1) := dk_50 (dk_at dksX0_part_1 11 rfl rfl)
theorem dX0_part_34 : decode cX0_part 34 = .ok (.areturn, 1) := dk_176 (dk_at dksX0_part_1 12 rfl rfl)
abbrev cX0_numberOf : ByteArray := prog_1_method_7_code
def yX0_numberOf : MethodName := ⟨RX0, "numberOf", "(Ljava/lang/Object;)I"⟩
def dkwX0_numberOf_1 : List UInt8 := [172, 132, 2, 1, 167, 255, 230, 2, 172]
abbrev dktX0_numberOf_1 : List UInt8 := dkwX0_numberOf_1 ++ []
def dkwX0_numberOf_0 : List UInt8 := [3, 61, 28, 42, 180, 0, 25, 162, 0, 24, 42, 180, 0, 11, 28, 50, 180, 0, 73, 43, 166, 0, 5, 28]
abbrev dktX0_numberOf_0 : List UInt8 := dkwX0_numberOf_0 ++ dktX0_numberOf_1
theorem dksX0_numberOf_0 : cX0_numberOf.data.toList.drop 0 = dktX0_numberOf_0 := by decide +kernel
theorem dksX0_numberOf_1 : cX0_numberOf.data.toList.drop 24 = dktX0_numberOf_1 := dk_seg dksX0_numberOf_0 24 rfl rfl
theorem dX0_numberOf_0 : decode cX0_numberOf 0 = .ok (.iconst 0, 1) := dk_3 (dk_at dksX0_numberOf_0 0 rfl rfl)
theorem dX0_numberOf_1 : decode cX0_numberOf 1 = .ok (.istore_n 2, 1) := dk_61 (dk_at dksX0_numberOf_0 1 rfl rfl)
theorem dX0_numberOf_2 : decode cX0_numberOf 2 = .ok (.iload_n 2, 1) := dk_28 (dk_at dksX0_numberOf_0 2 rfl rfl)
theorem dX0_numberOf_3 : decode cX0_numberOf 3 = .ok (.aload_n 0, 1) := dk_42 (dk_at dksX0_numberOf_0 3 rfl rfl)
theorem dX0_numberOf_4 : decode cX0_numberOf 4 = .ok (.getfield 25, 3) := dk_180 0 25 (dk_at dksX0_numberOf_0 4 rfl rfl)
theorem dX0_numberOf_7 : decode cX0_numberOf 7 = .ok (.if_icmp .ge 24, 3) := dk_162 0 24 (dk_at dksX0_numberOf_0 7 rfl rfl)
theorem dX0_numberOf_10 : decode cX0_numberOf 10 = .ok (.aload_n 0, 1) := dk_42 (dk_at dksX0_numberOf_0 10 rfl rfl)
theorem dX0_numberOf_11 : decode cX0_numberOf 11 = .ok (.getfield 11, 3) := dk_180 0 11 (dk_at dksX0_numberOf_0 11 rfl rfl)
theorem dX0_numberOf_14 : decode cX0_numberOf 14 = .ok (.iload_n 2, 1) := dk_28 (dk_at dksX0_numberOf_0 14 rfl rfl)
theorem dX0_numberOf_15 : decode cX0_numberOf 15 = .ok (.aaload, 1) := dk_50 (dk_at dksX0_numberOf_0 15 rfl rfl)
theorem dX0_numberOf_16 : decode cX0_numberOf 16 = .ok (.getfield 73, 3) := dk_180 0 73 (dk_at dksX0_numberOf_0 16 rfl rfl)
theorem dX0_numberOf_19 : decode cX0_numberOf 19 = .ok (.aload_n 1, 1) := dk_43 (dk_at dksX0_numberOf_0 19 rfl rfl)
theorem dX0_numberOf_20 : decode cX0_numberOf 20 = .ok (.if_acmp .ne 5, 3) := dk_166 0 5 (dk_at dksX0_numberOf_0 20 rfl rfl)
theorem dX0_numberOf_23 : decode cX0_numberOf 23 = .ok (.iload_n 2, 1) := dk_28 (dk_at dksX0_numberOf_0 23 rfl rfl)
theorem dX0_numberOf_24 : decode cX0_numberOf 24 = .ok (.ireturn, 1) := dk_172 (dk_at dksX0_numberOf_1 0 rfl rfl)
theorem dX0_numberOf_25 : decode cX0_numberOf 25 = .ok (.iinc 2 1, 3) := dk_132 2 1 (dk_at dksX0_numberOf_1 1 rfl rfl)
theorem dX0_numberOf_28 : decode cX0_numberOf 28 = .ok (.goto (-26), 3) := dk_167 255 230 (dk_at dksX0_numberOf_1 4 rfl rfl)
theorem dX0_numberOf_31 : decode cX0_numberOf 31 = .ok (.iconst (-1), 1) := dk_2 (dk_at dksX0_numberOf_1 7 rfl rfl)
theorem dX0_numberOf_32 : decode cX0_numberOf 32 = .ok (.ireturn, 1) := dk_172 (dk_at dksX0_numberOf_1 8 rfl rfl)
abbrev cX0_is : ByteArray := prog_1_method_18_code
def yX0_is : MethodName := ⟨RX0, "is", "(II)I"⟩
def dkwX0_is_2 : List UInt8 := [167, 0, 4, 3, 172]
abbrev dktX0_is_2 : List UInt8 := dkwX0_is_2 ++ []
def dkwX0_is_1 : List UInt8 := [16, 254, 182, 0, 62, 172, 42, 180, 0, 11, 27, 50, 180, 0, 73, 28, 184, 0, 123, 153, 0, 7, 4]
abbrev dktX0_is_1 : List UInt8 := dkwX0_is_1 ++ dktX0_is_2
def dkwX0_is_0 : List UInt8 := [42, 3, 181, 0, 33, 42, 27, 182, 0, 85, 153, 0, 13, 28, 3, 16, 13, 184, 0, 29, 154, 0, 10, 42]
abbrev dktX0_is_0 : List UInt8 := dkwX0_is_0 ++ dktX0_is_1
theorem dksX0_is_0 : cX0_is.data.toList.drop 0 = dktX0_is_0 := by decide +kernel
theorem dksX0_is_1 : cX0_is.data.toList.drop 24 = dktX0_is_1 := dk_seg dksX0_is_0 24 rfl rfl
theorem dksX0_is_2 : cX0_is.data.toList.drop 47 = dktX0_is_2 := dk_seg dksX0_is_1 23 rfl rfl
theorem dX0_is_0 : decode cX0_is 0 = .ok (.aload_n 0, 1) := dk_42 (dk_at dksX0_is_0 0 rfl rfl)
theorem dX0_is_1 : decode cX0_is 1 = .ok (.iconst 0, 1) := dk_3 (dk_at dksX0_is_0 1 rfl rfl)
theorem dX0_is_2 : decode cX0_is 2 = .ok (.putfield 33, 3) := dk_181 0 33 (dk_at dksX0_is_0 2 rfl rfl)
theorem dX0_is_5 : decode cX0_is 5 = .ok (.aload_n 0, 1) := dk_42 (dk_at dksX0_is_0 5 rfl rfl)
theorem dX0_is_6 : decode cX0_is 6 = .ok (.iload_n 1, 1) := dk_27 (dk_at dksX0_is_0 6 rfl rfl)
theorem dX0_is_7 : decode cX0_is 7 = .ok (.invokevirtual 85, 3) := dk_182 0 85 (dk_at dksX0_is_0 7 rfl rfl)
theorem dX0_is_10 : decode cX0_is 10 = .ok (.ifCond .eq 13, 3) := dk_153 0 13 (dk_at dksX0_is_0 10 rfl rfl)
theorem dX0_is_13 : decode cX0_is 13 = .ok (.iload_n 2, 1) := dk_28 (dk_at dksX0_is_0 13 rfl rfl)
theorem dX0_is_14 : decode cX0_is 14 = .ok (.iconst 0, 1) := dk_3 (dk_at dksX0_is_0 14 rfl rfl)
theorem dX0_is_15 : decode cX0_is 15 = .ok (.bipush 13, 2) := dk_16 13 (dk_at dksX0_is_0 15 rfl rfl)
theorem dX0_is_17 : decode cX0_is 17 = .ok (.invokestatic 29, 3) := dk_184 0 29 (dk_at dksX0_is_0 17 rfl rfl)
theorem dX0_is_20 : decode cX0_is 20 = .ok (.ifCond .ne 10, 3) := dk_154 0 10 (dk_at dksX0_is_0 20 rfl rfl)
theorem dX0_is_23 : decode cX0_is 23 = .ok (.aload_n 0, 1) := dk_42 (dk_at dksX0_is_0 23 rfl rfl)
theorem dX0_is_24 : decode cX0_is 24 = .ok (.bipush (-2), 2) := dk_16 254 (dk_at dksX0_is_1 0 rfl rfl)
theorem dX0_is_26 : decode cX0_is 26 = .ok (.invokevirtual 62, 3) := dk_182 0 62 (dk_at dksX0_is_1 2 rfl rfl)
theorem dX0_is_29 : decode cX0_is 29 = .ok (.ireturn, 1) := dk_172 (dk_at dksX0_is_1 5 rfl rfl)
theorem dX0_is_30 : decode cX0_is 30 = .ok (.aload_n 0, 1) := dk_42 (dk_at dksX0_is_1 6 rfl rfl)
theorem dX0_is_31 : decode cX0_is 31 = .ok (.getfield 11, 3) := dk_180 0 11 (dk_at dksX0_is_1 7 rfl rfl)
theorem dX0_is_34 : decode cX0_is 34 = .ok (.iload_n 1, 1) := dk_27 (dk_at dksX0_is_1 10 rfl rfl)
theorem dX0_is_35 : decode cX0_is 35 = .ok (.aaload, 1) := dk_50 (dk_at dksX0_is_1 11 rfl rfl)
theorem dX0_is_36 : decode cX0_is 36 = .ok (.getfield 73, 3) := dk_180 0 73 (dk_at dksX0_is_1 12 rfl rfl)
theorem dX0_is_39 : decode cX0_is 39 = .ok (.iload_n 2, 1) := dk_28 (dk_at dksX0_is_1 15 rfl rfl)
theorem dX0_is_40 : decode cX0_is 40 = .ok (.invokestatic 123, 3) := dk_184 0 123 (dk_at dksX0_is_1 16 rfl rfl)
theorem dX0_is_43 : decode cX0_is 43 = .ok (.ifCond .eq 7, 3) := dk_153 0 7 (dk_at dksX0_is_1 19 rfl rfl)
theorem dX0_is_46 : decode cX0_is 46 = .ok (.iconst 1, 1) := dk_4 (dk_at dksX0_is_1 22 rfl rfl)
theorem dX0_is_47 : decode cX0_is 47 = .ok (.goto 4, 3) := dk_167 0 4 (dk_at dksX0_is_2 0 rfl rfl)
theorem dX0_is_50 : decode cX0_is 50 = .ok (.iconst 0, 1) := dk_3 (dk_at dksX0_is_2 3 rfl rfl)
theorem dX0_is_51 : decode cX0_is 51 = .ok (.ireturn, 1) := dk_172 (dk_at dksX0_is_2 4 rfl rfl)
abbrev cX0_isOf : ByteArray := prog_1_method_16_code
def yX0_isOf : MethodName := ⟨RX0, "isOf", "(Ljava/lang/Object;I)Z"⟩
def dkwX0_isOf_4 : List UInt8 := [193, 0, 60, 172, 42, 193, 0, 103, 172, 42, 193, 0, 105, 172, 42, 193, 0, 121, 172, 42, 193, 0, 56, 172]
abbrev dktX0_isOf_4 : List UInt8 := dkwX0_isOf_4 ++ []
def dkwX0_isOf_3 : List UInt8 := [172, 42, 193, 0, 47, 172, 42, 193, 0, 50, 172, 42, 193, 0, 53, 172, 42, 193, 0, 58, 172, 42]
abbrev dktX0_isOf_3 : List UInt8 := dkwX0_isOf_3 ++ dktX0_isOf_4
def dkwX0_isOf_2 : List UInt8 := [42, 193, 0, 45, 172, 42, 193, 0, 77, 172, 42, 193, 0, 79, 172, 42, 193, 0, 83, 172, 42, 193, 0, 101]
abbrev dktX0_isOf_2 : List UInt8 := dkwX0_isOf_2 ++ dktX0_isOf_3
def dkwX0_isOf_1 : List UInt8 := [170, 0, 0, 0, 0, 0, 132, 0, 0, 0, 0, 0, 0, 0, 12, 0, 0, 0, 67, 0, 0, 0, 72, 0, 0, 0, 77, 0, 0, 0, 82, 0, 0, 0, 87, 0, 0, 0, 92, 0, 0, 0, 97, 0, 0, 0, 102, 0, 0, 0, 107, 0, 0, 0, 112, 0, 0, 0, 117, 0, 0, 0, 122, 0, 0, 0, 127]
abbrev dktX0_isOf_1 : List UInt8 := dkwX0_isOf_1 ++ dktX0_isOf_2
def dkwX0_isOf_0 : List UInt8 := [27]
abbrev dktX0_isOf_0 : List UInt8 := dkwX0_isOf_0 ++ dktX0_isOf_1
theorem dksX0_isOf_0 : cX0_isOf.data.toList.drop 0 = dktX0_isOf_0 := by decide +kernel
theorem dksX0_isOf_1 : cX0_isOf.data.toList.drop 1 = dktX0_isOf_1 := dk_seg dksX0_isOf_0 1 rfl rfl
theorem dksX0_isOf_2 : cX0_isOf.data.toList.drop 68 = dktX0_isOf_2 := dk_seg dksX0_isOf_1 67 rfl rfl
theorem dksX0_isOf_3 : cX0_isOf.data.toList.drop 92 = dktX0_isOf_3 := dk_seg dksX0_isOf_2 24 rfl rfl
theorem dksX0_isOf_4 : cX0_isOf.data.toList.drop 114 = dktX0_isOf_4 := dk_seg dksX0_isOf_3 22 rfl rfl
theorem dX0_isOf_0 : decode cX0_isOf 0 = .ok (.iload_n 1, 1) := dk_27 (dk_at dksX0_isOf_0 0 rfl rfl)
theorem dX0_isOf_1 : decode cX0_isOf 1 = .ok (.tableswitch 132 0 12 #[67, 72, 77, 82, 87, 92, 97, 102, 107, 112, 117, 122, 127], 67) := by decide +kernel
theorem dX0_isOf_68 : decode cX0_isOf 68 = .ok (.aload_n 0, 1) := dk_42 (dk_at dksX0_isOf_2 0 rfl rfl)
theorem dX0_isOf_69 : decode cX0_isOf 69 = .ok (.instanceof 45, 3) := dk_193 0 45 (dk_at dksX0_isOf_2 1 rfl rfl)
theorem dX0_isOf_72 : decode cX0_isOf 72 = .ok (.ireturn, 1) := dk_172 (dk_at dksX0_isOf_2 4 rfl rfl)
theorem dX0_isOf_73 : decode cX0_isOf 73 = .ok (.aload_n 0, 1) := dk_42 (dk_at dksX0_isOf_2 5 rfl rfl)
theorem dX0_isOf_74 : decode cX0_isOf 74 = .ok (.instanceof 77, 3) := dk_193 0 77 (dk_at dksX0_isOf_2 6 rfl rfl)
theorem dX0_isOf_77 : decode cX0_isOf 77 = .ok (.ireturn, 1) := dk_172 (dk_at dksX0_isOf_2 9 rfl rfl)
theorem dX0_isOf_78 : decode cX0_isOf 78 = .ok (.aload_n 0, 1) := dk_42 (dk_at dksX0_isOf_2 10 rfl rfl)
theorem dX0_isOf_79 : decode cX0_isOf 79 = .ok (.instanceof 79, 3) := dk_193 0 79 (dk_at dksX0_isOf_2 11 rfl rfl)
theorem dX0_isOf_82 : decode cX0_isOf 82 = .ok (.ireturn, 1) := dk_172 (dk_at dksX0_isOf_2 14 rfl rfl)
theorem dX0_isOf_83 : decode cX0_isOf 83 = .ok (.aload_n 0, 1) := dk_42 (dk_at dksX0_isOf_2 15 rfl rfl)
theorem dX0_isOf_84 : decode cX0_isOf 84 = .ok (.instanceof 83, 3) := dk_193 0 83 (dk_at dksX0_isOf_2 16 rfl rfl)
theorem dX0_isOf_87 : decode cX0_isOf 87 = .ok (.ireturn, 1) := dk_172 (dk_at dksX0_isOf_2 19 rfl rfl)
theorem dX0_isOf_88 : decode cX0_isOf 88 = .ok (.aload_n 0, 1) := dk_42 (dk_at dksX0_isOf_2 20 rfl rfl)
theorem dX0_isOf_89 : decode cX0_isOf 89 = .ok (.instanceof 101, 3) := dk_193 0 101 (dk_at dksX0_isOf_2 21 rfl rfl)
theorem dX0_isOf_92 : decode cX0_isOf 92 = .ok (.ireturn, 1) := dk_172 (dk_at dksX0_isOf_3 0 rfl rfl)
theorem dX0_isOf_93 : decode cX0_isOf 93 = .ok (.aload_n 0, 1) := dk_42 (dk_at dksX0_isOf_3 1 rfl rfl)
theorem dX0_isOf_94 : decode cX0_isOf 94 = .ok (.instanceof 47, 3) := dk_193 0 47 (dk_at dksX0_isOf_3 2 rfl rfl)
theorem dX0_isOf_97 : decode cX0_isOf 97 = .ok (.ireturn, 1) := dk_172 (dk_at dksX0_isOf_3 5 rfl rfl)
theorem dX0_isOf_98 : decode cX0_isOf 98 = .ok (.aload_n 0, 1) := dk_42 (dk_at dksX0_isOf_3 6 rfl rfl)
theorem dX0_isOf_99 : decode cX0_isOf 99 = .ok (.instanceof 50, 3) := dk_193 0 50 (dk_at dksX0_isOf_3 7 rfl rfl)
theorem dX0_isOf_102 : decode cX0_isOf 102 = .ok (.ireturn, 1) := dk_172 (dk_at dksX0_isOf_3 10 rfl rfl)
theorem dX0_isOf_103 : decode cX0_isOf 103 = .ok (.aload_n 0, 1) := dk_42 (dk_at dksX0_isOf_3 11 rfl rfl)
theorem dX0_isOf_104 : decode cX0_isOf 104 = .ok (.instanceof 53, 3) := dk_193 0 53 (dk_at dksX0_isOf_3 12 rfl rfl)
theorem dX0_isOf_107 : decode cX0_isOf 107 = .ok (.ireturn, 1) := dk_172 (dk_at dksX0_isOf_3 15 rfl rfl)
theorem dX0_isOf_108 : decode cX0_isOf 108 = .ok (.aload_n 0, 1) := dk_42 (dk_at dksX0_isOf_3 16 rfl rfl)
theorem dX0_isOf_109 : decode cX0_isOf 109 = .ok (.instanceof 58, 3) := dk_193 0 58 (dk_at dksX0_isOf_3 17 rfl rfl)
theorem dX0_isOf_112 : decode cX0_isOf 112 = .ok (.ireturn, 1) := dk_172 (dk_at dksX0_isOf_3 20 rfl rfl)
theorem dX0_isOf_113 : decode cX0_isOf 113 = .ok (.aload_n 0, 1) := dk_42 (dk_at dksX0_isOf_3 21 rfl rfl)
theorem dX0_isOf_114 : decode cX0_isOf 114 = .ok (.instanceof 60, 3) := dk_193 0 60 (dk_at dksX0_isOf_4 0 rfl rfl)
theorem dX0_isOf_117 : decode cX0_isOf 117 = .ok (.ireturn, 1) := dk_172 (dk_at dksX0_isOf_4 3 rfl rfl)
theorem dX0_isOf_118 : decode cX0_isOf 118 = .ok (.aload_n 0, 1) := dk_42 (dk_at dksX0_isOf_4 4 rfl rfl)
theorem dX0_isOf_119 : decode cX0_isOf 119 = .ok (.instanceof 103, 3) := dk_193 0 103 (dk_at dksX0_isOf_4 5 rfl rfl)
theorem dX0_isOf_122 : decode cX0_isOf 122 = .ok (.ireturn, 1) := dk_172 (dk_at dksX0_isOf_4 8 rfl rfl)
theorem dX0_isOf_123 : decode cX0_isOf 123 = .ok (.aload_n 0, 1) := dk_42 (dk_at dksX0_isOf_4 9 rfl rfl)
theorem dX0_isOf_124 : decode cX0_isOf 124 = .ok (.instanceof 105, 3) := dk_193 0 105 (dk_at dksX0_isOf_4 10 rfl rfl)
theorem dX0_isOf_127 : decode cX0_isOf 127 = .ok (.ireturn, 1) := dk_172 (dk_at dksX0_isOf_4 13 rfl rfl)
theorem dX0_isOf_128 : decode cX0_isOf 128 = .ok (.aload_n 0, 1) := dk_42 (dk_at dksX0_isOf_4 14 rfl rfl)
theorem dX0_isOf_129 : decode cX0_isOf 129 = .ok (.instanceof 121, 3) := dk_193 0 121 (dk_at dksX0_isOf_4 15 rfl rfl)
theorem dX0_isOf_132 : decode cX0_isOf 132 = .ok (.ireturn, 1) := dk_172 (dk_at dksX0_isOf_4 18 rfl rfl)
theorem dX0_isOf_133 : decode cX0_isOf 133 = .ok (.aload_n 0, 1) := dk_42 (dk_at dksX0_isOf_4 19 rfl rfl)
theorem dX0_isOf_134 : decode cX0_isOf 134 = .ok (.instanceof 56, 3) := dk_193 0 56 (dk_at dksX0_isOf_4 20 rfl rfl)
theorem dX0_isOf_137 : decode cX0_isOf 137 = .ok (.ireturn, 1) := dk_172 (dk_at dksX0_isOf_4 23 rfl rfl)
abbrev cX0_stamps : ByteArray := prog_1_method_19_code
def yX0_stamps : MethodName := ⟨RX0, "stamps", "(I)I"⟩
def dkwX0_stamps_2 : List UInt8 := [182, 0, 62, 61, 3, 172]
abbrev dktX0_stamps_2 : List UInt8 := dkwX0_stamps_2 ++ []
def dkwX0_stamps_1 : List UInt8 := [42, 180, 0, 11, 27, 50, 180, 0, 73, 192, 0, 56, 185, 0, 127, 1, 0, 172, 78, 42, 16, 252]
abbrev dktX0_stamps_1 : List UInt8 := dkwX0_stamps_1 ++ dktX0_stamps_2
def dkwX0_stamps_0 : List UInt8 := [42, 3, 181, 0, 33, 42, 27, 182, 0, 85, 154, 0, 11, 42, 16, 254, 181, 0, 33, 3, 172, 16, 252, 61]
abbrev dktX0_stamps_0 : List UInt8 := dkwX0_stamps_0 ++ dktX0_stamps_1
theorem dksX0_stamps_0 : cX0_stamps.data.toList.drop 0 = dktX0_stamps_0 := by decide +kernel
theorem dksX0_stamps_1 : cX0_stamps.data.toList.drop 24 = dktX0_stamps_1 := dk_seg dksX0_stamps_0 24 rfl rfl
theorem dksX0_stamps_2 : cX0_stamps.data.toList.drop 46 = dktX0_stamps_2 := dk_seg dksX0_stamps_1 22 rfl rfl
theorem dX0_stamps_0 : decode cX0_stamps 0 = .ok (.aload_n 0, 1) := dk_42 (dk_at dksX0_stamps_0 0 rfl rfl)
theorem dX0_stamps_1 : decode cX0_stamps 1 = .ok (.iconst 0, 1) := dk_3 (dk_at dksX0_stamps_0 1 rfl rfl)
theorem dX0_stamps_2 : decode cX0_stamps 2 = .ok (.putfield 33, 3) := dk_181 0 33 (dk_at dksX0_stamps_0 2 rfl rfl)
theorem dX0_stamps_5 : decode cX0_stamps 5 = .ok (.aload_n 0, 1) := dk_42 (dk_at dksX0_stamps_0 5 rfl rfl)
theorem dX0_stamps_6 : decode cX0_stamps 6 = .ok (.iload_n 1, 1) := dk_27 (dk_at dksX0_stamps_0 6 rfl rfl)
theorem dX0_stamps_7 : decode cX0_stamps 7 = .ok (.invokevirtual 85, 3) := dk_182 0 85 (dk_at dksX0_stamps_0 7 rfl rfl)
theorem dX0_stamps_10 : decode cX0_stamps 10 = .ok (.ifCond .ne 11, 3) := dk_154 0 11 (dk_at dksX0_stamps_0 10 rfl rfl)
theorem dX0_stamps_13 : decode cX0_stamps 13 = .ok (.aload_n 0, 1) := dk_42 (dk_at dksX0_stamps_0 13 rfl rfl)
theorem dX0_stamps_14 : decode cX0_stamps 14 = .ok (.bipush (-2), 2) := dk_16 254 (dk_at dksX0_stamps_0 14 rfl rfl)
theorem dX0_stamps_16 : decode cX0_stamps 16 = .ok (.putfield 33, 3) := dk_181 0 33 (dk_at dksX0_stamps_0 16 rfl rfl)
theorem dX0_stamps_19 : decode cX0_stamps 19 = .ok (.iconst 0, 1) := dk_3 (dk_at dksX0_stamps_0 19 rfl rfl)
theorem dX0_stamps_20 : decode cX0_stamps 20 = .ok (.ireturn, 1) := dk_172 (dk_at dksX0_stamps_0 20 rfl rfl)
theorem dX0_stamps_21 : decode cX0_stamps 21 = .ok (.bipush (-4), 2) := dk_16 252 (dk_at dksX0_stamps_0 21 rfl rfl)
theorem dX0_stamps_23 : decode cX0_stamps 23 = .ok (.istore_n 2, 1) := dk_61 (dk_at dksX0_stamps_0 23 rfl rfl)
theorem dX0_stamps_24 : decode cX0_stamps 24 = .ok (.aload_n 0, 1) := dk_42 (dk_at dksX0_stamps_1 0 rfl rfl)
theorem dX0_stamps_25 : decode cX0_stamps 25 = .ok (.getfield 11, 3) := dk_180 0 11 (dk_at dksX0_stamps_1 1 rfl rfl)
theorem dX0_stamps_28 : decode cX0_stamps 28 = .ok (.iload_n 1, 1) := dk_27 (dk_at dksX0_stamps_1 4 rfl rfl)
theorem dX0_stamps_29 : decode cX0_stamps 29 = .ok (.aaload, 1) := dk_50 (dk_at dksX0_stamps_1 5 rfl rfl)
theorem dX0_stamps_30 : decode cX0_stamps 30 = .ok (.getfield 73, 3) := dk_180 0 73 (dk_at dksX0_stamps_1 6 rfl rfl)
theorem dX0_stamps_33 : decode cX0_stamps 33 = .ok (.checkcast 56, 3) := dk_192 0 56 (dk_at dksX0_stamps_1 9 rfl rfl)
theorem dX0_stamps_36 : decode cX0_stamps 36 = .ok (.invokeinterface 127 1, 5) := by decide +kernel
theorem dX0_stamps_41 : decode cX0_stamps 41 = .ok (.ireturn, 1) := dk_172 (dk_at dksX0_stamps_1 17 rfl rfl)
theorem dX0_stamps_42 : decode cX0_stamps 42 = .ok (.astore_n 3, 1) := dk_78 (dk_at dksX0_stamps_1 18 rfl rfl)
theorem dX0_stamps_43 : decode cX0_stamps 43 = .ok (.aload_n 0, 1) := dk_42 (dk_at dksX0_stamps_1 19 rfl rfl)
theorem dX0_stamps_44 : decode cX0_stamps 44 = .ok (.bipush (-4), 2) := dk_16 252 (dk_at dksX0_stamps_1 20 rfl rfl)
theorem dX0_stamps_46 : decode cX0_stamps 46 = .ok (.invokevirtual 62, 3) := dk_182 0 62 (dk_at dksX0_stamps_2 0 rfl rfl)
theorem dX0_stamps_49 : decode cX0_stamps 49 = .ok (.istore_n 2, 1) := dk_61 (dk_at dksX0_stamps_2 3 rfl rfl)
theorem dX0_stamps_50 : decode cX0_stamps 50 = .ok (.iconst 0, 1) := dk_3 (dk_at dksX0_stamps_2 4 rfl rfl)
theorem dX0_stamps_51 : decode cX0_stamps 51 = .ok (.ireturn, 1) := dk_172 (dk_at dksX0_stamps_2 5 rfl rfl)
abbrev cX0_desk : ByteArray := prog_1_method_29_code
def yX0_desk : MethodName := ⟨RX0, "desk", "(IIIZ)I"⟩
def dkwX0_desk_4 : List UInt8 := [27, 92, 46, 4, 96, 79, 42, 180, 0, 21, 27, 46, 4, 100, 172]
abbrev dktX0_desk_4 : List UInt8 := dkwX0_desk_4 ++ []
def dkwX0_desk_3 : List UInt8 := [184, 0, 161, 42, 180, 0, 17, 7, 27, 104, 42, 180, 0, 21, 27, 46, 96, 25, 5, 83, 42, 180, 0, 21]
abbrev dktX0_desk_3 : List UInt8 := dkwX0_desk_3 ++ dktX0_desk_4
def dkwX0_desk_2 : List UInt8 := [42, 16, 253, 182, 0, 62, 172, 187, 0, 15, 89, 183, 0, 160, 58, 5, 25, 5, 28, 29, 21, 4]
abbrev dktX0_desk_2 : List UInt8 := dkwX0_desk_2 ++ dktX0_desk_3
def dkwX0_desk_1 : List UInt8 := [7, 184, 0, 29, 154, 0, 10, 42, 16, 254, 182, 0, 62, 172, 42, 180, 0, 21, 27, 46, 7, 160, 0, 10]
abbrev dktX0_desk_1 : List UInt8 := dkwX0_desk_1 ++ dktX0_desk_2
def dkwX0_desk_0 : List UInt8 := [42, 3, 181, 0, 33, 27, 184, 0, 147, 153, 0, 22, 28, 3, 16, 13, 184, 0, 29, 153, 0, 12, 29, 3]
abbrev dktX0_desk_0 : List UInt8 := dkwX0_desk_0 ++ dktX0_desk_1
theorem dksX0_desk_0 : cX0_desk.data.toList.drop 0 = dktX0_desk_0 := by decide +kernel
theorem dksX0_desk_1 : cX0_desk.data.toList.drop 24 = dktX0_desk_1 := dk_seg dksX0_desk_0 24 rfl rfl
theorem dksX0_desk_2 : cX0_desk.data.toList.drop 48 = dktX0_desk_2 := dk_seg dksX0_desk_1 24 rfl rfl
theorem dksX0_desk_3 : cX0_desk.data.toList.drop 70 = dktX0_desk_3 := dk_seg dksX0_desk_2 22 rfl rfl
theorem dksX0_desk_4 : cX0_desk.data.toList.drop 94 = dktX0_desk_4 := dk_seg dksX0_desk_3 24 rfl rfl
theorem dX0_desk_0 : decode cX0_desk 0 = .ok (.aload_n 0, 1) := dk_42 (dk_at dksX0_desk_0 0 rfl rfl)
theorem dX0_desk_1 : decode cX0_desk 1 = .ok (.iconst 0, 1) := dk_3 (dk_at dksX0_desk_0 1 rfl rfl)
theorem dX0_desk_2 : decode cX0_desk 2 = .ok (.putfield 33, 3) := dk_181 0 33 (dk_at dksX0_desk_0 2 rfl rfl)
theorem dX0_desk_5 : decode cX0_desk 5 = .ok (.iload_n 1, 1) := dk_27 (dk_at dksX0_desk_0 5 rfl rfl)
theorem dX0_desk_6 : decode cX0_desk 6 = .ok (.invokestatic 147, 3) := dk_184 0 147 (dk_at dksX0_desk_0 6 rfl rfl)
theorem dX0_desk_9 : decode cX0_desk 9 = .ok (.ifCond .eq 22, 3) := dk_153 0 22 (dk_at dksX0_desk_0 9 rfl rfl)
theorem dX0_desk_12 : decode cX0_desk 12 = .ok (.iload_n 2, 1) := dk_28 (dk_at dksX0_desk_0 12 rfl rfl)
theorem dX0_desk_13 : decode cX0_desk 13 = .ok (.iconst 0, 1) := dk_3 (dk_at dksX0_desk_0 13 rfl rfl)
theorem dX0_desk_14 : decode cX0_desk 14 = .ok (.bipush 13, 2) := dk_16 13 (dk_at dksX0_desk_0 14 rfl rfl)
theorem dX0_desk_16 : decode cX0_desk 16 = .ok (.invokestatic 29, 3) := dk_184 0 29 (dk_at dksX0_desk_0 16 rfl rfl)
theorem dX0_desk_19 : decode cX0_desk 19 = .ok (.ifCond .eq 12, 3) := dk_153 0 12 (dk_at dksX0_desk_0 19 rfl rfl)
theorem dX0_desk_22 : decode cX0_desk 22 = .ok (.iload_n 3, 1) := dk_29 (dk_at dksX0_desk_0 22 rfl rfl)
theorem dX0_desk_23 : decode cX0_desk 23 = .ok (.iconst 0, 1) := dk_3 (dk_at dksX0_desk_0 23 rfl rfl)
theorem dX0_desk_24 : decode cX0_desk 24 = .ok (.iconst 4, 1) := dk_7 (dk_at dksX0_desk_1 0 rfl rfl)
theorem dX0_desk_25 : decode cX0_desk 25 = .ok (.invokestatic 29, 3) := dk_184 0 29 (dk_at dksX0_desk_1 1 rfl rfl)
theorem dX0_desk_28 : decode cX0_desk 28 = .ok (.ifCond .ne 10, 3) := dk_154 0 10 (dk_at dksX0_desk_1 4 rfl rfl)
theorem dX0_desk_31 : decode cX0_desk 31 = .ok (.aload_n 0, 1) := dk_42 (dk_at dksX0_desk_1 7 rfl rfl)
theorem dX0_desk_32 : decode cX0_desk 32 = .ok (.bipush (-2), 2) := dk_16 254 (dk_at dksX0_desk_1 8 rfl rfl)
theorem dX0_desk_34 : decode cX0_desk 34 = .ok (.invokevirtual 62, 3) := dk_182 0 62 (dk_at dksX0_desk_1 10 rfl rfl)
theorem dX0_desk_37 : decode cX0_desk 37 = .ok (.ireturn, 1) := dk_172 (dk_at dksX0_desk_1 13 rfl rfl)
theorem dX0_desk_38 : decode cX0_desk 38 = .ok (.aload_n 0, 1) := dk_42 (dk_at dksX0_desk_1 14 rfl rfl)
theorem dX0_desk_39 : decode cX0_desk 39 = .ok (.getfield 21, 3) := dk_180 0 21 (dk_at dksX0_desk_1 15 rfl rfl)
theorem dX0_desk_42 : decode cX0_desk 42 = .ok (.iload_n 1, 1) := dk_27 (dk_at dksX0_desk_1 18 rfl rfl)
theorem dX0_desk_43 : decode cX0_desk 43 = .ok (.iaload, 1) := dk_46 (dk_at dksX0_desk_1 19 rfl rfl)
theorem dX0_desk_44 : decode cX0_desk 44 = .ok (.iconst 4, 1) := dk_7 (dk_at dksX0_desk_1 20 rfl rfl)
theorem dX0_desk_45 : decode cX0_desk 45 = .ok (.if_icmp .ne 10, 3) := dk_160 0 10 (dk_at dksX0_desk_1 21 rfl rfl)
theorem dX0_desk_48 : decode cX0_desk 48 = .ok (.aload_n 0, 1) := dk_42 (dk_at dksX0_desk_2 0 rfl rfl)
theorem dX0_desk_49 : decode cX0_desk 49 = .ok (.bipush (-3), 2) := dk_16 253 (dk_at dksX0_desk_2 1 rfl rfl)
theorem dX0_desk_51 : decode cX0_desk 51 = .ok (.invokevirtual 62, 3) := dk_182 0 62 (dk_at dksX0_desk_2 3 rfl rfl)
theorem dX0_desk_54 : decode cX0_desk 54 = .ok (.ireturn, 1) := dk_172 (dk_at dksX0_desk_2 6 rfl rfl)
theorem dX0_desk_55 : decode cX0_desk 55 = .ok (.new 15, 3) := dk_187 0 15 (dk_at dksX0_desk_2 7 rfl rfl)
theorem dX0_desk_58 : decode cX0_desk 58 = .ok (.dup, 1) := dk_89 (dk_at dksX0_desk_2 10 rfl rfl)
theorem dX0_desk_59 : decode cX0_desk 59 = .ok (.invokespecial 160, 3) := dk_183 0 160 (dk_at dksX0_desk_2 11 rfl rfl)
theorem dX0_desk_62 : decode cX0_desk 62 = .ok (.astore 5, 2) := dk_58 5 (dk_at dksX0_desk_2 14 rfl rfl)
theorem dX0_desk_64 : decode cX0_desk 64 = .ok (.aload 5, 2) := dk_25 5 (dk_at dksX0_desk_2 16 rfl rfl)
theorem dX0_desk_66 : decode cX0_desk 66 = .ok (.iload_n 2, 1) := dk_28 (dk_at dksX0_desk_2 18 rfl rfl)
theorem dX0_desk_67 : decode cX0_desk 67 = .ok (.iload_n 3, 1) := dk_29 (dk_at dksX0_desk_2 19 rfl rfl)
theorem dX0_desk_68 : decode cX0_desk 68 = .ok (.iload 4, 2) := dk_21 4 (dk_at dksX0_desk_2 20 rfl rfl)
theorem dX0_desk_70 : decode cX0_desk 70 = .ok (.invokestatic 161, 3) := dk_184 0 161 (dk_at dksX0_desk_3 0 rfl rfl)
theorem dX0_desk_73 : decode cX0_desk 73 = .ok (.aload_n 0, 1) := dk_42 (dk_at dksX0_desk_3 3 rfl rfl)
theorem dX0_desk_74 : decode cX0_desk 74 = .ok (.getfield 17, 3) := dk_180 0 17 (dk_at dksX0_desk_3 4 rfl rfl)
theorem dX0_desk_77 : decode cX0_desk 77 = .ok (.iconst 4, 1) := dk_7 (dk_at dksX0_desk_3 7 rfl rfl)
theorem dX0_desk_78 : decode cX0_desk 78 = .ok (.iload_n 1, 1) := dk_27 (dk_at dksX0_desk_3 8 rfl rfl)
theorem dX0_desk_79 : decode cX0_desk 79 = .ok (.imul, 1) := dk_104 (dk_at dksX0_desk_3 9 rfl rfl)
theorem dX0_desk_80 : decode cX0_desk 80 = .ok (.aload_n 0, 1) := dk_42 (dk_at dksX0_desk_3 10 rfl rfl)
theorem dX0_desk_81 : decode cX0_desk 81 = .ok (.getfield 21, 3) := dk_180 0 21 (dk_at dksX0_desk_3 11 rfl rfl)
theorem dX0_desk_84 : decode cX0_desk 84 = .ok (.iload_n 1, 1) := dk_27 (dk_at dksX0_desk_3 14 rfl rfl)
theorem dX0_desk_85 : decode cX0_desk 85 = .ok (.iaload, 1) := dk_46 (dk_at dksX0_desk_3 15 rfl rfl)
theorem dX0_desk_86 : decode cX0_desk 86 = .ok (.iadd, 1) := dk_96 (dk_at dksX0_desk_3 16 rfl rfl)
theorem dX0_desk_87 : decode cX0_desk 87 = .ok (.aload 5, 2) := dk_25 5 (dk_at dksX0_desk_3 17 rfl rfl)
theorem dX0_desk_89 : decode cX0_desk 89 = .ok (.aastore, 1) := dk_83 (dk_at dksX0_desk_3 19 rfl rfl)
theorem dX0_desk_90 : decode cX0_desk 90 = .ok (.aload_n 0, 1) := dk_42 (dk_at dksX0_desk_3 20 rfl rfl)
theorem dX0_desk_91 : decode cX0_desk 91 = .ok (.getfield 21, 3) := dk_180 0 21 (dk_at dksX0_desk_3 21 rfl rfl)
theorem dX0_desk_94 : decode cX0_desk 94 = .ok (.iload_n 1, 1) := dk_27 (dk_at dksX0_desk_4 0 rfl rfl)
theorem dX0_desk_95 : decode cX0_desk 95 = .ok (.dup2, 1) := dk_92 (dk_at dksX0_desk_4 1 rfl rfl)
theorem dX0_desk_96 : decode cX0_desk 96 = .ok (.iaload, 1) := dk_46 (dk_at dksX0_desk_4 2 rfl rfl)
theorem dX0_desk_97 : decode cX0_desk 97 = .ok (.iconst 1, 1) := dk_4 (dk_at dksX0_desk_4 3 rfl rfl)
theorem dX0_desk_98 : decode cX0_desk 98 = .ok (.iadd, 1) := dk_96 (dk_at dksX0_desk_4 4 rfl rfl)
theorem dX0_desk_99 : decode cX0_desk 99 = .ok (.iastore, 1) := dk_79 (dk_at dksX0_desk_4 5 rfl rfl)
theorem dX0_desk_100 : decode cX0_desk 100 = .ok (.aload_n 0, 1) := dk_42 (dk_at dksX0_desk_4 6 rfl rfl)
theorem dX0_desk_101 : decode cX0_desk 101 = .ok (.getfield 21, 3) := dk_180 0 21 (dk_at dksX0_desk_4 7 rfl rfl)
theorem dX0_desk_104 : decode cX0_desk 104 = .ok (.iload_n 1, 1) := dk_27 (dk_at dksX0_desk_4 10 rfl rfl)
theorem dX0_desk_105 : decode cX0_desk 105 = .ok (.iaload, 1) := dk_46 (dk_at dksX0_desk_4 11 rfl rfl)
theorem dX0_desk_106 : decode cX0_desk 106 = .ok (.iconst 1, 1) := dk_4 (dk_at dksX0_desk_4 12 rfl rfl)
theorem dX0_desk_107 : decode cX0_desk 107 = .ok (.isub, 1) := dk_100 (dk_at dksX0_desk_4 13 rfl rfl)
theorem dX0_desk_108 : decode cX0_desk 108 = .ok (.ireturn, 1) := dk_172 (dk_at dksX0_desk_4 14 rfl rfl)
abbrev cX0_isRoom : ByteArray := prog_1_method_26_code
def yX0_isRoom : MethodName := ⟨RX0, "isRoom", "(I)Z"⟩
def dkwX0_isRoom_0 : List UInt8 := [26, 3, 16, 7, 184, 0, 29, 172]
abbrev dktX0_isRoom_0 : List UInt8 := dkwX0_isRoom_0 ++ []
theorem dksX0_isRoom_0 : cX0_isRoom.data.toList.drop 0 = dktX0_isRoom_0 := by decide +kernel
theorem dX0_isRoom_0 : decode cX0_isRoom 0 = .ok (.iload_n 0, 1) := dk_26 (dk_at dksX0_isRoom_0 0 rfl rfl)
theorem dX0_isRoom_1 : decode cX0_isRoom 1 = .ok (.iconst 0, 1) := dk_3 (dk_at dksX0_isRoom_0 1 rfl rfl)
theorem dX0_isRoom_2 : decode cX0_isRoom 2 = .ok (.bipush 7, 2) := dk_16 7 (dk_at dksX0_isRoom_0 2 rfl rfl)
theorem dX0_isRoom_4 : decode cX0_isRoom 4 = .ok (.invokestatic 29, 3) := dk_184 0 29 (dk_at dksX0_isRoom_0 4 rfl rfl)
theorem dX0_isRoom_7 : decode cX0_isRoom 7 = .ok (.ireturn, 1) := dk_172 (dk_at dksX0_isRoom_0 7 rfl rfl)
abbrev cX0_tell : ByteArray := prog_1_method_28_code
def yX0_tell : MethodName := ⟨RX0, "tell", "(LMailRooms$Desk;IIZ)V"⟩
def dkwX0_tell_0 : List UInt8 := [42, 27, 181, 0, 150, 42, 28, 181, 0, 153, 42, 29, 181, 0, 156, 177]
abbrev dktX0_tell_0 : List UInt8 := dkwX0_tell_0 ++ []
theorem dksX0_tell_0 : cX0_tell.data.toList.drop 0 = dktX0_tell_0 := by decide +kernel
theorem dX0_tell_0 : decode cX0_tell 0 = .ok (.aload_n 0, 1) := dk_42 (dk_at dksX0_tell_0 0 rfl rfl)
theorem dX0_tell_1 : decode cX0_tell 1 = .ok (.iload_n 1, 1) := dk_27 (dk_at dksX0_tell_0 1 rfl rfl)
theorem dX0_tell_2 : decode cX0_tell 2 = .ok (.putfield 150, 3) := dk_181 0 150 (dk_at dksX0_tell_0 2 rfl rfl)
theorem dX0_tell_5 : decode cX0_tell 5 = .ok (.aload_n 0, 1) := dk_42 (dk_at dksX0_tell_0 5 rfl rfl)
theorem dX0_tell_6 : decode cX0_tell 6 = .ok (.iload_n 2, 1) := dk_28 (dk_at dksX0_tell_0 6 rfl rfl)
theorem dX0_tell_7 : decode cX0_tell 7 = .ok (.putfield 153, 3) := dk_181 0 153 (dk_at dksX0_tell_0 7 rfl rfl)
theorem dX0_tell_10 : decode cX0_tell 10 = .ok (.aload_n 0, 1) := dk_42 (dk_at dksX0_tell_0 10 rfl rfl)
theorem dX0_tell_11 : decode cX0_tell 11 = .ok (.iload_n 3, 1) := dk_29 (dk_at dksX0_tell_0 11 rfl rfl)
theorem dX0_tell_12 : decode cX0_tell 12 = .ok (.putfield 156, 3) := dk_181 0 156 (dk_at dksX0_tell_0 12 rfl rfl)
theorem dX0_tell_15 : decode cX0_tell 15 = .ok (.return_, 1) := dk_177 (dk_at dksX0_tell_0 15 rfl rfl)
abbrev cX0_change : ByteArray := prog_1_method_30_code
def yX0_change : MethodName := ⟨RX0, "change", "(IIIIZ)I"⟩
def dkwX0_change_2 : List UInt8 := [28, 96, 50, 29, 21, 4, 21, 5, 184, 0, 161, 4, 172]
abbrev dktX0_change_2 : List UInt8 := dkwX0_change_2 ++ []
def dkwX0_change_1 : List UInt8 := [21, 4, 3, 7, 184, 0, 29, 154, 0, 10, 42, 16, 254, 182, 0, 62, 172, 42, 180, 0, 17, 7, 27, 104]
abbrev dktX0_change_1 : List UInt8 := dkwX0_change_1 ++ dktX0_change_2
def dkwX0_change_0 : List UInt8 := [42, 3, 181, 0, 33, 42, 27, 28, 182, 0, 165, 153, 0, 23, 29, 3, 16, 13, 184, 0, 29, 153, 0, 13]
abbrev dktX0_change_0 : List UInt8 := dkwX0_change_0 ++ dktX0_change_1
theorem dksX0_change_0 : cX0_change.data.toList.drop 0 = dktX0_change_0 := by decide +kernel
theorem dksX0_change_1 : cX0_change.data.toList.drop 24 = dktX0_change_1 := dk_seg dksX0_change_0 24 rfl rfl
theorem dksX0_change_2 : cX0_change.data.toList.drop 48 = dktX0_change_2 := dk_seg dksX0_change_1 24 rfl rfl
theorem dX0_change_0 : decode cX0_change 0 = .ok (.aload_n 0, 1) := dk_42 (dk_at dksX0_change_0 0 rfl rfl)
theorem dX0_change_1 : decode cX0_change 1 = .ok (.iconst 0, 1) := dk_3 (dk_at dksX0_change_0 1 rfl rfl)
theorem dX0_change_2 : decode cX0_change 2 = .ok (.putfield 33, 3) := dk_181 0 33 (dk_at dksX0_change_0 2 rfl rfl)
theorem dX0_change_5 : decode cX0_change 5 = .ok (.aload_n 0, 1) := dk_42 (dk_at dksX0_change_0 5 rfl rfl)
theorem dX0_change_6 : decode cX0_change 6 = .ok (.iload_n 1, 1) := dk_27 (dk_at dksX0_change_0 6 rfl rfl)
theorem dX0_change_7 : decode cX0_change 7 = .ok (.iload_n 2, 1) := dk_28 (dk_at dksX0_change_0 7 rfl rfl)
theorem dX0_change_8 : decode cX0_change 8 = .ok (.invokevirtual 165, 3) := dk_182 0 165 (dk_at dksX0_change_0 8 rfl rfl)
theorem dX0_change_11 : decode cX0_change 11 = .ok (.ifCond .eq 23, 3) := dk_153 0 23 (dk_at dksX0_change_0 11 rfl rfl)
theorem dX0_change_14 : decode cX0_change 14 = .ok (.iload_n 3, 1) := dk_29 (dk_at dksX0_change_0 14 rfl rfl)
theorem dX0_change_15 : decode cX0_change 15 = .ok (.iconst 0, 1) := dk_3 (dk_at dksX0_change_0 15 rfl rfl)
theorem dX0_change_16 : decode cX0_change 16 = .ok (.bipush 13, 2) := dk_16 13 (dk_at dksX0_change_0 16 rfl rfl)
theorem dX0_change_18 : decode cX0_change 18 = .ok (.invokestatic 29, 3) := dk_184 0 29 (dk_at dksX0_change_0 18 rfl rfl)
theorem dX0_change_21 : decode cX0_change 21 = .ok (.ifCond .eq 13, 3) := dk_153 0 13 (dk_at dksX0_change_0 21 rfl rfl)
theorem dX0_change_24 : decode cX0_change 24 = .ok (.iload 4, 2) := dk_21 4 (dk_at dksX0_change_1 0 rfl rfl)
theorem dX0_change_26 : decode cX0_change 26 = .ok (.iconst 0, 1) := dk_3 (dk_at dksX0_change_1 2 rfl rfl)
theorem dX0_change_27 : decode cX0_change 27 = .ok (.iconst 4, 1) := dk_7 (dk_at dksX0_change_1 3 rfl rfl)
theorem dX0_change_28 : decode cX0_change 28 = .ok (.invokestatic 29, 3) := dk_184 0 29 (dk_at dksX0_change_1 4 rfl rfl)
theorem dX0_change_31 : decode cX0_change 31 = .ok (.ifCond .ne 10, 3) := dk_154 0 10 (dk_at dksX0_change_1 7 rfl rfl)
theorem dX0_change_34 : decode cX0_change 34 = .ok (.aload_n 0, 1) := dk_42 (dk_at dksX0_change_1 10 rfl rfl)
theorem dX0_change_35 : decode cX0_change 35 = .ok (.bipush (-2), 2) := dk_16 254 (dk_at dksX0_change_1 11 rfl rfl)
theorem dX0_change_37 : decode cX0_change 37 = .ok (.invokevirtual 62, 3) := dk_182 0 62 (dk_at dksX0_change_1 13 rfl rfl)
theorem dX0_change_40 : decode cX0_change 40 = .ok (.ireturn, 1) := dk_172 (dk_at dksX0_change_1 16 rfl rfl)
theorem dX0_change_41 : decode cX0_change 41 = .ok (.aload_n 0, 1) := dk_42 (dk_at dksX0_change_1 17 rfl rfl)
theorem dX0_change_42 : decode cX0_change 42 = .ok (.getfield 17, 3) := dk_180 0 17 (dk_at dksX0_change_1 18 rfl rfl)
theorem dX0_change_45 : decode cX0_change 45 = .ok (.iconst 4, 1) := dk_7 (dk_at dksX0_change_1 21 rfl rfl)
theorem dX0_change_46 : decode cX0_change 46 = .ok (.iload_n 1, 1) := dk_27 (dk_at dksX0_change_1 22 rfl rfl)
theorem dX0_change_47 : decode cX0_change 47 = .ok (.imul, 1) := dk_104 (dk_at dksX0_change_1 23 rfl rfl)
theorem dX0_change_48 : decode cX0_change 48 = .ok (.iload_n 2, 1) := dk_28 (dk_at dksX0_change_2 0 rfl rfl)
theorem dX0_change_49 : decode cX0_change 49 = .ok (.iadd, 1) := dk_96 (dk_at dksX0_change_2 1 rfl rfl)
theorem dX0_change_50 : decode cX0_change 50 = .ok (.aaload, 1) := dk_50 (dk_at dksX0_change_2 2 rfl rfl)
theorem dX0_change_51 : decode cX0_change 51 = .ok (.iload_n 3, 1) := dk_29 (dk_at dksX0_change_2 3 rfl rfl)
theorem dX0_change_52 : decode cX0_change 52 = .ok (.iload 4, 2) := dk_21 4 (dk_at dksX0_change_2 4 rfl rfl)
theorem dX0_change_54 : decode cX0_change 54 = .ok (.iload 5, 2) := dk_21 5 (dk_at dksX0_change_2 6 rfl rfl)
theorem dX0_change_56 : decode cX0_change 56 = .ok (.invokestatic 161, 3) := dk_184 0 161 (dk_at dksX0_change_2 8 rfl rfl)
theorem dX0_change_59 : decode cX0_change 59 = .ok (.iconst 1, 1) := dk_4 (dk_at dksX0_change_2 11 rfl rfl)
theorem dX0_change_60 : decode cX0_change 60 = .ok (.ireturn, 1) := dk_172 (dk_at dksX0_change_2 12 rfl rfl)
abbrev cX0_isDesk : ByteArray := prog_1_method_27_code
def yX0_isDesk : MethodName := ⟨RX0, "isDesk", "(II)Z"⟩
def dkwX0_isDesk_1 : List UInt8 := [167, 0, 4, 3, 172]
abbrev dktX0_isDesk_1 : List UInt8 := dkwX0_isDesk_1 ++ []
def dkwX0_isDesk_0 : List UInt8 := [27, 184, 0, 147, 153, 0, 23, 28, 3, 42, 180, 0, 21, 27, 46, 4, 100, 184, 0, 29, 153, 0, 7, 4]
abbrev dktX0_isDesk_0 : List UInt8 := dkwX0_isDesk_0 ++ dktX0_isDesk_1
theorem dksX0_isDesk_0 : cX0_isDesk.data.toList.drop 0 = dktX0_isDesk_0 := by decide +kernel
theorem dksX0_isDesk_1 : cX0_isDesk.data.toList.drop 24 = dktX0_isDesk_1 := dk_seg dksX0_isDesk_0 24 rfl rfl
theorem dX0_isDesk_0 : decode cX0_isDesk 0 = .ok (.iload_n 1, 1) := dk_27 (dk_at dksX0_isDesk_0 0 rfl rfl)
theorem dX0_isDesk_1 : decode cX0_isDesk 1 = .ok (.invokestatic 147, 3) := dk_184 0 147 (dk_at dksX0_isDesk_0 1 rfl rfl)
theorem dX0_isDesk_4 : decode cX0_isDesk 4 = .ok (.ifCond .eq 23, 3) := dk_153 0 23 (dk_at dksX0_isDesk_0 4 rfl rfl)
theorem dX0_isDesk_7 : decode cX0_isDesk 7 = .ok (.iload_n 2, 1) := dk_28 (dk_at dksX0_isDesk_0 7 rfl rfl)
theorem dX0_isDesk_8 : decode cX0_isDesk 8 = .ok (.iconst 0, 1) := dk_3 (dk_at dksX0_isDesk_0 8 rfl rfl)
theorem dX0_isDesk_9 : decode cX0_isDesk 9 = .ok (.aload_n 0, 1) := dk_42 (dk_at dksX0_isDesk_0 9 rfl rfl)
theorem dX0_isDesk_10 : decode cX0_isDesk 10 = .ok (.getfield 21, 3) := dk_180 0 21 (dk_at dksX0_isDesk_0 10 rfl rfl)
theorem dX0_isDesk_13 : decode cX0_isDesk 13 = .ok (.iload_n 1, 1) := dk_27 (dk_at dksX0_isDesk_0 13 rfl rfl)
theorem dX0_isDesk_14 : decode cX0_isDesk 14 = .ok (.iaload, 1) := dk_46 (dk_at dksX0_isDesk_0 14 rfl rfl)
theorem dX0_isDesk_15 : decode cX0_isDesk 15 = .ok (.iconst 1, 1) := dk_4 (dk_at dksX0_isDesk_0 15 rfl rfl)
theorem dX0_isDesk_16 : decode cX0_isDesk 16 = .ok (.isub, 1) := dk_100 (dk_at dksX0_isDesk_0 16 rfl rfl)
theorem dX0_isDesk_17 : decode cX0_isDesk 17 = .ok (.invokestatic 29, 3) := dk_184 0 29 (dk_at dksX0_isDesk_0 17 rfl rfl)
theorem dX0_isDesk_20 : decode cX0_isDesk 20 = .ok (.ifCond .eq 7, 3) := dk_153 0 7 (dk_at dksX0_isDesk_0 20 rfl rfl)
theorem dX0_isDesk_23 : decode cX0_isDesk 23 = .ok (.iconst 1, 1) := dk_4 (dk_at dksX0_isDesk_0 23 rfl rfl)
theorem dX0_isDesk_24 : decode cX0_isDesk 24 = .ok (.goto 4, 3) := dk_167 0 4 (dk_at dksX0_isDesk_1 0 rfl rfl)
theorem dX0_isDesk_27 : decode cX0_isDesk 27 = .ok (.iconst 0, 1) := dk_3 (dk_at dksX0_isDesk_1 3 rfl rfl)
theorem dX0_isDesk_28 : decode cX0_isDesk 28 = .ok (.ireturn, 1) := dk_172 (dk_at dksX0_isDesk_1 4 rfl rfl)
abbrev cX0_hand : ByteArray := prog_1_method_35_code
def yX0_hand : MethodName := ⟨RX0, "hand", "(II)I"⟩
def dkwX0_hand_3 : List UInt8 := [180, 0, 11, 27, 50, 180, 0, 73, 28, 182, 0, 188, 181, 0, 217, 42, 180, 0, 195, 172]
abbrev dktX0_hand_3 : List UInt8 := dkwX0_hand_3 ++ []
def dkwX0_hand_2 : List UInt8 := [180, 0, 17, 29, 50, 3, 181, 0, 169, 132, 3, 1, 167, 255, 228, 42, 3, 181, 0, 195, 42, 42, 42]
abbrev dktX0_hand_2 : List UInt8 := dkwX0_hand_2 ++ dktX0_hand_3
def dkwX0_hand_1 : List UInt8 := [182, 0, 62, 172, 3, 62, 29, 16, 32, 162, 0, 28, 42, 180, 0, 17, 29, 50, 198, 0, 13, 42]
abbrev dktX0_hand_1 : List UInt8 := dkwX0_hand_1 ++ dktX0_hand_2
def dkwX0_hand_0 : List UInt8 := [42, 3, 181, 0, 33, 42, 27, 182, 0, 85, 153, 0, 10, 28, 184, 0, 147, 154, 0, 10, 42, 16, 254]
abbrev dktX0_hand_0 : List UInt8 := dkwX0_hand_0 ++ dktX0_hand_1
theorem dksX0_hand_0 : cX0_hand.data.toList.drop 0 = dktX0_hand_0 := by decide +kernel
theorem dksX0_hand_1 : cX0_hand.data.toList.drop 23 = dktX0_hand_1 := dk_seg dksX0_hand_0 23 rfl rfl
theorem dksX0_hand_2 : cX0_hand.data.toList.drop 45 = dktX0_hand_2 := dk_seg dksX0_hand_1 22 rfl rfl
theorem dksX0_hand_3 : cX0_hand.data.toList.drop 68 = dktX0_hand_3 := dk_seg dksX0_hand_2 23 rfl rfl
theorem dX0_hand_0 : decode cX0_hand 0 = .ok (.aload_n 0, 1) := dk_42 (dk_at dksX0_hand_0 0 rfl rfl)
theorem dX0_hand_1 : decode cX0_hand 1 = .ok (.iconst 0, 1) := dk_3 (dk_at dksX0_hand_0 1 rfl rfl)
theorem dX0_hand_2 : decode cX0_hand 2 = .ok (.putfield 33, 3) := dk_181 0 33 (dk_at dksX0_hand_0 2 rfl rfl)
theorem dX0_hand_5 : decode cX0_hand 5 = .ok (.aload_n 0, 1) := dk_42 (dk_at dksX0_hand_0 5 rfl rfl)
theorem dX0_hand_6 : decode cX0_hand 6 = .ok (.iload_n 1, 1) := dk_27 (dk_at dksX0_hand_0 6 rfl rfl)
theorem dX0_hand_7 : decode cX0_hand 7 = .ok (.invokevirtual 85, 3) := dk_182 0 85 (dk_at dksX0_hand_0 7 rfl rfl)
theorem dX0_hand_10 : decode cX0_hand 10 = .ok (.ifCond .eq 10, 3) := dk_153 0 10 (dk_at dksX0_hand_0 10 rfl rfl)
theorem dX0_hand_13 : decode cX0_hand 13 = .ok (.iload_n 2, 1) := dk_28 (dk_at dksX0_hand_0 13 rfl rfl)
theorem dX0_hand_14 : decode cX0_hand 14 = .ok (.invokestatic 147, 3) := dk_184 0 147 (dk_at dksX0_hand_0 14 rfl rfl)
theorem dX0_hand_17 : decode cX0_hand 17 = .ok (.ifCond .ne 10, 3) := dk_154 0 10 (dk_at dksX0_hand_0 17 rfl rfl)
theorem dX0_hand_20 : decode cX0_hand 20 = .ok (.aload_n 0, 1) := dk_42 (dk_at dksX0_hand_0 20 rfl rfl)
theorem dX0_hand_21 : decode cX0_hand 21 = .ok (.bipush (-2), 2) := dk_16 254 (dk_at dksX0_hand_0 21 rfl rfl)
theorem dX0_hand_23 : decode cX0_hand 23 = .ok (.invokevirtual 62, 3) := dk_182 0 62 (dk_at dksX0_hand_1 0 rfl rfl)
theorem dX0_hand_26 : decode cX0_hand 26 = .ok (.ireturn, 1) := dk_172 (dk_at dksX0_hand_1 3 rfl rfl)
theorem dX0_hand_27 : decode cX0_hand 27 = .ok (.iconst 0, 1) := dk_3 (dk_at dksX0_hand_1 4 rfl rfl)
theorem dX0_hand_28 : decode cX0_hand 28 = .ok (.istore_n 3, 1) := dk_62 (dk_at dksX0_hand_1 5 rfl rfl)
theorem dX0_hand_29 : decode cX0_hand 29 = .ok (.iload_n 3, 1) := dk_29 (dk_at dksX0_hand_1 6 rfl rfl)
theorem dX0_hand_30 : decode cX0_hand 30 = .ok (.bipush 32, 2) := dk_16 32 (dk_at dksX0_hand_1 7 rfl rfl)
theorem dX0_hand_32 : decode cX0_hand 32 = .ok (.if_icmp .ge 28, 3) := dk_162 0 28 (dk_at dksX0_hand_1 9 rfl rfl)
theorem dX0_hand_35 : decode cX0_hand 35 = .ok (.aload_n 0, 1) := dk_42 (dk_at dksX0_hand_1 12 rfl rfl)
theorem dX0_hand_36 : decode cX0_hand 36 = .ok (.getfield 17, 3) := dk_180 0 17 (dk_at dksX0_hand_1 13 rfl rfl)
theorem dX0_hand_39 : decode cX0_hand 39 = .ok (.iload_n 3, 1) := dk_29 (dk_at dksX0_hand_1 16 rfl rfl)
theorem dX0_hand_40 : decode cX0_hand 40 = .ok (.aaload, 1) := dk_50 (dk_at dksX0_hand_1 17 rfl rfl)
theorem dX0_hand_41 : decode cX0_hand 41 = .ok (.ifnull 13, 3) := dk_198 0 13 (dk_at dksX0_hand_1 18 rfl rfl)
theorem dX0_hand_44 : decode cX0_hand 44 = .ok (.aload_n 0, 1) := dk_42 (dk_at dksX0_hand_1 21 rfl rfl)
theorem dX0_hand_45 : decode cX0_hand 45 = .ok (.getfield 17, 3) := dk_180 0 17 (dk_at dksX0_hand_2 0 rfl rfl)
theorem dX0_hand_48 : decode cX0_hand 48 = .ok (.iload_n 3, 1) := dk_29 (dk_at dksX0_hand_2 3 rfl rfl)
theorem dX0_hand_49 : decode cX0_hand 49 = .ok (.aaload, 1) := dk_50 (dk_at dksX0_hand_2 4 rfl rfl)
theorem dX0_hand_50 : decode cX0_hand 50 = .ok (.iconst 0, 1) := dk_3 (dk_at dksX0_hand_2 5 rfl rfl)
theorem dX0_hand_51 : decode cX0_hand 51 = .ok (.putfield 169, 3) := dk_181 0 169 (dk_at dksX0_hand_2 6 rfl rfl)
theorem dX0_hand_54 : decode cX0_hand 54 = .ok (.iinc 3 1, 3) := dk_132 3 1 (dk_at dksX0_hand_2 9 rfl rfl)
theorem dX0_hand_57 : decode cX0_hand 57 = .ok (.goto (-28), 3) := dk_167 255 228 (dk_at dksX0_hand_2 12 rfl rfl)
theorem dX0_hand_60 : decode cX0_hand 60 = .ok (.aload_n 0, 1) := dk_42 (dk_at dksX0_hand_2 15 rfl rfl)
theorem dX0_hand_61 : decode cX0_hand 61 = .ok (.iconst 0, 1) := dk_3 (dk_at dksX0_hand_2 16 rfl rfl)
theorem dX0_hand_62 : decode cX0_hand 62 = .ok (.putfield 195, 3) := dk_181 0 195 (dk_at dksX0_hand_2 17 rfl rfl)
theorem dX0_hand_65 : decode cX0_hand 65 = .ok (.aload_n 0, 1) := dk_42 (dk_at dksX0_hand_2 20 rfl rfl)
theorem dX0_hand_66 : decode cX0_hand 66 = .ok (.aload_n 0, 1) := dk_42 (dk_at dksX0_hand_2 21 rfl rfl)
theorem dX0_hand_67 : decode cX0_hand 67 = .ok (.aload_n 0, 1) := dk_42 (dk_at dksX0_hand_2 22 rfl rfl)
theorem dX0_hand_68 : decode cX0_hand 68 = .ok (.getfield 11, 3) := dk_180 0 11 (dk_at dksX0_hand_3 0 rfl rfl)
theorem dX0_hand_71 : decode cX0_hand 71 = .ok (.iload_n 1, 1) := dk_27 (dk_at dksX0_hand_3 3 rfl rfl)
theorem dX0_hand_72 : decode cX0_hand 72 = .ok (.aaload, 1) := dk_50 (dk_at dksX0_hand_3 4 rfl rfl)
theorem dX0_hand_73 : decode cX0_hand 73 = .ok (.getfield 73, 3) := dk_180 0 73 (dk_at dksX0_hand_3 5 rfl rfl)
theorem dX0_hand_76 : decode cX0_hand 76 = .ok (.iload_n 2, 1) := dk_28 (dk_at dksX0_hand_3 8 rfl rfl)
theorem dX0_hand_77 : decode cX0_hand 77 = .ok (.invokevirtual 188, 3) := dk_182 0 188 (dk_at dksX0_hand_3 9 rfl rfl)
theorem dX0_hand_80 : decode cX0_hand 80 = .ok (.putfield 217, 3) := dk_181 0 217 (dk_at dksX0_hand_3 12 rfl rfl)
theorem dX0_hand_83 : decode cX0_hand 83 = .ok (.aload_n 0, 1) := dk_42 (dk_at dksX0_hand_3 15 rfl rfl)
theorem dX0_hand_84 : decode cX0_hand 84 = .ok (.getfield 195, 3) := dk_180 0 195 (dk_at dksX0_hand_3 16 rfl rfl)
theorem dX0_hand_87 : decode cX0_hand 87 = .ok (.ireturn, 1) := dk_172 (dk_at dksX0_hand_3 19 rfl rfl)
abbrev cX0_through : ByteArray := prog_1_method_33_code
def yX0_through : MethodName := ⟨RX0, "through", "(Ljava/lang/Object;I)Ljava/lang/Object;"⟩
def dkwX0_through_4 : List UInt8 := [132, 4, 1, 167, 255, 163, 45, 176]
abbrev dktX0_through_4 : List UInt8 := dkwX0_through_4 ++ []
def dkwX0_through_3 : List UInt8 := [42, 25, 5, 45, 28, 182, 0, 201, 78, 167, 0, 15, 25, 5, 180, 0, 175, 21, 6, 164, 0, 5, 1, 78]
abbrev dktX0_through_3 : List UInt8 := dkwX0_through_3 ++ dktX0_through_4
def dkwX0_through_2 : List UInt8 := [153, 0, 36, 42, 89, 180, 0, 195, 4, 96, 181, 0, 195, 25, 5, 89, 180, 0, 198, 4, 96, 181, 0, 198]
abbrev dktX0_through_2 : List UInt8 := dkwX0_through_2 ++ dktX0_through_3
def dkwX0_through_1 : List UInt8 := [7, 28, 104, 21, 4, 96, 50, 58, 5, 25, 5, 180, 0, 175, 54, 6, 42, 25, 5, 45, 182, 0, 191]
abbrev dktX0_through_1 : List UInt8 := dkwX0_through_1 ++ dktX0_through_2
def dkwX0_through_0 : List UInt8 := [43, 78, 3, 54, 4, 21, 4, 42, 180, 0, 21, 28, 46, 162, 0, 88, 45, 198, 0, 84, 42, 180, 0, 17]
abbrev dktX0_through_0 : List UInt8 := dkwX0_through_0 ++ dktX0_through_1
theorem dksX0_through_0 : cX0_through.data.toList.drop 0 = dktX0_through_0 := by decide +kernel
theorem dksX0_through_1 : cX0_through.data.toList.drop 24 = dktX0_through_1 := dk_seg dksX0_through_0 24 rfl rfl
theorem dksX0_through_2 : cX0_through.data.toList.drop 47 = dktX0_through_2 := dk_seg dksX0_through_1 23 rfl rfl
theorem dksX0_through_3 : cX0_through.data.toList.drop 71 = dktX0_through_3 := dk_seg dksX0_through_2 24 rfl rfl
theorem dksX0_through_4 : cX0_through.data.toList.drop 95 = dktX0_through_4 := dk_seg dksX0_through_3 24 rfl rfl
theorem dX0_through_0 : decode cX0_through 0 = .ok (.aload_n 1, 1) := dk_43 (dk_at dksX0_through_0 0 rfl rfl)
theorem dX0_through_1 : decode cX0_through 1 = .ok (.astore_n 3, 1) := dk_78 (dk_at dksX0_through_0 1 rfl rfl)
theorem dX0_through_2 : decode cX0_through 2 = .ok (.iconst 0, 1) := dk_3 (dk_at dksX0_through_0 2 rfl rfl)
theorem dX0_through_3 : decode cX0_through 3 = .ok (.istore 4, 2) := dk_54 4 (dk_at dksX0_through_0 3 rfl rfl)
theorem dX0_through_5 : decode cX0_through 5 = .ok (.iload 4, 2) := dk_21 4 (dk_at dksX0_through_0 5 rfl rfl)
theorem dX0_through_7 : decode cX0_through 7 = .ok (.aload_n 0, 1) := dk_42 (dk_at dksX0_through_0 7 rfl rfl)
theorem dX0_through_8 : decode cX0_through 8 = .ok (.getfield 21, 3) := dk_180 0 21 (dk_at dksX0_through_0 8 rfl rfl)
theorem dX0_through_11 : decode cX0_through 11 = .ok (.iload_n 2, 1) := dk_28 (dk_at dksX0_through_0 11 rfl rfl)
theorem dX0_through_12 : decode cX0_through 12 = .ok (.iaload, 1) := dk_46 (dk_at dksX0_through_0 12 rfl rfl)
theorem dX0_through_13 : decode cX0_through 13 = .ok (.if_icmp .ge 88, 3) := dk_162 0 88 (dk_at dksX0_through_0 13 rfl rfl)
theorem dX0_through_16 : decode cX0_through 16 = .ok (.aload_n 3, 1) := dk_45 (dk_at dksX0_through_0 16 rfl rfl)
theorem dX0_through_17 : decode cX0_through 17 = .ok (.ifnull 84, 3) := dk_198 0 84 (dk_at dksX0_through_0 17 rfl rfl)
theorem dX0_through_20 : decode cX0_through 20 = .ok (.aload_n 0, 1) := dk_42 (dk_at dksX0_through_0 20 rfl rfl)
theorem dX0_through_21 : decode cX0_through 21 = .ok (.getfield 17, 3) := dk_180 0 17 (dk_at dksX0_through_0 21 rfl rfl)
theorem dX0_through_24 : decode cX0_through 24 = .ok (.iconst 4, 1) := dk_7 (dk_at dksX0_through_1 0 rfl rfl)
theorem dX0_through_25 : decode cX0_through 25 = .ok (.iload_n 2, 1) := dk_28 (dk_at dksX0_through_1 1 rfl rfl)
theorem dX0_through_26 : decode cX0_through 26 = .ok (.imul, 1) := dk_104 (dk_at dksX0_through_1 2 rfl rfl)
theorem dX0_through_27 : decode cX0_through 27 = .ok (.iload 4, 2) := dk_21 4 (dk_at dksX0_through_1 3 rfl rfl)
theorem dX0_through_29 : decode cX0_through 29 = .ok (.iadd, 1) := dk_96 (dk_at dksX0_through_1 5 rfl rfl)
theorem dX0_through_30 : decode cX0_through 30 = .ok (.aaload, 1) := dk_50 (dk_at dksX0_through_1 6 rfl rfl)
theorem dX0_through_31 : decode cX0_through 31 = .ok (.astore 5, 2) := dk_58 5 (dk_at dksX0_through_1 7 rfl rfl)
theorem dX0_through_33 : decode cX0_through 33 = .ok (.aload 5, 2) := dk_25 5 (dk_at dksX0_through_1 9 rfl rfl)
theorem dX0_through_35 : decode cX0_through 35 = .ok (.getfield 175, 3) := dk_180 0 175 (dk_at dksX0_through_1 11 rfl rfl)
theorem dX0_through_38 : decode cX0_through 38 = .ok (.istore 6, 2) := dk_54 6 (dk_at dksX0_through_1 14 rfl rfl)
theorem dX0_through_40 : decode cX0_through 40 = .ok (.aload_n 0, 1) := dk_42 (dk_at dksX0_through_1 16 rfl rfl)
theorem dX0_through_41 : decode cX0_through 41 = .ok (.aload 5, 2) := dk_25 5 (dk_at dksX0_through_1 17 rfl rfl)
theorem dX0_through_43 : decode cX0_through 43 = .ok (.aload_n 3, 1) := dk_45 (dk_at dksX0_through_1 19 rfl rfl)
theorem dX0_through_44 : decode cX0_through 44 = .ok (.invokevirtual 191, 3) := dk_182 0 191 (dk_at dksX0_through_1 20 rfl rfl)
theorem dX0_through_47 : decode cX0_through 47 = .ok (.ifCond .eq 36, 3) := dk_153 0 36 (dk_at dksX0_through_2 0 rfl rfl)
theorem dX0_through_50 : decode cX0_through 50 = .ok (.aload_n 0, 1) := dk_42 (dk_at dksX0_through_2 3 rfl rfl)
theorem dX0_through_51 : decode cX0_through 51 = .ok (.dup, 1) := dk_89 (dk_at dksX0_through_2 4 rfl rfl)
theorem dX0_through_52 : decode cX0_through 52 = .ok (.getfield 195, 3) := dk_180 0 195 (dk_at dksX0_through_2 5 rfl rfl)
theorem dX0_through_55 : decode cX0_through 55 = .ok (.iconst 1, 1) := dk_4 (dk_at dksX0_through_2 8 rfl rfl)
theorem dX0_through_56 : decode cX0_through 56 = .ok (.iadd, 1) := dk_96 (dk_at dksX0_through_2 9 rfl rfl)
theorem dX0_through_57 : decode cX0_through 57 = .ok (.putfield 195, 3) := dk_181 0 195 (dk_at dksX0_through_2 10 rfl rfl)
theorem dX0_through_60 : decode cX0_through 60 = .ok (.aload 5, 2) := dk_25 5 (dk_at dksX0_through_2 13 rfl rfl)
theorem dX0_through_62 : decode cX0_through 62 = .ok (.dup, 1) := dk_89 (dk_at dksX0_through_2 15 rfl rfl)
theorem dX0_through_63 : decode cX0_through 63 = .ok (.getfield 198, 3) := dk_180 0 198 (dk_at dksX0_through_2 16 rfl rfl)
theorem dX0_through_66 : decode cX0_through 66 = .ok (.iconst 1, 1) := dk_4 (dk_at dksX0_through_2 19 rfl rfl)
theorem dX0_through_67 : decode cX0_through 67 = .ok (.iadd, 1) := dk_96 (dk_at dksX0_through_2 20 rfl rfl)
theorem dX0_through_68 : decode cX0_through 68 = .ok (.putfield 198, 3) := dk_181 0 198 (dk_at dksX0_through_2 21 rfl rfl)
theorem dX0_through_71 : decode cX0_through 71 = .ok (.aload_n 0, 1) := dk_42 (dk_at dksX0_through_3 0 rfl rfl)
theorem dX0_through_72 : decode cX0_through 72 = .ok (.aload 5, 2) := dk_25 5 (dk_at dksX0_through_3 1 rfl rfl)
theorem dX0_through_74 : decode cX0_through 74 = .ok (.aload_n 3, 1) := dk_45 (dk_at dksX0_through_3 3 rfl rfl)
theorem dX0_through_75 : decode cX0_through 75 = .ok (.iload_n 2, 1) := dk_28 (dk_at dksX0_through_3 4 rfl rfl)
theorem dX0_through_76 : decode cX0_through 76 = .ok (.invokevirtual 201, 3) := dk_182 0 201 (dk_at dksX0_through_3 5 rfl rfl)
theorem dX0_through_79 : decode cX0_through 79 = .ok (.astore_n 3, 1) := dk_78 (dk_at dksX0_through_3 8 rfl rfl)
theorem dX0_through_80 : decode cX0_through 80 = .ok (.goto 15, 3) := dk_167 0 15 (dk_at dksX0_through_3 9 rfl rfl)
theorem dX0_through_83 : decode cX0_through 83 = .ok (.aload 5, 2) := dk_25 5 (dk_at dksX0_through_3 12 rfl rfl)
theorem dX0_through_85 : decode cX0_through 85 = .ok (.getfield 175, 3) := dk_180 0 175 (dk_at dksX0_through_3 14 rfl rfl)
theorem dX0_through_88 : decode cX0_through 88 = .ok (.iload 6, 2) := dk_21 6 (dk_at dksX0_through_3 17 rfl rfl)
theorem dX0_through_90 : decode cX0_through 90 = .ok (.if_icmp .le 5, 3) := dk_164 0 5 (dk_at dksX0_through_3 19 rfl rfl)
theorem dX0_through_93 : decode cX0_through 93 = .ok (.aconst_null, 1) := dk_1 (dk_at dksX0_through_3 22 rfl rfl)
theorem dX0_through_94 : decode cX0_through 94 = .ok (.astore_n 3, 1) := dk_78 (dk_at dksX0_through_3 23 rfl rfl)
theorem dX0_through_95 : decode cX0_through 95 = .ok (.iinc 4 1, 3) := dk_132 4 1 (dk_at dksX0_through_4 0 rfl rfl)
theorem dX0_through_98 : decode cX0_through 98 = .ok (.goto (-93), 3) := dk_167 255 163 (dk_at dksX0_through_4 3 rfl rfl)
theorem dX0_through_101 : decode cX0_through 101 = .ok (.aload_n 3, 1) := dk_45 (dk_at dksX0_through_4 6 rfl rfl)
theorem dX0_through_102 : decode cX0_through 102 = .ok (.areturn, 1) := dk_176 (dk_at dksX0_through_4 7 rfl rfl)
abbrev cX0_takes : ByteArray := prog_1_method_31_code
def yX0_takes : MethodName := ⟨RX0, "takes", "(LMailRooms$Desk;Ljava/lang/Object;)Z"⟩
def dkwX0_takes_3 : List UInt8 := [3, 172]
abbrev dktX0_takes_3 : List UInt8 := dkwX0_takes_3 ++ []
def dkwX0_takes_2 : List UInt8 := [96, 181, 0, 175, 43, 44, 181, 0, 178, 43, 4, 181, 0, 169, 42, 89, 180, 0, 181, 4, 96, 181, 0, 181]
abbrev dktX0_takes_2 : List UInt8 := dkwX0_takes_2 ++ dktX0_takes_3
def dkwX0_takes_1 : List UInt8 := [43, 180, 0, 150, 184, 0, 172, 44, 166, 0, 7, 4, 167, 0, 4, 3, 172, 78, 43, 89, 180, 0, 175, 4]
abbrev dktX0_takes_1 : List UInt8 := dkwX0_takes_1 ++ dktX0_takes_2
def dkwX0_takes_0 : List UInt8 := [43, 180, 0, 156, 154, 0, 10, 43, 180, 0, 169, 153, 0, 12, 44, 43, 180, 0, 150, 184, 0, 123, 172, 44]
abbrev dktX0_takes_0 : List UInt8 := dkwX0_takes_0 ++ dktX0_takes_1
theorem dksX0_takes_0 : cX0_takes.data.toList.drop 0 = dktX0_takes_0 := by decide +kernel
theorem dksX0_takes_1 : cX0_takes.data.toList.drop 24 = dktX0_takes_1 := dk_seg dksX0_takes_0 24 rfl rfl
theorem dksX0_takes_2 : cX0_takes.data.toList.drop 48 = dktX0_takes_2 := dk_seg dksX0_takes_1 24 rfl rfl
theorem dksX0_takes_3 : cX0_takes.data.toList.drop 72 = dktX0_takes_3 := dk_seg dksX0_takes_2 24 rfl rfl
theorem dX0_takes_0 : decode cX0_takes 0 = .ok (.aload_n 1, 1) := dk_43 (dk_at dksX0_takes_0 0 rfl rfl)
theorem dX0_takes_1 : decode cX0_takes 1 = .ok (.getfield 156, 3) := dk_180 0 156 (dk_at dksX0_takes_0 1 rfl rfl)
theorem dX0_takes_4 : decode cX0_takes 4 = .ok (.ifCond .ne 10, 3) := dk_154 0 10 (dk_at dksX0_takes_0 4 rfl rfl)
theorem dX0_takes_7 : decode cX0_takes 7 = .ok (.aload_n 1, 1) := dk_43 (dk_at dksX0_takes_0 7 rfl rfl)
theorem dX0_takes_8 : decode cX0_takes 8 = .ok (.getfield 169, 3) := dk_180 0 169 (dk_at dksX0_takes_0 8 rfl rfl)
theorem dX0_takes_11 : decode cX0_takes 11 = .ok (.ifCond .eq 12, 3) := dk_153 0 12 (dk_at dksX0_takes_0 11 rfl rfl)
theorem dX0_takes_14 : decode cX0_takes 14 = .ok (.aload_n 2, 1) := dk_44 (dk_at dksX0_takes_0 14 rfl rfl)
theorem dX0_takes_15 : decode cX0_takes 15 = .ok (.aload_n 1, 1) := dk_43 (dk_at dksX0_takes_0 15 rfl rfl)
theorem dX0_takes_16 : decode cX0_takes 16 = .ok (.getfield 150, 3) := dk_180 0 150 (dk_at dksX0_takes_0 16 rfl rfl)
theorem dX0_takes_19 : decode cX0_takes 19 = .ok (.invokestatic 123, 3) := dk_184 0 123 (dk_at dksX0_takes_0 19 rfl rfl)
theorem dX0_takes_22 : decode cX0_takes 22 = .ok (.ireturn, 1) := dk_172 (dk_at dksX0_takes_0 22 rfl rfl)
theorem dX0_takes_23 : decode cX0_takes 23 = .ok (.aload_n 2, 1) := dk_44 (dk_at dksX0_takes_0 23 rfl rfl)
theorem dX0_takes_24 : decode cX0_takes 24 = .ok (.aload_n 1, 1) := dk_43 (dk_at dksX0_takes_1 0 rfl rfl)
theorem dX0_takes_25 : decode cX0_takes 25 = .ok (.getfield 150, 3) := dk_180 0 150 (dk_at dksX0_takes_1 1 rfl rfl)
theorem dX0_takes_28 : decode cX0_takes 28 = .ok (.invokestatic 172, 3) := dk_184 0 172 (dk_at dksX0_takes_1 4 rfl rfl)
theorem dX0_takes_31 : decode cX0_takes 31 = .ok (.aload_n 2, 1) := dk_44 (dk_at dksX0_takes_1 7 rfl rfl)
theorem dX0_takes_32 : decode cX0_takes 32 = .ok (.if_acmp .ne 7, 3) := dk_166 0 7 (dk_at dksX0_takes_1 8 rfl rfl)
theorem dX0_takes_35 : decode cX0_takes 35 = .ok (.iconst 1, 1) := dk_4 (dk_at dksX0_takes_1 11 rfl rfl)
theorem dX0_takes_36 : decode cX0_takes 36 = .ok (.goto 4, 3) := dk_167 0 4 (dk_at dksX0_takes_1 12 rfl rfl)
theorem dX0_takes_39 : decode cX0_takes 39 = .ok (.iconst 0, 1) := dk_3 (dk_at dksX0_takes_1 15 rfl rfl)
theorem dX0_takes_40 : decode cX0_takes 40 = .ok (.ireturn, 1) := dk_172 (dk_at dksX0_takes_1 16 rfl rfl)
theorem dX0_takes_41 : decode cX0_takes 41 = .ok (.astore_n 3, 1) := dk_78 (dk_at dksX0_takes_1 17 rfl rfl)
theorem dX0_takes_42 : decode cX0_takes 42 = .ok (.aload_n 1, 1) := dk_43 (dk_at dksX0_takes_1 18 rfl rfl)
theorem dX0_takes_43 : decode cX0_takes 43 = .ok (.dup, 1) := dk_89 (dk_at dksX0_takes_1 19 rfl rfl)
theorem dX0_takes_44 : decode cX0_takes 44 = .ok (.getfield 175, 3) := dk_180 0 175 (dk_at dksX0_takes_1 20 rfl rfl)
theorem dX0_takes_47 : decode cX0_takes 47 = .ok (.iconst 1, 1) := dk_4 (dk_at dksX0_takes_1 23 rfl rfl)
theorem dX0_takes_48 : decode cX0_takes 48 = .ok (.iadd, 1) := dk_96 (dk_at dksX0_takes_2 0 rfl rfl)
theorem dX0_takes_49 : decode cX0_takes 49 = .ok (.putfield 175, 3) := dk_181 0 175 (dk_at dksX0_takes_2 1 rfl rfl)
theorem dX0_takes_52 : decode cX0_takes 52 = .ok (.aload_n 1, 1) := dk_43 (dk_at dksX0_takes_2 4 rfl rfl)
theorem dX0_takes_53 : decode cX0_takes 53 = .ok (.aload_n 2, 1) := dk_44 (dk_at dksX0_takes_2 5 rfl rfl)
theorem dX0_takes_54 : decode cX0_takes 54 = .ok (.putfield 178, 3) := dk_181 0 178 (dk_at dksX0_takes_2 6 rfl rfl)
theorem dX0_takes_57 : decode cX0_takes 57 = .ok (.aload_n 1, 1) := dk_43 (dk_at dksX0_takes_2 9 rfl rfl)
theorem dX0_takes_58 : decode cX0_takes 58 = .ok (.iconst 1, 1) := dk_4 (dk_at dksX0_takes_2 10 rfl rfl)
theorem dX0_takes_59 : decode cX0_takes 59 = .ok (.putfield 169, 3) := dk_181 0 169 (dk_at dksX0_takes_2 11 rfl rfl)
theorem dX0_takes_62 : decode cX0_takes 62 = .ok (.aload_n 0, 1) := dk_42 (dk_at dksX0_takes_2 14 rfl rfl)
theorem dX0_takes_63 : decode cX0_takes 63 = .ok (.dup, 1) := dk_89 (dk_at dksX0_takes_2 15 rfl rfl)
theorem dX0_takes_64 : decode cX0_takes 64 = .ok (.getfield 181, 3) := dk_180 0 181 (dk_at dksX0_takes_2 16 rfl rfl)
theorem dX0_takes_67 : decode cX0_takes 67 = .ok (.iconst 1, 1) := dk_4 (dk_at dksX0_takes_2 19 rfl rfl)
theorem dX0_takes_68 : decode cX0_takes 68 = .ok (.iadd, 1) := dk_96 (dk_at dksX0_takes_2 20 rfl rfl)
theorem dX0_takes_69 : decode cX0_takes 69 = .ok (.putfield 181, 3) := dk_181 0 181 (dk_at dksX0_takes_2 21 rfl rfl)
theorem dX0_takes_72 : decode cX0_takes 72 = .ok (.iconst 0, 1) := dk_3 (dk_at dksX0_takes_3 0 rfl rfl)
theorem dX0_takes_73 : decode cX0_takes 73 = .ok (.ireturn, 1) := dk_172 (dk_at dksX0_takes_3 1 rfl rfl)
abbrev cX0_as : ByteArray := prog_1_method_17_code
def yX0_as : MethodName := ⟨RX0, "as", "(Ljava/lang/Object;I)Ljava/lang/Object;"⟩
def dkwX0_as_4 : List UInt8 := [192, 0, 60, 176, 42, 192, 0, 103, 176, 42, 192, 0, 105, 176, 42, 192, 0, 121, 176, 42, 192, 0, 56, 176]
abbrev dktX0_as_4 : List UInt8 := dkwX0_as_4 ++ []
def dkwX0_as_3 : List UInt8 := [176, 42, 192, 0, 47, 176, 42, 192, 0, 50, 176, 42, 192, 0, 53, 176, 42, 192, 0, 58, 176, 42]
abbrev dktX0_as_3 : List UInt8 := dkwX0_as_3 ++ dktX0_as_4
def dkwX0_as_2 : List UInt8 := [42, 192, 0, 45, 176, 42, 192, 0, 77, 176, 42, 192, 0, 79, 176, 42, 192, 0, 83, 176, 42, 192, 0, 101]
abbrev dktX0_as_2 : List UInt8 := dkwX0_as_2 ++ dktX0_as_3
def dkwX0_as_1 : List UInt8 := [170, 0, 0, 0, 0, 0, 132, 0, 0, 0, 0, 0, 0, 0, 12, 0, 0, 0, 67, 0, 0, 0, 72, 0, 0, 0, 77, 0, 0, 0, 82, 0, 0, 0, 87, 0, 0, 0, 92, 0, 0, 0, 97, 0, 0, 0, 102, 0, 0, 0, 107, 0, 0, 0, 112, 0, 0, 0, 117, 0, 0, 0, 122, 0, 0, 0, 127]
abbrev dktX0_as_1 : List UInt8 := dkwX0_as_1 ++ dktX0_as_2
def dkwX0_as_0 : List UInt8 := [27]
abbrev dktX0_as_0 : List UInt8 := dkwX0_as_0 ++ dktX0_as_1
theorem dksX0_as_0 : cX0_as.data.toList.drop 0 = dktX0_as_0 := by decide +kernel
theorem dksX0_as_1 : cX0_as.data.toList.drop 1 = dktX0_as_1 := dk_seg dksX0_as_0 1 rfl rfl
theorem dksX0_as_2 : cX0_as.data.toList.drop 68 = dktX0_as_2 := dk_seg dksX0_as_1 67 rfl rfl
theorem dksX0_as_3 : cX0_as.data.toList.drop 92 = dktX0_as_3 := dk_seg dksX0_as_2 24 rfl rfl
theorem dksX0_as_4 : cX0_as.data.toList.drop 114 = dktX0_as_4 := dk_seg dksX0_as_3 22 rfl rfl
theorem dX0_as_0 : decode cX0_as 0 = .ok (.iload_n 1, 1) := dk_27 (dk_at dksX0_as_0 0 rfl rfl)
theorem dX0_as_1 : decode cX0_as 1 = .ok (.tableswitch 132 0 12 #[67, 72, 77, 82, 87, 92, 97, 102, 107, 112, 117, 122, 127], 67) := by decide +kernel
theorem dX0_as_68 : decode cX0_as 68 = .ok (.aload_n 0, 1) := dk_42 (dk_at dksX0_as_2 0 rfl rfl)
theorem dX0_as_69 : decode cX0_as 69 = .ok (.checkcast 45, 3) := dk_192 0 45 (dk_at dksX0_as_2 1 rfl rfl)
theorem dX0_as_72 : decode cX0_as 72 = .ok (.areturn, 1) := dk_176 (dk_at dksX0_as_2 4 rfl rfl)
theorem dX0_as_73 : decode cX0_as 73 = .ok (.aload_n 0, 1) := dk_42 (dk_at dksX0_as_2 5 rfl rfl)
theorem dX0_as_74 : decode cX0_as 74 = .ok (.checkcast 77, 3) := dk_192 0 77 (dk_at dksX0_as_2 6 rfl rfl)
theorem dX0_as_77 : decode cX0_as 77 = .ok (.areturn, 1) := dk_176 (dk_at dksX0_as_2 9 rfl rfl)
theorem dX0_as_78 : decode cX0_as 78 = .ok (.aload_n 0, 1) := dk_42 (dk_at dksX0_as_2 10 rfl rfl)
theorem dX0_as_79 : decode cX0_as 79 = .ok (.checkcast 79, 3) := dk_192 0 79 (dk_at dksX0_as_2 11 rfl rfl)
theorem dX0_as_82 : decode cX0_as 82 = .ok (.areturn, 1) := dk_176 (dk_at dksX0_as_2 14 rfl rfl)
theorem dX0_as_83 : decode cX0_as 83 = .ok (.aload_n 0, 1) := dk_42 (dk_at dksX0_as_2 15 rfl rfl)
theorem dX0_as_84 : decode cX0_as 84 = .ok (.checkcast 83, 3) := dk_192 0 83 (dk_at dksX0_as_2 16 rfl rfl)
theorem dX0_as_87 : decode cX0_as 87 = .ok (.areturn, 1) := dk_176 (dk_at dksX0_as_2 19 rfl rfl)
theorem dX0_as_88 : decode cX0_as 88 = .ok (.aload_n 0, 1) := dk_42 (dk_at dksX0_as_2 20 rfl rfl)
theorem dX0_as_89 : decode cX0_as 89 = .ok (.checkcast 101, 3) := dk_192 0 101 (dk_at dksX0_as_2 21 rfl rfl)
theorem dX0_as_92 : decode cX0_as 92 = .ok (.areturn, 1) := dk_176 (dk_at dksX0_as_3 0 rfl rfl)
theorem dX0_as_93 : decode cX0_as 93 = .ok (.aload_n 0, 1) := dk_42 (dk_at dksX0_as_3 1 rfl rfl)
theorem dX0_as_94 : decode cX0_as 94 = .ok (.checkcast 47, 3) := dk_192 0 47 (dk_at dksX0_as_3 2 rfl rfl)
theorem dX0_as_97 : decode cX0_as 97 = .ok (.areturn, 1) := dk_176 (dk_at dksX0_as_3 5 rfl rfl)
theorem dX0_as_98 : decode cX0_as 98 = .ok (.aload_n 0, 1) := dk_42 (dk_at dksX0_as_3 6 rfl rfl)
theorem dX0_as_99 : decode cX0_as 99 = .ok (.checkcast 50, 3) := dk_192 0 50 (dk_at dksX0_as_3 7 rfl rfl)
theorem dX0_as_102 : decode cX0_as 102 = .ok (.areturn, 1) := dk_176 (dk_at dksX0_as_3 10 rfl rfl)
theorem dX0_as_103 : decode cX0_as 103 = .ok (.aload_n 0, 1) := dk_42 (dk_at dksX0_as_3 11 rfl rfl)
theorem dX0_as_104 : decode cX0_as 104 = .ok (.checkcast 53, 3) := dk_192 0 53 (dk_at dksX0_as_3 12 rfl rfl)
theorem dX0_as_107 : decode cX0_as 107 = .ok (.areturn, 1) := dk_176 (dk_at dksX0_as_3 15 rfl rfl)
theorem dX0_as_108 : decode cX0_as 108 = .ok (.aload_n 0, 1) := dk_42 (dk_at dksX0_as_3 16 rfl rfl)
theorem dX0_as_109 : decode cX0_as 109 = .ok (.checkcast 58, 3) := dk_192 0 58 (dk_at dksX0_as_3 17 rfl rfl)
theorem dX0_as_112 : decode cX0_as 112 = .ok (.areturn, 1) := dk_176 (dk_at dksX0_as_3 20 rfl rfl)
theorem dX0_as_113 : decode cX0_as 113 = .ok (.aload_n 0, 1) := dk_42 (dk_at dksX0_as_3 21 rfl rfl)
theorem dX0_as_114 : decode cX0_as 114 = .ok (.checkcast 60, 3) := dk_192 0 60 (dk_at dksX0_as_4 0 rfl rfl)
theorem dX0_as_117 : decode cX0_as 117 = .ok (.areturn, 1) := dk_176 (dk_at dksX0_as_4 3 rfl rfl)
theorem dX0_as_118 : decode cX0_as 118 = .ok (.aload_n 0, 1) := dk_42 (dk_at dksX0_as_4 4 rfl rfl)
theorem dX0_as_119 : decode cX0_as 119 = .ok (.checkcast 103, 3) := dk_192 0 103 (dk_at dksX0_as_4 5 rfl rfl)
theorem dX0_as_122 : decode cX0_as 122 = .ok (.areturn, 1) := dk_176 (dk_at dksX0_as_4 8 rfl rfl)
theorem dX0_as_123 : decode cX0_as 123 = .ok (.aload_n 0, 1) := dk_42 (dk_at dksX0_as_4 9 rfl rfl)
theorem dX0_as_124 : decode cX0_as 124 = .ok (.checkcast 105, 3) := dk_192 0 105 (dk_at dksX0_as_4 10 rfl rfl)
theorem dX0_as_127 : decode cX0_as 127 = .ok (.areturn, 1) := dk_176 (dk_at dksX0_as_4 13 rfl rfl)
theorem dX0_as_128 : decode cX0_as 128 = .ok (.aload_n 0, 1) := dk_42 (dk_at dksX0_as_4 14 rfl rfl)
theorem dX0_as_129 : decode cX0_as 129 = .ok (.checkcast 121, 3) := dk_192 0 121 (dk_at dksX0_as_4 15 rfl rfl)
theorem dX0_as_132 : decode cX0_as 132 = .ok (.areturn, 1) := dk_176 (dk_at dksX0_as_4 18 rfl rfl)
theorem dX0_as_133 : decode cX0_as 133 = .ok (.aload_n 0, 1) := dk_42 (dk_at dksX0_as_4 19 rfl rfl)
theorem dX0_as_134 : decode cX0_as 134 = .ok (.checkcast 56, 3) := dk_192 0 56 (dk_at dksX0_as_4 20 rfl rfl)
theorem dX0_as_137 : decode cX0_as 137 = .ok (.areturn, 1) := dk_176 (dk_at dksX0_as_4 23 rfl rfl)
abbrev cX0_worked : ByteArray := prog_1_method_34_code
def yX0_worked : MethodName := ⟨RX0, "worked", "(LMailRooms$Desk;Ljava/lang/Object;I)Ljava/lang/Object;"⟩
def dkwX0_worked_4 : List UInt8 := [181, 0, 214, 25, 4, 176]
abbrev dktX0_worked_4 : List UInt8 := dkwX0_worked_4 ++ []
def dkwX0_worked_3 : List UInt8 := [184, 0, 145, 44, 176, 42, 44, 29, 4, 96, 182, 0, 210, 44, 176, 43, 180, 0, 214, 58, 4, 43, 44]
abbrev dktX0_worked_3 : List UInt8 := dkwX0_worked_3 ++ dktX0_worked_4
def dkwX0_worked_2 : List UInt8 := [43, 89, 180, 0, 204, 44, 184, 0, 134, 96, 181, 0, 204, 44, 176, 44, 184, 0, 207, 44, 176, 44]
abbrev dktX0_worked_2 : List UInt8 := dkwX0_worked_2 ++ dktX0_worked_3
def dkwX0_worked_1 : List UInt8 := [170, 0, 0, 0, 0, 0, 0, 69, 0, 0, 0, 0, 0, 0, 0, 3, 0, 0, 0, 32, 0, 0, 0, 47, 0, 0, 0, 53, 0, 0, 0, 59]
abbrev dktX0_worked_1 : List UInt8 := dkwX0_worked_1 ++ dktX0_worked_2
def dkwX0_worked_0 : List UInt8 := [43, 180, 0, 153]
abbrev dktX0_worked_0 : List UInt8 := dkwX0_worked_0 ++ dktX0_worked_1
theorem dksX0_worked_0 : cX0_worked.data.toList.drop 0 = dktX0_worked_0 := by decide +kernel
theorem dksX0_worked_1 : cX0_worked.data.toList.drop 4 = dktX0_worked_1 := dk_seg dksX0_worked_0 4 rfl rfl
theorem dksX0_worked_2 : cX0_worked.data.toList.drop 36 = dktX0_worked_2 := dk_seg dksX0_worked_1 32 rfl rfl
theorem dksX0_worked_3 : cX0_worked.data.toList.drop 58 = dktX0_worked_3 := dk_seg dksX0_worked_2 22 rfl rfl
theorem dksX0_worked_4 : cX0_worked.data.toList.drop 81 = dktX0_worked_4 := dk_seg dksX0_worked_3 23 rfl rfl
theorem dX0_worked_0 : decode cX0_worked 0 = .ok (.aload_n 1, 1) := dk_43 (dk_at dksX0_worked_0 0 rfl rfl)
theorem dX0_worked_1 : decode cX0_worked 1 = .ok (.getfield 153, 3) := dk_180 0 153 (dk_at dksX0_worked_0 1 rfl rfl)
theorem dX0_worked_4 : decode cX0_worked 4 = .ok (.tableswitch 69 0 3 #[32, 47, 53, 59], 32) := by decide +kernel
theorem dX0_worked_36 : decode cX0_worked 36 = .ok (.aload_n 1, 1) := dk_43 (dk_at dksX0_worked_2 0 rfl rfl)
theorem dX0_worked_37 : decode cX0_worked 37 = .ok (.dup, 1) := dk_89 (dk_at dksX0_worked_2 1 rfl rfl)
theorem dX0_worked_38 : decode cX0_worked 38 = .ok (.getfield 204, 3) := dk_180 0 204 (dk_at dksX0_worked_2 2 rfl rfl)
theorem dX0_worked_41 : decode cX0_worked 41 = .ok (.aload_n 2, 1) := dk_44 (dk_at dksX0_worked_2 5 rfl rfl)
theorem dX0_worked_42 : decode cX0_worked 42 = .ok (.invokestatic 134, 3) := dk_184 0 134 (dk_at dksX0_worked_2 6 rfl rfl)
theorem dX0_worked_45 : decode cX0_worked 45 = .ok (.iadd, 1) := dk_96 (dk_at dksX0_worked_2 9 rfl rfl)
theorem dX0_worked_46 : decode cX0_worked 46 = .ok (.putfield 204, 3) := dk_181 0 204 (dk_at dksX0_worked_2 10 rfl rfl)
theorem dX0_worked_49 : decode cX0_worked 49 = .ok (.aload_n 2, 1) := dk_44 (dk_at dksX0_worked_2 13 rfl rfl)
theorem dX0_worked_50 : decode cX0_worked 50 = .ok (.areturn, 1) := dk_176 (dk_at dksX0_worked_2 14 rfl rfl)
theorem dX0_worked_51 : decode cX0_worked 51 = .ok (.aload_n 2, 1) := dk_44 (dk_at dksX0_worked_2 15 rfl rfl)
theorem dX0_worked_52 : decode cX0_worked 52 = .ok (.invokestatic 207, 3) := dk_184 0 207 (dk_at dksX0_worked_2 16 rfl rfl)
theorem dX0_worked_55 : decode cX0_worked 55 = .ok (.aload_n 2, 1) := dk_44 (dk_at dksX0_worked_2 19 rfl rfl)
theorem dX0_worked_56 : decode cX0_worked 56 = .ok (.areturn, 1) := dk_176 (dk_at dksX0_worked_2 20 rfl rfl)
theorem dX0_worked_57 : decode cX0_worked 57 = .ok (.aload_n 2, 1) := dk_44 (dk_at dksX0_worked_2 21 rfl rfl)
theorem dX0_worked_58 : decode cX0_worked 58 = .ok (.invokestatic 145, 3) := dk_184 0 145 (dk_at dksX0_worked_3 0 rfl rfl)
theorem dX0_worked_61 : decode cX0_worked 61 = .ok (.aload_n 2, 1) := dk_44 (dk_at dksX0_worked_3 3 rfl rfl)
theorem dX0_worked_62 : decode cX0_worked 62 = .ok (.areturn, 1) := dk_176 (dk_at dksX0_worked_3 4 rfl rfl)
theorem dX0_worked_63 : decode cX0_worked 63 = .ok (.aload_n 0, 1) := dk_42 (dk_at dksX0_worked_3 5 rfl rfl)
theorem dX0_worked_64 : decode cX0_worked 64 = .ok (.aload_n 2, 1) := dk_44 (dk_at dksX0_worked_3 6 rfl rfl)
theorem dX0_worked_65 : decode cX0_worked 65 = .ok (.iload_n 3, 1) := dk_29 (dk_at dksX0_worked_3 7 rfl rfl)
theorem dX0_worked_66 : decode cX0_worked 66 = .ok (.iconst 1, 1) := dk_4 (dk_at dksX0_worked_3 8 rfl rfl)
theorem dX0_worked_67 : decode cX0_worked 67 = .ok (.iadd, 1) := dk_96 (dk_at dksX0_worked_3 9 rfl rfl)
theorem dX0_worked_68 : decode cX0_worked 68 = .ok (.invokevirtual 210, 3) := dk_182 0 210 (dk_at dksX0_worked_3 10 rfl rfl)
theorem dX0_worked_71 : decode cX0_worked 71 = .ok (.aload_n 2, 1) := dk_44 (dk_at dksX0_worked_3 13 rfl rfl)
theorem dX0_worked_72 : decode cX0_worked 72 = .ok (.areturn, 1) := dk_176 (dk_at dksX0_worked_3 14 rfl rfl)
theorem dX0_worked_73 : decode cX0_worked 73 = .ok (.aload_n 1, 1) := dk_43 (dk_at dksX0_worked_3 15 rfl rfl)
theorem dX0_worked_74 : decode cX0_worked 74 = .ok (.getfield 214, 3) := dk_180 0 214 (dk_at dksX0_worked_3 16 rfl rfl)
theorem dX0_worked_77 : decode cX0_worked 77 = .ok (.astore 4, 2) := dk_58 4 (dk_at dksX0_worked_3 19 rfl rfl)
theorem dX0_worked_79 : decode cX0_worked 79 = .ok (.aload_n 1, 1) := dk_43 (dk_at dksX0_worked_3 21 rfl rfl)
theorem dX0_worked_80 : decode cX0_worked 80 = .ok (.aload_n 2, 1) := dk_44 (dk_at dksX0_worked_3 22 rfl rfl)
theorem dX0_worked_81 : decode cX0_worked 81 = .ok (.putfield 214, 3) := dk_181 0 214 (dk_at dksX0_worked_4 0 rfl rfl)
theorem dX0_worked_84 : decode cX0_worked 84 = .ok (.aload 4, 2) := dk_25 4 (dk_at dksX0_worked_4 3 rfl rfl)
theorem dX0_worked_86 : decode cX0_worked 86 = .ok (.areturn, 1) := dk_176 (dk_at dksX0_worked_4 5 rfl rfl)
abbrev cX0_size : ByteArray := prog_1_method_20_code
def yX0_size : MethodName := ⟨RX0, "size", "(Ljava/lang/Object;)I"⟩
def dkwX0_size_4 : List UInt8 := [4, 172]
abbrev dktX0_size_4 : List UInt8 := dkwX0_size_4 ++ []
def dkwX0_size_3 : List UInt8 := [153, 0, 9, 42, 192, 0, 103, 190, 172, 42, 193, 0, 105, 153, 0, 11, 42, 192, 0, 105, 190, 167, 0, 4]
abbrev dktX0_size_3 : List UInt8 := dkwX0_size_3 ++ dktX0_size_4
def dkwX0_size_2 : List UInt8 := [192, 0, 83, 190, 172, 42, 193, 0, 101, 153, 0, 9, 42, 192, 0, 101, 190, 172, 42, 193, 0, 103]
abbrev dktX0_size_2 : List UInt8 := dkwX0_size_2 ++ dktX0_size_3
def dkwX0_size_1 : List UInt8 := [190, 172, 42, 193, 0, 79, 153, 0, 9, 42, 192, 0, 79, 190, 172, 42, 193, 0, 83, 153, 0, 9, 42]
abbrev dktX0_size_1 : List UInt8 := dkwX0_size_1 ++ dktX0_size_2
def dkwX0_size_0 : List UInt8 := [42, 193, 0, 45, 153, 0, 9, 42, 192, 0, 45, 190, 172, 42, 193, 0, 77, 153, 0, 9, 42, 192, 0, 77]
abbrev dktX0_size_0 : List UInt8 := dkwX0_size_0 ++ dktX0_size_1
theorem dksX0_size_0 : cX0_size.data.toList.drop 0 = dktX0_size_0 := by decide +kernel
theorem dksX0_size_1 : cX0_size.data.toList.drop 24 = dktX0_size_1 := dk_seg dksX0_size_0 24 rfl rfl
theorem dksX0_size_2 : cX0_size.data.toList.drop 47 = dktX0_size_2 := dk_seg dksX0_size_1 23 rfl rfl
theorem dksX0_size_3 : cX0_size.data.toList.drop 69 = dktX0_size_3 := dk_seg dksX0_size_2 22 rfl rfl
theorem dksX0_size_4 : cX0_size.data.toList.drop 93 = dktX0_size_4 := dk_seg dksX0_size_3 24 rfl rfl
theorem dX0_size_0 : decode cX0_size 0 = .ok (.aload_n 0, 1) := dk_42 (dk_at dksX0_size_0 0 rfl rfl)
theorem dX0_size_1 : decode cX0_size 1 = .ok (.instanceof 45, 3) := dk_193 0 45 (dk_at dksX0_size_0 1 rfl rfl)
theorem dX0_size_4 : decode cX0_size 4 = .ok (.ifCond .eq 9, 3) := dk_153 0 9 (dk_at dksX0_size_0 4 rfl rfl)
theorem dX0_size_7 : decode cX0_size 7 = .ok (.aload_n 0, 1) := dk_42 (dk_at dksX0_size_0 7 rfl rfl)
theorem dX0_size_8 : decode cX0_size 8 = .ok (.checkcast 45, 3) := dk_192 0 45 (dk_at dksX0_size_0 8 rfl rfl)
theorem dX0_size_11 : decode cX0_size 11 = .ok (.arraylength, 1) := dk_190 (dk_at dksX0_size_0 11 rfl rfl)
theorem dX0_size_12 : decode cX0_size 12 = .ok (.ireturn, 1) := dk_172 (dk_at dksX0_size_0 12 rfl rfl)
theorem dX0_size_13 : decode cX0_size 13 = .ok (.aload_n 0, 1) := dk_42 (dk_at dksX0_size_0 13 rfl rfl)
theorem dX0_size_14 : decode cX0_size 14 = .ok (.instanceof 77, 3) := dk_193 0 77 (dk_at dksX0_size_0 14 rfl rfl)
theorem dX0_size_17 : decode cX0_size 17 = .ok (.ifCond .eq 9, 3) := dk_153 0 9 (dk_at dksX0_size_0 17 rfl rfl)
theorem dX0_size_20 : decode cX0_size 20 = .ok (.aload_n 0, 1) := dk_42 (dk_at dksX0_size_0 20 rfl rfl)
theorem dX0_size_21 : decode cX0_size 21 = .ok (.checkcast 77, 3) := dk_192 0 77 (dk_at dksX0_size_0 21 rfl rfl)
theorem dX0_size_24 : decode cX0_size 24 = .ok (.arraylength, 1) := dk_190 (dk_at dksX0_size_1 0 rfl rfl)
theorem dX0_size_25 : decode cX0_size 25 = .ok (.ireturn, 1) := dk_172 (dk_at dksX0_size_1 1 rfl rfl)
theorem dX0_size_26 : decode cX0_size 26 = .ok (.aload_n 0, 1) := dk_42 (dk_at dksX0_size_1 2 rfl rfl)
theorem dX0_size_27 : decode cX0_size 27 = .ok (.instanceof 79, 3) := dk_193 0 79 (dk_at dksX0_size_1 3 rfl rfl)
theorem dX0_size_30 : decode cX0_size 30 = .ok (.ifCond .eq 9, 3) := dk_153 0 9 (dk_at dksX0_size_1 6 rfl rfl)
theorem dX0_size_33 : decode cX0_size 33 = .ok (.aload_n 0, 1) := dk_42 (dk_at dksX0_size_1 9 rfl rfl)
theorem dX0_size_34 : decode cX0_size 34 = .ok (.checkcast 79, 3) := dk_192 0 79 (dk_at dksX0_size_1 10 rfl rfl)
theorem dX0_size_37 : decode cX0_size 37 = .ok (.arraylength, 1) := dk_190 (dk_at dksX0_size_1 13 rfl rfl)
theorem dX0_size_38 : decode cX0_size 38 = .ok (.ireturn, 1) := dk_172 (dk_at dksX0_size_1 14 rfl rfl)
theorem dX0_size_39 : decode cX0_size 39 = .ok (.aload_n 0, 1) := dk_42 (dk_at dksX0_size_1 15 rfl rfl)
theorem dX0_size_40 : decode cX0_size 40 = .ok (.instanceof 83, 3) := dk_193 0 83 (dk_at dksX0_size_1 16 rfl rfl)
theorem dX0_size_43 : decode cX0_size 43 = .ok (.ifCond .eq 9, 3) := dk_153 0 9 (dk_at dksX0_size_1 19 rfl rfl)
theorem dX0_size_46 : decode cX0_size 46 = .ok (.aload_n 0, 1) := dk_42 (dk_at dksX0_size_1 22 rfl rfl)
theorem dX0_size_47 : decode cX0_size 47 = .ok (.checkcast 83, 3) := dk_192 0 83 (dk_at dksX0_size_2 0 rfl rfl)
theorem dX0_size_50 : decode cX0_size 50 = .ok (.arraylength, 1) := dk_190 (dk_at dksX0_size_2 3 rfl rfl)
theorem dX0_size_51 : decode cX0_size 51 = .ok (.ireturn, 1) := dk_172 (dk_at dksX0_size_2 4 rfl rfl)
theorem dX0_size_52 : decode cX0_size 52 = .ok (.aload_n 0, 1) := dk_42 (dk_at dksX0_size_2 5 rfl rfl)
theorem dX0_size_53 : decode cX0_size 53 = .ok (.instanceof 101, 3) := dk_193 0 101 (dk_at dksX0_size_2 6 rfl rfl)
theorem dX0_size_56 : decode cX0_size 56 = .ok (.ifCond .eq 9, 3) := dk_153 0 9 (dk_at dksX0_size_2 9 rfl rfl)
theorem dX0_size_59 : decode cX0_size 59 = .ok (.aload_n 0, 1) := dk_42 (dk_at dksX0_size_2 12 rfl rfl)
theorem dX0_size_60 : decode cX0_size 60 = .ok (.checkcast 101, 3) := dk_192 0 101 (dk_at dksX0_size_2 13 rfl rfl)
theorem dX0_size_63 : decode cX0_size 63 = .ok (.arraylength, 1) := dk_190 (dk_at dksX0_size_2 16 rfl rfl)
theorem dX0_size_64 : decode cX0_size 64 = .ok (.ireturn, 1) := dk_172 (dk_at dksX0_size_2 17 rfl rfl)
theorem dX0_size_65 : decode cX0_size 65 = .ok (.aload_n 0, 1) := dk_42 (dk_at dksX0_size_2 18 rfl rfl)
theorem dX0_size_66 : decode cX0_size 66 = .ok (.instanceof 103, 3) := dk_193 0 103 (dk_at dksX0_size_2 19 rfl rfl)
theorem dX0_size_69 : decode cX0_size 69 = .ok (.ifCond .eq 9, 3) := dk_153 0 9 (dk_at dksX0_size_3 0 rfl rfl)
theorem dX0_size_72 : decode cX0_size 72 = .ok (.aload_n 0, 1) := dk_42 (dk_at dksX0_size_3 3 rfl rfl)
theorem dX0_size_73 : decode cX0_size 73 = .ok (.checkcast 103, 3) := dk_192 0 103 (dk_at dksX0_size_3 4 rfl rfl)
theorem dX0_size_76 : decode cX0_size 76 = .ok (.arraylength, 1) := dk_190 (dk_at dksX0_size_3 7 rfl rfl)
theorem dX0_size_77 : decode cX0_size 77 = .ok (.ireturn, 1) := dk_172 (dk_at dksX0_size_3 8 rfl rfl)
theorem dX0_size_78 : decode cX0_size 78 = .ok (.aload_n 0, 1) := dk_42 (dk_at dksX0_size_3 9 rfl rfl)
theorem dX0_size_79 : decode cX0_size 79 = .ok (.instanceof 105, 3) := dk_193 0 105 (dk_at dksX0_size_3 10 rfl rfl)
theorem dX0_size_82 : decode cX0_size 82 = .ok (.ifCond .eq 11, 3) := dk_153 0 11 (dk_at dksX0_size_3 13 rfl rfl)
theorem dX0_size_85 : decode cX0_size 85 = .ok (.aload_n 0, 1) := dk_42 (dk_at dksX0_size_3 16 rfl rfl)
theorem dX0_size_86 : decode cX0_size 86 = .ok (.checkcast 105, 3) := dk_192 0 105 (dk_at dksX0_size_3 17 rfl rfl)
theorem dX0_size_89 : decode cX0_size 89 = .ok (.arraylength, 1) := dk_190 (dk_at dksX0_size_3 20 rfl rfl)
theorem dX0_size_90 : decode cX0_size 90 = .ok (.goto 4, 3) := dk_167 0 4 (dk_at dksX0_size_3 21 rfl rfl)
theorem dX0_size_93 : decode cX0_size 93 = .ok (.iconst 1, 1) := dk_4 (dk_at dksX0_size_4 0 rfl rfl)
theorem dX0_size_94 : decode cX0_size 94 = .ok (.ireturn, 1) := dk_172 (dk_at dksX0_size_4 1 rfl rfl)
abbrev cX0_turn : ByteArray := prog_1_method_23_code
def yX0_turn : MethodName := ⟨RX0, "turn", "(Ljava/lang/Object;)V"⟩
def dkwX0_turn_1 : List UInt8 := [132, 2, 1, 167, 255, 236, 177]
abbrev dktX0_turn_1 : List UInt8 := dkwX0_turn_1 ++ []
def dkwX0_turn_0 : List UInt8 := [42, 184, 0, 134, 60, 3, 61, 28, 27, 5, 108, 162, 0, 19, 42, 28, 27, 4, 100, 28, 100, 184, 0, 137]
abbrev dktX0_turn_0 : List UInt8 := dkwX0_turn_0 ++ dktX0_turn_1
theorem dksX0_turn_0 : cX0_turn.data.toList.drop 0 = dktX0_turn_0 := by decide +kernel
theorem dksX0_turn_1 : cX0_turn.data.toList.drop 24 = dktX0_turn_1 := dk_seg dksX0_turn_0 24 rfl rfl
theorem dX0_turn_0 : decode cX0_turn 0 = .ok (.aload_n 0, 1) := dk_42 (dk_at dksX0_turn_0 0 rfl rfl)
theorem dX0_turn_1 : decode cX0_turn 1 = .ok (.invokestatic 134, 3) := dk_184 0 134 (dk_at dksX0_turn_0 1 rfl rfl)
theorem dX0_turn_4 : decode cX0_turn 4 = .ok (.istore_n 1, 1) := dk_60 (dk_at dksX0_turn_0 4 rfl rfl)
theorem dX0_turn_5 : decode cX0_turn 5 = .ok (.iconst 0, 1) := dk_3 (dk_at dksX0_turn_0 5 rfl rfl)
theorem dX0_turn_6 : decode cX0_turn 6 = .ok (.istore_n 2, 1) := dk_61 (dk_at dksX0_turn_0 6 rfl rfl)
theorem dX0_turn_7 : decode cX0_turn 7 = .ok (.iload_n 2, 1) := dk_28 (dk_at dksX0_turn_0 7 rfl rfl)
theorem dX0_turn_8 : decode cX0_turn 8 = .ok (.iload_n 1, 1) := dk_27 (dk_at dksX0_turn_0 8 rfl rfl)
theorem dX0_turn_9 : decode cX0_turn 9 = .ok (.iconst 2, 1) := dk_5 (dk_at dksX0_turn_0 9 rfl rfl)
theorem dX0_turn_10 : decode cX0_turn 10 = .ok (.idiv, 1) := dk_108 (dk_at dksX0_turn_0 10 rfl rfl)
theorem dX0_turn_11 : decode cX0_turn 11 = .ok (.if_icmp .ge 19, 3) := dk_162 0 19 (dk_at dksX0_turn_0 11 rfl rfl)
theorem dX0_turn_14 : decode cX0_turn 14 = .ok (.aload_n 0, 1) := dk_42 (dk_at dksX0_turn_0 14 rfl rfl)
theorem dX0_turn_15 : decode cX0_turn 15 = .ok (.iload_n 2, 1) := dk_28 (dk_at dksX0_turn_0 15 rfl rfl)
theorem dX0_turn_16 : decode cX0_turn 16 = .ok (.iload_n 1, 1) := dk_27 (dk_at dksX0_turn_0 16 rfl rfl)
theorem dX0_turn_17 : decode cX0_turn 17 = .ok (.iconst 1, 1) := dk_4 (dk_at dksX0_turn_0 17 rfl rfl)
theorem dX0_turn_18 : decode cX0_turn 18 = .ok (.isub, 1) := dk_100 (dk_at dksX0_turn_0 18 rfl rfl)
theorem dX0_turn_19 : decode cX0_turn 19 = .ok (.iload_n 2, 1) := dk_28 (dk_at dksX0_turn_0 19 rfl rfl)
theorem dX0_turn_20 : decode cX0_turn 20 = .ok (.isub, 1) := dk_100 (dk_at dksX0_turn_0 20 rfl rfl)
theorem dX0_turn_21 : decode cX0_turn 21 = .ok (.invokestatic 137, 3) := dk_184 0 137 (dk_at dksX0_turn_0 21 rfl rfl)
theorem dX0_turn_24 : decode cX0_turn 24 = .ok (.iinc 2 1, 3) := dk_132 2 1 (dk_at dksX0_turn_1 0 rfl rfl)
theorem dX0_turn_27 : decode cX0_turn 27 = .ok (.goto (-20), 3) := dk_167 255 236 (dk_at dksX0_turn_1 3 rfl rfl)
theorem dX0_turn_30 : decode cX0_turn 30 = .ok (.return_, 1) := dk_177 (dk_at dksX0_turn_1 6 rfl rfl)
abbrev cX0_change_2 : ByteArray := prog_1_method_21_code
def yX0_change_2 : MethodName := ⟨RX0, "change", "(Ljava/lang/Object;II)V"⟩
def dkwX0_change_2_5 : List UInt8 := [21, 4, 84, 167, 0, 9, 42, 27, 28, 184, 0, 131, 177]
abbrev dktX0_change_2_5 : List UInt8 := dkwX0_change_2_5 ++ []
def dkwX0_change_2_4 : List UInt8 := [193, 0, 83, 153, 0, 27, 42, 192, 0, 83, 78, 45, 27, 51, 54, 4, 45, 27, 45, 28, 51, 84, 45, 28]
abbrev dktX0_change_2_4 : List UInt8 := dkwX0_change_2_4 ++ dktX0_change_2_5
def dkwX0_change_2_3 : List UInt8 := [192, 0, 79, 78, 45, 27, 49, 57, 4, 45, 27, 45, 28, 49, 82, 45, 28, 24, 4, 82, 167, 0, 40, 42]
abbrev dktX0_change_2_3 : List UInt8 := dkwX0_change_2_3 ++ dktX0_change_2_4
def dkwX0_change_2_2 : List UInt8 := [45, 27, 45, 28, 53, 86, 45, 28, 21, 4, 86, 167, 0, 71, 42, 193, 0, 79, 153, 0, 27, 42]
abbrev dktX0_change_2_2 : List UInt8 := dkwX0_change_2_2 ++ dktX0_change_2_3
def dkwX0_change_2_1 : List UInt8 := [28, 21, 4, 85, 167, 0, 102, 42, 193, 0, 77, 153, 0, 27, 42, 192, 0, 77, 78, 45, 27, 53, 54, 4]
abbrev dktX0_change_2_1 : List UInt8 := dkwX0_change_2_1 ++ dktX0_change_2_2
def dkwX0_change_2_0 : List UInt8 := [42, 193, 0, 45, 153, 0, 27, 42, 192, 0, 45, 78, 45, 27, 52, 54, 4, 45, 27, 45, 28, 52, 85, 45]
abbrev dktX0_change_2_0 : List UInt8 := dkwX0_change_2_0 ++ dktX0_change_2_1
theorem dksX0_change_2_0 : cX0_change_2.data.toList.drop 0 = dktX0_change_2_0 := by decide +kernel
theorem dksX0_change_2_1 : cX0_change_2.data.toList.drop 24 = dktX0_change_2_1 := dk_seg dksX0_change_2_0 24 rfl rfl
theorem dksX0_change_2_2 : cX0_change_2.data.toList.drop 48 = dktX0_change_2_2 := dk_seg dksX0_change_2_1 24 rfl rfl
theorem dksX0_change_2_3 : cX0_change_2.data.toList.drop 70 = dktX0_change_2_3 := dk_seg dksX0_change_2_2 22 rfl rfl
theorem dksX0_change_2_4 : cX0_change_2.data.toList.drop 94 = dktX0_change_2_4 := dk_seg dksX0_change_2_3 24 rfl rfl
theorem dksX0_change_2_5 : cX0_change_2.data.toList.drop 118 = dktX0_change_2_5 := dk_seg dksX0_change_2_4 24 rfl rfl
theorem dX0_change_2_0 : decode cX0_change_2 0 = .ok (.aload_n 0, 1) := dk_42 (dk_at dksX0_change_2_0 0 rfl rfl)
theorem dX0_change_2_1 : decode cX0_change_2 1 = .ok (.instanceof 45, 3) := dk_193 0 45 (dk_at dksX0_change_2_0 1 rfl rfl)
theorem dX0_change_2_4 : decode cX0_change_2 4 = .ok (.ifCond .eq 27, 3) := dk_153 0 27 (dk_at dksX0_change_2_0 4 rfl rfl)
theorem dX0_change_2_7 : decode cX0_change_2 7 = .ok (.aload_n 0, 1) := dk_42 (dk_at dksX0_change_2_0 7 rfl rfl)
theorem dX0_change_2_8 : decode cX0_change_2 8 = .ok (.checkcast 45, 3) := dk_192 0 45 (dk_at dksX0_change_2_0 8 rfl rfl)
theorem dX0_change_2_11 : decode cX0_change_2 11 = .ok (.astore_n 3, 1) := dk_78 (dk_at dksX0_change_2_0 11 rfl rfl)
theorem dX0_change_2_12 : decode cX0_change_2 12 = .ok (.aload_n 3, 1) := dk_45 (dk_at dksX0_change_2_0 12 rfl rfl)
theorem dX0_change_2_13 : decode cX0_change_2 13 = .ok (.iload_n 1, 1) := dk_27 (dk_at dksX0_change_2_0 13 rfl rfl)
theorem dX0_change_2_14 : decode cX0_change_2 14 = .ok (.caload, 1) := dk_52 (dk_at dksX0_change_2_0 14 rfl rfl)
theorem dX0_change_2_15 : decode cX0_change_2 15 = .ok (.istore 4, 2) := dk_54 4 (dk_at dksX0_change_2_0 15 rfl rfl)
theorem dX0_change_2_17 : decode cX0_change_2 17 = .ok (.aload_n 3, 1) := dk_45 (dk_at dksX0_change_2_0 17 rfl rfl)
theorem dX0_change_2_18 : decode cX0_change_2 18 = .ok (.iload_n 1, 1) := dk_27 (dk_at dksX0_change_2_0 18 rfl rfl)
theorem dX0_change_2_19 : decode cX0_change_2 19 = .ok (.aload_n 3, 1) := dk_45 (dk_at dksX0_change_2_0 19 rfl rfl)
theorem dX0_change_2_20 : decode cX0_change_2 20 = .ok (.iload_n 2, 1) := dk_28 (dk_at dksX0_change_2_0 20 rfl rfl)
theorem dX0_change_2_21 : decode cX0_change_2 21 = .ok (.caload, 1) := dk_52 (dk_at dksX0_change_2_0 21 rfl rfl)
theorem dX0_change_2_22 : decode cX0_change_2 22 = .ok (.castore, 1) := dk_85 (dk_at dksX0_change_2_0 22 rfl rfl)
theorem dX0_change_2_23 : decode cX0_change_2 23 = .ok (.aload_n 3, 1) := dk_45 (dk_at dksX0_change_2_0 23 rfl rfl)
theorem dX0_change_2_24 : decode cX0_change_2 24 = .ok (.iload_n 2, 1) := dk_28 (dk_at dksX0_change_2_1 0 rfl rfl)
theorem dX0_change_2_25 : decode cX0_change_2 25 = .ok (.iload 4, 2) := dk_21 4 (dk_at dksX0_change_2_1 1 rfl rfl)
theorem dX0_change_2_27 : decode cX0_change_2 27 = .ok (.castore, 1) := dk_85 (dk_at dksX0_change_2_1 3 rfl rfl)
theorem dX0_change_2_28 : decode cX0_change_2 28 = .ok (.goto 102, 3) := dk_167 0 102 (dk_at dksX0_change_2_1 4 rfl rfl)
theorem dX0_change_2_31 : decode cX0_change_2 31 = .ok (.aload_n 0, 1) := dk_42 (dk_at dksX0_change_2_1 7 rfl rfl)
theorem dX0_change_2_32 : decode cX0_change_2 32 = .ok (.instanceof 77, 3) := dk_193 0 77 (dk_at dksX0_change_2_1 8 rfl rfl)
theorem dX0_change_2_35 : decode cX0_change_2 35 = .ok (.ifCond .eq 27, 3) := dk_153 0 27 (dk_at dksX0_change_2_1 11 rfl rfl)
theorem dX0_change_2_38 : decode cX0_change_2 38 = .ok (.aload_n 0, 1) := dk_42 (dk_at dksX0_change_2_1 14 rfl rfl)
theorem dX0_change_2_39 : decode cX0_change_2 39 = .ok (.checkcast 77, 3) := dk_192 0 77 (dk_at dksX0_change_2_1 15 rfl rfl)
theorem dX0_change_2_42 : decode cX0_change_2 42 = .ok (.astore_n 3, 1) := dk_78 (dk_at dksX0_change_2_1 18 rfl rfl)
theorem dX0_change_2_43 : decode cX0_change_2 43 = .ok (.aload_n 3, 1) := dk_45 (dk_at dksX0_change_2_1 19 rfl rfl)
theorem dX0_change_2_44 : decode cX0_change_2 44 = .ok (.iload_n 1, 1) := dk_27 (dk_at dksX0_change_2_1 20 rfl rfl)
theorem dX0_change_2_45 : decode cX0_change_2 45 = .ok (.saload, 1) := dk_53 (dk_at dksX0_change_2_1 21 rfl rfl)
theorem dX0_change_2_46 : decode cX0_change_2 46 = .ok (.istore 4, 2) := dk_54 4 (dk_at dksX0_change_2_1 22 rfl rfl)
theorem dX0_change_2_48 : decode cX0_change_2 48 = .ok (.aload_n 3, 1) := dk_45 (dk_at dksX0_change_2_2 0 rfl rfl)
theorem dX0_change_2_49 : decode cX0_change_2 49 = .ok (.iload_n 1, 1) := dk_27 (dk_at dksX0_change_2_2 1 rfl rfl)
theorem dX0_change_2_50 : decode cX0_change_2 50 = .ok (.aload_n 3, 1) := dk_45 (dk_at dksX0_change_2_2 2 rfl rfl)
theorem dX0_change_2_51 : decode cX0_change_2 51 = .ok (.iload_n 2, 1) := dk_28 (dk_at dksX0_change_2_2 3 rfl rfl)
theorem dX0_change_2_52 : decode cX0_change_2 52 = .ok (.saload, 1) := dk_53 (dk_at dksX0_change_2_2 4 rfl rfl)
theorem dX0_change_2_53 : decode cX0_change_2 53 = .ok (.sastore, 1) := dk_86 (dk_at dksX0_change_2_2 5 rfl rfl)
theorem dX0_change_2_54 : decode cX0_change_2 54 = .ok (.aload_n 3, 1) := dk_45 (dk_at dksX0_change_2_2 6 rfl rfl)
theorem dX0_change_2_55 : decode cX0_change_2 55 = .ok (.iload_n 2, 1) := dk_28 (dk_at dksX0_change_2_2 7 rfl rfl)
theorem dX0_change_2_56 : decode cX0_change_2 56 = .ok (.iload 4, 2) := dk_21 4 (dk_at dksX0_change_2_2 8 rfl rfl)
theorem dX0_change_2_58 : decode cX0_change_2 58 = .ok (.sastore, 1) := dk_86 (dk_at dksX0_change_2_2 10 rfl rfl)
theorem dX0_change_2_59 : decode cX0_change_2 59 = .ok (.goto 71, 3) := dk_167 0 71 (dk_at dksX0_change_2_2 11 rfl rfl)
theorem dX0_change_2_62 : decode cX0_change_2 62 = .ok (.aload_n 0, 1) := dk_42 (dk_at dksX0_change_2_2 14 rfl rfl)
theorem dX0_change_2_63 : decode cX0_change_2 63 = .ok (.instanceof 79, 3) := dk_193 0 79 (dk_at dksX0_change_2_2 15 rfl rfl)
theorem dX0_change_2_66 : decode cX0_change_2 66 = .ok (.ifCond .eq 27, 3) := dk_153 0 27 (dk_at dksX0_change_2_2 18 rfl rfl)
theorem dX0_change_2_69 : decode cX0_change_2 69 = .ok (.aload_n 0, 1) := dk_42 (dk_at dksX0_change_2_2 21 rfl rfl)
theorem dX0_change_2_70 : decode cX0_change_2 70 = .ok (.checkcast 79, 3) := dk_192 0 79 (dk_at dksX0_change_2_3 0 rfl rfl)
theorem dX0_change_2_73 : decode cX0_change_2 73 = .ok (.astore_n 3, 1) := dk_78 (dk_at dksX0_change_2_3 3 rfl rfl)
theorem dX0_change_2_74 : decode cX0_change_2 74 = .ok (.aload_n 3, 1) := dk_45 (dk_at dksX0_change_2_3 4 rfl rfl)
theorem dX0_change_2_75 : decode cX0_change_2 75 = .ok (.iload_n 1, 1) := dk_27 (dk_at dksX0_change_2_3 5 rfl rfl)
theorem dX0_change_2_76 : decode cX0_change_2 76 = .ok (.daload, 1) := dk_49 (dk_at dksX0_change_2_3 6 rfl rfl)
theorem dX0_change_2_77 : decode cX0_change_2 77 = .ok (.dstore 4, 2) := dk_57 4 (dk_at dksX0_change_2_3 7 rfl rfl)
theorem dX0_change_2_79 : decode cX0_change_2 79 = .ok (.aload_n 3, 1) := dk_45 (dk_at dksX0_change_2_3 9 rfl rfl)
theorem dX0_change_2_80 : decode cX0_change_2 80 = .ok (.iload_n 1, 1) := dk_27 (dk_at dksX0_change_2_3 10 rfl rfl)
theorem dX0_change_2_81 : decode cX0_change_2 81 = .ok (.aload_n 3, 1) := dk_45 (dk_at dksX0_change_2_3 11 rfl rfl)
theorem dX0_change_2_82 : decode cX0_change_2 82 = .ok (.iload_n 2, 1) := dk_28 (dk_at dksX0_change_2_3 12 rfl rfl)
theorem dX0_change_2_83 : decode cX0_change_2 83 = .ok (.daload, 1) := dk_49 (dk_at dksX0_change_2_3 13 rfl rfl)
theorem dX0_change_2_84 : decode cX0_change_2 84 = .ok (.dastore, 1) := dk_82 (dk_at dksX0_change_2_3 14 rfl rfl)
theorem dX0_change_2_85 : decode cX0_change_2 85 = .ok (.aload_n 3, 1) := dk_45 (dk_at dksX0_change_2_3 15 rfl rfl)
theorem dX0_change_2_86 : decode cX0_change_2 86 = .ok (.iload_n 2, 1) := dk_28 (dk_at dksX0_change_2_3 16 rfl rfl)
theorem dX0_change_2_87 : decode cX0_change_2 87 = .ok (.dload 4, 2) := dk_24 4 (dk_at dksX0_change_2_3 17 rfl rfl)
theorem dX0_change_2_89 : decode cX0_change_2 89 = .ok (.dastore, 1) := dk_82 (dk_at dksX0_change_2_3 19 rfl rfl)
theorem dX0_change_2_90 : decode cX0_change_2 90 = .ok (.goto 40, 3) := dk_167 0 40 (dk_at dksX0_change_2_3 20 rfl rfl)
theorem dX0_change_2_93 : decode cX0_change_2 93 = .ok (.aload_n 0, 1) := dk_42 (dk_at dksX0_change_2_3 23 rfl rfl)
theorem dX0_change_2_94 : decode cX0_change_2 94 = .ok (.instanceof 83, 3) := dk_193 0 83 (dk_at dksX0_change_2_4 0 rfl rfl)
theorem dX0_change_2_97 : decode cX0_change_2 97 = .ok (.ifCond .eq 27, 3) := dk_153 0 27 (dk_at dksX0_change_2_4 3 rfl rfl)
theorem dX0_change_2_100 : decode cX0_change_2 100 = .ok (.aload_n 0, 1) := dk_42 (dk_at dksX0_change_2_4 6 rfl rfl)
theorem dX0_change_2_101 : decode cX0_change_2 101 = .ok (.checkcast 83, 3) := dk_192 0 83 (dk_at dksX0_change_2_4 7 rfl rfl)
theorem dX0_change_2_104 : decode cX0_change_2 104 = .ok (.astore_n 3, 1) := dk_78 (dk_at dksX0_change_2_4 10 rfl rfl)
theorem dX0_change_2_105 : decode cX0_change_2 105 = .ok (.aload_n 3, 1) := dk_45 (dk_at dksX0_change_2_4 11 rfl rfl)
theorem dX0_change_2_106 : decode cX0_change_2 106 = .ok (.iload_n 1, 1) := dk_27 (dk_at dksX0_change_2_4 12 rfl rfl)
theorem dX0_change_2_107 : decode cX0_change_2 107 = .ok (.baload, 1) := dk_51 (dk_at dksX0_change_2_4 13 rfl rfl)
theorem dX0_change_2_108 : decode cX0_change_2 108 = .ok (.istore 4, 2) := dk_54 4 (dk_at dksX0_change_2_4 14 rfl rfl)
theorem dX0_change_2_110 : decode cX0_change_2 110 = .ok (.aload_n 3, 1) := dk_45 (dk_at dksX0_change_2_4 16 rfl rfl)
theorem dX0_change_2_111 : decode cX0_change_2 111 = .ok (.iload_n 1, 1) := dk_27 (dk_at dksX0_change_2_4 17 rfl rfl)
theorem dX0_change_2_112 : decode cX0_change_2 112 = .ok (.aload_n 3, 1) := dk_45 (dk_at dksX0_change_2_4 18 rfl rfl)
theorem dX0_change_2_113 : decode cX0_change_2 113 = .ok (.iload_n 2, 1) := dk_28 (dk_at dksX0_change_2_4 19 rfl rfl)
theorem dX0_change_2_114 : decode cX0_change_2 114 = .ok (.baload, 1) := dk_51 (dk_at dksX0_change_2_4 20 rfl rfl)
theorem dX0_change_2_115 : decode cX0_change_2 115 = .ok (.bastore, 1) := dk_84 (dk_at dksX0_change_2_4 21 rfl rfl)
theorem dX0_change_2_116 : decode cX0_change_2 116 = .ok (.aload_n 3, 1) := dk_45 (dk_at dksX0_change_2_4 22 rfl rfl)
theorem dX0_change_2_117 : decode cX0_change_2 117 = .ok (.iload_n 2, 1) := dk_28 (dk_at dksX0_change_2_4 23 rfl rfl)
theorem dX0_change_2_118 : decode cX0_change_2 118 = .ok (.iload 4, 2) := dk_21 4 (dk_at dksX0_change_2_5 0 rfl rfl)
theorem dX0_change_2_120 : decode cX0_change_2 120 = .ok (.bastore, 1) := dk_84 (dk_at dksX0_change_2_5 2 rfl rfl)
theorem dX0_change_2_121 : decode cX0_change_2 121 = .ok (.goto 9, 3) := dk_167 0 9 (dk_at dksX0_change_2_5 3 rfl rfl)
theorem dX0_change_2_124 : decode cX0_change_2 124 = .ok (.aload_n 0, 1) := dk_42 (dk_at dksX0_change_2_5 6 rfl rfl)
theorem dX0_change_2_125 : decode cX0_change_2 125 = .ok (.iload_n 1, 1) := dk_27 (dk_at dksX0_change_2_5 7 rfl rfl)
theorem dX0_change_2_126 : decode cX0_change_2 126 = .ok (.iload_n 2, 1) := dk_28 (dk_at dksX0_change_2_5 8 rfl rfl)
theorem dX0_change_2_127 : decode cX0_change_2 127 = .ok (.invokestatic 131, 3) := dk_184 0 131 (dk_at dksX0_change_2_5 9 rfl rfl)
theorem dX0_change_2_130 : decode cX0_change_2 130 = .ok (.return_, 1) := dk_177 (dk_at dksX0_change_2_5 12 rfl rfl)
abbrev cX0_exchange : ByteArray := prog_1_method_22_code
def yX0_exchange : MethodName := ⟨RX0, "exchange", "(Ljava/lang/Object;II)V"⟩
def dkwX0_exchange_3 : List UInt8 := [192, 0, 105, 78, 45, 27, 50, 58, 4, 45, 27, 45, 28, 50, 83, 45, 28, 25, 4, 83, 177]
abbrev dktX0_exchange_3 : List UInt8 := dkwX0_exchange_3 ++ []
def dkwX0_exchange_2 : List UInt8 := [45, 27, 45, 28, 50, 83, 45, 28, 25, 4, 83, 167, 0, 31, 42, 193, 0, 105, 153, 0, 24, 42]
abbrev dktX0_exchange_2 : List UInt8 := dkwX0_exchange_2 ++ dktX0_exchange_3
def dkwX0_exchange_1 : List UInt8 := [28, 25, 4, 83, 167, 0, 62, 42, 193, 0, 103, 153, 0, 27, 42, 192, 0, 103, 78, 45, 27, 50, 58, 4]
abbrev dktX0_exchange_1 : List UInt8 := dkwX0_exchange_1 ++ dktX0_exchange_2
def dkwX0_exchange_0 : List UInt8 := [42, 193, 0, 101, 153, 0, 27, 42, 192, 0, 101, 78, 45, 27, 50, 58, 4, 45, 27, 45, 28, 50, 83, 45]
abbrev dktX0_exchange_0 : List UInt8 := dkwX0_exchange_0 ++ dktX0_exchange_1
theorem dksX0_exchange_0 : cX0_exchange.data.toList.drop 0 = dktX0_exchange_0 := by decide +kernel
theorem dksX0_exchange_1 : cX0_exchange.data.toList.drop 24 = dktX0_exchange_1 := dk_seg dksX0_exchange_0 24 rfl rfl
theorem dksX0_exchange_2 : cX0_exchange.data.toList.drop 48 = dktX0_exchange_2 := dk_seg dksX0_exchange_1 24 rfl rfl
theorem dksX0_exchange_3 : cX0_exchange.data.toList.drop 70 = dktX0_exchange_3 := dk_seg dksX0_exchange_2 22 rfl rfl
theorem dX0_exchange_0 : decode cX0_exchange 0 = .ok (.aload_n 0, 1) := dk_42 (dk_at dksX0_exchange_0 0 rfl rfl)
theorem dX0_exchange_1 : decode cX0_exchange 1 = .ok (.instanceof 101, 3) := dk_193 0 101 (dk_at dksX0_exchange_0 1 rfl rfl)
theorem dX0_exchange_4 : decode cX0_exchange 4 = .ok (.ifCond .eq 27, 3) := dk_153 0 27 (dk_at dksX0_exchange_0 4 rfl rfl)
theorem dX0_exchange_7 : decode cX0_exchange 7 = .ok (.aload_n 0, 1) := dk_42 (dk_at dksX0_exchange_0 7 rfl rfl)
theorem dX0_exchange_8 : decode cX0_exchange 8 = .ok (.checkcast 101, 3) := dk_192 0 101 (dk_at dksX0_exchange_0 8 rfl rfl)
theorem dX0_exchange_11 : decode cX0_exchange 11 = .ok (.astore_n 3, 1) := dk_78 (dk_at dksX0_exchange_0 11 rfl rfl)
theorem dX0_exchange_12 : decode cX0_exchange 12 = .ok (.aload_n 3, 1) := dk_45 (dk_at dksX0_exchange_0 12 rfl rfl)
theorem dX0_exchange_13 : decode cX0_exchange 13 = .ok (.iload_n 1, 1) := dk_27 (dk_at dksX0_exchange_0 13 rfl rfl)
theorem dX0_exchange_14 : decode cX0_exchange 14 = .ok (.aaload, 1) := dk_50 (dk_at dksX0_exchange_0 14 rfl rfl)
theorem dX0_exchange_15 : decode cX0_exchange 15 = .ok (.astore 4, 2) := dk_58 4 (dk_at dksX0_exchange_0 15 rfl rfl)
theorem dX0_exchange_17 : decode cX0_exchange 17 = .ok (.aload_n 3, 1) := dk_45 (dk_at dksX0_exchange_0 17 rfl rfl)
theorem dX0_exchange_18 : decode cX0_exchange 18 = .ok (.iload_n 1, 1) := dk_27 (dk_at dksX0_exchange_0 18 rfl rfl)
theorem dX0_exchange_19 : decode cX0_exchange 19 = .ok (.aload_n 3, 1) := dk_45 (dk_at dksX0_exchange_0 19 rfl rfl)
theorem dX0_exchange_20 : decode cX0_exchange 20 = .ok (.iload_n 2, 1) := dk_28 (dk_at dksX0_exchange_0 20 rfl rfl)
theorem dX0_exchange_21 : decode cX0_exchange 21 = .ok (.aaload, 1) := dk_50 (dk_at dksX0_exchange_0 21 rfl rfl)
theorem dX0_exchange_22 : decode cX0_exchange 22 = .ok (.aastore, 1) := dk_83 (dk_at dksX0_exchange_0 22 rfl rfl)
theorem dX0_exchange_23 : decode cX0_exchange 23 = .ok (.aload_n 3, 1) := dk_45 (dk_at dksX0_exchange_0 23 rfl rfl)
theorem dX0_exchange_24 : decode cX0_exchange 24 = .ok (.iload_n 2, 1) := dk_28 (dk_at dksX0_exchange_1 0 rfl rfl)
theorem dX0_exchange_25 : decode cX0_exchange 25 = .ok (.aload 4, 2) := dk_25 4 (dk_at dksX0_exchange_1 1 rfl rfl)
theorem dX0_exchange_27 : decode cX0_exchange 27 = .ok (.aastore, 1) := dk_83 (dk_at dksX0_exchange_1 3 rfl rfl)
theorem dX0_exchange_28 : decode cX0_exchange 28 = .ok (.goto 62, 3) := dk_167 0 62 (dk_at dksX0_exchange_1 4 rfl rfl)
theorem dX0_exchange_31 : decode cX0_exchange 31 = .ok (.aload_n 0, 1) := dk_42 (dk_at dksX0_exchange_1 7 rfl rfl)
theorem dX0_exchange_32 : decode cX0_exchange 32 = .ok (.instanceof 103, 3) := dk_193 0 103 (dk_at dksX0_exchange_1 8 rfl rfl)
theorem dX0_exchange_35 : decode cX0_exchange 35 = .ok (.ifCond .eq 27, 3) := dk_153 0 27 (dk_at dksX0_exchange_1 11 rfl rfl)
theorem dX0_exchange_38 : decode cX0_exchange 38 = .ok (.aload_n 0, 1) := dk_42 (dk_at dksX0_exchange_1 14 rfl rfl)
theorem dX0_exchange_39 : decode cX0_exchange 39 = .ok (.checkcast 103, 3) := dk_192 0 103 (dk_at dksX0_exchange_1 15 rfl rfl)
theorem dX0_exchange_42 : decode cX0_exchange 42 = .ok (.astore_n 3, 1) := dk_78 (dk_at dksX0_exchange_1 18 rfl rfl)
theorem dX0_exchange_43 : decode cX0_exchange 43 = .ok (.aload_n 3, 1) := dk_45 (dk_at dksX0_exchange_1 19 rfl rfl)
theorem dX0_exchange_44 : decode cX0_exchange 44 = .ok (.iload_n 1, 1) := dk_27 (dk_at dksX0_exchange_1 20 rfl rfl)
theorem dX0_exchange_45 : decode cX0_exchange 45 = .ok (.aaload, 1) := dk_50 (dk_at dksX0_exchange_1 21 rfl rfl)
theorem dX0_exchange_46 : decode cX0_exchange 46 = .ok (.astore 4, 2) := dk_58 4 (dk_at dksX0_exchange_1 22 rfl rfl)
theorem dX0_exchange_48 : decode cX0_exchange 48 = .ok (.aload_n 3, 1) := dk_45 (dk_at dksX0_exchange_2 0 rfl rfl)
theorem dX0_exchange_49 : decode cX0_exchange 49 = .ok (.iload_n 1, 1) := dk_27 (dk_at dksX0_exchange_2 1 rfl rfl)
theorem dX0_exchange_50 : decode cX0_exchange 50 = .ok (.aload_n 3, 1) := dk_45 (dk_at dksX0_exchange_2 2 rfl rfl)
theorem dX0_exchange_51 : decode cX0_exchange 51 = .ok (.iload_n 2, 1) := dk_28 (dk_at dksX0_exchange_2 3 rfl rfl)
theorem dX0_exchange_52 : decode cX0_exchange 52 = .ok (.aaload, 1) := dk_50 (dk_at dksX0_exchange_2 4 rfl rfl)
theorem dX0_exchange_53 : decode cX0_exchange 53 = .ok (.aastore, 1) := dk_83 (dk_at dksX0_exchange_2 5 rfl rfl)
theorem dX0_exchange_54 : decode cX0_exchange 54 = .ok (.aload_n 3, 1) := dk_45 (dk_at dksX0_exchange_2 6 rfl rfl)
theorem dX0_exchange_55 : decode cX0_exchange 55 = .ok (.iload_n 2, 1) := dk_28 (dk_at dksX0_exchange_2 7 rfl rfl)
theorem dX0_exchange_56 : decode cX0_exchange 56 = .ok (.aload 4, 2) := dk_25 4 (dk_at dksX0_exchange_2 8 rfl rfl)
theorem dX0_exchange_58 : decode cX0_exchange 58 = .ok (.aastore, 1) := dk_83 (dk_at dksX0_exchange_2 10 rfl rfl)
theorem dX0_exchange_59 : decode cX0_exchange 59 = .ok (.goto 31, 3) := dk_167 0 31 (dk_at dksX0_exchange_2 11 rfl rfl)
theorem dX0_exchange_62 : decode cX0_exchange 62 = .ok (.aload_n 0, 1) := dk_42 (dk_at dksX0_exchange_2 14 rfl rfl)
theorem dX0_exchange_63 : decode cX0_exchange 63 = .ok (.instanceof 105, 3) := dk_193 0 105 (dk_at dksX0_exchange_2 15 rfl rfl)
theorem dX0_exchange_66 : decode cX0_exchange 66 = .ok (.ifCond .eq 24, 3) := dk_153 0 24 (dk_at dksX0_exchange_2 18 rfl rfl)
theorem dX0_exchange_69 : decode cX0_exchange 69 = .ok (.aload_n 0, 1) := dk_42 (dk_at dksX0_exchange_2 21 rfl rfl)
theorem dX0_exchange_70 : decode cX0_exchange 70 = .ok (.checkcast 105, 3) := dk_192 0 105 (dk_at dksX0_exchange_3 0 rfl rfl)
theorem dX0_exchange_73 : decode cX0_exchange 73 = .ok (.astore_n 3, 1) := dk_78 (dk_at dksX0_exchange_3 3 rfl rfl)
theorem dX0_exchange_74 : decode cX0_exchange 74 = .ok (.aload_n 3, 1) := dk_45 (dk_at dksX0_exchange_3 4 rfl rfl)
theorem dX0_exchange_75 : decode cX0_exchange 75 = .ok (.iload_n 1, 1) := dk_27 (dk_at dksX0_exchange_3 5 rfl rfl)
theorem dX0_exchange_76 : decode cX0_exchange 76 = .ok (.aaload, 1) := dk_50 (dk_at dksX0_exchange_3 6 rfl rfl)
theorem dX0_exchange_77 : decode cX0_exchange 77 = .ok (.astore 4, 2) := dk_58 4 (dk_at dksX0_exchange_3 7 rfl rfl)
theorem dX0_exchange_79 : decode cX0_exchange 79 = .ok (.aload_n 3, 1) := dk_45 (dk_at dksX0_exchange_3 9 rfl rfl)
theorem dX0_exchange_80 : decode cX0_exchange 80 = .ok (.iload_n 1, 1) := dk_27 (dk_at dksX0_exchange_3 10 rfl rfl)
theorem dX0_exchange_81 : decode cX0_exchange 81 = .ok (.aload_n 3, 1) := dk_45 (dk_at dksX0_exchange_3 11 rfl rfl)
theorem dX0_exchange_82 : decode cX0_exchange 82 = .ok (.iload_n 2, 1) := dk_28 (dk_at dksX0_exchange_3 12 rfl rfl)
theorem dX0_exchange_83 : decode cX0_exchange 83 = .ok (.aaload, 1) := dk_50 (dk_at dksX0_exchange_3 13 rfl rfl)
theorem dX0_exchange_84 : decode cX0_exchange 84 = .ok (.aastore, 1) := dk_83 (dk_at dksX0_exchange_3 14 rfl rfl)
theorem dX0_exchange_85 : decode cX0_exchange 85 = .ok (.aload_n 3, 1) := dk_45 (dk_at dksX0_exchange_3 15 rfl rfl)
theorem dX0_exchange_86 : decode cX0_exchange 86 = .ok (.iload_n 2, 1) := dk_28 (dk_at dksX0_exchange_3 16 rfl rfl)
theorem dX0_exchange_87 : decode cX0_exchange 87 = .ok (.aload 4, 2) := dk_25 4 (dk_at dksX0_exchange_3 17 rfl rfl)
theorem dX0_exchange_89 : decode cX0_exchange 89 = .ok (.aastore, 1) := dk_83 (dk_at dksX0_exchange_3 19 rfl rfl)
theorem dX0_exchange_90 : decode cX0_exchange 90 = .ok (.return_, 1) := dk_177 (dk_at dksX0_exchange_3 20 rfl rfl)
abbrev cX0_stamp : ByteArray := prog_1_method_25_code
def yX0_stamp : MethodName := ⟨RX0, "stamp", "(Ljava/lang/Object;)V"⟩
def dkwX0_stamp_8 : List UInt8 := [184, 0, 113, 77, 44, 198, 0, 7, 44, 184, 0, 145, 132, 1, 1, 167, 255, 231, 177]
abbrev dktX0_stamp_8 : List UInt8 := dkwX0_stamp_8 ++ []
def dkwX0_stamp_7 : List UInt8 := [3, 84, 132, 2, 1, 167, 255, 233, 167, 0, 33, 3, 60, 27, 42, 184, 0, 134, 162, 0, 23, 42, 27]
abbrev dktX0_stamp_7 : List UInt8 := dkwX0_stamp_7 ++ dktX0_stamp_8
def dkwX0_stamp_6 : List UInt8 := [192, 0, 83, 76, 3, 61, 28, 43, 190, 162, 0, 23, 43, 28, 43, 28, 51, 154, 0, 7, 4, 167, 0, 4]
abbrev dktX0_stamp_6 : List UInt8 := dkwX0_stamp_6 ++ dktX0_stamp_7
def dkwX0_stamp_5 : List UInt8 := [20, 0, 143, 99, 82, 132, 2, 1, 167, 255, 238, 167, 0, 76, 42, 193, 0, 83, 153, 0, 39, 42]
abbrev dktX0_stamp_5 : List UInt8 := dkwX0_stamp_5 ++ dktX0_stamp_6
def dkwX0_stamp_4 : List UInt8 := [193, 0, 79, 153, 0, 34, 42, 192, 0, 79, 76, 3, 61, 28, 43, 190, 162, 0, 18, 43, 28, 92, 49]
abbrev dktX0_stamp_4 : List UInt8 := dkwX0_stamp_4 ++ dktX0_stamp_5
def dkwX0_stamp_3 : List UInt8 := [43, 190, 162, 0, 17, 43, 28, 92, 53, 4, 96, 147, 86, 132, 2, 1, 167, 255, 239, 167, 0, 114, 42]
abbrev dktX0_stamp_3 : List UInt8 := dkwX0_stamp_3 ++ dktX0_stamp_4
def dkwX0_stamp_2 : List UInt8 := [132, 2, 1, 167, 255, 239, 167, 0, 151, 42, 193, 0, 77, 153, 0, 33, 42, 192, 0, 77, 76, 3, 61, 28]
abbrev dktX0_stamp_2 : List UInt8 := dkwX0_stamp_2 ++ dktX0_stamp_3
def dkwX0_stamp_1 : List UInt8 := [153, 0, 33, 42, 192, 0, 45, 76, 3, 61, 28, 43, 190, 162, 0, 17, 43, 28, 92, 52, 4, 96, 146, 85]
abbrev dktX0_stamp_1 : List UInt8 := dkwX0_stamp_1 ++ dktX0_stamp_2
def dkwX0_stamp_0 : List UInt8 := [42, 193, 0, 56, 153, 0, 15, 42, 192, 0, 56, 185, 0, 140, 1, 0, 167, 0, 188, 42, 193, 0, 45]
abbrev dktX0_stamp_0 : List UInt8 := dkwX0_stamp_0 ++ dktX0_stamp_1
theorem dksX0_stamp_0 : cX0_stamp.data.toList.drop 0 = dktX0_stamp_0 := by decide +kernel
theorem dksX0_stamp_1 : cX0_stamp.data.toList.drop 23 = dktX0_stamp_1 := dk_seg dksX0_stamp_0 23 rfl rfl
theorem dksX0_stamp_2 : cX0_stamp.data.toList.drop 47 = dktX0_stamp_2 := dk_seg dksX0_stamp_1 24 rfl rfl
theorem dksX0_stamp_3 : cX0_stamp.data.toList.drop 71 = dktX0_stamp_3 := dk_seg dksX0_stamp_2 24 rfl rfl
theorem dksX0_stamp_4 : cX0_stamp.data.toList.drop 94 = dktX0_stamp_4 := dk_seg dksX0_stamp_3 23 rfl rfl
theorem dksX0_stamp_5 : cX0_stamp.data.toList.drop 117 = dktX0_stamp_5 := dk_seg dksX0_stamp_4 23 rfl rfl
theorem dksX0_stamp_6 : cX0_stamp.data.toList.drop 139 = dktX0_stamp_6 := dk_seg dksX0_stamp_5 22 rfl rfl
theorem dksX0_stamp_7 : cX0_stamp.data.toList.drop 163 = dktX0_stamp_7 := dk_seg dksX0_stamp_6 24 rfl rfl
theorem dksX0_stamp_8 : cX0_stamp.data.toList.drop 186 = dktX0_stamp_8 := dk_seg dksX0_stamp_7 23 rfl rfl
theorem dX0_stamp_0 : decode cX0_stamp 0 = .ok (.aload_n 0, 1) := dk_42 (dk_at dksX0_stamp_0 0 rfl rfl)
theorem dX0_stamp_1 : decode cX0_stamp 1 = .ok (.instanceof 56, 3) := dk_193 0 56 (dk_at dksX0_stamp_0 1 rfl rfl)
theorem dX0_stamp_4 : decode cX0_stamp 4 = .ok (.ifCond .eq 15, 3) := dk_153 0 15 (dk_at dksX0_stamp_0 4 rfl rfl)
theorem dX0_stamp_7 : decode cX0_stamp 7 = .ok (.aload_n 0, 1) := dk_42 (dk_at dksX0_stamp_0 7 rfl rfl)
theorem dX0_stamp_8 : decode cX0_stamp 8 = .ok (.checkcast 56, 3) := dk_192 0 56 (dk_at dksX0_stamp_0 8 rfl rfl)
theorem dX0_stamp_11 : decode cX0_stamp 11 = .ok (.invokeinterface 140 1, 5) := by decide +kernel
theorem dX0_stamp_16 : decode cX0_stamp 16 = .ok (.goto 188, 3) := dk_167 0 188 (dk_at dksX0_stamp_0 16 rfl rfl)
theorem dX0_stamp_19 : decode cX0_stamp 19 = .ok (.aload_n 0, 1) := dk_42 (dk_at dksX0_stamp_0 19 rfl rfl)
theorem dX0_stamp_20 : decode cX0_stamp 20 = .ok (.instanceof 45, 3) := dk_193 0 45 (dk_at dksX0_stamp_0 20 rfl rfl)
theorem dX0_stamp_23 : decode cX0_stamp 23 = .ok (.ifCond .eq 33, 3) := dk_153 0 33 (dk_at dksX0_stamp_1 0 rfl rfl)
theorem dX0_stamp_26 : decode cX0_stamp 26 = .ok (.aload_n 0, 1) := dk_42 (dk_at dksX0_stamp_1 3 rfl rfl)
theorem dX0_stamp_27 : decode cX0_stamp 27 = .ok (.checkcast 45, 3) := dk_192 0 45 (dk_at dksX0_stamp_1 4 rfl rfl)
theorem dX0_stamp_30 : decode cX0_stamp 30 = .ok (.astore_n 1, 1) := dk_76 (dk_at dksX0_stamp_1 7 rfl rfl)
theorem dX0_stamp_31 : decode cX0_stamp 31 = .ok (.iconst 0, 1) := dk_3 (dk_at dksX0_stamp_1 8 rfl rfl)
theorem dX0_stamp_32 : decode cX0_stamp 32 = .ok (.istore_n 2, 1) := dk_61 (dk_at dksX0_stamp_1 9 rfl rfl)
theorem dX0_stamp_33 : decode cX0_stamp 33 = .ok (.iload_n 2, 1) := dk_28 (dk_at dksX0_stamp_1 10 rfl rfl)
theorem dX0_stamp_34 : decode cX0_stamp 34 = .ok (.aload_n 1, 1) := dk_43 (dk_at dksX0_stamp_1 11 rfl rfl)
theorem dX0_stamp_35 : decode cX0_stamp 35 = .ok (.arraylength, 1) := dk_190 (dk_at dksX0_stamp_1 12 rfl rfl)
theorem dX0_stamp_36 : decode cX0_stamp 36 = .ok (.if_icmp .ge 17, 3) := dk_162 0 17 (dk_at dksX0_stamp_1 13 rfl rfl)
theorem dX0_stamp_39 : decode cX0_stamp 39 = .ok (.aload_n 1, 1) := dk_43 (dk_at dksX0_stamp_1 16 rfl rfl)
theorem dX0_stamp_40 : decode cX0_stamp 40 = .ok (.iload_n 2, 1) := dk_28 (dk_at dksX0_stamp_1 17 rfl rfl)
theorem dX0_stamp_41 : decode cX0_stamp 41 = .ok (.dup2, 1) := dk_92 (dk_at dksX0_stamp_1 18 rfl rfl)
theorem dX0_stamp_42 : decode cX0_stamp 42 = .ok (.caload, 1) := dk_52 (dk_at dksX0_stamp_1 19 rfl rfl)
theorem dX0_stamp_43 : decode cX0_stamp 43 = .ok (.iconst 1, 1) := dk_4 (dk_at dksX0_stamp_1 20 rfl rfl)
theorem dX0_stamp_44 : decode cX0_stamp 44 = .ok (.iadd, 1) := dk_96 (dk_at dksX0_stamp_1 21 rfl rfl)
theorem dX0_stamp_45 : decode cX0_stamp 45 = .ok (.i2c, 1) := dk_146 (dk_at dksX0_stamp_1 22 rfl rfl)
theorem dX0_stamp_46 : decode cX0_stamp 46 = .ok (.castore, 1) := dk_85 (dk_at dksX0_stamp_1 23 rfl rfl)
theorem dX0_stamp_47 : decode cX0_stamp 47 = .ok (.iinc 2 1, 3) := dk_132 2 1 (dk_at dksX0_stamp_2 0 rfl rfl)
theorem dX0_stamp_50 : decode cX0_stamp 50 = .ok (.goto (-17), 3) := dk_167 255 239 (dk_at dksX0_stamp_2 3 rfl rfl)
theorem dX0_stamp_53 : decode cX0_stamp 53 = .ok (.goto 151, 3) := dk_167 0 151 (dk_at dksX0_stamp_2 6 rfl rfl)
theorem dX0_stamp_56 : decode cX0_stamp 56 = .ok (.aload_n 0, 1) := dk_42 (dk_at dksX0_stamp_2 9 rfl rfl)
theorem dX0_stamp_57 : decode cX0_stamp 57 = .ok (.instanceof 77, 3) := dk_193 0 77 (dk_at dksX0_stamp_2 10 rfl rfl)
theorem dX0_stamp_60 : decode cX0_stamp 60 = .ok (.ifCond .eq 33, 3) := dk_153 0 33 (dk_at dksX0_stamp_2 13 rfl rfl)
theorem dX0_stamp_63 : decode cX0_stamp 63 = .ok (.aload_n 0, 1) := dk_42 (dk_at dksX0_stamp_2 16 rfl rfl)
theorem dX0_stamp_64 : decode cX0_stamp 64 = .ok (.checkcast 77, 3) := dk_192 0 77 (dk_at dksX0_stamp_2 17 rfl rfl)
theorem dX0_stamp_67 : decode cX0_stamp 67 = .ok (.astore_n 1, 1) := dk_76 (dk_at dksX0_stamp_2 20 rfl rfl)
theorem dX0_stamp_68 : decode cX0_stamp 68 = .ok (.iconst 0, 1) := dk_3 (dk_at dksX0_stamp_2 21 rfl rfl)
theorem dX0_stamp_69 : decode cX0_stamp 69 = .ok (.istore_n 2, 1) := dk_61 (dk_at dksX0_stamp_2 22 rfl rfl)
theorem dX0_stamp_70 : decode cX0_stamp 70 = .ok (.iload_n 2, 1) := dk_28 (dk_at dksX0_stamp_2 23 rfl rfl)
theorem dX0_stamp_71 : decode cX0_stamp 71 = .ok (.aload_n 1, 1) := dk_43 (dk_at dksX0_stamp_3 0 rfl rfl)
theorem dX0_stamp_72 : decode cX0_stamp 72 = .ok (.arraylength, 1) := dk_190 (dk_at dksX0_stamp_3 1 rfl rfl)
theorem dX0_stamp_73 : decode cX0_stamp 73 = .ok (.if_icmp .ge 17, 3) := dk_162 0 17 (dk_at dksX0_stamp_3 2 rfl rfl)
theorem dX0_stamp_76 : decode cX0_stamp 76 = .ok (.aload_n 1, 1) := dk_43 (dk_at dksX0_stamp_3 5 rfl rfl)
theorem dX0_stamp_77 : decode cX0_stamp 77 = .ok (.iload_n 2, 1) := dk_28 (dk_at dksX0_stamp_3 6 rfl rfl)
theorem dX0_stamp_78 : decode cX0_stamp 78 = .ok (.dup2, 1) := dk_92 (dk_at dksX0_stamp_3 7 rfl rfl)
theorem dX0_stamp_79 : decode cX0_stamp 79 = .ok (.saload, 1) := dk_53 (dk_at dksX0_stamp_3 8 rfl rfl)
theorem dX0_stamp_80 : decode cX0_stamp 80 = .ok (.iconst 1, 1) := dk_4 (dk_at dksX0_stamp_3 9 rfl rfl)
theorem dX0_stamp_81 : decode cX0_stamp 81 = .ok (.iadd, 1) := dk_96 (dk_at dksX0_stamp_3 10 rfl rfl)
theorem dX0_stamp_82 : decode cX0_stamp 82 = .ok (.i2s, 1) := dk_147 (dk_at dksX0_stamp_3 11 rfl rfl)
theorem dX0_stamp_83 : decode cX0_stamp 83 = .ok (.sastore, 1) := dk_86 (dk_at dksX0_stamp_3 12 rfl rfl)
theorem dX0_stamp_84 : decode cX0_stamp 84 = .ok (.iinc 2 1, 3) := dk_132 2 1 (dk_at dksX0_stamp_3 13 rfl rfl)
theorem dX0_stamp_87 : decode cX0_stamp 87 = .ok (.goto (-17), 3) := dk_167 255 239 (dk_at dksX0_stamp_3 16 rfl rfl)
theorem dX0_stamp_90 : decode cX0_stamp 90 = .ok (.goto 114, 3) := dk_167 0 114 (dk_at dksX0_stamp_3 19 rfl rfl)
theorem dX0_stamp_93 : decode cX0_stamp 93 = .ok (.aload_n 0, 1) := dk_42 (dk_at dksX0_stamp_3 22 rfl rfl)
theorem dX0_stamp_94 : decode cX0_stamp 94 = .ok (.instanceof 79, 3) := dk_193 0 79 (dk_at dksX0_stamp_4 0 rfl rfl)
theorem dX0_stamp_97 : decode cX0_stamp 97 = .ok (.ifCond .eq 34, 3) := dk_153 0 34 (dk_at dksX0_stamp_4 3 rfl rfl)
theorem dX0_stamp_100 : decode cX0_stamp 100 = .ok (.aload_n 0, 1) := dk_42 (dk_at dksX0_stamp_4 6 rfl rfl)
theorem dX0_stamp_101 : decode cX0_stamp 101 = .ok (.checkcast 79, 3) := dk_192 0 79 (dk_at dksX0_stamp_4 7 rfl rfl)
theorem dX0_stamp_104 : decode cX0_stamp 104 = .ok (.astore_n 1, 1) := dk_76 (dk_at dksX0_stamp_4 10 rfl rfl)
theorem dX0_stamp_105 : decode cX0_stamp 105 = .ok (.iconst 0, 1) := dk_3 (dk_at dksX0_stamp_4 11 rfl rfl)
theorem dX0_stamp_106 : decode cX0_stamp 106 = .ok (.istore_n 2, 1) := dk_61 (dk_at dksX0_stamp_4 12 rfl rfl)
theorem dX0_stamp_107 : decode cX0_stamp 107 = .ok (.iload_n 2, 1) := dk_28 (dk_at dksX0_stamp_4 13 rfl rfl)
theorem dX0_stamp_108 : decode cX0_stamp 108 = .ok (.aload_n 1, 1) := dk_43 (dk_at dksX0_stamp_4 14 rfl rfl)
theorem dX0_stamp_109 : decode cX0_stamp 109 = .ok (.arraylength, 1) := dk_190 (dk_at dksX0_stamp_4 15 rfl rfl)
theorem dX0_stamp_110 : decode cX0_stamp 110 = .ok (.if_icmp .ge 18, 3) := dk_162 0 18 (dk_at dksX0_stamp_4 16 rfl rfl)
theorem dX0_stamp_113 : decode cX0_stamp 113 = .ok (.aload_n 1, 1) := dk_43 (dk_at dksX0_stamp_4 19 rfl rfl)
theorem dX0_stamp_114 : decode cX0_stamp 114 = .ok (.iload_n 2, 1) := dk_28 (dk_at dksX0_stamp_4 20 rfl rfl)
theorem dX0_stamp_115 : decode cX0_stamp 115 = .ok (.dup2, 1) := dk_92 (dk_at dksX0_stamp_4 21 rfl rfl)
theorem dX0_stamp_116 : decode cX0_stamp 116 = .ok (.daload, 1) := dk_49 (dk_at dksX0_stamp_4 22 rfl rfl)
theorem dX0_stamp_117 : decode cX0_stamp 117 = .ok (.ldc2_w 143, 3) := dk_20 0 143 (dk_at dksX0_stamp_5 0 rfl rfl)
theorem dX0_stamp_120 : decode cX0_stamp 120 = .ok (.dadd, 1) := dk_99 (dk_at dksX0_stamp_5 3 rfl rfl)
theorem dX0_stamp_121 : decode cX0_stamp 121 = .ok (.dastore, 1) := dk_82 (dk_at dksX0_stamp_5 4 rfl rfl)
theorem dX0_stamp_122 : decode cX0_stamp 122 = .ok (.iinc 2 1, 3) := dk_132 2 1 (dk_at dksX0_stamp_5 5 rfl rfl)
theorem dX0_stamp_125 : decode cX0_stamp 125 = .ok (.goto (-18), 3) := dk_167 255 238 (dk_at dksX0_stamp_5 8 rfl rfl)
theorem dX0_stamp_128 : decode cX0_stamp 128 = .ok (.goto 76, 3) := dk_167 0 76 (dk_at dksX0_stamp_5 11 rfl rfl)
theorem dX0_stamp_131 : decode cX0_stamp 131 = .ok (.aload_n 0, 1) := dk_42 (dk_at dksX0_stamp_5 14 rfl rfl)
theorem dX0_stamp_132 : decode cX0_stamp 132 = .ok (.instanceof 83, 3) := dk_193 0 83 (dk_at dksX0_stamp_5 15 rfl rfl)
theorem dX0_stamp_135 : decode cX0_stamp 135 = .ok (.ifCond .eq 39, 3) := dk_153 0 39 (dk_at dksX0_stamp_5 18 rfl rfl)
theorem dX0_stamp_138 : decode cX0_stamp 138 = .ok (.aload_n 0, 1) := dk_42 (dk_at dksX0_stamp_5 21 rfl rfl)
theorem dX0_stamp_139 : decode cX0_stamp 139 = .ok (.checkcast 83, 3) := dk_192 0 83 (dk_at dksX0_stamp_6 0 rfl rfl)
theorem dX0_stamp_142 : decode cX0_stamp 142 = .ok (.astore_n 1, 1) := dk_76 (dk_at dksX0_stamp_6 3 rfl rfl)
theorem dX0_stamp_143 : decode cX0_stamp 143 = .ok (.iconst 0, 1) := dk_3 (dk_at dksX0_stamp_6 4 rfl rfl)
theorem dX0_stamp_144 : decode cX0_stamp 144 = .ok (.istore_n 2, 1) := dk_61 (dk_at dksX0_stamp_6 5 rfl rfl)
theorem dX0_stamp_145 : decode cX0_stamp 145 = .ok (.iload_n 2, 1) := dk_28 (dk_at dksX0_stamp_6 6 rfl rfl)
theorem dX0_stamp_146 : decode cX0_stamp 146 = .ok (.aload_n 1, 1) := dk_43 (dk_at dksX0_stamp_6 7 rfl rfl)
theorem dX0_stamp_147 : decode cX0_stamp 147 = .ok (.arraylength, 1) := dk_190 (dk_at dksX0_stamp_6 8 rfl rfl)
theorem dX0_stamp_148 : decode cX0_stamp 148 = .ok (.if_icmp .ge 23, 3) := dk_162 0 23 (dk_at dksX0_stamp_6 9 rfl rfl)
theorem dX0_stamp_151 : decode cX0_stamp 151 = .ok (.aload_n 1, 1) := dk_43 (dk_at dksX0_stamp_6 12 rfl rfl)
theorem dX0_stamp_152 : decode cX0_stamp 152 = .ok (.iload_n 2, 1) := dk_28 (dk_at dksX0_stamp_6 13 rfl rfl)
theorem dX0_stamp_153 : decode cX0_stamp 153 = .ok (.aload_n 1, 1) := dk_43 (dk_at dksX0_stamp_6 14 rfl rfl)
theorem dX0_stamp_154 : decode cX0_stamp 154 = .ok (.iload_n 2, 1) := dk_28 (dk_at dksX0_stamp_6 15 rfl rfl)
theorem dX0_stamp_155 : decode cX0_stamp 155 = .ok (.baload, 1) := dk_51 (dk_at dksX0_stamp_6 16 rfl rfl)
theorem dX0_stamp_156 : decode cX0_stamp 156 = .ok (.ifCond .ne 7, 3) := dk_154 0 7 (dk_at dksX0_stamp_6 17 rfl rfl)
theorem dX0_stamp_159 : decode cX0_stamp 159 = .ok (.iconst 1, 1) := dk_4 (dk_at dksX0_stamp_6 20 rfl rfl)
theorem dX0_stamp_160 : decode cX0_stamp 160 = .ok (.goto 4, 3) := dk_167 0 4 (dk_at dksX0_stamp_6 21 rfl rfl)
theorem dX0_stamp_163 : decode cX0_stamp 163 = .ok (.iconst 0, 1) := dk_3 (dk_at dksX0_stamp_7 0 rfl rfl)
theorem dX0_stamp_164 : decode cX0_stamp 164 = .ok (.bastore, 1) := dk_84 (dk_at dksX0_stamp_7 1 rfl rfl)
theorem dX0_stamp_165 : decode cX0_stamp 165 = .ok (.iinc 2 1, 3) := dk_132 2 1 (dk_at dksX0_stamp_7 2 rfl rfl)
theorem dX0_stamp_168 : decode cX0_stamp 168 = .ok (.goto (-23), 3) := dk_167 255 233 (dk_at dksX0_stamp_7 5 rfl rfl)
theorem dX0_stamp_171 : decode cX0_stamp 171 = .ok (.goto 33, 3) := dk_167 0 33 (dk_at dksX0_stamp_7 8 rfl rfl)
theorem dX0_stamp_174 : decode cX0_stamp 174 = .ok (.iconst 0, 1) := dk_3 (dk_at dksX0_stamp_7 11 rfl rfl)
theorem dX0_stamp_175 : decode cX0_stamp 175 = .ok (.istore_n 1, 1) := dk_60 (dk_at dksX0_stamp_7 12 rfl rfl)
theorem dX0_stamp_176 : decode cX0_stamp 176 = .ok (.iload_n 1, 1) := dk_27 (dk_at dksX0_stamp_7 13 rfl rfl)
theorem dX0_stamp_177 : decode cX0_stamp 177 = .ok (.aload_n 0, 1) := dk_42 (dk_at dksX0_stamp_7 14 rfl rfl)
theorem dX0_stamp_178 : decode cX0_stamp 178 = .ok (.invokestatic 134, 3) := dk_184 0 134 (dk_at dksX0_stamp_7 15 rfl rfl)
theorem dX0_stamp_181 : decode cX0_stamp 181 = .ok (.if_icmp .ge 23, 3) := dk_162 0 23 (dk_at dksX0_stamp_7 18 rfl rfl)
theorem dX0_stamp_184 : decode cX0_stamp 184 = .ok (.aload_n 0, 1) := dk_42 (dk_at dksX0_stamp_7 21 rfl rfl)
theorem dX0_stamp_185 : decode cX0_stamp 185 = .ok (.iload_n 1, 1) := dk_27 (dk_at dksX0_stamp_7 22 rfl rfl)
theorem dX0_stamp_186 : decode cX0_stamp 186 = .ok (.invokestatic 113, 3) := dk_184 0 113 (dk_at dksX0_stamp_8 0 rfl rfl)
theorem dX0_stamp_189 : decode cX0_stamp 189 = .ok (.astore_n 2, 1) := dk_77 (dk_at dksX0_stamp_8 3 rfl rfl)
theorem dX0_stamp_190 : decode cX0_stamp 190 = .ok (.aload_n 2, 1) := dk_44 (dk_at dksX0_stamp_8 4 rfl rfl)
theorem dX0_stamp_191 : decode cX0_stamp 191 = .ok (.ifnull 7, 3) := dk_198 0 7 (dk_at dksX0_stamp_8 5 rfl rfl)
theorem dX0_stamp_194 : decode cX0_stamp 194 = .ok (.aload_n 2, 1) := dk_44 (dk_at dksX0_stamp_8 8 rfl rfl)
theorem dX0_stamp_195 : decode cX0_stamp 195 = .ok (.invokestatic 145, 3) := dk_184 0 145 (dk_at dksX0_stamp_8 9 rfl rfl)
theorem dX0_stamp_198 : decode cX0_stamp 198 = .ok (.iinc 1 1, 3) := dk_132 1 1 (dk_at dksX0_stamp_8 12 rfl rfl)
theorem dX0_stamp_201 : decode cX0_stamp 201 = .ok (.goto (-25), 3) := dk_167 255 231 (dk_at dksX0_stamp_8 15 rfl rfl)
theorem dX0_stamp_204 : decode cX0_stamp 204 = .ok (.return_, 1) := dk_177 (dk_at dksX0_stamp_8 18 rfl rfl)
abbrev cX0_split : ByteArray := prog_1_method_32_code
def yX0_split : MethodName := ⟨RX0, "split", "(Ljava/lang/Object;I)V"⟩
def dkwX0_split_2 : List UInt8 := [167, 255, 224, 177]
abbrev dktX0_split_2 : List UInt8 := dkwX0_split_2 ++ []
def dkwX0_split_1 : List UInt8 := [43, 29, 184, 0, 113, 58, 4, 25, 4, 198, 0, 12, 42, 25, 4, 28, 182, 0, 188, 58, 4, 132, 3, 1]
abbrev dktX0_split_1 : List UInt8 := dkwX0_split_1 ++ dktX0_split_2
def dkwX0_split_0 : List UInt8 := [28, 16, 8, 159, 0, 10, 43, 184, 0, 184, 154, 0, 4, 177, 3, 62, 29, 43, 184, 0, 134, 162, 0, 30]
abbrev dktX0_split_0 : List UInt8 := dkwX0_split_0 ++ dktX0_split_1
theorem dksX0_split_0 : cX0_split.data.toList.drop 0 = dktX0_split_0 := by decide +kernel
theorem dksX0_split_1 : cX0_split.data.toList.drop 24 = dktX0_split_1 := dk_seg dksX0_split_0 24 rfl rfl
theorem dksX0_split_2 : cX0_split.data.toList.drop 48 = dktX0_split_2 := dk_seg dksX0_split_1 24 rfl rfl
theorem dX0_split_0 : decode cX0_split 0 = .ok (.iload_n 2, 1) := dk_28 (dk_at dksX0_split_0 0 rfl rfl)
theorem dX0_split_1 : decode cX0_split 1 = .ok (.bipush 8, 2) := dk_16 8 (dk_at dksX0_split_0 1 rfl rfl)
theorem dX0_split_3 : decode cX0_split 3 = .ok (.if_icmp .eq 10, 3) := dk_159 0 10 (dk_at dksX0_split_0 3 rfl rfl)
theorem dX0_split_6 : decode cX0_split 6 = .ok (.aload_n 1, 1) := dk_43 (dk_at dksX0_split_0 6 rfl rfl)
theorem dX0_split_7 : decode cX0_split 7 = .ok (.invokestatic 184, 3) := dk_184 0 184 (dk_at dksX0_split_0 7 rfl rfl)
theorem dX0_split_10 : decode cX0_split 10 = .ok (.ifCond .ne 4, 3) := dk_154 0 4 (dk_at dksX0_split_0 10 rfl rfl)
theorem dX0_split_13 : decode cX0_split 13 = .ok (.return_, 1) := dk_177 (dk_at dksX0_split_0 13 rfl rfl)
theorem dX0_split_14 : decode cX0_split 14 = .ok (.iconst 0, 1) := dk_3 (dk_at dksX0_split_0 14 rfl rfl)
theorem dX0_split_15 : decode cX0_split 15 = .ok (.istore_n 3, 1) := dk_62 (dk_at dksX0_split_0 15 rfl rfl)
theorem dX0_split_16 : decode cX0_split 16 = .ok (.iload_n 3, 1) := dk_29 (dk_at dksX0_split_0 16 rfl rfl)
theorem dX0_split_17 : decode cX0_split 17 = .ok (.aload_n 1, 1) := dk_43 (dk_at dksX0_split_0 17 rfl rfl)
theorem dX0_split_18 : decode cX0_split 18 = .ok (.invokestatic 134, 3) := dk_184 0 134 (dk_at dksX0_split_0 18 rfl rfl)
theorem dX0_split_21 : decode cX0_split 21 = .ok (.if_icmp .ge 30, 3) := dk_162 0 30 (dk_at dksX0_split_0 21 rfl rfl)
theorem dX0_split_24 : decode cX0_split 24 = .ok (.aload_n 1, 1) := dk_43 (dk_at dksX0_split_1 0 rfl rfl)
theorem dX0_split_25 : decode cX0_split 25 = .ok (.iload_n 3, 1) := dk_29 (dk_at dksX0_split_1 1 rfl rfl)
theorem dX0_split_26 : decode cX0_split 26 = .ok (.invokestatic 113, 3) := dk_184 0 113 (dk_at dksX0_split_1 2 rfl rfl)
theorem dX0_split_29 : decode cX0_split 29 = .ok (.astore 4, 2) := dk_58 4 (dk_at dksX0_split_1 5 rfl rfl)
theorem dX0_split_31 : decode cX0_split 31 = .ok (.aload 4, 2) := dk_25 4 (dk_at dksX0_split_1 7 rfl rfl)
theorem dX0_split_33 : decode cX0_split 33 = .ok (.ifnull 12, 3) := dk_198 0 12 (dk_at dksX0_split_1 9 rfl rfl)
theorem dX0_split_36 : decode cX0_split 36 = .ok (.aload_n 0, 1) := dk_42 (dk_at dksX0_split_1 12 rfl rfl)
theorem dX0_split_37 : decode cX0_split 37 = .ok (.aload 4, 2) := dk_25 4 (dk_at dksX0_split_1 13 rfl rfl)
theorem dX0_split_39 : decode cX0_split 39 = .ok (.iload_n 2, 1) := dk_28 (dk_at dksX0_split_1 15 rfl rfl)
theorem dX0_split_40 : decode cX0_split 40 = .ok (.invokevirtual 188, 3) := dk_182 0 188 (dk_at dksX0_split_1 16 rfl rfl)
theorem dX0_split_43 : decode cX0_split 43 = .ok (.astore 4, 2) := dk_58 4 (dk_at dksX0_split_1 19 rfl rfl)
theorem dX0_split_45 : decode cX0_split 45 = .ok (.iinc 3 1, 3) := dk_132 3 1 (dk_at dksX0_split_1 21 rfl rfl)
theorem dX0_split_48 : decode cX0_split 48 = .ok (.goto (-32), 3) := dk_167 255 224 (dk_at dksX0_split_2 0 rfl rfl)
theorem dX0_split_51 : decode cX0_split 51 = .ok (.return_, 1) := dk_177 (dk_at dksX0_split_2 3 rfl rfl)
abbrev cX0_isOfThings : ByteArray := prog_1_method_24_code
def yX0_isOfThings : MethodName := ⟨RX0, "isOfThings", "(Ljava/lang/Object;)Z"⟩
def dkwX0_isOfThings_1 : List UInt8 := [167, 0, 4, 3, 172]
abbrev dktX0_isOfThings_1 : List UInt8 := dkwX0_isOfThings_1 ++ []
def dkwX0_isOfThings_0 : List UInt8 := [42, 193, 0, 101, 154, 0, 17, 42, 193, 0, 103, 154, 0, 10, 42, 193, 0, 105, 153, 0, 7, 4]
abbrev dktX0_isOfThings_0 : List UInt8 := dkwX0_isOfThings_0 ++ dktX0_isOfThings_1
theorem dksX0_isOfThings_0 : cX0_isOfThings.data.toList.drop 0 = dktX0_isOfThings_0 := by decide +kernel
theorem dksX0_isOfThings_1 : cX0_isOfThings.data.toList.drop 22 = dktX0_isOfThings_1 := dk_seg dksX0_isOfThings_0 22 rfl rfl
theorem dX0_isOfThings_0 : decode cX0_isOfThings 0 = .ok (.aload_n 0, 1) := dk_42 (dk_at dksX0_isOfThings_0 0 rfl rfl)
theorem dX0_isOfThings_1 : decode cX0_isOfThings 1 = .ok (.instanceof 101, 3) := dk_193 0 101 (dk_at dksX0_isOfThings_0 1 rfl rfl)
theorem dX0_isOfThings_4 : decode cX0_isOfThings 4 = .ok (.ifCond .ne 17, 3) := dk_154 0 17 (dk_at dksX0_isOfThings_0 4 rfl rfl)
theorem dX0_isOfThings_7 : decode cX0_isOfThings 7 = .ok (.aload_n 0, 1) := dk_42 (dk_at dksX0_isOfThings_0 7 rfl rfl)
theorem dX0_isOfThings_8 : decode cX0_isOfThings 8 = .ok (.instanceof 103, 3) := dk_193 0 103 (dk_at dksX0_isOfThings_0 8 rfl rfl)
theorem dX0_isOfThings_11 : decode cX0_isOfThings 11 = .ok (.ifCond .ne 10, 3) := dk_154 0 10 (dk_at dksX0_isOfThings_0 11 rfl rfl)
theorem dX0_isOfThings_14 : decode cX0_isOfThings 14 = .ok (.aload_n 0, 1) := dk_42 (dk_at dksX0_isOfThings_0 14 rfl rfl)
theorem dX0_isOfThings_15 : decode cX0_isOfThings 15 = .ok (.instanceof 105, 3) := dk_193 0 105 (dk_at dksX0_isOfThings_0 15 rfl rfl)
theorem dX0_isOfThings_18 : decode cX0_isOfThings 18 = .ok (.ifCond .eq 7, 3) := dk_153 0 7 (dk_at dksX0_isOfThings_0 18 rfl rfl)
theorem dX0_isOfThings_21 : decode cX0_isOfThings 21 = .ok (.iconst 1, 1) := dk_4 (dk_at dksX0_isOfThings_0 21 rfl rfl)
theorem dX0_isOfThings_22 : decode cX0_isOfThings 22 = .ok (.goto 4, 3) := dk_167 0 4 (dk_at dksX0_isOfThings_1 0 rfl rfl)
theorem dX0_isOfThings_25 : decode cX0_isOfThings 25 = .ok (.iconst 0, 1) := dk_3 (dk_at dksX0_isOfThings_1 3 rfl rfl)
theorem dX0_isOfThings_26 : decode cX0_isOfThings 26 = .ok (.ireturn, 1) := dk_172 (dk_at dksX0_isOfThings_1 4 rfl rfl)
abbrev cX0_out : ByteArray := prog_1_method_36_code
def yX0_out : MethodName := ⟨RX0, "out", "()I"⟩
def dkwX0_out_0 : List UInt8 := [42, 180, 0, 217, 199, 0, 7, 2, 167, 0, 11, 42, 42, 180, 0, 217, 182, 0, 117, 172]
abbrev dktX0_out_0 : List UInt8 := dkwX0_out_0 ++ []
theorem dksX0_out_0 : cX0_out.data.toList.drop 0 = dktX0_out_0 := by decide +kernel
theorem dX0_out_0 : decode cX0_out 0 = .ok (.aload_n 0, 1) := dk_42 (dk_at dksX0_out_0 0 rfl rfl)
theorem dX0_out_1 : decode cX0_out 1 = .ok (.getfield 217, 3) := dk_180 0 217 (dk_at dksX0_out_0 1 rfl rfl)
theorem dX0_out_4 : decode cX0_out 4 = .ok (.ifnonnull 7, 3) := dk_199 0 7 (dk_at dksX0_out_0 4 rfl rfl)
theorem dX0_out_7 : decode cX0_out 7 = .ok (.iconst (-1), 1) := dk_2 (dk_at dksX0_out_0 7 rfl rfl)
theorem dX0_out_8 : decode cX0_out 8 = .ok (.goto 11, 3) := dk_167 0 11 (dk_at dksX0_out_0 8 rfl rfl)
theorem dX0_out_11 : decode cX0_out 11 = .ok (.aload_n 0, 1) := dk_42 (dk_at dksX0_out_0 11 rfl rfl)
theorem dX0_out_12 : decode cX0_out 12 = .ok (.aload_n 0, 1) := dk_42 (dk_at dksX0_out_0 12 rfl rfl)
theorem dX0_out_13 : decode cX0_out 13 = .ok (.getfield 217, 3) := dk_180 0 217 (dk_at dksX0_out_0 13 rfl rfl)
theorem dX0_out_16 : decode cX0_out 16 = .ok (.invokevirtual 117, 3) := dk_182 0 117 (dk_at dksX0_out_0 16 rfl rfl)
theorem dX0_out_19 : decode cX0_out 19 = .ok (.ireturn, 1) := dk_172 (dk_at dksX0_out_0 19 rfl rfl)
abbrev cX0_told : ByteArray := prog_1_method_37_code
def yX0_told : MethodName := ⟨RX0, "told", "(III)I"⟩
def dkwX0_told_5 : List UInt8 := [2, 167, 0, 12, 42, 25, 4, 180, 0, 178, 182, 0, 117, 172, 16, 254, 172]
abbrev dktX0_told_5 : List UInt8 := dkwX0_told_5 ++ []
def dkwX0_told_4 : List UInt8 := [182, 0, 117, 172, 25, 4, 180, 0, 198, 172, 25, 4, 180, 0, 175, 172, 25, 4, 180, 0, 178, 199, 0, 7]
abbrev dktX0_told_4 : List UInt8 := dkwX0_told_4 ++ dktX0_told_5
def dkwX0_told_3 : List UInt8 := [25, 4, 180, 0, 204, 172, 25, 4, 180, 0, 214, 199, 0, 7, 2, 167, 0, 12, 42, 25, 4, 180, 0, 214]
abbrev dktX0_told_3 : List UInt8 := dkwX0_told_3 ++ dktX0_told_4
def dkwX0_told_2 : List UInt8 := [170, 0, 0, 0, 0, 0, 97, 0, 0, 0, 0, 0, 0, 0, 4, 0, 0, 0, 35, 0, 0, 0, 41, 0, 0, 0, 63, 0, 0, 0, 69, 0, 0, 0, 75]
abbrev dktX0_told_2 : List UInt8 := dkwX0_told_2 ++ dktX0_told_3
def dkwX0_told_1 : List UInt8 := [29]
abbrev dktX0_told_1 : List UInt8 := dkwX0_told_1 ++ dktX0_told_2
def dkwX0_told_0 : List UInt8 := [42, 27, 28, 182, 0, 165, 154, 0, 6, 16, 254, 172, 42, 180, 0, 17, 7, 27, 104, 28, 96, 50, 58, 4]
abbrev dktX0_told_0 : List UInt8 := dkwX0_told_0 ++ dktX0_told_1
theorem dksX0_told_0 : cX0_told.data.toList.drop 0 = dktX0_told_0 := by decide +kernel
theorem dksX0_told_1 : cX0_told.data.toList.drop 24 = dktX0_told_1 := dk_seg dksX0_told_0 24 rfl rfl
theorem dksX0_told_2 : cX0_told.data.toList.drop 25 = dktX0_told_2 := dk_seg dksX0_told_1 1 rfl rfl
theorem dksX0_told_3 : cX0_told.data.toList.drop 60 = dktX0_told_3 := dk_seg dksX0_told_2 35 rfl rfl
theorem dksX0_told_4 : cX0_told.data.toList.drop 84 = dktX0_told_4 := dk_seg dksX0_told_3 24 rfl rfl
theorem dksX0_told_5 : cX0_told.data.toList.drop 108 = dktX0_told_5 := dk_seg dksX0_told_4 24 rfl rfl
theorem dX0_told_0 : decode cX0_told 0 = .ok (.aload_n 0, 1) := dk_42 (dk_at dksX0_told_0 0 rfl rfl)
theorem dX0_told_1 : decode cX0_told 1 = .ok (.iload_n 1, 1) := dk_27 (dk_at dksX0_told_0 1 rfl rfl)
theorem dX0_told_2 : decode cX0_told 2 = .ok (.iload_n 2, 1) := dk_28 (dk_at dksX0_told_0 2 rfl rfl)
theorem dX0_told_3 : decode cX0_told 3 = .ok (.invokevirtual 165, 3) := dk_182 0 165 (dk_at dksX0_told_0 3 rfl rfl)
theorem dX0_told_6 : decode cX0_told 6 = .ok (.ifCond .ne 6, 3) := dk_154 0 6 (dk_at dksX0_told_0 6 rfl rfl)
theorem dX0_told_9 : decode cX0_told 9 = .ok (.bipush (-2), 2) := dk_16 254 (dk_at dksX0_told_0 9 rfl rfl)
theorem dX0_told_11 : decode cX0_told 11 = .ok (.ireturn, 1) := dk_172 (dk_at dksX0_told_0 11 rfl rfl)
theorem dX0_told_12 : decode cX0_told 12 = .ok (.aload_n 0, 1) := dk_42 (dk_at dksX0_told_0 12 rfl rfl)
theorem dX0_told_13 : decode cX0_told 13 = .ok (.getfield 17, 3) := dk_180 0 17 (dk_at dksX0_told_0 13 rfl rfl)
theorem dX0_told_16 : decode cX0_told 16 = .ok (.iconst 4, 1) := dk_7 (dk_at dksX0_told_0 16 rfl rfl)
theorem dX0_told_17 : decode cX0_told 17 = .ok (.iload_n 1, 1) := dk_27 (dk_at dksX0_told_0 17 rfl rfl)
theorem dX0_told_18 : decode cX0_told 18 = .ok (.imul, 1) := dk_104 (dk_at dksX0_told_0 18 rfl rfl)
theorem dX0_told_19 : decode cX0_told 19 = .ok (.iload_n 2, 1) := dk_28 (dk_at dksX0_told_0 19 rfl rfl)
theorem dX0_told_20 : decode cX0_told 20 = .ok (.iadd, 1) := dk_96 (dk_at dksX0_told_0 20 rfl rfl)
theorem dX0_told_21 : decode cX0_told 21 = .ok (.aaload, 1) := dk_50 (dk_at dksX0_told_0 21 rfl rfl)
theorem dX0_told_22 : decode cX0_told 22 = .ok (.astore 4, 2) := dk_58 4 (dk_at dksX0_told_0 22 rfl rfl)
theorem dX0_told_24 : decode cX0_told 24 = .ok (.iload_n 3, 1) := dk_29 (dk_at dksX0_told_1 0 rfl rfl)
theorem dX0_told_25 : decode cX0_told 25 = .ok (.tableswitch 97 0 4 #[35, 41, 63, 69, 75], 35) := by decide +kernel
theorem dX0_told_60 : decode cX0_told 60 = .ok (.aload 4, 2) := dk_25 4 (dk_at dksX0_told_3 0 rfl rfl)
theorem dX0_told_62 : decode cX0_told 62 = .ok (.getfield 204, 3) := dk_180 0 204 (dk_at dksX0_told_3 2 rfl rfl)
theorem dX0_told_65 : decode cX0_told 65 = .ok (.ireturn, 1) := dk_172 (dk_at dksX0_told_3 5 rfl rfl)
theorem dX0_told_66 : decode cX0_told 66 = .ok (.aload 4, 2) := dk_25 4 (dk_at dksX0_told_3 6 rfl rfl)
theorem dX0_told_68 : decode cX0_told 68 = .ok (.getfield 214, 3) := dk_180 0 214 (dk_at dksX0_told_3 8 rfl rfl)
theorem dX0_told_71 : decode cX0_told 71 = .ok (.ifnonnull 7, 3) := dk_199 0 7 (dk_at dksX0_told_3 11 rfl rfl)
theorem dX0_told_74 : decode cX0_told 74 = .ok (.iconst (-1), 1) := dk_2 (dk_at dksX0_told_3 14 rfl rfl)
theorem dX0_told_75 : decode cX0_told 75 = .ok (.goto 12, 3) := dk_167 0 12 (dk_at dksX0_told_3 15 rfl rfl)
theorem dX0_told_78 : decode cX0_told 78 = .ok (.aload_n 0, 1) := dk_42 (dk_at dksX0_told_3 18 rfl rfl)
theorem dX0_told_79 : decode cX0_told 79 = .ok (.aload 4, 2) := dk_25 4 (dk_at dksX0_told_3 19 rfl rfl)
theorem dX0_told_81 : decode cX0_told 81 = .ok (.getfield 214, 3) := dk_180 0 214 (dk_at dksX0_told_3 21 rfl rfl)
theorem dX0_told_84 : decode cX0_told 84 = .ok (.invokevirtual 117, 3) := dk_182 0 117 (dk_at dksX0_told_4 0 rfl rfl)
theorem dX0_told_87 : decode cX0_told 87 = .ok (.ireturn, 1) := dk_172 (dk_at dksX0_told_4 3 rfl rfl)
theorem dX0_told_88 : decode cX0_told 88 = .ok (.aload 4, 2) := dk_25 4 (dk_at dksX0_told_4 4 rfl rfl)
theorem dX0_told_90 : decode cX0_told 90 = .ok (.getfield 198, 3) := dk_180 0 198 (dk_at dksX0_told_4 6 rfl rfl)
theorem dX0_told_93 : decode cX0_told 93 = .ok (.ireturn, 1) := dk_172 (dk_at dksX0_told_4 9 rfl rfl)
theorem dX0_told_94 : decode cX0_told 94 = .ok (.aload 4, 2) := dk_25 4 (dk_at dksX0_told_4 10 rfl rfl)
theorem dX0_told_96 : decode cX0_told 96 = .ok (.getfield 175, 3) := dk_180 0 175 (dk_at dksX0_told_4 12 rfl rfl)
theorem dX0_told_99 : decode cX0_told 99 = .ok (.ireturn, 1) := dk_172 (dk_at dksX0_told_4 15 rfl rfl)
theorem dX0_told_100 : decode cX0_told 100 = .ok (.aload 4, 2) := dk_25 4 (dk_at dksX0_told_4 16 rfl rfl)
theorem dX0_told_102 : decode cX0_told 102 = .ok (.getfield 178, 3) := dk_180 0 178 (dk_at dksX0_told_4 18 rfl rfl)
theorem dX0_told_105 : decode cX0_told 105 = .ok (.ifnonnull 7, 3) := dk_199 0 7 (dk_at dksX0_told_4 21 rfl rfl)
theorem dX0_told_108 : decode cX0_told 108 = .ok (.iconst (-1), 1) := dk_2 (dk_at dksX0_told_5 0 rfl rfl)
theorem dX0_told_109 : decode cX0_told 109 = .ok (.goto 12, 3) := dk_167 0 12 (dk_at dksX0_told_5 1 rfl rfl)
theorem dX0_told_112 : decode cX0_told 112 = .ok (.aload_n 0, 1) := dk_42 (dk_at dksX0_told_5 4 rfl rfl)
theorem dX0_told_113 : decode cX0_told 113 = .ok (.aload 4, 2) := dk_25 4 (dk_at dksX0_told_5 5 rfl rfl)
theorem dX0_told_115 : decode cX0_told 115 = .ok (.getfield 178, 3) := dk_180 0 178 (dk_at dksX0_told_5 7 rfl rfl)
theorem dX0_told_118 : decode cX0_told 118 = .ok (.invokevirtual 117, 3) := dk_182 0 117 (dk_at dksX0_told_5 10 rfl rfl)
theorem dX0_told_121 : decode cX0_told 121 = .ok (.ireturn, 1) := dk_172 (dk_at dksX0_told_5 13 rfl rfl)
theorem dX0_told_122 : decode cX0_told 122 = .ok (.bipush (-2), 2) := dk_16 254 (dk_at dksX0_told_5 14 rfl rfl)
theorem dX0_told_124 : decode cX0_told 124 = .ok (.ireturn, 1) := dk_172 (dk_at dksX0_told_5 16 rfl rfl)
abbrev cX0_count : ByteArray := prog_1_method_38_code
def yX0_count : MethodName := ⟨RX0, "count", "(I)I"⟩
def dkwX0_count_3 : List UInt8 := [172, 16, 254, 172]
abbrev dktX0_count_3 : List UInt8 := dkwX0_count_3 ++ []
def dkwX0_count_2 : List UInt8 := [42, 180, 0, 25, 172, 42, 180, 0, 36, 172, 42, 180, 0, 39, 172, 42, 180, 0, 42, 172, 42, 180, 0, 181]
abbrev dktX0_count_2 : List UInt8 := dkwX0_count_2 ++ dktX0_count_3
def dkwX0_count_1 : List UInt8 := [170, 0, 0, 0, 0, 0, 60, 0, 0, 0, 0, 0, 0, 0, 4, 0, 0, 0, 35, 0, 0, 0, 40, 0, 0, 0, 45, 0, 0, 0, 50, 0, 0, 0, 55]
abbrev dktX0_count_1 : List UInt8 := dkwX0_count_1 ++ dktX0_count_2
def dkwX0_count_0 : List UInt8 := [27]
abbrev dktX0_count_0 : List UInt8 := dkwX0_count_0 ++ dktX0_count_1
theorem dksX0_count_0 : cX0_count.data.toList.drop 0 = dktX0_count_0 := by decide +kernel
theorem dksX0_count_1 : cX0_count.data.toList.drop 1 = dktX0_count_1 := dk_seg dksX0_count_0 1 rfl rfl
theorem dksX0_count_2 : cX0_count.data.toList.drop 36 = dktX0_count_2 := dk_seg dksX0_count_1 35 rfl rfl
theorem dksX0_count_3 : cX0_count.data.toList.drop 60 = dktX0_count_3 := dk_seg dksX0_count_2 24 rfl rfl
theorem dX0_count_0 : decode cX0_count 0 = .ok (.iload_n 1, 1) := dk_27 (dk_at dksX0_count_0 0 rfl rfl)
theorem dX0_count_1 : decode cX0_count 1 = .ok (.tableswitch 60 0 4 #[35, 40, 45, 50, 55], 35) := by decide +kernel
theorem dX0_count_36 : decode cX0_count 36 = .ok (.aload_n 0, 1) := dk_42 (dk_at dksX0_count_2 0 rfl rfl)
theorem dX0_count_37 : decode cX0_count 37 = .ok (.getfield 25, 3) := dk_180 0 25 (dk_at dksX0_count_2 1 rfl rfl)
theorem dX0_count_40 : decode cX0_count 40 = .ok (.ireturn, 1) := dk_172 (dk_at dksX0_count_2 4 rfl rfl)
theorem dX0_count_41 : decode cX0_count 41 = .ok (.aload_n 0, 1) := dk_42 (dk_at dksX0_count_2 5 rfl rfl)
theorem dX0_count_42 : decode cX0_count 42 = .ok (.getfield 36, 3) := dk_180 0 36 (dk_at dksX0_count_2 6 rfl rfl)
theorem dX0_count_45 : decode cX0_count 45 = .ok (.ireturn, 1) := dk_172 (dk_at dksX0_count_2 9 rfl rfl)
theorem dX0_count_46 : decode cX0_count 46 = .ok (.aload_n 0, 1) := dk_42 (dk_at dksX0_count_2 10 rfl rfl)
theorem dX0_count_47 : decode cX0_count 47 = .ok (.getfield 39, 3) := dk_180 0 39 (dk_at dksX0_count_2 11 rfl rfl)
theorem dX0_count_50 : decode cX0_count 50 = .ok (.ireturn, 1) := dk_172 (dk_at dksX0_count_2 14 rfl rfl)
theorem dX0_count_51 : decode cX0_count 51 = .ok (.aload_n 0, 1) := dk_42 (dk_at dksX0_count_2 15 rfl rfl)
theorem dX0_count_52 : decode cX0_count 52 = .ok (.getfield 42, 3) := dk_180 0 42 (dk_at dksX0_count_2 16 rfl rfl)
theorem dX0_count_55 : decode cX0_count 55 = .ok (.ireturn, 1) := dk_172 (dk_at dksX0_count_2 19 rfl rfl)
theorem dX0_count_56 : decode cX0_count 56 = .ok (.aload_n 0, 1) := dk_42 (dk_at dksX0_count_2 20 rfl rfl)
theorem dX0_count_57 : decode cX0_count 57 = .ok (.getfield 181, 3) := dk_180 0 181 (dk_at dksX0_count_2 21 rfl rfl)
theorem dX0_count_60 : decode cX0_count 60 = .ok (.ireturn, 1) := dk_172 (dk_at dksX0_count_3 0 rfl rfl)
theorem dX0_count_61 : decode cX0_count 61 = .ok (.bipush (-2), 2) := dk_16 254 (dk_at dksX0_count_3 1 rfl rfl)
theorem dX0_count_63 : decode cX0_count 63 = .ok (.ireturn, 1) := dk_172 (dk_at dksX0_count_3 3 rfl rfl)
abbrev cX0_refused : ByteArray := prog_1_method_39_code
def yX0_refused : MethodName := ⟨RX0, "refused", "()I"⟩
theorem dX0_refused_0 : decode cX0_refused 0 = .ok (.aload_n 0, 1) := by decide +kernel
theorem dX0_refused_1 : decode cX0_refused 1 = .ok (.getfield 33, 3) := by decide +kernel
theorem dX0_refused_4 : decode cX0_refused 4 = .ok (.ireturn, 1) := by decide +kernel
theorem q23 : (Jvm.Cond.initialized "MailRooms") ∈ lw_all := lw_g (lw_at lw_m1 1 rfl) rfl
theorem q39 : (Jvm.Cond.instantiable "MailRooms" (11 : Nat)) ∈ lw_all := lw_g (lw_at lw_m1 17 rfl) rfl
theorem q41 : (Jvm.Cond.instanceMethod ({ cls := "MailRooms", name := "<init>", desc := "()V" } : Jvm.MethodName)) ∈ lw_all := lw_g (lw_at lw_m1 19 rfl) rfl
theorem q42 : (Jvm.Cond.code ({ cls := "MailRooms", name := "<init>", desc := "()V" } : Jvm.MethodName) prog_1_method_1_code (1 : Nat) (Option.none : Option Jvm.ClassFile.FieldType)) ∈ lw_all := lw_g (lw_at lw_m1 20 rfl) rfl
theorem q43 : (Jvm.Cond.methodLink "MailRooms" (1 : Nat) ({ cls := "java/lang/Object", name := "<init>", desc := "()V" } : Jvm.MethodName)) ∈ lw_all := lw_g (lw_at lw_m1 21 rfl) rfl
theorem q46 : (Jvm.Cond.classLink "MailRooms" (9 : Nat) "MailRooms$Item") ∈ lw_all := lw_g (lw_at lw_m1 24 rfl) rfl
theorem q48 : (Jvm.Cond.classLink "MailRooms" (15 : Nat) "MailRooms$Desk") ∈ lw_all := lw_g (lw_at lw_m1 26 rfl) rfl
theorem q50 : (Jvm.Cond.fieldLink "MailRooms" (11 : Nat) "MailRooms" "items" "[LMailRooms$Item;") ∈ lw_all := lw_g (lw_at lw_m1 28 rfl) rfl
theorem q51 : (Jvm.Cond.fieldLink "MailRooms" (25 : Nat) "MailRooms" "many" "I") ∈ lw_all := lw_g (lw_at lw_m1 29 rfl) rfl
theorem q52 : (Jvm.Cond.fieldLink "MailRooms" (33 : Nat) "MailRooms" "refused" "I") ∈ lw_all := lw_g (lw_at lw_m1 30 rfl) rfl
theorem q53 : (Jvm.Cond.fieldLink "MailRooms" (36 : Nat) "MailRooms" "casts" "I") ∈ lw_all := lw_g (lw_at lw_m1 31 rfl) rfl
theorem q54 : (Jvm.Cond.fieldLink "MailRooms" (39 : Nat) "MailRooms" "indexes" "I") ∈ lw_all := lw_g (lw_at lw_m1 32 rfl) rfl
theorem q55 : (Jvm.Cond.fieldLink "MailRooms" (42 : Nat) "MailRooms" "stores" "I") ∈ lw_all := lw_g (lw_at lw_m1 33 rfl) rfl
theorem q56 : (Jvm.Cond.fieldLink "MailRooms" (181 : Nat) "MailRooms" "back" "I") ∈ lw_all := lw_g (lw_at lw_m1 34 rfl) rfl
theorem q57 : (Jvm.Cond.fieldLink "MailRooms" (17 : Nat) "MailRooms" "desks" "[LMailRooms$Desk;") ∈ lw_all := lw_g (lw_at lw_m1 35 rfl) rfl
theorem q58 : (Jvm.Cond.fieldLink "MailRooms" (21 : Nat) "MailRooms" "deskMany" "[I") ∈ lw_all := lw_g (lw_at lw_m1 36 rfl) rfl
theorem q59 : (Jvm.Cond.fieldLink "MailRooms" (195 : Nat) "MailRooms" "works" "I") ∈ lw_all := lw_g (lw_at lw_m1 37 rfl) rfl
theorem q60 : (Jvm.Cond.fieldLink "MailRooms" (217 : Nat) "MailRooms" "out" "Ljava/lang/Object;") ∈ lw_all := lw_g (lw_at lw_m1 38 rfl) rfl
theorem q61 : (Jvm.Cond.laysFinal "MailRooms" "MailRooms" "items" "[LMailRooms$Item;") ∈ lw_all := lw_g (lw_at lw_m1 39 rfl) rfl
theorem q62 : (Jvm.Cond.soleField "MailRooms" "items") ∈ lw_all := lw_g (lw_at lw_m1 40 rfl) rfl
theorem q63 : (Jvm.Cond.lays "MailRooms" "MailRooms" "many" "I") ∈ lw_all := lw_g (lw_at lw_m1 41 rfl) rfl
theorem q64 : (Jvm.Cond.soleField "MailRooms" "many") ∈ lw_all := lw_g (lw_at lw_m1 42 rfl) rfl
theorem q65 : (Jvm.Cond.lays "MailRooms" "MailRooms" "refused" "I") ∈ lw_all := lw_g (lw_at lw_m1 43 rfl) rfl
theorem q66 : (Jvm.Cond.soleField "MailRooms" "refused") ∈ lw_all := lw_g (lw_at lw_m1 44 rfl) rfl
theorem q67 : (Jvm.Cond.lays "MailRooms" "MailRooms" "casts" "I") ∈ lw_all := lw_g (lw_at lw_m1 45 rfl) rfl
theorem q68 : (Jvm.Cond.soleField "MailRooms" "casts") ∈ lw_all := lw_g (lw_at lw_m1 46 rfl) rfl
theorem q69 : (Jvm.Cond.lays "MailRooms" "MailRooms" "indexes" "I") ∈ lw_all := lw_g (lw_at lw_m1 47 rfl) rfl
theorem q70 : (Jvm.Cond.soleField "MailRooms" "indexes") ∈ lw_all := lw_g (lw_at lw_m1 48 rfl) rfl
theorem q71 : (Jvm.Cond.lays "MailRooms" "MailRooms" "stores" "I") ∈ lw_all := lw_g (lw_at lw_m1 49 rfl) rfl
theorem q72 : (Jvm.Cond.soleField "MailRooms" "stores") ∈ lw_all := lw_g (lw_at lw_m1 50 rfl) rfl
theorem q73 : (Jvm.Cond.lays "MailRooms" "MailRooms" "back" "I") ∈ lw_all := lw_g (lw_at lw_m1 51 rfl) rfl
theorem q74 : (Jvm.Cond.soleField "MailRooms" "back") ∈ lw_all := lw_g (lw_at lw_m1 52 rfl) rfl
theorem q75 : (Jvm.Cond.laysFinal "MailRooms" "MailRooms" "desks" "[LMailRooms$Desk;") ∈ lw_all := lw_g (lw_at lw_m1 53 rfl) rfl
theorem q76 : (Jvm.Cond.soleField "MailRooms" "desks") ∈ lw_all := lw_g (lw_at lw_m1 54 rfl) rfl
theorem q77 : (Jvm.Cond.laysFinal "MailRooms" "MailRooms" "deskMany" "[I") ∈ lw_all := lw_g (lw_at lw_m1 55 rfl) rfl
theorem q78 : (Jvm.Cond.soleField "MailRooms" "deskMany") ∈ lw_all := lw_g (lw_at lw_m1 56 rfl) rfl
theorem q79 : (Jvm.Cond.lays "MailRooms" "MailRooms" "works" "I") ∈ lw_all := lw_g (lw_at lw_m1 57 rfl) rfl
theorem q80 : (Jvm.Cond.soleField "MailRooms" "works") ∈ lw_all := lw_g (lw_at lw_m1 58 rfl) rfl
theorem q81 : (Jvm.Cond.lays "MailRooms" "MailRooms" "out" "Ljava/lang/Object;") ∈ lw_all := lw_g (lw_at lw_m1 59 rfl) rfl
theorem q82 : (Jvm.Cond.soleField "MailRooms" "out") ∈ lw_all := lw_g (lw_at lw_m1 60 rfl) rfl
theorem q83 : (Jvm.Cond.superclass "MailRooms" "java/lang/Object") ∈ lw_all := lw_g (lw_at lw_m1 61 rfl) rfl
theorem q86 : (Jvm.Cond.instanceMethod ({ cls := "MailRooms", name := "make", desc := "(II)I" } : Jvm.MethodName)) ∈ lw_all := lw_g (lw_at lw_m1 64 rfl) rfl
theorem q87 : (Jvm.Cond.selects "MailRooms" ({ cls := "MailRooms", name := "make", desc := "(II)I" } : Jvm.MethodName) ({ cls := "MailRooms", name := "make", desc := "(II)I" } : Jvm.MethodName)) ∈ lw_all := lw_g (lw_at lw_m1 65 rfl) rfl
theorem q88 : (Jvm.Cond.code ({ cls := "MailRooms", name := "make", desc := "(II)I" } : Jvm.MethodName) prog_1_method_6_code (3 : Nat) (Option.some Jvm.ClassFile.FieldType.int)) ∈ lw_all := lw_g (lw_at lw_m1 66 rfl) rfl
theorem q89 : (Jvm.Cond.methodLink "MailRooms" (29 : Nat) ({ cls := "MailRooms", name := "isIn", desc := "(III)Z" } : Jvm.MethodName)) ∈ lw_all := lw_g (lw_at lw_m1 67 rfl) rfl
theorem q90 : (Jvm.Cond.static ({ cls := "MailRooms", name := "isIn", desc := "(III)Z" } : Jvm.MethodName)) ∈ lw_all := lw_g (lw_at lw_m1 68 rfl) rfl
theorem q91 : (Jvm.Cond.code ({ cls := "MailRooms", name := "isIn", desc := "(III)Z" } : Jvm.MethodName) prog_1_method_2_code (3 : Nat) (Option.some Jvm.ClassFile.FieldType.boolean)) ∈ lw_all := lw_g (lw_at lw_m1 69 rfl) rfl
theorem q92 : (Jvm.Cond.methodLink "MailRooms" (62 : Nat) ({ cls := "MailRooms", name := "no", desc := "(I)I" } : Jvm.MethodName)) ∈ lw_all := lw_g (lw_at lw_m1 70 rfl) rfl
theorem q93 : (Jvm.Cond.privateMethod ({ cls := "MailRooms", name := "no", desc := "(I)I" } : Jvm.MethodName)) ∈ lw_tbl := lw_at lw_m1 71 rfl
theorem q94 : (Jvm.Cond.instanceMethod ({ cls := "MailRooms", name := "no", desc := "(I)I" } : Jvm.MethodName)) ∈ lw_all := lw_g (lw_at lw_m1 72 rfl) rfl
theorem q95 : (Jvm.Cond.code ({ cls := "MailRooms", name := "no", desc := "(I)I" } : Jvm.MethodName) prog_1_method_4_code (2 : Nat) (Option.some Jvm.ClassFile.FieldType.int)) ∈ lw_all := lw_g (lw_at lw_m1 73 rfl) rfl
theorem q97 : (Jvm.Cond.methodLink "MailRooms" (66 : Nat) ({ cls := "MailRooms", name := "made", desc := "(II)Ljava/lang/Object;" } : Jvm.MethodName)) ∈ lw_all := lw_g (lw_at lw_m1 75 rfl) rfl
theorem q98 : (Jvm.Cond.static ({ cls := "MailRooms", name := "made", desc := "(II)Ljava/lang/Object;" } : Jvm.MethodName)) ∈ lw_all := lw_g (lw_at lw_m1 76 rfl) rfl
theorem q99 : (Jvm.Cond.code ({ cls := "MailRooms", name := "made", desc := "(II)Ljava/lang/Object;" } : Jvm.MethodName) prog_1_method_5_code (2 : Nat) (Option.some (Jvm.ClassFile.FieldType.object "java/lang/Object"))) ∈ lw_all := lw_g (lw_at lw_m1 77 rfl) rfl
theorem q100 : (Jvm.Cond.classLink "MailRooms" (45 : Nat) "[C") ∈ lw_all := lw_g (lw_at lw_m1 78 rfl) rfl
theorem q102 : (Jvm.Cond.classLink "MailRooms" (47 : Nat) "MailRooms$Card") ∈ lw_all := lw_g (lw_at lw_m1 80 rfl) rfl
theorem q104 : (Jvm.Cond.methodLinkNest "MailRooms" (49 : Nat) ({ cls := "MailRooms$Card", name := "<init>", desc := "()V" } : Jvm.MethodName) "MailRooms") ∈ lw_tbl := lw_at lw_m1 82 rfl
theorem q116 : (Jvm.Cond.classLink "MailRooms" (50 : Nat) "MailRooms$GoldCard") ∈ lw_all := lw_g (lw_at lw_m1 94 rfl) rfl
theorem q118 : (Jvm.Cond.methodLinkNest "MailRooms" (52 : Nat) ({ cls := "MailRooms$GoldCard", name := "<init>", desc := "()V" } : Jvm.MethodName) "MailRooms") ∈ lw_tbl := lw_at lw_m1 96 rfl
theorem q124 : (Jvm.Cond.classLink "MailRooms" (53 : Nat) "MailRooms$Token") ∈ lw_all := lw_g (lw_at lw_m1 102 rfl) rfl
theorem q126 : (Jvm.Cond.methodLinkNest "MailRooms" (55 : Nat) ({ cls := "MailRooms$Token", name := "<init>", desc := "()V" } : Jvm.MethodName) "MailRooms") ∈ lw_tbl := lw_at lw_m1 104 rfl
theorem q136 : (Jvm.Cond.classLink "MailRooms" (56 : Nat) "MailRooms$Stamped") ∈ lw_all := lw_g (lw_at lw_m1 114 rfl) rfl
theorem q138 : (Jvm.Cond.classLink "MailRooms" (58 : Nat) "[LMailRooms$Card;") ∈ lw_all := lw_g (lw_at lw_m1 116 rfl) rfl
theorem q140 : (Jvm.Cond.classLink "MailRooms" (60 : Nat) "[LMailRooms$GoldCard;") ∈ lw_all := lw_g (lw_at lw_m1 118 rfl) rfl
theorem q142 : (Jvm.Cond.methodLink "MailRooms" (70 : Nat) ({ cls := "MailRooms$Item", name := "<init>", desc := "(Ljava/lang/Object;)V" } : Jvm.MethodName)) ∈ lw_all := lw_g (lw_at lw_m1 120 rfl) rfl
theorem q147 : (Jvm.Cond.fieldLink "MailRooms" (73 : Nat) "MailRooms$Item" "thing" "Ljava/lang/Object;") ∈ lw_all := lw_g (lw_at lw_m1 125 rfl) rfl
theorem q152 : (Jvm.Cond.instanceMethod ({ cls := "MailRooms", name := "put", desc := "(III)I" } : Jvm.MethodName)) ∈ lw_all := lw_g (lw_at lw_m1 130 rfl) rfl
theorem q153 : (Jvm.Cond.selects "MailRooms" ({ cls := "MailRooms", name := "put", desc := "(III)I" } : Jvm.MethodName) ({ cls := "MailRooms", name := "put", desc := "(III)I" } : Jvm.MethodName)) ∈ lw_all := lw_g (lw_at lw_m1 131 rfl) rfl
theorem q154 : (Jvm.Cond.codeWith ({ cls := "MailRooms", name := "put", desc := "(III)I" } : Jvm.MethodName) prog_1_method_10_code (5 : Nat) (Option.some Jvm.ClassFile.FieldType.int) [((20 : Nat), (35 : Nat), (36 : Nat), (93 : Nat)), ((20 : Nat), (35 : Nat), (45 : Nat), (95 : Nat))]) ∈ lw_all := lw_g (lw_at lw_m1 132 rfl) rfl
theorem q155 : (Jvm.Cond.classLink "MailRooms" (93 : Nat) "java/lang/ClassCastException") ∈ lw_all := lw_g (lw_at lw_m1 133 rfl) rfl
theorem q226 : (Jvm.Cond.classLink "MailRooms" (95 : Nat) "java/lang/ArrayIndexOutOfBoundsException") ∈ lw_all := lw_g (lw_at lw_m1 204 rfl) rfl
theorem q245 : (Jvm.Cond.methodLink "MailRooms" (85 : Nat) ({ cls := "MailRooms", name := "isItem", desc := "(I)Z" } : Jvm.MethodName)) ∈ lw_all := lw_g (lw_at lw_m1 223 rfl) rfl
theorem q246 : (Jvm.Cond.privateMethod ({ cls := "MailRooms", name := "isItem", desc := "(I)Z" } : Jvm.MethodName)) ∈ lw_tbl := lw_at lw_m1 224 rfl
theorem q247 : (Jvm.Cond.instanceMethod ({ cls := "MailRooms", name := "isItem", desc := "(I)Z" } : Jvm.MethodName)) ∈ lw_all := lw_g (lw_at lw_m1 225 rfl) rfl
theorem q248 : (Jvm.Cond.code ({ cls := "MailRooms", name := "isItem", desc := "(I)Z" } : Jvm.MethodName) prog_1_method_3_code (2 : Nat) (Option.some Jvm.ClassFile.FieldType.boolean)) ∈ lw_all := lw_g (lw_at lw_m1 226 rfl) rfl
theorem q249 : (Jvm.Cond.methodLink "MailRooms" (89 : Nat) ({ cls := "MailRooms", name := "set", desc := "(Ljava/lang/Object;II)V" } : Jvm.MethodName)) ∈ lw_all := lw_g (lw_at lw_m1 227 rfl) rfl
theorem q250 : (Jvm.Cond.static ({ cls := "MailRooms", name := "set", desc := "(Ljava/lang/Object;II)V" } : Jvm.MethodName)) ∈ lw_all := lw_g (lw_at lw_m1 228 rfl) rfl
theorem q251 : (Jvm.Cond.code ({ cls := "MailRooms", name := "set", desc := "(Ljava/lang/Object;II)V" } : Jvm.MethodName) prog_1_method_8_code (3 : Nat) (Option.none : Option Jvm.ClassFile.FieldType)) ∈ lw_all := lw_g (lw_at lw_m1 229 rfl) rfl
theorem q252 : (Jvm.Cond.classLink "MailRooms" (77 : Nat) "[S") ∈ lw_all := lw_g (lw_at lw_m1 230 rfl) rfl
theorem q253 : (Jvm.Cond.classLink "MailRooms" (79 : Nat) "[D") ∈ lw_all := lw_g (lw_at lw_m1 231 rfl) rfl
theorem q254 : (Jvm.Cond.constantDouble "MailRooms" (81 : Nat) (4620693217682128896 : UInt64)) ∈ lw_all := lw_g (lw_at lw_m1 232 rfl) rfl
theorem q255 : (Jvm.Cond.classLink "MailRooms" (83 : Nat) "[Z") ∈ lw_all := lw_g (lw_at lw_m1 233 rfl) rfl
theorem q257 : (Jvm.Cond.instanceMethod ({ cls := "MailRooms", name := "get", desc := "(II)I" } : Jvm.MethodName)) ∈ lw_all := lw_g (lw_at lw_m1 235 rfl) rfl
theorem q258 : (Jvm.Cond.selects "MailRooms" ({ cls := "MailRooms", name := "get", desc := "(II)I" } : Jvm.MethodName) ({ cls := "MailRooms", name := "get", desc := "(II)I" } : Jvm.MethodName)) ∈ lw_all := lw_g (lw_at lw_m1 236 rfl) rfl
theorem q259 : (Jvm.Cond.codeWith ({ cls := "MailRooms", name := "get", desc := "(II)I" } : Jvm.MethodName) prog_1_method_11_code (5 : Nat) (Option.some Jvm.ClassFile.FieldType.int) [((24 : Nat), (37 : Nat), (38 : Nat), (93 : Nat)), ((24 : Nat), (37 : Nat), (46 : Nat), (95 : Nat))]) ∈ lw_all := lw_g (lw_at lw_m1 237 rfl) rfl
theorem q260 : (Jvm.Cond.methodLink "MailRooms" (97 : Nat) ({ cls := "MailRooms", name := "number", desc := "(Ljava/lang/Object;I)I" } : Jvm.MethodName)) ∈ lw_all := lw_g (lw_at lw_m1 238 rfl) rfl
theorem q261 : (Jvm.Cond.static ({ cls := "MailRooms", name := "number", desc := "(Ljava/lang/Object;I)I" } : Jvm.MethodName)) ∈ lw_all := lw_g (lw_at lw_m1 239 rfl) rfl
theorem q262 : (Jvm.Cond.code ({ cls := "MailRooms", name := "number", desc := "(Ljava/lang/Object;I)I" } : Jvm.MethodName) prog_1_method_9_code (2 : Nat) (Option.some Jvm.ClassFile.FieldType.int)) ∈ lw_all := lw_g (lw_at lw_m2 0 rfl) rfl
theorem q264 : (Jvm.Cond.instanceMethod ({ cls := "MailRooms", name := "lay", desc := "(III)I" } : Jvm.MethodName)) ∈ lw_all := lw_g (lw_at lw_m2 2 rfl) rfl
theorem q265 : (Jvm.Cond.selects "MailRooms" ({ cls := "MailRooms", name := "lay", desc := "(III)I" } : Jvm.MethodName) ({ cls := "MailRooms", name := "lay", desc := "(III)I" } : Jvm.MethodName)) ∈ lw_all := lw_g (lw_at lw_m2 3 rfl) rfl
theorem q266 : (Jvm.Cond.codeWith ({ cls := "MailRooms", name := "lay", desc := "(III)I" } : Jvm.MethodName) prog_1_method_13_code (6 : Nat) (Option.some Jvm.ClassFile.FieldType.int) [((53 : Nat), (69 : Nat), (70 : Nat), (93 : Nat)), ((53 : Nat), (69 : Nat), (79 : Nat), (95 : Nat)), ((53 : Nat), (69 : Nat), (88 : Nat), (111 : Nat))]) ∈ lw_all := lw_g (lw_at lw_m2 4 rfl) rfl
theorem q267 : (Jvm.Cond.classLink "MailRooms" (111 : Nat) "java/lang/ArrayStoreException") ∈ lw_all := lw_g (lw_at lw_m2 5 rfl) rfl
theorem q281 : (Jvm.Cond.methodLink "MailRooms" (107 : Nat) ({ cls := "MailRooms", name := "laid", desc := "(Ljava/lang/Object;ILjava/lang/Object;)V" } : Jvm.MethodName)) ∈ lw_all := lw_g (lw_at lw_m2 19 rfl) rfl
theorem q282 : (Jvm.Cond.static ({ cls := "MailRooms", name := "laid", desc := "(Ljava/lang/Object;ILjava/lang/Object;)V" } : Jvm.MethodName)) ∈ lw_all := lw_g (lw_at lw_m2 20 rfl) rfl
theorem q283 : (Jvm.Cond.code ({ cls := "MailRooms", name := "laid", desc := "(Ljava/lang/Object;ILjava/lang/Object;)V" } : Jvm.MethodName) prog_1_method_12_code (3 : Nat) (Option.none : Option Jvm.ClassFile.FieldType)) ∈ lw_all := lw_g (lw_at lw_m2 21 rfl) rfl
theorem q284 : (Jvm.Cond.classLink "MailRooms" (101 : Nat) "[[C") ∈ lw_all := lw_g (lw_at lw_m2 22 rfl) rfl
theorem q285 : (Jvm.Cond.classLink "MailRooms" (103 : Nat) "[LMailRooms$Stamped;") ∈ lw_all := lw_g (lw_at lw_m2 23 rfl) rfl
theorem q286 : (Jvm.Cond.classLink "MailRooms" (105 : Nat) "[[LMailRooms$Card;") ∈ lw_all := lw_g (lw_at lw_m2 24 rfl) rfl
theorem q288 : (Jvm.Cond.instanceMethod ({ cls := "MailRooms", name := "at", desc := "(II)I" } : Jvm.MethodName)) ∈ lw_all := lw_g (lw_at lw_m2 26 rfl) rfl
theorem q289 : (Jvm.Cond.selects "MailRooms" ({ cls := "MailRooms", name := "at", desc := "(II)I" } : Jvm.MethodName) ({ cls := "MailRooms", name := "at", desc := "(II)I" } : Jvm.MethodName)) ∈ lw_all := lw_g (lw_at lw_m2 27 rfl) rfl
theorem q290 : (Jvm.Cond.codeWith ({ cls := "MailRooms", name := "at", desc := "(II)I" } : Jvm.MethodName) prog_1_method_15_code (4 : Nat) (Option.some Jvm.ClassFile.FieldType.int) [((20 : Nat), (37 : Nat), (38 : Nat), (93 : Nat)), ((20 : Nat), (37 : Nat), (46 : Nat), (95 : Nat))]) ∈ lw_all := lw_g (lw_at lw_m2 28 rfl) rfl
theorem q291 : (Jvm.Cond.methodLink "MailRooms" (113 : Nat) ({ cls := "MailRooms", name := "part", desc := "(Ljava/lang/Object;I)Ljava/lang/Object;" } : Jvm.MethodName)) ∈ lw_all := lw_g (lw_at lw_m2 29 rfl) rfl
theorem q292 : (Jvm.Cond.static ({ cls := "MailRooms", name := "part", desc := "(Ljava/lang/Object;I)Ljava/lang/Object;" } : Jvm.MethodName)) ∈ lw_all := lw_g (lw_at lw_m2 30 rfl) rfl
theorem q293 : (Jvm.Cond.code ({ cls := "MailRooms", name := "part", desc := "(Ljava/lang/Object;I)Ljava/lang/Object;" } : Jvm.MethodName) prog_1_method_14_code (2 : Nat) (Option.some (Jvm.ClassFile.FieldType.object "java/lang/Object"))) ∈ lw_all := lw_g (lw_at lw_m2 31 rfl) rfl
theorem q294 : (Jvm.Cond.methodLink "MailRooms" (117 : Nat) ({ cls := "MailRooms", name := "numberOf", desc := "(Ljava/lang/Object;)I" } : Jvm.MethodName)) ∈ lw_all := lw_g (lw_at lw_m2 32 rfl) rfl
theorem q295 : (Jvm.Cond.privateMethod ({ cls := "MailRooms", name := "numberOf", desc := "(Ljava/lang/Object;)I" } : Jvm.MethodName)) ∈ lw_tbl := lw_at lw_m2 33 rfl
theorem q296 : (Jvm.Cond.instanceMethod ({ cls := "MailRooms", name := "numberOf", desc := "(Ljava/lang/Object;)I" } : Jvm.MethodName)) ∈ lw_all := lw_g (lw_at lw_m2 34 rfl) rfl
theorem q297 : (Jvm.Cond.code ({ cls := "MailRooms", name := "numberOf", desc := "(Ljava/lang/Object;)I" } : Jvm.MethodName) prog_1_method_7_code (3 : Nat) (Option.some Jvm.ClassFile.FieldType.int)) ∈ lw_all := lw_g (lw_at lw_m2 35 rfl) rfl
theorem q299 : (Jvm.Cond.instanceMethod ({ cls := "MailRooms", name := "is", desc := "(II)I" } : Jvm.MethodName)) ∈ lw_all := lw_g (lw_at lw_m2 37 rfl) rfl
theorem q300 : (Jvm.Cond.selects "MailRooms" ({ cls := "MailRooms", name := "is", desc := "(II)I" } : Jvm.MethodName) ({ cls := "MailRooms", name := "is", desc := "(II)I" } : Jvm.MethodName)) ∈ lw_all := lw_g (lw_at lw_m2 38 rfl) rfl
theorem q301 : (Jvm.Cond.code ({ cls := "MailRooms", name := "is", desc := "(II)I" } : Jvm.MethodName) prog_1_method_18_code (3 : Nat) (Option.some Jvm.ClassFile.FieldType.int)) ∈ lw_all := lw_g (lw_at lw_m2 39 rfl) rfl
theorem q302 : (Jvm.Cond.methodLink "MailRooms" (123 : Nat) ({ cls := "MailRooms", name := "isOf", desc := "(Ljava/lang/Object;I)Z" } : Jvm.MethodName)) ∈ lw_all := lw_g (lw_at lw_m2 40 rfl) rfl
theorem q303 : (Jvm.Cond.static ({ cls := "MailRooms", name := "isOf", desc := "(Ljava/lang/Object;I)Z" } : Jvm.MethodName)) ∈ lw_all := lw_g (lw_at lw_m2 41 rfl) rfl
theorem q304 : (Jvm.Cond.code ({ cls := "MailRooms", name := "isOf", desc := "(Ljava/lang/Object;I)Z" } : Jvm.MethodName) prog_1_method_16_code (2 : Nat) (Option.some Jvm.ClassFile.FieldType.boolean)) ∈ lw_all := lw_g (lw_at lw_m2 42 rfl) rfl
theorem q305 : (Jvm.Cond.classLink "MailRooms" (121 : Nat) "[[LMailRooms$GoldCard;") ∈ lw_all := lw_g (lw_at lw_m2 43 rfl) rfl
theorem q307 : (Jvm.Cond.instanceMethod ({ cls := "MailRooms", name := "stamps", desc := "(I)I" } : Jvm.MethodName)) ∈ lw_all := lw_g (lw_at lw_m2 45 rfl) rfl
theorem q308 : (Jvm.Cond.selects "MailRooms" ({ cls := "MailRooms", name := "stamps", desc := "(I)I" } : Jvm.MethodName) ({ cls := "MailRooms", name := "stamps", desc := "(I)I" } : Jvm.MethodName)) ∈ lw_all := lw_g (lw_at lw_m2 46 rfl) rfl
theorem q309 : (Jvm.Cond.codeWith ({ cls := "MailRooms", name := "stamps", desc := "(I)I" } : Jvm.MethodName) prog_1_method_19_code (4 : Nat) (Option.some Jvm.ClassFile.FieldType.int) [((24 : Nat), (41 : Nat), (42 : Nat), (93 : Nat))]) ∈ lw_all := lw_g (lw_at lw_m2 47 rfl) rfl
theorem q310 : (Jvm.Cond.interfaceEntry "MailRooms" (127 : Nat)) ∈ lw_tbl := lw_at lw_m2 48 rfl
theorem q311 : (Jvm.Cond.methodLink "MailRooms" (127 : Nat) ({ cls := "MailRooms$Stamped", name := "stamps", desc := "()I" } : Jvm.MethodName)) ∈ lw_all := lw_g (lw_at lw_m2 49 rfl) rfl
theorem q330 : (Jvm.Cond.instanceMethod ({ cls := "MailRooms", name := "desk", desc := "(IIIZ)I" } : Jvm.MethodName)) ∈ lw_all := lw_g (lw_at lw_m2 68 rfl) rfl
theorem q331 : (Jvm.Cond.selects "MailRooms" ({ cls := "MailRooms", name := "desk", desc := "(IIIZ)I" } : Jvm.MethodName) ({ cls := "MailRooms", name := "desk", desc := "(IIIZ)I" } : Jvm.MethodName)) ∈ lw_all := lw_g (lw_at lw_m2 69 rfl) rfl
theorem q332 : (Jvm.Cond.code ({ cls := "MailRooms", name := "desk", desc := "(IIIZ)I" } : Jvm.MethodName) prog_1_method_29_code (6 : Nat) (Option.some Jvm.ClassFile.FieldType.int)) ∈ lw_all := lw_g (lw_at lw_m2 70 rfl) rfl
theorem q333 : (Jvm.Cond.methodLink "MailRooms" (147 : Nat) ({ cls := "MailRooms", name := "isRoom", desc := "(I)Z" } : Jvm.MethodName)) ∈ lw_all := lw_g (lw_at lw_m2 71 rfl) rfl
theorem q334 : (Jvm.Cond.static ({ cls := "MailRooms", name := "isRoom", desc := "(I)Z" } : Jvm.MethodName)) ∈ lw_all := lw_g (lw_at lw_m2 72 rfl) rfl
theorem q335 : (Jvm.Cond.code ({ cls := "MailRooms", name := "isRoom", desc := "(I)Z" } : Jvm.MethodName) prog_1_method_26_code (1 : Nat) (Option.some Jvm.ClassFile.FieldType.boolean)) ∈ lw_all := lw_g (lw_at lw_m2 73 rfl) rfl
theorem q337 : (Jvm.Cond.methodLinkNest "MailRooms" (160 : Nat) ({ cls := "MailRooms$Desk", name := "<init>", desc := "()V" } : Jvm.MethodName) "MailRooms") ∈ lw_tbl := lw_at lw_m2 75 rfl
theorem q341 : (Jvm.Cond.fieldLink "MailRooms" (150 : Nat) "MailRooms$Desk" "form" "I") ∈ lw_all := lw_g (lw_at lw_m2 79 rfl) rfl
theorem q342 : (Jvm.Cond.fieldLink "MailRooms" (153 : Nat) "MailRooms$Desk" "act" "I") ∈ lw_all := lw_g (lw_at lw_m2 80 rfl) rfl
theorem q343 : (Jvm.Cond.fieldLink "MailRooms" (156 : Nat) "MailRooms$Desk" "asks" "Z") ∈ lw_all := lw_g (lw_at lw_m2 81 rfl) rfl
theorem q344 : (Jvm.Cond.fieldLink "MailRooms" (204 : Nat) "MailRooms$Desk" "tally" "I") ∈ lw_all := lw_g (lw_at lw_m2 82 rfl) rfl
theorem q345 : (Jvm.Cond.fieldLink "MailRooms" (214 : Nat) "MailRooms$Desk" "held" "Ljava/lang/Object;") ∈ lw_all := lw_g (lw_at lw_m2 83 rfl) rfl
theorem q346 : (Jvm.Cond.fieldLink "MailRooms" (198 : Nat) "MailRooms$Desk" "worked" "I") ∈ lw_all := lw_g (lw_at lw_m2 84 rfl) rfl
theorem q347 : (Jvm.Cond.fieldLink "MailRooms" (175 : Nat) "MailRooms$Desk" "given" "I") ∈ lw_all := lw_g (lw_at lw_m2 85 rfl) rfl
theorem q348 : (Jvm.Cond.fieldLink "MailRooms" (178 : Nat) "MailRooms$Desk" "latest" "Ljava/lang/Object;") ∈ lw_all := lw_g (lw_at lw_m2 86 rfl) rfl
theorem q349 : (Jvm.Cond.fieldLink "MailRooms" (169 : Nat) "MailRooms$Desk" "careful" "Z") ∈ lw_all := lw_g (lw_at lw_m2 87 rfl) rfl
theorem q369 : (Jvm.Cond.methodLink "MailRooms" (161 : Nat) ({ cls := "MailRooms", name := "tell", desc := "(LMailRooms$Desk;IIZ)V" } : Jvm.MethodName)) ∈ lw_all := lw_g (lw_at lw_m2 107 rfl) rfl
theorem q370 : (Jvm.Cond.static ({ cls := "MailRooms", name := "tell", desc := "(LMailRooms$Desk;IIZ)V" } : Jvm.MethodName)) ∈ lw_all := lw_g (lw_at lw_m2 108 rfl) rfl
theorem q371 : (Jvm.Cond.code ({ cls := "MailRooms", name := "tell", desc := "(LMailRooms$Desk;IIZ)V" } : Jvm.MethodName) prog_1_method_28_code (4 : Nat) (Option.none : Option Jvm.ClassFile.FieldType)) ∈ lw_all := lw_g (lw_at lw_m2 109 rfl) rfl
theorem q373 : (Jvm.Cond.instanceMethod ({ cls := "MailRooms", name := "change", desc := "(IIIIZ)I" } : Jvm.MethodName)) ∈ lw_all := lw_g (lw_at lw_m2 111 rfl) rfl
theorem q374 : (Jvm.Cond.selects "MailRooms" ({ cls := "MailRooms", name := "change", desc := "(IIIIZ)I" } : Jvm.MethodName) ({ cls := "MailRooms", name := "change", desc := "(IIIIZ)I" } : Jvm.MethodName)) ∈ lw_all := lw_g (lw_at lw_m2 112 rfl) rfl
theorem q375 : (Jvm.Cond.code ({ cls := "MailRooms", name := "change", desc := "(IIIIZ)I" } : Jvm.MethodName) prog_1_method_30_code (6 : Nat) (Option.some Jvm.ClassFile.FieldType.int)) ∈ lw_all := lw_g (lw_at lw_m2 113 rfl) rfl
theorem q376 : (Jvm.Cond.methodLink "MailRooms" (165 : Nat) ({ cls := "MailRooms", name := "isDesk", desc := "(II)Z" } : Jvm.MethodName)) ∈ lw_all := lw_g (lw_at lw_m2 114 rfl) rfl
theorem q377 : (Jvm.Cond.privateMethod ({ cls := "MailRooms", name := "isDesk", desc := "(II)Z" } : Jvm.MethodName)) ∈ lw_tbl := lw_at lw_m2 115 rfl
theorem q378 : (Jvm.Cond.instanceMethod ({ cls := "MailRooms", name := "isDesk", desc := "(II)Z" } : Jvm.MethodName)) ∈ lw_all := lw_g (lw_at lw_m2 116 rfl) rfl
theorem q379 : (Jvm.Cond.code ({ cls := "MailRooms", name := "isDesk", desc := "(II)Z" } : Jvm.MethodName) prog_1_method_27_code (3 : Nat) (Option.some Jvm.ClassFile.FieldType.boolean)) ∈ lw_all := lw_g (lw_at lw_m2 117 rfl) rfl
theorem q381 : (Jvm.Cond.instanceMethod ({ cls := "MailRooms", name := "hand", desc := "(II)I" } : Jvm.MethodName)) ∈ lw_all := lw_g (lw_at lw_m2 119 rfl) rfl
theorem q382 : (Jvm.Cond.selects "MailRooms" ({ cls := "MailRooms", name := "hand", desc := "(II)I" } : Jvm.MethodName) ({ cls := "MailRooms", name := "hand", desc := "(II)I" } : Jvm.MethodName)) ∈ lw_all := lw_g (lw_at lw_m2 120 rfl) rfl
theorem q383 : (Jvm.Cond.code ({ cls := "MailRooms", name := "hand", desc := "(II)I" } : Jvm.MethodName) prog_1_method_35_code (4 : Nat) (Option.some Jvm.ClassFile.FieldType.int)) ∈ lw_all := lw_g (lw_at lw_m2 121 rfl) rfl
theorem q384 : (Jvm.Cond.methodLink "MailRooms" (188 : Nat) ({ cls := "MailRooms", name := "through", desc := "(Ljava/lang/Object;I)Ljava/lang/Object;" } : Jvm.MethodName)) ∈ lw_all := lw_g (lw_at lw_m2 122 rfl) rfl
theorem q385 : (Jvm.Cond.privateMethod ({ cls := "MailRooms", name := "through", desc := "(Ljava/lang/Object;I)Ljava/lang/Object;" } : Jvm.MethodName)) ∈ lw_tbl := lw_at lw_m2 123 rfl
theorem q386 : (Jvm.Cond.instanceMethod ({ cls := "MailRooms", name := "through", desc := "(Ljava/lang/Object;I)Ljava/lang/Object;" } : Jvm.MethodName)) ∈ lw_all := lw_g (lw_at lw_m2 124 rfl) rfl
theorem q387 : (Jvm.Cond.code ({ cls := "MailRooms", name := "through", desc := "(Ljava/lang/Object;I)Ljava/lang/Object;" } : Jvm.MethodName) prog_1_method_33_code (7 : Nat) (Option.some (Jvm.ClassFile.FieldType.object "java/lang/Object"))) ∈ lw_all := lw_g (lw_at lw_m2 125 rfl) rfl
theorem q388 : (Jvm.Cond.methodLink "MailRooms" (191 : Nat) ({ cls := "MailRooms", name := "takes", desc := "(LMailRooms$Desk;Ljava/lang/Object;)Z" } : Jvm.MethodName)) ∈ lw_all := lw_g (lw_at lw_m2 126 rfl) rfl
theorem q389 : (Jvm.Cond.privateMethod ({ cls := "MailRooms", name := "takes", desc := "(LMailRooms$Desk;Ljava/lang/Object;)Z" } : Jvm.MethodName)) ∈ lw_tbl := lw_at lw_m2 127 rfl
theorem q390 : (Jvm.Cond.instanceMethod ({ cls := "MailRooms", name := "takes", desc := "(LMailRooms$Desk;Ljava/lang/Object;)Z" } : Jvm.MethodName)) ∈ lw_all := lw_g (lw_at lw_m2 128 rfl) rfl
theorem q391 : (Jvm.Cond.codeWith ({ cls := "MailRooms", name := "takes", desc := "(LMailRooms$Desk;Ljava/lang/Object;)Z" } : Jvm.MethodName) prog_1_method_31_code (4 : Nat) (Option.some Jvm.ClassFile.FieldType.boolean) [((23 : Nat), (40 : Nat), (41 : Nat), (93 : Nat))]) ∈ lw_all := lw_g (lw_at lw_m2 129 rfl) rfl
theorem q392 : (Jvm.Cond.methodLink "MailRooms" (172 : Nat) ({ cls := "MailRooms", name := "as", desc := "(Ljava/lang/Object;I)Ljava/lang/Object;" } : Jvm.MethodName)) ∈ lw_all := lw_g (lw_at lw_m2 130 rfl) rfl
theorem q393 : (Jvm.Cond.static ({ cls := "MailRooms", name := "as", desc := "(Ljava/lang/Object;I)Ljava/lang/Object;" } : Jvm.MethodName)) ∈ lw_all := lw_g (lw_at lw_m2 131 rfl) rfl
theorem q394 : (Jvm.Cond.code ({ cls := "MailRooms", name := "as", desc := "(Ljava/lang/Object;I)Ljava/lang/Object;" } : Jvm.MethodName) prog_1_method_17_code (2 : Nat) (Option.some (Jvm.ClassFile.FieldType.object "java/lang/Object"))) ∈ lw_all := lw_g (lw_at lw_m2 132 rfl) rfl
theorem q395 : (Jvm.Cond.methodLink "MailRooms" (201 : Nat) ({ cls := "MailRooms", name := "worked", desc := "(LMailRooms$Desk;Ljava/lang/Object;I)Ljava/lang/Object;" } : Jvm.MethodName)) ∈ lw_all := lw_g (lw_at lw_m2 133 rfl) rfl
theorem q396 : (Jvm.Cond.privateMethod ({ cls := "MailRooms", name := "worked", desc := "(LMailRooms$Desk;Ljava/lang/Object;I)Ljava/lang/Object;" } : Jvm.MethodName)) ∈ lw_tbl := lw_at lw_m2 134 rfl
theorem q397 : (Jvm.Cond.instanceMethod ({ cls := "MailRooms", name := "worked", desc := "(LMailRooms$Desk;Ljava/lang/Object;I)Ljava/lang/Object;" } : Jvm.MethodName)) ∈ lw_all := lw_g (lw_at lw_m2 135 rfl) rfl
theorem q398 : (Jvm.Cond.code ({ cls := "MailRooms", name := "worked", desc := "(LMailRooms$Desk;Ljava/lang/Object;I)Ljava/lang/Object;" } : Jvm.MethodName) prog_1_method_34_code (5 : Nat) (Option.some (Jvm.ClassFile.FieldType.object "java/lang/Object"))) ∈ lw_all := lw_g (lw_at lw_m2 136 rfl) rfl
theorem q399 : (Jvm.Cond.methodLink "MailRooms" (134 : Nat) ({ cls := "MailRooms", name := "size", desc := "(Ljava/lang/Object;)I" } : Jvm.MethodName)) ∈ lw_all := lw_g (lw_at lw_m2 137 rfl) rfl
theorem q400 : (Jvm.Cond.static ({ cls := "MailRooms", name := "size", desc := "(Ljava/lang/Object;)I" } : Jvm.MethodName)) ∈ lw_all := lw_g (lw_at lw_m2 138 rfl) rfl
theorem q401 : (Jvm.Cond.code ({ cls := "MailRooms", name := "size", desc := "(Ljava/lang/Object;)I" } : Jvm.MethodName) prog_1_method_20_code (1 : Nat) (Option.some Jvm.ClassFile.FieldType.int)) ∈ lw_all := lw_g (lw_at lw_m2 139 rfl) rfl
theorem q402 : (Jvm.Cond.methodLink "MailRooms" (207 : Nat) ({ cls := "MailRooms", name := "turn", desc := "(Ljava/lang/Object;)V" } : Jvm.MethodName)) ∈ lw_all := lw_g (lw_at lw_m2 140 rfl) rfl
theorem q403 : (Jvm.Cond.static ({ cls := "MailRooms", name := "turn", desc := "(Ljava/lang/Object;)V" } : Jvm.MethodName)) ∈ lw_all := lw_g (lw_at lw_m2 141 rfl) rfl
theorem q404 : (Jvm.Cond.code ({ cls := "MailRooms", name := "turn", desc := "(Ljava/lang/Object;)V" } : Jvm.MethodName) prog_1_method_23_code (3 : Nat) (Option.none : Option Jvm.ClassFile.FieldType)) ∈ lw_all := lw_g (lw_at lw_m2 142 rfl) rfl
theorem q405 : (Jvm.Cond.methodLink "MailRooms" (137 : Nat) ({ cls := "MailRooms", name := "change", desc := "(Ljava/lang/Object;II)V" } : Jvm.MethodName)) ∈ lw_all := lw_g (lw_at lw_m2 143 rfl) rfl
theorem q406 : (Jvm.Cond.static ({ cls := "MailRooms", name := "change", desc := "(Ljava/lang/Object;II)V" } : Jvm.MethodName)) ∈ lw_all := lw_g (lw_at lw_m2 144 rfl) rfl
theorem q407 : (Jvm.Cond.code ({ cls := "MailRooms", name := "change", desc := "(Ljava/lang/Object;II)V" } : Jvm.MethodName) prog_1_method_21_code (6 : Nat) (Option.none : Option Jvm.ClassFile.FieldType)) ∈ lw_all := lw_g (lw_at lw_m2 145 rfl) rfl
theorem q408 : (Jvm.Cond.methodLink "MailRooms" (131 : Nat) ({ cls := "MailRooms", name := "exchange", desc := "(Ljava/lang/Object;II)V" } : Jvm.MethodName)) ∈ lw_all := lw_g (lw_at lw_m2 146 rfl) rfl
theorem q409 : (Jvm.Cond.static ({ cls := "MailRooms", name := "exchange", desc := "(Ljava/lang/Object;II)V" } : Jvm.MethodName)) ∈ lw_all := lw_g (lw_at lw_m2 147 rfl) rfl
theorem q410 : (Jvm.Cond.code ({ cls := "MailRooms", name := "exchange", desc := "(Ljava/lang/Object;II)V" } : Jvm.MethodName) prog_1_method_22_code (5 : Nat) (Option.none : Option Jvm.ClassFile.FieldType)) ∈ lw_all := lw_g (lw_at lw_m2 148 rfl) rfl
theorem q411 : (Jvm.Cond.methodLink "MailRooms" (145 : Nat) ({ cls := "MailRooms", name := "stamp", desc := "(Ljava/lang/Object;)V" } : Jvm.MethodName)) ∈ lw_all := lw_g (lw_at lw_m2 149 rfl) rfl
theorem q412 : (Jvm.Cond.static ({ cls := "MailRooms", name := "stamp", desc := "(Ljava/lang/Object;)V" } : Jvm.MethodName)) ∈ lw_all := lw_g (lw_at lw_m2 150 rfl) rfl
theorem q413 : (Jvm.Cond.code ({ cls := "MailRooms", name := "stamp", desc := "(Ljava/lang/Object;)V" } : Jvm.MethodName) prog_1_method_25_code (3 : Nat) (Option.none : Option Jvm.ClassFile.FieldType)) ∈ lw_all := lw_g (lw_at lw_m2 151 rfl) rfl
theorem q414 : (Jvm.Cond.interfaceEntry "MailRooms" (140 : Nat)) ∈ lw_tbl := lw_at lw_m2 152 rfl
theorem q415 : (Jvm.Cond.methodLink "MailRooms" (140 : Nat) ({ cls := "MailRooms$Stamped", name := "stamp", desc := "()V" } : Jvm.MethodName)) ∈ lw_all := lw_g (lw_at lw_m2 153 rfl) rfl
theorem q443 : (Jvm.Cond.constantDouble "MailRooms" (143 : Nat) (4593671619917905920 : UInt64)) ∈ lw_all := lw_g (lw_at lw_m2 181 rfl) rfl
theorem q444 : (Jvm.Cond.methodLink "MailRooms" (210 : Nat) ({ cls := "MailRooms", name := "split", desc := "(Ljava/lang/Object;I)V" } : Jvm.MethodName)) ∈ lw_all := lw_g (lw_at lw_m2 182 rfl) rfl
theorem q445 : (Jvm.Cond.privateMethod ({ cls := "MailRooms", name := "split", desc := "(Ljava/lang/Object;I)V" } : Jvm.MethodName)) ∈ lw_tbl := lw_at lw_m2 183 rfl
theorem q446 : (Jvm.Cond.instanceMethod ({ cls := "MailRooms", name := "split", desc := "(Ljava/lang/Object;I)V" } : Jvm.MethodName)) ∈ lw_all := lw_g (lw_at lw_m2 184 rfl) rfl
theorem q447 : (Jvm.Cond.code ({ cls := "MailRooms", name := "split", desc := "(Ljava/lang/Object;I)V" } : Jvm.MethodName) prog_1_method_32_code (5 : Nat) (Option.none : Option Jvm.ClassFile.FieldType)) ∈ lw_all := lw_g (lw_at lw_m2 185 rfl) rfl
theorem q448 : (Jvm.Cond.methodLink "MailRooms" (184 : Nat) ({ cls := "MailRooms", name := "isOfThings", desc := "(Ljava/lang/Object;)Z" } : Jvm.MethodName)) ∈ lw_all := lw_g (lw_at lw_m2 186 rfl) rfl
theorem q449 : (Jvm.Cond.static ({ cls := "MailRooms", name := "isOfThings", desc := "(Ljava/lang/Object;)Z" } : Jvm.MethodName)) ∈ lw_all := lw_g (lw_at lw_m2 187 rfl) rfl
theorem q450 : (Jvm.Cond.code ({ cls := "MailRooms", name := "isOfThings", desc := "(Ljava/lang/Object;)Z" } : Jvm.MethodName) prog_1_method_24_code (1 : Nat) (Option.some Jvm.ClassFile.FieldType.boolean)) ∈ lw_all := lw_g (lw_at lw_m2 188 rfl) rfl
theorem q452 : (Jvm.Cond.instanceMethod ({ cls := "MailRooms", name := "out", desc := "()I" } : Jvm.MethodName)) ∈ lw_all := lw_g (lw_at lw_m2 190 rfl) rfl
theorem q453 : (Jvm.Cond.selects "MailRooms" ({ cls := "MailRooms", name := "out", desc := "()I" } : Jvm.MethodName) ({ cls := "MailRooms", name := "out", desc := "()I" } : Jvm.MethodName)) ∈ lw_all := lw_g (lw_at lw_m2 191 rfl) rfl
theorem q454 : (Jvm.Cond.code ({ cls := "MailRooms", name := "out", desc := "()I" } : Jvm.MethodName) prog_1_method_36_code (1 : Nat) (Option.some Jvm.ClassFile.FieldType.int)) ∈ lw_all := lw_g (lw_at lw_m2 192 rfl) rfl
theorem q456 : (Jvm.Cond.instanceMethod ({ cls := "MailRooms", name := "told", desc := "(III)I" } : Jvm.MethodName)) ∈ lw_all := lw_g (lw_at lw_m2 194 rfl) rfl
theorem q457 : (Jvm.Cond.selects "MailRooms" ({ cls := "MailRooms", name := "told", desc := "(III)I" } : Jvm.MethodName) ({ cls := "MailRooms", name := "told", desc := "(III)I" } : Jvm.MethodName)) ∈ lw_all := lw_g (lw_at lw_m2 195 rfl) rfl
theorem q458 : (Jvm.Cond.code ({ cls := "MailRooms", name := "told", desc := "(III)I" } : Jvm.MethodName) prog_1_method_37_code (5 : Nat) (Option.some Jvm.ClassFile.FieldType.int)) ∈ lw_all := lw_g (lw_at lw_m2 196 rfl) rfl
theorem q460 : (Jvm.Cond.instanceMethod ({ cls := "MailRooms", name := "count", desc := "(I)I" } : Jvm.MethodName)) ∈ lw_all := lw_g (lw_at lw_m2 198 rfl) rfl
theorem q461 : (Jvm.Cond.selects "MailRooms" ({ cls := "MailRooms", name := "count", desc := "(I)I" } : Jvm.MethodName) ({ cls := "MailRooms", name := "count", desc := "(I)I" } : Jvm.MethodName)) ∈ lw_all := lw_g (lw_at lw_m2 199 rfl) rfl
theorem q462 : (Jvm.Cond.code ({ cls := "MailRooms", name := "count", desc := "(I)I" } : Jvm.MethodName) prog_1_method_38_code (2 : Nat) (Option.some Jvm.ClassFile.FieldType.int)) ∈ lw_all := lw_g (lw_at lw_m2 200 rfl) rfl
theorem q464 : (Jvm.Cond.instanceMethod ({ cls := "MailRooms", name := "refused", desc := "()I" } : Jvm.MethodName)) ∈ lw_all := lw_g (lw_at lw_m2 202 rfl) rfl
theorem q465 : (Jvm.Cond.selects "MailRooms" ({ cls := "MailRooms", name := "refused", desc := "()I" } : Jvm.MethodName) ({ cls := "MailRooms", name := "refused", desc := "()I" } : Jvm.MethodName)) ∈ lw_all := lw_g (lw_at lw_m2 203 rfl) rfl
theorem q466 : (Jvm.Cond.code ({ cls := "MailRooms", name := "refused", desc := "()I" } : Jvm.MethodName) prog_1_method_39_code (1 : Nat) (Option.some Jvm.ClassFile.FieldType.int)) ∈ lw_all := lw_g (lw_at lw_m2 204 rfl) rfl
theorem in_X0 : ∀ w ∈ wsX00, w ∈ lw_all := lw_in wsX00 [61, 63, 65, 67, 69, 71, 73, 75, 77, 79, 81] (by decide +kernel) (by decide +kernel)
/-! MailRooms$Item -/
set_option maxRecDepth 100000
def RX2 : String := "MailRooms$Item"
def TX2 : u_T := fun k => match k with
  | _ => ("MailRooms$Item", "thing", "Ljava/lang/Object;", true)
def tyX2 : Nat → FieldType := fun k => match k with
  | _ => .object "java/lang/Object"
abbrev wsX20 : List Cond := u_ws RX2 TX2 1
theorem nmX2 : ∀ a, a < 1 → ∀ b, b < 1 → a ≠ b → (TX2 a).2.1 ≠ (TX2 b).2.1 := by decide +kernel
theorem tyX2_ok : ∀ k, k < 1 → parseFieldDescriptor (TX2 k).2.2.1 = some (tyX2 k) := by decide +kernel
abbrev cX2_init : ByteArray := prog_5_method_1_code
def yX2_init : MethodName := ⟨RX2, "<init>", "(Ljava/lang/Object;)V"⟩
def dkwX2_init_0 : List UInt8 := [42, 183, 0, 1, 42, 43, 181, 0, 7, 177]
abbrev dktX2_init_0 : List UInt8 := dkwX2_init_0 ++ []
theorem dksX2_init_0 : cX2_init.data.toList.drop 0 = dktX2_init_0 := by decide +kernel
theorem dX2_init_0 : decode cX2_init 0 = .ok (.aload_n 0, 1) := dk_42 (dk_at dksX2_init_0 0 rfl rfl)
theorem dX2_init_1 : decode cX2_init 1 = .ok (.invokespecial 1, 3) := dk_183 0 1 (dk_at dksX2_init_0 1 rfl rfl)
theorem dX2_init_4 : decode cX2_init 4 = .ok (.aload_n 0, 1) := dk_42 (dk_at dksX2_init_0 4 rfl rfl)
theorem dX2_init_5 : decode cX2_init 5 = .ok (.aload_n 1, 1) := dk_43 (dk_at dksX2_init_0 5 rfl rfl)
theorem dX2_init_6 : decode cX2_init 6 = .ok (.putfield 7, 3) := dk_181 0 7 (dk_at dksX2_init_0 6 rfl rfl)
theorem dX2_init_9 : decode cX2_init 9 = .ok (.return_, 1) := dk_177 (dk_at dksX2_init_0 9 rfl rfl)
theorem q25 : (Jvm.Cond.initialized "MailRooms$Item") ∈ lw_all := lw_g (lw_at lw_m1 3 rfl) rfl
theorem q96 : (Jvm.Cond.instantiable "MailRooms$Item" (1 : Nat)) ∈ lw_all := lw_g (lw_at lw_m1 74 rfl) rfl
theorem q143 : (Jvm.Cond.instanceMethod ({ cls := "MailRooms$Item", name := "<init>", desc := "(Ljava/lang/Object;)V" } : Jvm.MethodName)) ∈ lw_all := lw_g (lw_at lw_m1 121 rfl) rfl
theorem q144 : (Jvm.Cond.code ({ cls := "MailRooms$Item", name := "<init>", desc := "(Ljava/lang/Object;)V" } : Jvm.MethodName) prog_5_method_1_code (2 : Nat) (Option.none : Option Jvm.ClassFile.FieldType)) ∈ lw_all := lw_g (lw_at lw_m1 122 rfl) rfl
theorem q145 : (Jvm.Cond.methodLink "MailRooms$Item" (1 : Nat) ({ cls := "java/lang/Object", name := "<init>", desc := "()V" } : Jvm.MethodName)) ∈ lw_all := lw_g (lw_at lw_m1 123 rfl) rfl
theorem q146 : (Jvm.Cond.fieldLink "MailRooms$Item" (7 : Nat) "MailRooms$Item" "thing" "Ljava/lang/Object;") ∈ lw_all := lw_g (lw_at lw_m1 124 rfl) rfl
theorem q148 : (Jvm.Cond.laysFinal "MailRooms$Item" "MailRooms$Item" "thing" "Ljava/lang/Object;") ∈ lw_all := lw_g (lw_at lw_m1 126 rfl) rfl
theorem q149 : (Jvm.Cond.soleField "MailRooms$Item" "thing") ∈ lw_all := lw_g (lw_at lw_m1 127 rfl) rfl
theorem q150 : (Jvm.Cond.superclass "MailRooms$Item" "java/lang/Object") ∈ lw_all := lw_g (lw_at lw_m1 128 rfl) rfl
theorem in_X2 : ∀ w ∈ wsX20, w ∈ lw_all := lw_in wsX20 [148] (by decide +kernel) (by decide +kernel)
/-! MailRooms$Card -/
set_option maxRecDepth 100000
def RX3 : String := "MailRooms$Card"
def TX3 : u_T := fun k => match k with
  | _ => ("MailRooms$Card", "stamps", "I", false)
def tyX3 : Nat → FieldType := fun k => match k with
  | _ => .int
abbrev wsX30 : List Cond := u_ws RX3 TX3 1
theorem nmX3 : ∀ a, a < 1 → ∀ b, b < 1 → a ≠ b → (TX3 a).2.1 ≠ (TX3 b).2.1 := by decide +kernel
theorem tyX3_ok : ∀ k, k < 1 → parseFieldDescriptor (TX3 k).2.2.1 = some (tyX3 k) := by decide +kernel
abbrev cX3_init : ByteArray := prog_2_method_1_code
def yX3_init : MethodName := ⟨RX3, "<init>", "()V"⟩
theorem dX3_init_0 : decode cX3_init 0 = .ok (.aload_n 0, 1) := by decide +kernel
theorem dX3_init_1 : decode cX3_init 1 = .ok (.invokespecial 1, 3) := by decide +kernel
theorem dX3_init_4 : decode cX3_init 4 = .ok (.return_, 1) := by decide +kernel
abbrev cX3_stamps : ByteArray := prog_2_method_4_code
def yX3_stamps : MethodName := ⟨RX3, "stamps", "()I"⟩
theorem dX3_stamps_0 : decode cX3_stamps 0 = .ok (.aload_n 0, 1) := by decide +kernel
theorem dX3_stamps_1 : decode cX3_stamps 1 = .ok (.getfield 13, 3) := by decide +kernel
theorem dX3_stamps_4 : decode cX3_stamps 4 = .ok (.ireturn, 1) := by decide +kernel
abbrev cX3_stamp : ByteArray := prog_2_method_2_code
def yX3_stamp : MethodName := ⟨RX3, "stamp", "()V"⟩
def dkwX3_stamp_0 : List UInt8 := [42, 4, 182, 0, 7, 177]
abbrev dktX3_stamp_0 : List UInt8 := dkwX3_stamp_0 ++ []
theorem dksX3_stamp_0 : cX3_stamp.data.toList.drop 0 = dktX3_stamp_0 := by decide +kernel
theorem dX3_stamp_0 : decode cX3_stamp 0 = .ok (.aload_n 0, 1) := dk_42 (dk_at dksX3_stamp_0 0 rfl rfl)
theorem dX3_stamp_1 : decode cX3_stamp 1 = .ok (.iconst 1, 1) := dk_4 (dk_at dksX3_stamp_0 1 rfl rfl)
theorem dX3_stamp_2 : decode cX3_stamp 2 = .ok (.invokevirtual 7, 3) := dk_182 0 7 (dk_at dksX3_stamp_0 2 rfl rfl)
theorem dX3_stamp_5 : decode cX3_stamp 5 = .ok (.return_, 1) := dk_177 (dk_at dksX3_stamp_0 5 rfl rfl)
abbrev cX3_more : ByteArray := prog_2_method_3_code
def yX3_more : MethodName := ⟨RX3, "more", "(I)V"⟩
def dkwX3_more_0 : List UInt8 := [42, 89, 180, 0, 13, 27, 96, 181, 0, 13, 177]
abbrev dktX3_more_0 : List UInt8 := dkwX3_more_0 ++ []
theorem dksX3_more_0 : cX3_more.data.toList.drop 0 = dktX3_more_0 := by decide +kernel
theorem dX3_more_0 : decode cX3_more 0 = .ok (.aload_n 0, 1) := dk_42 (dk_at dksX3_more_0 0 rfl rfl)
theorem dX3_more_1 : decode cX3_more 1 = .ok (.dup, 1) := dk_89 (dk_at dksX3_more_0 1 rfl rfl)
theorem dX3_more_2 : decode cX3_more 2 = .ok (.getfield 13, 3) := dk_180 0 13 (dk_at dksX3_more_0 2 rfl rfl)
theorem dX3_more_5 : decode cX3_more 5 = .ok (.iload_n 1, 1) := dk_27 (dk_at dksX3_more_0 5 rfl rfl)
theorem dX3_more_6 : decode cX3_more 6 = .ok (.iadd, 1) := dk_96 (dk_at dksX3_more_0 6 rfl rfl)
theorem dX3_more_7 : decode cX3_more 7 = .ok (.putfield 13, 3) := dk_181 0 13 (dk_at dksX3_more_0 7 rfl rfl)
theorem dX3_more_10 : decode cX3_more 10 = .ok (.return_, 1) := dk_177 (dk_at dksX3_more_0 10 rfl rfl)
theorem q26 : (Jvm.Cond.initialized "MailRooms$Card") ∈ lw_all := lw_g (lw_at lw_m1 4 rfl) rfl
theorem q103 : (Jvm.Cond.instantiable "MailRooms$Card" (1 : Nat)) ∈ lw_all := lw_g (lw_at lw_m1 81 rfl) rfl
theorem q105 : (Jvm.Cond.instanceMethod ({ cls := "MailRooms$Card", name := "<init>", desc := "()V" } : Jvm.MethodName)) ∈ lw_all := lw_g (lw_at lw_m1 83 rfl) rfl
theorem q106 : (Jvm.Cond.code ({ cls := "MailRooms$Card", name := "<init>", desc := "()V" } : Jvm.MethodName) prog_2_method_1_code (1 : Nat) (Option.none : Option Jvm.ClassFile.FieldType)) ∈ lw_all := lw_g (lw_at lw_m1 84 rfl) rfl
theorem q107 : (Jvm.Cond.methodLink "MailRooms$Card" (1 : Nat) ({ cls := "java/lang/Object", name := "<init>", desc := "()V" } : Jvm.MethodName)) ∈ lw_all := lw_g (lw_at lw_m1 85 rfl) rfl
theorem q108 : (Jvm.Cond.fieldLink "MailRooms$Card" (13 : Nat) "MailRooms$Card" "stamps" "I") ∈ lw_all := lw_g (lw_at lw_m1 86 rfl) rfl
theorem q109 : (Jvm.Cond.lays "MailRooms$Card" "MailRooms$Card" "stamps" "I") ∈ lw_all := lw_g (lw_at lw_m1 87 rfl) rfl
theorem q110 : (Jvm.Cond.soleField "MailRooms$Card" "stamps") ∈ lw_all := lw_g (lw_at lw_m1 88 rfl) rfl
theorem q111 : (Jvm.Cond.superclass "MailRooms$Card" "java/lang/Object") ∈ lw_all := lw_g (lw_at lw_m1 89 rfl) rfl
theorem q314 : (Jvm.Cond.castable "MailRooms$Card" "MailRooms$Stamped") ∈ lw_tbl := lw_at lw_m2 52 rfl
theorem q315 : (Jvm.Cond.selects "MailRooms$Card" ({ cls := "MailRooms$Stamped", name := "stamps", desc := "()I" } : Jvm.MethodName) ({ cls := "MailRooms$Card", name := "stamps", desc := "()I" } : Jvm.MethodName)) ∈ lw_all := lw_g (lw_at lw_m2 53 rfl) rfl
theorem q316 : (Jvm.Cond.unhidden "MailRooms$Card" "stamps" "()I") ∈ lw_tbl := lw_at lw_m2 54 rfl
theorem q317 : (Jvm.Cond.instanceMethod ({ cls := "MailRooms$Card", name := "stamps", desc := "()I" } : Jvm.MethodName)) ∈ lw_all := lw_g (lw_at lw_m2 55 rfl) rfl
theorem q318 : (Jvm.Cond.publicMethod ({ cls := "MailRooms$Card", name := "stamps", desc := "()I" } : Jvm.MethodName)) ∈ lw_tbl := lw_at lw_m2 56 rfl
theorem q319 : (Jvm.Cond.code ({ cls := "MailRooms$Card", name := "stamps", desc := "()I" } : Jvm.MethodName) prog_2_method_4_code (1 : Nat) (Option.some Jvm.ClassFile.FieldType.int)) ∈ lw_all := lw_g (lw_at lw_m2 57 rfl) rfl
theorem q418 : (Jvm.Cond.selects "MailRooms$Card" ({ cls := "MailRooms$Stamped", name := "stamp", desc := "()V" } : Jvm.MethodName) ({ cls := "MailRooms$Card", name := "stamp", desc := "()V" } : Jvm.MethodName)) ∈ lw_all := lw_g (lw_at lw_m2 156 rfl) rfl
theorem q419 : (Jvm.Cond.unhidden "MailRooms$Card" "stamp" "()V") ∈ lw_tbl := lw_at lw_m2 157 rfl
theorem q420 : (Jvm.Cond.instanceMethod ({ cls := "MailRooms$Card", name := "stamp", desc := "()V" } : Jvm.MethodName)) ∈ lw_all := lw_g (lw_at lw_m2 158 rfl) rfl
theorem q421 : (Jvm.Cond.publicMethod ({ cls := "MailRooms$Card", name := "stamp", desc := "()V" } : Jvm.MethodName)) ∈ lw_tbl := lw_at lw_m2 159 rfl
theorem q422 : (Jvm.Cond.code ({ cls := "MailRooms$Card", name := "stamp", desc := "()V" } : Jvm.MethodName) prog_2_method_2_code (1 : Nat) (Option.none : Option Jvm.ClassFile.FieldType)) ∈ lw_all := lw_g (lw_at lw_m2 160 rfl) rfl
theorem q423 : (Jvm.Cond.methodLink "MailRooms$Card" (7 : Nat) ({ cls := "MailRooms$Card", name := "more", desc := "(I)V" } : Jvm.MethodName)) ∈ lw_all := lw_g (lw_at lw_m2 161 rfl) rfl
theorem q424 : (Jvm.Cond.instanceMethod ({ cls := "MailRooms$Card", name := "more", desc := "(I)V" } : Jvm.MethodName)) ∈ lw_all := lw_g (lw_at lw_m2 162 rfl) rfl
theorem q425 : (Jvm.Cond.selects "MailRooms$Card" ({ cls := "MailRooms$Card", name := "more", desc := "(I)V" } : Jvm.MethodName) ({ cls := "MailRooms$Card", name := "more", desc := "(I)V" } : Jvm.MethodName)) ∈ lw_all := lw_g (lw_at lw_m2 163 rfl) rfl
theorem q426 : (Jvm.Cond.sameMethod "MailRooms$Card" "MailRooms$Card" "more" "(I)V") ∈ lw_all := lw_g (lw_at lw_m2 164 rfl) rfl
theorem q428 : (Jvm.Cond.code ({ cls := "MailRooms$Card", name := "more", desc := "(I)V" } : Jvm.MethodName) prog_2_method_3_code (2 : Nat) (Option.none : Option Jvm.ClassFile.FieldType)) ∈ lw_all := lw_g (lw_at lw_m2 166 rfl) rfl
theorem q436 : (Jvm.Cond.declares ({ cls := "MailRooms$Card", name := "more", desc := "(I)V" } : Jvm.MethodName)) ∈ lw_tbl := lw_at lw_m2 174 rfl
theorem in_X3 : ∀ w ∈ wsX30, w ∈ lw_all := lw_in wsX30 [109] (by decide +kernel) (by decide +kernel)
/-! MailRooms$GoldCard -/
set_option maxRecDepth 100000
def RX4 : String := "MailRooms$GoldCard"
def TX4 : u_T := fun k => match k with
  | _ => ("MailRooms$Card", "stamps", "I", false)
def tyX4 : Nat → FieldType := fun k => match k with
  | _ => .int
abbrev wsX40 : List Cond := u_ws RX4 TX4 1
theorem nmX4 : ∀ a, a < 1 → ∀ b, b < 1 → a ≠ b → (TX4 a).2.1 ≠ (TX4 b).2.1 := by decide +kernel
theorem tyX4_ok : ∀ k, k < 1 → parseFieldDescriptor (TX4 k).2.2.1 = some (tyX4 k) := by decide +kernel
abbrev cX4_init : ByteArray := prog_4_method_1_code
def yX4_init : MethodName := ⟨RX4, "<init>", "()V"⟩
theorem dX4_init_0 : decode cX4_init 0 = .ok (.aload_n 0, 1) := by decide +kernel
theorem dX4_init_1 : decode cX4_init 1 = .ok (.invokespecial 1, 3) := by decide +kernel
theorem dX4_init_4 : decode cX4_init 4 = .ok (.return_, 1) := by decide +kernel
abbrev cX4_stamp : ByteArray := prog_4_method_2_code
def yX4_stamp : MethodName := ⟨RX4, "stamp", "()V"⟩
def dkwX4_stamp_0 : List UInt8 := [42, 5, 182, 0, 7, 177]
abbrev dktX4_stamp_0 : List UInt8 := dkwX4_stamp_0 ++ []
theorem dksX4_stamp_0 : cX4_stamp.data.toList.drop 0 = dktX4_stamp_0 := by decide +kernel
theorem dX4_stamp_0 : decode cX4_stamp 0 = .ok (.aload_n 0, 1) := dk_42 (dk_at dksX4_stamp_0 0 rfl rfl)
theorem dX4_stamp_1 : decode cX4_stamp 1 = .ok (.iconst 2, 1) := dk_5 (dk_at dksX4_stamp_0 1 rfl rfl)
theorem dX4_stamp_2 : decode cX4_stamp 2 = .ok (.invokevirtual 7, 3) := dk_182 0 7 (dk_at dksX4_stamp_0 2 rfl rfl)
theorem dX4_stamp_5 : decode cX4_stamp 5 = .ok (.return_, 1) := dk_177 (dk_at dksX4_stamp_0 5 rfl rfl)
theorem q27 : (Jvm.Cond.initialized "MailRooms$GoldCard") ∈ lw_all := lw_g (lw_at lw_m1 5 rfl) rfl
theorem q117 : (Jvm.Cond.instantiable "MailRooms$GoldCard" (1 : Nat)) ∈ lw_all := lw_g (lw_at lw_m1 95 rfl) rfl
theorem q119 : (Jvm.Cond.instanceMethod ({ cls := "MailRooms$GoldCard", name := "<init>", desc := "()V" } : Jvm.MethodName)) ∈ lw_all := lw_g (lw_at lw_m1 97 rfl) rfl
theorem q120 : (Jvm.Cond.code ({ cls := "MailRooms$GoldCard", name := "<init>", desc := "()V" } : Jvm.MethodName) prog_4_method_1_code (1 : Nat) (Option.none : Option Jvm.ClassFile.FieldType)) ∈ lw_all := lw_g (lw_at lw_m1 98 rfl) rfl
theorem q121 : (Jvm.Cond.methodLinkNest "MailRooms$GoldCard" (1 : Nat) ({ cls := "MailRooms$Card", name := "<init>", desc := "()V" } : Jvm.MethodName) "MailRooms") ∈ lw_tbl := lw_at lw_m1 99 rfl
theorem q122 : (Jvm.Cond.lays "MailRooms$GoldCard" "MailRooms$Card" "stamps" "I") ∈ lw_all := lw_g (lw_at lw_m1 100 rfl) rfl
theorem q123 : (Jvm.Cond.superclass "MailRooms$GoldCard" "MailRooms$Card") ∈ lw_all := lw_g (lw_at lw_m1 101 rfl) rfl
theorem q320 : (Jvm.Cond.castable "MailRooms$GoldCard" "MailRooms$Stamped") ∈ lw_tbl := lw_at lw_m2 58 rfl
theorem q321 : (Jvm.Cond.selects "MailRooms$GoldCard" ({ cls := "MailRooms$Stamped", name := "stamps", desc := "()I" } : Jvm.MethodName) ({ cls := "MailRooms$Card", name := "stamps", desc := "()I" } : Jvm.MethodName)) ∈ lw_all := lw_g (lw_at lw_m2 59 rfl) rfl
theorem q322 : (Jvm.Cond.unhidden "MailRooms$GoldCard" "stamps" "()I") ∈ lw_tbl := lw_at lw_m2 60 rfl
theorem q427 : (Jvm.Cond.selects "MailRooms$GoldCard" ({ cls := "MailRooms$Card", name := "more", desc := "(I)V" } : Jvm.MethodName) ({ cls := "MailRooms$Card", name := "more", desc := "(I)V" } : Jvm.MethodName)) ∈ lw_all := lw_g (lw_at lw_m2 165 rfl) rfl
theorem q429 : (Jvm.Cond.selects "MailRooms$GoldCard" ({ cls := "MailRooms$Stamped", name := "stamp", desc := "()V" } : Jvm.MethodName) ({ cls := "MailRooms$GoldCard", name := "stamp", desc := "()V" } : Jvm.MethodName)) ∈ lw_all := lw_g (lw_at lw_m2 167 rfl) rfl
theorem q430 : (Jvm.Cond.unhidden "MailRooms$GoldCard" "stamp" "()V") ∈ lw_tbl := lw_at lw_m2 168 rfl
theorem q431 : (Jvm.Cond.instanceMethod ({ cls := "MailRooms$GoldCard", name := "stamp", desc := "()V" } : Jvm.MethodName)) ∈ lw_all := lw_g (lw_at lw_m2 169 rfl) rfl
theorem q432 : (Jvm.Cond.publicMethod ({ cls := "MailRooms$GoldCard", name := "stamp", desc := "()V" } : Jvm.MethodName)) ∈ lw_tbl := lw_at lw_m2 170 rfl
theorem q433 : (Jvm.Cond.code ({ cls := "MailRooms$GoldCard", name := "stamp", desc := "()V" } : Jvm.MethodName) prog_4_method_2_code (1 : Nat) (Option.none : Option Jvm.ClassFile.FieldType)) ∈ lw_all := lw_g (lw_at lw_m2 171 rfl) rfl
theorem q434 : (Jvm.Cond.methodLink "MailRooms$GoldCard" (7 : Nat) ({ cls := "MailRooms$GoldCard", name := "more", desc := "(I)V" } : Jvm.MethodName)) ∈ lw_all := lw_g (lw_at lw_m2 172 rfl) rfl
theorem q435 : (Jvm.Cond.sameMethod "MailRooms$GoldCard" "MailRooms$Card" "more" "(I)V") ∈ lw_all := lw_g (lw_at lw_m2 173 rfl) rfl
theorem q437 : (Jvm.Cond.selects "MailRooms$GoldCard" ({ cls := "MailRooms$GoldCard", name := "more", desc := "(I)V" } : Jvm.MethodName) ({ cls := "MailRooms$Card", name := "more", desc := "(I)V" } : Jvm.MethodName)) ∈ lw_all := lw_g (lw_at lw_m2 175 rfl) rfl
theorem q696 : (Jvm.Cond.castable "MailRooms$GoldCard" "MailRooms$Card") ∈ lw_tbl := lw_at lw_m3 194 rfl
theorem in_X4 : ∀ w ∈ wsX40, w ∈ lw_all := lw_in wsX40 [122] (by decide +kernel) (by decide +kernel)
/-! MailRooms$Token -/
set_option maxRecDepth 100000
def RX5 : String := "MailRooms$Token"
def TX5 : u_T := fun k => match k with
  | _ => ("MailRooms$Token", "stamps", "I", false)
def tyX5 : Nat → FieldType := fun k => match k with
  | _ => .int
abbrev wsX50 : List Cond := u_ws RX5 TX5 1
theorem nmX5 : ∀ a, a < 1 → ∀ b, b < 1 → a ≠ b → (TX5 a).2.1 ≠ (TX5 b).2.1 := by decide +kernel
theorem tyX5_ok : ∀ k, k < 1 → parseFieldDescriptor (TX5 k).2.2.1 = some (tyX5 k) := by decide +kernel
abbrev cX5_init : ByteArray := prog_7_method_1_code
def yX5_init : MethodName := ⟨RX5, "<init>", "()V"⟩
theorem dX5_init_0 : decode cX5_init 0 = .ok (.aload_n 0, 1) := by decide +kernel
theorem dX5_init_1 : decode cX5_init 1 = .ok (.invokespecial 1, 3) := by decide +kernel
theorem dX5_init_4 : decode cX5_init 4 = .ok (.return_, 1) := by decide +kernel
abbrev cX5_stamps : ByteArray := prog_7_method_3_code
def yX5_stamps : MethodName := ⟨RX5, "stamps", "()I"⟩
theorem dX5_stamps_0 : decode cX5_stamps 0 = .ok (.aload_n 0, 1) := by decide +kernel
theorem dX5_stamps_1 : decode cX5_stamps 1 = .ok (.getfield 7, 3) := by decide +kernel
theorem dX5_stamps_4 : decode cX5_stamps 4 = .ok (.ireturn, 1) := by decide +kernel
abbrev cX5_stamp : ByteArray := prog_7_method_2_code
def yX5_stamp : MethodName := ⟨RX5, "stamp", "()V"⟩
def dkwX5_stamp_0 : List UInt8 := [42, 89, 180, 0, 7, 4, 96, 181, 0, 7, 177]
abbrev dktX5_stamp_0 : List UInt8 := dkwX5_stamp_0 ++ []
theorem dksX5_stamp_0 : cX5_stamp.data.toList.drop 0 = dktX5_stamp_0 := by decide +kernel
theorem dX5_stamp_0 : decode cX5_stamp 0 = .ok (.aload_n 0, 1) := dk_42 (dk_at dksX5_stamp_0 0 rfl rfl)
theorem dX5_stamp_1 : decode cX5_stamp 1 = .ok (.dup, 1) := dk_89 (dk_at dksX5_stamp_0 1 rfl rfl)
theorem dX5_stamp_2 : decode cX5_stamp 2 = .ok (.getfield 7, 3) := dk_180 0 7 (dk_at dksX5_stamp_0 2 rfl rfl)
theorem dX5_stamp_5 : decode cX5_stamp 5 = .ok (.iconst 1, 1) := dk_4 (dk_at dksX5_stamp_0 5 rfl rfl)
theorem dX5_stamp_6 : decode cX5_stamp 6 = .ok (.iadd, 1) := dk_96 (dk_at dksX5_stamp_0 6 rfl rfl)
theorem dX5_stamp_7 : decode cX5_stamp 7 = .ok (.putfield 7, 3) := dk_181 0 7 (dk_at dksX5_stamp_0 7 rfl rfl)
theorem dX5_stamp_10 : decode cX5_stamp 10 = .ok (.return_, 1) := dk_177 (dk_at dksX5_stamp_0 10 rfl rfl)
theorem q28 : (Jvm.Cond.initialized "MailRooms$Token") ∈ lw_all := lw_g (lw_at lw_m1 6 rfl) rfl
theorem q125 : (Jvm.Cond.instantiable "MailRooms$Token" (1 : Nat)) ∈ lw_all := lw_g (lw_at lw_m1 103 rfl) rfl
theorem q127 : (Jvm.Cond.instanceMethod ({ cls := "MailRooms$Token", name := "<init>", desc := "()V" } : Jvm.MethodName)) ∈ lw_all := lw_g (lw_at lw_m1 105 rfl) rfl
theorem q128 : (Jvm.Cond.code ({ cls := "MailRooms$Token", name := "<init>", desc := "()V" } : Jvm.MethodName) prog_7_method_1_code (1 : Nat) (Option.none : Option Jvm.ClassFile.FieldType)) ∈ lw_all := lw_g (lw_at lw_m1 106 rfl) rfl
theorem q129 : (Jvm.Cond.methodLink "MailRooms$Token" (1 : Nat) ({ cls := "java/lang/Object", name := "<init>", desc := "()V" } : Jvm.MethodName)) ∈ lw_all := lw_g (lw_at lw_m1 107 rfl) rfl
theorem q130 : (Jvm.Cond.fieldLink "MailRooms$Token" (7 : Nat) "MailRooms$Token" "stamps" "I") ∈ lw_all := lw_g (lw_at lw_m1 108 rfl) rfl
theorem q131 : (Jvm.Cond.lays "MailRooms$Token" "MailRooms$Token" "stamps" "I") ∈ lw_all := lw_g (lw_at lw_m1 109 rfl) rfl
theorem q132 : (Jvm.Cond.soleField "MailRooms$Token" "stamps") ∈ lw_all := lw_g (lw_at lw_m1 110 rfl) rfl
theorem q133 : (Jvm.Cond.superclass "MailRooms$Token" "java/lang/Object") ∈ lw_all := lw_g (lw_at lw_m1 111 rfl) rfl
theorem q323 : (Jvm.Cond.castable "MailRooms$Token" "MailRooms$Stamped") ∈ lw_tbl := lw_at lw_m2 61 rfl
theorem q324 : (Jvm.Cond.selects "MailRooms$Token" ({ cls := "MailRooms$Stamped", name := "stamps", desc := "()I" } : Jvm.MethodName) ({ cls := "MailRooms$Token", name := "stamps", desc := "()I" } : Jvm.MethodName)) ∈ lw_all := lw_g (lw_at lw_m2 62 rfl) rfl
theorem q325 : (Jvm.Cond.unhidden "MailRooms$Token" "stamps" "()I") ∈ lw_tbl := lw_at lw_m2 63 rfl
theorem q326 : (Jvm.Cond.instanceMethod ({ cls := "MailRooms$Token", name := "stamps", desc := "()I" } : Jvm.MethodName)) ∈ lw_all := lw_g (lw_at lw_m2 64 rfl) rfl
theorem q327 : (Jvm.Cond.publicMethod ({ cls := "MailRooms$Token", name := "stamps", desc := "()I" } : Jvm.MethodName)) ∈ lw_tbl := lw_at lw_m2 65 rfl
theorem q328 : (Jvm.Cond.code ({ cls := "MailRooms$Token", name := "stamps", desc := "()I" } : Jvm.MethodName) prog_7_method_3_code (1 : Nat) (Option.some Jvm.ClassFile.FieldType.int)) ∈ lw_all := lw_g (lw_at lw_m2 66 rfl) rfl
theorem q438 : (Jvm.Cond.selects "MailRooms$Token" ({ cls := "MailRooms$Stamped", name := "stamp", desc := "()V" } : Jvm.MethodName) ({ cls := "MailRooms$Token", name := "stamp", desc := "()V" } : Jvm.MethodName)) ∈ lw_all := lw_g (lw_at lw_m2 176 rfl) rfl
theorem q439 : (Jvm.Cond.unhidden "MailRooms$Token" "stamp" "()V") ∈ lw_tbl := lw_at lw_m2 177 rfl
theorem q440 : (Jvm.Cond.instanceMethod ({ cls := "MailRooms$Token", name := "stamp", desc := "()V" } : Jvm.MethodName)) ∈ lw_all := lw_g (lw_at lw_m2 178 rfl) rfl
theorem q441 : (Jvm.Cond.publicMethod ({ cls := "MailRooms$Token", name := "stamp", desc := "()V" } : Jvm.MethodName)) ∈ lw_tbl := lw_at lw_m2 179 rfl
theorem q442 : (Jvm.Cond.code ({ cls := "MailRooms$Token", name := "stamp", desc := "()V" } : Jvm.MethodName) prog_7_method_2_code (1 : Nat) (Option.none : Option Jvm.ClassFile.FieldType)) ∈ lw_all := lw_g (lw_at lw_m2 180 rfl) rfl
theorem in_X5 : ∀ w ∈ wsX50, w ∈ lw_all := lw_in wsX50 [131] (by decide +kernel) (by decide +kernel)
/-! MailRooms$Desk -/
set_option maxRecDepth 100000
def RX6 : String := "MailRooms$Desk"
def TX6 : u_T := fun k => match k with
  | 0 => ("MailRooms$Desk", "form", "I", false)
  | 1 => ("MailRooms$Desk", "act", "I", false)
  | 2 => ("MailRooms$Desk", "asks", "Z", false)
  | 3 => ("MailRooms$Desk", "tally", "I", false)
  | 4 => ("MailRooms$Desk", "held", "Ljava/lang/Object;", false)
  | 5 => ("MailRooms$Desk", "worked", "I", false)
  | 6 => ("MailRooms$Desk", "given", "I", false)
  | 7 => ("MailRooms$Desk", "latest", "Ljava/lang/Object;", false)
  | _ => ("MailRooms$Desk", "careful", "Z", false)
def tyX6 : Nat → FieldType := fun k => match k with
  | 0 => .int
  | 1 => .int
  | 2 => .boolean
  | 3 => .int
  | 4 => .object "java/lang/Object"
  | 5 => .int
  | 6 => .int
  | 7 => .object "java/lang/Object"
  | _ => .boolean
abbrev wsX60 : List Cond := u_ws RX6 TX6 9
theorem nmX6 : ∀ a, a < 9 → ∀ b, b < 9 → a ≠ b → (TX6 a).2.1 ≠ (TX6 b).2.1 := by decide +kernel
theorem tyX6_ok : ∀ k, k < 9 → parseFieldDescriptor (TX6 k).2.2.1 = some (tyX6 k) := by decide +kernel
abbrev cX6_init : ByteArray := prog_3_method_1_code
def yX6_init : MethodName := ⟨RX6, "<init>", "()V"⟩
theorem dX6_init_0 : decode cX6_init 0 = .ok (.aload_n 0, 1) := by decide +kernel
theorem dX6_init_1 : decode cX6_init 1 = .ok (.invokespecial 1, 3) := by decide +kernel
theorem dX6_init_4 : decode cX6_init 4 = .ok (.return_, 1) := by decide +kernel
theorem q37 : (Jvm.Cond.initialized "MailRooms$Desk") ∈ lw_all := lw_g (lw_at lw_m1 15 rfl) rfl
theorem q336 : (Jvm.Cond.instantiable "MailRooms$Desk" (9 : Nat)) ∈ lw_all := lw_g (lw_at lw_m2 74 rfl) rfl
theorem q338 : (Jvm.Cond.instanceMethod ({ cls := "MailRooms$Desk", name := "<init>", desc := "()V" } : Jvm.MethodName)) ∈ lw_all := lw_g (lw_at lw_m2 76 rfl) rfl
theorem q339 : (Jvm.Cond.code ({ cls := "MailRooms$Desk", name := "<init>", desc := "()V" } : Jvm.MethodName) prog_3_method_1_code (1 : Nat) (Option.none : Option Jvm.ClassFile.FieldType)) ∈ lw_all := lw_g (lw_at lw_m2 77 rfl) rfl
theorem q340 : (Jvm.Cond.methodLink "MailRooms$Desk" (1 : Nat) ({ cls := "java/lang/Object", name := "<init>", desc := "()V" } : Jvm.MethodName)) ∈ lw_all := lw_g (lw_at lw_m2 78 rfl) rfl
theorem q350 : (Jvm.Cond.lays "MailRooms$Desk" "MailRooms$Desk" "form" "I") ∈ lw_all := lw_g (lw_at lw_m2 88 rfl) rfl
theorem q351 : (Jvm.Cond.soleField "MailRooms$Desk" "form") ∈ lw_all := lw_g (lw_at lw_m2 89 rfl) rfl
theorem q352 : (Jvm.Cond.lays "MailRooms$Desk" "MailRooms$Desk" "act" "I") ∈ lw_all := lw_g (lw_at lw_m2 90 rfl) rfl
theorem q353 : (Jvm.Cond.soleField "MailRooms$Desk" "act") ∈ lw_all := lw_g (lw_at lw_m2 91 rfl) rfl
theorem q354 : (Jvm.Cond.lays "MailRooms$Desk" "MailRooms$Desk" "asks" "Z") ∈ lw_all := lw_g (lw_at lw_m2 92 rfl) rfl
theorem q355 : (Jvm.Cond.soleField "MailRooms$Desk" "asks") ∈ lw_all := lw_g (lw_at lw_m2 93 rfl) rfl
theorem q356 : (Jvm.Cond.lays "MailRooms$Desk" "MailRooms$Desk" "tally" "I") ∈ lw_all := lw_g (lw_at lw_m2 94 rfl) rfl
theorem q357 : (Jvm.Cond.soleField "MailRooms$Desk" "tally") ∈ lw_all := lw_g (lw_at lw_m2 95 rfl) rfl
theorem q358 : (Jvm.Cond.lays "MailRooms$Desk" "MailRooms$Desk" "held" "Ljava/lang/Object;") ∈ lw_all := lw_g (lw_at lw_m2 96 rfl) rfl
theorem q359 : (Jvm.Cond.soleField "MailRooms$Desk" "held") ∈ lw_all := lw_g (lw_at lw_m2 97 rfl) rfl
theorem q360 : (Jvm.Cond.lays "MailRooms$Desk" "MailRooms$Desk" "worked" "I") ∈ lw_all := lw_g (lw_at lw_m2 98 rfl) rfl
theorem q361 : (Jvm.Cond.soleField "MailRooms$Desk" "worked") ∈ lw_all := lw_g (lw_at lw_m2 99 rfl) rfl
theorem q362 : (Jvm.Cond.lays "MailRooms$Desk" "MailRooms$Desk" "given" "I") ∈ lw_all := lw_g (lw_at lw_m2 100 rfl) rfl
theorem q363 : (Jvm.Cond.soleField "MailRooms$Desk" "given") ∈ lw_all := lw_g (lw_at lw_m2 101 rfl) rfl
theorem q364 : (Jvm.Cond.lays "MailRooms$Desk" "MailRooms$Desk" "latest" "Ljava/lang/Object;") ∈ lw_all := lw_g (lw_at lw_m2 102 rfl) rfl
theorem q365 : (Jvm.Cond.soleField "MailRooms$Desk" "latest") ∈ lw_all := lw_g (lw_at lw_m2 103 rfl) rfl
theorem q366 : (Jvm.Cond.lays "MailRooms$Desk" "MailRooms$Desk" "careful" "Z") ∈ lw_all := lw_g (lw_at lw_m2 104 rfl) rfl
theorem q367 : (Jvm.Cond.soleField "MailRooms$Desk" "careful") ∈ lw_all := lw_g (lw_at lw_m2 105 rfl) rfl
theorem q368 : (Jvm.Cond.superclass "MailRooms$Desk" "java/lang/Object") ∈ lw_all := lw_g (lw_at lw_m2 106 rfl) rfl
theorem in_X6 : ∀ w ∈ wsX60, w ∈ lw_all := lw_in wsX60 [350, 352, 354, 356, 358, 360, 362, 364, 366] (by decide +kernel) (by decide +kernel)
