/-! DECODE ROWS BY BYTES: one lemma an opcode; a method's code is cut into short pieces once, and a row reads its own piece alone. -/
set_option maxRecDepth 100000
/-- the code has just these bytes from pc on -/
def DkAt (code : ByteArray) (pc : Nat) (bs : List UInt8) : Prop := ∀ (j : Nat) (b : UInt8), bs[j]? = some b → code.data.toList[pc + j]? = some b
/-- the piece W has the bytes bs from its place j on -/
def dkIn (W : List UInt8) (j : Nat) (bs : List UInt8) : Bool := decide ((W.drop j).take bs.length = bs)
theorem dk_seg {l W T : List UInt8} {o o2 : Nat} (h : l.drop o = W ++ T) (n : Nat) (hn : W.length = n) (ho : o + n = o2) : l.drop o2 = T := by
  subst ho
  rw [← List.drop_drop, h, List.drop_left' hn]
theorem dk_at {code : ByteArray} {W T bs : List UInt8} {o pc : Nat} (h : code.data.toList.drop o = W ++ T) (j : Nat) (hp : o + j = pc) (hw : dkIn W j bs = true) : DkAt code pc bs := by
  subst hp
  intro i b e
  have h1 := of_decide_eq_true hw
  have h2 : i < bs.length := (List.getElem?_eq_some_iff.mp e).1
  have h3 : W[j + i]? = some b := by
    rw [← h1, List.getElem?_take, if_pos h2, List.getElem?_drop] at e
    exact e
  have h4 : j + i < W.length := (List.getElem?_eq_some_iff.mp h3).1
  have h5 : (code.data.toList.drop o)[j + i]? = some b := by
    rw [h, List.getElem?_append_left h4]
    exact h3
  rw [List.getElem?_drop, ← Nat.add_assoc] at h5
  exact h5
theorem dk_u1 {A : ByteArray} {p : Nat} {b : UInt8} (h : A.data.toList[p]? = some b) : (Reader.u1 : Reader DecodeError Nat) A p = .ok (b.toNat, p + 1) := by
  obtain ⟨h1, h2⟩ := List.getElem?_eq_some_iff.mp h
  have h3 : p < A.size := by simpa using h1
  have h4 : A[p]'h3 = b := h2
  have e : (Reader.u1 : Reader DecodeError Nat) A p = (if h : p < A.size then .ok (A[p].toNat, p + 1) else .error (HasTruncated.truncated p)) := by
    show (do if h : p < A.size then do set (p + 1); Pure.pure A[p].toNat else MonadExcept.throw (HasTruncated.truncated p) : Reader DecodeError Nat) A p = _
    by_cases hi : p < A.size
    · rw [dif_pos hi, dif_pos hi]; rfl
    · rw [dif_neg hi, dif_neg hi]; rfl
  rw [e, dif_pos h3, h4]
theorem dk_bind {α β : Type} {r : Reader DecodeError α} {f : α → Reader DecodeError β} {A : ByteArray} {p s : Nat} {a : α} (h : r A p = .ok (a, s)) : (r >>= f) A p = f a A s := by
  show (do let (a, s) ← r A p; f a A s : Except DecodeError (β × Nat)) = _
  rw [h]
  rfl
theorem dk_map {α β : Type} {r : Reader DecodeError α} {g : α → β} {A : ByteArray} {p s : Nat} {a : α} (h : r A p = .ok (a, s)) : (g <$> r) A p = .ok (g a, s) := by
  show (do let (a, s) ← r A p; .ok (g a, s) : Except DecodeError (β × Nat)) = _
  rw [h]
  rfl
theorem dk_u2 {A : ByteArray} {p : Nat} {a b : UInt8} (h : A.data.toList[p]? = some a) (h2 : A.data.toList[p + 1]? = some b) : (Reader.u2 : Reader DecodeError Nat) A p = .ok (a.toNat * 256 + b.toNat, p + 2) := by
  show (Reader.u1 >>= fun hi => Reader.u1 >>= fun lo => Pure.pure (hi * 256 + lo) : Reader DecodeError Nat) A p = _
  rw [dk_bind (dk_u1 h), dk_bind (dk_u1 h2)]
  rfl
theorem dk_of {code : ByteArray} {pc n : Nat} {i : Instr} (h : Decoder.instr pc code pc = .ok (i, pc + n)) : decode code pc = .ok (i, n) := by
  have e : decode code pc = (match Decoder.instr pc code pc with | .error x => .error x | .ok (j, s) => .ok (j, s - pc)) := by
    show (do let (j, s) ← Decoder.instr pc code pc; Pure.pure (j, s - pc) : Except DecodeError (Instr × Nat)) = _
    cases Decoder.instr pc code pc <;> rfl
  rw [e, h]
  show Except.ok (i, pc + n - pc) = _
  rw [Nat.add_sub_cancel_left]
theorem dk_1 {code : ByteArray} {pc : Nat} (h : DkAt code pc [1]) : decode code pc = .ok (.aconst_null, 1) := dk_of ((dk_bind (dk_u1 (h 0 _ rfl))).trans rfl)
theorem dk_2 {code : ByteArray} {pc : Nat} (h : DkAt code pc [2]) : decode code pc = .ok (.iconst (-1), 1) := dk_of ((dk_bind (dk_u1 (h 0 _ rfl))).trans rfl)
theorem dk_3 {code : ByteArray} {pc : Nat} (h : DkAt code pc [3]) : decode code pc = .ok (.iconst 0, 1) := dk_of ((dk_bind (dk_u1 (h 0 _ rfl))).trans rfl)
theorem dk_4 {code : ByteArray} {pc : Nat} (h : DkAt code pc [4]) : decode code pc = .ok (.iconst 1, 1) := dk_of ((dk_bind (dk_u1 (h 0 _ rfl))).trans rfl)
theorem dk_5 {code : ByteArray} {pc : Nat} (h : DkAt code pc [5]) : decode code pc = .ok (.iconst 2, 1) := dk_of ((dk_bind (dk_u1 (h 0 _ rfl))).trans rfl)
theorem dk_6 {code : ByteArray} {pc : Nat} (h : DkAt code pc [6]) : decode code pc = .ok (.iconst 3, 1) := dk_of ((dk_bind (dk_u1 (h 0 _ rfl))).trans rfl)
theorem dk_7 {code : ByteArray} {pc : Nat} (h : DkAt code pc [7]) : decode code pc = .ok (.iconst 4, 1) := dk_of ((dk_bind (dk_u1 (h 0 _ rfl))).trans rfl)
theorem dk_8 {code : ByteArray} {pc : Nat} (h : DkAt code pc [8]) : decode code pc = .ok (.iconst 5, 1) := dk_of ((dk_bind (dk_u1 (h 0 _ rfl))).trans rfl)
theorem dk_9 {code : ByteArray} {pc : Nat} (h : DkAt code pc [9]) : decode code pc = .ok (.lconst 0, 1) := dk_of ((dk_bind (dk_u1 (h 0 _ rfl))).trans rfl)
theorem dk_10 {code : ByteArray} {pc : Nat} (h : DkAt code pc [10]) : decode code pc = .ok (.lconst 1, 1) := dk_of ((dk_bind (dk_u1 (h 0 _ rfl))).trans rfl)
theorem dk_11 {code : ByteArray} {pc : Nat} (h : DkAt code pc [11]) : decode code pc = .ok (.fconst 0, 1) := dk_of ((dk_bind (dk_u1 (h 0 _ rfl))).trans rfl)
theorem dk_16 {code : ByteArray} {pc : Nat} (a : UInt8) (h : DkAt code pc [16, a]) : decode code pc = .ok (.bipush (Reader.signed 8 a.toNat), 2) := dk_of ((dk_bind (dk_u1 (h 0 _ rfl))).trans ((dk_bind (dk_map (dk_u1 (h 1 _ rfl)))).trans rfl))
theorem dk_17 {code : ByteArray} {pc : Nat} (a b : UInt8) (h : DkAt code pc [17, a, b]) : decode code pc = .ok (.sipush (Reader.signed 16 (a.toNat * 256 + b.toNat)), 3) := dk_of ((dk_bind (dk_u1 (h 0 _ rfl))).trans ((dk_bind (dk_map (dk_u2 (h 1 _ rfl) (h 2 _ rfl)))).trans rfl))
theorem dk_18 {code : ByteArray} {pc : Nat} (a : UInt8) (h : DkAt code pc [18, a]) : decode code pc = .ok (.ldc a.toNat, 2) := dk_of ((dk_bind (dk_u1 (h 0 _ rfl))).trans ((dk_bind (dk_u1 (h 1 _ rfl))).trans rfl))
theorem dk_19 {code : ByteArray} {pc : Nat} (a b : UInt8) (h : DkAt code pc [19, a, b]) : decode code pc = .ok (.ldc_w (a.toNat * 256 + b.toNat), 3) := dk_of ((dk_bind (dk_u1 (h 0 _ rfl))).trans ((dk_bind (dk_u2 (h 1 _ rfl) (h 2 _ rfl))).trans rfl))
theorem dk_20 {code : ByteArray} {pc : Nat} (a b : UInt8) (h : DkAt code pc [20, a, b]) : decode code pc = .ok (.ldc2_w (a.toNat * 256 + b.toNat), 3) := dk_of ((dk_bind (dk_u1 (h 0 _ rfl))).trans ((dk_bind (dk_u2 (h 1 _ rfl) (h 2 _ rfl))).trans rfl))
theorem dk_21 {code : ByteArray} {pc : Nat} (a : UInt8) (h : DkAt code pc [21, a]) : decode code pc = .ok (.iload a.toNat, 2) := dk_of ((dk_bind (dk_u1 (h 0 _ rfl))).trans ((dk_bind (dk_u1 (h 1 _ rfl))).trans rfl))
theorem dk_24 {code : ByteArray} {pc : Nat} (a : UInt8) (h : DkAt code pc [24, a]) : decode code pc = .ok (.dload a.toNat, 2) := dk_of ((dk_bind (dk_u1 (h 0 _ rfl))).trans ((dk_bind (dk_u1 (h 1 _ rfl))).trans rfl))
theorem dk_25 {code : ByteArray} {pc : Nat} (a : UInt8) (h : DkAt code pc [25, a]) : decode code pc = .ok (.aload a.toNat, 2) := dk_of ((dk_bind (dk_u1 (h 0 _ rfl))).trans ((dk_bind (dk_u1 (h 1 _ rfl))).trans rfl))
theorem dk_26 {code : ByteArray} {pc : Nat} (h : DkAt code pc [26]) : decode code pc = .ok (.iload_n 0, 1) := dk_of ((dk_bind (dk_u1 (h 0 _ rfl))).trans rfl)
theorem dk_27 {code : ByteArray} {pc : Nat} (h : DkAt code pc [27]) : decode code pc = .ok (.iload_n 1, 1) := dk_of ((dk_bind (dk_u1 (h 0 _ rfl))).trans rfl)
theorem dk_28 {code : ByteArray} {pc : Nat} (h : DkAt code pc [28]) : decode code pc = .ok (.iload_n 2, 1) := dk_of ((dk_bind (dk_u1 (h 0 _ rfl))).trans rfl)
theorem dk_29 {code : ByteArray} {pc : Nat} (h : DkAt code pc [29]) : decode code pc = .ok (.iload_n 3, 1) := dk_of ((dk_bind (dk_u1 (h 0 _ rfl))).trans rfl)
theorem dk_30 {code : ByteArray} {pc : Nat} (h : DkAt code pc [30]) : decode code pc = .ok (.lload_n 0, 1) := dk_of ((dk_bind (dk_u1 (h 0 _ rfl))).trans rfl)
theorem dk_33 {code : ByteArray} {pc : Nat} (h : DkAt code pc [33]) : decode code pc = .ok (.lload_n 3, 1) := dk_of ((dk_bind (dk_u1 (h 0 _ rfl))).trans rfl)
theorem dk_42 {code : ByteArray} {pc : Nat} (h : DkAt code pc [42]) : decode code pc = .ok (.aload_n 0, 1) := dk_of ((dk_bind (dk_u1 (h 0 _ rfl))).trans rfl)
theorem dk_43 {code : ByteArray} {pc : Nat} (h : DkAt code pc [43]) : decode code pc = .ok (.aload_n 1, 1) := dk_of ((dk_bind (dk_u1 (h 0 _ rfl))).trans rfl)
theorem dk_44 {code : ByteArray} {pc : Nat} (h : DkAt code pc [44]) : decode code pc = .ok (.aload_n 2, 1) := dk_of ((dk_bind (dk_u1 (h 0 _ rfl))).trans rfl)
theorem dk_45 {code : ByteArray} {pc : Nat} (h : DkAt code pc [45]) : decode code pc = .ok (.aload_n 3, 1) := dk_of ((dk_bind (dk_u1 (h 0 _ rfl))).trans rfl)
theorem dk_46 {code : ByteArray} {pc : Nat} (h : DkAt code pc [46]) : decode code pc = .ok (.iaload, 1) := dk_of ((dk_bind (dk_u1 (h 0 _ rfl))).trans rfl)
theorem dk_47 {code : ByteArray} {pc : Nat} (h : DkAt code pc [47]) : decode code pc = .ok (.laload, 1) := dk_of ((dk_bind (dk_u1 (h 0 _ rfl))).trans rfl)
theorem dk_50 {code : ByteArray} {pc : Nat} (h : DkAt code pc [50]) : decode code pc = .ok (.aaload, 1) := dk_of ((dk_bind (dk_u1 (h 0 _ rfl))).trans rfl)
theorem dk_51 {code : ByteArray} {pc : Nat} (h : DkAt code pc [51]) : decode code pc = .ok (.baload, 1) := dk_of ((dk_bind (dk_u1 (h 0 _ rfl))).trans rfl)
theorem dk_54 {code : ByteArray} {pc : Nat} (a : UInt8) (h : DkAt code pc [54, a]) : decode code pc = .ok (.istore a.toNat, 2) := dk_of ((dk_bind (dk_u1 (h 0 _ rfl))).trans ((dk_bind (dk_u1 (h 1 _ rfl))).trans rfl))
theorem dk_57 {code : ByteArray} {pc : Nat} (a : UInt8) (h : DkAt code pc [57, a]) : decode code pc = .ok (.dstore a.toNat, 2) := dk_of ((dk_bind (dk_u1 (h 0 _ rfl))).trans ((dk_bind (dk_u1 (h 1 _ rfl))).trans rfl))
theorem dk_58 {code : ByteArray} {pc : Nat} (a : UInt8) (h : DkAt code pc [58, a]) : decode code pc = .ok (.astore a.toNat, 2) := dk_of ((dk_bind (dk_u1 (h 0 _ rfl))).trans ((dk_bind (dk_u1 (h 1 _ rfl))).trans rfl))
theorem dk_59 {code : ByteArray} {pc : Nat} (h : DkAt code pc [59]) : decode code pc = .ok (.istore_n 0, 1) := dk_of ((dk_bind (dk_u1 (h 0 _ rfl))).trans rfl)
theorem dk_60 {code : ByteArray} {pc : Nat} (h : DkAt code pc [60]) : decode code pc = .ok (.istore_n 1, 1) := dk_of ((dk_bind (dk_u1 (h 0 _ rfl))).trans rfl)
theorem dk_61 {code : ByteArray} {pc : Nat} (h : DkAt code pc [61]) : decode code pc = .ok (.istore_n 2, 1) := dk_of ((dk_bind (dk_u1 (h 0 _ rfl))).trans rfl)
theorem dk_62 {code : ByteArray} {pc : Nat} (h : DkAt code pc [62]) : decode code pc = .ok (.istore_n 3, 1) := dk_of ((dk_bind (dk_u1 (h 0 _ rfl))).trans rfl)
theorem dk_66 {code : ByteArray} {pc : Nat} (h : DkAt code pc [66]) : decode code pc = .ok (.lstore_n 3, 1) := dk_of ((dk_bind (dk_u1 (h 0 _ rfl))).trans rfl)
theorem dk_76 {code : ByteArray} {pc : Nat} (h : DkAt code pc [76]) : decode code pc = .ok (.astore_n 1, 1) := dk_of ((dk_bind (dk_u1 (h 0 _ rfl))).trans rfl)
theorem dk_77 {code : ByteArray} {pc : Nat} (h : DkAt code pc [77]) : decode code pc = .ok (.astore_n 2, 1) := dk_of ((dk_bind (dk_u1 (h 0 _ rfl))).trans rfl)
theorem dk_78 {code : ByteArray} {pc : Nat} (h : DkAt code pc [78]) : decode code pc = .ok (.astore_n 3, 1) := dk_of ((dk_bind (dk_u1 (h 0 _ rfl))).trans rfl)
theorem dk_79 {code : ByteArray} {pc : Nat} (h : DkAt code pc [79]) : decode code pc = .ok (.iastore, 1) := dk_of ((dk_bind (dk_u1 (h 0 _ rfl))).trans rfl)
theorem dk_80 {code : ByteArray} {pc : Nat} (h : DkAt code pc [80]) : decode code pc = .ok (.lastore, 1) := dk_of ((dk_bind (dk_u1 (h 0 _ rfl))).trans rfl)
theorem dk_83 {code : ByteArray} {pc : Nat} (h : DkAt code pc [83]) : decode code pc = .ok (.aastore, 1) := dk_of ((dk_bind (dk_u1 (h 0 _ rfl))).trans rfl)
theorem dk_84 {code : ByteArray} {pc : Nat} (h : DkAt code pc [84]) : decode code pc = .ok (.bastore, 1) := dk_of ((dk_bind (dk_u1 (h 0 _ rfl))).trans rfl)
theorem dk_87 {code : ByteArray} {pc : Nat} (h : DkAt code pc [87]) : decode code pc = .ok (.pop, 1) := dk_of ((dk_bind (dk_u1 (h 0 _ rfl))).trans rfl)
theorem dk_89 {code : ByteArray} {pc : Nat} (h : DkAt code pc [89]) : decode code pc = .ok (.dup, 1) := dk_of ((dk_bind (dk_u1 (h 0 _ rfl))).trans rfl)
theorem dk_90 {code : ByteArray} {pc : Nat} (h : DkAt code pc [90]) : decode code pc = .ok (.dup_x1, 1) := dk_of ((dk_bind (dk_u1 (h 0 _ rfl))).trans rfl)
theorem dk_92 {code : ByteArray} {pc : Nat} (h : DkAt code pc [92]) : decode code pc = .ok (.dup2, 1) := dk_of ((dk_bind (dk_u1 (h 0 _ rfl))).trans rfl)
theorem dk_96 {code : ByteArray} {pc : Nat} (h : DkAt code pc [96]) : decode code pc = .ok (.iadd, 1) := dk_of ((dk_bind (dk_u1 (h 0 _ rfl))).trans rfl)
theorem dk_100 {code : ByteArray} {pc : Nat} (h : DkAt code pc [100]) : decode code pc = .ok (.isub, 1) := dk_of ((dk_bind (dk_u1 (h 0 _ rfl))).trans rfl)
theorem dk_104 {code : ByteArray} {pc : Nat} (h : DkAt code pc [104]) : decode code pc = .ok (.imul, 1) := dk_of ((dk_bind (dk_u1 (h 0 _ rfl))).trans rfl)
theorem dk_108 {code : ByteArray} {pc : Nat} (h : DkAt code pc [108]) : decode code pc = .ok (.idiv, 1) := dk_of ((dk_bind (dk_u1 (h 0 _ rfl))).trans rfl)
theorem dk_110 {code : ByteArray} {pc : Nat} (h : DkAt code pc [110]) : decode code pc = .ok (.fdiv, 1) := dk_of ((dk_bind (dk_u1 (h 0 _ rfl))).trans rfl)
theorem dk_111 {code : ByteArray} {pc : Nat} (h : DkAt code pc [111]) : decode code pc = .ok (.ddiv, 1) := dk_of ((dk_bind (dk_u1 (h 0 _ rfl))).trans rfl)
theorem dk_116 {code : ByteArray} {pc : Nat} (h : DkAt code pc [116]) : decode code pc = .ok (.ineg, 1) := dk_of ((dk_bind (dk_u1 (h 0 _ rfl))).trans rfl)
theorem dk_120 {code : ByteArray} {pc : Nat} (h : DkAt code pc [120]) : decode code pc = .ok (.ishl, 1) := dk_of ((dk_bind (dk_u1 (h 0 _ rfl))).trans rfl)
theorem dk_121 {code : ByteArray} {pc : Nat} (h : DkAt code pc [121]) : decode code pc = .ok (.lshl, 1) := dk_of ((dk_bind (dk_u1 (h 0 _ rfl))).trans rfl)
theorem dk_122 {code : ByteArray} {pc : Nat} (h : DkAt code pc [122]) : decode code pc = .ok (.ishr, 1) := dk_of ((dk_bind (dk_u1 (h 0 _ rfl))).trans rfl)
theorem dk_124 {code : ByteArray} {pc : Nat} (h : DkAt code pc [124]) : decode code pc = .ok (.iushr, 1) := dk_of ((dk_bind (dk_u1 (h 0 _ rfl))).trans rfl)
theorem dk_125 {code : ByteArray} {pc : Nat} (h : DkAt code pc [125]) : decode code pc = .ok (.lushr, 1) := dk_of ((dk_bind (dk_u1 (h 0 _ rfl))).trans rfl)
theorem dk_126 {code : ByteArray} {pc : Nat} (h : DkAt code pc [126]) : decode code pc = .ok (.iand, 1) := dk_of ((dk_bind (dk_u1 (h 0 _ rfl))).trans rfl)
theorem dk_127 {code : ByteArray} {pc : Nat} (h : DkAt code pc [127]) : decode code pc = .ok (.land, 1) := dk_of ((dk_bind (dk_u1 (h 0 _ rfl))).trans rfl)
theorem dk_128 {code : ByteArray} {pc : Nat} (h : DkAt code pc [128]) : decode code pc = .ok (.ior, 1) := dk_of ((dk_bind (dk_u1 (h 0 _ rfl))).trans rfl)
theorem dk_129 {code : ByteArray} {pc : Nat} (h : DkAt code pc [129]) : decode code pc = .ok (.lor, 1) := dk_of ((dk_bind (dk_u1 (h 0 _ rfl))).trans rfl)
theorem dk_130 {code : ByteArray} {pc : Nat} (h : DkAt code pc [130]) : decode code pc = .ok (.ixor, 1) := dk_of ((dk_bind (dk_u1 (h 0 _ rfl))).trans rfl)
theorem dk_131 {code : ByteArray} {pc : Nat} (h : DkAt code pc [131]) : decode code pc = .ok (.lxor, 1) := dk_of ((dk_bind (dk_u1 (h 0 _ rfl))).trans rfl)
theorem dk_132 {code : ByteArray} {pc : Nat} (a b : UInt8) (h : DkAt code pc [132, a, b]) : decode code pc = .ok (.iinc a.toNat (Reader.signed 8 b.toNat), 3) := dk_of ((dk_bind (dk_u1 (h 0 _ rfl))).trans ((dk_bind (dk_u1 (h 1 _ rfl))).trans ((dk_bind (dk_map (dk_u1 (h 2 _ rfl)))).trans rfl)))
theorem dk_133 {code : ByteArray} {pc : Nat} (h : DkAt code pc [133]) : decode code pc = .ok (.i2l, 1) := dk_of ((dk_bind (dk_u1 (h 0 _ rfl))).trans rfl)
theorem dk_134 {code : ByteArray} {pc : Nat} (h : DkAt code pc [134]) : decode code pc = .ok (.i2f, 1) := dk_of ((dk_bind (dk_u1 (h 0 _ rfl))).trans rfl)
theorem dk_135 {code : ByteArray} {pc : Nat} (h : DkAt code pc [135]) : decode code pc = .ok (.i2d, 1) := dk_of ((dk_bind (dk_u1 (h 0 _ rfl))).trans rfl)
theorem dk_136 {code : ByteArray} {pc : Nat} (h : DkAt code pc [136]) : decode code pc = .ok (.l2i, 1) := dk_of ((dk_bind (dk_u1 (h 0 _ rfl))).trans rfl)
theorem dk_141 {code : ByteArray} {pc : Nat} (h : DkAt code pc [141]) : decode code pc = .ok (.f2d, 1) := dk_of ((dk_bind (dk_u1 (h 0 _ rfl))).trans rfl)
theorem dk_145 {code : ByteArray} {pc : Nat} (h : DkAt code pc [145]) : decode code pc = .ok (.i2b, 1) := dk_of ((dk_bind (dk_u1 (h 0 _ rfl))).trans rfl)
theorem dk_146 {code : ByteArray} {pc : Nat} (h : DkAt code pc [146]) : decode code pc = .ok (.i2c, 1) := dk_of ((dk_bind (dk_u1 (h 0 _ rfl))).trans rfl)
theorem dk_148 {code : ByteArray} {pc : Nat} (h : DkAt code pc [148]) : decode code pc = .ok (.lcmp, 1) := dk_of ((dk_bind (dk_u1 (h 0 _ rfl))).trans rfl)
theorem dk_151 {code : ByteArray} {pc : Nat} (h : DkAt code pc [151]) : decode code pc = .ok (.dcmp .l, 1) := dk_of ((dk_bind (dk_u1 (h 0 _ rfl))).trans rfl)
theorem dk_153 {code : ByteArray} {pc : Nat} (a b : UInt8) (h : DkAt code pc [153, a, b]) : decode code pc = .ok (.ifCond .eq (Reader.signed 16 (a.toNat * 256 + b.toNat)), 3) := dk_of ((dk_bind (dk_u1 (h 0 _ rfl))).trans ((dk_bind (dk_map (dk_u2 (h 1 _ rfl) (h 2 _ rfl)))).trans rfl))
theorem dk_154 {code : ByteArray} {pc : Nat} (a b : UInt8) (h : DkAt code pc [154, a, b]) : decode code pc = .ok (.ifCond .ne (Reader.signed 16 (a.toNat * 256 + b.toNat)), 3) := dk_of ((dk_bind (dk_u1 (h 0 _ rfl))).trans ((dk_bind (dk_map (dk_u2 (h 1 _ rfl) (h 2 _ rfl)))).trans rfl))
theorem dk_155 {code : ByteArray} {pc : Nat} (a b : UInt8) (h : DkAt code pc [155, a, b]) : decode code pc = .ok (.ifCond .lt (Reader.signed 16 (a.toNat * 256 + b.toNat)), 3) := dk_of ((dk_bind (dk_u1 (h 0 _ rfl))).trans ((dk_bind (dk_map (dk_u2 (h 1 _ rfl) (h 2 _ rfl)))).trans rfl))
theorem dk_156 {code : ByteArray} {pc : Nat} (a b : UInt8) (h : DkAt code pc [156, a, b]) : decode code pc = .ok (.ifCond .ge (Reader.signed 16 (a.toNat * 256 + b.toNat)), 3) := dk_of ((dk_bind (dk_u1 (h 0 _ rfl))).trans ((dk_bind (dk_map (dk_u2 (h 1 _ rfl) (h 2 _ rfl)))).trans rfl))
theorem dk_157 {code : ByteArray} {pc : Nat} (a b : UInt8) (h : DkAt code pc [157, a, b]) : decode code pc = .ok (.ifCond .gt (Reader.signed 16 (a.toNat * 256 + b.toNat)), 3) := dk_of ((dk_bind (dk_u1 (h 0 _ rfl))).trans ((dk_bind (dk_map (dk_u2 (h 1 _ rfl) (h 2 _ rfl)))).trans rfl))
theorem dk_158 {code : ByteArray} {pc : Nat} (a b : UInt8) (h : DkAt code pc [158, a, b]) : decode code pc = .ok (.ifCond .le (Reader.signed 16 (a.toNat * 256 + b.toNat)), 3) := dk_of ((dk_bind (dk_u1 (h 0 _ rfl))).trans ((dk_bind (dk_map (dk_u2 (h 1 _ rfl) (h 2 _ rfl)))).trans rfl))
theorem dk_159 {code : ByteArray} {pc : Nat} (a b : UInt8) (h : DkAt code pc [159, a, b]) : decode code pc = .ok (.if_icmp .eq (Reader.signed 16 (a.toNat * 256 + b.toNat)), 3) := dk_of ((dk_bind (dk_u1 (h 0 _ rfl))).trans ((dk_bind (dk_map (dk_u2 (h 1 _ rfl) (h 2 _ rfl)))).trans rfl))
theorem dk_160 {code : ByteArray} {pc : Nat} (a b : UInt8) (h : DkAt code pc [160, a, b]) : decode code pc = .ok (.if_icmp .ne (Reader.signed 16 (a.toNat * 256 + b.toNat)), 3) := dk_of ((dk_bind (dk_u1 (h 0 _ rfl))).trans ((dk_bind (dk_map (dk_u2 (h 1 _ rfl) (h 2 _ rfl)))).trans rfl))
theorem dk_161 {code : ByteArray} {pc : Nat} (a b : UInt8) (h : DkAt code pc [161, a, b]) : decode code pc = .ok (.if_icmp .lt (Reader.signed 16 (a.toNat * 256 + b.toNat)), 3) := dk_of ((dk_bind (dk_u1 (h 0 _ rfl))).trans ((dk_bind (dk_map (dk_u2 (h 1 _ rfl) (h 2 _ rfl)))).trans rfl))
theorem dk_162 {code : ByteArray} {pc : Nat} (a b : UInt8) (h : DkAt code pc [162, a, b]) : decode code pc = .ok (.if_icmp .ge (Reader.signed 16 (a.toNat * 256 + b.toNat)), 3) := dk_of ((dk_bind (dk_u1 (h 0 _ rfl))).trans ((dk_bind (dk_map (dk_u2 (h 1 _ rfl) (h 2 _ rfl)))).trans rfl))
theorem dk_163 {code : ByteArray} {pc : Nat} (a b : UInt8) (h : DkAt code pc [163, a, b]) : decode code pc = .ok (.if_icmp .gt (Reader.signed 16 (a.toNat * 256 + b.toNat)), 3) := dk_of ((dk_bind (dk_u1 (h 0 _ rfl))).trans ((dk_bind (dk_map (dk_u2 (h 1 _ rfl) (h 2 _ rfl)))).trans rfl))
theorem dk_164 {code : ByteArray} {pc : Nat} (a b : UInt8) (h : DkAt code pc [164, a, b]) : decode code pc = .ok (.if_icmp .le (Reader.signed 16 (a.toNat * 256 + b.toNat)), 3) := dk_of ((dk_bind (dk_u1 (h 0 _ rfl))).trans ((dk_bind (dk_map (dk_u2 (h 1 _ rfl) (h 2 _ rfl)))).trans rfl))
theorem dk_165 {code : ByteArray} {pc : Nat} (a b : UInt8) (h : DkAt code pc [165, a, b]) : decode code pc = .ok (.if_acmp .eq (Reader.signed 16 (a.toNat * 256 + b.toNat)), 3) := dk_of ((dk_bind (dk_u1 (h 0 _ rfl))).trans ((dk_bind (dk_map (dk_u2 (h 1 _ rfl) (h 2 _ rfl)))).trans rfl))
theorem dk_166 {code : ByteArray} {pc : Nat} (a b : UInt8) (h : DkAt code pc [166, a, b]) : decode code pc = .ok (.if_acmp .ne (Reader.signed 16 (a.toNat * 256 + b.toNat)), 3) := dk_of ((dk_bind (dk_u1 (h 0 _ rfl))).trans ((dk_bind (dk_map (dk_u2 (h 1 _ rfl) (h 2 _ rfl)))).trans rfl))
theorem dk_167 {code : ByteArray} {pc : Nat} (a b : UInt8) (h : DkAt code pc [167, a, b]) : decode code pc = .ok (.goto (Reader.signed 16 (a.toNat * 256 + b.toNat)), 3) := dk_of ((dk_bind (dk_u1 (h 0 _ rfl))).trans ((dk_bind (dk_map (dk_u2 (h 1 _ rfl) (h 2 _ rfl)))).trans rfl))
theorem dk_172 {code : ByteArray} {pc : Nat} (h : DkAt code pc [172]) : decode code pc = .ok (.ireturn, 1) := dk_of ((dk_bind (dk_u1 (h 0 _ rfl))).trans rfl)
theorem dk_174 {code : ByteArray} {pc : Nat} (h : DkAt code pc [174]) : decode code pc = .ok (.freturn, 1) := dk_of ((dk_bind (dk_u1 (h 0 _ rfl))).trans rfl)
theorem dk_175 {code : ByteArray} {pc : Nat} (h : DkAt code pc [175]) : decode code pc = .ok (.dreturn, 1) := dk_of ((dk_bind (dk_u1 (h 0 _ rfl))).trans rfl)
theorem dk_176 {code : ByteArray} {pc : Nat} (h : DkAt code pc [176]) : decode code pc = .ok (.areturn, 1) := dk_of ((dk_bind (dk_u1 (h 0 _ rfl))).trans rfl)
theorem dk_177 {code : ByteArray} {pc : Nat} (h : DkAt code pc [177]) : decode code pc = .ok (.return_, 1) := dk_of ((dk_bind (dk_u1 (h 0 _ rfl))).trans rfl)
theorem dk_178 {code : ByteArray} {pc : Nat} (a b : UInt8) (h : DkAt code pc [178, a, b]) : decode code pc = .ok (.getstatic (a.toNat * 256 + b.toNat), 3) := dk_of ((dk_bind (dk_u1 (h 0 _ rfl))).trans ((dk_bind (dk_u2 (h 1 _ rfl) (h 2 _ rfl))).trans rfl))
theorem dk_180 {code : ByteArray} {pc : Nat} (a b : UInt8) (h : DkAt code pc [180, a, b]) : decode code pc = .ok (.getfield (a.toNat * 256 + b.toNat), 3) := dk_of ((dk_bind (dk_u1 (h 0 _ rfl))).trans ((dk_bind (dk_u2 (h 1 _ rfl) (h 2 _ rfl))).trans rfl))
theorem dk_181 {code : ByteArray} {pc : Nat} (a b : UInt8) (h : DkAt code pc [181, a, b]) : decode code pc = .ok (.putfield (a.toNat * 256 + b.toNat), 3) := dk_of ((dk_bind (dk_u1 (h 0 _ rfl))).trans ((dk_bind (dk_u2 (h 1 _ rfl) (h 2 _ rfl))).trans rfl))
theorem dk_182 {code : ByteArray} {pc : Nat} (a b : UInt8) (h : DkAt code pc [182, a, b]) : decode code pc = .ok (.invokevirtual (a.toNat * 256 + b.toNat), 3) := dk_of ((dk_bind (dk_u1 (h 0 _ rfl))).trans ((dk_bind (dk_u2 (h 1 _ rfl) (h 2 _ rfl))).trans rfl))
theorem dk_183 {code : ByteArray} {pc : Nat} (a b : UInt8) (h : DkAt code pc [183, a, b]) : decode code pc = .ok (.invokespecial (a.toNat * 256 + b.toNat), 3) := dk_of ((dk_bind (dk_u1 (h 0 _ rfl))).trans ((dk_bind (dk_u2 (h 1 _ rfl) (h 2 _ rfl))).trans rfl))
theorem dk_184 {code : ByteArray} {pc : Nat} (a b : UInt8) (h : DkAt code pc [184, a, b]) : decode code pc = .ok (.invokestatic (a.toNat * 256 + b.toNat), 3) := dk_of ((dk_bind (dk_u1 (h 0 _ rfl))).trans ((dk_bind (dk_u2 (h 1 _ rfl) (h 2 _ rfl))).trans rfl))
theorem dk_187 {code : ByteArray} {pc : Nat} (a b : UInt8) (h : DkAt code pc [187, a, b]) : decode code pc = .ok (.new (a.toNat * 256 + b.toNat), 3) := dk_of ((dk_bind (dk_u1 (h 0 _ rfl))).trans ((dk_bind (dk_u2 (h 1 _ rfl) (h 2 _ rfl))).trans rfl))
theorem dk_188_4 {code : ByteArray} {pc : Nat} (h : DkAt code pc [188, 4]) : decode code pc = .ok (.newarray .boolean, 2) := dk_of ((dk_bind (dk_u1 (h 0 _ rfl))).trans ((dk_bind (dk_u1 (h 1 _ rfl))).trans rfl))
theorem dk_188_8 {code : ByteArray} {pc : Nat} (h : DkAt code pc [188, 8]) : decode code pc = .ok (.newarray .byte, 2) := dk_of ((dk_bind (dk_u1 (h 0 _ rfl))).trans ((dk_bind (dk_u1 (h 1 _ rfl))).trans rfl))
theorem dk_188_10 {code : ByteArray} {pc : Nat} (h : DkAt code pc [188, 10]) : decode code pc = .ok (.newarray .int, 2) := dk_of ((dk_bind (dk_u1 (h 0 _ rfl))).trans ((dk_bind (dk_u1 (h 1 _ rfl))).trans rfl))
theorem dk_188_11 {code : ByteArray} {pc : Nat} (h : DkAt code pc [188, 11]) : decode code pc = .ok (.newarray .long, 2) := dk_of ((dk_bind (dk_u1 (h 0 _ rfl))).trans ((dk_bind (dk_u1 (h 1 _ rfl))).trans rfl))
theorem dk_189 {code : ByteArray} {pc : Nat} (a b : UInt8) (h : DkAt code pc [189, a, b]) : decode code pc = .ok (.anewarray (a.toNat * 256 + b.toNat), 3) := dk_of ((dk_bind (dk_u1 (h 0 _ rfl))).trans ((dk_bind (dk_u2 (h 1 _ rfl) (h 2 _ rfl))).trans rfl))
theorem dk_190 {code : ByteArray} {pc : Nat} (h : DkAt code pc [190]) : decode code pc = .ok (.arraylength, 1) := dk_of ((dk_bind (dk_u1 (h 0 _ rfl))).trans rfl)
theorem dk_191 {code : ByteArray} {pc : Nat} (h : DkAt code pc [191]) : decode code pc = .ok (.athrow, 1) := dk_of ((dk_bind (dk_u1 (h 0 _ rfl))).trans rfl)
theorem dk_192 {code : ByteArray} {pc : Nat} (a b : UInt8) (h : DkAt code pc [192, a, b]) : decode code pc = .ok (.checkcast (a.toNat * 256 + b.toNat), 3) := dk_of ((dk_bind (dk_u1 (h 0 _ rfl))).trans ((dk_bind (dk_u2 (h 1 _ rfl) (h 2 _ rfl))).trans rfl))
theorem dk_198 {code : ByteArray} {pc : Nat} (a b : UInt8) (h : DkAt code pc [198, a, b]) : decode code pc = .ok (.ifnull (Reader.signed 16 (a.toNat * 256 + b.toNat)), 3) := dk_of ((dk_bind (dk_u1 (h 0 _ rfl))).trans ((dk_bind (dk_map (dk_u2 (h 1 _ rfl) (h 2 _ rfl)))).trans rfl))
theorem dk_199 {code : ByteArray} {pc : Nat} (a b : UInt8) (h : DkAt code pc [199, a, b]) : decode code pc = .ok (.ifnonnull (Reader.signed 16 (a.toNat * 256 + b.toNat)), 3) := dk_of ((dk_bind (dk_u1 (h 0 _ rfl))).trans ((dk_bind (dk_map (dk_u2 (h 1 _ rfl) (h 2 _ rfl)))).trans rfl))
/-! java/util/AbstractCollection -/
set_option maxRecDepth 100000
def RJ0 : String := "java/util/AbstractCollection"
abbrev cJ0_init : ByteArray := prog_43_method_1_code
def yJ0_init : MethodName := ⟨RJ0, "<init>", "()V"⟩
theorem dJ0_init_0 : decode cJ0_init 0 = .ok (.aload_n 0, 1) := by decide +kernel
theorem dJ0_init_1 : decode cJ0_init 1 = .ok (.invokespecial 1, 3) := by decide +kernel
theorem dJ0_init_4 : decode cJ0_init 4 = .ok (.return_, 1) := by decide +kernel
theorem q71 : (Jvm.Cond.initialized "java/util/AbstractCollection") ∈ lw_all := lw_g (lw_at lw_m1 2 rfl) rfl
theorem q140 : (Jvm.Cond.instanceMethod ({ cls := "java/util/AbstractCollection", name := "<init>", desc := "()V" } : Jvm.MethodName)) ∈ lw_all := lw_g (lw_at lw_m1 71 rfl) rfl
theorem q141 : (Jvm.Cond.code ({ cls := "java/util/AbstractCollection", name := "<init>", desc := "()V" } : Jvm.MethodName) prog_43_method_1_code (1 : Nat) (Option.none : Option Jvm.ClassFile.FieldType)) ∈ lw_all := lw_g (lw_at lw_m1 72 rfl) rfl
theorem q142 : (Jvm.Cond.methodLink "java/util/AbstractCollection" (1 : Nat) ({ cls := "java/lang/Object", name := "<init>", desc := "()V" } : Jvm.MethodName)) ∈ lw_all := lw_g (lw_at lw_m1 73 rfl) rfl
theorem q912 : (Jvm.Cond.declares ({ cls := "java/util/AbstractCollection", name := "size", desc := "()I" } : Jvm.MethodName)) ∈ lw_tbl := lw_at lw_m4 123 rfl
/-! java/util/AbstractList -/
set_option maxRecDepth 100000
def RJ1 : String := "java/util/AbstractList"
abbrev cJ1_init : ByteArray := prog_44_method_1_code
def yJ1_init : MethodName := ⟨RJ1, "<init>", "()V"⟩
def dkwJ1_init_0 : List UInt8 := [42, 183, 0, 1, 42, 3, 181, 0, 7, 177]
abbrev dktJ1_init_0 : List UInt8 := dkwJ1_init_0 ++ []
theorem dksJ1_init_0 : cJ1_init.data.toList.drop 0 = dktJ1_init_0 := by decide +kernel
theorem dJ1_init_0 : decode cJ1_init 0 = .ok (.aload_n 0, 1) := dk_42 (dk_at dksJ1_init_0 0 rfl rfl)
theorem dJ1_init_1 : decode cJ1_init 1 = .ok (.invokespecial 1, 3) := dk_183 0 1 (dk_at dksJ1_init_0 1 rfl rfl)
theorem dJ1_init_4 : decode cJ1_init 4 = .ok (.aload_n 0, 1) := dk_42 (dk_at dksJ1_init_0 4 rfl rfl)
theorem dJ1_init_5 : decode cJ1_init 5 = .ok (.iconst 0, 1) := dk_3 (dk_at dksJ1_init_0 5 rfl rfl)
theorem dJ1_init_6 : decode cJ1_init 6 = .ok (.putfield 7, 3) := dk_181 0 7 (dk_at dksJ1_init_0 6 rfl rfl)
theorem dJ1_init_9 : decode cJ1_init 9 = .ok (.return_, 1) := dk_177 (dk_at dksJ1_init_0 9 rfl rfl)
abbrev cJ1_listIterator : ByteArray := prog_44_method_12_code
def yJ1_listIterator : MethodName := ⟨RJ1, "listIterator", "()Ljava/util/ListIterator;"⟩
def dkwJ1_listIterator_0 : List UInt8 := [42, 3, 182, 0, 47, 176]
abbrev dktJ1_listIterator_0 : List UInt8 := dkwJ1_listIterator_0 ++ []
theorem dksJ1_listIterator_0 : cJ1_listIterator.data.toList.drop 0 = dktJ1_listIterator_0 := by decide +kernel
theorem dJ1_listIterator_0 : decode cJ1_listIterator 0 = .ok (.aload_n 0, 1) := dk_42 (dk_at dksJ1_listIterator_0 0 rfl rfl)
theorem dJ1_listIterator_1 : decode cJ1_listIterator 1 = .ok (.iconst 0, 1) := dk_3 (dk_at dksJ1_listIterator_0 1 rfl rfl)
theorem dJ1_listIterator_2 : decode cJ1_listIterator 2 = .ok (.invokevirtual 47, 3) := dk_182 0 47 (dk_at dksJ1_listIterator_0 2 rfl rfl)
theorem dJ1_listIterator_5 : decode cJ1_listIterator 5 = .ok (.areturn, 1) := dk_176 (dk_at dksJ1_listIterator_0 5 rfl rfl)
theorem q72 : (Jvm.Cond.initialized "java/util/AbstractList") ∈ lw_all := lw_g (lw_at lw_m1 3 rfl) rfl
theorem q137 : (Jvm.Cond.instanceMethod ({ cls := "java/util/AbstractList", name := "<init>", desc := "()V" } : Jvm.MethodName)) ∈ lw_all := lw_g (lw_at lw_m1 68 rfl) rfl
theorem q138 : (Jvm.Cond.code ({ cls := "java/util/AbstractList", name := "<init>", desc := "()V" } : Jvm.MethodName) prog_44_method_1_code (1 : Nat) (Option.none : Option Jvm.ClassFile.FieldType)) ∈ lw_all := lw_g (lw_at lw_m1 69 rfl) rfl
theorem q139 : (Jvm.Cond.methodLink "java/util/AbstractList" (1 : Nat) ({ cls := "java/util/AbstractCollection", name := "<init>", desc := "()V" } : Jvm.MethodName)) ∈ lw_all := lw_g (lw_at lw_m1 70 rfl) rfl
theorem q149 : (Jvm.Cond.fieldLink "java/util/AbstractList" (7 : Nat) "java/util/AbstractList" "modCount" "I") ∈ lw_all := lw_g (lw_at lw_m1 80 rfl) rfl
theorem q162 : (Jvm.Cond.soleField "java/util/AbstractList" "modCount") ∈ lw_all := lw_g (lw_at lw_m1 93 rfl) rfl
theorem q818 : (Jvm.Cond.declares ({ cls := "java/util/AbstractList", name := "listIterator", desc := "()Ljava/util/ListIterator;" } : Jvm.MethodName)) ∈ lw_tbl := lw_at lw_m4 29 rfl
theorem q820 : (Jvm.Cond.instanceMethod ({ cls := "java/util/AbstractList", name := "listIterator", desc := "()Ljava/util/ListIterator;" } : Jvm.MethodName)) ∈ lw_all := lw_g (lw_at lw_m4 31 rfl) rfl
theorem q821 : (Jvm.Cond.code ({ cls := "java/util/AbstractList", name := "listIterator", desc := "()Ljava/util/ListIterator;" } : Jvm.MethodName) prog_44_method_12_code (1 : Nat) (Option.some (Jvm.ClassFile.FieldType.object "java/util/ListIterator"))) ∈ lw_all := lw_g (lw_at lw_m4 32 rfl) rfl
theorem q822 : (Jvm.Cond.methodLink "java/util/AbstractList" (47 : Nat) ({ cls := "java/util/AbstractList", name := "listIterator", desc := "(I)Ljava/util/ListIterator;" } : Jvm.MethodName)) ∈ lw_all := lw_g (lw_at lw_m4 33 rfl) rfl
theorem q823 : (Jvm.Cond.instanceMethod ({ cls := "java/util/AbstractList", name := "listIterator", desc := "(I)Ljava/util/ListIterator;" } : Jvm.MethodName)) ∈ lw_all := lw_g (lw_at lw_m4 34 rfl) rfl
theorem q824 : (Jvm.Cond.sameMethod "java/util/AbstractList" "java/util/AbstractList" "listIterator" "(I)Ljava/util/ListIterator;") ∈ lw_all := lw_g (lw_at lw_m4 35 rfl) rfl
theorem q893 : (Jvm.Cond.declares ({ cls := "java/util/AbstractList", name := "listIterator", desc := "(I)Ljava/util/ListIterator;" } : Jvm.MethodName)) ∈ lw_tbl := lw_at lw_m4 104 rfl
theorem q911 : (Jvm.Cond.sameMethod "java/util/AbstractList" "java/util/AbstractCollection" "size" "()I") ∈ lw_all := lw_g (lw_at lw_m4 122 rfl) rfl
theorem q1030 : (Jvm.Cond.declares ({ cls := "java/util/AbstractList", name := "get", desc := "(I)Ljava/lang/Object;" } : Jvm.MethodName)) ∈ lw_tbl := lw_at lw_m5 1 rfl
theorem q1031 : (Jvm.Cond.sameMethod "java/util/AbstractList" "java/util/AbstractList" "get" "(I)Ljava/lang/Object;") ∈ lw_all := lw_g (lw_at lw_m5 2 rfl) rfl
/-! java/lang/Throwable -/
set_option maxRecDepth 100000
def RJ10 : String := "java/lang/Throwable"
def TJ10 : u_T := fun k => match k with
  | 0 => ("java/lang/Throwable", "cause", "Ljava/lang/Throwable;", false)
  | 1 => ("java/lang/Throwable", "stackTrace", "[Ljava/lang/StackTraceElement;", false)
  | 2 => ("java/lang/Throwable", "suppressedExceptions", "Ljava/util/List;", false)
  | 3 => ("java/lang/Throwable", "detailMessage", "Ljava/lang/String;", false)
  | _ => ("java/lang/Throwable", "backtrace", "Ljava/lang/Object;", false)
def tyJ10 : Nat → FieldType := fun k => match k with
  | 0 => .object "java/lang/Throwable"
  | 1 => .array (.object "java/lang/StackTraceElement")
  | 2 => .object "java/util/List"
  | 3 => .object "java/lang/String"
  | _ => .object "java/lang/Object"
abbrev wsJ100 : List Cond := u_ws RJ10 TJ10 5
theorem nmJ10 : ∀ a, a < 5 → ∀ b, b < 5 → a ≠ b → (TJ10 a).2.1 ≠ (TJ10 b).2.1 := by decide +kernel
theorem tyJ10_ok : ∀ k, k < 5 → parseFieldDescriptor (TJ10 k).2.2.1 = some (tyJ10 k) := by decide +kernel
abbrev cJ10_init : ByteArray := prog_40_method_1_code
def yJ10_init : MethodName := ⟨RJ10, "<init>", "()V"⟩
def dkwJ10_init_1 : List UInt8 := [182, 0, 27, 87, 177]
abbrev dktJ10_init_1 : List UInt8 := dkwJ10_init_1 ++ []
def dkwJ10_init_0 : List UInt8 := [42, 183, 0, 1, 42, 42, 181, 0, 7, 42, 178, 0, 13, 181, 0, 17, 42, 178, 0, 20, 181, 0, 24, 42]
abbrev dktJ10_init_0 : List UInt8 := dkwJ10_init_0 ++ dktJ10_init_1
theorem dksJ10_init_0 : cJ10_init.data.toList.drop 0 = dktJ10_init_0 := by decide +kernel
theorem dksJ10_init_1 : cJ10_init.data.toList.drop 24 = dktJ10_init_1 := dk_seg dksJ10_init_0 24 rfl rfl
theorem dJ10_init_0 : decode cJ10_init 0 = .ok (.aload_n 0, 1) := dk_42 (dk_at dksJ10_init_0 0 rfl rfl)
theorem dJ10_init_1 : decode cJ10_init 1 = .ok (.invokespecial 1, 3) := dk_183 0 1 (dk_at dksJ10_init_0 1 rfl rfl)
theorem dJ10_init_4 : decode cJ10_init 4 = .ok (.aload_n 0, 1) := dk_42 (dk_at dksJ10_init_0 4 rfl rfl)
theorem dJ10_init_5 : decode cJ10_init 5 = .ok (.aload_n 0, 1) := dk_42 (dk_at dksJ10_init_0 5 rfl rfl)
theorem dJ10_init_6 : decode cJ10_init 6 = .ok (.putfield 7, 3) := dk_181 0 7 (dk_at dksJ10_init_0 6 rfl rfl)
theorem dJ10_init_9 : decode cJ10_init 9 = .ok (.aload_n 0, 1) := dk_42 (dk_at dksJ10_init_0 9 rfl rfl)
theorem dJ10_init_10 : decode cJ10_init 10 = .ok (.getstatic 13, 3) := dk_178 0 13 (dk_at dksJ10_init_0 10 rfl rfl)
theorem dJ10_init_13 : decode cJ10_init 13 = .ok (.putfield 17, 3) := dk_181 0 17 (dk_at dksJ10_init_0 13 rfl rfl)
theorem dJ10_init_16 : decode cJ10_init 16 = .ok (.aload_n 0, 1) := dk_42 (dk_at dksJ10_init_0 16 rfl rfl)
theorem dJ10_init_17 : decode cJ10_init 17 = .ok (.getstatic 20, 3) := dk_178 0 20 (dk_at dksJ10_init_0 17 rfl rfl)
theorem dJ10_init_20 : decode cJ10_init 20 = .ok (.putfield 24, 3) := dk_181 0 24 (dk_at dksJ10_init_0 20 rfl rfl)
theorem dJ10_init_23 : decode cJ10_init 23 = .ok (.aload_n 0, 1) := dk_42 (dk_at dksJ10_init_0 23 rfl rfl)
theorem dJ10_init_24 : decode cJ10_init 24 = .ok (.invokevirtual 27, 3) := dk_182 0 27 (dk_at dksJ10_init_1 0 rfl rfl)
theorem dJ10_init_27 : decode cJ10_init 27 = .ok (.pop, 1) := dk_87 (dk_at dksJ10_init_1 3 rfl rfl)
theorem dJ10_init_28 : decode cJ10_init 28 = .ok (.return_, 1) := dk_177 (dk_at dksJ10_init_1 4 rfl rfl)
abbrev cJ10_init_2 : ByteArray := prog_40_method_2_code
def yJ10_init_2 : MethodName := ⟨RJ10, "<init>", "(Ljava/lang/String;)V"⟩
def dkwJ10_init_2_1 : List UInt8 := [182, 0, 27, 87, 42, 43, 181, 0, 31, 177]
abbrev dktJ10_init_2_1 : List UInt8 := dkwJ10_init_2_1 ++ []
def dkwJ10_init_2_0 : List UInt8 := [42, 183, 0, 1, 42, 42, 181, 0, 7, 42, 178, 0, 13, 181, 0, 17, 42, 178, 0, 20, 181, 0, 24, 42]
abbrev dktJ10_init_2_0 : List UInt8 := dkwJ10_init_2_0 ++ dktJ10_init_2_1
theorem dksJ10_init_2_0 : cJ10_init_2.data.toList.drop 0 = dktJ10_init_2_0 := by decide +kernel
theorem dksJ10_init_2_1 : cJ10_init_2.data.toList.drop 24 = dktJ10_init_2_1 := dk_seg dksJ10_init_2_0 24 rfl rfl
theorem dJ10_init_2_0 : decode cJ10_init_2 0 = .ok (.aload_n 0, 1) := dk_42 (dk_at dksJ10_init_2_0 0 rfl rfl)
theorem dJ10_init_2_1 : decode cJ10_init_2 1 = .ok (.invokespecial 1, 3) := dk_183 0 1 (dk_at dksJ10_init_2_0 1 rfl rfl)
theorem dJ10_init_2_4 : decode cJ10_init_2 4 = .ok (.aload_n 0, 1) := dk_42 (dk_at dksJ10_init_2_0 4 rfl rfl)
theorem dJ10_init_2_5 : decode cJ10_init_2 5 = .ok (.aload_n 0, 1) := dk_42 (dk_at dksJ10_init_2_0 5 rfl rfl)
theorem dJ10_init_2_6 : decode cJ10_init_2 6 = .ok (.putfield 7, 3) := dk_181 0 7 (dk_at dksJ10_init_2_0 6 rfl rfl)
theorem dJ10_init_2_9 : decode cJ10_init_2 9 = .ok (.aload_n 0, 1) := dk_42 (dk_at dksJ10_init_2_0 9 rfl rfl)
theorem dJ10_init_2_10 : decode cJ10_init_2 10 = .ok (.getstatic 13, 3) := dk_178 0 13 (dk_at dksJ10_init_2_0 10 rfl rfl)
theorem dJ10_init_2_13 : decode cJ10_init_2 13 = .ok (.putfield 17, 3) := dk_181 0 17 (dk_at dksJ10_init_2_0 13 rfl rfl)
theorem dJ10_init_2_16 : decode cJ10_init_2 16 = .ok (.aload_n 0, 1) := dk_42 (dk_at dksJ10_init_2_0 16 rfl rfl)
theorem dJ10_init_2_17 : decode cJ10_init_2 17 = .ok (.getstatic 20, 3) := dk_178 0 20 (dk_at dksJ10_init_2_0 17 rfl rfl)
theorem dJ10_init_2_20 : decode cJ10_init_2 20 = .ok (.putfield 24, 3) := dk_181 0 24 (dk_at dksJ10_init_2_0 20 rfl rfl)
theorem dJ10_init_2_23 : decode cJ10_init_2 23 = .ok (.aload_n 0, 1) := dk_42 (dk_at dksJ10_init_2_0 23 rfl rfl)
theorem dJ10_init_2_24 : decode cJ10_init_2 24 = .ok (.invokevirtual 27, 3) := dk_182 0 27 (dk_at dksJ10_init_2_1 0 rfl rfl)
theorem dJ10_init_2_27 : decode cJ10_init_2 27 = .ok (.pop, 1) := dk_87 (dk_at dksJ10_init_2_1 3 rfl rfl)
theorem dJ10_init_2_28 : decode cJ10_init_2 28 = .ok (.aload_n 0, 1) := dk_42 (dk_at dksJ10_init_2_1 4 rfl rfl)
theorem dJ10_init_2_29 : decode cJ10_init_2 29 = .ok (.aload_n 1, 1) := dk_43 (dk_at dksJ10_init_2_1 5 rfl rfl)
theorem dJ10_init_2_30 : decode cJ10_init_2 30 = .ok (.putfield 31, 3) := dk_181 0 31 (dk_at dksJ10_init_2_1 6 rfl rfl)
theorem dJ10_init_2_33 : decode cJ10_init_2 33 = .ok (.return_, 1) := dk_177 (dk_at dksJ10_init_2_1 9 rfl rfl)
abbrev cJ10_init_3 : ByteArray := prog_40_method_4_code
def yJ10_init_3 : MethodName := ⟨RJ10, "<init>", "(Ljava/lang/Throwable;)V"⟩
def dkwJ10_init_3_2 : List UInt8 := [181, 0, 7, 177]
abbrev dktJ10_init_3_2 : List UInt8 := dkwJ10_init_3_2 ++ []
def dkwJ10_init_3_1 : List UInt8 := [182, 0, 27, 87, 42, 43, 199, 0, 7, 1, 167, 0, 7, 43, 182, 0, 35, 181, 0, 31, 42, 43]
abbrev dktJ10_init_3_1 : List UInt8 := dkwJ10_init_3_1 ++ dktJ10_init_3_2
def dkwJ10_init_3_0 : List UInt8 := [42, 183, 0, 1, 42, 42, 181, 0, 7, 42, 178, 0, 13, 181, 0, 17, 42, 178, 0, 20, 181, 0, 24, 42]
abbrev dktJ10_init_3_0 : List UInt8 := dkwJ10_init_3_0 ++ dktJ10_init_3_1
theorem dksJ10_init_3_0 : cJ10_init_3.data.toList.drop 0 = dktJ10_init_3_0 := by decide +kernel
theorem dksJ10_init_3_1 : cJ10_init_3.data.toList.drop 24 = dktJ10_init_3_1 := dk_seg dksJ10_init_3_0 24 rfl rfl
theorem dksJ10_init_3_2 : cJ10_init_3.data.toList.drop 46 = dktJ10_init_3_2 := dk_seg dksJ10_init_3_1 22 rfl rfl
theorem dJ10_init_3_0 : decode cJ10_init_3 0 = .ok (.aload_n 0, 1) := dk_42 (dk_at dksJ10_init_3_0 0 rfl rfl)
theorem dJ10_init_3_1 : decode cJ10_init_3 1 = .ok (.invokespecial 1, 3) := dk_183 0 1 (dk_at dksJ10_init_3_0 1 rfl rfl)
theorem dJ10_init_3_4 : decode cJ10_init_3 4 = .ok (.aload_n 0, 1) := dk_42 (dk_at dksJ10_init_3_0 4 rfl rfl)
theorem dJ10_init_3_5 : decode cJ10_init_3 5 = .ok (.aload_n 0, 1) := dk_42 (dk_at dksJ10_init_3_0 5 rfl rfl)
theorem dJ10_init_3_6 : decode cJ10_init_3 6 = .ok (.putfield 7, 3) := dk_181 0 7 (dk_at dksJ10_init_3_0 6 rfl rfl)
theorem dJ10_init_3_9 : decode cJ10_init_3 9 = .ok (.aload_n 0, 1) := dk_42 (dk_at dksJ10_init_3_0 9 rfl rfl)
theorem dJ10_init_3_10 : decode cJ10_init_3 10 = .ok (.getstatic 13, 3) := dk_178 0 13 (dk_at dksJ10_init_3_0 10 rfl rfl)
theorem dJ10_init_3_13 : decode cJ10_init_3 13 = .ok (.putfield 17, 3) := dk_181 0 17 (dk_at dksJ10_init_3_0 13 rfl rfl)
theorem dJ10_init_3_16 : decode cJ10_init_3 16 = .ok (.aload_n 0, 1) := dk_42 (dk_at dksJ10_init_3_0 16 rfl rfl)
theorem dJ10_init_3_17 : decode cJ10_init_3 17 = .ok (.getstatic 20, 3) := dk_178 0 20 (dk_at dksJ10_init_3_0 17 rfl rfl)
theorem dJ10_init_3_20 : decode cJ10_init_3 20 = .ok (.putfield 24, 3) := dk_181 0 24 (dk_at dksJ10_init_3_0 20 rfl rfl)
theorem dJ10_init_3_23 : decode cJ10_init_3 23 = .ok (.aload_n 0, 1) := dk_42 (dk_at dksJ10_init_3_0 23 rfl rfl)
theorem dJ10_init_3_24 : decode cJ10_init_3 24 = .ok (.invokevirtual 27, 3) := dk_182 0 27 (dk_at dksJ10_init_3_1 0 rfl rfl)
theorem dJ10_init_3_27 : decode cJ10_init_3 27 = .ok (.pop, 1) := dk_87 (dk_at dksJ10_init_3_1 3 rfl rfl)
theorem dJ10_init_3_28 : decode cJ10_init_3 28 = .ok (.aload_n 0, 1) := dk_42 (dk_at dksJ10_init_3_1 4 rfl rfl)
theorem dJ10_init_3_29 : decode cJ10_init_3 29 = .ok (.aload_n 1, 1) := dk_43 (dk_at dksJ10_init_3_1 5 rfl rfl)
theorem dJ10_init_3_30 : decode cJ10_init_3 30 = .ok (.ifnonnull 7, 3) := dk_199 0 7 (dk_at dksJ10_init_3_1 6 rfl rfl)
theorem dJ10_init_3_33 : decode cJ10_init_3 33 = .ok (.aconst_null, 1) := dk_1 (dk_at dksJ10_init_3_1 9 rfl rfl)
theorem dJ10_init_3_34 : decode cJ10_init_3 34 = .ok (.goto 7, 3) := dk_167 0 7 (dk_at dksJ10_init_3_1 10 rfl rfl)
theorem dJ10_init_3_37 : decode cJ10_init_3 37 = .ok (.aload_n 1, 1) := dk_43 (dk_at dksJ10_init_3_1 13 rfl rfl)
theorem dJ10_init_3_38 : decode cJ10_init_3 38 = .ok (.invokevirtual 35, 3) := dk_182 0 35 (dk_at dksJ10_init_3_1 14 rfl rfl)
theorem dJ10_init_3_41 : decode cJ10_init_3 41 = .ok (.putfield 31, 3) := dk_181 0 31 (dk_at dksJ10_init_3_1 17 rfl rfl)
theorem dJ10_init_3_44 : decode cJ10_init_3 44 = .ok (.aload_n 0, 1) := dk_42 (dk_at dksJ10_init_3_1 20 rfl rfl)
theorem dJ10_init_3_45 : decode cJ10_init_3 45 = .ok (.aload_n 1, 1) := dk_43 (dk_at dksJ10_init_3_1 21 rfl rfl)
theorem dJ10_init_3_46 : decode cJ10_init_3 46 = .ok (.putfield 7, 3) := dk_181 0 7 (dk_at dksJ10_init_3_2 0 rfl rfl)
theorem dJ10_init_3_49 : decode cJ10_init_3 49 = .ok (.return_, 1) := dk_177 (dk_at dksJ10_init_3_2 3 rfl rfl)
abbrev cJ10_toString : ByteArray := prog_40_method_11_code
def yJ10_toString : MethodName := ⟨RJ10, "toString", "()Ljava/lang/String;"⟩
def dkwJ10_toString_1 : List UInt8 := [43, 182, 0, 49, 18, 81, 182, 0, 49, 44, 182, 0, 49, 182, 0, 60, 167, 0, 4, 43, 176]
abbrev dktJ10_toString_1 : List UInt8 := dkwJ10_toString_1 ++ []
def dkwJ10_toString_0 : List UInt8 := [42, 182, 0, 69, 182, 0, 73, 76, 42, 182, 0, 78, 77, 44, 198, 0, 29, 187, 0, 44, 89, 183, 0, 46]
abbrev dktJ10_toString_0 : List UInt8 := dkwJ10_toString_0 ++ dktJ10_toString_1
theorem dksJ10_toString_0 : cJ10_toString.data.toList.drop 0 = dktJ10_toString_0 := by decide +kernel
theorem dksJ10_toString_1 : cJ10_toString.data.toList.drop 24 = dktJ10_toString_1 := dk_seg dksJ10_toString_0 24 rfl rfl
theorem dJ10_toString_0 : decode cJ10_toString 0 = .ok (.aload_n 0, 1) := dk_42 (dk_at dksJ10_toString_0 0 rfl rfl)
theorem dJ10_toString_1 : decode cJ10_toString 1 = .ok (.invokevirtual 69, 3) := dk_182 0 69 (dk_at dksJ10_toString_0 1 rfl rfl)
theorem dJ10_toString_4 : decode cJ10_toString 4 = .ok (.invokevirtual 73, 3) := dk_182 0 73 (dk_at dksJ10_toString_0 4 rfl rfl)
theorem dJ10_toString_7 : decode cJ10_toString 7 = .ok (.astore_n 1, 1) := dk_76 (dk_at dksJ10_toString_0 7 rfl rfl)
theorem dJ10_toString_8 : decode cJ10_toString 8 = .ok (.aload_n 0, 1) := dk_42 (dk_at dksJ10_toString_0 8 rfl rfl)
theorem dJ10_toString_9 : decode cJ10_toString 9 = .ok (.invokevirtual 78, 3) := dk_182 0 78 (dk_at dksJ10_toString_0 9 rfl rfl)
theorem dJ10_toString_12 : decode cJ10_toString 12 = .ok (.astore_n 2, 1) := dk_77 (dk_at dksJ10_toString_0 12 rfl rfl)
theorem dJ10_toString_13 : decode cJ10_toString 13 = .ok (.aload_n 2, 1) := dk_44 (dk_at dksJ10_toString_0 13 rfl rfl)
theorem dJ10_toString_14 : decode cJ10_toString 14 = .ok (.ifnull 29, 3) := dk_198 0 29 (dk_at dksJ10_toString_0 14 rfl rfl)
theorem dJ10_toString_17 : decode cJ10_toString 17 = .ok (.new 44, 3) := dk_187 0 44 (dk_at dksJ10_toString_0 17 rfl rfl)
theorem dJ10_toString_20 : decode cJ10_toString 20 = .ok (.dup, 1) := dk_89 (dk_at dksJ10_toString_0 20 rfl rfl)
theorem dJ10_toString_21 : decode cJ10_toString 21 = .ok (.invokespecial 46, 3) := dk_183 0 46 (dk_at dksJ10_toString_0 21 rfl rfl)
theorem dJ10_toString_24 : decode cJ10_toString 24 = .ok (.aload_n 1, 1) := dk_43 (dk_at dksJ10_toString_1 0 rfl rfl)
theorem dJ10_toString_25 : decode cJ10_toString 25 = .ok (.invokevirtual 49, 3) := dk_182 0 49 (dk_at dksJ10_toString_1 1 rfl rfl)
theorem dJ10_toString_28 : decode cJ10_toString 28 = .ok (.ldc 81, 2) := dk_18 81 (dk_at dksJ10_toString_1 4 rfl rfl)
theorem dJ10_toString_30 : decode cJ10_toString 30 = .ok (.invokevirtual 49, 3) := dk_182 0 49 (dk_at dksJ10_toString_1 6 rfl rfl)
theorem dJ10_toString_33 : decode cJ10_toString 33 = .ok (.aload_n 2, 1) := dk_44 (dk_at dksJ10_toString_1 9 rfl rfl)
theorem dJ10_toString_34 : decode cJ10_toString 34 = .ok (.invokevirtual 49, 3) := dk_182 0 49 (dk_at dksJ10_toString_1 10 rfl rfl)
theorem dJ10_toString_37 : decode cJ10_toString 37 = .ok (.invokevirtual 60, 3) := dk_182 0 60 (dk_at dksJ10_toString_1 13 rfl rfl)
theorem dJ10_toString_40 : decode cJ10_toString 40 = .ok (.goto 4, 3) := dk_167 0 4 (dk_at dksJ10_toString_1 16 rfl rfl)
theorem dJ10_toString_43 : decode cJ10_toString 43 = .ok (.aload_n 1, 1) := dk_43 (dk_at dksJ10_toString_1 19 rfl rfl)
theorem dJ10_toString_44 : decode cJ10_toString 44 = .ok (.areturn, 1) := dk_176 (dk_at dksJ10_toString_1 20 rfl rfl)
abbrev cJ10_getLocalizedMessage : ByteArray := prog_40_method_7_code
def yJ10_getLocalizedMessage : MethodName := ⟨RJ10, "getLocalizedMessage", "()Ljava/lang/String;"⟩
theorem dJ10_getLocalizedMessage_0 : decode cJ10_getLocalizedMessage 0 = .ok (.aload_n 0, 1) := by decide +kernel
theorem dJ10_getLocalizedMessage_1 : decode cJ10_getLocalizedMessage 1 = .ok (.invokevirtual 39, 3) := by decide +kernel
theorem dJ10_getLocalizedMessage_4 : decode cJ10_getLocalizedMessage 4 = .ok (.areturn, 1) := by decide +kernel
abbrev cJ10_getMessage : ByteArray := prog_40_method_6_code
def yJ10_getMessage : MethodName := ⟨RJ10, "getMessage", "()Ljava/lang/String;"⟩
theorem dJ10_getMessage_0 : decode cJ10_getMessage 0 = .ok (.aload_n 0, 1) := by decide +kernel
theorem dJ10_getMessage_1 : decode cJ10_getMessage 1 = .ok (.getfield 31, 3) := by decide +kernel
theorem dJ10_getMessage_4 : decode cJ10_getMessage 4 = .ok (.areturn, 1) := by decide +kernel
abbrev cJ10_init_4 : ByteArray := prog_40_method_5_code
def yJ10_init_4 : MethodName := ⟨RJ10, "<init>", "(Ljava/lang/String;Ljava/lang/Throwable;ZZ)V"⟩
def dkwJ10_init_4_2 : List UInt8 := [44, 181, 0, 7, 29, 154, 0, 8, 42, 1, 181, 0, 24, 177]
abbrev dktJ10_init_4_2 : List UInt8 := dkwJ10_init_4_2 ++ []
def dkwJ10_init_4_1 : List UInt8 := [21, 4, 153, 0, 11, 42, 182, 0, 27, 87, 167, 0, 8, 42, 1, 181, 0, 17, 42, 43, 181, 0, 31, 42]
abbrev dktJ10_init_4_1 : List UInt8 := dkwJ10_init_4_1 ++ dktJ10_init_4_2
def dkwJ10_init_4_0 : List UInt8 := [42, 183, 0, 1, 42, 42, 181, 0, 7, 42, 178, 0, 13, 181, 0, 17, 42, 178, 0, 20, 181, 0, 24]
abbrev dktJ10_init_4_0 : List UInt8 := dkwJ10_init_4_0 ++ dktJ10_init_4_1
theorem dksJ10_init_4_0 : cJ10_init_4.data.toList.drop 0 = dktJ10_init_4_0 := by decide +kernel
theorem dksJ10_init_4_1 : cJ10_init_4.data.toList.drop 23 = dktJ10_init_4_1 := dk_seg dksJ10_init_4_0 23 rfl rfl
theorem dksJ10_init_4_2 : cJ10_init_4.data.toList.drop 47 = dktJ10_init_4_2 := dk_seg dksJ10_init_4_1 24 rfl rfl
theorem dJ10_init_4_0 : decode cJ10_init_4 0 = .ok (.aload_n 0, 1) := dk_42 (dk_at dksJ10_init_4_0 0 rfl rfl)
theorem dJ10_init_4_1 : decode cJ10_init_4 1 = .ok (.invokespecial 1, 3) := dk_183 0 1 (dk_at dksJ10_init_4_0 1 rfl rfl)
theorem dJ10_init_4_4 : decode cJ10_init_4 4 = .ok (.aload_n 0, 1) := dk_42 (dk_at dksJ10_init_4_0 4 rfl rfl)
theorem dJ10_init_4_5 : decode cJ10_init_4 5 = .ok (.aload_n 0, 1) := dk_42 (dk_at dksJ10_init_4_0 5 rfl rfl)
theorem dJ10_init_4_6 : decode cJ10_init_4 6 = .ok (.putfield 7, 3) := dk_181 0 7 (dk_at dksJ10_init_4_0 6 rfl rfl)
theorem dJ10_init_4_9 : decode cJ10_init_4 9 = .ok (.aload_n 0, 1) := dk_42 (dk_at dksJ10_init_4_0 9 rfl rfl)
theorem dJ10_init_4_10 : decode cJ10_init_4 10 = .ok (.getstatic 13, 3) := dk_178 0 13 (dk_at dksJ10_init_4_0 10 rfl rfl)
theorem dJ10_init_4_13 : decode cJ10_init_4 13 = .ok (.putfield 17, 3) := dk_181 0 17 (dk_at dksJ10_init_4_0 13 rfl rfl)
theorem dJ10_init_4_16 : decode cJ10_init_4 16 = .ok (.aload_n 0, 1) := dk_42 (dk_at dksJ10_init_4_0 16 rfl rfl)
theorem dJ10_init_4_17 : decode cJ10_init_4 17 = .ok (.getstatic 20, 3) := dk_178 0 20 (dk_at dksJ10_init_4_0 17 rfl rfl)
theorem dJ10_init_4_20 : decode cJ10_init_4 20 = .ok (.putfield 24, 3) := dk_181 0 24 (dk_at dksJ10_init_4_0 20 rfl rfl)
theorem dJ10_init_4_23 : decode cJ10_init_4 23 = .ok (.iload 4, 2) := dk_21 4 (dk_at dksJ10_init_4_1 0 rfl rfl)
theorem dJ10_init_4_25 : decode cJ10_init_4 25 = .ok (.ifCond .eq 11, 3) := dk_153 0 11 (dk_at dksJ10_init_4_1 2 rfl rfl)
theorem dJ10_init_4_28 : decode cJ10_init_4 28 = .ok (.aload_n 0, 1) := dk_42 (dk_at dksJ10_init_4_1 5 rfl rfl)
theorem dJ10_init_4_29 : decode cJ10_init_4 29 = .ok (.invokevirtual 27, 3) := dk_182 0 27 (dk_at dksJ10_init_4_1 6 rfl rfl)
theorem dJ10_init_4_32 : decode cJ10_init_4 32 = .ok (.pop, 1) := dk_87 (dk_at dksJ10_init_4_1 9 rfl rfl)
theorem dJ10_init_4_33 : decode cJ10_init_4 33 = .ok (.goto 8, 3) := dk_167 0 8 (dk_at dksJ10_init_4_1 10 rfl rfl)
theorem dJ10_init_4_36 : decode cJ10_init_4 36 = .ok (.aload_n 0, 1) := dk_42 (dk_at dksJ10_init_4_1 13 rfl rfl)
theorem dJ10_init_4_37 : decode cJ10_init_4 37 = .ok (.aconst_null, 1) := dk_1 (dk_at dksJ10_init_4_1 14 rfl rfl)
theorem dJ10_init_4_38 : decode cJ10_init_4 38 = .ok (.putfield 17, 3) := dk_181 0 17 (dk_at dksJ10_init_4_1 15 rfl rfl)
theorem dJ10_init_4_41 : decode cJ10_init_4 41 = .ok (.aload_n 0, 1) := dk_42 (dk_at dksJ10_init_4_1 18 rfl rfl)
theorem dJ10_init_4_42 : decode cJ10_init_4 42 = .ok (.aload_n 1, 1) := dk_43 (dk_at dksJ10_init_4_1 19 rfl rfl)
theorem dJ10_init_4_43 : decode cJ10_init_4 43 = .ok (.putfield 31, 3) := dk_181 0 31 (dk_at dksJ10_init_4_1 20 rfl rfl)
theorem dJ10_init_4_46 : decode cJ10_init_4 46 = .ok (.aload_n 0, 1) := dk_42 (dk_at dksJ10_init_4_1 23 rfl rfl)
theorem dJ10_init_4_47 : decode cJ10_init_4 47 = .ok (.aload_n 2, 1) := dk_44 (dk_at dksJ10_init_4_2 0 rfl rfl)
theorem dJ10_init_4_48 : decode cJ10_init_4 48 = .ok (.putfield 7, 3) := dk_181 0 7 (dk_at dksJ10_init_4_2 1 rfl rfl)
theorem dJ10_init_4_51 : decode cJ10_init_4 51 = .ok (.iload_n 3, 1) := dk_29 (dk_at dksJ10_init_4_2 4 rfl rfl)
theorem dJ10_init_4_52 : decode cJ10_init_4 52 = .ok (.ifCond .ne 8, 3) := dk_154 0 8 (dk_at dksJ10_init_4_2 5 rfl rfl)
theorem dJ10_init_4_55 : decode cJ10_init_4 55 = .ok (.aload_n 0, 1) := dk_42 (dk_at dksJ10_init_4_2 8 rfl rfl)
theorem dJ10_init_4_56 : decode cJ10_init_4 56 = .ok (.aconst_null, 1) := dk_1 (dk_at dksJ10_init_4_2 9 rfl rfl)
theorem dJ10_init_4_57 : decode cJ10_init_4 57 = .ok (.putfield 24, 3) := dk_181 0 24 (dk_at dksJ10_init_4_2 10 rfl rfl)
theorem dJ10_init_4_60 : decode cJ10_init_4 60 = .ok (.return_, 1) := dk_177 (dk_at dksJ10_init_4_2 13 rfl rfl)
theorem q84 : (Jvm.Cond.initialized "java/lang/Throwable") ∈ lw_all := lw_g (lw_at lw_m1 15 rfl) rfl
theorem q452 : (Jvm.Cond.declares ({ cls := "java/lang/Throwable", name := "<init>", desc := "()V" } : Jvm.MethodName)) ∈ lw_tbl := lw_at lw_m2 143 rfl
theorem q453 : (Jvm.Cond.declares ({ cls := "java/lang/Throwable", name := "<init>", desc := "(Ljava/lang/String;)V" } : Jvm.MethodName)) ∈ lw_tbl := lw_at lw_m2 144 rfl
theorem q457 : (Jvm.Cond.lays "java/lang/Throwable" "java/lang/Throwable" "cause" "Ljava/lang/Throwable;") ∈ lw_all := lw_g (lw_at lw_m2 148 rfl) rfl
theorem q459 : (Jvm.Cond.lays "java/lang/Throwable" "java/lang/Throwable" "stackTrace" "[Ljava/lang/StackTraceElement;") ∈ lw_all := lw_g (lw_at lw_m2 150 rfl) rfl
theorem q461 : (Jvm.Cond.lays "java/lang/Throwable" "java/lang/Throwable" "suppressedExceptions" "Ljava/util/List;") ∈ lw_all := lw_g (lw_at lw_m2 152 rfl) rfl
theorem q463 : (Jvm.Cond.lays "java/lang/Throwable" "java/lang/Throwable" "detailMessage" "Ljava/lang/String;") ∈ lw_all := lw_g (lw_at lw_m2 154 rfl) rfl
theorem q465 : (Jvm.Cond.lays "java/lang/Throwable" "java/lang/Throwable" "backtrace" "Ljava/lang/Object;") ∈ lw_all := lw_g (lw_at lw_m2 156 rfl) rfl
theorem q466 : (Jvm.Cond.fieldLink "java/lang/Throwable" (198 : Nat) "java/lang/Throwable" "backtrace" "Ljava/lang/Object;") ∈ lw_all := lw_g (lw_at lw_m2 157 rfl) rfl
theorem q467 : (Jvm.Cond.superclass "java/lang/Throwable" "java/lang/Object") ∈ lw_all := lw_g (lw_at lw_m2 158 rfl) rfl
theorem q468 : (Jvm.Cond.instanceMethod ({ cls := "java/lang/Throwable", name := "<init>", desc := "()V" } : Jvm.MethodName)) ∈ lw_all := lw_g (lw_at lw_m2 159 rfl) rfl
theorem q469 : (Jvm.Cond.code ({ cls := "java/lang/Throwable", name := "<init>", desc := "()V" } : Jvm.MethodName) prog_40_method_1_code (1 : Nat) (Option.none : Option Jvm.ClassFile.FieldType)) ∈ lw_all := lw_g (lw_at lw_m2 160 rfl) rfl
theorem q470 : (Jvm.Cond.methodLink "java/lang/Throwable" (1 : Nat) ({ cls := "java/lang/Object", name := "<init>", desc := "()V" } : Jvm.MethodName)) ∈ lw_all := lw_g (lw_at lw_m2 161 rfl) rfl
theorem q471 : (Jvm.Cond.fieldLink "java/lang/Throwable" (13 : Nat) "java/lang/Throwable" "UNASSIGNED_STACK" "[Ljava/lang/StackTraceElement;") ∈ lw_all := lw_g (lw_at lw_m2 162 rfl) rfl
theorem q472 : (Jvm.Cond.laysStatic "java/lang/Throwable" "UNASSIGNED_STACK" "[Ljava/lang/StackTraceElement;") ∈ lw_tbl := lw_at lw_m2 163 rfl
theorem q473 : (Jvm.Cond.fieldLink "java/lang/Throwable" (20 : Nat) "java/lang/Throwable" "SUPPRESSED_SENTINEL" "Ljava/util/List;") ∈ lw_all := lw_g (lw_at lw_m2 164 rfl) rfl
theorem q474 : (Jvm.Cond.laysStatic "java/lang/Throwable" "SUPPRESSED_SENTINEL" "Ljava/util/List;") ∈ lw_tbl := lw_at lw_m2 165 rfl
theorem q475 : (Jvm.Cond.methodLink "java/lang/Throwable" (27 : Nat) ({ cls := "java/lang/Throwable", name := "fillInStackTrace", desc := "()Ljava/lang/Throwable;" } : Jvm.MethodName)) ∈ lw_all := lw_g (lw_at lw_m2 166 rfl) rfl
theorem q476 : (Jvm.Cond.instanceMethod ({ cls := "java/lang/Throwable", name := "fillInStackTrace", desc := "()Ljava/lang/Throwable;" } : Jvm.MethodName)) ∈ lw_all := lw_g (lw_at lw_m2 167 rfl) rfl
theorem q477 : (Jvm.Cond.sameMethod "java/lang/Throwable" "java/lang/Throwable" "fillInStackTrace" "()Ljava/lang/Throwable;") ∈ lw_all := lw_g (lw_at lw_m2 168 rfl) rfl
theorem q485 : (Jvm.Cond.codeSync ({ cls := "java/lang/Throwable", name := "fillInStackTrace", desc := "()Ljava/lang/Throwable;" } : Jvm.MethodName) prog_40_method_18_code (1 : Nat) (Option.some (Jvm.ClassFile.FieldType.object "java/lang/Throwable"))) ∈ lw_all := lw_g (lw_at lw_m2 176 rfl) rfl
theorem q486 : (Jvm.Cond.methodLink "java/lang/Throwable" (202 : Nat) ({ cls := "java/lang/Throwable", name := "fillInStackTrace", desc := "(I)Ljava/lang/Throwable;" } : Jvm.MethodName)) ∈ lw_all := lw_g (lw_at lw_m2 177 rfl) rfl
theorem q487 : (Jvm.Cond.privateMethod ({ cls := "java/lang/Throwable", name := "fillInStackTrace", desc := "(I)Ljava/lang/Throwable;" } : Jvm.MethodName)) ∈ lw_tbl := lw_at lw_m2 178 rfl
theorem q488 : (Jvm.Cond.instanceMethod ({ cls := "java/lang/Throwable", name := "fillInStackTrace", desc := "(I)Ljava/lang/Throwable;" } : Jvm.MethodName)) ∈ lw_all := lw_g (lw_at lw_m2 179 rfl) rfl
theorem q489 : (Jvm.Cond.instantiable "java/lang/Throwable" (6 : Nat)) ∈ lw_all := lw_g (lw_at lw_m2 180 rfl) rfl
theorem q490 : (Jvm.Cond.native ({ cls := "java/lang/Throwable", name := "fillInStackTrace", desc := "(I)Ljava/lang/Throwable;" } : Jvm.MethodName)) ∈ lw_all := lw_g (lw_at lw_m2 181 rfl) rfl
theorem q720 : (Jvm.Cond.instanceMethod ({ cls := "java/lang/Throwable", name := "<init>", desc := "(Ljava/lang/String;)V" } : Jvm.MethodName)) ∈ lw_all := lw_g (lw_at lw_m3 171 rfl) rfl
theorem q721 : (Jvm.Cond.code ({ cls := "java/lang/Throwable", name := "<init>", desc := "(Ljava/lang/String;)V" } : Jvm.MethodName) prog_40_method_2_code (2 : Nat) (Option.none : Option Jvm.ClassFile.FieldType)) ∈ lw_all := lw_g (lw_at lw_m3 172 rfl) rfl
theorem q722 : (Jvm.Cond.fieldLink "java/lang/Throwable" (198 : Nat) "java/lang/Throwable" "backtrace" "Ljava/lang/Object;") ∈ lw_all := lw_g (lw_at lw_m3 173 rfl) rfl
theorem q723 : (Jvm.Cond.fieldLink "java/lang/Throwable" (31 : Nat) "java/lang/Throwable" "detailMessage" "Ljava/lang/String;") ∈ lw_all := lw_g (lw_at lw_m3 174 rfl) rfl
theorem q724 : (Jvm.Cond.fieldLink "java/lang/Throwable" (7 : Nat) "java/lang/Throwable" "cause" "Ljava/lang/Throwable;") ∈ lw_all := lw_g (lw_at lw_m3 175 rfl) rfl
theorem q725 : (Jvm.Cond.fieldLink "java/lang/Throwable" (17 : Nat) "java/lang/Throwable" "stackTrace" "[Ljava/lang/StackTraceElement;") ∈ lw_all := lw_g (lw_at lw_m3 176 rfl) rfl
theorem q726 : (Jvm.Cond.fieldLink "java/lang/Throwable" (24 : Nat) "java/lang/Throwable" "suppressedExceptions" "Ljava/util/List;") ∈ lw_all := lw_g (lw_at lw_m3 177 rfl) rfl
theorem q727 : (Jvm.Cond.soleField "java/lang/Throwable" "backtrace") ∈ lw_all := lw_g (lw_at lw_m3 178 rfl) rfl
theorem q728 : (Jvm.Cond.soleField "java/lang/Throwable" "detailMessage") ∈ lw_all := lw_g (lw_at lw_m3 179 rfl) rfl
theorem q729 : (Jvm.Cond.soleField "java/lang/Throwable" "cause") ∈ lw_all := lw_g (lw_at lw_m3 180 rfl) rfl
theorem q730 : (Jvm.Cond.soleField "java/lang/Throwable" "stackTrace") ∈ lw_all := lw_g (lw_at lw_m3 181 rfl) rfl
theorem q732 : (Jvm.Cond.soleField "java/lang/Throwable" "depth") ∈ lw_all := lw_g (lw_at lw_m3 183 rfl) rfl
theorem q733 : (Jvm.Cond.soleField "java/lang/Throwable" "suppressedExceptions") ∈ lw_all := lw_g (lw_at lw_m3 184 rfl) rfl
theorem q1053 : (Jvm.Cond.instanceMethod ({ cls := "java/lang/Throwable", name := "<init>", desc := "(Ljava/lang/Throwable;)V" } : Jvm.MethodName)) ∈ lw_all := lw_g (lw_at lw_m5 24 rfl) rfl
theorem q1054 : (Jvm.Cond.code ({ cls := "java/lang/Throwable", name := "<init>", desc := "(Ljava/lang/Throwable;)V" } : Jvm.MethodName) prog_40_method_4_code (2 : Nat) (Option.none : Option Jvm.ClassFile.FieldType)) ∈ lw_all := lw_g (lw_at lw_m5 25 rfl) rfl
theorem q1055 : (Jvm.Cond.methodLink "java/lang/Throwable" (35 : Nat) ({ cls := "java/lang/Throwable", name := "toString", desc := "()Ljava/lang/String;" } : Jvm.MethodName)) ∈ lw_all := lw_g (lw_at lw_m5 26 rfl) rfl
theorem q1056 : (Jvm.Cond.instanceMethod ({ cls := "java/lang/Throwable", name := "toString", desc := "()Ljava/lang/String;" } : Jvm.MethodName)) ∈ lw_all := lw_g (lw_at lw_m5 27 rfl) rfl
theorem q1057 : (Jvm.Cond.sameMethod "java/lang/Throwable" "java/lang/Throwable" "toString" "()Ljava/lang/String;") ∈ lw_all := lw_g (lw_at lw_m5 28 rfl) rfl
theorem q1066 : (Jvm.Cond.code ({ cls := "java/lang/Throwable", name := "toString", desc := "()Ljava/lang/String;" } : Jvm.MethodName) prog_40_method_11_code (3 : Nat) (Option.some (Jvm.ClassFile.FieldType.object "java/lang/String"))) ∈ lw_all := lw_g (lw_at lw_m5 37 rfl) rfl
theorem q1067 : (Jvm.Cond.methodLink "java/lang/Throwable" (69 : Nat) ({ cls := "java/lang/Object", name := "getClass", desc := "()Ljava/lang/Class;" } : Jvm.MethodName)) ∈ lw_all := lw_g (lw_at lw_m5 38 rfl) rfl
theorem q1068 : (Jvm.Cond.methodLink "java/lang/Throwable" (78 : Nat) ({ cls := "java/lang/Throwable", name := "getLocalizedMessage", desc := "()Ljava/lang/String;" } : Jvm.MethodName)) ∈ lw_all := lw_g (lw_at lw_m5 39 rfl) rfl
theorem q1069 : (Jvm.Cond.instanceMethod ({ cls := "java/lang/Throwable", name := "getLocalizedMessage", desc := "()Ljava/lang/String;" } : Jvm.MethodName)) ∈ lw_all := lw_g (lw_at lw_m5 40 rfl) rfl
theorem q1070 : (Jvm.Cond.sameMethod "java/lang/Throwable" "java/lang/Throwable" "getLocalizedMessage" "()Ljava/lang/String;") ∈ lw_all := lw_g (lw_at lw_m5 41 rfl) rfl
theorem q1079 : (Jvm.Cond.code ({ cls := "java/lang/Throwable", name := "getLocalizedMessage", desc := "()Ljava/lang/String;" } : Jvm.MethodName) prog_40_method_7_code (1 : Nat) (Option.some (Jvm.ClassFile.FieldType.object "java/lang/String"))) ∈ lw_all := lw_g (lw_at lw_m5 50 rfl) rfl
theorem q1080 : (Jvm.Cond.methodLink "java/lang/Throwable" (39 : Nat) ({ cls := "java/lang/Throwable", name := "getMessage", desc := "()Ljava/lang/String;" } : Jvm.MethodName)) ∈ lw_all := lw_g (lw_at lw_m5 51 rfl) rfl
theorem q1081 : (Jvm.Cond.instanceMethod ({ cls := "java/lang/Throwable", name := "getMessage", desc := "()Ljava/lang/String;" } : Jvm.MethodName)) ∈ lw_all := lw_g (lw_at lw_m5 52 rfl) rfl
theorem q1082 : (Jvm.Cond.sameMethod "java/lang/Throwable" "java/lang/Throwable" "getMessage" "()Ljava/lang/String;") ∈ lw_all := lw_g (lw_at lw_m5 53 rfl) rfl
theorem q1091 : (Jvm.Cond.code ({ cls := "java/lang/Throwable", name := "getMessage", desc := "()Ljava/lang/String;" } : Jvm.MethodName) prog_40_method_6_code (1 : Nat) (Option.some (Jvm.ClassFile.FieldType.object "java/lang/String"))) ∈ lw_all := lw_g (lw_at lw_m5 62 rfl) rfl
theorem q1092 : (Jvm.Cond.classLink "java/lang/Throwable" (44 : Nat) "java/lang/StringBuilder") ∈ lw_all := lw_g (lw_at lw_m5 63 rfl) rfl
theorem q1093 : (Jvm.Cond.methodLink "java/lang/Throwable" (46 : Nat) ({ cls := "java/lang/StringBuilder", name := "<init>", desc := "()V" } : Jvm.MethodName)) ∈ lw_all := lw_g (lw_at lw_m5 64 rfl) rfl
theorem q1094 : (Jvm.Cond.methodLink "java/lang/Throwable" (49 : Nat) ({ cls := "java/lang/StringBuilder", name := "append", desc := "(Ljava/lang/String;)Ljava/lang/StringBuilder;" } : Jvm.MethodName)) ∈ lw_all := lw_g (lw_at lw_m5 65 rfl) rfl
theorem q1095 : (Jvm.Cond.stringRef "java/lang/Throwable" (81 : Nat) ": ") ∈ lw_tbl := lw_at lw_m5 66 rfl
theorem q1096 : (Jvm.Cond.methodLink "java/lang/Throwable" (60 : Nat) ({ cls := "java/lang/StringBuilder", name := "toString", desc := "()Ljava/lang/String;" } : Jvm.MethodName)) ∈ lw_all := lw_g (lw_at lw_m5 67 rfl) rfl
theorem q1345 : (Jvm.Cond.instanceMethod ({ cls := "java/lang/Throwable", name := "<init>", desc := "(Ljava/lang/String;Ljava/lang/Throwable;ZZ)V" } : Jvm.MethodName)) ∈ lw_all := lw_g (lw_at lw_m6 76 rfl) rfl
theorem q1346 : (Jvm.Cond.code ({ cls := "java/lang/Throwable", name := "<init>", desc := "(Ljava/lang/String;Ljava/lang/Throwable;ZZ)V" } : Jvm.MethodName) prog_40_method_5_code (5 : Nat) (Option.none : Option Jvm.ClassFile.FieldType)) ∈ lw_all := lw_g (lw_at lw_m6 77 rfl) rfl
theorem q2045 : (Jvm.Cond.sameMethod "java/lang/Throwable" "java/lang/Throwable" "fillInStackTrace" "(I)Ljava/lang/Throwable;") ∈ lw_all := lw_g (lw_at lw_m9 56 rfl) rfl
theorem q2090 : (Jvm.Cond.castable "java/lang/Throwable" "java/lang/Object") ∈ lw_tbl := lw_at lw_m9 101 rfl
theorem in_J10 : ∀ w ∈ wsJ100, w ∈ lw_all := lw_in wsJ100 [457, 459, 461, 463, 465] (by decide +kernel) (by decide +kernel)
/-! java/lang/Exception -/
set_option maxRecDepth 100000
def RJ11 : String := "java/lang/Exception"
abbrev cJ11_init : ByteArray := prog_24_method_2_code
def yJ11_init : MethodName := ⟨RJ11, "<init>", "(Ljava/lang/String;)V"⟩
def dkwJ11_init_0 : List UInt8 := [42, 43, 183, 0, 7, 177]
abbrev dktJ11_init_0 : List UInt8 := dkwJ11_init_0 ++ []
theorem dksJ11_init_0 : cJ11_init.data.toList.drop 0 = dktJ11_init_0 := by decide +kernel
theorem dJ11_init_0 : decode cJ11_init 0 = .ok (.aload_n 0, 1) := dk_42 (dk_at dksJ11_init_0 0 rfl rfl)
theorem dJ11_init_1 : decode cJ11_init 1 = .ok (.aload_n 1, 1) := dk_43 (dk_at dksJ11_init_0 1 rfl rfl)
theorem dJ11_init_2 : decode cJ11_init 2 = .ok (.invokespecial 7, 3) := dk_183 0 7 (dk_at dksJ11_init_0 2 rfl rfl)
theorem dJ11_init_5 : decode cJ11_init 5 = .ok (.return_, 1) := dk_177 (dk_at dksJ11_init_0 5 rfl rfl)
abbrev cJ11_init_2 : ByteArray := prog_24_method_4_code
def yJ11_init_2 : MethodName := ⟨RJ11, "<init>", "(Ljava/lang/Throwable;)V"⟩
def dkwJ11_init_2_0 : List UInt8 := [42, 43, 183, 0, 13, 177]
abbrev dktJ11_init_2_0 : List UInt8 := dkwJ11_init_2_0 ++ []
theorem dksJ11_init_2_0 : cJ11_init_2.data.toList.drop 0 = dktJ11_init_2_0 := by decide +kernel
theorem dJ11_init_2_0 : decode cJ11_init_2 0 = .ok (.aload_n 0, 1) := dk_42 (dk_at dksJ11_init_2_0 0 rfl rfl)
theorem dJ11_init_2_1 : decode cJ11_init_2 1 = .ok (.aload_n 1, 1) := dk_43 (dk_at dksJ11_init_2_0 1 rfl rfl)
theorem dJ11_init_2_2 : decode cJ11_init_2 2 = .ok (.invokespecial 13, 3) := dk_183 0 13 (dk_at dksJ11_init_2_0 2 rfl rfl)
theorem dJ11_init_2_5 : decode cJ11_init_2 5 = .ok (.return_, 1) := dk_177 (dk_at dksJ11_init_2_0 5 rfl rfl)
abbrev cJ11_init_3 : ByteArray := prog_24_method_1_code
def yJ11_init_3 : MethodName := ⟨RJ11, "<init>", "()V"⟩
theorem dJ11_init_3_0 : decode cJ11_init_3 0 = .ok (.aload_n 0, 1) := by decide +kernel
theorem dJ11_init_3_1 : decode cJ11_init_3 1 = .ok (.invokespecial 1, 3) := by decide +kernel
theorem dJ11_init_3_4 : decode cJ11_init_3 4 = .ok (.return_, 1) := by decide +kernel
abbrev cJ11_init_4 : ByteArray := prog_24_method_5_code
def yJ11_init_4 : MethodName := ⟨RJ11, "<init>", "(Ljava/lang/String;Ljava/lang/Throwable;ZZ)V"⟩
def dkwJ11_init_4_0 : List UInt8 := [42, 43, 44, 29, 21, 4, 183, 0, 16, 177]
abbrev dktJ11_init_4_0 : List UInt8 := dkwJ11_init_4_0 ++ []
theorem dksJ11_init_4_0 : cJ11_init_4.data.toList.drop 0 = dktJ11_init_4_0 := by decide +kernel
theorem dJ11_init_4_0 : decode cJ11_init_4 0 = .ok (.aload_n 0, 1) := dk_42 (dk_at dksJ11_init_4_0 0 rfl rfl)
theorem dJ11_init_4_1 : decode cJ11_init_4 1 = .ok (.aload_n 1, 1) := dk_43 (dk_at dksJ11_init_4_0 1 rfl rfl)
theorem dJ11_init_4_2 : decode cJ11_init_4 2 = .ok (.aload_n 2, 1) := dk_44 (dk_at dksJ11_init_4_0 2 rfl rfl)
theorem dJ11_init_4_3 : decode cJ11_init_4 3 = .ok (.iload_n 3, 1) := dk_29 (dk_at dksJ11_init_4_0 3 rfl rfl)
theorem dJ11_init_4_4 : decode cJ11_init_4 4 = .ok (.iload 4, 2) := dk_21 4 (dk_at dksJ11_init_4_0 4 rfl rfl)
theorem dJ11_init_4_6 : decode cJ11_init_4 6 = .ok (.invokespecial 16, 3) := dk_183 0 16 (dk_at dksJ11_init_4_0 6 rfl rfl)
theorem dJ11_init_4_9 : decode cJ11_init_4 9 = .ok (.return_, 1) := dk_177 (dk_at dksJ11_init_4_0 9 rfl rfl)
theorem q85 : (Jvm.Cond.initialized "java/lang/Exception") ∈ lw_all := lw_g (lw_at lw_m1 16 rfl) rfl
theorem q450 : (Jvm.Cond.declares ({ cls := "java/lang/Exception", name := "<init>", desc := "()V" } : Jvm.MethodName)) ∈ lw_tbl := lw_at lw_m2 141 rfl
theorem q451 : (Jvm.Cond.declares ({ cls := "java/lang/Exception", name := "<init>", desc := "(Ljava/lang/String;)V" } : Jvm.MethodName)) ∈ lw_tbl := lw_at lw_m2 142 rfl
theorem q717 : (Jvm.Cond.instanceMethod ({ cls := "java/lang/Exception", name := "<init>", desc := "(Ljava/lang/String;)V" } : Jvm.MethodName)) ∈ lw_all := lw_g (lw_at lw_m3 168 rfl) rfl
theorem q718 : (Jvm.Cond.code ({ cls := "java/lang/Exception", name := "<init>", desc := "(Ljava/lang/String;)V" } : Jvm.MethodName) prog_24_method_2_code (2 : Nat) (Option.none : Option Jvm.ClassFile.FieldType)) ∈ lw_all := lw_g (lw_at lw_m3 169 rfl) rfl
theorem q719 : (Jvm.Cond.methodLink "java/lang/Exception" (7 : Nat) ({ cls := "java/lang/Throwable", name := "<init>", desc := "(Ljava/lang/String;)V" } : Jvm.MethodName)) ∈ lw_all := lw_g (lw_at lw_m3 170 rfl) rfl
theorem q1050 : (Jvm.Cond.instanceMethod ({ cls := "java/lang/Exception", name := "<init>", desc := "(Ljava/lang/Throwable;)V" } : Jvm.MethodName)) ∈ lw_all := lw_g (lw_at lw_m5 21 rfl) rfl
theorem q1051 : (Jvm.Cond.code ({ cls := "java/lang/Exception", name := "<init>", desc := "(Ljava/lang/Throwable;)V" } : Jvm.MethodName) prog_24_method_4_code (2 : Nat) (Option.none : Option Jvm.ClassFile.FieldType)) ∈ lw_all := lw_g (lw_at lw_m5 22 rfl) rfl
theorem q1052 : (Jvm.Cond.methodLink "java/lang/Exception" (13 : Nat) ({ cls := "java/lang/Throwable", name := "<init>", desc := "(Ljava/lang/Throwable;)V" } : Jvm.MethodName)) ∈ lw_all := lw_g (lw_at lw_m5 23 rfl) rfl
theorem q1112 : (Jvm.Cond.instanceMethod ({ cls := "java/lang/Exception", name := "<init>", desc := "()V" } : Jvm.MethodName)) ∈ lw_all := lw_g (lw_at lw_m5 83 rfl) rfl
theorem q1113 : (Jvm.Cond.code ({ cls := "java/lang/Exception", name := "<init>", desc := "()V" } : Jvm.MethodName) prog_24_method_1_code (1 : Nat) (Option.none : Option Jvm.ClassFile.FieldType)) ∈ lw_all := lw_g (lw_at lw_m5 84 rfl) rfl
theorem q1114 : (Jvm.Cond.methodLink "java/lang/Exception" (1 : Nat) ({ cls := "java/lang/Throwable", name := "<init>", desc := "()V" } : Jvm.MethodName)) ∈ lw_all := lw_g (lw_at lw_m5 85 rfl) rfl
theorem q1342 : (Jvm.Cond.instanceMethod ({ cls := "java/lang/Exception", name := "<init>", desc := "(Ljava/lang/String;Ljava/lang/Throwable;ZZ)V" } : Jvm.MethodName)) ∈ lw_all := lw_g (lw_at lw_m6 73 rfl) rfl
theorem q1343 : (Jvm.Cond.code ({ cls := "java/lang/Exception", name := "<init>", desc := "(Ljava/lang/String;Ljava/lang/Throwable;ZZ)V" } : Jvm.MethodName) prog_24_method_5_code (5 : Nat) (Option.none : Option Jvm.ClassFile.FieldType)) ∈ lw_all := lw_g (lw_at lw_m6 74 rfl) rfl
theorem q1344 : (Jvm.Cond.methodLink "java/lang/Exception" (16 : Nat) ({ cls := "java/lang/Throwable", name := "<init>", desc := "(Ljava/lang/String;Ljava/lang/Throwable;ZZ)V" } : Jvm.MethodName)) ∈ lw_all := lw_g (lw_at lw_m6 75 rfl) rfl
/-! java/lang/RuntimeException -/
set_option maxRecDepth 100000
def RJ12 : String := "java/lang/RuntimeException"
abbrev cJ12_init : ByteArray := prog_34_method_2_code
def yJ12_init : MethodName := ⟨RJ12, "<init>", "(Ljava/lang/String;)V"⟩
def dkwJ12_init_0 : List UInt8 := [42, 43, 183, 0, 7, 177]
abbrev dktJ12_init_0 : List UInt8 := dkwJ12_init_0 ++ []
theorem dksJ12_init_0 : cJ12_init.data.toList.drop 0 = dktJ12_init_0 := by decide +kernel
theorem dJ12_init_0 : decode cJ12_init 0 = .ok (.aload_n 0, 1) := dk_42 (dk_at dksJ12_init_0 0 rfl rfl)
theorem dJ12_init_1 : decode cJ12_init 1 = .ok (.aload_n 1, 1) := dk_43 (dk_at dksJ12_init_0 1 rfl rfl)
theorem dJ12_init_2 : decode cJ12_init 2 = .ok (.invokespecial 7, 3) := dk_183 0 7 (dk_at dksJ12_init_0 2 rfl rfl)
theorem dJ12_init_5 : decode cJ12_init 5 = .ok (.return_, 1) := dk_177 (dk_at dksJ12_init_0 5 rfl rfl)
abbrev cJ12_init_2 : ByteArray := prog_34_method_4_code
def yJ12_init_2 : MethodName := ⟨RJ12, "<init>", "(Ljava/lang/Throwable;)V"⟩
def dkwJ12_init_2_0 : List UInt8 := [42, 43, 183, 0, 13, 177]
abbrev dktJ12_init_2_0 : List UInt8 := dkwJ12_init_2_0 ++ []
theorem dksJ12_init_2_0 : cJ12_init_2.data.toList.drop 0 = dktJ12_init_2_0 := by decide +kernel
theorem dJ12_init_2_0 : decode cJ12_init_2 0 = .ok (.aload_n 0, 1) := dk_42 (dk_at dksJ12_init_2_0 0 rfl rfl)
theorem dJ12_init_2_1 : decode cJ12_init_2 1 = .ok (.aload_n 1, 1) := dk_43 (dk_at dksJ12_init_2_0 1 rfl rfl)
theorem dJ12_init_2_2 : decode cJ12_init_2 2 = .ok (.invokespecial 13, 3) := dk_183 0 13 (dk_at dksJ12_init_2_0 2 rfl rfl)
theorem dJ12_init_2_5 : decode cJ12_init_2 5 = .ok (.return_, 1) := dk_177 (dk_at dksJ12_init_2_0 5 rfl rfl)
abbrev cJ12_init_3 : ByteArray := prog_34_method_1_code
def yJ12_init_3 : MethodName := ⟨RJ12, "<init>", "()V"⟩
theorem dJ12_init_3_0 : decode cJ12_init_3 0 = .ok (.aload_n 0, 1) := by decide +kernel
theorem dJ12_init_3_1 : decode cJ12_init_3 1 = .ok (.invokespecial 1, 3) := by decide +kernel
theorem dJ12_init_3_4 : decode cJ12_init_3 4 = .ok (.return_, 1) := by decide +kernel
theorem q86 : (Jvm.Cond.initialized "java/lang/RuntimeException") ∈ lw_all := lw_g (lw_at lw_m1 17 rfl) rfl
theorem q448 : (Jvm.Cond.declares ({ cls := "java/lang/RuntimeException", name := "<init>", desc := "()V" } : Jvm.MethodName)) ∈ lw_tbl := lw_at lw_m2 139 rfl
theorem q449 : (Jvm.Cond.declares ({ cls := "java/lang/RuntimeException", name := "<init>", desc := "(Ljava/lang/String;)V" } : Jvm.MethodName)) ∈ lw_tbl := lw_at lw_m2 140 rfl
theorem q714 : (Jvm.Cond.instanceMethod ({ cls := "java/lang/RuntimeException", name := "<init>", desc := "(Ljava/lang/String;)V" } : Jvm.MethodName)) ∈ lw_all := lw_g (lw_at lw_m3 165 rfl) rfl
theorem q715 : (Jvm.Cond.code ({ cls := "java/lang/RuntimeException", name := "<init>", desc := "(Ljava/lang/String;)V" } : Jvm.MethodName) prog_34_method_2_code (2 : Nat) (Option.none : Option Jvm.ClassFile.FieldType)) ∈ lw_all := lw_g (lw_at lw_m3 166 rfl) rfl
theorem q716 : (Jvm.Cond.methodLink "java/lang/RuntimeException" (7 : Nat) ({ cls := "java/lang/Exception", name := "<init>", desc := "(Ljava/lang/String;)V" } : Jvm.MethodName)) ∈ lw_all := lw_g (lw_at lw_m3 167 rfl) rfl
theorem q1047 : (Jvm.Cond.instanceMethod ({ cls := "java/lang/RuntimeException", name := "<init>", desc := "(Ljava/lang/Throwable;)V" } : Jvm.MethodName)) ∈ lw_all := lw_g (lw_at lw_m5 18 rfl) rfl
theorem q1048 : (Jvm.Cond.code ({ cls := "java/lang/RuntimeException", name := "<init>", desc := "(Ljava/lang/Throwable;)V" } : Jvm.MethodName) prog_34_method_4_code (2 : Nat) (Option.none : Option Jvm.ClassFile.FieldType)) ∈ lw_all := lw_g (lw_at lw_m5 19 rfl) rfl
theorem q1049 : (Jvm.Cond.methodLink "java/lang/RuntimeException" (13 : Nat) ({ cls := "java/lang/Exception", name := "<init>", desc := "(Ljava/lang/Throwable;)V" } : Jvm.MethodName)) ∈ lw_all := lw_g (lw_at lw_m5 20 rfl) rfl
theorem q1109 : (Jvm.Cond.instanceMethod ({ cls := "java/lang/RuntimeException", name := "<init>", desc := "()V" } : Jvm.MethodName)) ∈ lw_all := lw_g (lw_at lw_m5 80 rfl) rfl
theorem q1110 : (Jvm.Cond.code ({ cls := "java/lang/RuntimeException", name := "<init>", desc := "()V" } : Jvm.MethodName) prog_34_method_1_code (1 : Nat) (Option.none : Option Jvm.ClassFile.FieldType)) ∈ lw_all := lw_g (lw_at lw_m5 81 rfl) rfl
theorem q1111 : (Jvm.Cond.methodLink "java/lang/RuntimeException" (1 : Nat) ({ cls := "java/lang/Exception", name := "<init>", desc := "()V" } : Jvm.MethodName)) ∈ lw_all := lw_g (lw_at lw_m5 82 rfl) rfl
/-! java/lang/IllegalStateException -/
set_option maxRecDepth 100000
def RJ13 : String := "java/lang/IllegalStateException"
def TJ13 : u_T := fun k => match k with
  | 0 => ("java/lang/Throwable", "cause", "Ljava/lang/Throwable;", false)
  | 1 => ("java/lang/Throwable", "stackTrace", "[Ljava/lang/StackTraceElement;", false)
  | 2 => ("java/lang/Throwable", "suppressedExceptions", "Ljava/util/List;", false)
  | 3 => ("java/lang/Throwable", "detailMessage", "Ljava/lang/String;", false)
  | 4 => ("java/lang/Throwable", "backtrace", "Ljava/lang/Object;", false)
  | _ => ("java/lang/Throwable", "depth", "I", false)
def tyJ13 : Nat → FieldType := fun k => match k with
  | 0 => .object "java/lang/Throwable"
  | 1 => .array (.object "java/lang/StackTraceElement")
  | 2 => .object "java/util/List"
  | 3 => .object "java/lang/String"
  | 4 => .object "java/lang/Object"
  | _ => .int
abbrev wsJ130 : List Cond := u_ws RJ13 TJ13 6
theorem nmJ13 : ∀ a, a < 6 → ∀ b, b < 6 → a ≠ b → (TJ13 a).2.1 ≠ (TJ13 b).2.1 := by decide +kernel
theorem tyJ13_ok : ∀ k, k < 6 → parseFieldDescriptor (TJ13 k).2.2.1 = some (tyJ13 k) := by decide +kernel
abbrev cJ13_init : ByteArray := prog_26_method_1_code
def yJ13_init : MethodName := ⟨RJ13, "<init>", "()V"⟩
theorem dJ13_init_0 : decode cJ13_init 0 = .ok (.aload_n 0, 1) := by decide +kernel
theorem dJ13_init_1 : decode cJ13_init 1 = .ok (.invokespecial 1, 3) := by decide +kernel
theorem dJ13_init_4 : decode cJ13_init 4 = .ok (.return_, 1) := by decide +kernel
abbrev cJ13_init_2 : ByteArray := prog_26_method_2_code
def yJ13_init_2 : MethodName := ⟨RJ13, "<init>", "(Ljava/lang/String;)V"⟩
def dkwJ13_init_2_0 : List UInt8 := [42, 43, 183, 0, 7, 177]
abbrev dktJ13_init_2_0 : List UInt8 := dkwJ13_init_2_0 ++ []
theorem dksJ13_init_2_0 : cJ13_init_2.data.toList.drop 0 = dktJ13_init_2_0 := by decide +kernel
theorem dJ13_init_2_0 : decode cJ13_init_2 0 = .ok (.aload_n 0, 1) := dk_42 (dk_at dksJ13_init_2_0 0 rfl rfl)
theorem dJ13_init_2_1 : decode cJ13_init_2 1 = .ok (.aload_n 1, 1) := dk_43 (dk_at dksJ13_init_2_0 1 rfl rfl)
theorem dJ13_init_2_2 : decode cJ13_init_2 2 = .ok (.invokespecial 7, 3) := dk_183 0 7 (dk_at dksJ13_init_2_0 2 rfl rfl)
theorem dJ13_init_2_5 : decode cJ13_init_2 5 = .ok (.return_, 1) := dk_177 (dk_at dksJ13_init_2_0 5 rfl rfl)
theorem q87 : (Jvm.Cond.initialized "java/lang/IllegalStateException") ∈ lw_all := lw_g (lw_at lw_m1 18 rfl) rfl
theorem q235 : (Jvm.Cond.selects "java/lang/IllegalStateException" ({ cls := "java/lang/Object", name := "getClass", desc := "()Ljava/lang/Class;" } : Jvm.MethodName) ({ cls := "java/lang/Object", name := "getClass", desc := "()Ljava/lang/Class;" } : Jvm.MethodName)) ∈ lw_all := lw_g (lw_at lw_m1 166 rfl) rfl
theorem q483 : (Jvm.Cond.selects "java/lang/IllegalStateException" ({ cls := "java/lang/Throwable", name := "fillInStackTrace", desc := "()Ljava/lang/Throwable;" } : Jvm.MethodName) ({ cls := "java/lang/Throwable", name := "fillInStackTrace", desc := "()Ljava/lang/Throwable;" } : Jvm.MethodName)) ∈ lw_all := lw_g (lw_at lw_m2 174 rfl) rfl
theorem q1063 : (Jvm.Cond.selects "java/lang/IllegalStateException" ({ cls := "java/lang/Throwable", name := "toString", desc := "()Ljava/lang/String;" } : Jvm.MethodName) ({ cls := "java/lang/Throwable", name := "toString", desc := "()Ljava/lang/String;" } : Jvm.MethodName)) ∈ lw_all := lw_g (lw_at lw_m5 34 rfl) rfl
theorem q1076 : (Jvm.Cond.selects "java/lang/IllegalStateException" ({ cls := "java/lang/Throwable", name := "getLocalizedMessage", desc := "()Ljava/lang/String;" } : Jvm.MethodName) ({ cls := "java/lang/Throwable", name := "getLocalizedMessage", desc := "()Ljava/lang/String;" } : Jvm.MethodName)) ∈ lw_all := lw_g (lw_at lw_m5 47 rfl) rfl
theorem q1088 : (Jvm.Cond.selects "java/lang/IllegalStateException" ({ cls := "java/lang/Throwable", name := "getMessage", desc := "()Ljava/lang/String;" } : Jvm.MethodName) ({ cls := "java/lang/Throwable", name := "getMessage", desc := "()Ljava/lang/String;" } : Jvm.MethodName)) ∈ lw_all := lw_g (lw_at lw_m5 59 rfl) rfl
theorem q1180 : (Jvm.Cond.instantiable "java/lang/IllegalStateException" (6 : Nat)) ∈ lw_all := lw_g (lw_at lw_m5 151 rfl) rfl
theorem q1181 : (Jvm.Cond.castable "java/lang/IllegalStateException" "java/lang/IllegalStateException") ∈ lw_tbl := lw_at lw_m5 152 rfl
theorem q1182 : (Jvm.Cond.selects "java/lang/IllegalStateException" ({ cls := "java/lang/Throwable", name := "fillInStackTrace", desc := "(I)Ljava/lang/Throwable;" } : Jvm.MethodName) ({ cls := "java/lang/Throwable", name := "fillInStackTrace", desc := "(I)Ljava/lang/Throwable;" } : Jvm.MethodName)) ∈ lw_all := lw_g (lw_at lw_m5 153 rfl) rfl
theorem q1183 : (Jvm.Cond.lays "java/lang/IllegalStateException" "java/lang/Throwable" "cause" "Ljava/lang/Throwable;") ∈ lw_all := lw_g (lw_at lw_m5 154 rfl) rfl
theorem q1184 : (Jvm.Cond.lays "java/lang/IllegalStateException" "java/lang/Throwable" "stackTrace" "[Ljava/lang/StackTraceElement;") ∈ lw_all := lw_g (lw_at lw_m5 155 rfl) rfl
theorem q1185 : (Jvm.Cond.lays "java/lang/IllegalStateException" "java/lang/Throwable" "suppressedExceptions" "Ljava/util/List;") ∈ lw_all := lw_g (lw_at lw_m5 156 rfl) rfl
theorem q1186 : (Jvm.Cond.lays "java/lang/IllegalStateException" "java/lang/Throwable" "detailMessage" "Ljava/lang/String;") ∈ lw_all := lw_g (lw_at lw_m5 157 rfl) rfl
theorem q1187 : (Jvm.Cond.lays "java/lang/IllegalStateException" "java/lang/Throwable" "backtrace" "Ljava/lang/Object;") ∈ lw_all := lw_g (lw_at lw_m5 158 rfl) rfl
theorem q1189 : (Jvm.Cond.instanceMethod ({ cls := "java/lang/IllegalStateException", name := "<init>", desc := "()V" } : Jvm.MethodName)) ∈ lw_all := lw_g (lw_at lw_m5 160 rfl) rfl
theorem q1190 : (Jvm.Cond.code ({ cls := "java/lang/IllegalStateException", name := "<init>", desc := "()V" } : Jvm.MethodName) prog_26_method_1_code (1 : Nat) (Option.none : Option Jvm.ClassFile.FieldType)) ∈ lw_all := lw_g (lw_at lw_m5 161 rfl) rfl
theorem q1191 : (Jvm.Cond.methodLink "java/lang/IllegalStateException" (1 : Nat) ({ cls := "java/lang/RuntimeException", name := "<init>", desc := "()V" } : Jvm.MethodName)) ∈ lw_all := lw_g (lw_at lw_m5 162 rfl) rfl
theorem q1192 : (Jvm.Cond.lays "java/lang/IllegalStateException" "java/lang/Throwable" "depth" "I") ∈ lw_all := lw_g (lw_at lw_m5 163 rfl) rfl
theorem q1193 : (Jvm.Cond.superclass "java/lang/IllegalStateException" "java/lang/RuntimeException") ∈ lw_all := lw_g (lw_at lw_m5 164 rfl) rfl
theorem q1372 : (Jvm.Cond.instanceMethod ({ cls := "java/lang/IllegalStateException", name := "<init>", desc := "(Ljava/lang/String;)V" } : Jvm.MethodName)) ∈ lw_all := lw_g (lw_at lw_m6 103 rfl) rfl
theorem q1373 : (Jvm.Cond.code ({ cls := "java/lang/IllegalStateException", name := "<init>", desc := "(Ljava/lang/String;)V" } : Jvm.MethodName) prog_26_method_2_code (2 : Nat) (Option.none : Option Jvm.ClassFile.FieldType)) ∈ lw_all := lw_g (lw_at lw_m6 104 rfl) rfl
theorem q1374 : (Jvm.Cond.methodLink "java/lang/IllegalStateException" (7 : Nat) ({ cls := "java/lang/RuntimeException", name := "<init>", desc := "(Ljava/lang/String;)V" } : Jvm.MethodName)) ∈ lw_all := lw_g (lw_at lw_m6 105 rfl) rfl
theorem q2068 : (Jvm.Cond.castable "java/lang/IllegalStateException" "java/lang/Object") ∈ lw_tbl := lw_at lw_m9 79 rfl
theorem in_J13 : ∀ w ∈ wsJ130, w ∈ lw_all := lw_in wsJ130 [1183, 1184, 1185, 1186, 1187, 1192] (by decide +kernel) (by decide +kernel)
/-! java/lang/IllegalArgumentException -/
set_option maxRecDepth 100000
def RJ14 : String := "java/lang/IllegalArgumentException"
def TJ14 : u_T := fun k => match k with
  | 0 => ("java/lang/Throwable", "cause", "Ljava/lang/Throwable;", false)
  | 1 => ("java/lang/Throwable", "stackTrace", "[Ljava/lang/StackTraceElement;", false)
  | 2 => ("java/lang/Throwable", "suppressedExceptions", "Ljava/util/List;", false)
  | 3 => ("java/lang/Throwable", "detailMessage", "Ljava/lang/String;", false)
  | 4 => ("java/lang/Throwable", "backtrace", "Ljava/lang/Object;", false)
  | _ => ("java/lang/Throwable", "depth", "I", false)
def tyJ14 : Nat → FieldType := fun k => match k with
  | 0 => .object "java/lang/Throwable"
  | 1 => .array (.object "java/lang/StackTraceElement")
  | 2 => .object "java/util/List"
  | 3 => .object "java/lang/String"
  | 4 => .object "java/lang/Object"
  | _ => .int
abbrev wsJ140 : List Cond := u_ws RJ14 TJ14 6
theorem nmJ14 : ∀ a, a < 6 → ∀ b, b < 6 → a ≠ b → (TJ14 a).2.1 ≠ (TJ14 b).2.1 := by decide +kernel
theorem tyJ14_ok : ∀ k, k < 6 → parseFieldDescriptor (TJ14 k).2.2.1 = some (tyJ14 k) := by decide +kernel
abbrev cJ14_init : ByteArray := prog_25_method_2_code
def yJ14_init : MethodName := ⟨RJ14, "<init>", "(Ljava/lang/String;)V"⟩
def dkwJ14_init_0 : List UInt8 := [42, 43, 183, 0, 7, 177]
abbrev dktJ14_init_0 : List UInt8 := dkwJ14_init_0 ++ []
theorem dksJ14_init_0 : cJ14_init.data.toList.drop 0 = dktJ14_init_0 := by decide +kernel
theorem dJ14_init_0 : decode cJ14_init 0 = .ok (.aload_n 0, 1) := dk_42 (dk_at dksJ14_init_0 0 rfl rfl)
theorem dJ14_init_1 : decode cJ14_init 1 = .ok (.aload_n 1, 1) := dk_43 (dk_at dksJ14_init_0 1 rfl rfl)
theorem dJ14_init_2 : decode cJ14_init 2 = .ok (.invokespecial 7, 3) := dk_183 0 7 (dk_at dksJ14_init_0 2 rfl rfl)
theorem dJ14_init_5 : decode cJ14_init 5 = .ok (.return_, 1) := dk_177 (dk_at dksJ14_init_0 5 rfl rfl)
abbrev cJ14_init_2 : ByteArray := prog_25_method_1_code
def yJ14_init_2 : MethodName := ⟨RJ14, "<init>", "()V"⟩
theorem dJ14_init_2_0 : decode cJ14_init_2 0 = .ok (.aload_n 0, 1) := by decide +kernel
theorem dJ14_init_2_1 : decode cJ14_init_2 1 = .ok (.invokespecial 1, 3) := by decide +kernel
theorem dJ14_init_2_4 : decode cJ14_init_2 4 = .ok (.return_, 1) := by decide +kernel
theorem q88 : (Jvm.Cond.initialized "java/lang/IllegalArgumentException") ∈ lw_all := lw_g (lw_at lw_m1 19 rfl) rfl
theorem q234 : (Jvm.Cond.selects "java/lang/IllegalArgumentException" ({ cls := "java/lang/Object", name := "getClass", desc := "()Ljava/lang/Class;" } : Jvm.MethodName) ({ cls := "java/lang/Object", name := "getClass", desc := "()Ljava/lang/Class;" } : Jvm.MethodName)) ∈ lw_all := lw_g (lw_at lw_m1 165 rfl) rfl
theorem q482 : (Jvm.Cond.selects "java/lang/IllegalArgumentException" ({ cls := "java/lang/Throwable", name := "fillInStackTrace", desc := "()Ljava/lang/Throwable;" } : Jvm.MethodName) ({ cls := "java/lang/Throwable", name := "fillInStackTrace", desc := "()Ljava/lang/Throwable;" } : Jvm.MethodName)) ∈ lw_all := lw_g (lw_at lw_m2 173 rfl) rfl
theorem q696 : (Jvm.Cond.instantiable "java/lang/IllegalArgumentException" (6 : Nat)) ∈ lw_all := lw_g (lw_at lw_m3 147 rfl) rfl
theorem q697 : (Jvm.Cond.castable "java/lang/IllegalArgumentException" "java/lang/IllegalArgumentException") ∈ lw_tbl := lw_at lw_m3 148 rfl
theorem q698 : (Jvm.Cond.selects "java/lang/IllegalArgumentException" ({ cls := "java/lang/Throwable", name := "fillInStackTrace", desc := "(I)Ljava/lang/Throwable;" } : Jvm.MethodName) ({ cls := "java/lang/Throwable", name := "fillInStackTrace", desc := "(I)Ljava/lang/Throwable;" } : Jvm.MethodName)) ∈ lw_all := lw_g (lw_at lw_m3 149 rfl) rfl
theorem q699 : (Jvm.Cond.lays "java/lang/IllegalArgumentException" "java/lang/Throwable" "cause" "Ljava/lang/Throwable;") ∈ lw_all := lw_g (lw_at lw_m3 150 rfl) rfl
theorem q700 : (Jvm.Cond.lays "java/lang/IllegalArgumentException" "java/lang/Throwable" "stackTrace" "[Ljava/lang/StackTraceElement;") ∈ lw_all := lw_g (lw_at lw_m3 151 rfl) rfl
theorem q701 : (Jvm.Cond.lays "java/lang/IllegalArgumentException" "java/lang/Throwable" "suppressedExceptions" "Ljava/util/List;") ∈ lw_all := lw_g (lw_at lw_m3 152 rfl) rfl
theorem q702 : (Jvm.Cond.lays "java/lang/IllegalArgumentException" "java/lang/Throwable" "detailMessage" "Ljava/lang/String;") ∈ lw_all := lw_g (lw_at lw_m3 153 rfl) rfl
theorem q703 : (Jvm.Cond.lays "java/lang/IllegalArgumentException" "java/lang/Throwable" "backtrace" "Ljava/lang/Object;") ∈ lw_all := lw_g (lw_at lw_m3 154 rfl) rfl
theorem q711 : (Jvm.Cond.instanceMethod ({ cls := "java/lang/IllegalArgumentException", name := "<init>", desc := "(Ljava/lang/String;)V" } : Jvm.MethodName)) ∈ lw_all := lw_g (lw_at lw_m3 162 rfl) rfl
theorem q712 : (Jvm.Cond.code ({ cls := "java/lang/IllegalArgumentException", name := "<init>", desc := "(Ljava/lang/String;)V" } : Jvm.MethodName) prog_25_method_2_code (2 : Nat) (Option.none : Option Jvm.ClassFile.FieldType)) ∈ lw_all := lw_g (lw_at lw_m3 163 rfl) rfl
theorem q713 : (Jvm.Cond.methodLink "java/lang/IllegalArgumentException" (7 : Nat) ({ cls := "java/lang/RuntimeException", name := "<init>", desc := "(Ljava/lang/String;)V" } : Jvm.MethodName)) ∈ lw_all := lw_g (lw_at lw_m3 164 rfl) rfl
theorem q731 : (Jvm.Cond.lays "java/lang/IllegalArgumentException" "java/lang/Throwable" "depth" "I") ∈ lw_all := lw_g (lw_at lw_m3 182 rfl) rfl
theorem q734 : (Jvm.Cond.superclass "java/lang/IllegalArgumentException" "java/lang/RuntimeException") ∈ lw_all := lw_g (lw_at lw_m3 185 rfl) rfl
theorem q1062 : (Jvm.Cond.selects "java/lang/IllegalArgumentException" ({ cls := "java/lang/Throwable", name := "toString", desc := "()Ljava/lang/String;" } : Jvm.MethodName) ({ cls := "java/lang/Throwable", name := "toString", desc := "()Ljava/lang/String;" } : Jvm.MethodName)) ∈ lw_all := lw_g (lw_at lw_m5 33 rfl) rfl
theorem q1075 : (Jvm.Cond.selects "java/lang/IllegalArgumentException" ({ cls := "java/lang/Throwable", name := "getLocalizedMessage", desc := "()Ljava/lang/String;" } : Jvm.MethodName) ({ cls := "java/lang/Throwable", name := "getLocalizedMessage", desc := "()Ljava/lang/String;" } : Jvm.MethodName)) ∈ lw_all := lw_g (lw_at lw_m5 46 rfl) rfl
theorem q1087 : (Jvm.Cond.selects "java/lang/IllegalArgumentException" ({ cls := "java/lang/Throwable", name := "getMessage", desc := "()Ljava/lang/String;" } : Jvm.MethodName) ({ cls := "java/lang/Throwable", name := "getMessage", desc := "()Ljava/lang/String;" } : Jvm.MethodName)) ∈ lw_all := lw_g (lw_at lw_m5 58 rfl) rfl
theorem q1207 : (Jvm.Cond.instanceMethod ({ cls := "java/lang/IllegalArgumentException", name := "<init>", desc := "()V" } : Jvm.MethodName)) ∈ lw_all := lw_g (lw_at lw_m5 178 rfl) rfl
theorem q1208 : (Jvm.Cond.code ({ cls := "java/lang/IllegalArgumentException", name := "<init>", desc := "()V" } : Jvm.MethodName) prog_25_method_1_code (1 : Nat) (Option.none : Option Jvm.ClassFile.FieldType)) ∈ lw_all := lw_g (lw_at lw_m5 179 rfl) rfl
theorem q1209 : (Jvm.Cond.methodLink "java/lang/IllegalArgumentException" (1 : Nat) ({ cls := "java/lang/RuntimeException", name := "<init>", desc := "()V" } : Jvm.MethodName)) ∈ lw_all := lw_g (lw_at lw_m5 180 rfl) rfl
theorem q2069 : (Jvm.Cond.castable "java/lang/IllegalArgumentException" "java/lang/Object") ∈ lw_tbl := lw_at lw_m9 80 rfl
theorem in_J14 : ∀ w ∈ wsJ140, w ∈ lw_all := lw_in wsJ140 [699, 700, 701, 702, 703, 731] (by decide +kernel) (by decide +kernel)
/-! java/util/BitSet -/
set_option maxRecDepth 100000
def RJ15 : String := "java/util/BitSet"
def TJ15 : u_T := fun k => match k with
  | 0 => ("java/util/BitSet", "words", "[J", false)
  | 1 => ("java/util/BitSet", "wordsInUse", "I", false)
  | _ => ("java/util/BitSet", "sizeIsSticky", "Z", false)
def tyJ15 : Nat → FieldType := fun k => match k with
  | 0 => .array .long
  | 1 => .int
  | _ => .boolean
abbrev wsJ150 : List Cond := u_ws RJ15 TJ15 3
theorem nmJ15 : ∀ a, a < 3 → ∀ b, b < 3 → a ≠ b → (TJ15 a).2.1 ≠ (TJ15 b).2.1 := by decide +kernel
theorem tyJ15_ok : ∀ k, k < 3 → parseFieldDescriptor (TJ15 k).2.2.1 = some (tyJ15 k) := by decide +kernel
abbrev cJ15_nextSetBit : ByteArray := prog_54_method_28_code
def yJ15_nextSetBit : MethodName := ⟨RJ15, "nextSetBit", "(I)I"⟩
def dkwJ15_nextSetBit_4 : List UInt8 := [28, 47, 66, 167, 255, 220]
abbrev dktJ15_nextSetBit_4 : List UInt8 := dkwJ15_nextSetBit_4 ++ []
def dkwJ15_nextSetBit_3 : List UInt8 := [104, 33, 184, 0, 182, 96, 172, 132, 2, 1, 28, 42, 180, 0, 7, 160, 0, 5, 2, 172, 42, 180, 0, 11]
abbrev dktJ15_nextSetBit_3 : List UInt8 := dkwJ15_nextSetBit_3 ++ dktJ15_nextSetBit_4
def dkwJ15_nextSetBit_2 : List UInt8 := [2, 172, 42, 180, 0, 11, 28, 47, 20, 0, 165, 27, 121, 127, 66, 33, 9, 148, 153, 0, 13, 28, 16, 64]
abbrev dktJ15_nextSetBit_2 : List UInt8 := dkwJ15_nextSetBit_2 ++ dktJ15_nextSetBit_3
def dkwJ15_nextSetBit_1 : List UInt8 := [182, 0, 45, 183, 0, 146, 191, 42, 182, 0, 56, 27, 184, 0, 52, 61, 28, 42, 180, 0, 7, 161, 0, 5]
abbrev dktJ15_nextSetBit_1 : List UInt8 := dkwJ15_nextSetBit_1 ++ dktJ15_nextSetBit_2
def dkwJ15_nextSetBit_0 : List UInt8 := [27, 156, 0, 30, 187, 0, 142, 89, 187, 0, 33, 89, 183, 0, 35, 18, 144, 182, 0, 38, 27, 182, 0, 42]
abbrev dktJ15_nextSetBit_0 : List UInt8 := dkwJ15_nextSetBit_0 ++ dktJ15_nextSetBit_1
theorem dksJ15_nextSetBit_0 : cJ15_nextSetBit.data.toList.drop 0 = dktJ15_nextSetBit_0 := by decide +kernel
theorem dksJ15_nextSetBit_1 : cJ15_nextSetBit.data.toList.drop 24 = dktJ15_nextSetBit_1 := dk_seg dksJ15_nextSetBit_0 24 rfl rfl
theorem dksJ15_nextSetBit_2 : cJ15_nextSetBit.data.toList.drop 48 = dktJ15_nextSetBit_2 := dk_seg dksJ15_nextSetBit_1 24 rfl rfl
theorem dksJ15_nextSetBit_3 : cJ15_nextSetBit.data.toList.drop 72 = dktJ15_nextSetBit_3 := dk_seg dksJ15_nextSetBit_2 24 rfl rfl
theorem dksJ15_nextSetBit_4 : cJ15_nextSetBit.data.toList.drop 96 = dktJ15_nextSetBit_4 := dk_seg dksJ15_nextSetBit_3 24 rfl rfl
theorem dJ15_nextSetBit_0 : decode cJ15_nextSetBit 0 = .ok (.iload_n 1, 1) := dk_27 (dk_at dksJ15_nextSetBit_0 0 rfl rfl)
theorem dJ15_nextSetBit_1 : decode cJ15_nextSetBit 1 = .ok (.ifCond .ge 30, 3) := dk_156 0 30 (dk_at dksJ15_nextSetBit_0 1 rfl rfl)
theorem dJ15_nextSetBit_4 : decode cJ15_nextSetBit 4 = .ok (.new 142, 3) := dk_187 0 142 (dk_at dksJ15_nextSetBit_0 4 rfl rfl)
theorem dJ15_nextSetBit_7 : decode cJ15_nextSetBit 7 = .ok (.dup, 1) := dk_89 (dk_at dksJ15_nextSetBit_0 7 rfl rfl)
theorem dJ15_nextSetBit_8 : decode cJ15_nextSetBit 8 = .ok (.new 33, 3) := dk_187 0 33 (dk_at dksJ15_nextSetBit_0 8 rfl rfl)
theorem dJ15_nextSetBit_11 : decode cJ15_nextSetBit 11 = .ok (.dup, 1) := dk_89 (dk_at dksJ15_nextSetBit_0 11 rfl rfl)
theorem dJ15_nextSetBit_12 : decode cJ15_nextSetBit 12 = .ok (.invokespecial 35, 3) := dk_183 0 35 (dk_at dksJ15_nextSetBit_0 12 rfl rfl)
theorem dJ15_nextSetBit_15 : decode cJ15_nextSetBit 15 = .ok (.ldc 144, 2) := dk_18 144 (dk_at dksJ15_nextSetBit_0 15 rfl rfl)
theorem dJ15_nextSetBit_17 : decode cJ15_nextSetBit 17 = .ok (.invokevirtual 38, 3) := dk_182 0 38 (dk_at dksJ15_nextSetBit_0 17 rfl rfl)
theorem dJ15_nextSetBit_20 : decode cJ15_nextSetBit 20 = .ok (.iload_n 1, 1) := dk_27 (dk_at dksJ15_nextSetBit_0 20 rfl rfl)
theorem dJ15_nextSetBit_21 : decode cJ15_nextSetBit 21 = .ok (.invokevirtual 42, 3) := dk_182 0 42 (dk_at dksJ15_nextSetBit_0 21 rfl rfl)
theorem dJ15_nextSetBit_24 : decode cJ15_nextSetBit 24 = .ok (.invokevirtual 45, 3) := dk_182 0 45 (dk_at dksJ15_nextSetBit_1 0 rfl rfl)
theorem dJ15_nextSetBit_27 : decode cJ15_nextSetBit 27 = .ok (.invokespecial 146, 3) := dk_183 0 146 (dk_at dksJ15_nextSetBit_1 3 rfl rfl)
theorem dJ15_nextSetBit_30 : decode cJ15_nextSetBit 30 = .ok (.athrow, 1) := dk_191 (dk_at dksJ15_nextSetBit_1 6 rfl rfl)
theorem dJ15_nextSetBit_31 : decode cJ15_nextSetBit 31 = .ok (.aload_n 0, 1) := dk_42 (dk_at dksJ15_nextSetBit_1 7 rfl rfl)
theorem dJ15_nextSetBit_32 : decode cJ15_nextSetBit 32 = .ok (.invokevirtual 56, 3) := dk_182 0 56 (dk_at dksJ15_nextSetBit_1 8 rfl rfl)
theorem dJ15_nextSetBit_35 : decode cJ15_nextSetBit 35 = .ok (.iload_n 1, 1) := dk_27 (dk_at dksJ15_nextSetBit_1 11 rfl rfl)
theorem dJ15_nextSetBit_36 : decode cJ15_nextSetBit 36 = .ok (.invokestatic 52, 3) := dk_184 0 52 (dk_at dksJ15_nextSetBit_1 12 rfl rfl)
theorem dJ15_nextSetBit_39 : decode cJ15_nextSetBit 39 = .ok (.istore_n 2, 1) := dk_61 (dk_at dksJ15_nextSetBit_1 15 rfl rfl)
theorem dJ15_nextSetBit_40 : decode cJ15_nextSetBit 40 = .ok (.iload_n 2, 1) := dk_28 (dk_at dksJ15_nextSetBit_1 16 rfl rfl)
theorem dJ15_nextSetBit_41 : decode cJ15_nextSetBit 41 = .ok (.aload_n 0, 1) := dk_42 (dk_at dksJ15_nextSetBit_1 17 rfl rfl)
theorem dJ15_nextSetBit_42 : decode cJ15_nextSetBit 42 = .ok (.getfield 7, 3) := dk_180 0 7 (dk_at dksJ15_nextSetBit_1 18 rfl rfl)
theorem dJ15_nextSetBit_45 : decode cJ15_nextSetBit 45 = .ok (.if_icmp .lt 5, 3) := dk_161 0 5 (dk_at dksJ15_nextSetBit_1 21 rfl rfl)
theorem dJ15_nextSetBit_48 : decode cJ15_nextSetBit 48 = .ok (.iconst (-1), 1) := dk_2 (dk_at dksJ15_nextSetBit_2 0 rfl rfl)
theorem dJ15_nextSetBit_49 : decode cJ15_nextSetBit 49 = .ok (.ireturn, 1) := dk_172 (dk_at dksJ15_nextSetBit_2 1 rfl rfl)
theorem dJ15_nextSetBit_50 : decode cJ15_nextSetBit 50 = .ok (.aload_n 0, 1) := dk_42 (dk_at dksJ15_nextSetBit_2 2 rfl rfl)
theorem dJ15_nextSetBit_51 : decode cJ15_nextSetBit 51 = .ok (.getfield 11, 3) := dk_180 0 11 (dk_at dksJ15_nextSetBit_2 3 rfl rfl)
theorem dJ15_nextSetBit_54 : decode cJ15_nextSetBit 54 = .ok (.iload_n 2, 1) := dk_28 (dk_at dksJ15_nextSetBit_2 6 rfl rfl)
theorem dJ15_nextSetBit_55 : decode cJ15_nextSetBit 55 = .ok (.laload, 1) := dk_47 (dk_at dksJ15_nextSetBit_2 7 rfl rfl)
theorem dJ15_nextSetBit_56 : decode cJ15_nextSetBit 56 = .ok (.ldc2_w 165, 3) := dk_20 0 165 (dk_at dksJ15_nextSetBit_2 8 rfl rfl)
theorem dJ15_nextSetBit_59 : decode cJ15_nextSetBit 59 = .ok (.iload_n 1, 1) := dk_27 (dk_at dksJ15_nextSetBit_2 11 rfl rfl)
theorem dJ15_nextSetBit_60 : decode cJ15_nextSetBit 60 = .ok (.lshl, 1) := dk_121 (dk_at dksJ15_nextSetBit_2 12 rfl rfl)
theorem dJ15_nextSetBit_61 : decode cJ15_nextSetBit 61 = .ok (.land, 1) := dk_127 (dk_at dksJ15_nextSetBit_2 13 rfl rfl)
theorem dJ15_nextSetBit_62 : decode cJ15_nextSetBit 62 = .ok (.lstore_n 3, 1) := dk_66 (dk_at dksJ15_nextSetBit_2 14 rfl rfl)
theorem dJ15_nextSetBit_63 : decode cJ15_nextSetBit 63 = .ok (.lload_n 3, 1) := dk_33 (dk_at dksJ15_nextSetBit_2 15 rfl rfl)
theorem dJ15_nextSetBit_64 : decode cJ15_nextSetBit 64 = .ok (.lconst 0, 1) := dk_9 (dk_at dksJ15_nextSetBit_2 16 rfl rfl)
theorem dJ15_nextSetBit_65 : decode cJ15_nextSetBit 65 = .ok (.lcmp, 1) := dk_148 (dk_at dksJ15_nextSetBit_2 17 rfl rfl)
theorem dJ15_nextSetBit_66 : decode cJ15_nextSetBit 66 = .ok (.ifCond .eq 13, 3) := dk_153 0 13 (dk_at dksJ15_nextSetBit_2 18 rfl rfl)
theorem dJ15_nextSetBit_69 : decode cJ15_nextSetBit 69 = .ok (.iload_n 2, 1) := dk_28 (dk_at dksJ15_nextSetBit_2 21 rfl rfl)
theorem dJ15_nextSetBit_70 : decode cJ15_nextSetBit 70 = .ok (.bipush 64, 2) := dk_16 64 (dk_at dksJ15_nextSetBit_2 22 rfl rfl)
theorem dJ15_nextSetBit_72 : decode cJ15_nextSetBit 72 = .ok (.imul, 1) := dk_104 (dk_at dksJ15_nextSetBit_3 0 rfl rfl)
theorem dJ15_nextSetBit_73 : decode cJ15_nextSetBit 73 = .ok (.lload_n 3, 1) := dk_33 (dk_at dksJ15_nextSetBit_3 1 rfl rfl)
theorem dJ15_nextSetBit_74 : decode cJ15_nextSetBit 74 = .ok (.invokestatic 182, 3) := dk_184 0 182 (dk_at dksJ15_nextSetBit_3 2 rfl rfl)
theorem dJ15_nextSetBit_77 : decode cJ15_nextSetBit 77 = .ok (.iadd, 1) := dk_96 (dk_at dksJ15_nextSetBit_3 5 rfl rfl)
theorem dJ15_nextSetBit_78 : decode cJ15_nextSetBit 78 = .ok (.ireturn, 1) := dk_172 (dk_at dksJ15_nextSetBit_3 6 rfl rfl)
theorem dJ15_nextSetBit_79 : decode cJ15_nextSetBit 79 = .ok (.iinc 2 1, 3) := dk_132 2 1 (dk_at dksJ15_nextSetBit_3 7 rfl rfl)
theorem dJ15_nextSetBit_82 : decode cJ15_nextSetBit 82 = .ok (.iload_n 2, 1) := dk_28 (dk_at dksJ15_nextSetBit_3 10 rfl rfl)
theorem dJ15_nextSetBit_83 : decode cJ15_nextSetBit 83 = .ok (.aload_n 0, 1) := dk_42 (dk_at dksJ15_nextSetBit_3 11 rfl rfl)
theorem dJ15_nextSetBit_84 : decode cJ15_nextSetBit 84 = .ok (.getfield 7, 3) := dk_180 0 7 (dk_at dksJ15_nextSetBit_3 12 rfl rfl)
theorem dJ15_nextSetBit_87 : decode cJ15_nextSetBit 87 = .ok (.if_icmp .ne 5, 3) := dk_160 0 5 (dk_at dksJ15_nextSetBit_3 15 rfl rfl)
theorem dJ15_nextSetBit_90 : decode cJ15_nextSetBit 90 = .ok (.iconst (-1), 1) := dk_2 (dk_at dksJ15_nextSetBit_3 18 rfl rfl)
theorem dJ15_nextSetBit_91 : decode cJ15_nextSetBit 91 = .ok (.ireturn, 1) := dk_172 (dk_at dksJ15_nextSetBit_3 19 rfl rfl)
theorem dJ15_nextSetBit_92 : decode cJ15_nextSetBit 92 = .ok (.aload_n 0, 1) := dk_42 (dk_at dksJ15_nextSetBit_3 20 rfl rfl)
theorem dJ15_nextSetBit_93 : decode cJ15_nextSetBit 93 = .ok (.getfield 11, 3) := dk_180 0 11 (dk_at dksJ15_nextSetBit_3 21 rfl rfl)
theorem dJ15_nextSetBit_96 : decode cJ15_nextSetBit 96 = .ok (.iload_n 2, 1) := dk_28 (dk_at dksJ15_nextSetBit_4 0 rfl rfl)
theorem dJ15_nextSetBit_97 : decode cJ15_nextSetBit 97 = .ok (.laload, 1) := dk_47 (dk_at dksJ15_nextSetBit_4 1 rfl rfl)
theorem dJ15_nextSetBit_98 : decode cJ15_nextSetBit 98 = .ok (.lstore_n 3, 1) := dk_66 (dk_at dksJ15_nextSetBit_4 2 rfl rfl)
theorem dJ15_nextSetBit_99 : decode cJ15_nextSetBit 99 = .ok (.goto (-36), 3) := dk_167 255 220 (dk_at dksJ15_nextSetBit_4 3 rfl rfl)
abbrev cJ15_checkInvariants : ByteArray := prog_54_method_2_code
def yJ15_checkInvariants : MethodName := ⟨RJ15, "checkInvariants", "()V"⟩
def dkwJ15_checkInvariants_4 : List UInt8 := [180, 0, 7, 47, 9, 148, 153, 0, 11, 187, 0, 15, 89, 183, 0, 17, 191, 177]
abbrev dktJ15_checkInvariants_4 : List UInt8 := dkwJ15_checkInvariants_4 ++ []
def dkwJ15_checkInvariants_3 : List UInt8 := [178, 0, 3, 154, 0, 37, 42, 180, 0, 7, 42, 180, 0, 11, 190, 159, 0, 25, 42, 180, 0, 11, 42]
abbrev dktJ15_checkInvariants_3 : List UInt8 := dkwJ15_checkInvariants_3 ++ dktJ15_checkInvariants_4
def dkwJ15_checkInvariants_2 : List UInt8 := [155, 0, 15, 42, 180, 0, 7, 42, 180, 0, 11, 190, 164, 0, 11, 187, 0, 15, 89, 183, 0, 17, 191]
abbrev dktJ15_checkInvariants_2 : List UInt8 := dkwJ15_checkInvariants_2 ++ dktJ15_checkInvariants_3
def dkwJ15_checkInvariants_1 : List UInt8 := [9, 148, 154, 0, 11, 187, 0, 15, 89, 183, 0, 17, 191, 178, 0, 3, 154, 0, 30, 42, 180, 0, 7]
abbrev dktJ15_checkInvariants_1 : List UInt8 := dkwJ15_checkInvariants_1 ++ dktJ15_checkInvariants_2
def dkwJ15_checkInvariants_0 : List UInt8 := [178, 0, 3, 154, 0, 34, 42, 180, 0, 7, 153, 0, 27, 42, 180, 0, 11, 42, 180, 0, 7, 4, 100, 47]
abbrev dktJ15_checkInvariants_0 : List UInt8 := dkwJ15_checkInvariants_0 ++ dktJ15_checkInvariants_1
theorem dksJ15_checkInvariants_0 : cJ15_checkInvariants.data.toList.drop 0 = dktJ15_checkInvariants_0 := by decide +kernel
theorem dksJ15_checkInvariants_1 : cJ15_checkInvariants.data.toList.drop 24 = dktJ15_checkInvariants_1 := dk_seg dksJ15_checkInvariants_0 24 rfl rfl
theorem dksJ15_checkInvariants_2 : cJ15_checkInvariants.data.toList.drop 47 = dktJ15_checkInvariants_2 := dk_seg dksJ15_checkInvariants_1 23 rfl rfl
theorem dksJ15_checkInvariants_3 : cJ15_checkInvariants.data.toList.drop 70 = dktJ15_checkInvariants_3 := dk_seg dksJ15_checkInvariants_2 23 rfl rfl
theorem dksJ15_checkInvariants_4 : cJ15_checkInvariants.data.toList.drop 93 = dktJ15_checkInvariants_4 := dk_seg dksJ15_checkInvariants_3 23 rfl rfl
theorem dJ15_checkInvariants_0 : decode cJ15_checkInvariants 0 = .ok (.getstatic 3, 3) := dk_178 0 3 (dk_at dksJ15_checkInvariants_0 0 rfl rfl)
theorem dJ15_checkInvariants_3 : decode cJ15_checkInvariants 3 = .ok (.ifCond .ne 34, 3) := dk_154 0 34 (dk_at dksJ15_checkInvariants_0 3 rfl rfl)
theorem dJ15_checkInvariants_6 : decode cJ15_checkInvariants 6 = .ok (.aload_n 0, 1) := dk_42 (dk_at dksJ15_checkInvariants_0 6 rfl rfl)
theorem dJ15_checkInvariants_7 : decode cJ15_checkInvariants 7 = .ok (.getfield 7, 3) := dk_180 0 7 (dk_at dksJ15_checkInvariants_0 7 rfl rfl)
theorem dJ15_checkInvariants_10 : decode cJ15_checkInvariants 10 = .ok (.ifCond .eq 27, 3) := dk_153 0 27 (dk_at dksJ15_checkInvariants_0 10 rfl rfl)
theorem dJ15_checkInvariants_13 : decode cJ15_checkInvariants 13 = .ok (.aload_n 0, 1) := dk_42 (dk_at dksJ15_checkInvariants_0 13 rfl rfl)
theorem dJ15_checkInvariants_14 : decode cJ15_checkInvariants 14 = .ok (.getfield 11, 3) := dk_180 0 11 (dk_at dksJ15_checkInvariants_0 14 rfl rfl)
theorem dJ15_checkInvariants_17 : decode cJ15_checkInvariants 17 = .ok (.aload_n 0, 1) := dk_42 (dk_at dksJ15_checkInvariants_0 17 rfl rfl)
theorem dJ15_checkInvariants_18 : decode cJ15_checkInvariants 18 = .ok (.getfield 7, 3) := dk_180 0 7 (dk_at dksJ15_checkInvariants_0 18 rfl rfl)
theorem dJ15_checkInvariants_21 : decode cJ15_checkInvariants 21 = .ok (.iconst 1, 1) := dk_4 (dk_at dksJ15_checkInvariants_0 21 rfl rfl)
theorem dJ15_checkInvariants_22 : decode cJ15_checkInvariants 22 = .ok (.isub, 1) := dk_100 (dk_at dksJ15_checkInvariants_0 22 rfl rfl)
theorem dJ15_checkInvariants_23 : decode cJ15_checkInvariants 23 = .ok (.laload, 1) := dk_47 (dk_at dksJ15_checkInvariants_0 23 rfl rfl)
theorem dJ15_checkInvariants_24 : decode cJ15_checkInvariants 24 = .ok (.lconst 0, 1) := dk_9 (dk_at dksJ15_checkInvariants_1 0 rfl rfl)
theorem dJ15_checkInvariants_25 : decode cJ15_checkInvariants 25 = .ok (.lcmp, 1) := dk_148 (dk_at dksJ15_checkInvariants_1 1 rfl rfl)
theorem dJ15_checkInvariants_26 : decode cJ15_checkInvariants 26 = .ok (.ifCond .ne 11, 3) := dk_154 0 11 (dk_at dksJ15_checkInvariants_1 2 rfl rfl)
theorem dJ15_checkInvariants_29 : decode cJ15_checkInvariants 29 = .ok (.new 15, 3) := dk_187 0 15 (dk_at dksJ15_checkInvariants_1 5 rfl rfl)
theorem dJ15_checkInvariants_32 : decode cJ15_checkInvariants 32 = .ok (.dup, 1) := dk_89 (dk_at dksJ15_checkInvariants_1 8 rfl rfl)
theorem dJ15_checkInvariants_33 : decode cJ15_checkInvariants 33 = .ok (.invokespecial 17, 3) := dk_183 0 17 (dk_at dksJ15_checkInvariants_1 9 rfl rfl)
theorem dJ15_checkInvariants_36 : decode cJ15_checkInvariants 36 = .ok (.athrow, 1) := dk_191 (dk_at dksJ15_checkInvariants_1 12 rfl rfl)
theorem dJ15_checkInvariants_37 : decode cJ15_checkInvariants 37 = .ok (.getstatic 3, 3) := dk_178 0 3 (dk_at dksJ15_checkInvariants_1 13 rfl rfl)
theorem dJ15_checkInvariants_40 : decode cJ15_checkInvariants 40 = .ok (.ifCond .ne 30, 3) := dk_154 0 30 (dk_at dksJ15_checkInvariants_1 16 rfl rfl)
theorem dJ15_checkInvariants_43 : decode cJ15_checkInvariants 43 = .ok (.aload_n 0, 1) := dk_42 (dk_at dksJ15_checkInvariants_1 19 rfl rfl)
theorem dJ15_checkInvariants_44 : decode cJ15_checkInvariants 44 = .ok (.getfield 7, 3) := dk_180 0 7 (dk_at dksJ15_checkInvariants_1 20 rfl rfl)
theorem dJ15_checkInvariants_47 : decode cJ15_checkInvariants 47 = .ok (.ifCond .lt 15, 3) := dk_155 0 15 (dk_at dksJ15_checkInvariants_2 0 rfl rfl)
theorem dJ15_checkInvariants_50 : decode cJ15_checkInvariants 50 = .ok (.aload_n 0, 1) := dk_42 (dk_at dksJ15_checkInvariants_2 3 rfl rfl)
theorem dJ15_checkInvariants_51 : decode cJ15_checkInvariants 51 = .ok (.getfield 7, 3) := dk_180 0 7 (dk_at dksJ15_checkInvariants_2 4 rfl rfl)
theorem dJ15_checkInvariants_54 : decode cJ15_checkInvariants 54 = .ok (.aload_n 0, 1) := dk_42 (dk_at dksJ15_checkInvariants_2 7 rfl rfl)
theorem dJ15_checkInvariants_55 : decode cJ15_checkInvariants 55 = .ok (.getfield 11, 3) := dk_180 0 11 (dk_at dksJ15_checkInvariants_2 8 rfl rfl)
theorem dJ15_checkInvariants_58 : decode cJ15_checkInvariants 58 = .ok (.arraylength, 1) := dk_190 (dk_at dksJ15_checkInvariants_2 11 rfl rfl)
theorem dJ15_checkInvariants_59 : decode cJ15_checkInvariants 59 = .ok (.if_icmp .le 11, 3) := dk_164 0 11 (dk_at dksJ15_checkInvariants_2 12 rfl rfl)
theorem dJ15_checkInvariants_62 : decode cJ15_checkInvariants 62 = .ok (.new 15, 3) := dk_187 0 15 (dk_at dksJ15_checkInvariants_2 15 rfl rfl)
theorem dJ15_checkInvariants_65 : decode cJ15_checkInvariants 65 = .ok (.dup, 1) := dk_89 (dk_at dksJ15_checkInvariants_2 18 rfl rfl)
theorem dJ15_checkInvariants_66 : decode cJ15_checkInvariants 66 = .ok (.invokespecial 17, 3) := dk_183 0 17 (dk_at dksJ15_checkInvariants_2 19 rfl rfl)
theorem dJ15_checkInvariants_69 : decode cJ15_checkInvariants 69 = .ok (.athrow, 1) := dk_191 (dk_at dksJ15_checkInvariants_2 22 rfl rfl)
theorem dJ15_checkInvariants_70 : decode cJ15_checkInvariants 70 = .ok (.getstatic 3, 3) := dk_178 0 3 (dk_at dksJ15_checkInvariants_3 0 rfl rfl)
theorem dJ15_checkInvariants_73 : decode cJ15_checkInvariants 73 = .ok (.ifCond .ne 37, 3) := dk_154 0 37 (dk_at dksJ15_checkInvariants_3 3 rfl rfl)
theorem dJ15_checkInvariants_76 : decode cJ15_checkInvariants 76 = .ok (.aload_n 0, 1) := dk_42 (dk_at dksJ15_checkInvariants_3 6 rfl rfl)
theorem dJ15_checkInvariants_77 : decode cJ15_checkInvariants 77 = .ok (.getfield 7, 3) := dk_180 0 7 (dk_at dksJ15_checkInvariants_3 7 rfl rfl)
theorem dJ15_checkInvariants_80 : decode cJ15_checkInvariants 80 = .ok (.aload_n 0, 1) := dk_42 (dk_at dksJ15_checkInvariants_3 10 rfl rfl)
theorem dJ15_checkInvariants_81 : decode cJ15_checkInvariants 81 = .ok (.getfield 11, 3) := dk_180 0 11 (dk_at dksJ15_checkInvariants_3 11 rfl rfl)
theorem dJ15_checkInvariants_84 : decode cJ15_checkInvariants 84 = .ok (.arraylength, 1) := dk_190 (dk_at dksJ15_checkInvariants_3 14 rfl rfl)
theorem dJ15_checkInvariants_85 : decode cJ15_checkInvariants 85 = .ok (.if_icmp .eq 25, 3) := dk_159 0 25 (dk_at dksJ15_checkInvariants_3 15 rfl rfl)
theorem dJ15_checkInvariants_88 : decode cJ15_checkInvariants 88 = .ok (.aload_n 0, 1) := dk_42 (dk_at dksJ15_checkInvariants_3 18 rfl rfl)
theorem dJ15_checkInvariants_89 : decode cJ15_checkInvariants 89 = .ok (.getfield 11, 3) := dk_180 0 11 (dk_at dksJ15_checkInvariants_3 19 rfl rfl)
theorem dJ15_checkInvariants_92 : decode cJ15_checkInvariants 92 = .ok (.aload_n 0, 1) := dk_42 (dk_at dksJ15_checkInvariants_3 22 rfl rfl)
theorem dJ15_checkInvariants_93 : decode cJ15_checkInvariants 93 = .ok (.getfield 7, 3) := dk_180 0 7 (dk_at dksJ15_checkInvariants_4 0 rfl rfl)
theorem dJ15_checkInvariants_96 : decode cJ15_checkInvariants 96 = .ok (.laload, 1) := dk_47 (dk_at dksJ15_checkInvariants_4 3 rfl rfl)
theorem dJ15_checkInvariants_97 : decode cJ15_checkInvariants 97 = .ok (.lconst 0, 1) := dk_9 (dk_at dksJ15_checkInvariants_4 4 rfl rfl)
theorem dJ15_checkInvariants_98 : decode cJ15_checkInvariants 98 = .ok (.lcmp, 1) := dk_148 (dk_at dksJ15_checkInvariants_4 5 rfl rfl)
theorem dJ15_checkInvariants_99 : decode cJ15_checkInvariants 99 = .ok (.ifCond .eq 11, 3) := dk_153 0 11 (dk_at dksJ15_checkInvariants_4 6 rfl rfl)
theorem dJ15_checkInvariants_102 : decode cJ15_checkInvariants 102 = .ok (.new 15, 3) := dk_187 0 15 (dk_at dksJ15_checkInvariants_4 9 rfl rfl)
theorem dJ15_checkInvariants_105 : decode cJ15_checkInvariants 105 = .ok (.dup, 1) := dk_89 (dk_at dksJ15_checkInvariants_4 12 rfl rfl)
theorem dJ15_checkInvariants_106 : decode cJ15_checkInvariants 106 = .ok (.invokespecial 17, 3) := dk_183 0 17 (dk_at dksJ15_checkInvariants_4 13 rfl rfl)
theorem dJ15_checkInvariants_109 : decode cJ15_checkInvariants 109 = .ok (.athrow, 1) := dk_191 (dk_at dksJ15_checkInvariants_4 16 rfl rfl)
theorem dJ15_checkInvariants_110 : decode cJ15_checkInvariants 110 = .ok (.return_, 1) := dk_177 (dk_at dksJ15_checkInvariants_4 17 rfl rfl)
abbrev cJ15_wordIndex : ByteArray := prog_54_method_1_code
def yJ15_wordIndex : MethodName := ⟨RJ15, "wordIndex", "(I)I"⟩
def dkwJ15_wordIndex_0 : List UInt8 := [26, 16, 6, 122, 172]
abbrev dktJ15_wordIndex_0 : List UInt8 := dkwJ15_wordIndex_0 ++ []
theorem dksJ15_wordIndex_0 : cJ15_wordIndex.data.toList.drop 0 = dktJ15_wordIndex_0 := by decide +kernel
theorem dJ15_wordIndex_0 : decode cJ15_wordIndex 0 = .ok (.iload_n 0, 1) := dk_26 (dk_at dksJ15_wordIndex_0 0 rfl rfl)
theorem dJ15_wordIndex_1 : decode cJ15_wordIndex 1 = .ok (.bipush 6, 2) := dk_16 6 (dk_at dksJ15_wordIndex_0 1 rfl rfl)
theorem dJ15_wordIndex_3 : decode cJ15_wordIndex 3 = .ok (.ishr, 1) := dk_122 (dk_at dksJ15_wordIndex_0 3 rfl rfl)
theorem dJ15_wordIndex_4 : decode cJ15_wordIndex 4 = .ok (.ireturn, 1) := dk_172 (dk_at dksJ15_wordIndex_0 4 rfl rfl)
abbrev cJ15_previousSetBit : ByteArray := prog_54_method_30_code
def yJ15_previousSetBit : MethodName := ⟨RJ15, "previousSetBit", "(I)I"⟩
def dkwJ15_previousSetBit_4 : List UInt8 := [100, 172, 28, 132, 2, 255, 154, 0, 5, 2, 172, 42, 180, 0, 11, 28, 47, 66, 167, 255, 220]
abbrev dktJ15_previousSetBit_4 : List UInt8 := dkwJ15_previousSetBit_4 ++ []
def dkwJ15_previousSetBit_3 : List UInt8 := [4, 96, 116, 125, 127, 66, 33, 9, 148, 153, 0, 17, 28, 4, 96, 16, 64, 104, 4, 100, 33, 184, 0, 190]
abbrev dktJ15_previousSetBit_3 : List UInt8 := dkwJ15_previousSetBit_3 ++ dktJ15_previousSetBit_4
def dkwJ15_previousSetBit_2 : List UInt8 := [42, 180, 0, 7, 161, 0, 10, 42, 182, 0, 177, 4, 100, 172, 42, 180, 0, 11, 28, 47, 20, 0, 165, 27]
abbrev dktJ15_previousSetBit_2 : List UInt8 := dkwJ15_previousSetBit_2 ++ dktJ15_previousSetBit_3
def dkwJ15_previousSetBit_1 : List UInt8 := [182, 0, 38, 27, 182, 0, 42, 182, 0, 45, 183, 0, 146, 191, 42, 182, 0, 56, 27, 184, 0, 52, 61, 28]
abbrev dktJ15_previousSetBit_1 : List UInt8 := dkwJ15_previousSetBit_1 ++ dktJ15_previousSetBit_2
def dkwJ15_previousSetBit_0 : List UInt8 := [27, 156, 0, 37, 27, 2, 160, 0, 5, 2, 172, 187, 0, 142, 89, 187, 0, 33, 89, 183, 0, 35, 18, 188]
abbrev dktJ15_previousSetBit_0 : List UInt8 := dkwJ15_previousSetBit_0 ++ dktJ15_previousSetBit_1
theorem dksJ15_previousSetBit_0 : cJ15_previousSetBit.data.toList.drop 0 = dktJ15_previousSetBit_0 := by decide +kernel
theorem dksJ15_previousSetBit_1 : cJ15_previousSetBit.data.toList.drop 24 = dktJ15_previousSetBit_1 := dk_seg dksJ15_previousSetBit_0 24 rfl rfl
theorem dksJ15_previousSetBit_2 : cJ15_previousSetBit.data.toList.drop 48 = dktJ15_previousSetBit_2 := dk_seg dksJ15_previousSetBit_1 24 rfl rfl
theorem dksJ15_previousSetBit_3 : cJ15_previousSetBit.data.toList.drop 72 = dktJ15_previousSetBit_3 := dk_seg dksJ15_previousSetBit_2 24 rfl rfl
theorem dksJ15_previousSetBit_4 : cJ15_previousSetBit.data.toList.drop 96 = dktJ15_previousSetBit_4 := dk_seg dksJ15_previousSetBit_3 24 rfl rfl
theorem dJ15_previousSetBit_0 : decode cJ15_previousSetBit 0 = .ok (.iload_n 1, 1) := dk_27 (dk_at dksJ15_previousSetBit_0 0 rfl rfl)
theorem dJ15_previousSetBit_1 : decode cJ15_previousSetBit 1 = .ok (.ifCond .ge 37, 3) := dk_156 0 37 (dk_at dksJ15_previousSetBit_0 1 rfl rfl)
theorem dJ15_previousSetBit_4 : decode cJ15_previousSetBit 4 = .ok (.iload_n 1, 1) := dk_27 (dk_at dksJ15_previousSetBit_0 4 rfl rfl)
theorem dJ15_previousSetBit_5 : decode cJ15_previousSetBit 5 = .ok (.iconst (-1), 1) := dk_2 (dk_at dksJ15_previousSetBit_0 5 rfl rfl)
theorem dJ15_previousSetBit_6 : decode cJ15_previousSetBit 6 = .ok (.if_icmp .ne 5, 3) := dk_160 0 5 (dk_at dksJ15_previousSetBit_0 6 rfl rfl)
theorem dJ15_previousSetBit_9 : decode cJ15_previousSetBit 9 = .ok (.iconst (-1), 1) := dk_2 (dk_at dksJ15_previousSetBit_0 9 rfl rfl)
theorem dJ15_previousSetBit_10 : decode cJ15_previousSetBit 10 = .ok (.ireturn, 1) := dk_172 (dk_at dksJ15_previousSetBit_0 10 rfl rfl)
theorem dJ15_previousSetBit_11 : decode cJ15_previousSetBit 11 = .ok (.new 142, 3) := dk_187 0 142 (dk_at dksJ15_previousSetBit_0 11 rfl rfl)
theorem dJ15_previousSetBit_14 : decode cJ15_previousSetBit 14 = .ok (.dup, 1) := dk_89 (dk_at dksJ15_previousSetBit_0 14 rfl rfl)
theorem dJ15_previousSetBit_15 : decode cJ15_previousSetBit 15 = .ok (.new 33, 3) := dk_187 0 33 (dk_at dksJ15_previousSetBit_0 15 rfl rfl)
theorem dJ15_previousSetBit_18 : decode cJ15_previousSetBit 18 = .ok (.dup, 1) := dk_89 (dk_at dksJ15_previousSetBit_0 18 rfl rfl)
theorem dJ15_previousSetBit_19 : decode cJ15_previousSetBit 19 = .ok (.invokespecial 35, 3) := dk_183 0 35 (dk_at dksJ15_previousSetBit_0 19 rfl rfl)
theorem dJ15_previousSetBit_22 : decode cJ15_previousSetBit 22 = .ok (.ldc 188, 2) := dk_18 188 (dk_at dksJ15_previousSetBit_0 22 rfl rfl)
theorem dJ15_previousSetBit_24 : decode cJ15_previousSetBit 24 = .ok (.invokevirtual 38, 3) := dk_182 0 38 (dk_at dksJ15_previousSetBit_1 0 rfl rfl)
theorem dJ15_previousSetBit_27 : decode cJ15_previousSetBit 27 = .ok (.iload_n 1, 1) := dk_27 (dk_at dksJ15_previousSetBit_1 3 rfl rfl)
theorem dJ15_previousSetBit_28 : decode cJ15_previousSetBit 28 = .ok (.invokevirtual 42, 3) := dk_182 0 42 (dk_at dksJ15_previousSetBit_1 4 rfl rfl)
theorem dJ15_previousSetBit_31 : decode cJ15_previousSetBit 31 = .ok (.invokevirtual 45, 3) := dk_182 0 45 (dk_at dksJ15_previousSetBit_1 7 rfl rfl)
theorem dJ15_previousSetBit_34 : decode cJ15_previousSetBit 34 = .ok (.invokespecial 146, 3) := dk_183 0 146 (dk_at dksJ15_previousSetBit_1 10 rfl rfl)
theorem dJ15_previousSetBit_37 : decode cJ15_previousSetBit 37 = .ok (.athrow, 1) := dk_191 (dk_at dksJ15_previousSetBit_1 13 rfl rfl)
theorem dJ15_previousSetBit_38 : decode cJ15_previousSetBit 38 = .ok (.aload_n 0, 1) := dk_42 (dk_at dksJ15_previousSetBit_1 14 rfl rfl)
theorem dJ15_previousSetBit_39 : decode cJ15_previousSetBit 39 = .ok (.invokevirtual 56, 3) := dk_182 0 56 (dk_at dksJ15_previousSetBit_1 15 rfl rfl)
theorem dJ15_previousSetBit_42 : decode cJ15_previousSetBit 42 = .ok (.iload_n 1, 1) := dk_27 (dk_at dksJ15_previousSetBit_1 18 rfl rfl)
theorem dJ15_previousSetBit_43 : decode cJ15_previousSetBit 43 = .ok (.invokestatic 52, 3) := dk_184 0 52 (dk_at dksJ15_previousSetBit_1 19 rfl rfl)
theorem dJ15_previousSetBit_46 : decode cJ15_previousSetBit 46 = .ok (.istore_n 2, 1) := dk_61 (dk_at dksJ15_previousSetBit_1 22 rfl rfl)
theorem dJ15_previousSetBit_47 : decode cJ15_previousSetBit 47 = .ok (.iload_n 2, 1) := dk_28 (dk_at dksJ15_previousSetBit_1 23 rfl rfl)
theorem dJ15_previousSetBit_48 : decode cJ15_previousSetBit 48 = .ok (.aload_n 0, 1) := dk_42 (dk_at dksJ15_previousSetBit_2 0 rfl rfl)
theorem dJ15_previousSetBit_49 : decode cJ15_previousSetBit 49 = .ok (.getfield 7, 3) := dk_180 0 7 (dk_at dksJ15_previousSetBit_2 1 rfl rfl)
theorem dJ15_previousSetBit_52 : decode cJ15_previousSetBit 52 = .ok (.if_icmp .lt 10, 3) := dk_161 0 10 (dk_at dksJ15_previousSetBit_2 4 rfl rfl)
theorem dJ15_previousSetBit_55 : decode cJ15_previousSetBit 55 = .ok (.aload_n 0, 1) := dk_42 (dk_at dksJ15_previousSetBit_2 7 rfl rfl)
theorem dJ15_previousSetBit_56 : decode cJ15_previousSetBit 56 = .ok (.invokevirtual 177, 3) := dk_182 0 177 (dk_at dksJ15_previousSetBit_2 8 rfl rfl)
theorem dJ15_previousSetBit_59 : decode cJ15_previousSetBit 59 = .ok (.iconst 1, 1) := dk_4 (dk_at dksJ15_previousSetBit_2 11 rfl rfl)
theorem dJ15_previousSetBit_60 : decode cJ15_previousSetBit 60 = .ok (.isub, 1) := dk_100 (dk_at dksJ15_previousSetBit_2 12 rfl rfl)
theorem dJ15_previousSetBit_61 : decode cJ15_previousSetBit 61 = .ok (.ireturn, 1) := dk_172 (dk_at dksJ15_previousSetBit_2 13 rfl rfl)
theorem dJ15_previousSetBit_62 : decode cJ15_previousSetBit 62 = .ok (.aload_n 0, 1) := dk_42 (dk_at dksJ15_previousSetBit_2 14 rfl rfl)
theorem dJ15_previousSetBit_63 : decode cJ15_previousSetBit 63 = .ok (.getfield 11, 3) := dk_180 0 11 (dk_at dksJ15_previousSetBit_2 15 rfl rfl)
theorem dJ15_previousSetBit_66 : decode cJ15_previousSetBit 66 = .ok (.iload_n 2, 1) := dk_28 (dk_at dksJ15_previousSetBit_2 18 rfl rfl)
theorem dJ15_previousSetBit_67 : decode cJ15_previousSetBit 67 = .ok (.laload, 1) := dk_47 (dk_at dksJ15_previousSetBit_2 19 rfl rfl)
theorem dJ15_previousSetBit_68 : decode cJ15_previousSetBit 68 = .ok (.ldc2_w 165, 3) := dk_20 0 165 (dk_at dksJ15_previousSetBit_2 20 rfl rfl)
theorem dJ15_previousSetBit_71 : decode cJ15_previousSetBit 71 = .ok (.iload_n 1, 1) := dk_27 (dk_at dksJ15_previousSetBit_2 23 rfl rfl)
theorem dJ15_previousSetBit_72 : decode cJ15_previousSetBit 72 = .ok (.iconst 1, 1) := dk_4 (dk_at dksJ15_previousSetBit_3 0 rfl rfl)
theorem dJ15_previousSetBit_73 : decode cJ15_previousSetBit 73 = .ok (.iadd, 1) := dk_96 (dk_at dksJ15_previousSetBit_3 1 rfl rfl)
theorem dJ15_previousSetBit_74 : decode cJ15_previousSetBit 74 = .ok (.ineg, 1) := dk_116 (dk_at dksJ15_previousSetBit_3 2 rfl rfl)
theorem dJ15_previousSetBit_75 : decode cJ15_previousSetBit 75 = .ok (.lushr, 1) := dk_125 (dk_at dksJ15_previousSetBit_3 3 rfl rfl)
theorem dJ15_previousSetBit_76 : decode cJ15_previousSetBit 76 = .ok (.land, 1) := dk_127 (dk_at dksJ15_previousSetBit_3 4 rfl rfl)
theorem dJ15_previousSetBit_77 : decode cJ15_previousSetBit 77 = .ok (.lstore_n 3, 1) := dk_66 (dk_at dksJ15_previousSetBit_3 5 rfl rfl)
theorem dJ15_previousSetBit_78 : decode cJ15_previousSetBit 78 = .ok (.lload_n 3, 1) := dk_33 (dk_at dksJ15_previousSetBit_3 6 rfl rfl)
theorem dJ15_previousSetBit_79 : decode cJ15_previousSetBit 79 = .ok (.lconst 0, 1) := dk_9 (dk_at dksJ15_previousSetBit_3 7 rfl rfl)
theorem dJ15_previousSetBit_80 : decode cJ15_previousSetBit 80 = .ok (.lcmp, 1) := dk_148 (dk_at dksJ15_previousSetBit_3 8 rfl rfl)
theorem dJ15_previousSetBit_81 : decode cJ15_previousSetBit 81 = .ok (.ifCond .eq 17, 3) := dk_153 0 17 (dk_at dksJ15_previousSetBit_3 9 rfl rfl)
theorem dJ15_previousSetBit_84 : decode cJ15_previousSetBit 84 = .ok (.iload_n 2, 1) := dk_28 (dk_at dksJ15_previousSetBit_3 12 rfl rfl)
theorem dJ15_previousSetBit_85 : decode cJ15_previousSetBit 85 = .ok (.iconst 1, 1) := dk_4 (dk_at dksJ15_previousSetBit_3 13 rfl rfl)
theorem dJ15_previousSetBit_86 : decode cJ15_previousSetBit 86 = .ok (.iadd, 1) := dk_96 (dk_at dksJ15_previousSetBit_3 14 rfl rfl)
theorem dJ15_previousSetBit_87 : decode cJ15_previousSetBit 87 = .ok (.bipush 64, 2) := dk_16 64 (dk_at dksJ15_previousSetBit_3 15 rfl rfl)
theorem dJ15_previousSetBit_89 : decode cJ15_previousSetBit 89 = .ok (.imul, 1) := dk_104 (dk_at dksJ15_previousSetBit_3 17 rfl rfl)
theorem dJ15_previousSetBit_90 : decode cJ15_previousSetBit 90 = .ok (.iconst 1, 1) := dk_4 (dk_at dksJ15_previousSetBit_3 18 rfl rfl)
theorem dJ15_previousSetBit_91 : decode cJ15_previousSetBit 91 = .ok (.isub, 1) := dk_100 (dk_at dksJ15_previousSetBit_3 19 rfl rfl)
theorem dJ15_previousSetBit_92 : decode cJ15_previousSetBit 92 = .ok (.lload_n 3, 1) := dk_33 (dk_at dksJ15_previousSetBit_3 20 rfl rfl)
theorem dJ15_previousSetBit_93 : decode cJ15_previousSetBit 93 = .ok (.invokestatic 190, 3) := dk_184 0 190 (dk_at dksJ15_previousSetBit_3 21 rfl rfl)
theorem dJ15_previousSetBit_96 : decode cJ15_previousSetBit 96 = .ok (.isub, 1) := dk_100 (dk_at dksJ15_previousSetBit_4 0 rfl rfl)
theorem dJ15_previousSetBit_97 : decode cJ15_previousSetBit 97 = .ok (.ireturn, 1) := dk_172 (dk_at dksJ15_previousSetBit_4 1 rfl rfl)
theorem dJ15_previousSetBit_98 : decode cJ15_previousSetBit 98 = .ok (.iload_n 2, 1) := dk_28 (dk_at dksJ15_previousSetBit_4 2 rfl rfl)
theorem dJ15_previousSetBit_99 : decode cJ15_previousSetBit 99 = .ok (.iinc 2 (-1), 3) := dk_132 2 255 (dk_at dksJ15_previousSetBit_4 3 rfl rfl)
theorem dJ15_previousSetBit_102 : decode cJ15_previousSetBit 102 = .ok (.ifCond .ne 5, 3) := dk_154 0 5 (dk_at dksJ15_previousSetBit_4 6 rfl rfl)
theorem dJ15_previousSetBit_105 : decode cJ15_previousSetBit 105 = .ok (.iconst (-1), 1) := dk_2 (dk_at dksJ15_previousSetBit_4 9 rfl rfl)
theorem dJ15_previousSetBit_106 : decode cJ15_previousSetBit 106 = .ok (.ireturn, 1) := dk_172 (dk_at dksJ15_previousSetBit_4 10 rfl rfl)
theorem dJ15_previousSetBit_107 : decode cJ15_previousSetBit 107 = .ok (.aload_n 0, 1) := dk_42 (dk_at dksJ15_previousSetBit_4 11 rfl rfl)
theorem dJ15_previousSetBit_108 : decode cJ15_previousSetBit 108 = .ok (.getfield 11, 3) := dk_180 0 11 (dk_at dksJ15_previousSetBit_4 12 rfl rfl)
theorem dJ15_previousSetBit_111 : decode cJ15_previousSetBit 111 = .ok (.iload_n 2, 1) := dk_28 (dk_at dksJ15_previousSetBit_4 15 rfl rfl)
theorem dJ15_previousSetBit_112 : decode cJ15_previousSetBit 112 = .ok (.laload, 1) := dk_47 (dk_at dksJ15_previousSetBit_4 16 rfl rfl)
theorem dJ15_previousSetBit_113 : decode cJ15_previousSetBit 113 = .ok (.lstore_n 3, 1) := dk_66 (dk_at dksJ15_previousSetBit_4 17 rfl rfl)
theorem dJ15_previousSetBit_114 : decode cJ15_previousSetBit 114 = .ok (.goto (-36), 3) := dk_167 255 220 (dk_at dksJ15_previousSetBit_4 18 rfl rfl)
abbrev cJ15_length : ByteArray := prog_54_method_32_code
def yJ15_length : MethodName := ⟨RJ15, "length", "()I"⟩
def dkwJ15_length_1 : List UInt8 := [42, 180, 0, 7, 4, 100, 47, 184, 0, 190, 100, 96, 172]
abbrev dktJ15_length_1 : List UInt8 := dkwJ15_length_1 ++ []
def dkwJ15_length_0 : List UInt8 := [42, 180, 0, 7, 154, 0, 5, 3, 172, 16, 64, 42, 180, 0, 7, 4, 100, 104, 16, 64, 42, 180, 0, 11]
abbrev dktJ15_length_0 : List UInt8 := dkwJ15_length_0 ++ dktJ15_length_1
theorem dksJ15_length_0 : cJ15_length.data.toList.drop 0 = dktJ15_length_0 := by decide +kernel
theorem dksJ15_length_1 : cJ15_length.data.toList.drop 24 = dktJ15_length_1 := dk_seg dksJ15_length_0 24 rfl rfl
theorem dJ15_length_0 : decode cJ15_length 0 = .ok (.aload_n 0, 1) := dk_42 (dk_at dksJ15_length_0 0 rfl rfl)
theorem dJ15_length_1 : decode cJ15_length 1 = .ok (.getfield 7, 3) := dk_180 0 7 (dk_at dksJ15_length_0 1 rfl rfl)
theorem dJ15_length_4 : decode cJ15_length 4 = .ok (.ifCond .ne 5, 3) := dk_154 0 5 (dk_at dksJ15_length_0 4 rfl rfl)
theorem dJ15_length_7 : decode cJ15_length 7 = .ok (.iconst 0, 1) := dk_3 (dk_at dksJ15_length_0 7 rfl rfl)
theorem dJ15_length_8 : decode cJ15_length 8 = .ok (.ireturn, 1) := dk_172 (dk_at dksJ15_length_0 8 rfl rfl)
theorem dJ15_length_9 : decode cJ15_length 9 = .ok (.bipush 64, 2) := dk_16 64 (dk_at dksJ15_length_0 9 rfl rfl)
theorem dJ15_length_11 : decode cJ15_length 11 = .ok (.aload_n 0, 1) := dk_42 (dk_at dksJ15_length_0 11 rfl rfl)
theorem dJ15_length_12 : decode cJ15_length 12 = .ok (.getfield 7, 3) := dk_180 0 7 (dk_at dksJ15_length_0 12 rfl rfl)
theorem dJ15_length_15 : decode cJ15_length 15 = .ok (.iconst 1, 1) := dk_4 (dk_at dksJ15_length_0 15 rfl rfl)
theorem dJ15_length_16 : decode cJ15_length 16 = .ok (.isub, 1) := dk_100 (dk_at dksJ15_length_0 16 rfl rfl)
theorem dJ15_length_17 : decode cJ15_length 17 = .ok (.imul, 1) := dk_104 (dk_at dksJ15_length_0 17 rfl rfl)
theorem dJ15_length_18 : decode cJ15_length 18 = .ok (.bipush 64, 2) := dk_16 64 (dk_at dksJ15_length_0 18 rfl rfl)
theorem dJ15_length_20 : decode cJ15_length 20 = .ok (.aload_n 0, 1) := dk_42 (dk_at dksJ15_length_0 20 rfl rfl)
theorem dJ15_length_21 : decode cJ15_length 21 = .ok (.getfield 11, 3) := dk_180 0 11 (dk_at dksJ15_length_0 21 rfl rfl)
theorem dJ15_length_24 : decode cJ15_length 24 = .ok (.aload_n 0, 1) := dk_42 (dk_at dksJ15_length_1 0 rfl rfl)
theorem dJ15_length_25 : decode cJ15_length 25 = .ok (.getfield 7, 3) := dk_180 0 7 (dk_at dksJ15_length_1 1 rfl rfl)
theorem dJ15_length_28 : decode cJ15_length 28 = .ok (.iconst 1, 1) := dk_4 (dk_at dksJ15_length_1 4 rfl rfl)
theorem dJ15_length_29 : decode cJ15_length 29 = .ok (.isub, 1) := dk_100 (dk_at dksJ15_length_1 5 rfl rfl)
theorem dJ15_length_30 : decode cJ15_length 30 = .ok (.laload, 1) := dk_47 (dk_at dksJ15_length_1 6 rfl rfl)
theorem dJ15_length_31 : decode cJ15_length 31 = .ok (.invokestatic 190, 3) := dk_184 0 190 (dk_at dksJ15_length_1 7 rfl rfl)
theorem dJ15_length_34 : decode cJ15_length 34 = .ok (.isub, 1) := dk_100 (dk_at dksJ15_length_1 10 rfl rfl)
theorem dJ15_length_35 : decode cJ15_length 35 = .ok (.iadd, 1) := dk_96 (dk_at dksJ15_length_1 11 rfl rfl)
theorem dJ15_length_36 : decode cJ15_length 36 = .ok (.ireturn, 1) := dk_172 (dk_at dksJ15_length_1 12 rfl rfl)
abbrev cJ15_init : ByteArray := prog_54_method_4_code
def yJ15_init : MethodName := ⟨RJ15, "<init>", "()V"⟩
def dkwJ15_init_1 : List UInt8 := [181, 0, 24, 177]
abbrev dktJ15_init_1 : List UInt8 := dkwJ15_init_1 ++ []
def dkwJ15_init_0 : List UInt8 := [42, 183, 0, 21, 42, 3, 181, 0, 7, 42, 3, 181, 0, 24, 42, 16, 64, 182, 0, 27, 42, 3]
abbrev dktJ15_init_0 : List UInt8 := dkwJ15_init_0 ++ dktJ15_init_1
theorem dksJ15_init_0 : cJ15_init.data.toList.drop 0 = dktJ15_init_0 := by decide +kernel
theorem dksJ15_init_1 : cJ15_init.data.toList.drop 22 = dktJ15_init_1 := dk_seg dksJ15_init_0 22 rfl rfl
theorem dJ15_init_0 : decode cJ15_init 0 = .ok (.aload_n 0, 1) := dk_42 (dk_at dksJ15_init_0 0 rfl rfl)
theorem dJ15_init_1 : decode cJ15_init 1 = .ok (.invokespecial 21, 3) := dk_183 0 21 (dk_at dksJ15_init_0 1 rfl rfl)
theorem dJ15_init_4 : decode cJ15_init 4 = .ok (.aload_n 0, 1) := dk_42 (dk_at dksJ15_init_0 4 rfl rfl)
theorem dJ15_init_5 : decode cJ15_init 5 = .ok (.iconst 0, 1) := dk_3 (dk_at dksJ15_init_0 5 rfl rfl)
theorem dJ15_init_6 : decode cJ15_init 6 = .ok (.putfield 7, 3) := dk_181 0 7 (dk_at dksJ15_init_0 6 rfl rfl)
theorem dJ15_init_9 : decode cJ15_init 9 = .ok (.aload_n 0, 1) := dk_42 (dk_at dksJ15_init_0 9 rfl rfl)
theorem dJ15_init_10 : decode cJ15_init 10 = .ok (.iconst 0, 1) := dk_3 (dk_at dksJ15_init_0 10 rfl rfl)
theorem dJ15_init_11 : decode cJ15_init 11 = .ok (.putfield 24, 3) := dk_181 0 24 (dk_at dksJ15_init_0 11 rfl rfl)
theorem dJ15_init_14 : decode cJ15_init 14 = .ok (.aload_n 0, 1) := dk_42 (dk_at dksJ15_init_0 14 rfl rfl)
theorem dJ15_init_15 : decode cJ15_init 15 = .ok (.bipush 64, 2) := dk_16 64 (dk_at dksJ15_init_0 15 rfl rfl)
theorem dJ15_init_17 : decode cJ15_init 17 = .ok (.invokevirtual 27, 3) := dk_182 0 27 (dk_at dksJ15_init_0 17 rfl rfl)
theorem dJ15_init_20 : decode cJ15_init 20 = .ok (.aload_n 0, 1) := dk_42 (dk_at dksJ15_init_0 20 rfl rfl)
theorem dJ15_init_21 : decode cJ15_init 21 = .ok (.iconst 0, 1) := dk_3 (dk_at dksJ15_init_0 21 rfl rfl)
theorem dJ15_init_22 : decode cJ15_init 22 = .ok (.putfield 24, 3) := dk_181 0 24 (dk_at dksJ15_init_1 0 rfl rfl)
theorem dJ15_init_25 : decode cJ15_init 25 = .ok (.return_, 1) := dk_177 (dk_at dksJ15_init_1 3 rfl rfl)
abbrev cJ15_initWords : ByteArray := prog_54_method_6_code
def yJ15_initWords : MethodName := ⟨RJ15, "initWords", "(I)V"⟩
def dkwJ15_initWords_0 : List UInt8 := [42, 27, 4, 100, 184, 0, 52, 4, 96, 188, 11, 181, 0, 11, 177]
abbrev dktJ15_initWords_0 : List UInt8 := dkwJ15_initWords_0 ++ []
theorem dksJ15_initWords_0 : cJ15_initWords.data.toList.drop 0 = dktJ15_initWords_0 := by decide +kernel
theorem dJ15_initWords_0 : decode cJ15_initWords 0 = .ok (.aload_n 0, 1) := dk_42 (dk_at dksJ15_initWords_0 0 rfl rfl)
theorem dJ15_initWords_1 : decode cJ15_initWords 1 = .ok (.iload_n 1, 1) := dk_27 (dk_at dksJ15_initWords_0 1 rfl rfl)
theorem dJ15_initWords_2 : decode cJ15_initWords 2 = .ok (.iconst 1, 1) := dk_4 (dk_at dksJ15_initWords_0 2 rfl rfl)
theorem dJ15_initWords_3 : decode cJ15_initWords 3 = .ok (.isub, 1) := dk_100 (dk_at dksJ15_initWords_0 3 rfl rfl)
theorem dJ15_initWords_4 : decode cJ15_initWords 4 = .ok (.invokestatic 52, 3) := dk_184 0 52 (dk_at dksJ15_initWords_0 4 rfl rfl)
theorem dJ15_initWords_7 : decode cJ15_initWords 7 = .ok (.iconst 1, 1) := dk_4 (dk_at dksJ15_initWords_0 7 rfl rfl)
theorem dJ15_initWords_8 : decode cJ15_initWords 8 = .ok (.iadd, 1) := dk_96 (dk_at dksJ15_initWords_0 8 rfl rfl)
theorem dJ15_initWords_9 : decode cJ15_initWords 9 = .ok (.newarray .long, 2) := dk_188_11 (dk_at dksJ15_initWords_0 9 rfl rfl)
theorem dJ15_initWords_11 : decode cJ15_initWords 11 = .ok (.putfield 11, 3) := dk_181 0 11 (dk_at dksJ15_initWords_0 11 rfl rfl)
theorem dJ15_initWords_14 : decode cJ15_initWords 14 = .ok (.return_, 1) := dk_177 (dk_at dksJ15_initWords_0 14 rfl rfl)
abbrev cJ15_set : ByteArray := prog_54_method_19_code
def yJ15_set : MethodName := ⟨RJ15, "set", "(I)V"⟩
def dkwJ15_set_2 : List UInt8 := [10, 27, 121, 129, 80, 42, 182, 0, 56, 177]
abbrev dktJ15_set_2 : List UInt8 := dkwJ15_set_2 ++ []
def dkwJ15_set_1 : List UInt8 := [182, 0, 45, 183, 0, 146, 191, 27, 184, 0, 52, 61, 42, 28, 182, 0, 155, 42, 180, 0, 11, 28, 92, 47]
abbrev dktJ15_set_1 : List UInt8 := dkwJ15_set_1 ++ dktJ15_set_2
def dkwJ15_set_0 : List UInt8 := [27, 156, 0, 30, 187, 0, 142, 89, 187, 0, 33, 89, 183, 0, 35, 18, 153, 182, 0, 38, 27, 182, 0, 42]
abbrev dktJ15_set_0 : List UInt8 := dkwJ15_set_0 ++ dktJ15_set_1
theorem dksJ15_set_0 : cJ15_set.data.toList.drop 0 = dktJ15_set_0 := by decide +kernel
theorem dksJ15_set_1 : cJ15_set.data.toList.drop 24 = dktJ15_set_1 := dk_seg dksJ15_set_0 24 rfl rfl
theorem dksJ15_set_2 : cJ15_set.data.toList.drop 48 = dktJ15_set_2 := dk_seg dksJ15_set_1 24 rfl rfl
theorem dJ15_set_0 : decode cJ15_set 0 = .ok (.iload_n 1, 1) := dk_27 (dk_at dksJ15_set_0 0 rfl rfl)
theorem dJ15_set_1 : decode cJ15_set 1 = .ok (.ifCond .ge 30, 3) := dk_156 0 30 (dk_at dksJ15_set_0 1 rfl rfl)
theorem dJ15_set_4 : decode cJ15_set 4 = .ok (.new 142, 3) := dk_187 0 142 (dk_at dksJ15_set_0 4 rfl rfl)
theorem dJ15_set_7 : decode cJ15_set 7 = .ok (.dup, 1) := dk_89 (dk_at dksJ15_set_0 7 rfl rfl)
theorem dJ15_set_8 : decode cJ15_set 8 = .ok (.new 33, 3) := dk_187 0 33 (dk_at dksJ15_set_0 8 rfl rfl)
theorem dJ15_set_11 : decode cJ15_set 11 = .ok (.dup, 1) := dk_89 (dk_at dksJ15_set_0 11 rfl rfl)
theorem dJ15_set_12 : decode cJ15_set 12 = .ok (.invokespecial 35, 3) := dk_183 0 35 (dk_at dksJ15_set_0 12 rfl rfl)
theorem dJ15_set_15 : decode cJ15_set 15 = .ok (.ldc 153, 2) := dk_18 153 (dk_at dksJ15_set_0 15 rfl rfl)
theorem dJ15_set_17 : decode cJ15_set 17 = .ok (.invokevirtual 38, 3) := dk_182 0 38 (dk_at dksJ15_set_0 17 rfl rfl)
theorem dJ15_set_20 : decode cJ15_set 20 = .ok (.iload_n 1, 1) := dk_27 (dk_at dksJ15_set_0 20 rfl rfl)
theorem dJ15_set_21 : decode cJ15_set 21 = .ok (.invokevirtual 42, 3) := dk_182 0 42 (dk_at dksJ15_set_0 21 rfl rfl)
theorem dJ15_set_24 : decode cJ15_set 24 = .ok (.invokevirtual 45, 3) := dk_182 0 45 (dk_at dksJ15_set_1 0 rfl rfl)
theorem dJ15_set_27 : decode cJ15_set 27 = .ok (.invokespecial 146, 3) := dk_183 0 146 (dk_at dksJ15_set_1 3 rfl rfl)
theorem dJ15_set_30 : decode cJ15_set 30 = .ok (.athrow, 1) := dk_191 (dk_at dksJ15_set_1 6 rfl rfl)
theorem dJ15_set_31 : decode cJ15_set 31 = .ok (.iload_n 1, 1) := dk_27 (dk_at dksJ15_set_1 7 rfl rfl)
theorem dJ15_set_32 : decode cJ15_set 32 = .ok (.invokestatic 52, 3) := dk_184 0 52 (dk_at dksJ15_set_1 8 rfl rfl)
theorem dJ15_set_35 : decode cJ15_set 35 = .ok (.istore_n 2, 1) := dk_61 (dk_at dksJ15_set_1 11 rfl rfl)
theorem dJ15_set_36 : decode cJ15_set 36 = .ok (.aload_n 0, 1) := dk_42 (dk_at dksJ15_set_1 12 rfl rfl)
theorem dJ15_set_37 : decode cJ15_set 37 = .ok (.iload_n 2, 1) := dk_28 (dk_at dksJ15_set_1 13 rfl rfl)
theorem dJ15_set_38 : decode cJ15_set 38 = .ok (.invokevirtual 155, 3) := dk_182 0 155 (dk_at dksJ15_set_1 14 rfl rfl)
theorem dJ15_set_41 : decode cJ15_set 41 = .ok (.aload_n 0, 1) := dk_42 (dk_at dksJ15_set_1 17 rfl rfl)
theorem dJ15_set_42 : decode cJ15_set 42 = .ok (.getfield 11, 3) := dk_180 0 11 (dk_at dksJ15_set_1 18 rfl rfl)
theorem dJ15_set_45 : decode cJ15_set 45 = .ok (.iload_n 2, 1) := dk_28 (dk_at dksJ15_set_1 21 rfl rfl)
theorem dJ15_set_46 : decode cJ15_set 46 = .ok (.dup2, 1) := dk_92 (dk_at dksJ15_set_1 22 rfl rfl)
theorem dJ15_set_47 : decode cJ15_set 47 = .ok (.laload, 1) := dk_47 (dk_at dksJ15_set_1 23 rfl rfl)
theorem dJ15_set_48 : decode cJ15_set 48 = .ok (.lconst 1, 1) := dk_10 (dk_at dksJ15_set_2 0 rfl rfl)
theorem dJ15_set_49 : decode cJ15_set 49 = .ok (.iload_n 1, 1) := dk_27 (dk_at dksJ15_set_2 1 rfl rfl)
theorem dJ15_set_50 : decode cJ15_set 50 = .ok (.lshl, 1) := dk_121 (dk_at dksJ15_set_2 2 rfl rfl)
theorem dJ15_set_51 : decode cJ15_set 51 = .ok (.lor, 1) := dk_129 (dk_at dksJ15_set_2 3 rfl rfl)
theorem dJ15_set_52 : decode cJ15_set 52 = .ok (.lastore, 1) := dk_80 (dk_at dksJ15_set_2 4 rfl rfl)
theorem dJ15_set_53 : decode cJ15_set 53 = .ok (.aload_n 0, 1) := dk_42 (dk_at dksJ15_set_2 5 rfl rfl)
theorem dJ15_set_54 : decode cJ15_set 54 = .ok (.invokevirtual 56, 3) := dk_182 0 56 (dk_at dksJ15_set_2 6 rfl rfl)
theorem dJ15_set_57 : decode cJ15_set 57 = .ok (.return_, 1) := dk_177 (dk_at dksJ15_set_2 9 rfl rfl)
abbrev cJ15_expandTo : ByteArray := prog_54_method_15_code
def yJ15_expandTo : MethodName := ⟨RJ15, "expandTo", "(I)V"⟩
def dkwJ15_expandTo_0 : List UInt8 := [27, 4, 96, 61, 42, 180, 0, 7, 28, 162, 0, 13, 42, 28, 182, 0, 139, 42, 28, 181, 0, 7, 177]
abbrev dktJ15_expandTo_0 : List UInt8 := dkwJ15_expandTo_0 ++ []
theorem dksJ15_expandTo_0 : cJ15_expandTo.data.toList.drop 0 = dktJ15_expandTo_0 := by decide +kernel
theorem dJ15_expandTo_0 : decode cJ15_expandTo 0 = .ok (.iload_n 1, 1) := dk_27 (dk_at dksJ15_expandTo_0 0 rfl rfl)
theorem dJ15_expandTo_1 : decode cJ15_expandTo 1 = .ok (.iconst 1, 1) := dk_4 (dk_at dksJ15_expandTo_0 1 rfl rfl)
theorem dJ15_expandTo_2 : decode cJ15_expandTo 2 = .ok (.iadd, 1) := dk_96 (dk_at dksJ15_expandTo_0 2 rfl rfl)
theorem dJ15_expandTo_3 : decode cJ15_expandTo 3 = .ok (.istore_n 2, 1) := dk_61 (dk_at dksJ15_expandTo_0 3 rfl rfl)
theorem dJ15_expandTo_4 : decode cJ15_expandTo 4 = .ok (.aload_n 0, 1) := dk_42 (dk_at dksJ15_expandTo_0 4 rfl rfl)
theorem dJ15_expandTo_5 : decode cJ15_expandTo 5 = .ok (.getfield 7, 3) := dk_180 0 7 (dk_at dksJ15_expandTo_0 5 rfl rfl)
theorem dJ15_expandTo_8 : decode cJ15_expandTo 8 = .ok (.iload_n 2, 1) := dk_28 (dk_at dksJ15_expandTo_0 8 rfl rfl)
theorem dJ15_expandTo_9 : decode cJ15_expandTo 9 = .ok (.if_icmp .ge 13, 3) := dk_162 0 13 (dk_at dksJ15_expandTo_0 9 rfl rfl)
theorem dJ15_expandTo_12 : decode cJ15_expandTo 12 = .ok (.aload_n 0, 1) := dk_42 (dk_at dksJ15_expandTo_0 12 rfl rfl)
theorem dJ15_expandTo_13 : decode cJ15_expandTo 13 = .ok (.iload_n 2, 1) := dk_28 (dk_at dksJ15_expandTo_0 13 rfl rfl)
theorem dJ15_expandTo_14 : decode cJ15_expandTo 14 = .ok (.invokevirtual 139, 3) := dk_182 0 139 (dk_at dksJ15_expandTo_0 14 rfl rfl)
theorem dJ15_expandTo_17 : decode cJ15_expandTo 17 = .ok (.aload_n 0, 1) := dk_42 (dk_at dksJ15_expandTo_0 17 rfl rfl)
theorem dJ15_expandTo_18 : decode cJ15_expandTo 18 = .ok (.iload_n 2, 1) := dk_28 (dk_at dksJ15_expandTo_0 18 rfl rfl)
theorem dJ15_expandTo_19 : decode cJ15_expandTo 19 = .ok (.putfield 7, 3) := dk_181 0 7 (dk_at dksJ15_expandTo_0 19 rfl rfl)
theorem dJ15_expandTo_22 : decode cJ15_expandTo 22 = .ok (.return_, 1) := dk_177 (dk_at dksJ15_expandTo_0 22 rfl rfl)
abbrev cJ15_ensureCapacity : ByteArray := prog_54_method_14_code
def yJ15_ensureCapacity : MethodName := ⟨RJ15, "ensureCapacity", "(I)V"⟩
def dkwJ15_ensureCapacity_1 : List UInt8 := [180, 0, 11, 28, 184, 0, 59, 181, 0, 11, 42, 3, 181, 0, 24, 177]
abbrev dktJ15_ensureCapacity_1 : List UInt8 := dkwJ15_ensureCapacity_1 ++ []
def dkwJ15_ensureCapacity_0 : List UInt8 := [42, 180, 0, 11, 190, 27, 162, 0, 32, 5, 42, 180, 0, 11, 190, 104, 27, 184, 0, 133, 61, 42, 42]
abbrev dktJ15_ensureCapacity_0 : List UInt8 := dkwJ15_ensureCapacity_0 ++ dktJ15_ensureCapacity_1
theorem dksJ15_ensureCapacity_0 : cJ15_ensureCapacity.data.toList.drop 0 = dktJ15_ensureCapacity_0 := by decide +kernel
theorem dksJ15_ensureCapacity_1 : cJ15_ensureCapacity.data.toList.drop 23 = dktJ15_ensureCapacity_1 := dk_seg dksJ15_ensureCapacity_0 23 rfl rfl
theorem dJ15_ensureCapacity_0 : decode cJ15_ensureCapacity 0 = .ok (.aload_n 0, 1) := dk_42 (dk_at dksJ15_ensureCapacity_0 0 rfl rfl)
theorem dJ15_ensureCapacity_1 : decode cJ15_ensureCapacity 1 = .ok (.getfield 11, 3) := dk_180 0 11 (dk_at dksJ15_ensureCapacity_0 1 rfl rfl)
theorem dJ15_ensureCapacity_4 : decode cJ15_ensureCapacity 4 = .ok (.arraylength, 1) := dk_190 (dk_at dksJ15_ensureCapacity_0 4 rfl rfl)
theorem dJ15_ensureCapacity_5 : decode cJ15_ensureCapacity 5 = .ok (.iload_n 1, 1) := dk_27 (dk_at dksJ15_ensureCapacity_0 5 rfl rfl)
theorem dJ15_ensureCapacity_6 : decode cJ15_ensureCapacity 6 = .ok (.if_icmp .ge 32, 3) := dk_162 0 32 (dk_at dksJ15_ensureCapacity_0 6 rfl rfl)
theorem dJ15_ensureCapacity_9 : decode cJ15_ensureCapacity 9 = .ok (.iconst 2, 1) := dk_5 (dk_at dksJ15_ensureCapacity_0 9 rfl rfl)
theorem dJ15_ensureCapacity_10 : decode cJ15_ensureCapacity 10 = .ok (.aload_n 0, 1) := dk_42 (dk_at dksJ15_ensureCapacity_0 10 rfl rfl)
theorem dJ15_ensureCapacity_11 : decode cJ15_ensureCapacity 11 = .ok (.getfield 11, 3) := dk_180 0 11 (dk_at dksJ15_ensureCapacity_0 11 rfl rfl)
theorem dJ15_ensureCapacity_14 : decode cJ15_ensureCapacity 14 = .ok (.arraylength, 1) := dk_190 (dk_at dksJ15_ensureCapacity_0 14 rfl rfl)
theorem dJ15_ensureCapacity_15 : decode cJ15_ensureCapacity 15 = .ok (.imul, 1) := dk_104 (dk_at dksJ15_ensureCapacity_0 15 rfl rfl)
theorem dJ15_ensureCapacity_16 : decode cJ15_ensureCapacity 16 = .ok (.iload_n 1, 1) := dk_27 (dk_at dksJ15_ensureCapacity_0 16 rfl rfl)
theorem dJ15_ensureCapacity_17 : decode cJ15_ensureCapacity 17 = .ok (.invokestatic 133, 3) := dk_184 0 133 (dk_at dksJ15_ensureCapacity_0 17 rfl rfl)
theorem dJ15_ensureCapacity_20 : decode cJ15_ensureCapacity 20 = .ok (.istore_n 2, 1) := dk_61 (dk_at dksJ15_ensureCapacity_0 20 rfl rfl)
theorem dJ15_ensureCapacity_21 : decode cJ15_ensureCapacity 21 = .ok (.aload_n 0, 1) := dk_42 (dk_at dksJ15_ensureCapacity_0 21 rfl rfl)
theorem dJ15_ensureCapacity_22 : decode cJ15_ensureCapacity 22 = .ok (.aload_n 0, 1) := dk_42 (dk_at dksJ15_ensureCapacity_0 22 rfl rfl)
theorem dJ15_ensureCapacity_23 : decode cJ15_ensureCapacity 23 = .ok (.getfield 11, 3) := dk_180 0 11 (dk_at dksJ15_ensureCapacity_1 0 rfl rfl)
theorem dJ15_ensureCapacity_26 : decode cJ15_ensureCapacity 26 = .ok (.iload_n 2, 1) := dk_28 (dk_at dksJ15_ensureCapacity_1 3 rfl rfl)
theorem dJ15_ensureCapacity_27 : decode cJ15_ensureCapacity 27 = .ok (.invokestatic 59, 3) := dk_184 0 59 (dk_at dksJ15_ensureCapacity_1 4 rfl rfl)
theorem dJ15_ensureCapacity_30 : decode cJ15_ensureCapacity 30 = .ok (.putfield 11, 3) := dk_181 0 11 (dk_at dksJ15_ensureCapacity_1 7 rfl rfl)
theorem dJ15_ensureCapacity_33 : decode cJ15_ensureCapacity 33 = .ok (.aload_n 0, 1) := dk_42 (dk_at dksJ15_ensureCapacity_1 10 rfl rfl)
theorem dJ15_ensureCapacity_34 : decode cJ15_ensureCapacity 34 = .ok (.iconst 0, 1) := dk_3 (dk_at dksJ15_ensureCapacity_1 11 rfl rfl)
theorem dJ15_ensureCapacity_35 : decode cJ15_ensureCapacity 35 = .ok (.putfield 24, 3) := dk_181 0 24 (dk_at dksJ15_ensureCapacity_1 12 rfl rfl)
theorem dJ15_ensureCapacity_38 : decode cJ15_ensureCapacity 38 = .ok (.return_, 1) := dk_177 (dk_at dksJ15_ensureCapacity_1 15 rfl rfl)
abbrev cJ15_clear : ByteArray := prog_54_method_23_code
def yJ15_clear : MethodName := ⟨RJ15, "clear", "(I)V"⟩
def dkwJ15_clear_2 : List UInt8 := [180, 0, 11, 28, 92, 47, 10, 27, 121, 20, 0, 165, 131, 127, 80, 42, 182, 0, 158, 42, 182, 0, 56, 177]
abbrev dktJ15_clear_2 : List UInt8 := dkwJ15_clear_2 ++ []
def dkwJ15_clear_1 : List UInt8 := [182, 0, 45, 183, 0, 146, 191, 27, 184, 0, 52, 61, 28, 42, 180, 0, 7, 161, 0, 4, 177, 42]
abbrev dktJ15_clear_1 : List UInt8 := dkwJ15_clear_1 ++ dktJ15_clear_2
def dkwJ15_clear_0 : List UInt8 := [27, 156, 0, 30, 187, 0, 142, 89, 187, 0, 33, 89, 183, 0, 35, 18, 153, 182, 0, 38, 27, 182, 0, 42]
abbrev dktJ15_clear_0 : List UInt8 := dkwJ15_clear_0 ++ dktJ15_clear_1
theorem dksJ15_clear_0 : cJ15_clear.data.toList.drop 0 = dktJ15_clear_0 := by decide +kernel
theorem dksJ15_clear_1 : cJ15_clear.data.toList.drop 24 = dktJ15_clear_1 := dk_seg dksJ15_clear_0 24 rfl rfl
theorem dksJ15_clear_2 : cJ15_clear.data.toList.drop 46 = dktJ15_clear_2 := dk_seg dksJ15_clear_1 22 rfl rfl
theorem dJ15_clear_0 : decode cJ15_clear 0 = .ok (.iload_n 1, 1) := dk_27 (dk_at dksJ15_clear_0 0 rfl rfl)
theorem dJ15_clear_1 : decode cJ15_clear 1 = .ok (.ifCond .ge 30, 3) := dk_156 0 30 (dk_at dksJ15_clear_0 1 rfl rfl)
theorem dJ15_clear_4 : decode cJ15_clear 4 = .ok (.new 142, 3) := dk_187 0 142 (dk_at dksJ15_clear_0 4 rfl rfl)
theorem dJ15_clear_7 : decode cJ15_clear 7 = .ok (.dup, 1) := dk_89 (dk_at dksJ15_clear_0 7 rfl rfl)
theorem dJ15_clear_8 : decode cJ15_clear 8 = .ok (.new 33, 3) := dk_187 0 33 (dk_at dksJ15_clear_0 8 rfl rfl)
theorem dJ15_clear_11 : decode cJ15_clear 11 = .ok (.dup, 1) := dk_89 (dk_at dksJ15_clear_0 11 rfl rfl)
theorem dJ15_clear_12 : decode cJ15_clear 12 = .ok (.invokespecial 35, 3) := dk_183 0 35 (dk_at dksJ15_clear_0 12 rfl rfl)
theorem dJ15_clear_15 : decode cJ15_clear 15 = .ok (.ldc 153, 2) := dk_18 153 (dk_at dksJ15_clear_0 15 rfl rfl)
theorem dJ15_clear_17 : decode cJ15_clear 17 = .ok (.invokevirtual 38, 3) := dk_182 0 38 (dk_at dksJ15_clear_0 17 rfl rfl)
theorem dJ15_clear_20 : decode cJ15_clear 20 = .ok (.iload_n 1, 1) := dk_27 (dk_at dksJ15_clear_0 20 rfl rfl)
theorem dJ15_clear_21 : decode cJ15_clear 21 = .ok (.invokevirtual 42, 3) := dk_182 0 42 (dk_at dksJ15_clear_0 21 rfl rfl)
theorem dJ15_clear_24 : decode cJ15_clear 24 = .ok (.invokevirtual 45, 3) := dk_182 0 45 (dk_at dksJ15_clear_1 0 rfl rfl)
theorem dJ15_clear_27 : decode cJ15_clear 27 = .ok (.invokespecial 146, 3) := dk_183 0 146 (dk_at dksJ15_clear_1 3 rfl rfl)
theorem dJ15_clear_30 : decode cJ15_clear 30 = .ok (.athrow, 1) := dk_191 (dk_at dksJ15_clear_1 6 rfl rfl)
theorem dJ15_clear_31 : decode cJ15_clear 31 = .ok (.iload_n 1, 1) := dk_27 (dk_at dksJ15_clear_1 7 rfl rfl)
theorem dJ15_clear_32 : decode cJ15_clear 32 = .ok (.invokestatic 52, 3) := dk_184 0 52 (dk_at dksJ15_clear_1 8 rfl rfl)
theorem dJ15_clear_35 : decode cJ15_clear 35 = .ok (.istore_n 2, 1) := dk_61 (dk_at dksJ15_clear_1 11 rfl rfl)
theorem dJ15_clear_36 : decode cJ15_clear 36 = .ok (.iload_n 2, 1) := dk_28 (dk_at dksJ15_clear_1 12 rfl rfl)
theorem dJ15_clear_37 : decode cJ15_clear 37 = .ok (.aload_n 0, 1) := dk_42 (dk_at dksJ15_clear_1 13 rfl rfl)
theorem dJ15_clear_38 : decode cJ15_clear 38 = .ok (.getfield 7, 3) := dk_180 0 7 (dk_at dksJ15_clear_1 14 rfl rfl)
theorem dJ15_clear_41 : decode cJ15_clear 41 = .ok (.if_icmp .lt 4, 3) := dk_161 0 4 (dk_at dksJ15_clear_1 17 rfl rfl)
theorem dJ15_clear_44 : decode cJ15_clear 44 = .ok (.return_, 1) := dk_177 (dk_at dksJ15_clear_1 20 rfl rfl)
theorem dJ15_clear_45 : decode cJ15_clear 45 = .ok (.aload_n 0, 1) := dk_42 (dk_at dksJ15_clear_1 21 rfl rfl)
theorem dJ15_clear_46 : decode cJ15_clear 46 = .ok (.getfield 11, 3) := dk_180 0 11 (dk_at dksJ15_clear_2 0 rfl rfl)
theorem dJ15_clear_49 : decode cJ15_clear 49 = .ok (.iload_n 2, 1) := dk_28 (dk_at dksJ15_clear_2 3 rfl rfl)
theorem dJ15_clear_50 : decode cJ15_clear 50 = .ok (.dup2, 1) := dk_92 (dk_at dksJ15_clear_2 4 rfl rfl)
theorem dJ15_clear_51 : decode cJ15_clear 51 = .ok (.laload, 1) := dk_47 (dk_at dksJ15_clear_2 5 rfl rfl)
theorem dJ15_clear_52 : decode cJ15_clear 52 = .ok (.lconst 1, 1) := dk_10 (dk_at dksJ15_clear_2 6 rfl rfl)
theorem dJ15_clear_53 : decode cJ15_clear 53 = .ok (.iload_n 1, 1) := dk_27 (dk_at dksJ15_clear_2 7 rfl rfl)
theorem dJ15_clear_54 : decode cJ15_clear 54 = .ok (.lshl, 1) := dk_121 (dk_at dksJ15_clear_2 8 rfl rfl)
theorem dJ15_clear_55 : decode cJ15_clear 55 = .ok (.ldc2_w 165, 3) := dk_20 0 165 (dk_at dksJ15_clear_2 9 rfl rfl)
theorem dJ15_clear_58 : decode cJ15_clear 58 = .ok (.lxor, 1) := dk_131 (dk_at dksJ15_clear_2 12 rfl rfl)
theorem dJ15_clear_59 : decode cJ15_clear 59 = .ok (.land, 1) := dk_127 (dk_at dksJ15_clear_2 13 rfl rfl)
theorem dJ15_clear_60 : decode cJ15_clear 60 = .ok (.lastore, 1) := dk_80 (dk_at dksJ15_clear_2 14 rfl rfl)
theorem dJ15_clear_61 : decode cJ15_clear 61 = .ok (.aload_n 0, 1) := dk_42 (dk_at dksJ15_clear_2 15 rfl rfl)
theorem dJ15_clear_62 : decode cJ15_clear 62 = .ok (.invokevirtual 158, 3) := dk_182 0 158 (dk_at dksJ15_clear_2 16 rfl rfl)
theorem dJ15_clear_65 : decode cJ15_clear 65 = .ok (.aload_n 0, 1) := dk_42 (dk_at dksJ15_clear_2 19 rfl rfl)
theorem dJ15_clear_66 : decode cJ15_clear 66 = .ok (.invokevirtual 56, 3) := dk_182 0 56 (dk_at dksJ15_clear_2 20 rfl rfl)
theorem dJ15_clear_69 : decode cJ15_clear 69 = .ok (.return_, 1) := dk_177 (dk_at dksJ15_clear_2 23 rfl rfl)
abbrev cJ15_recalculateWordsInUse : ByteArray := prog_54_method_3_code
def yJ15_recalculateWordsInUse : MethodName := ⟨RJ15, "recalculateWordsInUse", "()V"⟩
def dkwJ15_recalculateWordsInUse_1 : List UInt8 := [167, 0, 9, 132, 1, 255, 167, 255, 235, 42, 27, 4, 96, 181, 0, 7, 177]
abbrev dktJ15_recalculateWordsInUse_1 : List UInt8 := dkwJ15_recalculateWordsInUse_1 ++ []
def dkwJ15_recalculateWordsInUse_0 : List UInt8 := [42, 180, 0, 7, 4, 100, 60, 27, 155, 0, 23, 42, 180, 0, 11, 27, 47, 9, 148, 153, 0, 6]
abbrev dktJ15_recalculateWordsInUse_0 : List UInt8 := dkwJ15_recalculateWordsInUse_0 ++ dktJ15_recalculateWordsInUse_1
theorem dksJ15_recalculateWordsInUse_0 : cJ15_recalculateWordsInUse.data.toList.drop 0 = dktJ15_recalculateWordsInUse_0 := by decide +kernel
theorem dksJ15_recalculateWordsInUse_1 : cJ15_recalculateWordsInUse.data.toList.drop 22 = dktJ15_recalculateWordsInUse_1 := dk_seg dksJ15_recalculateWordsInUse_0 22 rfl rfl
theorem dJ15_recalculateWordsInUse_0 : decode cJ15_recalculateWordsInUse 0 = .ok (.aload_n 0, 1) := dk_42 (dk_at dksJ15_recalculateWordsInUse_0 0 rfl rfl)
theorem dJ15_recalculateWordsInUse_1 : decode cJ15_recalculateWordsInUse 1 = .ok (.getfield 7, 3) := dk_180 0 7 (dk_at dksJ15_recalculateWordsInUse_0 1 rfl rfl)
theorem dJ15_recalculateWordsInUse_4 : decode cJ15_recalculateWordsInUse 4 = .ok (.iconst 1, 1) := dk_4 (dk_at dksJ15_recalculateWordsInUse_0 4 rfl rfl)
theorem dJ15_recalculateWordsInUse_5 : decode cJ15_recalculateWordsInUse 5 = .ok (.isub, 1) := dk_100 (dk_at dksJ15_recalculateWordsInUse_0 5 rfl rfl)
theorem dJ15_recalculateWordsInUse_6 : decode cJ15_recalculateWordsInUse 6 = .ok (.istore_n 1, 1) := dk_60 (dk_at dksJ15_recalculateWordsInUse_0 6 rfl rfl)
theorem dJ15_recalculateWordsInUse_7 : decode cJ15_recalculateWordsInUse 7 = .ok (.iload_n 1, 1) := dk_27 (dk_at dksJ15_recalculateWordsInUse_0 7 rfl rfl)
theorem dJ15_recalculateWordsInUse_8 : decode cJ15_recalculateWordsInUse 8 = .ok (.ifCond .lt 23, 3) := dk_155 0 23 (dk_at dksJ15_recalculateWordsInUse_0 8 rfl rfl)
theorem dJ15_recalculateWordsInUse_11 : decode cJ15_recalculateWordsInUse 11 = .ok (.aload_n 0, 1) := dk_42 (dk_at dksJ15_recalculateWordsInUse_0 11 rfl rfl)
theorem dJ15_recalculateWordsInUse_12 : decode cJ15_recalculateWordsInUse 12 = .ok (.getfield 11, 3) := dk_180 0 11 (dk_at dksJ15_recalculateWordsInUse_0 12 rfl rfl)
theorem dJ15_recalculateWordsInUse_15 : decode cJ15_recalculateWordsInUse 15 = .ok (.iload_n 1, 1) := dk_27 (dk_at dksJ15_recalculateWordsInUse_0 15 rfl rfl)
theorem dJ15_recalculateWordsInUse_16 : decode cJ15_recalculateWordsInUse 16 = .ok (.laload, 1) := dk_47 (dk_at dksJ15_recalculateWordsInUse_0 16 rfl rfl)
theorem dJ15_recalculateWordsInUse_17 : decode cJ15_recalculateWordsInUse 17 = .ok (.lconst 0, 1) := dk_9 (dk_at dksJ15_recalculateWordsInUse_0 17 rfl rfl)
theorem dJ15_recalculateWordsInUse_18 : decode cJ15_recalculateWordsInUse 18 = .ok (.lcmp, 1) := dk_148 (dk_at dksJ15_recalculateWordsInUse_0 18 rfl rfl)
theorem dJ15_recalculateWordsInUse_19 : decode cJ15_recalculateWordsInUse 19 = .ok (.ifCond .eq 6, 3) := dk_153 0 6 (dk_at dksJ15_recalculateWordsInUse_0 19 rfl rfl)
theorem dJ15_recalculateWordsInUse_22 : decode cJ15_recalculateWordsInUse 22 = .ok (.goto 9, 3) := dk_167 0 9 (dk_at dksJ15_recalculateWordsInUse_1 0 rfl rfl)
theorem dJ15_recalculateWordsInUse_25 : decode cJ15_recalculateWordsInUse 25 = .ok (.iinc 1 (-1), 3) := dk_132 1 255 (dk_at dksJ15_recalculateWordsInUse_1 3 rfl rfl)
theorem dJ15_recalculateWordsInUse_28 : decode cJ15_recalculateWordsInUse 28 = .ok (.goto (-21), 3) := dk_167 255 235 (dk_at dksJ15_recalculateWordsInUse_1 6 rfl rfl)
theorem dJ15_recalculateWordsInUse_31 : decode cJ15_recalculateWordsInUse 31 = .ok (.aload_n 0, 1) := dk_42 (dk_at dksJ15_recalculateWordsInUse_1 9 rfl rfl)
theorem dJ15_recalculateWordsInUse_32 : decode cJ15_recalculateWordsInUse 32 = .ok (.iload_n 1, 1) := dk_27 (dk_at dksJ15_recalculateWordsInUse_1 10 rfl rfl)
theorem dJ15_recalculateWordsInUse_33 : decode cJ15_recalculateWordsInUse 33 = .ok (.iconst 1, 1) := dk_4 (dk_at dksJ15_recalculateWordsInUse_1 11 rfl rfl)
theorem dJ15_recalculateWordsInUse_34 : decode cJ15_recalculateWordsInUse 34 = .ok (.iadd, 1) := dk_96 (dk_at dksJ15_recalculateWordsInUse_1 12 rfl rfl)
theorem dJ15_recalculateWordsInUse_35 : decode cJ15_recalculateWordsInUse 35 = .ok (.putfield 7, 3) := dk_181 0 7 (dk_at dksJ15_recalculateWordsInUse_1 13 rfl rfl)
theorem dJ15_recalculateWordsInUse_38 : decode cJ15_recalculateWordsInUse 38 = .ok (.return_, 1) := dk_177 (dk_at dksJ15_recalculateWordsInUse_1 16 rfl rfl)
abbrev cJ15_get : ByteArray := prog_54_method_26_code
def yJ15_get : MethodName := ⟨RJ15, "get", "(I)Z"⟩
def dkwJ15_get_2 : List UInt8 := [42, 180, 0, 11, 28, 47, 10, 27, 121, 127, 9, 148, 153, 0, 7, 4, 167, 0, 4, 3, 172]
abbrev dktJ15_get_2 : List UInt8 := dkwJ15_get_2 ++ []
def dkwJ15_get_1 : List UInt8 := [182, 0, 45, 183, 0, 146, 191, 42, 182, 0, 56, 27, 184, 0, 52, 61, 28, 42, 180, 0, 7, 162, 0, 22]
abbrev dktJ15_get_1 : List UInt8 := dkwJ15_get_1 ++ dktJ15_get_2
def dkwJ15_get_0 : List UInt8 := [27, 156, 0, 30, 187, 0, 142, 89, 187, 0, 33, 89, 183, 0, 35, 18, 153, 182, 0, 38, 27, 182, 0, 42]
abbrev dktJ15_get_0 : List UInt8 := dkwJ15_get_0 ++ dktJ15_get_1
theorem dksJ15_get_0 : cJ15_get.data.toList.drop 0 = dktJ15_get_0 := by decide +kernel
theorem dksJ15_get_1 : cJ15_get.data.toList.drop 24 = dktJ15_get_1 := dk_seg dksJ15_get_0 24 rfl rfl
theorem dksJ15_get_2 : cJ15_get.data.toList.drop 48 = dktJ15_get_2 := dk_seg dksJ15_get_1 24 rfl rfl
theorem dJ15_get_0 : decode cJ15_get 0 = .ok (.iload_n 1, 1) := dk_27 (dk_at dksJ15_get_0 0 rfl rfl)
theorem dJ15_get_1 : decode cJ15_get 1 = .ok (.ifCond .ge 30, 3) := dk_156 0 30 (dk_at dksJ15_get_0 1 rfl rfl)
theorem dJ15_get_4 : decode cJ15_get 4 = .ok (.new 142, 3) := dk_187 0 142 (dk_at dksJ15_get_0 4 rfl rfl)
theorem dJ15_get_7 : decode cJ15_get 7 = .ok (.dup, 1) := dk_89 (dk_at dksJ15_get_0 7 rfl rfl)
theorem dJ15_get_8 : decode cJ15_get 8 = .ok (.new 33, 3) := dk_187 0 33 (dk_at dksJ15_get_0 8 rfl rfl)
theorem dJ15_get_11 : decode cJ15_get 11 = .ok (.dup, 1) := dk_89 (dk_at dksJ15_get_0 11 rfl rfl)
theorem dJ15_get_12 : decode cJ15_get 12 = .ok (.invokespecial 35, 3) := dk_183 0 35 (dk_at dksJ15_get_0 12 rfl rfl)
theorem dJ15_get_15 : decode cJ15_get 15 = .ok (.ldc 153, 2) := dk_18 153 (dk_at dksJ15_get_0 15 rfl rfl)
theorem dJ15_get_17 : decode cJ15_get 17 = .ok (.invokevirtual 38, 3) := dk_182 0 38 (dk_at dksJ15_get_0 17 rfl rfl)
theorem dJ15_get_20 : decode cJ15_get 20 = .ok (.iload_n 1, 1) := dk_27 (dk_at dksJ15_get_0 20 rfl rfl)
theorem dJ15_get_21 : decode cJ15_get 21 = .ok (.invokevirtual 42, 3) := dk_182 0 42 (dk_at dksJ15_get_0 21 rfl rfl)
theorem dJ15_get_24 : decode cJ15_get 24 = .ok (.invokevirtual 45, 3) := dk_182 0 45 (dk_at dksJ15_get_1 0 rfl rfl)
theorem dJ15_get_27 : decode cJ15_get 27 = .ok (.invokespecial 146, 3) := dk_183 0 146 (dk_at dksJ15_get_1 3 rfl rfl)
theorem dJ15_get_30 : decode cJ15_get 30 = .ok (.athrow, 1) := dk_191 (dk_at dksJ15_get_1 6 rfl rfl)
theorem dJ15_get_31 : decode cJ15_get 31 = .ok (.aload_n 0, 1) := dk_42 (dk_at dksJ15_get_1 7 rfl rfl)
theorem dJ15_get_32 : decode cJ15_get 32 = .ok (.invokevirtual 56, 3) := dk_182 0 56 (dk_at dksJ15_get_1 8 rfl rfl)
theorem dJ15_get_35 : decode cJ15_get 35 = .ok (.iload_n 1, 1) := dk_27 (dk_at dksJ15_get_1 11 rfl rfl)
theorem dJ15_get_36 : decode cJ15_get 36 = .ok (.invokestatic 52, 3) := dk_184 0 52 (dk_at dksJ15_get_1 12 rfl rfl)
theorem dJ15_get_39 : decode cJ15_get 39 = .ok (.istore_n 2, 1) := dk_61 (dk_at dksJ15_get_1 15 rfl rfl)
theorem dJ15_get_40 : decode cJ15_get 40 = .ok (.iload_n 2, 1) := dk_28 (dk_at dksJ15_get_1 16 rfl rfl)
theorem dJ15_get_41 : decode cJ15_get 41 = .ok (.aload_n 0, 1) := dk_42 (dk_at dksJ15_get_1 17 rfl rfl)
theorem dJ15_get_42 : decode cJ15_get 42 = .ok (.getfield 7, 3) := dk_180 0 7 (dk_at dksJ15_get_1 18 rfl rfl)
theorem dJ15_get_45 : decode cJ15_get 45 = .ok (.if_icmp .ge 22, 3) := dk_162 0 22 (dk_at dksJ15_get_1 21 rfl rfl)
theorem dJ15_get_48 : decode cJ15_get 48 = .ok (.aload_n 0, 1) := dk_42 (dk_at dksJ15_get_2 0 rfl rfl)
theorem dJ15_get_49 : decode cJ15_get 49 = .ok (.getfield 11, 3) := dk_180 0 11 (dk_at dksJ15_get_2 1 rfl rfl)
theorem dJ15_get_52 : decode cJ15_get 52 = .ok (.iload_n 2, 1) := dk_28 (dk_at dksJ15_get_2 4 rfl rfl)
theorem dJ15_get_53 : decode cJ15_get 53 = .ok (.laload, 1) := dk_47 (dk_at dksJ15_get_2 5 rfl rfl)
theorem dJ15_get_54 : decode cJ15_get 54 = .ok (.lconst 1, 1) := dk_10 (dk_at dksJ15_get_2 6 rfl rfl)
theorem dJ15_get_55 : decode cJ15_get 55 = .ok (.iload_n 1, 1) := dk_27 (dk_at dksJ15_get_2 7 rfl rfl)
theorem dJ15_get_56 : decode cJ15_get 56 = .ok (.lshl, 1) := dk_121 (dk_at dksJ15_get_2 8 rfl rfl)
theorem dJ15_get_57 : decode cJ15_get 57 = .ok (.land, 1) := dk_127 (dk_at dksJ15_get_2 9 rfl rfl)
theorem dJ15_get_58 : decode cJ15_get 58 = .ok (.lconst 0, 1) := dk_9 (dk_at dksJ15_get_2 10 rfl rfl)
theorem dJ15_get_59 : decode cJ15_get 59 = .ok (.lcmp, 1) := dk_148 (dk_at dksJ15_get_2 11 rfl rfl)
theorem dJ15_get_60 : decode cJ15_get 60 = .ok (.ifCond .eq 7, 3) := dk_153 0 7 (dk_at dksJ15_get_2 12 rfl rfl)
theorem dJ15_get_63 : decode cJ15_get 63 = .ok (.iconst 1, 1) := dk_4 (dk_at dksJ15_get_2 15 rfl rfl)
theorem dJ15_get_64 : decode cJ15_get 64 = .ok (.goto 4, 3) := dk_167 0 4 (dk_at dksJ15_get_2 16 rfl rfl)
theorem dJ15_get_67 : decode cJ15_get 67 = .ok (.iconst 0, 1) := dk_3 (dk_at dksJ15_get_2 19 rfl rfl)
theorem dJ15_get_68 : decode cJ15_get 68 = .ok (.ireturn, 1) := dk_172 (dk_at dksJ15_get_2 20 rfl rfl)
abbrev cJ15_nextClearBit : ByteArray := prog_54_method_29_code
def yJ15_nextClearBit : MethodName := ⟨RJ15, "nextClearBit", "(I)I"⟩
def dkwJ15_nextClearBit_4 : List UInt8 := [42, 180, 0, 7, 16, 64, 104, 172, 42, 180, 0, 11, 28, 47, 20, 0, 165, 131, 66, 167, 255, 210]
abbrev dktJ15_nextClearBit_4 : List UInt8 := dkwJ15_nextClearBit_4 ++ []
def dkwJ15_nextClearBit_3 : List UInt8 := [153, 0, 13, 28, 16, 64, 104, 33, 184, 0, 182, 96, 172, 132, 2, 1, 28, 42, 180, 0, 7, 160, 0, 11]
abbrev dktJ15_nextClearBit_3 : List UInt8 := dkwJ15_nextClearBit_3 ++ dktJ15_nextClearBit_4
def dkwJ15_nextClearBit_2 : List UInt8 := [27, 172, 42, 180, 0, 11, 28, 47, 20, 0, 165, 131, 20, 0, 165, 27, 121, 127, 66, 33, 9, 148]
abbrev dktJ15_nextClearBit_2 : List UInt8 := dkwJ15_nextClearBit_2 ++ dktJ15_nextClearBit_3
def dkwJ15_nextClearBit_1 : List UInt8 := [182, 0, 45, 183, 0, 146, 191, 42, 182, 0, 56, 27, 184, 0, 52, 61, 28, 42, 180, 0, 7, 161, 0, 5]
abbrev dktJ15_nextClearBit_1 : List UInt8 := dkwJ15_nextClearBit_1 ++ dktJ15_nextClearBit_2
def dkwJ15_nextClearBit_0 : List UInt8 := [27, 156, 0, 30, 187, 0, 142, 89, 187, 0, 33, 89, 183, 0, 35, 18, 144, 182, 0, 38, 27, 182, 0, 42]
abbrev dktJ15_nextClearBit_0 : List UInt8 := dkwJ15_nextClearBit_0 ++ dktJ15_nextClearBit_1
theorem dksJ15_nextClearBit_0 : cJ15_nextClearBit.data.toList.drop 0 = dktJ15_nextClearBit_0 := by decide +kernel
theorem dksJ15_nextClearBit_1 : cJ15_nextClearBit.data.toList.drop 24 = dktJ15_nextClearBit_1 := dk_seg dksJ15_nextClearBit_0 24 rfl rfl
theorem dksJ15_nextClearBit_2 : cJ15_nextClearBit.data.toList.drop 48 = dktJ15_nextClearBit_2 := dk_seg dksJ15_nextClearBit_1 24 rfl rfl
theorem dksJ15_nextClearBit_3 : cJ15_nextClearBit.data.toList.drop 70 = dktJ15_nextClearBit_3 := dk_seg dksJ15_nextClearBit_2 22 rfl rfl
theorem dksJ15_nextClearBit_4 : cJ15_nextClearBit.data.toList.drop 94 = dktJ15_nextClearBit_4 := dk_seg dksJ15_nextClearBit_3 24 rfl rfl
theorem dJ15_nextClearBit_0 : decode cJ15_nextClearBit 0 = .ok (.iload_n 1, 1) := dk_27 (dk_at dksJ15_nextClearBit_0 0 rfl rfl)
theorem dJ15_nextClearBit_1 : decode cJ15_nextClearBit 1 = .ok (.ifCond .ge 30, 3) := dk_156 0 30 (dk_at dksJ15_nextClearBit_0 1 rfl rfl)
theorem dJ15_nextClearBit_4 : decode cJ15_nextClearBit 4 = .ok (.new 142, 3) := dk_187 0 142 (dk_at dksJ15_nextClearBit_0 4 rfl rfl)
theorem dJ15_nextClearBit_7 : decode cJ15_nextClearBit 7 = .ok (.dup, 1) := dk_89 (dk_at dksJ15_nextClearBit_0 7 rfl rfl)
theorem dJ15_nextClearBit_8 : decode cJ15_nextClearBit 8 = .ok (.new 33, 3) := dk_187 0 33 (dk_at dksJ15_nextClearBit_0 8 rfl rfl)
theorem dJ15_nextClearBit_11 : decode cJ15_nextClearBit 11 = .ok (.dup, 1) := dk_89 (dk_at dksJ15_nextClearBit_0 11 rfl rfl)
theorem dJ15_nextClearBit_12 : decode cJ15_nextClearBit 12 = .ok (.invokespecial 35, 3) := dk_183 0 35 (dk_at dksJ15_nextClearBit_0 12 rfl rfl)
theorem dJ15_nextClearBit_15 : decode cJ15_nextClearBit 15 = .ok (.ldc 144, 2) := dk_18 144 (dk_at dksJ15_nextClearBit_0 15 rfl rfl)
theorem dJ15_nextClearBit_17 : decode cJ15_nextClearBit 17 = .ok (.invokevirtual 38, 3) := dk_182 0 38 (dk_at dksJ15_nextClearBit_0 17 rfl rfl)
theorem dJ15_nextClearBit_20 : decode cJ15_nextClearBit 20 = .ok (.iload_n 1, 1) := dk_27 (dk_at dksJ15_nextClearBit_0 20 rfl rfl)
theorem dJ15_nextClearBit_21 : decode cJ15_nextClearBit 21 = .ok (.invokevirtual 42, 3) := dk_182 0 42 (dk_at dksJ15_nextClearBit_0 21 rfl rfl)
theorem dJ15_nextClearBit_24 : decode cJ15_nextClearBit 24 = .ok (.invokevirtual 45, 3) := dk_182 0 45 (dk_at dksJ15_nextClearBit_1 0 rfl rfl)
theorem dJ15_nextClearBit_27 : decode cJ15_nextClearBit 27 = .ok (.invokespecial 146, 3) := dk_183 0 146 (dk_at dksJ15_nextClearBit_1 3 rfl rfl)
theorem dJ15_nextClearBit_30 : decode cJ15_nextClearBit 30 = .ok (.athrow, 1) := dk_191 (dk_at dksJ15_nextClearBit_1 6 rfl rfl)
theorem dJ15_nextClearBit_31 : decode cJ15_nextClearBit 31 = .ok (.aload_n 0, 1) := dk_42 (dk_at dksJ15_nextClearBit_1 7 rfl rfl)
theorem dJ15_nextClearBit_32 : decode cJ15_nextClearBit 32 = .ok (.invokevirtual 56, 3) := dk_182 0 56 (dk_at dksJ15_nextClearBit_1 8 rfl rfl)
theorem dJ15_nextClearBit_35 : decode cJ15_nextClearBit 35 = .ok (.iload_n 1, 1) := dk_27 (dk_at dksJ15_nextClearBit_1 11 rfl rfl)
theorem dJ15_nextClearBit_36 : decode cJ15_nextClearBit 36 = .ok (.invokestatic 52, 3) := dk_184 0 52 (dk_at dksJ15_nextClearBit_1 12 rfl rfl)
theorem dJ15_nextClearBit_39 : decode cJ15_nextClearBit 39 = .ok (.istore_n 2, 1) := dk_61 (dk_at dksJ15_nextClearBit_1 15 rfl rfl)
theorem dJ15_nextClearBit_40 : decode cJ15_nextClearBit 40 = .ok (.iload_n 2, 1) := dk_28 (dk_at dksJ15_nextClearBit_1 16 rfl rfl)
theorem dJ15_nextClearBit_41 : decode cJ15_nextClearBit 41 = .ok (.aload_n 0, 1) := dk_42 (dk_at dksJ15_nextClearBit_1 17 rfl rfl)
theorem dJ15_nextClearBit_42 : decode cJ15_nextClearBit 42 = .ok (.getfield 7, 3) := dk_180 0 7 (dk_at dksJ15_nextClearBit_1 18 rfl rfl)
theorem dJ15_nextClearBit_45 : decode cJ15_nextClearBit 45 = .ok (.if_icmp .lt 5, 3) := dk_161 0 5 (dk_at dksJ15_nextClearBit_1 21 rfl rfl)
theorem dJ15_nextClearBit_48 : decode cJ15_nextClearBit 48 = .ok (.iload_n 1, 1) := dk_27 (dk_at dksJ15_nextClearBit_2 0 rfl rfl)
theorem dJ15_nextClearBit_49 : decode cJ15_nextClearBit 49 = .ok (.ireturn, 1) := dk_172 (dk_at dksJ15_nextClearBit_2 1 rfl rfl)
theorem dJ15_nextClearBit_50 : decode cJ15_nextClearBit 50 = .ok (.aload_n 0, 1) := dk_42 (dk_at dksJ15_nextClearBit_2 2 rfl rfl)
theorem dJ15_nextClearBit_51 : decode cJ15_nextClearBit 51 = .ok (.getfield 11, 3) := dk_180 0 11 (dk_at dksJ15_nextClearBit_2 3 rfl rfl)
theorem dJ15_nextClearBit_54 : decode cJ15_nextClearBit 54 = .ok (.iload_n 2, 1) := dk_28 (dk_at dksJ15_nextClearBit_2 6 rfl rfl)
theorem dJ15_nextClearBit_55 : decode cJ15_nextClearBit 55 = .ok (.laload, 1) := dk_47 (dk_at dksJ15_nextClearBit_2 7 rfl rfl)
theorem dJ15_nextClearBit_56 : decode cJ15_nextClearBit 56 = .ok (.ldc2_w 165, 3) := dk_20 0 165 (dk_at dksJ15_nextClearBit_2 8 rfl rfl)
theorem dJ15_nextClearBit_59 : decode cJ15_nextClearBit 59 = .ok (.lxor, 1) := dk_131 (dk_at dksJ15_nextClearBit_2 11 rfl rfl)
theorem dJ15_nextClearBit_60 : decode cJ15_nextClearBit 60 = .ok (.ldc2_w 165, 3) := dk_20 0 165 (dk_at dksJ15_nextClearBit_2 12 rfl rfl)
theorem dJ15_nextClearBit_63 : decode cJ15_nextClearBit 63 = .ok (.iload_n 1, 1) := dk_27 (dk_at dksJ15_nextClearBit_2 15 rfl rfl)
theorem dJ15_nextClearBit_64 : decode cJ15_nextClearBit 64 = .ok (.lshl, 1) := dk_121 (dk_at dksJ15_nextClearBit_2 16 rfl rfl)
theorem dJ15_nextClearBit_65 : decode cJ15_nextClearBit 65 = .ok (.land, 1) := dk_127 (dk_at dksJ15_nextClearBit_2 17 rfl rfl)
theorem dJ15_nextClearBit_66 : decode cJ15_nextClearBit 66 = .ok (.lstore_n 3, 1) := dk_66 (dk_at dksJ15_nextClearBit_2 18 rfl rfl)
theorem dJ15_nextClearBit_67 : decode cJ15_nextClearBit 67 = .ok (.lload_n 3, 1) := dk_33 (dk_at dksJ15_nextClearBit_2 19 rfl rfl)
theorem dJ15_nextClearBit_68 : decode cJ15_nextClearBit 68 = .ok (.lconst 0, 1) := dk_9 (dk_at dksJ15_nextClearBit_2 20 rfl rfl)
theorem dJ15_nextClearBit_69 : decode cJ15_nextClearBit 69 = .ok (.lcmp, 1) := dk_148 (dk_at dksJ15_nextClearBit_2 21 rfl rfl)
theorem dJ15_nextClearBit_70 : decode cJ15_nextClearBit 70 = .ok (.ifCond .eq 13, 3) := dk_153 0 13 (dk_at dksJ15_nextClearBit_3 0 rfl rfl)
theorem dJ15_nextClearBit_73 : decode cJ15_nextClearBit 73 = .ok (.iload_n 2, 1) := dk_28 (dk_at dksJ15_nextClearBit_3 3 rfl rfl)
theorem dJ15_nextClearBit_74 : decode cJ15_nextClearBit 74 = .ok (.bipush 64, 2) := dk_16 64 (dk_at dksJ15_nextClearBit_3 4 rfl rfl)
theorem dJ15_nextClearBit_76 : decode cJ15_nextClearBit 76 = .ok (.imul, 1) := dk_104 (dk_at dksJ15_nextClearBit_3 6 rfl rfl)
theorem dJ15_nextClearBit_77 : decode cJ15_nextClearBit 77 = .ok (.lload_n 3, 1) := dk_33 (dk_at dksJ15_nextClearBit_3 7 rfl rfl)
theorem dJ15_nextClearBit_78 : decode cJ15_nextClearBit 78 = .ok (.invokestatic 182, 3) := dk_184 0 182 (dk_at dksJ15_nextClearBit_3 8 rfl rfl)
theorem dJ15_nextClearBit_81 : decode cJ15_nextClearBit 81 = .ok (.iadd, 1) := dk_96 (dk_at dksJ15_nextClearBit_3 11 rfl rfl)
theorem dJ15_nextClearBit_82 : decode cJ15_nextClearBit 82 = .ok (.ireturn, 1) := dk_172 (dk_at dksJ15_nextClearBit_3 12 rfl rfl)
theorem dJ15_nextClearBit_83 : decode cJ15_nextClearBit 83 = .ok (.iinc 2 1, 3) := dk_132 2 1 (dk_at dksJ15_nextClearBit_3 13 rfl rfl)
theorem dJ15_nextClearBit_86 : decode cJ15_nextClearBit 86 = .ok (.iload_n 2, 1) := dk_28 (dk_at dksJ15_nextClearBit_3 16 rfl rfl)
theorem dJ15_nextClearBit_87 : decode cJ15_nextClearBit 87 = .ok (.aload_n 0, 1) := dk_42 (dk_at dksJ15_nextClearBit_3 17 rfl rfl)
theorem dJ15_nextClearBit_88 : decode cJ15_nextClearBit 88 = .ok (.getfield 7, 3) := dk_180 0 7 (dk_at dksJ15_nextClearBit_3 18 rfl rfl)
theorem dJ15_nextClearBit_91 : decode cJ15_nextClearBit 91 = .ok (.if_icmp .ne 11, 3) := dk_160 0 11 (dk_at dksJ15_nextClearBit_3 21 rfl rfl)
theorem dJ15_nextClearBit_94 : decode cJ15_nextClearBit 94 = .ok (.aload_n 0, 1) := dk_42 (dk_at dksJ15_nextClearBit_4 0 rfl rfl)
theorem dJ15_nextClearBit_95 : decode cJ15_nextClearBit 95 = .ok (.getfield 7, 3) := dk_180 0 7 (dk_at dksJ15_nextClearBit_4 1 rfl rfl)
theorem dJ15_nextClearBit_98 : decode cJ15_nextClearBit 98 = .ok (.bipush 64, 2) := dk_16 64 (dk_at dksJ15_nextClearBit_4 4 rfl rfl)
theorem dJ15_nextClearBit_100 : decode cJ15_nextClearBit 100 = .ok (.imul, 1) := dk_104 (dk_at dksJ15_nextClearBit_4 6 rfl rfl)
theorem dJ15_nextClearBit_101 : decode cJ15_nextClearBit 101 = .ok (.ireturn, 1) := dk_172 (dk_at dksJ15_nextClearBit_4 7 rfl rfl)
theorem dJ15_nextClearBit_102 : decode cJ15_nextClearBit 102 = .ok (.aload_n 0, 1) := dk_42 (dk_at dksJ15_nextClearBit_4 8 rfl rfl)
theorem dJ15_nextClearBit_103 : decode cJ15_nextClearBit 103 = .ok (.getfield 11, 3) := dk_180 0 11 (dk_at dksJ15_nextClearBit_4 9 rfl rfl)
theorem dJ15_nextClearBit_106 : decode cJ15_nextClearBit 106 = .ok (.iload_n 2, 1) := dk_28 (dk_at dksJ15_nextClearBit_4 12 rfl rfl)
theorem dJ15_nextClearBit_107 : decode cJ15_nextClearBit 107 = .ok (.laload, 1) := dk_47 (dk_at dksJ15_nextClearBit_4 13 rfl rfl)
theorem dJ15_nextClearBit_108 : decode cJ15_nextClearBit 108 = .ok (.ldc2_w 165, 3) := dk_20 0 165 (dk_at dksJ15_nextClearBit_4 14 rfl rfl)
theorem dJ15_nextClearBit_111 : decode cJ15_nextClearBit 111 = .ok (.lxor, 1) := dk_131 (dk_at dksJ15_nextClearBit_4 17 rfl rfl)
theorem dJ15_nextClearBit_112 : decode cJ15_nextClearBit 112 = .ok (.lstore_n 3, 1) := dk_66 (dk_at dksJ15_nextClearBit_4 18 rfl rfl)
theorem dJ15_nextClearBit_113 : decode cJ15_nextClearBit 113 = .ok (.goto (-46), 3) := dk_167 255 210 (dk_at dksJ15_nextClearBit_4 19 rfl rfl)
theorem q90 : (Jvm.Cond.initialized "java/util/BitSet") ∈ lw_all := lw_g (lw_at lw_m1 21 rfl) rfl
theorem q246 : (Jvm.Cond.selects "java/util/BitSet" ({ cls := "java/lang/Object", name := "getClass", desc := "()Ljava/lang/Class;" } : Jvm.MethodName) ({ cls := "java/lang/Object", name := "getClass", desc := "()Ljava/lang/Class;" } : Jvm.MethodName)) ∈ lw_all := lw_g (lw_at lw_m1 177 rfl) rfl
theorem q955 : (Jvm.Cond.instanceMethod ({ cls := "java/util/BitSet", name := "nextSetBit", desc := "(I)I" } : Jvm.MethodName)) ∈ lw_all := lw_g (lw_at lw_m4 166 rfl) rfl
theorem q956 : (Jvm.Cond.selects "java/util/BitSet" ({ cls := "java/util/BitSet", name := "nextSetBit", desc := "(I)I" } : Jvm.MethodName) ({ cls := "java/util/BitSet", name := "nextSetBit", desc := "(I)I" } : Jvm.MethodName)) ∈ lw_all := lw_g (lw_at lw_m4 167 rfl) rfl
theorem q957 : (Jvm.Cond.code ({ cls := "java/util/BitSet", name := "nextSetBit", desc := "(I)I" } : Jvm.MethodName) prog_54_method_28_code (5 : Nat) (Option.some Jvm.ClassFile.FieldType.int)) ∈ lw_all := lw_g (lw_at lw_m4 168 rfl) rfl
theorem q958 : (Jvm.Cond.classLink "java/util/BitSet" (142 : Nat) "java/lang/IndexOutOfBoundsException") ∈ lw_all := lw_g (lw_at lw_m4 169 rfl) rfl
theorem q959 : (Jvm.Cond.classLink "java/util/BitSet" (33 : Nat) "java/lang/StringBuilder") ∈ lw_all := lw_g (lw_at lw_m4 170 rfl) rfl
theorem q960 : (Jvm.Cond.methodLink "java/util/BitSet" (35 : Nat) ({ cls := "java/lang/StringBuilder", name := "<init>", desc := "()V" } : Jvm.MethodName)) ∈ lw_all := lw_g (lw_at lw_m4 171 rfl) rfl
theorem q961 : (Jvm.Cond.stringRef "java/util/BitSet" (144 : Nat) "fromIndex < 0: ") ∈ lw_tbl := lw_at lw_m4 172 rfl
theorem q962 : (Jvm.Cond.methodLink "java/util/BitSet" (38 : Nat) ({ cls := "java/lang/StringBuilder", name := "append", desc := "(Ljava/lang/String;)Ljava/lang/StringBuilder;" } : Jvm.MethodName)) ∈ lw_all := lw_g (lw_at lw_m4 173 rfl) rfl
theorem q963 : (Jvm.Cond.methodLink "java/util/BitSet" (42 : Nat) ({ cls := "java/lang/StringBuilder", name := "append", desc := "(I)Ljava/lang/StringBuilder;" } : Jvm.MethodName)) ∈ lw_all := lw_g (lw_at lw_m4 174 rfl) rfl
theorem q964 : (Jvm.Cond.methodLink "java/util/BitSet" (45 : Nat) ({ cls := "java/lang/StringBuilder", name := "toString", desc := "()Ljava/lang/String;" } : Jvm.MethodName)) ∈ lw_all := lw_g (lw_at lw_m4 175 rfl) rfl
theorem q965 : (Jvm.Cond.methodLink "java/util/BitSet" (146 : Nat) ({ cls := "java/lang/IndexOutOfBoundsException", name := "<init>", desc := "(Ljava/lang/String;)V" } : Jvm.MethodName)) ∈ lw_all := lw_g (lw_at lw_m4 176 rfl) rfl
theorem q966 : (Jvm.Cond.methodLink "java/util/BitSet" (56 : Nat) ({ cls := "java/util/BitSet", name := "checkInvariants", desc := "()V" } : Jvm.MethodName)) ∈ lw_all := lw_g (lw_at lw_m4 177 rfl) rfl
theorem q967 : (Jvm.Cond.privateMethod ({ cls := "java/util/BitSet", name := "checkInvariants", desc := "()V" } : Jvm.MethodName)) ∈ lw_tbl := lw_at lw_m4 178 rfl
theorem q968 : (Jvm.Cond.instanceMethod ({ cls := "java/util/BitSet", name := "checkInvariants", desc := "()V" } : Jvm.MethodName)) ∈ lw_all := lw_g (lw_at lw_m4 179 rfl) rfl
theorem q969 : (Jvm.Cond.instantiable "java/util/BitSet" (3 : Nat)) ∈ lw_all := lw_g (lw_at lw_m4 180 rfl) rfl
theorem q970 : (Jvm.Cond.code ({ cls := "java/util/BitSet", name := "checkInvariants", desc := "()V" } : Jvm.MethodName) prog_54_method_2_code (1 : Nat) (Option.none : Option Jvm.ClassFile.FieldType)) ∈ lw_all := lw_g (lw_at lw_m4 181 rfl) rfl
theorem q971 : (Jvm.Cond.fieldLink "java/util/BitSet" (3 : Nat) "java/util/BitSet" "$assertionsDisabled" "Z") ∈ lw_all := lw_g (lw_at lw_m4 182 rfl) rfl
theorem q972 : (Jvm.Cond.laysStatic "java/util/BitSet" "$assertionsDisabled" "Z") ∈ lw_tbl := lw_at lw_m4 183 rfl
theorem q973 : (Jvm.Cond.methodLink "java/util/BitSet" (52 : Nat) ({ cls := "java/util/BitSet", name := "wordIndex", desc := "(I)I" } : Jvm.MethodName)) ∈ lw_all := lw_g (lw_at lw_m4 184 rfl) rfl
theorem q974 : (Jvm.Cond.static ({ cls := "java/util/BitSet", name := "wordIndex", desc := "(I)I" } : Jvm.MethodName)) ∈ lw_all := lw_g (lw_at lw_m4 185 rfl) rfl
theorem q975 : (Jvm.Cond.code ({ cls := "java/util/BitSet", name := "wordIndex", desc := "(I)I" } : Jvm.MethodName) prog_54_method_1_code (1 : Nat) (Option.some Jvm.ClassFile.FieldType.int)) ∈ lw_all := lw_g (lw_at lw_m4 186 rfl) rfl
theorem q976 : (Jvm.Cond.constantLong "java/util/BitSet" (165 : Nat) (-1 : Int64)) ∈ lw_all := lw_g (lw_at lw_m4 187 rfl) rfl
theorem q977 : (Jvm.Cond.methodLink "java/util/BitSet" (182 : Nat) ({ cls := "java/lang/Long", name := "numberOfTrailingZeros", desc := "(J)I" } : Jvm.MethodName)) ∈ lw_all := lw_g (lw_at lw_m4 188 rfl) rfl
theorem q985 : (Jvm.Cond.instanceMethod ({ cls := "java/util/BitSet", name := "previousSetBit", desc := "(I)I" } : Jvm.MethodName)) ∈ lw_all := lw_g (lw_at lw_m4 196 rfl) rfl
theorem q986 : (Jvm.Cond.selects "java/util/BitSet" ({ cls := "java/util/BitSet", name := "previousSetBit", desc := "(I)I" } : Jvm.MethodName) ({ cls := "java/util/BitSet", name := "previousSetBit", desc := "(I)I" } : Jvm.MethodName)) ∈ lw_all := lw_g (lw_at lw_m4 197 rfl) rfl
theorem q987 : (Jvm.Cond.code ({ cls := "java/util/BitSet", name := "previousSetBit", desc := "(I)I" } : Jvm.MethodName) prog_54_method_30_code (5 : Nat) (Option.some Jvm.ClassFile.FieldType.int)) ∈ lw_all := lw_g (lw_at lw_m4 198 rfl) rfl
theorem q988 : (Jvm.Cond.stringRef "java/util/BitSet" (188 : Nat) "fromIndex < -1: ") ∈ lw_tbl := lw_at lw_m4 199 rfl
theorem q989 : (Jvm.Cond.methodLink "java/util/BitSet" (177 : Nat) ({ cls := "java/util/BitSet", name := "length", desc := "()I" } : Jvm.MethodName)) ∈ lw_all := lw_g (lw_at lw_m4 200 rfl) rfl
theorem q990 : (Jvm.Cond.instanceMethod ({ cls := "java/util/BitSet", name := "length", desc := "()I" } : Jvm.MethodName)) ∈ lw_all := lw_g (lw_at lw_m4 201 rfl) rfl
theorem q991 : (Jvm.Cond.selects "java/util/BitSet" ({ cls := "java/util/BitSet", name := "length", desc := "()I" } : Jvm.MethodName) ({ cls := "java/util/BitSet", name := "length", desc := "()I" } : Jvm.MethodName)) ∈ lw_all := lw_g (lw_at lw_m4 202 rfl) rfl
theorem q992 : (Jvm.Cond.code ({ cls := "java/util/BitSet", name := "length", desc := "()I" } : Jvm.MethodName) prog_54_method_32_code (1 : Nat) (Option.some Jvm.ClassFile.FieldType.int)) ∈ lw_all := lw_g (lw_at lw_m4 203 rfl) rfl
theorem q993 : (Jvm.Cond.methodLink "java/util/BitSet" (190 : Nat) ({ cls := "java/lang/Long", name := "numberOfLeadingZeros", desc := "(J)I" } : Jvm.MethodName)) ∈ lw_all := lw_g (lw_at lw_m4 204 rfl) rfl
theorem q1217 : (Jvm.Cond.instanceMethod ({ cls := "java/util/BitSet", name := "<init>", desc := "()V" } : Jvm.MethodName)) ∈ lw_all := lw_g (lw_at lw_m5 188 rfl) rfl
theorem q1218 : (Jvm.Cond.code ({ cls := "java/util/BitSet", name := "<init>", desc := "()V" } : Jvm.MethodName) prog_54_method_4_code (1 : Nat) (Option.none : Option Jvm.ClassFile.FieldType)) ∈ lw_all := lw_g (lw_at lw_m5 189 rfl) rfl
theorem q1219 : (Jvm.Cond.methodLink "java/util/BitSet" (21 : Nat) ({ cls := "java/lang/Object", name := "<init>", desc := "()V" } : Jvm.MethodName)) ∈ lw_all := lw_g (lw_at lw_m5 190 rfl) rfl
theorem q1220 : (Jvm.Cond.methodLink "java/util/BitSet" (27 : Nat) ({ cls := "java/util/BitSet", name := "initWords", desc := "(I)V" } : Jvm.MethodName)) ∈ lw_all := lw_g (lw_at lw_m5 191 rfl) rfl
theorem q1221 : (Jvm.Cond.privateMethod ({ cls := "java/util/BitSet", name := "initWords", desc := "(I)V" } : Jvm.MethodName)) ∈ lw_tbl := lw_at lw_m5 192 rfl
theorem q1222 : (Jvm.Cond.instanceMethod ({ cls := "java/util/BitSet", name := "initWords", desc := "(I)V" } : Jvm.MethodName)) ∈ lw_all := lw_g (lw_at lw_m5 193 rfl) rfl
theorem q1223 : (Jvm.Cond.code ({ cls := "java/util/BitSet", name := "initWords", desc := "(I)V" } : Jvm.MethodName) prog_54_method_6_code (2 : Nat) (Option.none : Option Jvm.ClassFile.FieldType)) ∈ lw_all := lw_g (lw_at lw_m5 194 rfl) rfl
theorem q1224 : (Jvm.Cond.fieldLink "java/util/BitSet" (11 : Nat) "java/util/BitSet" "words" "[J") ∈ lw_all := lw_g (lw_at lw_m5 195 rfl) rfl
theorem q1225 : (Jvm.Cond.fieldLink "java/util/BitSet" (7 : Nat) "java/util/BitSet" "wordsInUse" "I") ∈ lw_all := lw_g (lw_at lw_m5 196 rfl) rfl
theorem q1226 : (Jvm.Cond.fieldLink "java/util/BitSet" (24 : Nat) "java/util/BitSet" "sizeIsSticky" "Z") ∈ lw_all := lw_g (lw_at lw_m5 197 rfl) rfl
theorem q1227 : (Jvm.Cond.lays "java/util/BitSet" "java/util/BitSet" "words" "[J") ∈ lw_all := lw_g (lw_at lw_m5 198 rfl) rfl
theorem q1228 : (Jvm.Cond.soleField "java/util/BitSet" "words") ∈ lw_all := lw_g (lw_at lw_m5 199 rfl) rfl
theorem q1229 : (Jvm.Cond.lays "java/util/BitSet" "java/util/BitSet" "wordsInUse" "I") ∈ lw_all := lw_g (lw_at lw_m5 200 rfl) rfl
theorem q1230 : (Jvm.Cond.soleField "java/util/BitSet" "wordsInUse") ∈ lw_all := lw_g (lw_at lw_m5 201 rfl) rfl
theorem q1231 : (Jvm.Cond.lays "java/util/BitSet" "java/util/BitSet" "sizeIsSticky" "Z") ∈ lw_all := lw_g (lw_at lw_m5 202 rfl) rfl
theorem q1232 : (Jvm.Cond.soleField "java/util/BitSet" "sizeIsSticky") ∈ lw_all := lw_g (lw_at lw_m5 203 rfl) rfl
theorem q1233 : (Jvm.Cond.superclass "java/util/BitSet" "java/lang/Object") ∈ lw_all := lw_g (lw_at lw_m5 204 rfl) rfl
theorem q1272 : (Jvm.Cond.instanceMethod ({ cls := "java/util/BitSet", name := "set", desc := "(I)V" } : Jvm.MethodName)) ∈ lw_all := lw_g (lw_at lw_m6 3 rfl) rfl
theorem q1273 : (Jvm.Cond.selects "java/util/BitSet" ({ cls := "java/util/BitSet", name := "set", desc := "(I)V" } : Jvm.MethodName) ({ cls := "java/util/BitSet", name := "set", desc := "(I)V" } : Jvm.MethodName)) ∈ lw_all := lw_g (lw_at lw_m6 4 rfl) rfl
theorem q1274 : (Jvm.Cond.code ({ cls := "java/util/BitSet", name := "set", desc := "(I)V" } : Jvm.MethodName) prog_54_method_19_code (3 : Nat) (Option.none : Option Jvm.ClassFile.FieldType)) ∈ lw_all := lw_g (lw_at lw_m6 5 rfl) rfl
theorem q1275 : (Jvm.Cond.stringRef "java/util/BitSet" (153 : Nat) "bitIndex < 0: ") ∈ lw_tbl := lw_at lw_m6 6 rfl
theorem q1276 : (Jvm.Cond.methodLink "java/util/BitSet" (155 : Nat) ({ cls := "java/util/BitSet", name := "expandTo", desc := "(I)V" } : Jvm.MethodName)) ∈ lw_all := lw_g (lw_at lw_m6 7 rfl) rfl
theorem q1277 : (Jvm.Cond.privateMethod ({ cls := "java/util/BitSet", name := "expandTo", desc := "(I)V" } : Jvm.MethodName)) ∈ lw_tbl := lw_at lw_m6 8 rfl
theorem q1278 : (Jvm.Cond.instanceMethod ({ cls := "java/util/BitSet", name := "expandTo", desc := "(I)V" } : Jvm.MethodName)) ∈ lw_all := lw_g (lw_at lw_m6 9 rfl) rfl
theorem q1279 : (Jvm.Cond.code ({ cls := "java/util/BitSet", name := "expandTo", desc := "(I)V" } : Jvm.MethodName) prog_54_method_15_code (3 : Nat) (Option.none : Option Jvm.ClassFile.FieldType)) ∈ lw_all := lw_g (lw_at lw_m6 10 rfl) rfl
theorem q1280 : (Jvm.Cond.methodLink "java/util/BitSet" (139 : Nat) ({ cls := "java/util/BitSet", name := "ensureCapacity", desc := "(I)V" } : Jvm.MethodName)) ∈ lw_all := lw_g (lw_at lw_m6 11 rfl) rfl
theorem q1281 : (Jvm.Cond.privateMethod ({ cls := "java/util/BitSet", name := "ensureCapacity", desc := "(I)V" } : Jvm.MethodName)) ∈ lw_tbl := lw_at lw_m6 12 rfl
theorem q1282 : (Jvm.Cond.instanceMethod ({ cls := "java/util/BitSet", name := "ensureCapacity", desc := "(I)V" } : Jvm.MethodName)) ∈ lw_all := lw_g (lw_at lw_m6 13 rfl) rfl
theorem q1283 : (Jvm.Cond.code ({ cls := "java/util/BitSet", name := "ensureCapacity", desc := "(I)V" } : Jvm.MethodName) prog_54_method_14_code (3 : Nat) (Option.none : Option Jvm.ClassFile.FieldType)) ∈ lw_all := lw_g (lw_at lw_m6 14 rfl) rfl
theorem q1284 : (Jvm.Cond.methodLink "java/util/BitSet" (133 : Nat) ({ cls := "java/lang/Math", name := "max", desc := "(II)I" } : Jvm.MethodName)) ∈ lw_all := lw_g (lw_at lw_m6 15 rfl) rfl
theorem q1285 : (Jvm.Cond.methodLink "java/util/BitSet" (59 : Nat) ({ cls := "java/util/Arrays", name := "copyOf", desc := "([JI)[J" } : Jvm.MethodName)) ∈ lw_all := lw_g (lw_at lw_m6 16 rfl) rfl
theorem q1423 : (Jvm.Cond.instanceMethod ({ cls := "java/util/BitSet", name := "clear", desc := "(I)V" } : Jvm.MethodName)) ∈ lw_all := lw_g (lw_at lw_m6 154 rfl) rfl
theorem q1424 : (Jvm.Cond.selects "java/util/BitSet" ({ cls := "java/util/BitSet", name := "clear", desc := "(I)V" } : Jvm.MethodName) ({ cls := "java/util/BitSet", name := "clear", desc := "(I)V" } : Jvm.MethodName)) ∈ lw_all := lw_g (lw_at lw_m6 155 rfl) rfl
theorem q1425 : (Jvm.Cond.code ({ cls := "java/util/BitSet", name := "clear", desc := "(I)V" } : Jvm.MethodName) prog_54_method_23_code (3 : Nat) (Option.none : Option Jvm.ClassFile.FieldType)) ∈ lw_all := lw_g (lw_at lw_m6 156 rfl) rfl
theorem q1426 : (Jvm.Cond.methodLink "java/util/BitSet" (158 : Nat) ({ cls := "java/util/BitSet", name := "recalculateWordsInUse", desc := "()V" } : Jvm.MethodName)) ∈ lw_all := lw_g (lw_at lw_m6 157 rfl) rfl
theorem q1427 : (Jvm.Cond.privateMethod ({ cls := "java/util/BitSet", name := "recalculateWordsInUse", desc := "()V" } : Jvm.MethodName)) ∈ lw_tbl := lw_at lw_m6 158 rfl
theorem q1428 : (Jvm.Cond.instanceMethod ({ cls := "java/util/BitSet", name := "recalculateWordsInUse", desc := "()V" } : Jvm.MethodName)) ∈ lw_all := lw_g (lw_at lw_m6 159 rfl) rfl
theorem q1429 : (Jvm.Cond.code ({ cls := "java/util/BitSet", name := "recalculateWordsInUse", desc := "()V" } : Jvm.MethodName) prog_54_method_3_code (2 : Nat) (Option.none : Option Jvm.ClassFile.FieldType)) ∈ lw_all := lw_g (lw_at lw_m6 160 rfl) rfl
theorem q1470 : (Jvm.Cond.instanceMethod ({ cls := "java/util/BitSet", name := "get", desc := "(I)Z" } : Jvm.MethodName)) ∈ lw_all := lw_g (lw_at lw_m6 201 rfl) rfl
theorem q1471 : (Jvm.Cond.selects "java/util/BitSet" ({ cls := "java/util/BitSet", name := "get", desc := "(I)Z" } : Jvm.MethodName) ({ cls := "java/util/BitSet", name := "get", desc := "(I)Z" } : Jvm.MethodName)) ∈ lw_all := lw_g (lw_at lw_m6 202 rfl) rfl
theorem q1472 : (Jvm.Cond.code ({ cls := "java/util/BitSet", name := "get", desc := "(I)Z" } : Jvm.MethodName) prog_54_method_26_code (3 : Nat) (Option.some Jvm.ClassFile.FieldType.boolean)) ∈ lw_all := lw_g (lw_at lw_m6 203 rfl) rfl
theorem q1492 : (Jvm.Cond.instanceMethod ({ cls := "java/util/BitSet", name := "nextClearBit", desc := "(I)I" } : Jvm.MethodName)) ∈ lw_all := lw_g (lw_at lw_m6 223 rfl) rfl
theorem q1493 : (Jvm.Cond.selects "java/util/BitSet" ({ cls := "java/util/BitSet", name := "nextClearBit", desc := "(I)I" } : Jvm.MethodName) ({ cls := "java/util/BitSet", name := "nextClearBit", desc := "(I)I" } : Jvm.MethodName)) ∈ lw_all := lw_g (lw_at lw_m6 224 rfl) rfl
theorem q1494 : (Jvm.Cond.code ({ cls := "java/util/BitSet", name := "nextClearBit", desc := "(I)I" } : Jvm.MethodName) prog_54_method_29_code (5 : Nat) (Option.some Jvm.ClassFile.FieldType.int)) ∈ lw_all := lw_g (lw_at lw_m6 225 rfl) rfl
theorem q2070 : (Jvm.Cond.castable "java/util/BitSet" "java/lang/Object") ∈ lw_tbl := lw_at lw_m9 81 rfl
theorem in_J15 : ∀ w ∈ wsJ150, w ∈ lw_all := lw_in wsJ150 [1227, 1229, 1231] (by decide +kernel) (by decide +kernel)
/-! java/lang/IndexOutOfBoundsException -/
set_option maxRecDepth 100000
def RJ16 : String := "java/lang/IndexOutOfBoundsException"
def TJ16 : u_T := fun k => match k with
  | 0 => ("java/lang/Throwable", "cause", "Ljava/lang/Throwable;", false)
  | 1 => ("java/lang/Throwable", "stackTrace", "[Ljava/lang/StackTraceElement;", false)
  | 2 => ("java/lang/Throwable", "suppressedExceptions", "Ljava/util/List;", false)
  | 3 => ("java/lang/Throwable", "detailMessage", "Ljava/lang/String;", false)
  | 4 => ("java/lang/Throwable", "backtrace", "Ljava/lang/Object;", false)
  | _ => ("java/lang/Throwable", "depth", "I", false)
def tyJ16 : Nat → FieldType := fun k => match k with
  | 0 => .object "java/lang/Throwable"
  | 1 => .array (.object "java/lang/StackTraceElement")
  | 2 => .object "java/util/List"
  | 3 => .object "java/lang/String"
  | 4 => .object "java/lang/Object"
  | _ => .int
abbrev wsJ160 : List Cond := u_ws RJ16 TJ16 6
theorem nmJ16 : ∀ a, a < 6 → ∀ b, b < 6 → a ≠ b → (TJ16 a).2.1 ≠ (TJ16 b).2.1 := by decide +kernel
theorem tyJ16_ok : ∀ k, k < 6 → parseFieldDescriptor (TJ16 k).2.2.1 = some (tyJ16 k) := by decide +kernel
abbrev cJ16_init : ByteArray := prog_27_method_2_code
def yJ16_init : MethodName := ⟨RJ16, "<init>", "(Ljava/lang/String;)V"⟩
def dkwJ16_init_0 : List UInt8 := [42, 43, 183, 0, 7, 177]
abbrev dktJ16_init_0 : List UInt8 := dkwJ16_init_0 ++ []
theorem dksJ16_init_0 : cJ16_init.data.toList.drop 0 = dktJ16_init_0 := by decide +kernel
theorem dJ16_init_0 : decode cJ16_init 0 = .ok (.aload_n 0, 1) := dk_42 (dk_at dksJ16_init_0 0 rfl rfl)
theorem dJ16_init_1 : decode cJ16_init 1 = .ok (.aload_n 1, 1) := dk_43 (dk_at dksJ16_init_0 1 rfl rfl)
theorem dJ16_init_2 : decode cJ16_init 2 = .ok (.invokespecial 7, 3) := dk_183 0 7 (dk_at dksJ16_init_0 2 rfl rfl)
theorem dJ16_init_5 : decode cJ16_init 5 = .ok (.return_, 1) := dk_177 (dk_at dksJ16_init_0 5 rfl rfl)
abbrev cJ16_init_2 : ByteArray := prog_27_method_1_code
def yJ16_init_2 : MethodName := ⟨RJ16, "<init>", "()V"⟩
theorem dJ16_init_2_0 : decode cJ16_init_2 0 = .ok (.aload_n 0, 1) := by decide +kernel
theorem dJ16_init_2_1 : decode cJ16_init_2 1 = .ok (.invokespecial 1, 3) := by decide +kernel
theorem dJ16_init_2_4 : decode cJ16_init_2 4 = .ok (.return_, 1) := by decide +kernel
theorem q91 : (Jvm.Cond.initialized "java/lang/IndexOutOfBoundsException") ∈ lw_all := lw_g (lw_at lw_m1 22 rfl) rfl
theorem q236 : (Jvm.Cond.selects "java/lang/IndexOutOfBoundsException" ({ cls := "java/lang/Object", name := "getClass", desc := "()Ljava/lang/Class;" } : Jvm.MethodName) ({ cls := "java/lang/Object", name := "getClass", desc := "()Ljava/lang/Class;" } : Jvm.MethodName)) ∈ lw_all := lw_g (lw_at lw_m1 167 rfl) rfl
theorem q446 : (Jvm.Cond.instantiable "java/lang/IndexOutOfBoundsException" (6 : Nat)) ∈ lw_all := lw_g (lw_at lw_m2 137 rfl) rfl
theorem q447 : (Jvm.Cond.castable "java/lang/IndexOutOfBoundsException" "java/lang/IndexOutOfBoundsException") ∈ lw_tbl := lw_at lw_m2 138 rfl
theorem q454 : (Jvm.Cond.selects "java/lang/IndexOutOfBoundsException" ({ cls := "java/lang/Throwable", name := "fillInStackTrace", desc := "(I)Ljava/lang/Throwable;" } : Jvm.MethodName) ({ cls := "java/lang/Throwable", name := "fillInStackTrace", desc := "(I)Ljava/lang/Throwable;" } : Jvm.MethodName)) ∈ lw_all := lw_g (lw_at lw_m2 145 rfl) rfl
theorem q455 : (Jvm.Cond.selects "java/lang/IndexOutOfBoundsException" ({ cls := "java/lang/Throwable", name := "fillInStackTrace", desc := "()Ljava/lang/Throwable;" } : Jvm.MethodName) ({ cls := "java/lang/Throwable", name := "fillInStackTrace", desc := "()Ljava/lang/Throwable;" } : Jvm.MethodName)) ∈ lw_all := lw_g (lw_at lw_m2 146 rfl) rfl
theorem q456 : (Jvm.Cond.lays "java/lang/IndexOutOfBoundsException" "java/lang/Throwable" "cause" "Ljava/lang/Throwable;") ∈ lw_all := lw_g (lw_at lw_m2 147 rfl) rfl
theorem q458 : (Jvm.Cond.lays "java/lang/IndexOutOfBoundsException" "java/lang/Throwable" "stackTrace" "[Ljava/lang/StackTraceElement;") ∈ lw_all := lw_g (lw_at lw_m2 149 rfl) rfl
theorem q460 : (Jvm.Cond.lays "java/lang/IndexOutOfBoundsException" "java/lang/Throwable" "suppressedExceptions" "Ljava/util/List;") ∈ lw_all := lw_g (lw_at lw_m2 151 rfl) rfl
theorem q462 : (Jvm.Cond.lays "java/lang/IndexOutOfBoundsException" "java/lang/Throwable" "detailMessage" "Ljava/lang/String;") ∈ lw_all := lw_g (lw_at lw_m2 153 rfl) rfl
theorem q464 : (Jvm.Cond.lays "java/lang/IndexOutOfBoundsException" "java/lang/Throwable" "backtrace" "Ljava/lang/Object;") ∈ lw_all := lw_g (lw_at lw_m2 155 rfl) rfl
theorem q760 : (Jvm.Cond.instanceMethod ({ cls := "java/lang/IndexOutOfBoundsException", name := "<init>", desc := "(Ljava/lang/String;)V" } : Jvm.MethodName)) ∈ lw_all := lw_g (lw_at lw_m3 211 rfl) rfl
theorem q761 : (Jvm.Cond.code ({ cls := "java/lang/IndexOutOfBoundsException", name := "<init>", desc := "(Ljava/lang/String;)V" } : Jvm.MethodName) prog_27_method_2_code (2 : Nat) (Option.none : Option Jvm.ClassFile.FieldType)) ∈ lw_all := lw_g (lw_at lw_m3 212 rfl) rfl
theorem q762 : (Jvm.Cond.methodLink "java/lang/IndexOutOfBoundsException" (7 : Nat) ({ cls := "java/lang/RuntimeException", name := "<init>", desc := "(Ljava/lang/String;)V" } : Jvm.MethodName)) ∈ lw_all := lw_g (lw_at lw_m3 213 rfl) rfl
theorem q763 : (Jvm.Cond.lays "java/lang/IndexOutOfBoundsException" "java/lang/Throwable" "depth" "I") ∈ lw_all := lw_g (lw_at lw_m3 214 rfl) rfl
theorem q764 : (Jvm.Cond.superclass "java/lang/IndexOutOfBoundsException" "java/lang/RuntimeException") ∈ lw_all := lw_g (lw_at lw_m3 215 rfl) rfl
theorem q1064 : (Jvm.Cond.selects "java/lang/IndexOutOfBoundsException" ({ cls := "java/lang/Throwable", name := "toString", desc := "()Ljava/lang/String;" } : Jvm.MethodName) ({ cls := "java/lang/Throwable", name := "toString", desc := "()Ljava/lang/String;" } : Jvm.MethodName)) ∈ lw_all := lw_g (lw_at lw_m5 35 rfl) rfl
theorem q1077 : (Jvm.Cond.selects "java/lang/IndexOutOfBoundsException" ({ cls := "java/lang/Throwable", name := "getLocalizedMessage", desc := "()Ljava/lang/String;" } : Jvm.MethodName) ({ cls := "java/lang/Throwable", name := "getLocalizedMessage", desc := "()Ljava/lang/String;" } : Jvm.MethodName)) ∈ lw_all := lw_g (lw_at lw_m5 48 rfl) rfl
theorem q1089 : (Jvm.Cond.selects "java/lang/IndexOutOfBoundsException" ({ cls := "java/lang/Throwable", name := "getMessage", desc := "()Ljava/lang/String;" } : Jvm.MethodName) ({ cls := "java/lang/Throwable", name := "getMessage", desc := "()Ljava/lang/String;" } : Jvm.MethodName)) ∈ lw_all := lw_g (lw_at lw_m5 60 rfl) rfl
theorem q1450 : (Jvm.Cond.declares ({ cls := "java/lang/IndexOutOfBoundsException", name := "<init>", desc := "()V" } : Jvm.MethodName)) ∈ lw_tbl := lw_at lw_m6 181 rfl
theorem q1451 : (Jvm.Cond.declares ({ cls := "java/lang/IndexOutOfBoundsException", name := "<init>", desc := "(Ljava/lang/String;)V" } : Jvm.MethodName)) ∈ lw_tbl := lw_at lw_m6 182 rfl
theorem q1466 : (Jvm.Cond.instanceMethod ({ cls := "java/lang/IndexOutOfBoundsException", name := "<init>", desc := "()V" } : Jvm.MethodName)) ∈ lw_all := lw_g (lw_at lw_m6 197 rfl) rfl
theorem q1467 : (Jvm.Cond.code ({ cls := "java/lang/IndexOutOfBoundsException", name := "<init>", desc := "()V" } : Jvm.MethodName) prog_27_method_1_code (1 : Nat) (Option.none : Option Jvm.ClassFile.FieldType)) ∈ lw_all := lw_g (lw_at lw_m6 198 rfl) rfl
theorem q1468 : (Jvm.Cond.methodLink "java/lang/IndexOutOfBoundsException" (1 : Nat) ({ cls := "java/lang/RuntimeException", name := "<init>", desc := "()V" } : Jvm.MethodName)) ∈ lw_all := lw_g (lw_at lw_m6 199 rfl) rfl
theorem q2071 : (Jvm.Cond.castable "java/lang/IndexOutOfBoundsException" "java/lang/Object") ∈ lw_tbl := lw_at lw_m9 82 rfl
theorem in_J16 : ∀ w ∈ wsJ160, w ∈ lw_all := lw_in wsJ160 [456, 458, 460, 462, 464, 763] (by decide +kernel) (by decide +kernel)
/-! java/util/ArrayList -/
set_option maxRecDepth 100000
def RJ2 : String := "java/util/ArrayList"
def TJ2 : u_T := fun k => match k with
  | 0 => ("java/util/AbstractList", "modCount", "I", false)
  | 1 => ("java/util/ArrayList", "elementData", "[Ljava/lang/Object;", false)
  | _ => ("java/util/ArrayList", "size", "I", false)
def tyJ2 : Nat → FieldType := fun k => match k with
  | 0 => .int
  | 1 => .array (.object "java/lang/Object")
  | _ => .int
abbrev wsJ20 : List Cond := u_ws RJ2 TJ2 3
theorem nmJ2 : ∀ a, a < 3 → ∀ b, b < 3 → a ≠ b → (TJ2 a).2.1 ≠ (TJ2 b).2.1 := by decide +kernel
theorem tyJ2_ok : ∀ k, k < 3 → parseFieldDescriptor (TJ2 k).2.2.1 = some (tyJ2 k) := by decide +kernel
abbrev cJ2_init : ByteArray := prog_50_method_2_code
def yJ2_init : MethodName := ⟨RJ2, "<init>", "()V"⟩
def dkwJ2_init_0 : List UInt8 := [42, 183, 0, 1, 42, 178, 0, 39, 181, 0, 9, 177]
abbrev dktJ2_init_0 : List UInt8 := dkwJ2_init_0 ++ []
theorem dksJ2_init_0 : cJ2_init.data.toList.drop 0 = dktJ2_init_0 := by decide +kernel
theorem dJ2_init_0 : decode cJ2_init 0 = .ok (.aload_n 0, 1) := dk_42 (dk_at dksJ2_init_0 0 rfl rfl)
theorem dJ2_init_1 : decode cJ2_init 1 = .ok (.invokespecial 1, 3) := dk_183 0 1 (dk_at dksJ2_init_0 1 rfl rfl)
theorem dJ2_init_4 : decode cJ2_init 4 = .ok (.aload_n 0, 1) := dk_42 (dk_at dksJ2_init_0 4 rfl rfl)
theorem dJ2_init_5 : decode cJ2_init 5 = .ok (.getstatic 39, 3) := dk_178 0 39 (dk_at dksJ2_init_0 5 rfl rfl)
theorem dJ2_init_8 : decode cJ2_init 8 = .ok (.putfield 9, 3) := dk_181 0 9 (dk_at dksJ2_init_0 8 rfl rfl)
theorem dJ2_init_11 : decode cJ2_init 11 = .ok (.return_, 1) := dk_177 (dk_at dksJ2_init_0 11 rfl rfl)
abbrev cJ2_add : ByteArray := prog_50_method_25_code
def yJ2_add : MethodName := ⟨RJ2, "add", "(Ljava/lang/Object;)Z"⟩
def dkwJ2_add_1 : List UInt8 := [172]
abbrev dktJ2_add_1 : List UInt8 := dkwJ2_add_1 ++ []
def dkwJ2_add_0 : List UInt8 := [42, 89, 180, 0, 63, 4, 96, 181, 0, 63, 42, 43, 42, 180, 0, 9, 42, 180, 0, 48, 182, 0, 131, 4]
abbrev dktJ2_add_0 : List UInt8 := dkwJ2_add_0 ++ dktJ2_add_1
theorem dksJ2_add_0 : cJ2_add.data.toList.drop 0 = dktJ2_add_0 := by decide +kernel
theorem dksJ2_add_1 : cJ2_add.data.toList.drop 24 = dktJ2_add_1 := dk_seg dksJ2_add_0 24 rfl rfl
theorem dJ2_add_0 : decode cJ2_add 0 = .ok (.aload_n 0, 1) := dk_42 (dk_at dksJ2_add_0 0 rfl rfl)
theorem dJ2_add_1 : decode cJ2_add 1 = .ok (.dup, 1) := dk_89 (dk_at dksJ2_add_0 1 rfl rfl)
theorem dJ2_add_2 : decode cJ2_add 2 = .ok (.getfield 63, 3) := dk_180 0 63 (dk_at dksJ2_add_0 2 rfl rfl)
theorem dJ2_add_5 : decode cJ2_add 5 = .ok (.iconst 1, 1) := dk_4 (dk_at dksJ2_add_0 5 rfl rfl)
theorem dJ2_add_6 : decode cJ2_add 6 = .ok (.iadd, 1) := dk_96 (dk_at dksJ2_add_0 6 rfl rfl)
theorem dJ2_add_7 : decode cJ2_add 7 = .ok (.putfield 63, 3) := dk_181 0 63 (dk_at dksJ2_add_0 7 rfl rfl)
theorem dJ2_add_10 : decode cJ2_add 10 = .ok (.aload_n 0, 1) := dk_42 (dk_at dksJ2_add_0 10 rfl rfl)
theorem dJ2_add_11 : decode cJ2_add 11 = .ok (.aload_n 1, 1) := dk_43 (dk_at dksJ2_add_0 11 rfl rfl)
theorem dJ2_add_12 : decode cJ2_add 12 = .ok (.aload_n 0, 1) := dk_42 (dk_at dksJ2_add_0 12 rfl rfl)
theorem dJ2_add_13 : decode cJ2_add 13 = .ok (.getfield 9, 3) := dk_180 0 9 (dk_at dksJ2_add_0 13 rfl rfl)
theorem dJ2_add_16 : decode cJ2_add 16 = .ok (.aload_n 0, 1) := dk_42 (dk_at dksJ2_add_0 16 rfl rfl)
theorem dJ2_add_17 : decode cJ2_add 17 = .ok (.getfield 48, 3) := dk_180 0 48 (dk_at dksJ2_add_0 17 rfl rfl)
theorem dJ2_add_20 : decode cJ2_add 20 = .ok (.invokevirtual 131, 3) := dk_182 0 131 (dk_at dksJ2_add_0 20 rfl rfl)
theorem dJ2_add_23 : decode cJ2_add 23 = .ok (.iconst 1, 1) := dk_4 (dk_at dksJ2_add_0 23 rfl rfl)
theorem dJ2_add_24 : decode cJ2_add 24 = .ok (.ireturn, 1) := dk_172 (dk_at dksJ2_add_1 0 rfl rfl)
abbrev cJ2_add_2 : ByteArray := prog_50_method_24_code
def yJ2_add_2 : MethodName := ⟨RJ2, "add", "(Ljava/lang/Object;[Ljava/lang/Object;I)V"⟩
def dkwJ2_add_2_0 : List UInt8 := [29, 44, 190, 160, 0, 8, 42, 182, 0, 129, 77, 44, 29, 43, 83, 42, 29, 4, 96, 181, 0, 48, 177]
abbrev dktJ2_add_2_0 : List UInt8 := dkwJ2_add_2_0 ++ []
theorem dksJ2_add_2_0 : cJ2_add_2.data.toList.drop 0 = dktJ2_add_2_0 := by decide +kernel
theorem dJ2_add_2_0 : decode cJ2_add_2 0 = .ok (.iload_n 3, 1) := dk_29 (dk_at dksJ2_add_2_0 0 rfl rfl)
theorem dJ2_add_2_1 : decode cJ2_add_2 1 = .ok (.aload_n 2, 1) := dk_44 (dk_at dksJ2_add_2_0 1 rfl rfl)
theorem dJ2_add_2_2 : decode cJ2_add_2 2 = .ok (.arraylength, 1) := dk_190 (dk_at dksJ2_add_2_0 2 rfl rfl)
theorem dJ2_add_2_3 : decode cJ2_add_2 3 = .ok (.if_icmp .ne 8, 3) := dk_160 0 8 (dk_at dksJ2_add_2_0 3 rfl rfl)
theorem dJ2_add_2_6 : decode cJ2_add_2 6 = .ok (.aload_n 0, 1) := dk_42 (dk_at dksJ2_add_2_0 6 rfl rfl)
theorem dJ2_add_2_7 : decode cJ2_add_2 7 = .ok (.invokevirtual 129, 3) := dk_182 0 129 (dk_at dksJ2_add_2_0 7 rfl rfl)
theorem dJ2_add_2_10 : decode cJ2_add_2 10 = .ok (.astore_n 2, 1) := dk_77 (dk_at dksJ2_add_2_0 10 rfl rfl)
theorem dJ2_add_2_11 : decode cJ2_add_2 11 = .ok (.aload_n 2, 1) := dk_44 (dk_at dksJ2_add_2_0 11 rfl rfl)
theorem dJ2_add_2_12 : decode cJ2_add_2 12 = .ok (.iload_n 3, 1) := dk_29 (dk_at dksJ2_add_2_0 12 rfl rfl)
theorem dJ2_add_2_13 : decode cJ2_add_2 13 = .ok (.aload_n 1, 1) := dk_43 (dk_at dksJ2_add_2_0 13 rfl rfl)
theorem dJ2_add_2_14 : decode cJ2_add_2 14 = .ok (.aastore, 1) := dk_83 (dk_at dksJ2_add_2_0 14 rfl rfl)
theorem dJ2_add_2_15 : decode cJ2_add_2 15 = .ok (.aload_n 0, 1) := dk_42 (dk_at dksJ2_add_2_0 15 rfl rfl)
theorem dJ2_add_2_16 : decode cJ2_add_2 16 = .ok (.iload_n 3, 1) := dk_29 (dk_at dksJ2_add_2_0 16 rfl rfl)
theorem dJ2_add_2_17 : decode cJ2_add_2 17 = .ok (.iconst 1, 1) := dk_4 (dk_at dksJ2_add_2_0 17 rfl rfl)
theorem dJ2_add_2_18 : decode cJ2_add_2 18 = .ok (.iadd, 1) := dk_96 (dk_at dksJ2_add_2_0 18 rfl rfl)
theorem dJ2_add_2_19 : decode cJ2_add_2 19 = .ok (.putfield 48, 3) := dk_181 0 48 (dk_at dksJ2_add_2_0 19 rfl rfl)
theorem dJ2_add_2_22 : decode cJ2_add_2 22 = .ok (.return_, 1) := dk_177 (dk_at dksJ2_add_2_0 22 rfl rfl)
abbrev cJ2_grow : ByteArray := prog_50_method_7_code
def yJ2_grow : MethodName := ⟨RJ2, "grow", "()[Ljava/lang/Object;"⟩
def dkwJ2_grow_0 : List UInt8 := [42, 42, 180, 0, 48, 4, 96, 182, 0, 69, 176]
abbrev dktJ2_grow_0 : List UInt8 := dkwJ2_grow_0 ++ []
theorem dksJ2_grow_0 : cJ2_grow.data.toList.drop 0 = dktJ2_grow_0 := by decide +kernel
theorem dJ2_grow_0 : decode cJ2_grow 0 = .ok (.aload_n 0, 1) := dk_42 (dk_at dksJ2_grow_0 0 rfl rfl)
theorem dJ2_grow_1 : decode cJ2_grow 1 = .ok (.aload_n 0, 1) := dk_42 (dk_at dksJ2_grow_0 1 rfl rfl)
theorem dJ2_grow_2 : decode cJ2_grow 2 = .ok (.getfield 48, 3) := dk_180 0 48 (dk_at dksJ2_grow_0 2 rfl rfl)
theorem dJ2_grow_5 : decode cJ2_grow 5 = .ok (.iconst 1, 1) := dk_4 (dk_at dksJ2_grow_0 5 rfl rfl)
theorem dJ2_grow_6 : decode cJ2_grow 6 = .ok (.iadd, 1) := dk_96 (dk_at dksJ2_grow_0 6 rfl rfl)
theorem dJ2_grow_7 : decode cJ2_grow 7 = .ok (.invokevirtual 69, 3) := dk_182 0 69 (dk_at dksJ2_grow_0 7 rfl rfl)
theorem dJ2_grow_10 : decode cJ2_grow 10 = .ok (.areturn, 1) := dk_176 (dk_at dksJ2_grow_0 10 rfl rfl)
abbrev cJ2_grow_2 : ByteArray := prog_50_method_6_code
def yJ2_grow_2 : MethodName := ⟨RJ2, "grow", "(I)[Ljava/lang/Object;"⟩
def dkwJ2_grow_2_2 : List UInt8 := [27, 184, 0, 79, 189, 0, 7, 90, 181, 0, 9, 176]
abbrev dktJ2_grow_2_2 : List UInt8 := dkwJ2_grow_2_2 ++ []
def dkwJ2_grow_2_1 : List UInt8 := [28, 4, 122, 184, 0, 73, 62, 42, 42, 180, 0, 9, 29, 184, 0, 66, 90, 181, 0, 9, 176, 42, 16, 10]
abbrev dktJ2_grow_2_1 : List UInt8 := dkwJ2_grow_2_1 ++ dktJ2_grow_2_2
def dkwJ2_grow_2_0 : List UInt8 := [42, 180, 0, 9, 190, 61, 28, 157, 0, 13, 42, 180, 0, 9, 178, 0, 39, 165, 0, 28, 28, 27, 28, 100]
abbrev dktJ2_grow_2_0 : List UInt8 := dkwJ2_grow_2_0 ++ dktJ2_grow_2_1
theorem dksJ2_grow_2_0 : cJ2_grow_2.data.toList.drop 0 = dktJ2_grow_2_0 := by decide +kernel
theorem dksJ2_grow_2_1 : cJ2_grow_2.data.toList.drop 24 = dktJ2_grow_2_1 := dk_seg dksJ2_grow_2_0 24 rfl rfl
theorem dksJ2_grow_2_2 : cJ2_grow_2.data.toList.drop 48 = dktJ2_grow_2_2 := dk_seg dksJ2_grow_2_1 24 rfl rfl
theorem dJ2_grow_2_0 : decode cJ2_grow_2 0 = .ok (.aload_n 0, 1) := dk_42 (dk_at dksJ2_grow_2_0 0 rfl rfl)
theorem dJ2_grow_2_1 : decode cJ2_grow_2 1 = .ok (.getfield 9, 3) := dk_180 0 9 (dk_at dksJ2_grow_2_0 1 rfl rfl)
theorem dJ2_grow_2_4 : decode cJ2_grow_2 4 = .ok (.arraylength, 1) := dk_190 (dk_at dksJ2_grow_2_0 4 rfl rfl)
theorem dJ2_grow_2_5 : decode cJ2_grow_2 5 = .ok (.istore_n 2, 1) := dk_61 (dk_at dksJ2_grow_2_0 5 rfl rfl)
theorem dJ2_grow_2_6 : decode cJ2_grow_2 6 = .ok (.iload_n 2, 1) := dk_28 (dk_at dksJ2_grow_2_0 6 rfl rfl)
theorem dJ2_grow_2_7 : decode cJ2_grow_2 7 = .ok (.ifCond .gt 13, 3) := dk_157 0 13 (dk_at dksJ2_grow_2_0 7 rfl rfl)
theorem dJ2_grow_2_10 : decode cJ2_grow_2 10 = .ok (.aload_n 0, 1) := dk_42 (dk_at dksJ2_grow_2_0 10 rfl rfl)
theorem dJ2_grow_2_11 : decode cJ2_grow_2 11 = .ok (.getfield 9, 3) := dk_180 0 9 (dk_at dksJ2_grow_2_0 11 rfl rfl)
theorem dJ2_grow_2_14 : decode cJ2_grow_2 14 = .ok (.getstatic 39, 3) := dk_178 0 39 (dk_at dksJ2_grow_2_0 14 rfl rfl)
theorem dJ2_grow_2_17 : decode cJ2_grow_2 17 = .ok (.if_acmp .eq 28, 3) := dk_165 0 28 (dk_at dksJ2_grow_2_0 17 rfl rfl)
theorem dJ2_grow_2_20 : decode cJ2_grow_2 20 = .ok (.iload_n 2, 1) := dk_28 (dk_at dksJ2_grow_2_0 20 rfl rfl)
theorem dJ2_grow_2_21 : decode cJ2_grow_2 21 = .ok (.iload_n 1, 1) := dk_27 (dk_at dksJ2_grow_2_0 21 rfl rfl)
theorem dJ2_grow_2_22 : decode cJ2_grow_2 22 = .ok (.iload_n 2, 1) := dk_28 (dk_at dksJ2_grow_2_0 22 rfl rfl)
theorem dJ2_grow_2_23 : decode cJ2_grow_2 23 = .ok (.isub, 1) := dk_100 (dk_at dksJ2_grow_2_0 23 rfl rfl)
theorem dJ2_grow_2_24 : decode cJ2_grow_2 24 = .ok (.iload_n 2, 1) := dk_28 (dk_at dksJ2_grow_2_1 0 rfl rfl)
theorem dJ2_grow_2_25 : decode cJ2_grow_2 25 = .ok (.iconst 1, 1) := dk_4 (dk_at dksJ2_grow_2_1 1 rfl rfl)
theorem dJ2_grow_2_26 : decode cJ2_grow_2 26 = .ok (.ishr, 1) := dk_122 (dk_at dksJ2_grow_2_1 2 rfl rfl)
theorem dJ2_grow_2_27 : decode cJ2_grow_2 27 = .ok (.invokestatic 73, 3) := dk_184 0 73 (dk_at dksJ2_grow_2_1 3 rfl rfl)
theorem dJ2_grow_2_30 : decode cJ2_grow_2 30 = .ok (.istore_n 3, 1) := dk_62 (dk_at dksJ2_grow_2_1 6 rfl rfl)
theorem dJ2_grow_2_31 : decode cJ2_grow_2 31 = .ok (.aload_n 0, 1) := dk_42 (dk_at dksJ2_grow_2_1 7 rfl rfl)
theorem dJ2_grow_2_32 : decode cJ2_grow_2 32 = .ok (.aload_n 0, 1) := dk_42 (dk_at dksJ2_grow_2_1 8 rfl rfl)
theorem dJ2_grow_2_33 : decode cJ2_grow_2 33 = .ok (.getfield 9, 3) := dk_180 0 9 (dk_at dksJ2_grow_2_1 9 rfl rfl)
theorem dJ2_grow_2_36 : decode cJ2_grow_2 36 = .ok (.iload_n 3, 1) := dk_29 (dk_at dksJ2_grow_2_1 12 rfl rfl)
theorem dJ2_grow_2_37 : decode cJ2_grow_2 37 = .ok (.invokestatic 66, 3) := dk_184 0 66 (dk_at dksJ2_grow_2_1 13 rfl rfl)
theorem dJ2_grow_2_40 : decode cJ2_grow_2 40 = .ok (.dup_x1, 1) := dk_90 (dk_at dksJ2_grow_2_1 16 rfl rfl)
theorem dJ2_grow_2_41 : decode cJ2_grow_2 41 = .ok (.putfield 9, 3) := dk_181 0 9 (dk_at dksJ2_grow_2_1 17 rfl rfl)
theorem dJ2_grow_2_44 : decode cJ2_grow_2 44 = .ok (.areturn, 1) := dk_176 (dk_at dksJ2_grow_2_1 20 rfl rfl)
theorem dJ2_grow_2_45 : decode cJ2_grow_2 45 = .ok (.aload_n 0, 1) := dk_42 (dk_at dksJ2_grow_2_1 21 rfl rfl)
theorem dJ2_grow_2_46 : decode cJ2_grow_2 46 = .ok (.bipush 10, 2) := dk_16 10 (dk_at dksJ2_grow_2_1 22 rfl rfl)
theorem dJ2_grow_2_48 : decode cJ2_grow_2 48 = .ok (.iload_n 1, 1) := dk_27 (dk_at dksJ2_grow_2_2 0 rfl rfl)
theorem dJ2_grow_2_49 : decode cJ2_grow_2 49 = .ok (.invokestatic 79, 3) := dk_184 0 79 (dk_at dksJ2_grow_2_2 1 rfl rfl)
theorem dJ2_grow_2_52 : decode cJ2_grow_2 52 = .ok (.anewarray 7, 3) := dk_189 0 7 (dk_at dksJ2_grow_2_2 4 rfl rfl)
theorem dJ2_grow_2_55 : decode cJ2_grow_2 55 = .ok (.dup_x1, 1) := dk_90 (dk_at dksJ2_grow_2_2 7 rfl rfl)
theorem dJ2_grow_2_56 : decode cJ2_grow_2 56 = .ok (.putfield 9, 3) := dk_181 0 9 (dk_at dksJ2_grow_2_2 8 rfl rfl)
theorem dJ2_grow_2_59 : decode cJ2_grow_2 59 = .ok (.areturn, 1) := dk_176 (dk_at dksJ2_grow_2_2 11 rfl rfl)
abbrev cJ2_clear : ByteArray := prog_50_method_40_code
def yJ2_clear : MethodName := ⟨RJ2, "clear", "()V"⟩
def dkwJ2_clear_1 : List UInt8 := [181, 0, 48, 62, 29, 28, 162, 0, 13, 43, 29, 1, 83, 132, 3, 1, 167, 255, 244, 177]
abbrev dktJ2_clear_1 : List UInt8 := dkwJ2_clear_1 ++ []
def dkwJ2_clear_0 : List UInt8 := [42, 89, 180, 0, 63, 4, 96, 181, 0, 63, 42, 180, 0, 9, 76, 42, 180, 0, 48, 61, 42, 3, 90]
abbrev dktJ2_clear_0 : List UInt8 := dkwJ2_clear_0 ++ dktJ2_clear_1
theorem dksJ2_clear_0 : cJ2_clear.data.toList.drop 0 = dktJ2_clear_0 := by decide +kernel
theorem dksJ2_clear_1 : cJ2_clear.data.toList.drop 23 = dktJ2_clear_1 := dk_seg dksJ2_clear_0 23 rfl rfl
theorem dJ2_clear_0 : decode cJ2_clear 0 = .ok (.aload_n 0, 1) := dk_42 (dk_at dksJ2_clear_0 0 rfl rfl)
theorem dJ2_clear_1 : decode cJ2_clear 1 = .ok (.dup, 1) := dk_89 (dk_at dksJ2_clear_0 1 rfl rfl)
theorem dJ2_clear_2 : decode cJ2_clear 2 = .ok (.getfield 63, 3) := dk_180 0 63 (dk_at dksJ2_clear_0 2 rfl rfl)
theorem dJ2_clear_5 : decode cJ2_clear 5 = .ok (.iconst 1, 1) := dk_4 (dk_at dksJ2_clear_0 5 rfl rfl)
theorem dJ2_clear_6 : decode cJ2_clear 6 = .ok (.iadd, 1) := dk_96 (dk_at dksJ2_clear_0 6 rfl rfl)
theorem dJ2_clear_7 : decode cJ2_clear 7 = .ok (.putfield 63, 3) := dk_181 0 63 (dk_at dksJ2_clear_0 7 rfl rfl)
theorem dJ2_clear_10 : decode cJ2_clear 10 = .ok (.aload_n 0, 1) := dk_42 (dk_at dksJ2_clear_0 10 rfl rfl)
theorem dJ2_clear_11 : decode cJ2_clear 11 = .ok (.getfield 9, 3) := dk_180 0 9 (dk_at dksJ2_clear_0 11 rfl rfl)
theorem dJ2_clear_14 : decode cJ2_clear 14 = .ok (.astore_n 1, 1) := dk_76 (dk_at dksJ2_clear_0 14 rfl rfl)
theorem dJ2_clear_15 : decode cJ2_clear 15 = .ok (.aload_n 0, 1) := dk_42 (dk_at dksJ2_clear_0 15 rfl rfl)
theorem dJ2_clear_16 : decode cJ2_clear 16 = .ok (.getfield 48, 3) := dk_180 0 48 (dk_at dksJ2_clear_0 16 rfl rfl)
theorem dJ2_clear_19 : decode cJ2_clear 19 = .ok (.istore_n 2, 1) := dk_61 (dk_at dksJ2_clear_0 19 rfl rfl)
theorem dJ2_clear_20 : decode cJ2_clear 20 = .ok (.aload_n 0, 1) := dk_42 (dk_at dksJ2_clear_0 20 rfl rfl)
theorem dJ2_clear_21 : decode cJ2_clear 21 = .ok (.iconst 0, 1) := dk_3 (dk_at dksJ2_clear_0 21 rfl rfl)
theorem dJ2_clear_22 : decode cJ2_clear 22 = .ok (.dup_x1, 1) := dk_90 (dk_at dksJ2_clear_0 22 rfl rfl)
theorem dJ2_clear_23 : decode cJ2_clear 23 = .ok (.putfield 48, 3) := dk_181 0 48 (dk_at dksJ2_clear_1 0 rfl rfl)
theorem dJ2_clear_26 : decode cJ2_clear 26 = .ok (.istore_n 3, 1) := dk_62 (dk_at dksJ2_clear_1 3 rfl rfl)
theorem dJ2_clear_27 : decode cJ2_clear 27 = .ok (.iload_n 3, 1) := dk_29 (dk_at dksJ2_clear_1 4 rfl rfl)
theorem dJ2_clear_28 : decode cJ2_clear 28 = .ok (.iload_n 2, 1) := dk_28 (dk_at dksJ2_clear_1 5 rfl rfl)
theorem dJ2_clear_29 : decode cJ2_clear 29 = .ok (.if_icmp .ge 13, 3) := dk_162 0 13 (dk_at dksJ2_clear_1 6 rfl rfl)
theorem dJ2_clear_32 : decode cJ2_clear 32 = .ok (.aload_n 1, 1) := dk_43 (dk_at dksJ2_clear_1 9 rfl rfl)
theorem dJ2_clear_33 : decode cJ2_clear 33 = .ok (.iload_n 3, 1) := dk_29 (dk_at dksJ2_clear_1 10 rfl rfl)
theorem dJ2_clear_34 : decode cJ2_clear 34 = .ok (.aconst_null, 1) := dk_1 (dk_at dksJ2_clear_1 11 rfl rfl)
theorem dJ2_clear_35 : decode cJ2_clear 35 = .ok (.aastore, 1) := dk_83 (dk_at dksJ2_clear_1 12 rfl rfl)
theorem dJ2_clear_36 : decode cJ2_clear 36 = .ok (.iinc 3 1, 3) := dk_132 3 1 (dk_at dksJ2_clear_1 13 rfl rfl)
theorem dJ2_clear_39 : decode cJ2_clear 39 = .ok (.goto (-12), 3) := dk_167 255 244 (dk_at dksJ2_clear_1 16 rfl rfl)
theorem dJ2_clear_42 : decode cJ2_clear 42 = .ok (.return_, 1) := dk_177 (dk_at dksJ2_clear_1 19 rfl rfl)
abbrev cJ2_size : ByteArray := prog_50_method_8_code
def yJ2_size : MethodName := ⟨RJ2, "size", "()I"⟩
theorem dJ2_size_0 : decode cJ2_size 0 = .ok (.aload_n 0, 1) := by decide +kernel
theorem dJ2_size_1 : decode cJ2_size 1 = .ok (.getfield 48, 3) := by decide +kernel
theorem dJ2_size_4 : decode cJ2_size 4 = .ok (.ireturn, 1) := by decide +kernel
abbrev cJ2_get : ByteArray := prog_50_method_20_code
def yJ2_get : MethodName := ⟨RJ2, "get", "(I)Ljava/lang/Object;"⟩
def dkwJ2_get_0 : List UInt8 := [27, 42, 180, 0, 48, 184, 0, 118, 87, 42, 27, 182, 0, 123, 176]
abbrev dktJ2_get_0 : List UInt8 := dkwJ2_get_0 ++ []
theorem dksJ2_get_0 : cJ2_get.data.toList.drop 0 = dktJ2_get_0 := by decide +kernel
theorem dJ2_get_0 : decode cJ2_get 0 = .ok (.iload_n 1, 1) := dk_27 (dk_at dksJ2_get_0 0 rfl rfl)
theorem dJ2_get_1 : decode cJ2_get 1 = .ok (.aload_n 0, 1) := dk_42 (dk_at dksJ2_get_0 1 rfl rfl)
theorem dJ2_get_2 : decode cJ2_get 2 = .ok (.getfield 48, 3) := dk_180 0 48 (dk_at dksJ2_get_0 2 rfl rfl)
theorem dJ2_get_5 : decode cJ2_get 5 = .ok (.invokestatic 118, 3) := dk_184 0 118 (dk_at dksJ2_get_0 5 rfl rfl)
theorem dJ2_get_8 : decode cJ2_get 8 = .ok (.pop, 1) := dk_87 (dk_at dksJ2_get_0 8 rfl rfl)
theorem dJ2_get_9 : decode cJ2_get 9 = .ok (.aload_n 0, 1) := dk_42 (dk_at dksJ2_get_0 9 rfl rfl)
theorem dJ2_get_10 : decode cJ2_get 10 = .ok (.iload_n 1, 1) := dk_27 (dk_at dksJ2_get_0 10 rfl rfl)
theorem dJ2_get_11 : decode cJ2_get 11 = .ok (.invokevirtual 123, 3) := dk_182 0 123 (dk_at dksJ2_get_0 11 rfl rfl)
theorem dJ2_get_14 : decode cJ2_get 14 = .ok (.areturn, 1) := dk_176 (dk_at dksJ2_get_0 14 rfl rfl)
abbrev cJ2_elementData : ByteArray := prog_50_method_18_code
def yJ2_elementData : MethodName := ⟨RJ2, "elementData", "(I)Ljava/lang/Object;"⟩
def dkwJ2_elementData_0 : List UInt8 := [42, 180, 0, 9, 27, 50, 176]
abbrev dktJ2_elementData_0 : List UInt8 := dkwJ2_elementData_0 ++ []
theorem dksJ2_elementData_0 : cJ2_elementData.data.toList.drop 0 = dktJ2_elementData_0 := by decide +kernel
theorem dJ2_elementData_0 : decode cJ2_elementData 0 = .ok (.aload_n 0, 1) := dk_42 (dk_at dksJ2_elementData_0 0 rfl rfl)
theorem dJ2_elementData_1 : decode cJ2_elementData 1 = .ok (.getfield 9, 3) := dk_180 0 9 (dk_at dksJ2_elementData_0 1 rfl rfl)
theorem dJ2_elementData_4 : decode cJ2_elementData 4 = .ok (.iload_n 1, 1) := dk_27 (dk_at dksJ2_elementData_0 4 rfl rfl)
theorem dJ2_elementData_5 : decode cJ2_elementData 5 = .ok (.aaload, 1) := dk_50 (dk_at dksJ2_elementData_0 5 rfl rfl)
theorem dJ2_elementData_6 : decode cJ2_elementData 6 = .ok (.areturn, 1) := dk_176 (dk_at dksJ2_elementData_0 6 rfl rfl)
abbrev cJ2_iterator : ByteArray := prog_50_method_55_code
def yJ2_iterator : MethodName := ⟨RJ2, "iterator", "()Ljava/util/Iterator;"⟩
def dkwJ2_iterator_0 : List UInt8 := [187, 1, 11, 89, 42, 183, 1, 13, 176]
abbrev dktJ2_iterator_0 : List UInt8 := dkwJ2_iterator_0 ++ []
theorem dksJ2_iterator_0 : cJ2_iterator.data.toList.drop 0 = dktJ2_iterator_0 := by decide +kernel
theorem dJ2_iterator_0 : decode cJ2_iterator 0 = .ok (.new 267, 3) := dk_187 1 11 (dk_at dksJ2_iterator_0 0 rfl rfl)
theorem dJ2_iterator_3 : decode cJ2_iterator 3 = .ok (.dup, 1) := dk_89 (dk_at dksJ2_iterator_0 3 rfl rfl)
theorem dJ2_iterator_4 : decode cJ2_iterator 4 = .ok (.aload_n 0, 1) := dk_42 (dk_at dksJ2_iterator_0 4 rfl rfl)
theorem dJ2_iterator_5 : decode cJ2_iterator 5 = .ok (.invokespecial 269, 3) := dk_183 1 13 (dk_at dksJ2_iterator_0 5 rfl rfl)
theorem dJ2_iterator_8 : decode cJ2_iterator 8 = .ok (.areturn, 1) := dk_176 (dk_at dksJ2_iterator_0 8 rfl rfl)
abbrev cJ2_listIterator : ByteArray := prog_50_method_53_code
def yJ2_listIterator : MethodName := ⟨RJ2, "listIterator", "(I)Ljava/util/ListIterator;"⟩
def dkwJ2_listIterator_0 : List UInt8 := [42, 27, 182, 0, 135, 187, 1, 6, 89, 42, 27, 183, 1, 8, 176]
abbrev dktJ2_listIterator_0 : List UInt8 := dkwJ2_listIterator_0 ++ []
theorem dksJ2_listIterator_0 : cJ2_listIterator.data.toList.drop 0 = dktJ2_listIterator_0 := by decide +kernel
theorem dJ2_listIterator_0 : decode cJ2_listIterator 0 = .ok (.aload_n 0, 1) := dk_42 (dk_at dksJ2_listIterator_0 0 rfl rfl)
theorem dJ2_listIterator_1 : decode cJ2_listIterator 1 = .ok (.iload_n 1, 1) := dk_27 (dk_at dksJ2_listIterator_0 1 rfl rfl)
theorem dJ2_listIterator_2 : decode cJ2_listIterator 2 = .ok (.invokevirtual 135, 3) := dk_182 0 135 (dk_at dksJ2_listIterator_0 2 rfl rfl)
theorem dJ2_listIterator_5 : decode cJ2_listIterator 5 = .ok (.new 262, 3) := dk_187 1 6 (dk_at dksJ2_listIterator_0 5 rfl rfl)
theorem dJ2_listIterator_8 : decode cJ2_listIterator 8 = .ok (.dup, 1) := dk_89 (dk_at dksJ2_listIterator_0 8 rfl rfl)
theorem dJ2_listIterator_9 : decode cJ2_listIterator 9 = .ok (.aload_n 0, 1) := dk_42 (dk_at dksJ2_listIterator_0 9 rfl rfl)
theorem dJ2_listIterator_10 : decode cJ2_listIterator 10 = .ok (.iload_n 1, 1) := dk_27 (dk_at dksJ2_listIterator_0 10 rfl rfl)
theorem dJ2_listIterator_11 : decode cJ2_listIterator 11 = .ok (.invokespecial 264, 3) := dk_183 1 8 (dk_at dksJ2_listIterator_0 11 rfl rfl)
theorem dJ2_listIterator_14 : decode cJ2_listIterator 14 = .ok (.areturn, 1) := dk_176 (dk_at dksJ2_listIterator_0 14 rfl rfl)
abbrev cJ2_rangeCheckForAdd : ByteArray := prog_50_method_45_code
def yJ2_rangeCheckForAdd : MethodName := ⟨RJ2, "rangeCheckForAdd", "(I)V"⟩
def dkwJ2_rangeCheckForAdd_1 : List UInt8 := [191, 177]
abbrev dktJ2_rangeCheckForAdd_1 : List UInt8 := dkwJ2_rangeCheckForAdd_1 ++ []
def dkwJ2_rangeCheckForAdd_0 : List UInt8 := [27, 42, 180, 0, 48, 163, 0, 7, 27, 156, 0, 16, 187, 0, 187, 89, 42, 27, 182, 0, 198, 183, 0, 193]
abbrev dktJ2_rangeCheckForAdd_0 : List UInt8 := dkwJ2_rangeCheckForAdd_0 ++ dktJ2_rangeCheckForAdd_1
theorem dksJ2_rangeCheckForAdd_0 : cJ2_rangeCheckForAdd.data.toList.drop 0 = dktJ2_rangeCheckForAdd_0 := by decide +kernel
theorem dksJ2_rangeCheckForAdd_1 : cJ2_rangeCheckForAdd.data.toList.drop 24 = dktJ2_rangeCheckForAdd_1 := dk_seg dksJ2_rangeCheckForAdd_0 24 rfl rfl
theorem dJ2_rangeCheckForAdd_0 : decode cJ2_rangeCheckForAdd 0 = .ok (.iload_n 1, 1) := dk_27 (dk_at dksJ2_rangeCheckForAdd_0 0 rfl rfl)
theorem dJ2_rangeCheckForAdd_1 : decode cJ2_rangeCheckForAdd 1 = .ok (.aload_n 0, 1) := dk_42 (dk_at dksJ2_rangeCheckForAdd_0 1 rfl rfl)
theorem dJ2_rangeCheckForAdd_2 : decode cJ2_rangeCheckForAdd 2 = .ok (.getfield 48, 3) := dk_180 0 48 (dk_at dksJ2_rangeCheckForAdd_0 2 rfl rfl)
theorem dJ2_rangeCheckForAdd_5 : decode cJ2_rangeCheckForAdd 5 = .ok (.if_icmp .gt 7, 3) := dk_163 0 7 (dk_at dksJ2_rangeCheckForAdd_0 5 rfl rfl)
theorem dJ2_rangeCheckForAdd_8 : decode cJ2_rangeCheckForAdd 8 = .ok (.iload_n 1, 1) := dk_27 (dk_at dksJ2_rangeCheckForAdd_0 8 rfl rfl)
theorem dJ2_rangeCheckForAdd_9 : decode cJ2_rangeCheckForAdd 9 = .ok (.ifCond .ge 16, 3) := dk_156 0 16 (dk_at dksJ2_rangeCheckForAdd_0 9 rfl rfl)
theorem dJ2_rangeCheckForAdd_12 : decode cJ2_rangeCheckForAdd 12 = .ok (.new 187, 3) := dk_187 0 187 (dk_at dksJ2_rangeCheckForAdd_0 12 rfl rfl)
theorem dJ2_rangeCheckForAdd_15 : decode cJ2_rangeCheckForAdd 15 = .ok (.dup, 1) := dk_89 (dk_at dksJ2_rangeCheckForAdd_0 15 rfl rfl)
theorem dJ2_rangeCheckForAdd_16 : decode cJ2_rangeCheckForAdd 16 = .ok (.aload_n 0, 1) := dk_42 (dk_at dksJ2_rangeCheckForAdd_0 16 rfl rfl)
theorem dJ2_rangeCheckForAdd_17 : decode cJ2_rangeCheckForAdd 17 = .ok (.iload_n 1, 1) := dk_27 (dk_at dksJ2_rangeCheckForAdd_0 17 rfl rfl)
theorem dJ2_rangeCheckForAdd_18 : decode cJ2_rangeCheckForAdd 18 = .ok (.invokevirtual 198, 3) := dk_182 0 198 (dk_at dksJ2_rangeCheckForAdd_0 18 rfl rfl)
theorem dJ2_rangeCheckForAdd_21 : decode cJ2_rangeCheckForAdd 21 = .ok (.invokespecial 193, 3) := dk_183 0 193 (dk_at dksJ2_rangeCheckForAdd_0 21 rfl rfl)
theorem dJ2_rangeCheckForAdd_24 : decode cJ2_rangeCheckForAdd 24 = .ok (.athrow, 1) := dk_191 (dk_at dksJ2_rangeCheckForAdd_1 0 rfl rfl)
theorem dJ2_rangeCheckForAdd_25 : decode cJ2_rangeCheckForAdd 25 = .ok (.return_, 1) := dk_177 (dk_at dksJ2_rangeCheckForAdd_1 1 rfl rfl)
abbrev cJ2_outOfBoundsMsg : ByteArray := prog_50_method_46_code
def yJ2_outOfBoundsMsg : MethodName := ⟨RJ2, "outOfBoundsMsg", "(I)Ljava/lang/String;"⟩
def dkwJ2_outOfBoundsMsg_1 : List UInt8 := [180, 0, 48, 182, 0, 29, 182, 0, 32, 176]
abbrev dktJ2_outOfBoundsMsg_1 : List UInt8 := dkwJ2_outOfBoundsMsg_1 ++ []
def dkwJ2_outOfBoundsMsg_0 : List UInt8 := [187, 0, 20, 89, 183, 0, 22, 18, 201, 182, 0, 25, 27, 182, 0, 29, 18, 203, 182, 0, 25, 42]
abbrev dktJ2_outOfBoundsMsg_0 : List UInt8 := dkwJ2_outOfBoundsMsg_0 ++ dktJ2_outOfBoundsMsg_1
theorem dksJ2_outOfBoundsMsg_0 : cJ2_outOfBoundsMsg.data.toList.drop 0 = dktJ2_outOfBoundsMsg_0 := by decide +kernel
theorem dksJ2_outOfBoundsMsg_1 : cJ2_outOfBoundsMsg.data.toList.drop 22 = dktJ2_outOfBoundsMsg_1 := dk_seg dksJ2_outOfBoundsMsg_0 22 rfl rfl
theorem dJ2_outOfBoundsMsg_0 : decode cJ2_outOfBoundsMsg 0 = .ok (.new 20, 3) := dk_187 0 20 (dk_at dksJ2_outOfBoundsMsg_0 0 rfl rfl)
theorem dJ2_outOfBoundsMsg_3 : decode cJ2_outOfBoundsMsg 3 = .ok (.dup, 1) := dk_89 (dk_at dksJ2_outOfBoundsMsg_0 3 rfl rfl)
theorem dJ2_outOfBoundsMsg_4 : decode cJ2_outOfBoundsMsg 4 = .ok (.invokespecial 22, 3) := dk_183 0 22 (dk_at dksJ2_outOfBoundsMsg_0 4 rfl rfl)
theorem dJ2_outOfBoundsMsg_7 : decode cJ2_outOfBoundsMsg 7 = .ok (.ldc 201, 2) := dk_18 201 (dk_at dksJ2_outOfBoundsMsg_0 7 rfl rfl)
theorem dJ2_outOfBoundsMsg_9 : decode cJ2_outOfBoundsMsg 9 = .ok (.invokevirtual 25, 3) := dk_182 0 25 (dk_at dksJ2_outOfBoundsMsg_0 9 rfl rfl)
theorem dJ2_outOfBoundsMsg_12 : decode cJ2_outOfBoundsMsg 12 = .ok (.iload_n 1, 1) := dk_27 (dk_at dksJ2_outOfBoundsMsg_0 12 rfl rfl)
theorem dJ2_outOfBoundsMsg_13 : decode cJ2_outOfBoundsMsg 13 = .ok (.invokevirtual 29, 3) := dk_182 0 29 (dk_at dksJ2_outOfBoundsMsg_0 13 rfl rfl)
theorem dJ2_outOfBoundsMsg_16 : decode cJ2_outOfBoundsMsg 16 = .ok (.ldc 203, 2) := dk_18 203 (dk_at dksJ2_outOfBoundsMsg_0 16 rfl rfl)
theorem dJ2_outOfBoundsMsg_18 : decode cJ2_outOfBoundsMsg 18 = .ok (.invokevirtual 25, 3) := dk_182 0 25 (dk_at dksJ2_outOfBoundsMsg_0 18 rfl rfl)
theorem dJ2_outOfBoundsMsg_21 : decode cJ2_outOfBoundsMsg 21 = .ok (.aload_n 0, 1) := dk_42 (dk_at dksJ2_outOfBoundsMsg_0 21 rfl rfl)
theorem dJ2_outOfBoundsMsg_22 : decode cJ2_outOfBoundsMsg 22 = .ok (.getfield 48, 3) := dk_180 0 48 (dk_at dksJ2_outOfBoundsMsg_1 0 rfl rfl)
theorem dJ2_outOfBoundsMsg_25 : decode cJ2_outOfBoundsMsg 25 = .ok (.invokevirtual 29, 3) := dk_182 0 29 (dk_at dksJ2_outOfBoundsMsg_1 3 rfl rfl)
theorem dJ2_outOfBoundsMsg_28 : decode cJ2_outOfBoundsMsg 28 = .ok (.invokevirtual 32, 3) := dk_182 0 32 (dk_at dksJ2_outOfBoundsMsg_1 6 rfl rfl)
theorem dJ2_outOfBoundsMsg_31 : decode cJ2_outOfBoundsMsg 31 = .ok (.areturn, 1) := dk_176 (dk_at dksJ2_outOfBoundsMsg_1 9 rfl rfl)
theorem q73 : (Jvm.Cond.initialized "java/util/ArrayList") ∈ lw_all := lw_g (lw_at lw_m1 4 rfl) rfl
theorem q132 : (Jvm.Cond.instantiable "java/util/ArrayList" (3 : Nat)) ∈ lw_all := lw_g (lw_at lw_m1 63 rfl) rfl
theorem q134 : (Jvm.Cond.instanceMethod ({ cls := "java/util/ArrayList", name := "<init>", desc := "()V" } : Jvm.MethodName)) ∈ lw_all := lw_g (lw_at lw_m1 65 rfl) rfl
theorem q135 : (Jvm.Cond.code ({ cls := "java/util/ArrayList", name := "<init>", desc := "()V" } : Jvm.MethodName) prog_50_method_2_code (1 : Nat) (Option.none : Option Jvm.ClassFile.FieldType)) ∈ lw_all := lw_g (lw_at lw_m1 66 rfl) rfl
theorem q136 : (Jvm.Cond.methodLink "java/util/ArrayList" (1 : Nat) ({ cls := "java/util/AbstractList", name := "<init>", desc := "()V" } : Jvm.MethodName)) ∈ lw_all := lw_g (lw_at lw_m1 67 rfl) rfl
theorem q143 : (Jvm.Cond.fieldLink "java/util/ArrayList" (39 : Nat) "java/util/ArrayList" "DEFAULTCAPACITY_EMPTY_ELEMENTDATA" "[Ljava/lang/Object;") ∈ lw_all := lw_g (lw_at lw_m1 74 rfl) rfl
theorem q144 : (Jvm.Cond.laysStatic "java/util/ArrayList" "DEFAULTCAPACITY_EMPTY_ELEMENTDATA" "[Ljava/lang/Object;") ∈ lw_tbl := lw_at lw_m1 75 rfl
theorem q145 : (Jvm.Cond.fieldLink "java/util/ArrayList" (9 : Nat) "java/util/ArrayList" "elementData" "[Ljava/lang/Object;") ∈ lw_all := lw_g (lw_at lw_m1 76 rfl) rfl
theorem q148 : (Jvm.Cond.fieldLink "java/util/ArrayList" (48 : Nat) "java/util/ArrayList" "size" "I") ∈ lw_all := lw_g (lw_at lw_m1 79 rfl) rfl
theorem q153 : (Jvm.Cond.sameField "java/util/ArrayList" "java/util/AbstractList" "modCount" "I") ∈ lw_all := lw_g (lw_at lw_m1 84 rfl) rfl
theorem q156 : (Jvm.Cond.fieldLink "java/util/ArrayList" (63 : Nat) "java/util/ArrayList" "modCount" "I") ∈ lw_all := lw_g (lw_at lw_m1 87 rfl) rfl
theorem q157 : (Jvm.Cond.lays "java/util/ArrayList" "java/util/ArrayList" "elementData" "[Ljava/lang/Object;") ∈ lw_all := lw_g (lw_at lw_m1 88 rfl) rfl
theorem q158 : (Jvm.Cond.soleField "java/util/ArrayList" "elementData") ∈ lw_all := lw_g (lw_at lw_m1 89 rfl) rfl
theorem q159 : (Jvm.Cond.lays "java/util/ArrayList" "java/util/ArrayList" "size" "I") ∈ lw_all := lw_g (lw_at lw_m1 90 rfl) rfl
theorem q160 : (Jvm.Cond.soleField "java/util/ArrayList" "size") ∈ lw_all := lw_g (lw_at lw_m1 91 rfl) rfl
theorem q161 : (Jvm.Cond.lays "java/util/ArrayList" "java/util/AbstractList" "modCount" "I") ∈ lw_all := lw_g (lw_at lw_m1 92 rfl) rfl
theorem q163 : (Jvm.Cond.superclass "java/util/ArrayList" "java/util/AbstractList") ∈ lw_all := lw_g (lw_at lw_m1 94 rfl) rfl
theorem q187 : (Jvm.Cond.castable "java/util/ArrayList" "java/util/List") ∈ lw_tbl := lw_at lw_m1 118 rfl
theorem q188 : (Jvm.Cond.selects "java/util/ArrayList" ({ cls := "java/util/List", name := "add", desc := "(Ljava/lang/Object;)Z" } : Jvm.MethodName) ({ cls := "java/util/ArrayList", name := "add", desc := "(Ljava/lang/Object;)Z" } : Jvm.MethodName)) ∈ lw_all := lw_g (lw_at lw_m1 119 rfl) rfl
theorem q189 : (Jvm.Cond.unhidden "java/util/ArrayList" "add" "(Ljava/lang/Object;)Z") ∈ lw_tbl := lw_at lw_m1 120 rfl
theorem q190 : (Jvm.Cond.instanceMethod ({ cls := "java/util/ArrayList", name := "add", desc := "(Ljava/lang/Object;)Z" } : Jvm.MethodName)) ∈ lw_all := lw_g (lw_at lw_m1 121 rfl) rfl
theorem q191 : (Jvm.Cond.publicMethod ({ cls := "java/util/ArrayList", name := "add", desc := "(Ljava/lang/Object;)Z" } : Jvm.MethodName)) ∈ lw_tbl := lw_at lw_m1 122 rfl
theorem q192 : (Jvm.Cond.code ({ cls := "java/util/ArrayList", name := "add", desc := "(Ljava/lang/Object;)Z" } : Jvm.MethodName) prog_50_method_25_code (2 : Nat) (Option.some Jvm.ClassFile.FieldType.boolean)) ∈ lw_all := lw_g (lw_at lw_m1 123 rfl) rfl
theorem q193 : (Jvm.Cond.methodLink "java/util/ArrayList" (131 : Nat) ({ cls := "java/util/ArrayList", name := "add", desc := "(Ljava/lang/Object;[Ljava/lang/Object;I)V" } : Jvm.MethodName)) ∈ lw_all := lw_g (lw_at lw_m1 124 rfl) rfl
theorem q194 : (Jvm.Cond.privateMethod ({ cls := "java/util/ArrayList", name := "add", desc := "(Ljava/lang/Object;[Ljava/lang/Object;I)V" } : Jvm.MethodName)) ∈ lw_tbl := lw_at lw_m1 125 rfl
theorem q195 : (Jvm.Cond.instanceMethod ({ cls := "java/util/ArrayList", name := "add", desc := "(Ljava/lang/Object;[Ljava/lang/Object;I)V" } : Jvm.MethodName)) ∈ lw_all := lw_g (lw_at lw_m1 126 rfl) rfl
theorem q196 : (Jvm.Cond.code ({ cls := "java/util/ArrayList", name := "add", desc := "(Ljava/lang/Object;[Ljava/lang/Object;I)V" } : Jvm.MethodName) prog_50_method_24_code (4 : Nat) (Option.none : Option Jvm.ClassFile.FieldType)) ∈ lw_all := lw_g (lw_at lw_m1 127 rfl) rfl
theorem q197 : (Jvm.Cond.methodLink "java/util/ArrayList" (129 : Nat) ({ cls := "java/util/ArrayList", name := "grow", desc := "()[Ljava/lang/Object;" } : Jvm.MethodName)) ∈ lw_all := lw_g (lw_at lw_m1 128 rfl) rfl
theorem q198 : (Jvm.Cond.privateMethod ({ cls := "java/util/ArrayList", name := "grow", desc := "()[Ljava/lang/Object;" } : Jvm.MethodName)) ∈ lw_tbl := lw_at lw_m1 129 rfl
theorem q199 : (Jvm.Cond.instanceMethod ({ cls := "java/util/ArrayList", name := "grow", desc := "()[Ljava/lang/Object;" } : Jvm.MethodName)) ∈ lw_all := lw_g (lw_at lw_m1 130 rfl) rfl
theorem q200 : (Jvm.Cond.code ({ cls := "java/util/ArrayList", name := "grow", desc := "()[Ljava/lang/Object;" } : Jvm.MethodName) prog_50_method_7_code (1 : Nat) (Option.some (Jvm.ClassFile.FieldType.array (Jvm.ClassFile.FieldType.object "java/lang/Object")))) ∈ lw_all := lw_g (lw_at lw_m1 131 rfl) rfl
theorem q201 : (Jvm.Cond.methodLink "java/util/ArrayList" (69 : Nat) ({ cls := "java/util/ArrayList", name := "grow", desc := "(I)[Ljava/lang/Object;" } : Jvm.MethodName)) ∈ lw_all := lw_g (lw_at lw_m1 132 rfl) rfl
theorem q202 : (Jvm.Cond.privateMethod ({ cls := "java/util/ArrayList", name := "grow", desc := "(I)[Ljava/lang/Object;" } : Jvm.MethodName)) ∈ lw_tbl := lw_at lw_m1 133 rfl
theorem q203 : (Jvm.Cond.instanceMethod ({ cls := "java/util/ArrayList", name := "grow", desc := "(I)[Ljava/lang/Object;" } : Jvm.MethodName)) ∈ lw_all := lw_g (lw_at lw_m1 134 rfl) rfl
theorem q204 : (Jvm.Cond.code ({ cls := "java/util/ArrayList", name := "grow", desc := "(I)[Ljava/lang/Object;" } : Jvm.MethodName) prog_50_method_6_code (4 : Nat) (Option.some (Jvm.ClassFile.FieldType.array (Jvm.ClassFile.FieldType.object "java/lang/Object")))) ∈ lw_all := lw_g (lw_at lw_m1 135 rfl) rfl
theorem q205 : (Jvm.Cond.methodLink "java/util/ArrayList" (73 : Nat) ({ cls := "jdk/internal/util/ArraysSupport", name := "newLength", desc := "(III)I" } : Jvm.MethodName)) ∈ lw_all := lw_g (lw_at lw_m1 136 rfl) rfl
theorem q215 : (Jvm.Cond.methodLink "java/util/ArrayList" (66 : Nat) ({ cls := "java/util/Arrays", name := "copyOf", desc := "([Ljava/lang/Object;I)[Ljava/lang/Object;" } : Jvm.MethodName)) ∈ lw_all := lw_g (lw_at lw_m1 146 rfl) rfl
theorem q243 : (Jvm.Cond.selects "java/util/ArrayList" ({ cls := "java/lang/Object", name := "getClass", desc := "()Ljava/lang/Class;" } : Jvm.MethodName) ({ cls := "java/lang/Object", name := "getClass", desc := "()Ljava/lang/Class;" } : Jvm.MethodName)) ∈ lw_all := lw_g (lw_at lw_m1 174 rfl) rfl
theorem q264 : (Jvm.Cond.methodLink "java/util/ArrayList" (79 : Nat) ({ cls := "java/lang/Math", name := "max", desc := "(II)I" } : Jvm.MethodName)) ∈ lw_all := lw_g (lw_at lw_m1 195 rfl) rfl
theorem q265 : (Jvm.Cond.classLink "java/util/ArrayList" (7 : Nat) "java/lang/Object") ∈ lw_all := lw_g (lw_at lw_m1 196 rfl) rfl
theorem q370 : (Jvm.Cond.selects "java/util/ArrayList" ({ cls := "java/util/List", name := "clear", desc := "()V" } : Jvm.MethodName) ({ cls := "java/util/ArrayList", name := "clear", desc := "()V" } : Jvm.MethodName)) ∈ lw_all := lw_g (lw_at lw_m2 61 rfl) rfl
theorem q371 : (Jvm.Cond.unhidden "java/util/ArrayList" "clear" "()V") ∈ lw_tbl := lw_at lw_m2 62 rfl
theorem q372 : (Jvm.Cond.instanceMethod ({ cls := "java/util/ArrayList", name := "clear", desc := "()V" } : Jvm.MethodName)) ∈ lw_all := lw_g (lw_at lw_m2 63 rfl) rfl
theorem q373 : (Jvm.Cond.publicMethod ({ cls := "java/util/ArrayList", name := "clear", desc := "()V" } : Jvm.MethodName)) ∈ lw_tbl := lw_at lw_m2 64 rfl
theorem q374 : (Jvm.Cond.code ({ cls := "java/util/ArrayList", name := "clear", desc := "()V" } : Jvm.MethodName) prog_50_method_40_code (4 : Nat) (Option.none : Option Jvm.ClassFile.FieldType)) ∈ lw_all := lw_g (lw_at lw_m2 65 rfl) rfl
theorem q395 : (Jvm.Cond.selects "java/util/ArrayList" ({ cls := "java/util/List", name := "size", desc := "()I" } : Jvm.MethodName) ({ cls := "java/util/ArrayList", name := "size", desc := "()I" } : Jvm.MethodName)) ∈ lw_all := lw_g (lw_at lw_m2 86 rfl) rfl
theorem q396 : (Jvm.Cond.unhidden "java/util/ArrayList" "size" "()I") ∈ lw_tbl := lw_at lw_m2 87 rfl
theorem q397 : (Jvm.Cond.instanceMethod ({ cls := "java/util/ArrayList", name := "size", desc := "()I" } : Jvm.MethodName)) ∈ lw_all := lw_g (lw_at lw_m2 88 rfl) rfl
theorem q398 : (Jvm.Cond.publicMethod ({ cls := "java/util/ArrayList", name := "size", desc := "()I" } : Jvm.MethodName)) ∈ lw_tbl := lw_at lw_m2 89 rfl
theorem q399 : (Jvm.Cond.code ({ cls := "java/util/ArrayList", name := "size", desc := "()I" } : Jvm.MethodName) prog_50_method_8_code (1 : Nat) (Option.some Jvm.ClassFile.FieldType.int)) ∈ lw_all := lw_g (lw_at lw_m2 90 rfl) rfl
theorem q417 : (Jvm.Cond.selects "java/util/ArrayList" ({ cls := "java/util/List", name := "get", desc := "(I)Ljava/lang/Object;" } : Jvm.MethodName) ({ cls := "java/util/ArrayList", name := "get", desc := "(I)Ljava/lang/Object;" } : Jvm.MethodName)) ∈ lw_all := lw_g (lw_at lw_m2 108 rfl) rfl
theorem q418 : (Jvm.Cond.unhidden "java/util/ArrayList" "get" "(I)Ljava/lang/Object;") ∈ lw_tbl := lw_at lw_m2 109 rfl
theorem q419 : (Jvm.Cond.instanceMethod ({ cls := "java/util/ArrayList", name := "get", desc := "(I)Ljava/lang/Object;" } : Jvm.MethodName)) ∈ lw_all := lw_g (lw_at lw_m2 110 rfl) rfl
theorem q420 : (Jvm.Cond.publicMethod ({ cls := "java/util/ArrayList", name := "get", desc := "(I)Ljava/lang/Object;" } : Jvm.MethodName)) ∈ lw_tbl := lw_at lw_m2 111 rfl
theorem q421 : (Jvm.Cond.code ({ cls := "java/util/ArrayList", name := "get", desc := "(I)Ljava/lang/Object;" } : Jvm.MethodName) prog_50_method_20_code (2 : Nat) (Option.some (Jvm.ClassFile.FieldType.object "java/lang/Object"))) ∈ lw_all := lw_g (lw_at lw_m2 112 rfl) rfl
theorem q422 : (Jvm.Cond.methodLink "java/util/ArrayList" (118 : Nat) ({ cls := "java/util/Objects", name := "checkIndex", desc := "(II)I" } : Jvm.MethodName)) ∈ lw_all := lw_g (lw_at lw_m2 113 rfl) rfl
theorem q428 : (Jvm.Cond.methodLink "java/util/ArrayList" (123 : Nat) ({ cls := "java/util/ArrayList", name := "elementData", desc := "(I)Ljava/lang/Object;" } : Jvm.MethodName)) ∈ lw_all := lw_g (lw_at lw_m2 119 rfl) rfl
theorem q429 : (Jvm.Cond.instanceMethod ({ cls := "java/util/ArrayList", name := "elementData", desc := "(I)Ljava/lang/Object;" } : Jvm.MethodName)) ∈ lw_all := lw_g (lw_at lw_m2 120 rfl) rfl
theorem q430 : (Jvm.Cond.selects "java/util/ArrayList" ({ cls := "java/util/ArrayList", name := "elementData", desc := "(I)Ljava/lang/Object;" } : Jvm.MethodName) ({ cls := "java/util/ArrayList", name := "elementData", desc := "(I)Ljava/lang/Object;" } : Jvm.MethodName)) ∈ lw_all := lw_g (lw_at lw_m2 121 rfl) rfl
theorem q431 : (Jvm.Cond.code ({ cls := "java/util/ArrayList", name := "elementData", desc := "(I)Ljava/lang/Object;" } : Jvm.MethodName) prog_50_method_18_code (2 : Nat) (Option.some (Jvm.ClassFile.FieldType.object "java/lang/Object"))) ∈ lw_all := lw_g (lw_at lw_m2 122 rfl) rfl
theorem q785 : (Jvm.Cond.selects "java/util/ArrayList" ({ cls := "java/util/List", name := "iterator", desc := "()Ljava/util/Iterator;" } : Jvm.MethodName) ({ cls := "java/util/ArrayList", name := "iterator", desc := "()Ljava/util/Iterator;" } : Jvm.MethodName)) ∈ lw_all := lw_g (lw_at lw_m3 236 rfl) rfl
theorem q786 : (Jvm.Cond.unhidden "java/util/ArrayList" "iterator" "()Ljava/util/Iterator;") ∈ lw_tbl := lw_at lw_m3 237 rfl
theorem q787 : (Jvm.Cond.instanceMethod ({ cls := "java/util/ArrayList", name := "iterator", desc := "()Ljava/util/Iterator;" } : Jvm.MethodName)) ∈ lw_all := lw_g (lw_at lw_m3 238 rfl) rfl
theorem q788 : (Jvm.Cond.publicMethod ({ cls := "java/util/ArrayList", name := "iterator", desc := "()Ljava/util/Iterator;" } : Jvm.MethodName)) ∈ lw_tbl := lw_at lw_m3 239 rfl
theorem q789 : (Jvm.Cond.code ({ cls := "java/util/ArrayList", name := "iterator", desc := "()Ljava/util/Iterator;" } : Jvm.MethodName) prog_50_method_55_code (1 : Nat) (Option.some (Jvm.ClassFile.FieldType.object "java/util/Iterator"))) ∈ lw_all := lw_g (lw_at lw_m4 0 rfl) rfl
theorem q790 : (Jvm.Cond.classLink "java/util/ArrayList" (267 : Nat) "java/util/ArrayList$Itr") ∈ lw_all := lw_g (lw_at lw_m4 1 rfl) rfl
theorem q792 : (Jvm.Cond.methodLink "java/util/ArrayList" (269 : Nat) ({ cls := "java/util/ArrayList$Itr", name := "<init>", desc := "(Ljava/util/ArrayList;)V" } : Jvm.MethodName)) ∈ lw_all := lw_g (lw_at lw_m4 3 rfl) rfl
theorem q825 : (Jvm.Cond.selects "java/util/ArrayList" ({ cls := "java/util/AbstractList", name := "listIterator", desc := "(I)Ljava/util/ListIterator;" } : Jvm.MethodName) ({ cls := "java/util/ArrayList", name := "listIterator", desc := "(I)Ljava/util/ListIterator;" } : Jvm.MethodName)) ∈ lw_all := lw_g (lw_at lw_m4 36 rfl) rfl
theorem q826 : (Jvm.Cond.instanceMethod ({ cls := "java/util/ArrayList", name := "listIterator", desc := "(I)Ljava/util/ListIterator;" } : Jvm.MethodName)) ∈ lw_all := lw_g (lw_at lw_m4 37 rfl) rfl
theorem q827 : (Jvm.Cond.code ({ cls := "java/util/ArrayList", name := "listIterator", desc := "(I)Ljava/util/ListIterator;" } : Jvm.MethodName) prog_50_method_53_code (2 : Nat) (Option.some (Jvm.ClassFile.FieldType.object "java/util/ListIterator"))) ∈ lw_all := lw_g (lw_at lw_m4 38 rfl) rfl
theorem q828 : (Jvm.Cond.methodLink "java/util/ArrayList" (135 : Nat) ({ cls := "java/util/ArrayList", name := "rangeCheckForAdd", desc := "(I)V" } : Jvm.MethodName)) ∈ lw_all := lw_g (lw_at lw_m4 39 rfl) rfl
theorem q829 : (Jvm.Cond.privateMethod ({ cls := "java/util/ArrayList", name := "rangeCheckForAdd", desc := "(I)V" } : Jvm.MethodName)) ∈ lw_tbl := lw_at lw_m4 40 rfl
theorem q830 : (Jvm.Cond.instanceMethod ({ cls := "java/util/ArrayList", name := "rangeCheckForAdd", desc := "(I)V" } : Jvm.MethodName)) ∈ lw_all := lw_g (lw_at lw_m4 41 rfl) rfl
theorem q831 : (Jvm.Cond.code ({ cls := "java/util/ArrayList", name := "rangeCheckForAdd", desc := "(I)V" } : Jvm.MethodName) prog_50_method_45_code (2 : Nat) (Option.none : Option Jvm.ClassFile.FieldType)) ∈ lw_all := lw_g (lw_at lw_m4 42 rfl) rfl
theorem q832 : (Jvm.Cond.classLink "java/util/ArrayList" (187 : Nat) "java/lang/IndexOutOfBoundsException") ∈ lw_all := lw_g (lw_at lw_m4 43 rfl) rfl
theorem q833 : (Jvm.Cond.methodLink "java/util/ArrayList" (198 : Nat) ({ cls := "java/util/ArrayList", name := "outOfBoundsMsg", desc := "(I)Ljava/lang/String;" } : Jvm.MethodName)) ∈ lw_all := lw_g (lw_at lw_m4 44 rfl) rfl
theorem q834 : (Jvm.Cond.privateMethod ({ cls := "java/util/ArrayList", name := "outOfBoundsMsg", desc := "(I)Ljava/lang/String;" } : Jvm.MethodName)) ∈ lw_tbl := lw_at lw_m4 45 rfl
theorem q835 : (Jvm.Cond.instanceMethod ({ cls := "java/util/ArrayList", name := "outOfBoundsMsg", desc := "(I)Ljava/lang/String;" } : Jvm.MethodName)) ∈ lw_all := lw_g (lw_at lw_m4 46 rfl) rfl
theorem q836 : (Jvm.Cond.code ({ cls := "java/util/ArrayList", name := "outOfBoundsMsg", desc := "(I)Ljava/lang/String;" } : Jvm.MethodName) prog_50_method_46_code (2 : Nat) (Option.some (Jvm.ClassFile.FieldType.object "java/lang/String"))) ∈ lw_all := lw_g (lw_at lw_m4 47 rfl) rfl
theorem q837 : (Jvm.Cond.classLink "java/util/ArrayList" (20 : Nat) "java/lang/StringBuilder") ∈ lw_all := lw_g (lw_at lw_m4 48 rfl) rfl
theorem q838 : (Jvm.Cond.methodLink "java/util/ArrayList" (22 : Nat) ({ cls := "java/lang/StringBuilder", name := "<init>", desc := "()V" } : Jvm.MethodName)) ∈ lw_all := lw_g (lw_at lw_m4 49 rfl) rfl
theorem q839 : (Jvm.Cond.stringRef "java/util/ArrayList" (201 : Nat) "Index: ") ∈ lw_tbl := lw_at lw_m4 50 rfl
theorem q840 : (Jvm.Cond.methodLink "java/util/ArrayList" (25 : Nat) ({ cls := "java/lang/StringBuilder", name := "append", desc := "(Ljava/lang/String;)Ljava/lang/StringBuilder;" } : Jvm.MethodName)) ∈ lw_all := lw_g (lw_at lw_m4 51 rfl) rfl
theorem q841 : (Jvm.Cond.methodLink "java/util/ArrayList" (29 : Nat) ({ cls := "java/lang/StringBuilder", name := "append", desc := "(I)Ljava/lang/StringBuilder;" } : Jvm.MethodName)) ∈ lw_all := lw_g (lw_at lw_m4 52 rfl) rfl
theorem q842 : (Jvm.Cond.stringRef "java/util/ArrayList" (203 : Nat) ", Size: ") ∈ lw_tbl := lw_at lw_m4 53 rfl
theorem q843 : (Jvm.Cond.methodLink "java/util/ArrayList" (32 : Nat) ({ cls := "java/lang/StringBuilder", name := "toString", desc := "()Ljava/lang/String;" } : Jvm.MethodName)) ∈ lw_all := lw_g (lw_at lw_m4 54 rfl) rfl
theorem q844 : (Jvm.Cond.methodLink "java/util/ArrayList" (193 : Nat) ({ cls := "java/lang/IndexOutOfBoundsException", name := "<init>", desc := "(Ljava/lang/String;)V" } : Jvm.MethodName)) ∈ lw_all := lw_g (lw_at lw_m4 55 rfl) rfl
theorem q845 : (Jvm.Cond.classLink "java/util/ArrayList" (262 : Nat) "java/util/ArrayList$ListItr") ∈ lw_all := lw_g (lw_at lw_m4 56 rfl) rfl
theorem q847 : (Jvm.Cond.methodLink "java/util/ArrayList" (264 : Nat) ({ cls := "java/util/ArrayList$ListItr", name := "<init>", desc := "(Ljava/util/ArrayList;I)V" } : Jvm.MethodName)) ∈ lw_all := lw_g (lw_at lw_m4 58 rfl) rfl
theorem q913 : (Jvm.Cond.selects "java/util/ArrayList" ({ cls := "java/util/AbstractList", name := "size", desc := "()I" } : Jvm.MethodName) ({ cls := "java/util/ArrayList", name := "size", desc := "()I" } : Jvm.MethodName)) ∈ lw_all := lw_g (lw_at lw_m4 124 rfl) rfl
theorem q1032 : (Jvm.Cond.selects "java/util/ArrayList" ({ cls := "java/util/AbstractList", name := "get", desc := "(I)Ljava/lang/Object;" } : Jvm.MethodName) ({ cls := "java/util/ArrayList", name := "get", desc := "(I)Ljava/lang/Object;" } : Jvm.MethodName)) ∈ lw_all := lw_g (lw_at lw_m5 3 rfl) rfl
theorem q2062 : (Jvm.Cond.castable "java/util/ArrayList" "java/lang/Object") ∈ lw_tbl := lw_at lw_m9 73 rfl
theorem in_J2 : ∀ w ∈ wsJ20, w ∈ lw_all := lw_in wsJ20 [161, 157, 159] (by decide +kernel) (by decide +kernel)
/-! java/lang/Number -/
set_option maxRecDepth 100000
def RJ23 : String := "java/lang/Number"
abbrev cJ23_init : ByteArray := prog_33_method_1_code
def yJ23_init : MethodName := ⟨RJ23, "<init>", "()V"⟩
theorem dJ23_init_0 : decode cJ23_init 0 = .ok (.aload_n 0, 1) := by decide +kernel
theorem dJ23_init_1 : decode cJ23_init 1 = .ok (.invokespecial 1, 3) := by decide +kernel
theorem dJ23_init_4 : decode cJ23_init 4 = .ok (.return_, 1) := by decide +kernel
theorem q98 : (Jvm.Cond.initialized "java/lang/Number") ∈ lw_all := lw_g (lw_at lw_m1 29 rfl) rfl
theorem q1012 : (Jvm.Cond.instanceMethod ({ cls := "java/lang/Number", name := "<init>", desc := "()V" } : Jvm.MethodName)) ∈ lw_all := lw_g (lw_at lw_m4 223 rfl) rfl
theorem q1013 : (Jvm.Cond.code ({ cls := "java/lang/Number", name := "<init>", desc := "()V" } : Jvm.MethodName) prog_33_method_1_code (1 : Nat) (Option.none : Option Jvm.ClassFile.FieldType)) ∈ lw_all := lw_g (lw_at lw_m4 224 rfl) rfl
theorem q1014 : (Jvm.Cond.methodLink "java/lang/Number" (1 : Nat) ({ cls := "java/lang/Object", name := "<init>", desc := "()V" } : Jvm.MethodName)) ∈ lw_all := lw_g (lw_at lw_m4 225 rfl) rfl
/-! java/lang/Integer -/
set_option maxRecDepth 100000
def RJ24 : String := "java/lang/Integer"
def TJ24 : u_T := fun k => match k with
  | _ => ("java/lang/Integer", "value", "I", true)
def tyJ24 : Nat → FieldType := fun k => match k with
  | _ => .int
abbrev wsJ240 : List Cond := u_ws RJ24 TJ24 1
theorem nmJ24 : ∀ a, a < 1 → ∀ b, b < 1 → a ≠ b → (TJ24 a).2.1 ≠ (TJ24 b).2.1 := by decide +kernel
theorem tyJ24_ok : ∀ k, k < 1 → parseFieldDescriptor (TJ24 k).2.2.1 = some (tyJ24 k) := by decide +kernel
abbrev cJ24_stringSize : ByteArray := prog_28_method_13_code
def yJ24_stringSize : MethodName := ⟨RJ24, "stringSize", "(I)I"⟩
def dkwJ24_stringSize_1 : List UInt8 := [164, 0, 7, 29, 27, 96, 172, 16, 10, 28, 104, 61, 132, 3, 1, 167, 255, 233, 16, 10, 27, 96, 172]
abbrev dktJ24_stringSize_1 : List UInt8 := dkwJ24_stringSize_1 ++ []
def dkwJ24_stringSize_0 : List UInt8 := [4, 60, 26, 155, 0, 8, 3, 60, 26, 116, 59, 16, 246, 61, 4, 62, 29, 16, 10, 162, 0, 23, 26, 28]
abbrev dktJ24_stringSize_0 : List UInt8 := dkwJ24_stringSize_0 ++ dktJ24_stringSize_1
theorem dksJ24_stringSize_0 : cJ24_stringSize.data.toList.drop 0 = dktJ24_stringSize_0 := by decide +kernel
theorem dksJ24_stringSize_1 : cJ24_stringSize.data.toList.drop 24 = dktJ24_stringSize_1 := dk_seg dksJ24_stringSize_0 24 rfl rfl
theorem dJ24_stringSize_0 : decode cJ24_stringSize 0 = .ok (.iconst 1, 1) := dk_4 (dk_at dksJ24_stringSize_0 0 rfl rfl)
theorem dJ24_stringSize_1 : decode cJ24_stringSize 1 = .ok (.istore_n 1, 1) := dk_60 (dk_at dksJ24_stringSize_0 1 rfl rfl)
theorem dJ24_stringSize_2 : decode cJ24_stringSize 2 = .ok (.iload_n 0, 1) := dk_26 (dk_at dksJ24_stringSize_0 2 rfl rfl)
theorem dJ24_stringSize_3 : decode cJ24_stringSize 3 = .ok (.ifCond .lt 8, 3) := dk_155 0 8 (dk_at dksJ24_stringSize_0 3 rfl rfl)
theorem dJ24_stringSize_6 : decode cJ24_stringSize 6 = .ok (.iconst 0, 1) := dk_3 (dk_at dksJ24_stringSize_0 6 rfl rfl)
theorem dJ24_stringSize_7 : decode cJ24_stringSize 7 = .ok (.istore_n 1, 1) := dk_60 (dk_at dksJ24_stringSize_0 7 rfl rfl)
theorem dJ24_stringSize_8 : decode cJ24_stringSize 8 = .ok (.iload_n 0, 1) := dk_26 (dk_at dksJ24_stringSize_0 8 rfl rfl)
theorem dJ24_stringSize_9 : decode cJ24_stringSize 9 = .ok (.ineg, 1) := dk_116 (dk_at dksJ24_stringSize_0 9 rfl rfl)
theorem dJ24_stringSize_10 : decode cJ24_stringSize 10 = .ok (.istore_n 0, 1) := dk_59 (dk_at dksJ24_stringSize_0 10 rfl rfl)
theorem dJ24_stringSize_11 : decode cJ24_stringSize 11 = .ok (.bipush (-10), 2) := dk_16 246 (dk_at dksJ24_stringSize_0 11 rfl rfl)
theorem dJ24_stringSize_13 : decode cJ24_stringSize 13 = .ok (.istore_n 2, 1) := dk_61 (dk_at dksJ24_stringSize_0 13 rfl rfl)
theorem dJ24_stringSize_14 : decode cJ24_stringSize 14 = .ok (.iconst 1, 1) := dk_4 (dk_at dksJ24_stringSize_0 14 rfl rfl)
theorem dJ24_stringSize_15 : decode cJ24_stringSize 15 = .ok (.istore_n 3, 1) := dk_62 (dk_at dksJ24_stringSize_0 15 rfl rfl)
theorem dJ24_stringSize_16 : decode cJ24_stringSize 16 = .ok (.iload_n 3, 1) := dk_29 (dk_at dksJ24_stringSize_0 16 rfl rfl)
theorem dJ24_stringSize_17 : decode cJ24_stringSize 17 = .ok (.bipush 10, 2) := dk_16 10 (dk_at dksJ24_stringSize_0 17 rfl rfl)
theorem dJ24_stringSize_19 : decode cJ24_stringSize 19 = .ok (.if_icmp .ge 23, 3) := dk_162 0 23 (dk_at dksJ24_stringSize_0 19 rfl rfl)
theorem dJ24_stringSize_22 : decode cJ24_stringSize 22 = .ok (.iload_n 0, 1) := dk_26 (dk_at dksJ24_stringSize_0 22 rfl rfl)
theorem dJ24_stringSize_23 : decode cJ24_stringSize 23 = .ok (.iload_n 2, 1) := dk_28 (dk_at dksJ24_stringSize_0 23 rfl rfl)
theorem dJ24_stringSize_24 : decode cJ24_stringSize 24 = .ok (.if_icmp .le 7, 3) := dk_164 0 7 (dk_at dksJ24_stringSize_1 0 rfl rfl)
theorem dJ24_stringSize_27 : decode cJ24_stringSize 27 = .ok (.iload_n 3, 1) := dk_29 (dk_at dksJ24_stringSize_1 3 rfl rfl)
theorem dJ24_stringSize_28 : decode cJ24_stringSize 28 = .ok (.iload_n 1, 1) := dk_27 (dk_at dksJ24_stringSize_1 4 rfl rfl)
theorem dJ24_stringSize_29 : decode cJ24_stringSize 29 = .ok (.iadd, 1) := dk_96 (dk_at dksJ24_stringSize_1 5 rfl rfl)
theorem dJ24_stringSize_30 : decode cJ24_stringSize 30 = .ok (.ireturn, 1) := dk_172 (dk_at dksJ24_stringSize_1 6 rfl rfl)
theorem dJ24_stringSize_31 : decode cJ24_stringSize 31 = .ok (.bipush 10, 2) := dk_16 10 (dk_at dksJ24_stringSize_1 7 rfl rfl)
theorem dJ24_stringSize_33 : decode cJ24_stringSize 33 = .ok (.iload_n 2, 1) := dk_28 (dk_at dksJ24_stringSize_1 9 rfl rfl)
theorem dJ24_stringSize_34 : decode cJ24_stringSize 34 = .ok (.imul, 1) := dk_104 (dk_at dksJ24_stringSize_1 10 rfl rfl)
theorem dJ24_stringSize_35 : decode cJ24_stringSize 35 = .ok (.istore_n 2, 1) := dk_61 (dk_at dksJ24_stringSize_1 11 rfl rfl)
theorem dJ24_stringSize_36 : decode cJ24_stringSize 36 = .ok (.iinc 3 1, 3) := dk_132 3 1 (dk_at dksJ24_stringSize_1 12 rfl rfl)
theorem dJ24_stringSize_39 : decode cJ24_stringSize 39 = .ok (.goto (-23), 3) := dk_167 255 233 (dk_at dksJ24_stringSize_1 15 rfl rfl)
theorem dJ24_stringSize_42 : decode cJ24_stringSize 42 = .ok (.bipush 10, 2) := dk_16 10 (dk_at dksJ24_stringSize_1 18 rfl rfl)
theorem dJ24_stringSize_44 : decode cJ24_stringSize 44 = .ok (.iload_n 1, 1) := dk_27 (dk_at dksJ24_stringSize_1 20 rfl rfl)
theorem dJ24_stringSize_45 : decode cJ24_stringSize 45 = .ok (.iadd, 1) := dk_96 (dk_at dksJ24_stringSize_1 21 rfl rfl)
theorem dJ24_stringSize_46 : decode cJ24_stringSize 46 = .ok (.ireturn, 1) := dk_172 (dk_at dksJ24_stringSize_1 22 rfl rfl)
abbrev cJ24_getChars : ByteArray := prog_28_method_12_code
def yJ24_getChars : MethodName := ⟨RJ24, "getChars", "(II[B)I"⟩
def dkwJ24_getChars_5 : List UInt8 := [16, 45, 84, 21, 5, 172]
abbrev dktJ24_getChars_5 : List UInt8 := dkwJ24_getChars_5 ++ []
def dkwJ24_getChars_4 : List UInt8 := [132, 5, 255, 21, 5, 178, 0, 87, 26, 116, 51, 84, 21, 6, 153, 0, 12, 44, 132, 5, 255, 21, 5]
abbrev dktJ24_getChars_4 : List UInt8 := dkwJ24_getChars_4 ++ dktJ24_getChars_5
def dkwJ24_getChars_3 : List UInt8 := [167, 255, 209, 44, 132, 5, 255, 21, 5, 178, 0, 83, 26, 116, 51, 84, 26, 16, 247, 162, 0, 16, 44]
abbrev dktJ24_getChars_3 : List UInt8 := dkwJ24_getChars_3 ++ dktJ24_getChars_4
def dkwJ24_getChars_2 : List UInt8 := [21, 5, 178, 0, 83, 21, 4, 51, 84, 44, 132, 5, 255, 21, 5, 178, 0, 87, 21, 4, 51, 84]
abbrev dktJ24_getChars_2 : List UInt8 := dkwJ24_getChars_2 ++ dktJ24_getChars_3
def dkwJ24_getChars_1 : List UInt8 := [16, 156, 163, 0, 47, 26, 16, 100, 108, 62, 29, 16, 100, 104, 26, 100, 54, 4, 29, 59, 44, 132, 5, 255]
abbrev dktJ24_getChars_1 : List UInt8 := dkwJ24_getChars_1 ++ dktJ24_getChars_2
def dkwJ24_getChars_0 : List UInt8 := [27, 54, 5, 26, 156, 0, 7, 4, 167, 0, 4, 3, 54, 6, 21, 6, 154, 0, 6, 26, 116, 59, 26]
abbrev dktJ24_getChars_0 : List UInt8 := dkwJ24_getChars_0 ++ dktJ24_getChars_1
theorem dksJ24_getChars_0 : cJ24_getChars.data.toList.drop 0 = dktJ24_getChars_0 := by decide +kernel
theorem dksJ24_getChars_1 : cJ24_getChars.data.toList.drop 23 = dktJ24_getChars_1 := dk_seg dksJ24_getChars_0 23 rfl rfl
theorem dksJ24_getChars_2 : cJ24_getChars.data.toList.drop 47 = dktJ24_getChars_2 := dk_seg dksJ24_getChars_1 24 rfl rfl
theorem dksJ24_getChars_3 : cJ24_getChars.data.toList.drop 69 = dktJ24_getChars_3 := dk_seg dksJ24_getChars_2 22 rfl rfl
theorem dksJ24_getChars_4 : cJ24_getChars.data.toList.drop 92 = dktJ24_getChars_4 := dk_seg dksJ24_getChars_3 23 rfl rfl
theorem dksJ24_getChars_5 : cJ24_getChars.data.toList.drop 115 = dktJ24_getChars_5 := dk_seg dksJ24_getChars_4 23 rfl rfl
theorem dJ24_getChars_0 : decode cJ24_getChars 0 = .ok (.iload_n 1, 1) := dk_27 (dk_at dksJ24_getChars_0 0 rfl rfl)
theorem dJ24_getChars_1 : decode cJ24_getChars 1 = .ok (.istore 5, 2) := dk_54 5 (dk_at dksJ24_getChars_0 1 rfl rfl)
theorem dJ24_getChars_3 : decode cJ24_getChars 3 = .ok (.iload_n 0, 1) := dk_26 (dk_at dksJ24_getChars_0 3 rfl rfl)
theorem dJ24_getChars_4 : decode cJ24_getChars 4 = .ok (.ifCond .ge 7, 3) := dk_156 0 7 (dk_at dksJ24_getChars_0 4 rfl rfl)
theorem dJ24_getChars_7 : decode cJ24_getChars 7 = .ok (.iconst 1, 1) := dk_4 (dk_at dksJ24_getChars_0 7 rfl rfl)
theorem dJ24_getChars_8 : decode cJ24_getChars 8 = .ok (.goto 4, 3) := dk_167 0 4 (dk_at dksJ24_getChars_0 8 rfl rfl)
theorem dJ24_getChars_11 : decode cJ24_getChars 11 = .ok (.iconst 0, 1) := dk_3 (dk_at dksJ24_getChars_0 11 rfl rfl)
theorem dJ24_getChars_12 : decode cJ24_getChars 12 = .ok (.istore 6, 2) := dk_54 6 (dk_at dksJ24_getChars_0 12 rfl rfl)
theorem dJ24_getChars_14 : decode cJ24_getChars 14 = .ok (.iload 6, 2) := dk_21 6 (dk_at dksJ24_getChars_0 14 rfl rfl)
theorem dJ24_getChars_16 : decode cJ24_getChars 16 = .ok (.ifCond .ne 6, 3) := dk_154 0 6 (dk_at dksJ24_getChars_0 16 rfl rfl)
theorem dJ24_getChars_19 : decode cJ24_getChars 19 = .ok (.iload_n 0, 1) := dk_26 (dk_at dksJ24_getChars_0 19 rfl rfl)
theorem dJ24_getChars_20 : decode cJ24_getChars 20 = .ok (.ineg, 1) := dk_116 (dk_at dksJ24_getChars_0 20 rfl rfl)
theorem dJ24_getChars_21 : decode cJ24_getChars 21 = .ok (.istore_n 0, 1) := dk_59 (dk_at dksJ24_getChars_0 21 rfl rfl)
theorem dJ24_getChars_22 : decode cJ24_getChars 22 = .ok (.iload_n 0, 1) := dk_26 (dk_at dksJ24_getChars_0 22 rfl rfl)
theorem dJ24_getChars_23 : decode cJ24_getChars 23 = .ok (.bipush (-100), 2) := dk_16 156 (dk_at dksJ24_getChars_1 0 rfl rfl)
theorem dJ24_getChars_25 : decode cJ24_getChars 25 = .ok (.if_icmp .gt 47, 3) := dk_163 0 47 (dk_at dksJ24_getChars_1 2 rfl rfl)
theorem dJ24_getChars_28 : decode cJ24_getChars 28 = .ok (.iload_n 0, 1) := dk_26 (dk_at dksJ24_getChars_1 5 rfl rfl)
theorem dJ24_getChars_29 : decode cJ24_getChars 29 = .ok (.bipush 100, 2) := dk_16 100 (dk_at dksJ24_getChars_1 6 rfl rfl)
theorem dJ24_getChars_31 : decode cJ24_getChars 31 = .ok (.idiv, 1) := dk_108 (dk_at dksJ24_getChars_1 8 rfl rfl)
theorem dJ24_getChars_32 : decode cJ24_getChars 32 = .ok (.istore_n 3, 1) := dk_62 (dk_at dksJ24_getChars_1 9 rfl rfl)
theorem dJ24_getChars_33 : decode cJ24_getChars 33 = .ok (.iload_n 3, 1) := dk_29 (dk_at dksJ24_getChars_1 10 rfl rfl)
theorem dJ24_getChars_34 : decode cJ24_getChars 34 = .ok (.bipush 100, 2) := dk_16 100 (dk_at dksJ24_getChars_1 11 rfl rfl)
theorem dJ24_getChars_36 : decode cJ24_getChars 36 = .ok (.imul, 1) := dk_104 (dk_at dksJ24_getChars_1 13 rfl rfl)
theorem dJ24_getChars_37 : decode cJ24_getChars 37 = .ok (.iload_n 0, 1) := dk_26 (dk_at dksJ24_getChars_1 14 rfl rfl)
theorem dJ24_getChars_38 : decode cJ24_getChars 38 = .ok (.isub, 1) := dk_100 (dk_at dksJ24_getChars_1 15 rfl rfl)
theorem dJ24_getChars_39 : decode cJ24_getChars 39 = .ok (.istore 4, 2) := dk_54 4 (dk_at dksJ24_getChars_1 16 rfl rfl)
theorem dJ24_getChars_41 : decode cJ24_getChars 41 = .ok (.iload_n 3, 1) := dk_29 (dk_at dksJ24_getChars_1 18 rfl rfl)
theorem dJ24_getChars_42 : decode cJ24_getChars 42 = .ok (.istore_n 0, 1) := dk_59 (dk_at dksJ24_getChars_1 19 rfl rfl)
theorem dJ24_getChars_43 : decode cJ24_getChars 43 = .ok (.aload_n 2, 1) := dk_44 (dk_at dksJ24_getChars_1 20 rfl rfl)
theorem dJ24_getChars_44 : decode cJ24_getChars 44 = .ok (.iinc 5 (-1), 3) := dk_132 5 255 (dk_at dksJ24_getChars_1 21 rfl rfl)
theorem dJ24_getChars_47 : decode cJ24_getChars 47 = .ok (.iload 5, 2) := dk_21 5 (dk_at dksJ24_getChars_2 0 rfl rfl)
theorem dJ24_getChars_49 : decode cJ24_getChars 49 = .ok (.getstatic 83, 3) := dk_178 0 83 (dk_at dksJ24_getChars_2 2 rfl rfl)
theorem dJ24_getChars_52 : decode cJ24_getChars 52 = .ok (.iload 4, 2) := dk_21 4 (dk_at dksJ24_getChars_2 5 rfl rfl)
theorem dJ24_getChars_54 : decode cJ24_getChars 54 = .ok (.baload, 1) := dk_51 (dk_at dksJ24_getChars_2 7 rfl rfl)
theorem dJ24_getChars_55 : decode cJ24_getChars 55 = .ok (.bastore, 1) := dk_84 (dk_at dksJ24_getChars_2 8 rfl rfl)
theorem dJ24_getChars_56 : decode cJ24_getChars 56 = .ok (.aload_n 2, 1) := dk_44 (dk_at dksJ24_getChars_2 9 rfl rfl)
theorem dJ24_getChars_57 : decode cJ24_getChars 57 = .ok (.iinc 5 (-1), 3) := dk_132 5 255 (dk_at dksJ24_getChars_2 10 rfl rfl)
theorem dJ24_getChars_60 : decode cJ24_getChars 60 = .ok (.iload 5, 2) := dk_21 5 (dk_at dksJ24_getChars_2 13 rfl rfl)
theorem dJ24_getChars_62 : decode cJ24_getChars 62 = .ok (.getstatic 87, 3) := dk_178 0 87 (dk_at dksJ24_getChars_2 15 rfl rfl)
theorem dJ24_getChars_65 : decode cJ24_getChars 65 = .ok (.iload 4, 2) := dk_21 4 (dk_at dksJ24_getChars_2 18 rfl rfl)
theorem dJ24_getChars_67 : decode cJ24_getChars 67 = .ok (.baload, 1) := dk_51 (dk_at dksJ24_getChars_2 20 rfl rfl)
theorem dJ24_getChars_68 : decode cJ24_getChars 68 = .ok (.bastore, 1) := dk_84 (dk_at dksJ24_getChars_2 21 rfl rfl)
theorem dJ24_getChars_69 : decode cJ24_getChars 69 = .ok (.goto (-47), 3) := dk_167 255 209 (dk_at dksJ24_getChars_3 0 rfl rfl)
theorem dJ24_getChars_72 : decode cJ24_getChars 72 = .ok (.aload_n 2, 1) := dk_44 (dk_at dksJ24_getChars_3 3 rfl rfl)
theorem dJ24_getChars_73 : decode cJ24_getChars 73 = .ok (.iinc 5 (-1), 3) := dk_132 5 255 (dk_at dksJ24_getChars_3 4 rfl rfl)
theorem dJ24_getChars_76 : decode cJ24_getChars 76 = .ok (.iload 5, 2) := dk_21 5 (dk_at dksJ24_getChars_3 7 rfl rfl)
theorem dJ24_getChars_78 : decode cJ24_getChars 78 = .ok (.getstatic 83, 3) := dk_178 0 83 (dk_at dksJ24_getChars_3 9 rfl rfl)
theorem dJ24_getChars_81 : decode cJ24_getChars 81 = .ok (.iload_n 0, 1) := dk_26 (dk_at dksJ24_getChars_3 12 rfl rfl)
theorem dJ24_getChars_82 : decode cJ24_getChars 82 = .ok (.ineg, 1) := dk_116 (dk_at dksJ24_getChars_3 13 rfl rfl)
theorem dJ24_getChars_83 : decode cJ24_getChars 83 = .ok (.baload, 1) := dk_51 (dk_at dksJ24_getChars_3 14 rfl rfl)
theorem dJ24_getChars_84 : decode cJ24_getChars 84 = .ok (.bastore, 1) := dk_84 (dk_at dksJ24_getChars_3 15 rfl rfl)
theorem dJ24_getChars_85 : decode cJ24_getChars 85 = .ok (.iload_n 0, 1) := dk_26 (dk_at dksJ24_getChars_3 16 rfl rfl)
theorem dJ24_getChars_86 : decode cJ24_getChars 86 = .ok (.bipush (-9), 2) := dk_16 247 (dk_at dksJ24_getChars_3 17 rfl rfl)
theorem dJ24_getChars_88 : decode cJ24_getChars 88 = .ok (.if_icmp .ge 16, 3) := dk_162 0 16 (dk_at dksJ24_getChars_3 19 rfl rfl)
theorem dJ24_getChars_91 : decode cJ24_getChars 91 = .ok (.aload_n 2, 1) := dk_44 (dk_at dksJ24_getChars_3 22 rfl rfl)
theorem dJ24_getChars_92 : decode cJ24_getChars 92 = .ok (.iinc 5 (-1), 3) := dk_132 5 255 (dk_at dksJ24_getChars_4 0 rfl rfl)
theorem dJ24_getChars_95 : decode cJ24_getChars 95 = .ok (.iload 5, 2) := dk_21 5 (dk_at dksJ24_getChars_4 3 rfl rfl)
theorem dJ24_getChars_97 : decode cJ24_getChars 97 = .ok (.getstatic 87, 3) := dk_178 0 87 (dk_at dksJ24_getChars_4 5 rfl rfl)
theorem dJ24_getChars_100 : decode cJ24_getChars 100 = .ok (.iload_n 0, 1) := dk_26 (dk_at dksJ24_getChars_4 8 rfl rfl)
theorem dJ24_getChars_101 : decode cJ24_getChars 101 = .ok (.ineg, 1) := dk_116 (dk_at dksJ24_getChars_4 9 rfl rfl)
theorem dJ24_getChars_102 : decode cJ24_getChars 102 = .ok (.baload, 1) := dk_51 (dk_at dksJ24_getChars_4 10 rfl rfl)
theorem dJ24_getChars_103 : decode cJ24_getChars 103 = .ok (.bastore, 1) := dk_84 (dk_at dksJ24_getChars_4 11 rfl rfl)
theorem dJ24_getChars_104 : decode cJ24_getChars 104 = .ok (.iload 6, 2) := dk_21 6 (dk_at dksJ24_getChars_4 12 rfl rfl)
theorem dJ24_getChars_106 : decode cJ24_getChars 106 = .ok (.ifCond .eq 12, 3) := dk_153 0 12 (dk_at dksJ24_getChars_4 14 rfl rfl)
theorem dJ24_getChars_109 : decode cJ24_getChars 109 = .ok (.aload_n 2, 1) := dk_44 (dk_at dksJ24_getChars_4 17 rfl rfl)
theorem dJ24_getChars_110 : decode cJ24_getChars 110 = .ok (.iinc 5 (-1), 3) := dk_132 5 255 (dk_at dksJ24_getChars_4 18 rfl rfl)
theorem dJ24_getChars_113 : decode cJ24_getChars 113 = .ok (.iload 5, 2) := dk_21 5 (dk_at dksJ24_getChars_4 21 rfl rfl)
theorem dJ24_getChars_115 : decode cJ24_getChars 115 = .ok (.bipush 45, 2) := dk_16 45 (dk_at dksJ24_getChars_5 0 rfl rfl)
theorem dJ24_getChars_117 : decode cJ24_getChars 117 = .ok (.bastore, 1) := dk_84 (dk_at dksJ24_getChars_5 2 rfl rfl)
theorem dJ24_getChars_118 : decode cJ24_getChars 118 = .ok (.iload 5, 2) := dk_21 5 (dk_at dksJ24_getChars_5 3 rfl rfl)
theorem dJ24_getChars_120 : decode cJ24_getChars 120 = .ok (.ireturn, 1) := dk_172 (dk_at dksJ24_getChars_5 5 rfl rfl)
abbrev cJ24_numberOfTrailingZeros : ByteArray := prog_28_method_48_code
def yJ24_numberOfTrailingZeros : MethodName := ⟨RJ24, "numberOfTrailingZeros", "(I)I"⟩
def dkwJ24_numberOfTrailingZeros_3 : List UInt8 := [5, 124, 59, 27, 26, 4, 124, 96, 172]
abbrev dktJ24_numberOfTrailingZeros_3 : List UInt8 := dkwJ24_numberOfTrailingZeros_3 ++ []
def dkwJ24_numberOfTrailingZeros_2 : List UInt8 := [124, 59, 26, 16, 16, 164, 0, 10, 132, 1, 4, 26, 7, 124, 59, 26, 7, 164, 0, 10, 132, 1, 2, 26]
abbrev dktJ24_numberOfTrailingZeros_2 : List UInt8 := dkwJ24_numberOfTrailingZeros_2 ++ dktJ24_numberOfTrailingZeros_3
def dkwJ24_numberOfTrailingZeros_1 : List UInt8 := [164, 0, 11, 132, 1, 16, 26, 16, 16, 124, 59, 26, 17, 1, 0, 164, 0, 11, 132, 1, 8, 26, 16, 8]
abbrev dktJ24_numberOfTrailingZeros_1 : List UInt8 := dkwJ24_numberOfTrailingZeros_1 ++ dktJ24_numberOfTrailingZeros_2
def dkwJ24_numberOfTrailingZeros_0 : List UInt8 := [26, 2, 130, 26, 4, 100, 126, 59, 26, 157, 0, 8, 26, 16, 32, 126, 172, 4, 60, 26, 19, 1, 8]
abbrev dktJ24_numberOfTrailingZeros_0 : List UInt8 := dkwJ24_numberOfTrailingZeros_0 ++ dktJ24_numberOfTrailingZeros_1
theorem dksJ24_numberOfTrailingZeros_0 : cJ24_numberOfTrailingZeros.data.toList.drop 0 = dktJ24_numberOfTrailingZeros_0 := by decide +kernel
theorem dksJ24_numberOfTrailingZeros_1 : cJ24_numberOfTrailingZeros.data.toList.drop 23 = dktJ24_numberOfTrailingZeros_1 := dk_seg dksJ24_numberOfTrailingZeros_0 23 rfl rfl
theorem dksJ24_numberOfTrailingZeros_2 : cJ24_numberOfTrailingZeros.data.toList.drop 47 = dktJ24_numberOfTrailingZeros_2 := dk_seg dksJ24_numberOfTrailingZeros_1 24 rfl rfl
theorem dksJ24_numberOfTrailingZeros_3 : cJ24_numberOfTrailingZeros.data.toList.drop 71 = dktJ24_numberOfTrailingZeros_3 := dk_seg dksJ24_numberOfTrailingZeros_2 24 rfl rfl
theorem dJ24_numberOfTrailingZeros_0 : decode cJ24_numberOfTrailingZeros 0 = .ok (.iload_n 0, 1) := dk_26 (dk_at dksJ24_numberOfTrailingZeros_0 0 rfl rfl)
theorem dJ24_numberOfTrailingZeros_1 : decode cJ24_numberOfTrailingZeros 1 = .ok (.iconst (-1), 1) := dk_2 (dk_at dksJ24_numberOfTrailingZeros_0 1 rfl rfl)
theorem dJ24_numberOfTrailingZeros_2 : decode cJ24_numberOfTrailingZeros 2 = .ok (.ixor, 1) := dk_130 (dk_at dksJ24_numberOfTrailingZeros_0 2 rfl rfl)
theorem dJ24_numberOfTrailingZeros_3 : decode cJ24_numberOfTrailingZeros 3 = .ok (.iload_n 0, 1) := dk_26 (dk_at dksJ24_numberOfTrailingZeros_0 3 rfl rfl)
theorem dJ24_numberOfTrailingZeros_4 : decode cJ24_numberOfTrailingZeros 4 = .ok (.iconst 1, 1) := dk_4 (dk_at dksJ24_numberOfTrailingZeros_0 4 rfl rfl)
theorem dJ24_numberOfTrailingZeros_5 : decode cJ24_numberOfTrailingZeros 5 = .ok (.isub, 1) := dk_100 (dk_at dksJ24_numberOfTrailingZeros_0 5 rfl rfl)
theorem dJ24_numberOfTrailingZeros_6 : decode cJ24_numberOfTrailingZeros 6 = .ok (.iand, 1) := dk_126 (dk_at dksJ24_numberOfTrailingZeros_0 6 rfl rfl)
theorem dJ24_numberOfTrailingZeros_7 : decode cJ24_numberOfTrailingZeros 7 = .ok (.istore_n 0, 1) := dk_59 (dk_at dksJ24_numberOfTrailingZeros_0 7 rfl rfl)
theorem dJ24_numberOfTrailingZeros_8 : decode cJ24_numberOfTrailingZeros 8 = .ok (.iload_n 0, 1) := dk_26 (dk_at dksJ24_numberOfTrailingZeros_0 8 rfl rfl)
theorem dJ24_numberOfTrailingZeros_9 : decode cJ24_numberOfTrailingZeros 9 = .ok (.ifCond .gt 8, 3) := dk_157 0 8 (dk_at dksJ24_numberOfTrailingZeros_0 9 rfl rfl)
theorem dJ24_numberOfTrailingZeros_12 : decode cJ24_numberOfTrailingZeros 12 = .ok (.iload_n 0, 1) := dk_26 (dk_at dksJ24_numberOfTrailingZeros_0 12 rfl rfl)
theorem dJ24_numberOfTrailingZeros_13 : decode cJ24_numberOfTrailingZeros 13 = .ok (.bipush 32, 2) := dk_16 32 (dk_at dksJ24_numberOfTrailingZeros_0 13 rfl rfl)
theorem dJ24_numberOfTrailingZeros_15 : decode cJ24_numberOfTrailingZeros 15 = .ok (.iand, 1) := dk_126 (dk_at dksJ24_numberOfTrailingZeros_0 15 rfl rfl)
theorem dJ24_numberOfTrailingZeros_16 : decode cJ24_numberOfTrailingZeros 16 = .ok (.ireturn, 1) := dk_172 (dk_at dksJ24_numberOfTrailingZeros_0 16 rfl rfl)
theorem dJ24_numberOfTrailingZeros_17 : decode cJ24_numberOfTrailingZeros 17 = .ok (.iconst 1, 1) := dk_4 (dk_at dksJ24_numberOfTrailingZeros_0 17 rfl rfl)
theorem dJ24_numberOfTrailingZeros_18 : decode cJ24_numberOfTrailingZeros 18 = .ok (.istore_n 1, 1) := dk_60 (dk_at dksJ24_numberOfTrailingZeros_0 18 rfl rfl)
theorem dJ24_numberOfTrailingZeros_19 : decode cJ24_numberOfTrailingZeros 19 = .ok (.iload_n 0, 1) := dk_26 (dk_at dksJ24_numberOfTrailingZeros_0 19 rfl rfl)
theorem dJ24_numberOfTrailingZeros_20 : decode cJ24_numberOfTrailingZeros 20 = .ok (.ldc_w 264, 3) := dk_19 1 8 (dk_at dksJ24_numberOfTrailingZeros_0 20 rfl rfl)
theorem dJ24_numberOfTrailingZeros_23 : decode cJ24_numberOfTrailingZeros 23 = .ok (.if_icmp .le 11, 3) := dk_164 0 11 (dk_at dksJ24_numberOfTrailingZeros_1 0 rfl rfl)
theorem dJ24_numberOfTrailingZeros_26 : decode cJ24_numberOfTrailingZeros 26 = .ok (.iinc 1 16, 3) := dk_132 1 16 (dk_at dksJ24_numberOfTrailingZeros_1 3 rfl rfl)
theorem dJ24_numberOfTrailingZeros_29 : decode cJ24_numberOfTrailingZeros 29 = .ok (.iload_n 0, 1) := dk_26 (dk_at dksJ24_numberOfTrailingZeros_1 6 rfl rfl)
theorem dJ24_numberOfTrailingZeros_30 : decode cJ24_numberOfTrailingZeros 30 = .ok (.bipush 16, 2) := dk_16 16 (dk_at dksJ24_numberOfTrailingZeros_1 7 rfl rfl)
theorem dJ24_numberOfTrailingZeros_32 : decode cJ24_numberOfTrailingZeros 32 = .ok (.iushr, 1) := dk_124 (dk_at dksJ24_numberOfTrailingZeros_1 9 rfl rfl)
theorem dJ24_numberOfTrailingZeros_33 : decode cJ24_numberOfTrailingZeros 33 = .ok (.istore_n 0, 1) := dk_59 (dk_at dksJ24_numberOfTrailingZeros_1 10 rfl rfl)
theorem dJ24_numberOfTrailingZeros_34 : decode cJ24_numberOfTrailingZeros 34 = .ok (.iload_n 0, 1) := dk_26 (dk_at dksJ24_numberOfTrailingZeros_1 11 rfl rfl)
theorem dJ24_numberOfTrailingZeros_35 : decode cJ24_numberOfTrailingZeros 35 = .ok (.sipush 256, 3) := dk_17 1 0 (dk_at dksJ24_numberOfTrailingZeros_1 12 rfl rfl)
theorem dJ24_numberOfTrailingZeros_38 : decode cJ24_numberOfTrailingZeros 38 = .ok (.if_icmp .le 11, 3) := dk_164 0 11 (dk_at dksJ24_numberOfTrailingZeros_1 15 rfl rfl)
theorem dJ24_numberOfTrailingZeros_41 : decode cJ24_numberOfTrailingZeros 41 = .ok (.iinc 1 8, 3) := dk_132 1 8 (dk_at dksJ24_numberOfTrailingZeros_1 18 rfl rfl)
theorem dJ24_numberOfTrailingZeros_44 : decode cJ24_numberOfTrailingZeros 44 = .ok (.iload_n 0, 1) := dk_26 (dk_at dksJ24_numberOfTrailingZeros_1 21 rfl rfl)
theorem dJ24_numberOfTrailingZeros_45 : decode cJ24_numberOfTrailingZeros 45 = .ok (.bipush 8, 2) := dk_16 8 (dk_at dksJ24_numberOfTrailingZeros_1 22 rfl rfl)
theorem dJ24_numberOfTrailingZeros_47 : decode cJ24_numberOfTrailingZeros 47 = .ok (.iushr, 1) := dk_124 (dk_at dksJ24_numberOfTrailingZeros_2 0 rfl rfl)
theorem dJ24_numberOfTrailingZeros_48 : decode cJ24_numberOfTrailingZeros 48 = .ok (.istore_n 0, 1) := dk_59 (dk_at dksJ24_numberOfTrailingZeros_2 1 rfl rfl)
theorem dJ24_numberOfTrailingZeros_49 : decode cJ24_numberOfTrailingZeros 49 = .ok (.iload_n 0, 1) := dk_26 (dk_at dksJ24_numberOfTrailingZeros_2 2 rfl rfl)
theorem dJ24_numberOfTrailingZeros_50 : decode cJ24_numberOfTrailingZeros 50 = .ok (.bipush 16, 2) := dk_16 16 (dk_at dksJ24_numberOfTrailingZeros_2 3 rfl rfl)
theorem dJ24_numberOfTrailingZeros_52 : decode cJ24_numberOfTrailingZeros 52 = .ok (.if_icmp .le 10, 3) := dk_164 0 10 (dk_at dksJ24_numberOfTrailingZeros_2 5 rfl rfl)
theorem dJ24_numberOfTrailingZeros_55 : decode cJ24_numberOfTrailingZeros 55 = .ok (.iinc 1 4, 3) := dk_132 1 4 (dk_at dksJ24_numberOfTrailingZeros_2 8 rfl rfl)
theorem dJ24_numberOfTrailingZeros_58 : decode cJ24_numberOfTrailingZeros 58 = .ok (.iload_n 0, 1) := dk_26 (dk_at dksJ24_numberOfTrailingZeros_2 11 rfl rfl)
theorem dJ24_numberOfTrailingZeros_59 : decode cJ24_numberOfTrailingZeros 59 = .ok (.iconst 4, 1) := dk_7 (dk_at dksJ24_numberOfTrailingZeros_2 12 rfl rfl)
theorem dJ24_numberOfTrailingZeros_60 : decode cJ24_numberOfTrailingZeros 60 = .ok (.iushr, 1) := dk_124 (dk_at dksJ24_numberOfTrailingZeros_2 13 rfl rfl)
theorem dJ24_numberOfTrailingZeros_61 : decode cJ24_numberOfTrailingZeros 61 = .ok (.istore_n 0, 1) := dk_59 (dk_at dksJ24_numberOfTrailingZeros_2 14 rfl rfl)
theorem dJ24_numberOfTrailingZeros_62 : decode cJ24_numberOfTrailingZeros 62 = .ok (.iload_n 0, 1) := dk_26 (dk_at dksJ24_numberOfTrailingZeros_2 15 rfl rfl)
theorem dJ24_numberOfTrailingZeros_63 : decode cJ24_numberOfTrailingZeros 63 = .ok (.iconst 4, 1) := dk_7 (dk_at dksJ24_numberOfTrailingZeros_2 16 rfl rfl)
theorem dJ24_numberOfTrailingZeros_64 : decode cJ24_numberOfTrailingZeros 64 = .ok (.if_icmp .le 10, 3) := dk_164 0 10 (dk_at dksJ24_numberOfTrailingZeros_2 17 rfl rfl)
theorem dJ24_numberOfTrailingZeros_67 : decode cJ24_numberOfTrailingZeros 67 = .ok (.iinc 1 2, 3) := dk_132 1 2 (dk_at dksJ24_numberOfTrailingZeros_2 20 rfl rfl)
theorem dJ24_numberOfTrailingZeros_70 : decode cJ24_numberOfTrailingZeros 70 = .ok (.iload_n 0, 1) := dk_26 (dk_at dksJ24_numberOfTrailingZeros_2 23 rfl rfl)
theorem dJ24_numberOfTrailingZeros_71 : decode cJ24_numberOfTrailingZeros 71 = .ok (.iconst 2, 1) := dk_5 (dk_at dksJ24_numberOfTrailingZeros_3 0 rfl rfl)
theorem dJ24_numberOfTrailingZeros_72 : decode cJ24_numberOfTrailingZeros 72 = .ok (.iushr, 1) := dk_124 (dk_at dksJ24_numberOfTrailingZeros_3 1 rfl rfl)
theorem dJ24_numberOfTrailingZeros_73 : decode cJ24_numberOfTrailingZeros 73 = .ok (.istore_n 0, 1) := dk_59 (dk_at dksJ24_numberOfTrailingZeros_3 2 rfl rfl)
theorem dJ24_numberOfTrailingZeros_74 : decode cJ24_numberOfTrailingZeros 74 = .ok (.iload_n 1, 1) := dk_27 (dk_at dksJ24_numberOfTrailingZeros_3 3 rfl rfl)
theorem dJ24_numberOfTrailingZeros_75 : decode cJ24_numberOfTrailingZeros 75 = .ok (.iload_n 0, 1) := dk_26 (dk_at dksJ24_numberOfTrailingZeros_3 4 rfl rfl)
theorem dJ24_numberOfTrailingZeros_76 : decode cJ24_numberOfTrailingZeros 76 = .ok (.iconst 1, 1) := dk_4 (dk_at dksJ24_numberOfTrailingZeros_3 5 rfl rfl)
theorem dJ24_numberOfTrailingZeros_77 : decode cJ24_numberOfTrailingZeros 77 = .ok (.iushr, 1) := dk_124 (dk_at dksJ24_numberOfTrailingZeros_3 6 rfl rfl)
theorem dJ24_numberOfTrailingZeros_78 : decode cJ24_numberOfTrailingZeros 78 = .ok (.iadd, 1) := dk_96 (dk_at dksJ24_numberOfTrailingZeros_3 7 rfl rfl)
theorem dJ24_numberOfTrailingZeros_79 : decode cJ24_numberOfTrailingZeros 79 = .ok (.ireturn, 1) := dk_172 (dk_at dksJ24_numberOfTrailingZeros_3 8 rfl rfl)
abbrev cJ24_numberOfLeadingZeros : ByteArray := prog_28_method_47_code
def yJ24_numberOfLeadingZeros : MethodName := ⟨RJ24, "numberOfLeadingZeros", "(I)I"⟩
def dkwJ24_numberOfLeadingZeros_3 : List UInt8 := [5, 124, 59, 27, 26, 4, 124, 100, 172]
abbrev dktJ24_numberOfLeadingZeros_3 : List UInt8 := dkwJ24_numberOfLeadingZeros_3 ++ []
def dkwJ24_numberOfLeadingZeros_2 : List UInt8 := [124, 59, 26, 16, 16, 161, 0, 10, 132, 1, 252, 26, 7, 124, 59, 26, 7, 161, 0, 10, 132, 1, 254, 26]
abbrev dktJ24_numberOfLeadingZeros_2 : List UInt8 := dkwJ24_numberOfLeadingZeros_2 ++ dktJ24_numberOfLeadingZeros_3
def dkwJ24_numberOfLeadingZeros_1 : List UInt8 := [161, 0, 11, 132, 1, 240, 26, 16, 16, 124, 59, 26, 17, 1, 0, 161, 0, 11, 132, 1, 248, 26, 16, 8]
abbrev dktJ24_numberOfLeadingZeros_1 : List UInt8 := dkwJ24_numberOfLeadingZeros_1 ++ dktJ24_numberOfLeadingZeros_2
def dkwJ24_numberOfLeadingZeros_0 : List UInt8 := [26, 157, 0, 14, 26, 154, 0, 8, 16, 32, 167, 0, 4, 3, 172, 16, 31, 60, 26, 19, 1, 8]
abbrev dktJ24_numberOfLeadingZeros_0 : List UInt8 := dkwJ24_numberOfLeadingZeros_0 ++ dktJ24_numberOfLeadingZeros_1
theorem dksJ24_numberOfLeadingZeros_0 : cJ24_numberOfLeadingZeros.data.toList.drop 0 = dktJ24_numberOfLeadingZeros_0 := by decide +kernel
theorem dksJ24_numberOfLeadingZeros_1 : cJ24_numberOfLeadingZeros.data.toList.drop 22 = dktJ24_numberOfLeadingZeros_1 := dk_seg dksJ24_numberOfLeadingZeros_0 22 rfl rfl
theorem dksJ24_numberOfLeadingZeros_2 : cJ24_numberOfLeadingZeros.data.toList.drop 46 = dktJ24_numberOfLeadingZeros_2 := dk_seg dksJ24_numberOfLeadingZeros_1 24 rfl rfl
theorem dksJ24_numberOfLeadingZeros_3 : cJ24_numberOfLeadingZeros.data.toList.drop 70 = dktJ24_numberOfLeadingZeros_3 := dk_seg dksJ24_numberOfLeadingZeros_2 24 rfl rfl
theorem dJ24_numberOfLeadingZeros_0 : decode cJ24_numberOfLeadingZeros 0 = .ok (.iload_n 0, 1) := dk_26 (dk_at dksJ24_numberOfLeadingZeros_0 0 rfl rfl)
theorem dJ24_numberOfLeadingZeros_1 : decode cJ24_numberOfLeadingZeros 1 = .ok (.ifCond .gt 14, 3) := dk_157 0 14 (dk_at dksJ24_numberOfLeadingZeros_0 1 rfl rfl)
theorem dJ24_numberOfLeadingZeros_4 : decode cJ24_numberOfLeadingZeros 4 = .ok (.iload_n 0, 1) := dk_26 (dk_at dksJ24_numberOfLeadingZeros_0 4 rfl rfl)
theorem dJ24_numberOfLeadingZeros_5 : decode cJ24_numberOfLeadingZeros 5 = .ok (.ifCond .ne 8, 3) := dk_154 0 8 (dk_at dksJ24_numberOfLeadingZeros_0 5 rfl rfl)
theorem dJ24_numberOfLeadingZeros_8 : decode cJ24_numberOfLeadingZeros 8 = .ok (.bipush 32, 2) := dk_16 32 (dk_at dksJ24_numberOfLeadingZeros_0 8 rfl rfl)
theorem dJ24_numberOfLeadingZeros_10 : decode cJ24_numberOfLeadingZeros 10 = .ok (.goto 4, 3) := dk_167 0 4 (dk_at dksJ24_numberOfLeadingZeros_0 10 rfl rfl)
theorem dJ24_numberOfLeadingZeros_13 : decode cJ24_numberOfLeadingZeros 13 = .ok (.iconst 0, 1) := dk_3 (dk_at dksJ24_numberOfLeadingZeros_0 13 rfl rfl)
theorem dJ24_numberOfLeadingZeros_14 : decode cJ24_numberOfLeadingZeros 14 = .ok (.ireturn, 1) := dk_172 (dk_at dksJ24_numberOfLeadingZeros_0 14 rfl rfl)
theorem dJ24_numberOfLeadingZeros_15 : decode cJ24_numberOfLeadingZeros 15 = .ok (.bipush 31, 2) := dk_16 31 (dk_at dksJ24_numberOfLeadingZeros_0 15 rfl rfl)
theorem dJ24_numberOfLeadingZeros_17 : decode cJ24_numberOfLeadingZeros 17 = .ok (.istore_n 1, 1) := dk_60 (dk_at dksJ24_numberOfLeadingZeros_0 17 rfl rfl)
theorem dJ24_numberOfLeadingZeros_18 : decode cJ24_numberOfLeadingZeros 18 = .ok (.iload_n 0, 1) := dk_26 (dk_at dksJ24_numberOfLeadingZeros_0 18 rfl rfl)
theorem dJ24_numberOfLeadingZeros_19 : decode cJ24_numberOfLeadingZeros 19 = .ok (.ldc_w 264, 3) := dk_19 1 8 (dk_at dksJ24_numberOfLeadingZeros_0 19 rfl rfl)
theorem dJ24_numberOfLeadingZeros_22 : decode cJ24_numberOfLeadingZeros 22 = .ok (.if_icmp .lt 11, 3) := dk_161 0 11 (dk_at dksJ24_numberOfLeadingZeros_1 0 rfl rfl)
theorem dJ24_numberOfLeadingZeros_25 : decode cJ24_numberOfLeadingZeros 25 = .ok (.iinc 1 (-16), 3) := dk_132 1 240 (dk_at dksJ24_numberOfLeadingZeros_1 3 rfl rfl)
theorem dJ24_numberOfLeadingZeros_28 : decode cJ24_numberOfLeadingZeros 28 = .ok (.iload_n 0, 1) := dk_26 (dk_at dksJ24_numberOfLeadingZeros_1 6 rfl rfl)
theorem dJ24_numberOfLeadingZeros_29 : decode cJ24_numberOfLeadingZeros 29 = .ok (.bipush 16, 2) := dk_16 16 (dk_at dksJ24_numberOfLeadingZeros_1 7 rfl rfl)
theorem dJ24_numberOfLeadingZeros_31 : decode cJ24_numberOfLeadingZeros 31 = .ok (.iushr, 1) := dk_124 (dk_at dksJ24_numberOfLeadingZeros_1 9 rfl rfl)
theorem dJ24_numberOfLeadingZeros_32 : decode cJ24_numberOfLeadingZeros 32 = .ok (.istore_n 0, 1) := dk_59 (dk_at dksJ24_numberOfLeadingZeros_1 10 rfl rfl)
theorem dJ24_numberOfLeadingZeros_33 : decode cJ24_numberOfLeadingZeros 33 = .ok (.iload_n 0, 1) := dk_26 (dk_at dksJ24_numberOfLeadingZeros_1 11 rfl rfl)
theorem dJ24_numberOfLeadingZeros_34 : decode cJ24_numberOfLeadingZeros 34 = .ok (.sipush 256, 3) := dk_17 1 0 (dk_at dksJ24_numberOfLeadingZeros_1 12 rfl rfl)
theorem dJ24_numberOfLeadingZeros_37 : decode cJ24_numberOfLeadingZeros 37 = .ok (.if_icmp .lt 11, 3) := dk_161 0 11 (dk_at dksJ24_numberOfLeadingZeros_1 15 rfl rfl)
theorem dJ24_numberOfLeadingZeros_40 : decode cJ24_numberOfLeadingZeros 40 = .ok (.iinc 1 (-8), 3) := dk_132 1 248 (dk_at dksJ24_numberOfLeadingZeros_1 18 rfl rfl)
theorem dJ24_numberOfLeadingZeros_43 : decode cJ24_numberOfLeadingZeros 43 = .ok (.iload_n 0, 1) := dk_26 (dk_at dksJ24_numberOfLeadingZeros_1 21 rfl rfl)
theorem dJ24_numberOfLeadingZeros_44 : decode cJ24_numberOfLeadingZeros 44 = .ok (.bipush 8, 2) := dk_16 8 (dk_at dksJ24_numberOfLeadingZeros_1 22 rfl rfl)
theorem dJ24_numberOfLeadingZeros_46 : decode cJ24_numberOfLeadingZeros 46 = .ok (.iushr, 1) := dk_124 (dk_at dksJ24_numberOfLeadingZeros_2 0 rfl rfl)
theorem dJ24_numberOfLeadingZeros_47 : decode cJ24_numberOfLeadingZeros 47 = .ok (.istore_n 0, 1) := dk_59 (dk_at dksJ24_numberOfLeadingZeros_2 1 rfl rfl)
theorem dJ24_numberOfLeadingZeros_48 : decode cJ24_numberOfLeadingZeros 48 = .ok (.iload_n 0, 1) := dk_26 (dk_at dksJ24_numberOfLeadingZeros_2 2 rfl rfl)
theorem dJ24_numberOfLeadingZeros_49 : decode cJ24_numberOfLeadingZeros 49 = .ok (.bipush 16, 2) := dk_16 16 (dk_at dksJ24_numberOfLeadingZeros_2 3 rfl rfl)
theorem dJ24_numberOfLeadingZeros_51 : decode cJ24_numberOfLeadingZeros 51 = .ok (.if_icmp .lt 10, 3) := dk_161 0 10 (dk_at dksJ24_numberOfLeadingZeros_2 5 rfl rfl)
theorem dJ24_numberOfLeadingZeros_54 : decode cJ24_numberOfLeadingZeros 54 = .ok (.iinc 1 (-4), 3) := dk_132 1 252 (dk_at dksJ24_numberOfLeadingZeros_2 8 rfl rfl)
theorem dJ24_numberOfLeadingZeros_57 : decode cJ24_numberOfLeadingZeros 57 = .ok (.iload_n 0, 1) := dk_26 (dk_at dksJ24_numberOfLeadingZeros_2 11 rfl rfl)
theorem dJ24_numberOfLeadingZeros_58 : decode cJ24_numberOfLeadingZeros 58 = .ok (.iconst 4, 1) := dk_7 (dk_at dksJ24_numberOfLeadingZeros_2 12 rfl rfl)
theorem dJ24_numberOfLeadingZeros_59 : decode cJ24_numberOfLeadingZeros 59 = .ok (.iushr, 1) := dk_124 (dk_at dksJ24_numberOfLeadingZeros_2 13 rfl rfl)
theorem dJ24_numberOfLeadingZeros_60 : decode cJ24_numberOfLeadingZeros 60 = .ok (.istore_n 0, 1) := dk_59 (dk_at dksJ24_numberOfLeadingZeros_2 14 rfl rfl)
theorem dJ24_numberOfLeadingZeros_61 : decode cJ24_numberOfLeadingZeros 61 = .ok (.iload_n 0, 1) := dk_26 (dk_at dksJ24_numberOfLeadingZeros_2 15 rfl rfl)
theorem dJ24_numberOfLeadingZeros_62 : decode cJ24_numberOfLeadingZeros 62 = .ok (.iconst 4, 1) := dk_7 (dk_at dksJ24_numberOfLeadingZeros_2 16 rfl rfl)
theorem dJ24_numberOfLeadingZeros_63 : decode cJ24_numberOfLeadingZeros 63 = .ok (.if_icmp .lt 10, 3) := dk_161 0 10 (dk_at dksJ24_numberOfLeadingZeros_2 17 rfl rfl)
theorem dJ24_numberOfLeadingZeros_66 : decode cJ24_numberOfLeadingZeros 66 = .ok (.iinc 1 (-2), 3) := dk_132 1 254 (dk_at dksJ24_numberOfLeadingZeros_2 20 rfl rfl)
theorem dJ24_numberOfLeadingZeros_69 : decode cJ24_numberOfLeadingZeros 69 = .ok (.iload_n 0, 1) := dk_26 (dk_at dksJ24_numberOfLeadingZeros_2 23 rfl rfl)
theorem dJ24_numberOfLeadingZeros_70 : decode cJ24_numberOfLeadingZeros 70 = .ok (.iconst 2, 1) := dk_5 (dk_at dksJ24_numberOfLeadingZeros_3 0 rfl rfl)
theorem dJ24_numberOfLeadingZeros_71 : decode cJ24_numberOfLeadingZeros 71 = .ok (.iushr, 1) := dk_124 (dk_at dksJ24_numberOfLeadingZeros_3 1 rfl rfl)
theorem dJ24_numberOfLeadingZeros_72 : decode cJ24_numberOfLeadingZeros 72 = .ok (.istore_n 0, 1) := dk_59 (dk_at dksJ24_numberOfLeadingZeros_3 2 rfl rfl)
theorem dJ24_numberOfLeadingZeros_73 : decode cJ24_numberOfLeadingZeros 73 = .ok (.iload_n 1, 1) := dk_27 (dk_at dksJ24_numberOfLeadingZeros_3 3 rfl rfl)
theorem dJ24_numberOfLeadingZeros_74 : decode cJ24_numberOfLeadingZeros 74 = .ok (.iload_n 0, 1) := dk_26 (dk_at dksJ24_numberOfLeadingZeros_3 4 rfl rfl)
theorem dJ24_numberOfLeadingZeros_75 : decode cJ24_numberOfLeadingZeros 75 = .ok (.iconst 1, 1) := dk_4 (dk_at dksJ24_numberOfLeadingZeros_3 5 rfl rfl)
theorem dJ24_numberOfLeadingZeros_76 : decode cJ24_numberOfLeadingZeros 76 = .ok (.iushr, 1) := dk_124 (dk_at dksJ24_numberOfLeadingZeros_3 6 rfl rfl)
theorem dJ24_numberOfLeadingZeros_77 : decode cJ24_numberOfLeadingZeros 77 = .ok (.isub, 1) := dk_100 (dk_at dksJ24_numberOfLeadingZeros_3 7 rfl rfl)
theorem dJ24_numberOfLeadingZeros_78 : decode cJ24_numberOfLeadingZeros 78 = .ok (.ireturn, 1) := dk_172 (dk_at dksJ24_numberOfLeadingZeros_3 8 rfl rfl)
abbrev cJ24_valueOf : ByteArray := prog_28_method_22_code
def yJ24_valueOf : MethodName := ⟨RJ24, "valueOf", "(I)Ljava/lang/Integer;"⟩
def dkwJ24_valueOf_1 : List UInt8 := [187, 0, 1, 89, 26, 183, 0, 199, 176]
abbrev dktJ24_valueOf_1 : List UInt8 := dkwJ24_valueOf_1 ++ []
def dkwJ24_valueOf_0 : List UInt8 := [26, 16, 128, 161, 0, 20, 26, 178, 0, 191, 163, 0, 13, 178, 0, 195, 26, 17, 0, 128, 96, 50, 176]
abbrev dktJ24_valueOf_0 : List UInt8 := dkwJ24_valueOf_0 ++ dktJ24_valueOf_1
theorem dksJ24_valueOf_0 : cJ24_valueOf.data.toList.drop 0 = dktJ24_valueOf_0 := by decide +kernel
theorem dksJ24_valueOf_1 : cJ24_valueOf.data.toList.drop 23 = dktJ24_valueOf_1 := dk_seg dksJ24_valueOf_0 23 rfl rfl
theorem dJ24_valueOf_0 : decode cJ24_valueOf 0 = .ok (.iload_n 0, 1) := dk_26 (dk_at dksJ24_valueOf_0 0 rfl rfl)
theorem dJ24_valueOf_1 : decode cJ24_valueOf 1 = .ok (.bipush (-128), 2) := dk_16 128 (dk_at dksJ24_valueOf_0 1 rfl rfl)
theorem dJ24_valueOf_3 : decode cJ24_valueOf 3 = .ok (.if_icmp .lt 20, 3) := dk_161 0 20 (dk_at dksJ24_valueOf_0 3 rfl rfl)
theorem dJ24_valueOf_6 : decode cJ24_valueOf 6 = .ok (.iload_n 0, 1) := dk_26 (dk_at dksJ24_valueOf_0 6 rfl rfl)
theorem dJ24_valueOf_7 : decode cJ24_valueOf 7 = .ok (.getstatic 191, 3) := dk_178 0 191 (dk_at dksJ24_valueOf_0 7 rfl rfl)
theorem dJ24_valueOf_10 : decode cJ24_valueOf 10 = .ok (.if_icmp .gt 13, 3) := dk_163 0 13 (dk_at dksJ24_valueOf_0 10 rfl rfl)
theorem dJ24_valueOf_13 : decode cJ24_valueOf 13 = .ok (.getstatic 195, 3) := dk_178 0 195 (dk_at dksJ24_valueOf_0 13 rfl rfl)
theorem dJ24_valueOf_16 : decode cJ24_valueOf 16 = .ok (.iload_n 0, 1) := dk_26 (dk_at dksJ24_valueOf_0 16 rfl rfl)
theorem dJ24_valueOf_17 : decode cJ24_valueOf 17 = .ok (.sipush 128, 3) := dk_17 0 128 (dk_at dksJ24_valueOf_0 17 rfl rfl)
theorem dJ24_valueOf_20 : decode cJ24_valueOf 20 = .ok (.iadd, 1) := dk_96 (dk_at dksJ24_valueOf_0 20 rfl rfl)
theorem dJ24_valueOf_21 : decode cJ24_valueOf 21 = .ok (.aaload, 1) := dk_50 (dk_at dksJ24_valueOf_0 21 rfl rfl)
theorem dJ24_valueOf_22 : decode cJ24_valueOf 22 = .ok (.areturn, 1) := dk_176 (dk_at dksJ24_valueOf_0 22 rfl rfl)
theorem dJ24_valueOf_23 : decode cJ24_valueOf 23 = .ok (.new 1, 3) := dk_187 0 1 (dk_at dksJ24_valueOf_1 0 rfl rfl)
theorem dJ24_valueOf_26 : decode cJ24_valueOf 26 = .ok (.dup, 1) := dk_89 (dk_at dksJ24_valueOf_1 3 rfl rfl)
theorem dJ24_valueOf_27 : decode cJ24_valueOf 27 = .ok (.iload_n 0, 1) := dk_26 (dk_at dksJ24_valueOf_1 4 rfl rfl)
theorem dJ24_valueOf_28 : decode cJ24_valueOf 28 = .ok (.invokespecial 199, 3) := dk_183 0 199 (dk_at dksJ24_valueOf_1 5 rfl rfl)
theorem dJ24_valueOf_31 : decode cJ24_valueOf 31 = .ok (.areturn, 1) := dk_176 (dk_at dksJ24_valueOf_1 8 rfl rfl)
abbrev cJ24_init : ByteArray := prog_28_method_23_code
def yJ24_init : MethodName := ⟨RJ24, "<init>", "(I)V"⟩
def dkwJ24_init_0 : List UInt8 := [42, 183, 0, 202, 42, 27, 181, 0, 205, 177]
abbrev dktJ24_init_0 : List UInt8 := dkwJ24_init_0 ++ []
theorem dksJ24_init_0 : cJ24_init.data.toList.drop 0 = dktJ24_init_0 := by decide +kernel
theorem dJ24_init_0 : decode cJ24_init 0 = .ok (.aload_n 0, 1) := dk_42 (dk_at dksJ24_init_0 0 rfl rfl)
theorem dJ24_init_1 : decode cJ24_init 1 = .ok (.invokespecial 202, 3) := dk_183 0 202 (dk_at dksJ24_init_0 1 rfl rfl)
theorem dJ24_init_4 : decode cJ24_init 4 = .ok (.aload_n 0, 1) := dk_42 (dk_at dksJ24_init_0 4 rfl rfl)
theorem dJ24_init_5 : decode cJ24_init 5 = .ok (.iload_n 1, 1) := dk_27 (dk_at dksJ24_init_0 5 rfl rfl)
theorem dJ24_init_6 : decode cJ24_init 6 = .ok (.putfield 205, 3) := dk_181 0 205 (dk_at dksJ24_init_0 6 rfl rfl)
theorem dJ24_init_9 : decode cJ24_init 9 = .ok (.return_, 1) := dk_177 (dk_at dksJ24_init_0 9 rfl rfl)
abbrev cJ24_bitCount : ByteArray := prog_28_method_49_code
def yJ24_bitCount : MethodName := ⟨RJ24, "bitCount", "(I)I"⟩
def dkwJ24_bitCount_2 : List UInt8 := [26, 16, 63, 126, 172]
abbrev dktJ24_bitCount_2 : List UInt8 := dkwJ24_bitCount_2 ++ []
def dkwJ24_bitCount_1 : List UInt8 := [26, 26, 7, 124, 96, 19, 1, 11, 126, 59, 26, 26, 16, 8, 124, 96, 59, 26, 26, 16, 16, 124, 96, 59]
abbrev dktJ24_bitCount_1 : List UInt8 := dkwJ24_bitCount_1 ++ dktJ24_bitCount_2
def dkwJ24_bitCount_0 : List UInt8 := [26, 26, 4, 124, 19, 1, 9, 126, 100, 59, 26, 19, 1, 10, 126, 26, 5, 124, 19, 1, 10, 126, 96, 59]
abbrev dktJ24_bitCount_0 : List UInt8 := dkwJ24_bitCount_0 ++ dktJ24_bitCount_1
theorem dksJ24_bitCount_0 : cJ24_bitCount.data.toList.drop 0 = dktJ24_bitCount_0 := by decide +kernel
theorem dksJ24_bitCount_1 : cJ24_bitCount.data.toList.drop 24 = dktJ24_bitCount_1 := dk_seg dksJ24_bitCount_0 24 rfl rfl
theorem dksJ24_bitCount_2 : cJ24_bitCount.data.toList.drop 48 = dktJ24_bitCount_2 := dk_seg dksJ24_bitCount_1 24 rfl rfl
theorem dJ24_bitCount_0 : decode cJ24_bitCount 0 = .ok (.iload_n 0, 1) := dk_26 (dk_at dksJ24_bitCount_0 0 rfl rfl)
theorem dJ24_bitCount_1 : decode cJ24_bitCount 1 = .ok (.iload_n 0, 1) := dk_26 (dk_at dksJ24_bitCount_0 1 rfl rfl)
theorem dJ24_bitCount_2 : decode cJ24_bitCount 2 = .ok (.iconst 1, 1) := dk_4 (dk_at dksJ24_bitCount_0 2 rfl rfl)
theorem dJ24_bitCount_3 : decode cJ24_bitCount 3 = .ok (.iushr, 1) := dk_124 (dk_at dksJ24_bitCount_0 3 rfl rfl)
theorem dJ24_bitCount_4 : decode cJ24_bitCount 4 = .ok (.ldc_w 265, 3) := dk_19 1 9 (dk_at dksJ24_bitCount_0 4 rfl rfl)
theorem dJ24_bitCount_7 : decode cJ24_bitCount 7 = .ok (.iand, 1) := dk_126 (dk_at dksJ24_bitCount_0 7 rfl rfl)
theorem dJ24_bitCount_8 : decode cJ24_bitCount 8 = .ok (.isub, 1) := dk_100 (dk_at dksJ24_bitCount_0 8 rfl rfl)
theorem dJ24_bitCount_9 : decode cJ24_bitCount 9 = .ok (.istore_n 0, 1) := dk_59 (dk_at dksJ24_bitCount_0 9 rfl rfl)
theorem dJ24_bitCount_10 : decode cJ24_bitCount 10 = .ok (.iload_n 0, 1) := dk_26 (dk_at dksJ24_bitCount_0 10 rfl rfl)
theorem dJ24_bitCount_11 : decode cJ24_bitCount 11 = .ok (.ldc_w 266, 3) := dk_19 1 10 (dk_at dksJ24_bitCount_0 11 rfl rfl)
theorem dJ24_bitCount_14 : decode cJ24_bitCount 14 = .ok (.iand, 1) := dk_126 (dk_at dksJ24_bitCount_0 14 rfl rfl)
theorem dJ24_bitCount_15 : decode cJ24_bitCount 15 = .ok (.iload_n 0, 1) := dk_26 (dk_at dksJ24_bitCount_0 15 rfl rfl)
theorem dJ24_bitCount_16 : decode cJ24_bitCount 16 = .ok (.iconst 2, 1) := dk_5 (dk_at dksJ24_bitCount_0 16 rfl rfl)
theorem dJ24_bitCount_17 : decode cJ24_bitCount 17 = .ok (.iushr, 1) := dk_124 (dk_at dksJ24_bitCount_0 17 rfl rfl)
theorem dJ24_bitCount_18 : decode cJ24_bitCount 18 = .ok (.ldc_w 266, 3) := dk_19 1 10 (dk_at dksJ24_bitCount_0 18 rfl rfl)
theorem dJ24_bitCount_21 : decode cJ24_bitCount 21 = .ok (.iand, 1) := dk_126 (dk_at dksJ24_bitCount_0 21 rfl rfl)
theorem dJ24_bitCount_22 : decode cJ24_bitCount 22 = .ok (.iadd, 1) := dk_96 (dk_at dksJ24_bitCount_0 22 rfl rfl)
theorem dJ24_bitCount_23 : decode cJ24_bitCount 23 = .ok (.istore_n 0, 1) := dk_59 (dk_at dksJ24_bitCount_0 23 rfl rfl)
theorem dJ24_bitCount_24 : decode cJ24_bitCount 24 = .ok (.iload_n 0, 1) := dk_26 (dk_at dksJ24_bitCount_1 0 rfl rfl)
theorem dJ24_bitCount_25 : decode cJ24_bitCount 25 = .ok (.iload_n 0, 1) := dk_26 (dk_at dksJ24_bitCount_1 1 rfl rfl)
theorem dJ24_bitCount_26 : decode cJ24_bitCount 26 = .ok (.iconst 4, 1) := dk_7 (dk_at dksJ24_bitCount_1 2 rfl rfl)
theorem dJ24_bitCount_27 : decode cJ24_bitCount 27 = .ok (.iushr, 1) := dk_124 (dk_at dksJ24_bitCount_1 3 rfl rfl)
theorem dJ24_bitCount_28 : decode cJ24_bitCount 28 = .ok (.iadd, 1) := dk_96 (dk_at dksJ24_bitCount_1 4 rfl rfl)
theorem dJ24_bitCount_29 : decode cJ24_bitCount 29 = .ok (.ldc_w 267, 3) := dk_19 1 11 (dk_at dksJ24_bitCount_1 5 rfl rfl)
theorem dJ24_bitCount_32 : decode cJ24_bitCount 32 = .ok (.iand, 1) := dk_126 (dk_at dksJ24_bitCount_1 8 rfl rfl)
theorem dJ24_bitCount_33 : decode cJ24_bitCount 33 = .ok (.istore_n 0, 1) := dk_59 (dk_at dksJ24_bitCount_1 9 rfl rfl)
theorem dJ24_bitCount_34 : decode cJ24_bitCount 34 = .ok (.iload_n 0, 1) := dk_26 (dk_at dksJ24_bitCount_1 10 rfl rfl)
theorem dJ24_bitCount_35 : decode cJ24_bitCount 35 = .ok (.iload_n 0, 1) := dk_26 (dk_at dksJ24_bitCount_1 11 rfl rfl)
theorem dJ24_bitCount_36 : decode cJ24_bitCount 36 = .ok (.bipush 8, 2) := dk_16 8 (dk_at dksJ24_bitCount_1 12 rfl rfl)
theorem dJ24_bitCount_38 : decode cJ24_bitCount 38 = .ok (.iushr, 1) := dk_124 (dk_at dksJ24_bitCount_1 14 rfl rfl)
theorem dJ24_bitCount_39 : decode cJ24_bitCount 39 = .ok (.iadd, 1) := dk_96 (dk_at dksJ24_bitCount_1 15 rfl rfl)
theorem dJ24_bitCount_40 : decode cJ24_bitCount 40 = .ok (.istore_n 0, 1) := dk_59 (dk_at dksJ24_bitCount_1 16 rfl rfl)
theorem dJ24_bitCount_41 : decode cJ24_bitCount 41 = .ok (.iload_n 0, 1) := dk_26 (dk_at dksJ24_bitCount_1 17 rfl rfl)
theorem dJ24_bitCount_42 : decode cJ24_bitCount 42 = .ok (.iload_n 0, 1) := dk_26 (dk_at dksJ24_bitCount_1 18 rfl rfl)
theorem dJ24_bitCount_43 : decode cJ24_bitCount 43 = .ok (.bipush 16, 2) := dk_16 16 (dk_at dksJ24_bitCount_1 19 rfl rfl)
theorem dJ24_bitCount_45 : decode cJ24_bitCount 45 = .ok (.iushr, 1) := dk_124 (dk_at dksJ24_bitCount_1 21 rfl rfl)
theorem dJ24_bitCount_46 : decode cJ24_bitCount 46 = .ok (.iadd, 1) := dk_96 (dk_at dksJ24_bitCount_1 22 rfl rfl)
theorem dJ24_bitCount_47 : decode cJ24_bitCount 47 = .ok (.istore_n 0, 1) := dk_59 (dk_at dksJ24_bitCount_1 23 rfl rfl)
theorem dJ24_bitCount_48 : decode cJ24_bitCount 48 = .ok (.iload_n 0, 1) := dk_26 (dk_at dksJ24_bitCount_2 0 rfl rfl)
theorem dJ24_bitCount_49 : decode cJ24_bitCount 49 = .ok (.bipush 63, 2) := dk_16 63 (dk_at dksJ24_bitCount_2 1 rfl rfl)
theorem dJ24_bitCount_51 : decode cJ24_bitCount 51 = .ok (.iand, 1) := dk_126 (dk_at dksJ24_bitCount_2 3 rfl rfl)
theorem dJ24_bitCount_52 : decode cJ24_bitCount 52 = .ok (.ireturn, 1) := dk_172 (dk_at dksJ24_bitCount_2 4 rfl rfl)
abbrev cJ24_intValue : ByteArray := prog_28_method_27_code
def yJ24_intValue : MethodName := ⟨RJ24, "intValue", "()I"⟩
theorem dJ24_intValue_0 : decode cJ24_intValue 0 = .ok (.aload_n 0, 1) := by decide +kernel
theorem dJ24_intValue_1 : decode cJ24_intValue 1 = .ok (.getfield 205, 3) := by decide +kernel
theorem dJ24_intValue_4 : decode cJ24_intValue 4 = .ok (.ireturn, 1) := by decide +kernel
theorem q99 : (Jvm.Cond.initialized "java/lang/Integer") ∈ lw_all := lw_g (lw_at lw_m1 30 rfl) rfl
theorem q237 : (Jvm.Cond.selects "java/lang/Integer" ({ cls := "java/lang/Object", name := "getClass", desc := "()Ljava/lang/Class;" } : Jvm.MethodName) ({ cls := "java/lang/Object", name := "getClass", desc := "()Ljava/lang/Class;" } : Jvm.MethodName)) ∈ lw_all := lw_g (lw_at lw_m1 168 rfl) rfl
theorem q641 : (Jvm.Cond.static ({ cls := "java/lang/Integer", name := "stringSize", desc := "(I)I" } : Jvm.MethodName)) ∈ lw_all := lw_g (lw_at lw_m3 92 rfl) rfl
theorem q642 : (Jvm.Cond.code ({ cls := "java/lang/Integer", name := "stringSize", desc := "(I)I" } : Jvm.MethodName) prog_28_method_13_code (4 : Nat) (Option.some Jvm.ClassFile.FieldType.int)) ∈ lw_all := lw_g (lw_at lw_m3 93 rfl) rfl
theorem q644 : (Jvm.Cond.static ({ cls := "java/lang/Integer", name := "getChars", desc := "(II[B)I" } : Jvm.MethodName)) ∈ lw_all := lw_g (lw_at lw_m3 95 rfl) rfl
theorem q645 : (Jvm.Cond.code ({ cls := "java/lang/Integer", name := "getChars", desc := "(II[B)I" } : Jvm.MethodName) prog_28_method_12_code (7 : Nat) (Option.some Jvm.ClassFile.FieldType.int)) ∈ lw_all := lw_g (lw_at lw_m3 96 rfl) rfl
theorem q646 : (Jvm.Cond.fieldLink "java/lang/Integer" (83 : Nat) "java/lang/Integer" "DigitOnes" "[B") ∈ lw_all := lw_g (lw_at lw_m3 97 rfl) rfl
theorem q647 : (Jvm.Cond.laysStatic "java/lang/Integer" "DigitOnes" "[B") ∈ lw_tbl := lw_at lw_m3 98 rfl
theorem q648 : (Jvm.Cond.fieldLink "java/lang/Integer" (87 : Nat) "java/lang/Integer" "DigitTens" "[B") ∈ lw_all := lw_g (lw_at lw_m3 99 rfl) rfl
theorem q649 : (Jvm.Cond.laysStatic "java/lang/Integer" "DigitTens" "[B") ∈ lw_tbl := lw_at lw_m3 100 rfl
theorem q981 : (Jvm.Cond.static ({ cls := "java/lang/Integer", name := "numberOfTrailingZeros", desc := "(I)I" } : Jvm.MethodName)) ∈ lw_all := lw_g (lw_at lw_m4 192 rfl) rfl
theorem q982 : (Jvm.Cond.code ({ cls := "java/lang/Integer", name := "numberOfTrailingZeros", desc := "(I)I" } : Jvm.MethodName) prog_28_method_48_code (2 : Nat) (Option.some Jvm.ClassFile.FieldType.int)) ∈ lw_all := lw_g (lw_at lw_m4 193 rfl) rfl
theorem q983 : (Jvm.Cond.constant "java/lang/Integer" (264 : Nat) (65536 : Int32)) ∈ lw_all := lw_g (lw_at lw_m4 194 rfl) rfl
theorem q997 : (Jvm.Cond.static ({ cls := "java/lang/Integer", name := "numberOfLeadingZeros", desc := "(I)I" } : Jvm.MethodName)) ∈ lw_all := lw_g (lw_at lw_m4 208 rfl) rfl
theorem q998 : (Jvm.Cond.code ({ cls := "java/lang/Integer", name := "numberOfLeadingZeros", desc := "(I)I" } : Jvm.MethodName) prog_28_method_47_code (2 : Nat) (Option.some Jvm.ClassFile.FieldType.int)) ∈ lw_all := lw_g (lw_at lw_m4 209 rfl) rfl
theorem q1000 : (Jvm.Cond.static ({ cls := "java/lang/Integer", name := "valueOf", desc := "(I)Ljava/lang/Integer;" } : Jvm.MethodName)) ∈ lw_all := lw_g (lw_at lw_m4 211 rfl) rfl
theorem q1001 : (Jvm.Cond.code ({ cls := "java/lang/Integer", name := "valueOf", desc := "(I)Ljava/lang/Integer;" } : Jvm.MethodName) prog_28_method_22_code (1 : Nat) (Option.some (Jvm.ClassFile.FieldType.object "java/lang/Integer"))) ∈ lw_all := lw_g (lw_at lw_m4 212 rfl) rfl
theorem q1002 : (Jvm.Cond.fieldLink "java/lang/Integer" (191 : Nat) "java/lang/Integer$IntegerCache" "high" "I") ∈ lw_all := lw_g (lw_at lw_m4 213 rfl) rfl
theorem q1004 : (Jvm.Cond.fieldLink "java/lang/Integer" (195 : Nat) "java/lang/Integer$IntegerCache" "cache" "[Ljava/lang/Integer;") ∈ lw_all := lw_g (lw_at lw_m4 215 rfl) rfl
theorem q1006 : (Jvm.Cond.classLink "java/lang/Integer" (1 : Nat) "java/lang/Integer") ∈ lw_all := lw_g (lw_at lw_m4 217 rfl) rfl
theorem q1007 : (Jvm.Cond.instantiable "java/lang/Integer" (1 : Nat)) ∈ lw_all := lw_g (lw_at lw_m4 218 rfl) rfl
theorem q1008 : (Jvm.Cond.methodLink "java/lang/Integer" (199 : Nat) ({ cls := "java/lang/Integer", name := "<init>", desc := "(I)V" } : Jvm.MethodName)) ∈ lw_all := lw_g (lw_at lw_m4 219 rfl) rfl
theorem q1009 : (Jvm.Cond.instanceMethod ({ cls := "java/lang/Integer", name := "<init>", desc := "(I)V" } : Jvm.MethodName)) ∈ lw_all := lw_g (lw_at lw_m4 220 rfl) rfl
theorem q1010 : (Jvm.Cond.code ({ cls := "java/lang/Integer", name := "<init>", desc := "(I)V" } : Jvm.MethodName) prog_28_method_23_code (2 : Nat) (Option.none : Option Jvm.ClassFile.FieldType)) ∈ lw_all := lw_g (lw_at lw_m4 221 rfl) rfl
theorem q1011 : (Jvm.Cond.methodLink "java/lang/Integer" (202 : Nat) ({ cls := "java/lang/Number", name := "<init>", desc := "()V" } : Jvm.MethodName)) ∈ lw_all := lw_g (lw_at lw_m4 222 rfl) rfl
theorem q1015 : (Jvm.Cond.fieldLink "java/lang/Integer" (205 : Nat) "java/lang/Integer" "value" "I") ∈ lw_all := lw_g (lw_at lw_m4 226 rfl) rfl
theorem q1016 : (Jvm.Cond.laysFinal "java/lang/Integer" "java/lang/Integer" "value" "I") ∈ lw_all := lw_g (lw_at lw_m4 227 rfl) rfl
theorem q1017 : (Jvm.Cond.soleField "java/lang/Integer" "value") ∈ lw_all := lw_g (lw_at lw_m4 228 rfl) rfl
theorem q1018 : (Jvm.Cond.superclass "java/lang/Integer" "java/lang/Number") ∈ lw_all := lw_g (lw_at lw_m4 229 rfl) rfl
theorem q1150 : (Jvm.Cond.static ({ cls := "java/lang/Integer", name := "bitCount", desc := "(I)I" } : Jvm.MethodName)) ∈ lw_all := lw_g (lw_at lw_m5 121 rfl) rfl
theorem q1151 : (Jvm.Cond.code ({ cls := "java/lang/Integer", name := "bitCount", desc := "(I)I" } : Jvm.MethodName) prog_28_method_49_code (1 : Nat) (Option.some Jvm.ClassFile.FieldType.int)) ∈ lw_all := lw_g (lw_at lw_m5 122 rfl) rfl
theorem q1152 : (Jvm.Cond.constant "java/lang/Integer" (265 : Nat) (1431655765 : Int32)) ∈ lw_all := lw_g (lw_at lw_m5 123 rfl) rfl
theorem q1153 : (Jvm.Cond.constant "java/lang/Integer" (266 : Nat) (858993459 : Int32)) ∈ lw_all := lw_g (lw_at lw_m5 124 rfl) rfl
theorem q1154 : (Jvm.Cond.constant "java/lang/Integer" (267 : Nat) (252645135 : Int32)) ∈ lw_all := lw_g (lw_at lw_m5 125 rfl) rfl
theorem q1557 : (Jvm.Cond.instanceMethod ({ cls := "java/lang/Integer", name := "intValue", desc := "()I" } : Jvm.MethodName)) ∈ lw_all := lw_g (lw_at lw_m7 48 rfl) rfl
theorem q1558 : (Jvm.Cond.selects "java/lang/Integer" ({ cls := "java/lang/Integer", name := "intValue", desc := "()I" } : Jvm.MethodName) ({ cls := "java/lang/Integer", name := "intValue", desc := "()I" } : Jvm.MethodName)) ∈ lw_all := lw_g (lw_at lw_m7 49 rfl) rfl
theorem q1559 : (Jvm.Cond.code ({ cls := "java/lang/Integer", name := "intValue", desc := "()I" } : Jvm.MethodName) prog_28_method_27_code (1 : Nat) (Option.some Jvm.ClassFile.FieldType.int)) ∈ lw_all := lw_g (lw_at lw_m7 50 rfl) rfl
theorem q2085 : (Jvm.Cond.castable "java/lang/Integer" "java/lang/Object") ∈ lw_tbl := lw_at lw_m9 96 rfl
theorem in_J24 : ∀ w ∈ wsJ240, w ∈ lw_all := lw_in wsJ240 [1016] (by decide +kernel) (by decide +kernel)
/-! java/util/ArrayList$Itr -/
set_option maxRecDepth 100000
def RJ25 : String := "java/util/ArrayList$Itr"
def TJ25 : u_T := fun k => match k with
  | 0 => ("java/util/ArrayList$Itr", "cursor", "I", false)
  | 1 => ("java/util/ArrayList$Itr", "lastRet", "I", false)
  | 2 => ("java/util/ArrayList$Itr", "expectedModCount", "I", false)
  | _ => ("java/util/ArrayList$Itr", "this$0", "Ljava/util/ArrayList;", true)
def tyJ25 : Nat → FieldType := fun k => match k with
  | 0 => .int
  | 1 => .int
  | 2 => .int
  | _ => .object "java/util/ArrayList"
abbrev wsJ250 : List Cond := u_ws RJ25 TJ25 4
theorem nmJ25 : ∀ a, a < 4 → ∀ b, b < 4 → a ≠ b → (TJ25 a).2.1 ≠ (TJ25 b).2.1 := by decide +kernel
theorem tyJ25_ok : ∀ k, k < 4 → parseFieldDescriptor (TJ25 k).2.2.1 = some (tyJ25 k) := by decide +kernel
abbrev cJ25_init : ByteArray := prog_51_method_1_code
def yJ25_init : MethodName := ⟨RJ25, "<init>", "(Ljava/util/ArrayList;)V"⟩
def dkwJ25_init_1 : List UInt8 := [181, 0, 22, 177]
abbrev dktJ25_init_1 : List UInt8 := dkwJ25_init_1 ++ []
def dkwJ25_init_0 : List UInt8 := [42, 43, 181, 0, 1, 42, 183, 0, 7, 42, 2, 181, 0, 13, 42, 42, 180, 0, 1, 180, 0, 17]
abbrev dktJ25_init_0 : List UInt8 := dkwJ25_init_0 ++ dktJ25_init_1
theorem dksJ25_init_0 : cJ25_init.data.toList.drop 0 = dktJ25_init_0 := by decide +kernel
theorem dksJ25_init_1 : cJ25_init.data.toList.drop 22 = dktJ25_init_1 := dk_seg dksJ25_init_0 22 rfl rfl
theorem dJ25_init_0 : decode cJ25_init 0 = .ok (.aload_n 0, 1) := dk_42 (dk_at dksJ25_init_0 0 rfl rfl)
theorem dJ25_init_1 : decode cJ25_init 1 = .ok (.aload_n 1, 1) := dk_43 (dk_at dksJ25_init_0 1 rfl rfl)
theorem dJ25_init_2 : decode cJ25_init 2 = .ok (.putfield 1, 3) := dk_181 0 1 (dk_at dksJ25_init_0 2 rfl rfl)
theorem dJ25_init_5 : decode cJ25_init 5 = .ok (.aload_n 0, 1) := dk_42 (dk_at dksJ25_init_0 5 rfl rfl)
theorem dJ25_init_6 : decode cJ25_init 6 = .ok (.invokespecial 7, 3) := dk_183 0 7 (dk_at dksJ25_init_0 6 rfl rfl)
theorem dJ25_init_9 : decode cJ25_init 9 = .ok (.aload_n 0, 1) := dk_42 (dk_at dksJ25_init_0 9 rfl rfl)
theorem dJ25_init_10 : decode cJ25_init 10 = .ok (.iconst (-1), 1) := dk_2 (dk_at dksJ25_init_0 10 rfl rfl)
theorem dJ25_init_11 : decode cJ25_init 11 = .ok (.putfield 13, 3) := dk_181 0 13 (dk_at dksJ25_init_0 11 rfl rfl)
theorem dJ25_init_14 : decode cJ25_init 14 = .ok (.aload_n 0, 1) := dk_42 (dk_at dksJ25_init_0 14 rfl rfl)
theorem dJ25_init_15 : decode cJ25_init 15 = .ok (.aload_n 0, 1) := dk_42 (dk_at dksJ25_init_0 15 rfl rfl)
theorem dJ25_init_16 : decode cJ25_init 16 = .ok (.getfield 1, 3) := dk_180 0 1 (dk_at dksJ25_init_0 16 rfl rfl)
theorem dJ25_init_19 : decode cJ25_init 19 = .ok (.getfield 17, 3) := dk_180 0 17 (dk_at dksJ25_init_0 19 rfl rfl)
theorem dJ25_init_22 : decode cJ25_init 22 = .ok (.putfield 22, 3) := dk_181 0 22 (dk_at dksJ25_init_1 0 rfl rfl)
theorem dJ25_init_25 : decode cJ25_init 25 = .ok (.return_, 1) := dk_177 (dk_at dksJ25_init_1 3 rfl rfl)
abbrev cJ25_hasNext : ByteArray := prog_51_method_2_code
def yJ25_hasNext : MethodName := ⟨RJ25, "hasNext", "()Z"⟩
def dkwJ25_hasNext_0 : List UInt8 := [42, 180, 0, 25, 42, 180, 0, 1, 180, 0, 28, 159, 0, 7, 4, 167, 0, 4, 3, 172]
abbrev dktJ25_hasNext_0 : List UInt8 := dkwJ25_hasNext_0 ++ []
theorem dksJ25_hasNext_0 : cJ25_hasNext.data.toList.drop 0 = dktJ25_hasNext_0 := by decide +kernel
theorem dJ25_hasNext_0 : decode cJ25_hasNext 0 = .ok (.aload_n 0, 1) := dk_42 (dk_at dksJ25_hasNext_0 0 rfl rfl)
theorem dJ25_hasNext_1 : decode cJ25_hasNext 1 = .ok (.getfield 25, 3) := dk_180 0 25 (dk_at dksJ25_hasNext_0 1 rfl rfl)
theorem dJ25_hasNext_4 : decode cJ25_hasNext 4 = .ok (.aload_n 0, 1) := dk_42 (dk_at dksJ25_hasNext_0 4 rfl rfl)
theorem dJ25_hasNext_5 : decode cJ25_hasNext 5 = .ok (.getfield 1, 3) := dk_180 0 1 (dk_at dksJ25_hasNext_0 5 rfl rfl)
theorem dJ25_hasNext_8 : decode cJ25_hasNext 8 = .ok (.getfield 28, 3) := dk_180 0 28 (dk_at dksJ25_hasNext_0 8 rfl rfl)
theorem dJ25_hasNext_11 : decode cJ25_hasNext 11 = .ok (.if_icmp .eq 7, 3) := dk_159 0 7 (dk_at dksJ25_hasNext_0 11 rfl rfl)
theorem dJ25_hasNext_14 : decode cJ25_hasNext 14 = .ok (.iconst 1, 1) := dk_4 (dk_at dksJ25_hasNext_0 14 rfl rfl)
theorem dJ25_hasNext_15 : decode cJ25_hasNext 15 = .ok (.goto 4, 3) := dk_167 0 4 (dk_at dksJ25_hasNext_0 15 rfl rfl)
theorem dJ25_hasNext_18 : decode cJ25_hasNext 18 = .ok (.iconst 0, 1) := dk_3 (dk_at dksJ25_hasNext_0 18 rfl rfl)
theorem dJ25_hasNext_19 : decode cJ25_hasNext 19 = .ok (.ireturn, 1) := dk_172 (dk_at dksJ25_hasNext_0 19 rfl rfl)
abbrev cJ25_next : ByteArray := prog_51_method_3_code
def yJ25_next : MethodName := ⟨RJ25, "next", "()Ljava/lang/Object;"⟩
def dkwJ25_next_2 : List UInt8 := [183, 0, 43, 191, 42, 27, 4, 96, 181, 0, 25, 44, 42, 27, 90, 181, 0, 13, 50, 176]
abbrev dktJ25_next_2 : List UInt8 := dkwJ25_next_2 ++ []
def dkwJ25_next_1 : List UInt8 := [183, 0, 36, 191, 42, 180, 0, 1, 180, 0, 37, 77, 27, 44, 190, 161, 0, 11, 187, 0, 41, 89]
abbrev dktJ25_next_1 : List UInt8 := dkwJ25_next_1 ++ dktJ25_next_2
def dkwJ25_next_0 : List UInt8 := [42, 182, 0, 31, 42, 180, 0, 25, 60, 27, 42, 180, 0, 1, 180, 0, 28, 161, 0, 11, 187, 0, 34, 89]
abbrev dktJ25_next_0 : List UInt8 := dkwJ25_next_0 ++ dktJ25_next_1
theorem dksJ25_next_0 : cJ25_next.data.toList.drop 0 = dktJ25_next_0 := by decide +kernel
theorem dksJ25_next_1 : cJ25_next.data.toList.drop 24 = dktJ25_next_1 := dk_seg dksJ25_next_0 24 rfl rfl
theorem dksJ25_next_2 : cJ25_next.data.toList.drop 46 = dktJ25_next_2 := dk_seg dksJ25_next_1 22 rfl rfl
theorem dJ25_next_0 : decode cJ25_next 0 = .ok (.aload_n 0, 1) := dk_42 (dk_at dksJ25_next_0 0 rfl rfl)
theorem dJ25_next_1 : decode cJ25_next 1 = .ok (.invokevirtual 31, 3) := dk_182 0 31 (dk_at dksJ25_next_0 1 rfl rfl)
theorem dJ25_next_4 : decode cJ25_next 4 = .ok (.aload_n 0, 1) := dk_42 (dk_at dksJ25_next_0 4 rfl rfl)
theorem dJ25_next_5 : decode cJ25_next 5 = .ok (.getfield 25, 3) := dk_180 0 25 (dk_at dksJ25_next_0 5 rfl rfl)
theorem dJ25_next_8 : decode cJ25_next 8 = .ok (.istore_n 1, 1) := dk_60 (dk_at dksJ25_next_0 8 rfl rfl)
theorem dJ25_next_9 : decode cJ25_next 9 = .ok (.iload_n 1, 1) := dk_27 (dk_at dksJ25_next_0 9 rfl rfl)
theorem dJ25_next_10 : decode cJ25_next 10 = .ok (.aload_n 0, 1) := dk_42 (dk_at dksJ25_next_0 10 rfl rfl)
theorem dJ25_next_11 : decode cJ25_next 11 = .ok (.getfield 1, 3) := dk_180 0 1 (dk_at dksJ25_next_0 11 rfl rfl)
theorem dJ25_next_14 : decode cJ25_next 14 = .ok (.getfield 28, 3) := dk_180 0 28 (dk_at dksJ25_next_0 14 rfl rfl)
theorem dJ25_next_17 : decode cJ25_next 17 = .ok (.if_icmp .lt 11, 3) := dk_161 0 11 (dk_at dksJ25_next_0 17 rfl rfl)
theorem dJ25_next_20 : decode cJ25_next 20 = .ok (.new 34, 3) := dk_187 0 34 (dk_at dksJ25_next_0 20 rfl rfl)
theorem dJ25_next_23 : decode cJ25_next 23 = .ok (.dup, 1) := dk_89 (dk_at dksJ25_next_0 23 rfl rfl)
theorem dJ25_next_24 : decode cJ25_next 24 = .ok (.invokespecial 36, 3) := dk_183 0 36 (dk_at dksJ25_next_1 0 rfl rfl)
theorem dJ25_next_27 : decode cJ25_next 27 = .ok (.athrow, 1) := dk_191 (dk_at dksJ25_next_1 3 rfl rfl)
theorem dJ25_next_28 : decode cJ25_next 28 = .ok (.aload_n 0, 1) := dk_42 (dk_at dksJ25_next_1 4 rfl rfl)
theorem dJ25_next_29 : decode cJ25_next 29 = .ok (.getfield 1, 3) := dk_180 0 1 (dk_at dksJ25_next_1 5 rfl rfl)
theorem dJ25_next_32 : decode cJ25_next 32 = .ok (.getfield 37, 3) := dk_180 0 37 (dk_at dksJ25_next_1 8 rfl rfl)
theorem dJ25_next_35 : decode cJ25_next 35 = .ok (.astore_n 2, 1) := dk_77 (dk_at dksJ25_next_1 11 rfl rfl)
theorem dJ25_next_36 : decode cJ25_next 36 = .ok (.iload_n 1, 1) := dk_27 (dk_at dksJ25_next_1 12 rfl rfl)
theorem dJ25_next_37 : decode cJ25_next 37 = .ok (.aload_n 2, 1) := dk_44 (dk_at dksJ25_next_1 13 rfl rfl)
theorem dJ25_next_38 : decode cJ25_next 38 = .ok (.arraylength, 1) := dk_190 (dk_at dksJ25_next_1 14 rfl rfl)
theorem dJ25_next_39 : decode cJ25_next 39 = .ok (.if_icmp .lt 11, 3) := dk_161 0 11 (dk_at dksJ25_next_1 15 rfl rfl)
theorem dJ25_next_42 : decode cJ25_next 42 = .ok (.new 41, 3) := dk_187 0 41 (dk_at dksJ25_next_1 18 rfl rfl)
theorem dJ25_next_45 : decode cJ25_next 45 = .ok (.dup, 1) := dk_89 (dk_at dksJ25_next_1 21 rfl rfl)
theorem dJ25_next_46 : decode cJ25_next 46 = .ok (.invokespecial 43, 3) := dk_183 0 43 (dk_at dksJ25_next_2 0 rfl rfl)
theorem dJ25_next_49 : decode cJ25_next 49 = .ok (.athrow, 1) := dk_191 (dk_at dksJ25_next_2 3 rfl rfl)
theorem dJ25_next_50 : decode cJ25_next 50 = .ok (.aload_n 0, 1) := dk_42 (dk_at dksJ25_next_2 4 rfl rfl)
theorem dJ25_next_51 : decode cJ25_next 51 = .ok (.iload_n 1, 1) := dk_27 (dk_at dksJ25_next_2 5 rfl rfl)
theorem dJ25_next_52 : decode cJ25_next 52 = .ok (.iconst 1, 1) := dk_4 (dk_at dksJ25_next_2 6 rfl rfl)
theorem dJ25_next_53 : decode cJ25_next 53 = .ok (.iadd, 1) := dk_96 (dk_at dksJ25_next_2 7 rfl rfl)
theorem dJ25_next_54 : decode cJ25_next 54 = .ok (.putfield 25, 3) := dk_181 0 25 (dk_at dksJ25_next_2 8 rfl rfl)
theorem dJ25_next_57 : decode cJ25_next 57 = .ok (.aload_n 2, 1) := dk_44 (dk_at dksJ25_next_2 11 rfl rfl)
theorem dJ25_next_58 : decode cJ25_next 58 = .ok (.aload_n 0, 1) := dk_42 (dk_at dksJ25_next_2 12 rfl rfl)
theorem dJ25_next_59 : decode cJ25_next 59 = .ok (.iload_n 1, 1) := dk_27 (dk_at dksJ25_next_2 13 rfl rfl)
theorem dJ25_next_60 : decode cJ25_next 60 = .ok (.dup_x1, 1) := dk_90 (dk_at dksJ25_next_2 14 rfl rfl)
theorem dJ25_next_61 : decode cJ25_next 61 = .ok (.putfield 13, 3) := dk_181 0 13 (dk_at dksJ25_next_2 15 rfl rfl)
theorem dJ25_next_64 : decode cJ25_next 64 = .ok (.aaload, 1) := dk_50 (dk_at dksJ25_next_2 18 rfl rfl)
theorem dJ25_next_65 : decode cJ25_next 65 = .ok (.areturn, 1) := dk_176 (dk_at dksJ25_next_2 19 rfl rfl)
abbrev cJ25_checkForComodification : ByteArray := prog_51_method_6_code
def yJ25_checkForComodification : MethodName := ⟨RJ25, "checkForComodification", "()V"⟩
def dkwJ25_checkForComodification_0 : List UInt8 := [42, 180, 0, 1, 180, 0, 17, 42, 180, 0, 22, 159, 0, 11, 187, 0, 41, 89, 183, 0, 43, 191, 177]
abbrev dktJ25_checkForComodification_0 : List UInt8 := dkwJ25_checkForComodification_0 ++ []
theorem dksJ25_checkForComodification_0 : cJ25_checkForComodification.data.toList.drop 0 = dktJ25_checkForComodification_0 := by decide +kernel
theorem dJ25_checkForComodification_0 : decode cJ25_checkForComodification 0 = .ok (.aload_n 0, 1) := dk_42 (dk_at dksJ25_checkForComodification_0 0 rfl rfl)
theorem dJ25_checkForComodification_1 : decode cJ25_checkForComodification 1 = .ok (.getfield 1, 3) := dk_180 0 1 (dk_at dksJ25_checkForComodification_0 1 rfl rfl)
theorem dJ25_checkForComodification_4 : decode cJ25_checkForComodification 4 = .ok (.getfield 17, 3) := dk_180 0 17 (dk_at dksJ25_checkForComodification_0 4 rfl rfl)
theorem dJ25_checkForComodification_7 : decode cJ25_checkForComodification 7 = .ok (.aload_n 0, 1) := dk_42 (dk_at dksJ25_checkForComodification_0 7 rfl rfl)
theorem dJ25_checkForComodification_8 : decode cJ25_checkForComodification 8 = .ok (.getfield 22, 3) := dk_180 0 22 (dk_at dksJ25_checkForComodification_0 8 rfl rfl)
theorem dJ25_checkForComodification_11 : decode cJ25_checkForComodification 11 = .ok (.if_icmp .eq 11, 3) := dk_159 0 11 (dk_at dksJ25_checkForComodification_0 11 rfl rfl)
theorem dJ25_checkForComodification_14 : decode cJ25_checkForComodification 14 = .ok (.new 41, 3) := dk_187 0 41 (dk_at dksJ25_checkForComodification_0 14 rfl rfl)
theorem dJ25_checkForComodification_17 : decode cJ25_checkForComodification 17 = .ok (.dup, 1) := dk_89 (dk_at dksJ25_checkForComodification_0 17 rfl rfl)
theorem dJ25_checkForComodification_18 : decode cJ25_checkForComodification 18 = .ok (.invokespecial 43, 3) := dk_183 0 43 (dk_at dksJ25_checkForComodification_0 18 rfl rfl)
theorem dJ25_checkForComodification_21 : decode cJ25_checkForComodification 21 = .ok (.athrow, 1) := dk_191 (dk_at dksJ25_checkForComodification_0 21 rfl rfl)
theorem dJ25_checkForComodification_22 : decode cJ25_checkForComodification 22 = .ok (.return_, 1) := dk_177 (dk_at dksJ25_checkForComodification_0 22 rfl rfl)
theorem q100 : (Jvm.Cond.initialized "java/util/ArrayList$Itr") ∈ lw_all := lw_g (lw_at lw_m1 31 rfl) rfl
theorem q146 : (Jvm.Cond.fieldLink "java/util/ArrayList$Itr" (37 : Nat) "java/util/ArrayList" "elementData" "[Ljava/lang/Object;") ∈ lw_all := lw_g (lw_at lw_m1 77 rfl) rfl
theorem q147 : (Jvm.Cond.fieldLinkNest "java/util/ArrayList$Itr" (28 : Nat) "java/util/ArrayList" "size" "I" "java/util/ArrayList") ∈ lw_tbl := lw_at lw_m1 78 rfl
theorem q152 : (Jvm.Cond.fieldLink "java/util/ArrayList$Itr" (17 : Nat) "java/util/ArrayList" "modCount" "I") ∈ lw_all := lw_g (lw_at lw_m1 83 rfl) rfl
theorem q244 : (Jvm.Cond.selects "java/util/ArrayList$Itr" ({ cls := "java/lang/Object", name := "getClass", desc := "()Ljava/lang/Class;" } : Jvm.MethodName) ({ cls := "java/lang/Object", name := "getClass", desc := "()Ljava/lang/Class;" } : Jvm.MethodName)) ∈ lw_all := lw_g (lw_at lw_m1 175 rfl) rfl
theorem q791 : (Jvm.Cond.instantiable "java/util/ArrayList$Itr" (4 : Nat)) ∈ lw_all := lw_g (lw_at lw_m4 2 rfl) rfl
theorem q793 : (Jvm.Cond.instanceMethod ({ cls := "java/util/ArrayList$Itr", name := "<init>", desc := "(Ljava/util/ArrayList;)V" } : Jvm.MethodName)) ∈ lw_all := lw_g (lw_at lw_m4 4 rfl) rfl
theorem q794 : (Jvm.Cond.code ({ cls := "java/util/ArrayList$Itr", name := "<init>", desc := "(Ljava/util/ArrayList;)V" } : Jvm.MethodName) prog_51_method_1_code (2 : Nat) (Option.none : Option Jvm.ClassFile.FieldType)) ∈ lw_all := lw_g (lw_at lw_m4 5 rfl) rfl
theorem q795 : (Jvm.Cond.methodLink "java/util/ArrayList$Itr" (7 : Nat) ({ cls := "java/lang/Object", name := "<init>", desc := "()V" } : Jvm.MethodName)) ∈ lw_all := lw_g (lw_at lw_m4 6 rfl) rfl
theorem q798 : (Jvm.Cond.fieldLink "java/util/ArrayList$Itr" (25 : Nat) "java/util/ArrayList$Itr" "cursor" "I") ∈ lw_all := lw_g (lw_at lw_m4 9 rfl) rfl
theorem q799 : (Jvm.Cond.fieldLink "java/util/ArrayList$Itr" (13 : Nat) "java/util/ArrayList$Itr" "lastRet" "I") ∈ lw_all := lw_g (lw_at lw_m4 10 rfl) rfl
theorem q800 : (Jvm.Cond.fieldLink "java/util/ArrayList$Itr" (22 : Nat) "java/util/ArrayList$Itr" "expectedModCount" "I") ∈ lw_all := lw_g (lw_at lw_m4 11 rfl) rfl
theorem q801 : (Jvm.Cond.fieldLink "java/util/ArrayList$Itr" (1 : Nat) "java/util/ArrayList$Itr" "this$0" "Ljava/util/ArrayList;") ∈ lw_all := lw_g (lw_at lw_m4 12 rfl) rfl
theorem q802 : (Jvm.Cond.lays "java/util/ArrayList$Itr" "java/util/ArrayList$Itr" "cursor" "I") ∈ lw_all := lw_g (lw_at lw_m4 13 rfl) rfl
theorem q803 : (Jvm.Cond.soleField "java/util/ArrayList$Itr" "cursor") ∈ lw_all := lw_g (lw_at lw_m4 14 rfl) rfl
theorem q804 : (Jvm.Cond.lays "java/util/ArrayList$Itr" "java/util/ArrayList$Itr" "lastRet" "I") ∈ lw_all := lw_g (lw_at lw_m4 15 rfl) rfl
theorem q805 : (Jvm.Cond.soleField "java/util/ArrayList$Itr" "lastRet") ∈ lw_all := lw_g (lw_at lw_m4 16 rfl) rfl
theorem q806 : (Jvm.Cond.lays "java/util/ArrayList$Itr" "java/util/ArrayList$Itr" "expectedModCount" "I") ∈ lw_all := lw_g (lw_at lw_m4 17 rfl) rfl
theorem q807 : (Jvm.Cond.soleField "java/util/ArrayList$Itr" "expectedModCount") ∈ lw_all := lw_g (lw_at lw_m4 18 rfl) rfl
theorem q808 : (Jvm.Cond.laysFinal "java/util/ArrayList$Itr" "java/util/ArrayList$Itr" "this$0" "Ljava/util/ArrayList;") ∈ lw_all := lw_g (lw_at lw_m4 19 rfl) rfl
theorem q809 : (Jvm.Cond.soleField "java/util/ArrayList$Itr" "this$0") ∈ lw_all := lw_g (lw_at lw_m4 20 rfl) rfl
theorem q810 : (Jvm.Cond.superclass "java/util/ArrayList$Itr" "java/lang/Object") ∈ lw_all := lw_g (lw_at lw_m4 21 rfl) rfl
theorem q921 : (Jvm.Cond.castable "java/util/ArrayList$Itr" "java/util/Iterator") ∈ lw_tbl := lw_at lw_m4 132 rfl
theorem q922 : (Jvm.Cond.selects "java/util/ArrayList$Itr" ({ cls := "java/util/Iterator", name := "hasNext", desc := "()Z" } : Jvm.MethodName) ({ cls := "java/util/ArrayList$Itr", name := "hasNext", desc := "()Z" } : Jvm.MethodName)) ∈ lw_all := lw_g (lw_at lw_m4 133 rfl) rfl
theorem q923 : (Jvm.Cond.unhidden "java/util/ArrayList$Itr" "hasNext" "()Z") ∈ lw_tbl := lw_at lw_m4 134 rfl
theorem q924 : (Jvm.Cond.instanceMethod ({ cls := "java/util/ArrayList$Itr", name := "hasNext", desc := "()Z" } : Jvm.MethodName)) ∈ lw_all := lw_g (lw_at lw_m4 135 rfl) rfl
theorem q925 : (Jvm.Cond.publicMethod ({ cls := "java/util/ArrayList$Itr", name := "hasNext", desc := "()Z" } : Jvm.MethodName)) ∈ lw_tbl := lw_at lw_m4 136 rfl
theorem q926 : (Jvm.Cond.code ({ cls := "java/util/ArrayList$Itr", name := "hasNext", desc := "()Z" } : Jvm.MethodName) prog_51_method_2_code (1 : Nat) (Option.some Jvm.ClassFile.FieldType.boolean)) ∈ lw_all := lw_g (lw_at lw_m4 137 rfl) rfl
theorem q1121 : (Jvm.Cond.selects "java/util/ArrayList$Itr" ({ cls := "java/util/Iterator", name := "next", desc := "()Ljava/lang/Object;" } : Jvm.MethodName) ({ cls := "java/util/ArrayList$Itr", name := "next", desc := "()Ljava/lang/Object;" } : Jvm.MethodName)) ∈ lw_all := lw_g (lw_at lw_m5 92 rfl) rfl
theorem q1122 : (Jvm.Cond.unhidden "java/util/ArrayList$Itr" "next" "()Ljava/lang/Object;") ∈ lw_tbl := lw_at lw_m5 93 rfl
theorem q1123 : (Jvm.Cond.instanceMethod ({ cls := "java/util/ArrayList$Itr", name := "next", desc := "()Ljava/lang/Object;" } : Jvm.MethodName)) ∈ lw_all := lw_g (lw_at lw_m5 94 rfl) rfl
theorem q1124 : (Jvm.Cond.publicMethod ({ cls := "java/util/ArrayList$Itr", name := "next", desc := "()Ljava/lang/Object;" } : Jvm.MethodName)) ∈ lw_tbl := lw_at lw_m5 95 rfl
theorem q1125 : (Jvm.Cond.code ({ cls := "java/util/ArrayList$Itr", name := "next", desc := "()Ljava/lang/Object;" } : Jvm.MethodName) prog_51_method_3_code (3 : Nat) (Option.some (Jvm.ClassFile.FieldType.object "java/lang/Object"))) ∈ lw_all := lw_g (lw_at lw_m5 96 rfl) rfl
theorem q1126 : (Jvm.Cond.methodLink "java/util/ArrayList$Itr" (31 : Nat) ({ cls := "java/util/ArrayList$Itr", name := "checkForComodification", desc := "()V" } : Jvm.MethodName)) ∈ lw_all := lw_g (lw_at lw_m5 97 rfl) rfl
theorem q1127 : (Jvm.Cond.instanceMethod ({ cls := "java/util/ArrayList$Itr", name := "checkForComodification", desc := "()V" } : Jvm.MethodName)) ∈ lw_all := lw_g (lw_at lw_m5 98 rfl) rfl
theorem q1128 : (Jvm.Cond.selects "java/util/ArrayList$Itr" ({ cls := "java/util/ArrayList$Itr", name := "checkForComodification", desc := "()V" } : Jvm.MethodName) ({ cls := "java/util/ArrayList$Itr", name := "checkForComodification", desc := "()V" } : Jvm.MethodName)) ∈ lw_all := lw_g (lw_at lw_m5 99 rfl) rfl
theorem q1129 : (Jvm.Cond.sameMethod "java/util/ArrayList$Itr" "java/util/ArrayList$Itr" "checkForComodification" "()V") ∈ lw_all := lw_g (lw_at lw_m5 100 rfl) rfl
theorem q1131 : (Jvm.Cond.code ({ cls := "java/util/ArrayList$Itr", name := "checkForComodification", desc := "()V" } : Jvm.MethodName) prog_51_method_6_code (1 : Nat) (Option.none : Option Jvm.ClassFile.FieldType)) ∈ lw_all := lw_g (lw_at lw_m5 102 rfl) rfl
theorem q1132 : (Jvm.Cond.classLink "java/util/ArrayList$Itr" (34 : Nat) "java/util/NoSuchElementException") ∈ lw_all := lw_g (lw_at lw_m5 103 rfl) rfl
theorem q1133 : (Jvm.Cond.methodLink "java/util/ArrayList$Itr" (36 : Nat) ({ cls := "java/util/NoSuchElementException", name := "<init>", desc := "()V" } : Jvm.MethodName)) ∈ lw_all := lw_g (lw_at lw_m5 104 rfl) rfl
theorem q2074 : (Jvm.Cond.castable "java/util/ArrayList$Itr" "java/lang/Object") ∈ lw_tbl := lw_at lw_m9 85 rfl
theorem in_J25 : ∀ w ∈ wsJ250, w ∈ lw_all := lw_in wsJ250 [802, 804, 806, 808] (by decide +kernel) (by decide +kernel)
/-! java/util/AbstractList$Itr -/
set_option maxRecDepth 100000
def RJ26 : String := "java/util/AbstractList$Itr"
abbrev cJ26_hasNext : ByteArray := prog_45_method_2_code
def yJ26_hasNext : MethodName := ⟨RJ26, "hasNext", "()Z"⟩
def dkwJ26_hasNext_0 : List UInt8 := [42, 180, 0, 13, 42, 180, 0, 1, 182, 0, 28, 159, 0, 7, 4, 167, 0, 4, 3, 172]
abbrev dktJ26_hasNext_0 : List UInt8 := dkwJ26_hasNext_0 ++ []
theorem dksJ26_hasNext_0 : cJ26_hasNext.data.toList.drop 0 = dktJ26_hasNext_0 := by decide +kernel
theorem dJ26_hasNext_0 : decode cJ26_hasNext 0 = .ok (.aload_n 0, 1) := dk_42 (dk_at dksJ26_hasNext_0 0 rfl rfl)
theorem dJ26_hasNext_1 : decode cJ26_hasNext 1 = .ok (.getfield 13, 3) := dk_180 0 13 (dk_at dksJ26_hasNext_0 1 rfl rfl)
theorem dJ26_hasNext_4 : decode cJ26_hasNext 4 = .ok (.aload_n 0, 1) := dk_42 (dk_at dksJ26_hasNext_0 4 rfl rfl)
theorem dJ26_hasNext_5 : decode cJ26_hasNext 5 = .ok (.getfield 1, 3) := dk_180 0 1 (dk_at dksJ26_hasNext_0 5 rfl rfl)
theorem dJ26_hasNext_8 : decode cJ26_hasNext 8 = .ok (.invokevirtual 28, 3) := dk_182 0 28 (dk_at dksJ26_hasNext_0 8 rfl rfl)
theorem dJ26_hasNext_11 : decode cJ26_hasNext 11 = .ok (.if_icmp .eq 7, 3) := dk_159 0 7 (dk_at dksJ26_hasNext_0 11 rfl rfl)
theorem dJ26_hasNext_14 : decode cJ26_hasNext 14 = .ok (.iconst 1, 1) := dk_4 (dk_at dksJ26_hasNext_0 14 rfl rfl)
theorem dJ26_hasNext_15 : decode cJ26_hasNext 15 = .ok (.goto 4, 3) := dk_167 0 4 (dk_at dksJ26_hasNext_0 15 rfl rfl)
theorem dJ26_hasNext_18 : decode cJ26_hasNext 18 = .ok (.iconst 0, 1) := dk_3 (dk_at dksJ26_hasNext_0 18 rfl rfl)
theorem dJ26_hasNext_19 : decode cJ26_hasNext 19 = .ok (.ireturn, 1) := dk_172 (dk_at dksJ26_hasNext_0 19 rfl rfl)
abbrev cJ26_next : ByteArray := prog_45_method_3_code
def yJ26_next : MethodName := ⟨RJ26, "next", "()Ljava/lang/Object;"⟩
def dkwJ26_next_1 : List UInt8 := [27, 4, 96, 181, 0, 13, 44, 176, 76, 42, 182, 0, 32, 187, 0, 41, 89, 43, 183, 0, 43, 191]
abbrev dktJ26_next_1 : List UInt8 := dkwJ26_next_1 ++ []
def dkwJ26_next_0 : List UInt8 := [42, 182, 0, 32, 42, 180, 0, 13, 60, 42, 180, 0, 1, 27, 182, 0, 35, 77, 42, 27, 181, 0, 17, 42]
abbrev dktJ26_next_0 : List UInt8 := dkwJ26_next_0 ++ dktJ26_next_1
theorem dksJ26_next_0 : cJ26_next.data.toList.drop 0 = dktJ26_next_0 := by decide +kernel
theorem dksJ26_next_1 : cJ26_next.data.toList.drop 24 = dktJ26_next_1 := dk_seg dksJ26_next_0 24 rfl rfl
theorem dJ26_next_0 : decode cJ26_next 0 = .ok (.aload_n 0, 1) := dk_42 (dk_at dksJ26_next_0 0 rfl rfl)
theorem dJ26_next_1 : decode cJ26_next 1 = .ok (.invokevirtual 32, 3) := dk_182 0 32 (dk_at dksJ26_next_0 1 rfl rfl)
theorem dJ26_next_4 : decode cJ26_next 4 = .ok (.aload_n 0, 1) := dk_42 (dk_at dksJ26_next_0 4 rfl rfl)
theorem dJ26_next_5 : decode cJ26_next 5 = .ok (.getfield 13, 3) := dk_180 0 13 (dk_at dksJ26_next_0 5 rfl rfl)
theorem dJ26_next_8 : decode cJ26_next 8 = .ok (.istore_n 1, 1) := dk_60 (dk_at dksJ26_next_0 8 rfl rfl)
theorem dJ26_next_9 : decode cJ26_next 9 = .ok (.aload_n 0, 1) := dk_42 (dk_at dksJ26_next_0 9 rfl rfl)
theorem dJ26_next_10 : decode cJ26_next 10 = .ok (.getfield 1, 3) := dk_180 0 1 (dk_at dksJ26_next_0 10 rfl rfl)
theorem dJ26_next_13 : decode cJ26_next 13 = .ok (.iload_n 1, 1) := dk_27 (dk_at dksJ26_next_0 13 rfl rfl)
theorem dJ26_next_14 : decode cJ26_next 14 = .ok (.invokevirtual 35, 3) := dk_182 0 35 (dk_at dksJ26_next_0 14 rfl rfl)
theorem dJ26_next_17 : decode cJ26_next 17 = .ok (.astore_n 2, 1) := dk_77 (dk_at dksJ26_next_0 17 rfl rfl)
theorem dJ26_next_18 : decode cJ26_next 18 = .ok (.aload_n 0, 1) := dk_42 (dk_at dksJ26_next_0 18 rfl rfl)
theorem dJ26_next_19 : decode cJ26_next 19 = .ok (.iload_n 1, 1) := dk_27 (dk_at dksJ26_next_0 19 rfl rfl)
theorem dJ26_next_20 : decode cJ26_next 20 = .ok (.putfield 17, 3) := dk_181 0 17 (dk_at dksJ26_next_0 20 rfl rfl)
theorem dJ26_next_23 : decode cJ26_next 23 = .ok (.aload_n 0, 1) := dk_42 (dk_at dksJ26_next_0 23 rfl rfl)
theorem dJ26_next_24 : decode cJ26_next 24 = .ok (.iload_n 1, 1) := dk_27 (dk_at dksJ26_next_1 0 rfl rfl)
theorem dJ26_next_25 : decode cJ26_next 25 = .ok (.iconst 1, 1) := dk_4 (dk_at dksJ26_next_1 1 rfl rfl)
theorem dJ26_next_26 : decode cJ26_next 26 = .ok (.iadd, 1) := dk_96 (dk_at dksJ26_next_1 2 rfl rfl)
theorem dJ26_next_27 : decode cJ26_next 27 = .ok (.putfield 13, 3) := dk_181 0 13 (dk_at dksJ26_next_1 3 rfl rfl)
theorem dJ26_next_30 : decode cJ26_next 30 = .ok (.aload_n 2, 1) := dk_44 (dk_at dksJ26_next_1 6 rfl rfl)
theorem dJ26_next_31 : decode cJ26_next 31 = .ok (.areturn, 1) := dk_176 (dk_at dksJ26_next_1 7 rfl rfl)
theorem dJ26_next_32 : decode cJ26_next 32 = .ok (.astore_n 1, 1) := dk_76 (dk_at dksJ26_next_1 8 rfl rfl)
theorem dJ26_next_33 : decode cJ26_next 33 = .ok (.aload_n 0, 1) := dk_42 (dk_at dksJ26_next_1 9 rfl rfl)
theorem dJ26_next_34 : decode cJ26_next 34 = .ok (.invokevirtual 32, 3) := dk_182 0 32 (dk_at dksJ26_next_1 10 rfl rfl)
theorem dJ26_next_37 : decode cJ26_next 37 = .ok (.new 41, 3) := dk_187 0 41 (dk_at dksJ26_next_1 13 rfl rfl)
theorem dJ26_next_40 : decode cJ26_next 40 = .ok (.dup, 1) := dk_89 (dk_at dksJ26_next_1 16 rfl rfl)
theorem dJ26_next_41 : decode cJ26_next 41 = .ok (.aload_n 1, 1) := dk_43 (dk_at dksJ26_next_1 17 rfl rfl)
theorem dJ26_next_42 : decode cJ26_next 42 = .ok (.invokespecial 43, 3) := dk_183 0 43 (dk_at dksJ26_next_1 18 rfl rfl)
theorem dJ26_next_45 : decode cJ26_next 45 = .ok (.athrow, 1) := dk_191 (dk_at dksJ26_next_1 21 rfl rfl)
abbrev cJ26_checkForComodification : ByteArray := prog_45_method_5_code
def yJ26_checkForComodification : MethodName := ⟨RJ26, "checkForComodification", "()V"⟩
def dkwJ26_checkForComodification_0 : List UInt8 := [42, 180, 0, 1, 180, 0, 20, 42, 180, 0, 25, 159, 0, 11, 187, 0, 52, 89, 183, 0, 54, 191, 177]
abbrev dktJ26_checkForComodification_0 : List UInt8 := dkwJ26_checkForComodification_0 ++ []
theorem dksJ26_checkForComodification_0 : cJ26_checkForComodification.data.toList.drop 0 = dktJ26_checkForComodification_0 := by decide +kernel
theorem dJ26_checkForComodification_0 : decode cJ26_checkForComodification 0 = .ok (.aload_n 0, 1) := dk_42 (dk_at dksJ26_checkForComodification_0 0 rfl rfl)
theorem dJ26_checkForComodification_1 : decode cJ26_checkForComodification 1 = .ok (.getfield 1, 3) := dk_180 0 1 (dk_at dksJ26_checkForComodification_0 1 rfl rfl)
theorem dJ26_checkForComodification_4 : decode cJ26_checkForComodification 4 = .ok (.getfield 20, 3) := dk_180 0 20 (dk_at dksJ26_checkForComodification_0 4 rfl rfl)
theorem dJ26_checkForComodification_7 : decode cJ26_checkForComodification 7 = .ok (.aload_n 0, 1) := dk_42 (dk_at dksJ26_checkForComodification_0 7 rfl rfl)
theorem dJ26_checkForComodification_8 : decode cJ26_checkForComodification 8 = .ok (.getfield 25, 3) := dk_180 0 25 (dk_at dksJ26_checkForComodification_0 8 rfl rfl)
theorem dJ26_checkForComodification_11 : decode cJ26_checkForComodification 11 = .ok (.if_icmp .eq 11, 3) := dk_159 0 11 (dk_at dksJ26_checkForComodification_0 11 rfl rfl)
theorem dJ26_checkForComodification_14 : decode cJ26_checkForComodification 14 = .ok (.new 52, 3) := dk_187 0 52 (dk_at dksJ26_checkForComodification_0 14 rfl rfl)
theorem dJ26_checkForComodification_17 : decode cJ26_checkForComodification 17 = .ok (.dup, 1) := dk_89 (dk_at dksJ26_checkForComodification_0 17 rfl rfl)
theorem dJ26_checkForComodification_18 : decode cJ26_checkForComodification 18 = .ok (.invokespecial 54, 3) := dk_183 0 54 (dk_at dksJ26_checkForComodification_0 18 rfl rfl)
theorem dJ26_checkForComodification_21 : decode cJ26_checkForComodification 21 = .ok (.athrow, 1) := dk_191 (dk_at dksJ26_checkForComodification_0 21 rfl rfl)
theorem dJ26_checkForComodification_22 : decode cJ26_checkForComodification 22 = .ok (.return_, 1) := dk_177 (dk_at dksJ26_checkForComodification_0 22 rfl rfl)
theorem q101 : (Jvm.Cond.initialized "java/util/AbstractList$Itr") ∈ lw_all := lw_g (lw_at lw_m1 32 rfl) rfl
theorem q154 : (Jvm.Cond.fieldLink "java/util/AbstractList$Itr" (20 : Nat) "java/util/AbstractList" "modCount" "I") ∈ lw_all := lw_g (lw_at lw_m1 85 rfl) rfl
theorem q907 : (Jvm.Cond.instanceMethod ({ cls := "java/util/AbstractList$Itr", name := "hasNext", desc := "()Z" } : Jvm.MethodName)) ∈ lw_all := lw_g (lw_at lw_m4 118 rfl) rfl
theorem q908 : (Jvm.Cond.publicMethod ({ cls := "java/util/AbstractList$Itr", name := "hasNext", desc := "()Z" } : Jvm.MethodName)) ∈ lw_tbl := lw_at lw_m4 119 rfl
theorem q909 : (Jvm.Cond.code ({ cls := "java/util/AbstractList$Itr", name := "hasNext", desc := "()Z" } : Jvm.MethodName) prog_45_method_2_code (1 : Nat) (Option.some Jvm.ClassFile.FieldType.boolean)) ∈ lw_all := lw_g (lw_at lw_m4 120 rfl) rfl
theorem q910 : (Jvm.Cond.methodLink "java/util/AbstractList$Itr" (28 : Nat) ({ cls := "java/util/AbstractList", name := "size", desc := "()I" } : Jvm.MethodName)) ∈ lw_all := lw_g (lw_at lw_m4 121 rfl) rfl
theorem q1021 : (Jvm.Cond.instanceMethod ({ cls := "java/util/AbstractList$Itr", name := "next", desc := "()Ljava/lang/Object;" } : Jvm.MethodName)) ∈ lw_all := lw_g (lw_at lw_m4 232 rfl) rfl
theorem q1022 : (Jvm.Cond.publicMethod ({ cls := "java/util/AbstractList$Itr", name := "next", desc := "()Ljava/lang/Object;" } : Jvm.MethodName)) ∈ lw_tbl := lw_at lw_m4 233 rfl
theorem q1023 : (Jvm.Cond.codeWith ({ cls := "java/util/AbstractList$Itr", name := "next", desc := "()Ljava/lang/Object;" } : Jvm.MethodName) prog_45_method_3_code (3 : Nat) (Option.some (Jvm.ClassFile.FieldType.object "java/lang/Object")) [((4 : Nat), (31 : Nat), (32 : Nat), (39 : Nat))]) ∈ lw_all := lw_g (lw_at lw_m4 234 rfl) rfl
theorem q1024 : (Jvm.Cond.methodLink "java/util/AbstractList$Itr" (32 : Nat) ({ cls := "java/util/AbstractList$Itr", name := "checkForComodification", desc := "()V" } : Jvm.MethodName)) ∈ lw_all := lw_g (lw_at lw_m4 235 rfl) rfl
theorem q1025 : (Jvm.Cond.instanceMethod ({ cls := "java/util/AbstractList$Itr", name := "checkForComodification", desc := "()V" } : Jvm.MethodName)) ∈ lw_all := lw_g (lw_at lw_m4 236 rfl) rfl
theorem q1026 : (Jvm.Cond.sameMethod "java/util/AbstractList$Itr" "java/util/AbstractList$Itr" "checkForComodification" "()V") ∈ lw_all := lw_g (lw_at lw_m4 237 rfl) rfl
theorem q1028 : (Jvm.Cond.code ({ cls := "java/util/AbstractList$Itr", name := "checkForComodification", desc := "()V" } : Jvm.MethodName) prog_45_method_5_code (1 : Nat) (Option.none : Option Jvm.ClassFile.FieldType)) ∈ lw_all := lw_g (lw_at lw_m4 239 rfl) rfl
theorem q1029 : (Jvm.Cond.methodLink "java/util/AbstractList$Itr" (35 : Nat) ({ cls := "java/util/AbstractList", name := "get", desc := "(I)Ljava/lang/Object;" } : Jvm.MethodName)) ∈ lw_all := lw_g (lw_at lw_m5 0 rfl) rfl
theorem q1034 : (Jvm.Cond.classLink "java/util/AbstractList$Itr" (41 : Nat) "java/util/NoSuchElementException") ∈ lw_all := lw_g (lw_at lw_m5 5 rfl) rfl
theorem q1043 : (Jvm.Cond.methodLink "java/util/AbstractList$Itr" (43 : Nat) ({ cls := "java/util/NoSuchElementException", name := "<init>", desc := "(Ljava/lang/Throwable;)V" } : Jvm.MethodName)) ∈ lw_all := lw_g (lw_at lw_m5 14 rfl) rfl
theorem q2102 : (Jvm.Cond.fieldLink "java/util/AbstractList$Itr" (1 : Nat) "java/util/AbstractList$Itr" "this$0" "Ljava/util/AbstractList;") ∈ lw_all := lw_g (lw_at lw_m9 113 rfl) rfl
theorem q2103 : (Jvm.Cond.fieldLink "java/util/AbstractList$Itr" (13 : Nat) "java/util/AbstractList$Itr" "cursor" "I") ∈ lw_all := lw_g (lw_at lw_m9 114 rfl) rfl
theorem q2104 : (Jvm.Cond.fieldLink "java/util/AbstractList$Itr" (17 : Nat) "java/util/AbstractList$Itr" "lastRet" "I") ∈ lw_all := lw_g (lw_at lw_m9 115 rfl) rfl
theorem q2105 : (Jvm.Cond.fieldLink "java/util/AbstractList$Itr" (25 : Nat) "java/util/AbstractList$Itr" "expectedModCount" "I") ∈ lw_all := lw_g (lw_at lw_m9 116 rfl) rfl
/-! java/util/ArrayList$ListItr -/
set_option maxRecDepth 100000
def RJ27 : String := "java/util/ArrayList$ListItr"
def TJ27 : u_T := fun k => match k with
  | 0 => ("java/util/ArrayList$Itr", "cursor", "I", false)
  | 1 => ("java/util/ArrayList$Itr", "lastRet", "I", false)
  | 2 => ("java/util/ArrayList$Itr", "expectedModCount", "I", false)
  | 3 => ("java/util/ArrayList$Itr", "this$0", "Ljava/util/ArrayList;", true)
  | _ => ("java/util/ArrayList$ListItr", "this$0", "Ljava/util/ArrayList;", true)
def tyJ27 : Nat → FieldType := fun k => match k with
  | 0 => .int
  | 1 => .int
  | 2 => .int
  | 3 => .object "java/util/ArrayList"
  | _ => .object "java/util/ArrayList"
abbrev wsJ270 : List Cond := u_ws RJ27 TJ27 5
-- two fields of one name: no nmJ27
theorem tyJ27_ok : ∀ k, k < 5 → parseFieldDescriptor (TJ27 k).2.2.1 = some (tyJ27 k) := by decide +kernel
abbrev cJ27_init : ByteArray := prog_52_method_1_code
def yJ27_init : MethodName := ⟨RJ27, "<init>", "(Ljava/util/ArrayList;I)V"⟩
def dkwJ27_init_0 : List UInt8 := [42, 43, 181, 0, 1, 42, 43, 183, 0, 7, 42, 28, 181, 0, 13, 177]
abbrev dktJ27_init_0 : List UInt8 := dkwJ27_init_0 ++ []
theorem dksJ27_init_0 : cJ27_init.data.toList.drop 0 = dktJ27_init_0 := by decide +kernel
theorem dJ27_init_0 : decode cJ27_init 0 = .ok (.aload_n 0, 1) := dk_42 (dk_at dksJ27_init_0 0 rfl rfl)
theorem dJ27_init_1 : decode cJ27_init 1 = .ok (.aload_n 1, 1) := dk_43 (dk_at dksJ27_init_0 1 rfl rfl)
theorem dJ27_init_2 : decode cJ27_init 2 = .ok (.putfield 1, 3) := dk_181 0 1 (dk_at dksJ27_init_0 2 rfl rfl)
theorem dJ27_init_5 : decode cJ27_init 5 = .ok (.aload_n 0, 1) := dk_42 (dk_at dksJ27_init_0 5 rfl rfl)
theorem dJ27_init_6 : decode cJ27_init 6 = .ok (.aload_n 1, 1) := dk_43 (dk_at dksJ27_init_0 6 rfl rfl)
theorem dJ27_init_7 : decode cJ27_init 7 = .ok (.invokespecial 7, 3) := dk_183 0 7 (dk_at dksJ27_init_0 7 rfl rfl)
theorem dJ27_init_10 : decode cJ27_init 10 = .ok (.aload_n 0, 1) := dk_42 (dk_at dksJ27_init_0 10 rfl rfl)
theorem dJ27_init_11 : decode cJ27_init 11 = .ok (.iload_n 2, 1) := dk_28 (dk_at dksJ27_init_0 11 rfl rfl)
theorem dJ27_init_12 : decode cJ27_init 12 = .ok (.putfield 13, 3) := dk_181 0 13 (dk_at dksJ27_init_0 12 rfl rfl)
theorem dJ27_init_15 : decode cJ27_init 15 = .ok (.return_, 1) := dk_177 (dk_at dksJ27_init_0 15 rfl rfl)
theorem q103 : (Jvm.Cond.initialized "java/util/ArrayList$ListItr") ∈ lw_all := lw_g (lw_at lw_m1 34 rfl) rfl
theorem q245 : (Jvm.Cond.selects "java/util/ArrayList$ListItr" ({ cls := "java/lang/Object", name := "getClass", desc := "()Ljava/lang/Class;" } : Jvm.MethodName) ({ cls := "java/lang/Object", name := "getClass", desc := "()Ljava/lang/Class;" } : Jvm.MethodName)) ∈ lw_all := lw_g (lw_at lw_m1 176 rfl) rfl
theorem q796 : (Jvm.Cond.fieldLink "java/util/ArrayList$ListItr" (13 : Nat) "java/util/ArrayList$ListItr" "cursor" "I") ∈ lw_all := lw_g (lw_at lw_m4 7 rfl) rfl
theorem q797 : (Jvm.Cond.sameField "java/util/ArrayList$ListItr" "java/util/ArrayList$Itr" "cursor" "I") ∈ lw_all := lw_g (lw_at lw_m4 8 rfl) rfl
theorem q846 : (Jvm.Cond.instantiable "java/util/ArrayList$ListItr" (5 : Nat)) ∈ lw_all := lw_g (lw_at lw_m4 57 rfl) rfl
theorem q848 : (Jvm.Cond.instanceMethod ({ cls := "java/util/ArrayList$ListItr", name := "<init>", desc := "(Ljava/util/ArrayList;I)V" } : Jvm.MethodName)) ∈ lw_all := lw_g (lw_at lw_m4 59 rfl) rfl
theorem q849 : (Jvm.Cond.code ({ cls := "java/util/ArrayList$ListItr", name := "<init>", desc := "(Ljava/util/ArrayList;I)V" } : Jvm.MethodName) prog_52_method_1_code (3 : Nat) (Option.none : Option Jvm.ClassFile.FieldType)) ∈ lw_all := lw_g (lw_at lw_m4 60 rfl) rfl
theorem q850 : (Jvm.Cond.methodLink "java/util/ArrayList$ListItr" (7 : Nat) ({ cls := "java/util/ArrayList$Itr", name := "<init>", desc := "(Ljava/util/ArrayList;)V" } : Jvm.MethodName)) ∈ lw_all := lw_g (lw_at lw_m4 61 rfl) rfl
theorem q851 : (Jvm.Cond.fieldLink "java/util/ArrayList$ListItr" (1 : Nat) "java/util/ArrayList$ListItr" "this$0" "Ljava/util/ArrayList;") ∈ lw_all := lw_g (lw_at lw_m4 62 rfl) rfl
theorem q852 : (Jvm.Cond.laysFinal "java/util/ArrayList$ListItr" "java/util/ArrayList$ListItr" "this$0" "Ljava/util/ArrayList;") ∈ lw_all := lw_g (lw_at lw_m4 63 rfl) rfl
theorem q853 : (Jvm.Cond.soleField "java/util/ArrayList$ListItr" "this$0") ∈ lw_all := lw_g (lw_at lw_m4 64 rfl) rfl
theorem q854 : (Jvm.Cond.lays "java/util/ArrayList$ListItr" "java/util/ArrayList$Itr" "cursor" "I") ∈ lw_all := lw_g (lw_at lw_m4 65 rfl) rfl
theorem q855 : (Jvm.Cond.lays "java/util/ArrayList$ListItr" "java/util/ArrayList$Itr" "lastRet" "I") ∈ lw_all := lw_g (lw_at lw_m4 66 rfl) rfl
theorem q856 : (Jvm.Cond.lays "java/util/ArrayList$ListItr" "java/util/ArrayList$Itr" "expectedModCount" "I") ∈ lw_all := lw_g (lw_at lw_m4 67 rfl) rfl
theorem q857 : (Jvm.Cond.laysFinal "java/util/ArrayList$ListItr" "java/util/ArrayList$Itr" "this$0" "Ljava/util/ArrayList;") ∈ lw_all := lw_g (lw_at lw_m4 68 rfl) rfl
theorem q858 : (Jvm.Cond.superclass "java/util/ArrayList$ListItr" "java/util/ArrayList$Itr") ∈ lw_all := lw_g (lw_at lw_m4 69 rfl) rfl
theorem q927 : (Jvm.Cond.castable "java/util/ArrayList$ListItr" "java/util/Iterator") ∈ lw_tbl := lw_at lw_m4 138 rfl
theorem q928 : (Jvm.Cond.selects "java/util/ArrayList$ListItr" ({ cls := "java/util/Iterator", name := "hasNext", desc := "()Z" } : Jvm.MethodName) ({ cls := "java/util/ArrayList$Itr", name := "hasNext", desc := "()Z" } : Jvm.MethodName)) ∈ lw_all := lw_g (lw_at lw_m4 139 rfl) rfl
theorem q929 : (Jvm.Cond.unhidden "java/util/ArrayList$ListItr" "hasNext" "()Z") ∈ lw_tbl := lw_at lw_m4 140 rfl
theorem q1130 : (Jvm.Cond.selects "java/util/ArrayList$ListItr" ({ cls := "java/util/ArrayList$Itr", name := "checkForComodification", desc := "()V" } : Jvm.MethodName) ({ cls := "java/util/ArrayList$Itr", name := "checkForComodification", desc := "()V" } : Jvm.MethodName)) ∈ lw_all := lw_g (lw_at lw_m5 101 rfl) rfl
theorem q1134 : (Jvm.Cond.selects "java/util/ArrayList$ListItr" ({ cls := "java/util/Iterator", name := "next", desc := "()Ljava/lang/Object;" } : Jvm.MethodName) ({ cls := "java/util/ArrayList$Itr", name := "next", desc := "()Ljava/lang/Object;" } : Jvm.MethodName)) ∈ lw_all := lw_g (lw_at lw_m5 105 rfl) rfl
theorem q1135 : (Jvm.Cond.unhidden "java/util/ArrayList$ListItr" "next" "()Ljava/lang/Object;") ∈ lw_tbl := lw_at lw_m5 106 rfl
theorem q2076 : (Jvm.Cond.castable "java/util/ArrayList$ListItr" "java/lang/Object") ∈ lw_tbl := lw_at lw_m9 87 rfl
theorem in_J27 : ∀ w ∈ wsJ270, w ∈ lw_all := lw_in wsJ270 [854, 855, 856, 857, 852] (by decide +kernel) (by decide +kernel)
/-! java/util/LinkedList$ListItr -/
set_option maxRecDepth 100000
def RJ28 : String := "java/util/LinkedList$ListItr"
def TJ28 : u_T := fun k => match k with
  | 0 => ("java/util/LinkedList$ListItr", "lastReturned", "Ljava/util/LinkedList$Node;", false)
  | 1 => ("java/util/LinkedList$ListItr", "next", "Ljava/util/LinkedList$Node;", false)
  | 2 => ("java/util/LinkedList$ListItr", "nextIndex", "I", false)
  | 3 => ("java/util/LinkedList$ListItr", "expectedModCount", "I", false)
  | _ => ("java/util/LinkedList$ListItr", "this$0", "Ljava/util/LinkedList;", true)
def tyJ28 : Nat → FieldType := fun k => match k with
  | 0 => .object "java/util/LinkedList$Node"
  | 1 => .object "java/util/LinkedList$Node"
  | 2 => .int
  | 3 => .int
  | _ => .object "java/util/LinkedList"
abbrev wsJ280 : List Cond := u_ws RJ28 TJ28 5
theorem nmJ28 : ∀ a, a < 5 → ∀ b, b < 5 → a ≠ b → (TJ28 a).2.1 ≠ (TJ28 b).2.1 := by decide +kernel
theorem tyJ28_ok : ∀ k, k < 5 → parseFieldDescriptor (TJ28 k).2.2.1 = some (tyJ28 k) := by decide +kernel
abbrev cJ28_init : ByteArray := prog_59_method_1_code
def yJ28_init : MethodName := ⟨RJ28, "<init>", "(Ljava/util/LinkedList;I)V"⟩
def dkwJ28_init_1 : List UInt8 := [180, 0, 22, 160, 0, 7, 1, 167, 0, 8, 43, 28, 182, 0, 25, 181, 0, 29, 42, 28, 181, 0, 33, 177]
abbrev dktJ28_init_1 : List UInt8 := dkwJ28_init_1 ++ []
def dkwJ28_init_0 : List UInt8 := [42, 43, 181, 0, 1, 42, 183, 0, 7, 42, 42, 180, 0, 1, 180, 0, 13, 181, 0, 19, 42, 28, 43]
abbrev dktJ28_init_0 : List UInt8 := dkwJ28_init_0 ++ dktJ28_init_1
theorem dksJ28_init_0 : cJ28_init.data.toList.drop 0 = dktJ28_init_0 := by decide +kernel
theorem dksJ28_init_1 : cJ28_init.data.toList.drop 23 = dktJ28_init_1 := dk_seg dksJ28_init_0 23 rfl rfl
theorem dJ28_init_0 : decode cJ28_init 0 = .ok (.aload_n 0, 1) := dk_42 (dk_at dksJ28_init_0 0 rfl rfl)
theorem dJ28_init_1 : decode cJ28_init 1 = .ok (.aload_n 1, 1) := dk_43 (dk_at dksJ28_init_0 1 rfl rfl)
theorem dJ28_init_2 : decode cJ28_init 2 = .ok (.putfield 1, 3) := dk_181 0 1 (dk_at dksJ28_init_0 2 rfl rfl)
theorem dJ28_init_5 : decode cJ28_init 5 = .ok (.aload_n 0, 1) := dk_42 (dk_at dksJ28_init_0 5 rfl rfl)
theorem dJ28_init_6 : decode cJ28_init 6 = .ok (.invokespecial 7, 3) := dk_183 0 7 (dk_at dksJ28_init_0 6 rfl rfl)
theorem dJ28_init_9 : decode cJ28_init 9 = .ok (.aload_n 0, 1) := dk_42 (dk_at dksJ28_init_0 9 rfl rfl)
theorem dJ28_init_10 : decode cJ28_init 10 = .ok (.aload_n 0, 1) := dk_42 (dk_at dksJ28_init_0 10 rfl rfl)
theorem dJ28_init_11 : decode cJ28_init 11 = .ok (.getfield 1, 3) := dk_180 0 1 (dk_at dksJ28_init_0 11 rfl rfl)
theorem dJ28_init_14 : decode cJ28_init 14 = .ok (.getfield 13, 3) := dk_180 0 13 (dk_at dksJ28_init_0 14 rfl rfl)
theorem dJ28_init_17 : decode cJ28_init 17 = .ok (.putfield 19, 3) := dk_181 0 19 (dk_at dksJ28_init_0 17 rfl rfl)
theorem dJ28_init_20 : decode cJ28_init 20 = .ok (.aload_n 0, 1) := dk_42 (dk_at dksJ28_init_0 20 rfl rfl)
theorem dJ28_init_21 : decode cJ28_init 21 = .ok (.iload_n 2, 1) := dk_28 (dk_at dksJ28_init_0 21 rfl rfl)
theorem dJ28_init_22 : decode cJ28_init 22 = .ok (.aload_n 1, 1) := dk_43 (dk_at dksJ28_init_0 22 rfl rfl)
theorem dJ28_init_23 : decode cJ28_init 23 = .ok (.getfield 22, 3) := dk_180 0 22 (dk_at dksJ28_init_1 0 rfl rfl)
theorem dJ28_init_26 : decode cJ28_init 26 = .ok (.if_icmp .ne 7, 3) := dk_160 0 7 (dk_at dksJ28_init_1 3 rfl rfl)
theorem dJ28_init_29 : decode cJ28_init 29 = .ok (.aconst_null, 1) := dk_1 (dk_at dksJ28_init_1 6 rfl rfl)
theorem dJ28_init_30 : decode cJ28_init 30 = .ok (.goto 8, 3) := dk_167 0 8 (dk_at dksJ28_init_1 7 rfl rfl)
theorem dJ28_init_33 : decode cJ28_init 33 = .ok (.aload_n 1, 1) := dk_43 (dk_at dksJ28_init_1 10 rfl rfl)
theorem dJ28_init_34 : decode cJ28_init 34 = .ok (.iload_n 2, 1) := dk_28 (dk_at dksJ28_init_1 11 rfl rfl)
theorem dJ28_init_35 : decode cJ28_init 35 = .ok (.invokevirtual 25, 3) := dk_182 0 25 (dk_at dksJ28_init_1 12 rfl rfl)
theorem dJ28_init_38 : decode cJ28_init 38 = .ok (.putfield 29, 3) := dk_181 0 29 (dk_at dksJ28_init_1 15 rfl rfl)
theorem dJ28_init_41 : decode cJ28_init 41 = .ok (.aload_n 0, 1) := dk_42 (dk_at dksJ28_init_1 18 rfl rfl)
theorem dJ28_init_42 : decode cJ28_init 42 = .ok (.iload_n 2, 1) := dk_28 (dk_at dksJ28_init_1 19 rfl rfl)
theorem dJ28_init_43 : decode cJ28_init 43 = .ok (.putfield 33, 3) := dk_181 0 33 (dk_at dksJ28_init_1 20 rfl rfl)
theorem dJ28_init_46 : decode cJ28_init 46 = .ok (.return_, 1) := dk_177 (dk_at dksJ28_init_1 23 rfl rfl)
abbrev cJ28_hasNext : ByteArray := prog_59_method_2_code
def yJ28_hasNext : MethodName := ⟨RJ28, "hasNext", "()Z"⟩
def dkwJ28_hasNext_0 : List UInt8 := [42, 180, 0, 33, 42, 180, 0, 1, 180, 0, 22, 162, 0, 7, 4, 167, 0, 4, 3, 172]
abbrev dktJ28_hasNext_0 : List UInt8 := dkwJ28_hasNext_0 ++ []
theorem dksJ28_hasNext_0 : cJ28_hasNext.data.toList.drop 0 = dktJ28_hasNext_0 := by decide +kernel
theorem dJ28_hasNext_0 : decode cJ28_hasNext 0 = .ok (.aload_n 0, 1) := dk_42 (dk_at dksJ28_hasNext_0 0 rfl rfl)
theorem dJ28_hasNext_1 : decode cJ28_hasNext 1 = .ok (.getfield 33, 3) := dk_180 0 33 (dk_at dksJ28_hasNext_0 1 rfl rfl)
theorem dJ28_hasNext_4 : decode cJ28_hasNext 4 = .ok (.aload_n 0, 1) := dk_42 (dk_at dksJ28_hasNext_0 4 rfl rfl)
theorem dJ28_hasNext_5 : decode cJ28_hasNext 5 = .ok (.getfield 1, 3) := dk_180 0 1 (dk_at dksJ28_hasNext_0 5 rfl rfl)
theorem dJ28_hasNext_8 : decode cJ28_hasNext 8 = .ok (.getfield 22, 3) := dk_180 0 22 (dk_at dksJ28_hasNext_0 8 rfl rfl)
theorem dJ28_hasNext_11 : decode cJ28_hasNext 11 = .ok (.if_icmp .ge 7, 3) := dk_162 0 7 (dk_at dksJ28_hasNext_0 11 rfl rfl)
theorem dJ28_hasNext_14 : decode cJ28_hasNext 14 = .ok (.iconst 1, 1) := dk_4 (dk_at dksJ28_hasNext_0 14 rfl rfl)
theorem dJ28_hasNext_15 : decode cJ28_hasNext 15 = .ok (.goto 4, 3) := dk_167 0 4 (dk_at dksJ28_hasNext_0 15 rfl rfl)
theorem dJ28_hasNext_18 : decode cJ28_hasNext 18 = .ok (.iconst 0, 1) := dk_3 (dk_at dksJ28_hasNext_0 18 rfl rfl)
theorem dJ28_hasNext_19 : decode cJ28_hasNext 19 = .ok (.ireturn, 1) := dk_172 (dk_at dksJ28_hasNext_0 19 rfl rfl)
abbrev cJ28_next : ByteArray := prog_59_method_3_code
def yJ28_next : MethodName := ⟨RJ28, "next", "()Ljava/lang/Object;"⟩
def dkwJ28_next_2 : List UInt8 := [42, 180, 0, 46, 180, 0, 52, 176]
abbrev dktJ28_next_2 : List UInt8 := dkwJ28_next_2 ++ []
def dkwJ28_next_1 : List UInt8 := [181, 0, 46, 42, 42, 180, 0, 29, 180, 0, 49, 181, 0, 29, 42, 89, 180, 0, 33, 4, 96, 181, 0, 33]
abbrev dktJ28_next_1 : List UInt8 := dkwJ28_next_1 ++ dktJ28_next_2
def dkwJ28_next_0 : List UInt8 := [42, 182, 0, 36, 42, 182, 0, 39, 154, 0, 11, 187, 0, 43, 89, 183, 0, 45, 191, 42, 42, 180, 0, 29]
abbrev dktJ28_next_0 : List UInt8 := dkwJ28_next_0 ++ dktJ28_next_1
theorem dksJ28_next_0 : cJ28_next.data.toList.drop 0 = dktJ28_next_0 := by decide +kernel
theorem dksJ28_next_1 : cJ28_next.data.toList.drop 24 = dktJ28_next_1 := dk_seg dksJ28_next_0 24 rfl rfl
theorem dksJ28_next_2 : cJ28_next.data.toList.drop 48 = dktJ28_next_2 := dk_seg dksJ28_next_1 24 rfl rfl
theorem dJ28_next_0 : decode cJ28_next 0 = .ok (.aload_n 0, 1) := dk_42 (dk_at dksJ28_next_0 0 rfl rfl)
theorem dJ28_next_1 : decode cJ28_next 1 = .ok (.invokevirtual 36, 3) := dk_182 0 36 (dk_at dksJ28_next_0 1 rfl rfl)
theorem dJ28_next_4 : decode cJ28_next 4 = .ok (.aload_n 0, 1) := dk_42 (dk_at dksJ28_next_0 4 rfl rfl)
theorem dJ28_next_5 : decode cJ28_next 5 = .ok (.invokevirtual 39, 3) := dk_182 0 39 (dk_at dksJ28_next_0 5 rfl rfl)
theorem dJ28_next_8 : decode cJ28_next 8 = .ok (.ifCond .ne 11, 3) := dk_154 0 11 (dk_at dksJ28_next_0 8 rfl rfl)
theorem dJ28_next_11 : decode cJ28_next 11 = .ok (.new 43, 3) := dk_187 0 43 (dk_at dksJ28_next_0 11 rfl rfl)
theorem dJ28_next_14 : decode cJ28_next 14 = .ok (.dup, 1) := dk_89 (dk_at dksJ28_next_0 14 rfl rfl)
theorem dJ28_next_15 : decode cJ28_next 15 = .ok (.invokespecial 45, 3) := dk_183 0 45 (dk_at dksJ28_next_0 15 rfl rfl)
theorem dJ28_next_18 : decode cJ28_next 18 = .ok (.athrow, 1) := dk_191 (dk_at dksJ28_next_0 18 rfl rfl)
theorem dJ28_next_19 : decode cJ28_next 19 = .ok (.aload_n 0, 1) := dk_42 (dk_at dksJ28_next_0 19 rfl rfl)
theorem dJ28_next_20 : decode cJ28_next 20 = .ok (.aload_n 0, 1) := dk_42 (dk_at dksJ28_next_0 20 rfl rfl)
theorem dJ28_next_21 : decode cJ28_next 21 = .ok (.getfield 29, 3) := dk_180 0 29 (dk_at dksJ28_next_0 21 rfl rfl)
theorem dJ28_next_24 : decode cJ28_next 24 = .ok (.putfield 46, 3) := dk_181 0 46 (dk_at dksJ28_next_1 0 rfl rfl)
theorem dJ28_next_27 : decode cJ28_next 27 = .ok (.aload_n 0, 1) := dk_42 (dk_at dksJ28_next_1 3 rfl rfl)
theorem dJ28_next_28 : decode cJ28_next 28 = .ok (.aload_n 0, 1) := dk_42 (dk_at dksJ28_next_1 4 rfl rfl)
theorem dJ28_next_29 : decode cJ28_next 29 = .ok (.getfield 29, 3) := dk_180 0 29 (dk_at dksJ28_next_1 5 rfl rfl)
theorem dJ28_next_32 : decode cJ28_next 32 = .ok (.getfield 49, 3) := dk_180 0 49 (dk_at dksJ28_next_1 8 rfl rfl)
theorem dJ28_next_35 : decode cJ28_next 35 = .ok (.putfield 29, 3) := dk_181 0 29 (dk_at dksJ28_next_1 11 rfl rfl)
theorem dJ28_next_38 : decode cJ28_next 38 = .ok (.aload_n 0, 1) := dk_42 (dk_at dksJ28_next_1 14 rfl rfl)
theorem dJ28_next_39 : decode cJ28_next 39 = .ok (.dup, 1) := dk_89 (dk_at dksJ28_next_1 15 rfl rfl)
theorem dJ28_next_40 : decode cJ28_next 40 = .ok (.getfield 33, 3) := dk_180 0 33 (dk_at dksJ28_next_1 16 rfl rfl)
theorem dJ28_next_43 : decode cJ28_next 43 = .ok (.iconst 1, 1) := dk_4 (dk_at dksJ28_next_1 19 rfl rfl)
theorem dJ28_next_44 : decode cJ28_next 44 = .ok (.iadd, 1) := dk_96 (dk_at dksJ28_next_1 20 rfl rfl)
theorem dJ28_next_45 : decode cJ28_next 45 = .ok (.putfield 33, 3) := dk_181 0 33 (dk_at dksJ28_next_1 21 rfl rfl)
theorem dJ28_next_48 : decode cJ28_next 48 = .ok (.aload_n 0, 1) := dk_42 (dk_at dksJ28_next_2 0 rfl rfl)
theorem dJ28_next_49 : decode cJ28_next 49 = .ok (.getfield 46, 3) := dk_180 0 46 (dk_at dksJ28_next_2 1 rfl rfl)
theorem dJ28_next_52 : decode cJ28_next 52 = .ok (.getfield 52, 3) := dk_180 0 52 (dk_at dksJ28_next_2 4 rfl rfl)
theorem dJ28_next_55 : decode cJ28_next 55 = .ok (.areturn, 1) := dk_176 (dk_at dksJ28_next_2 7 rfl rfl)
abbrev cJ28_checkForComodification : ByteArray := prog_59_method_12_code
def yJ28_checkForComodification : MethodName := ⟨RJ28, "checkForComodification", "()V"⟩
def dkwJ28_checkForComodification_0 : List UInt8 := [42, 180, 0, 1, 180, 0, 13, 42, 180, 0, 19, 159, 0, 11, 187, 0, 91, 89, 183, 0, 93, 191, 177]
abbrev dktJ28_checkForComodification_0 : List UInt8 := dkwJ28_checkForComodification_0 ++ []
theorem dksJ28_checkForComodification_0 : cJ28_checkForComodification.data.toList.drop 0 = dktJ28_checkForComodification_0 := by decide +kernel
theorem dJ28_checkForComodification_0 : decode cJ28_checkForComodification 0 = .ok (.aload_n 0, 1) := dk_42 (dk_at dksJ28_checkForComodification_0 0 rfl rfl)
theorem dJ28_checkForComodification_1 : decode cJ28_checkForComodification 1 = .ok (.getfield 1, 3) := dk_180 0 1 (dk_at dksJ28_checkForComodification_0 1 rfl rfl)
theorem dJ28_checkForComodification_4 : decode cJ28_checkForComodification 4 = .ok (.getfield 13, 3) := dk_180 0 13 (dk_at dksJ28_checkForComodification_0 4 rfl rfl)
theorem dJ28_checkForComodification_7 : decode cJ28_checkForComodification 7 = .ok (.aload_n 0, 1) := dk_42 (dk_at dksJ28_checkForComodification_0 7 rfl rfl)
theorem dJ28_checkForComodification_8 : decode cJ28_checkForComodification 8 = .ok (.getfield 19, 3) := dk_180 0 19 (dk_at dksJ28_checkForComodification_0 8 rfl rfl)
theorem dJ28_checkForComodification_11 : decode cJ28_checkForComodification 11 = .ok (.if_icmp .eq 11, 3) := dk_159 0 11 (dk_at dksJ28_checkForComodification_0 11 rfl rfl)
theorem dJ28_checkForComodification_14 : decode cJ28_checkForComodification 14 = .ok (.new 91, 3) := dk_187 0 91 (dk_at dksJ28_checkForComodification_0 14 rfl rfl)
theorem dJ28_checkForComodification_17 : decode cJ28_checkForComodification 17 = .ok (.dup, 1) := dk_89 (dk_at dksJ28_checkForComodification_0 17 rfl rfl)
theorem dJ28_checkForComodification_18 : decode cJ28_checkForComodification 18 = .ok (.invokespecial 93, 3) := dk_183 0 93 (dk_at dksJ28_checkForComodification_0 18 rfl rfl)
theorem dJ28_checkForComodification_21 : decode cJ28_checkForComodification 21 = .ok (.athrow, 1) := dk_191 (dk_at dksJ28_checkForComodification_0 21 rfl rfl)
theorem dJ28_checkForComodification_22 : decode cJ28_checkForComodification 22 = .ok (.return_, 1) := dk_177 (dk_at dksJ28_checkForComodification_0 22 rfl rfl)
theorem q104 : (Jvm.Cond.initialized "java/util/LinkedList$ListItr") ∈ lw_all := lw_g (lw_at lw_m1 35 rfl) rfl
theorem q150 : (Jvm.Cond.fieldLink "java/util/LinkedList$ListItr" (13 : Nat) "java/util/LinkedList" "modCount" "I") ∈ lw_all := lw_g (lw_at lw_m1 81 rfl) rfl
theorem q248 : (Jvm.Cond.selects "java/util/LinkedList$ListItr" ({ cls := "java/lang/Object", name := "getClass", desc := "()Ljava/lang/Class;" } : Jvm.MethodName) ({ cls := "java/lang/Object", name := "getClass", desc := "()Ljava/lang/Class;" } : Jvm.MethodName)) ∈ lw_all := lw_g (lw_at lw_m1 179 rfl) rfl
theorem q283 : (Jvm.Cond.fieldLink "java/util/LinkedList$ListItr" (52 : Nat) "java/util/LinkedList$Node" "item" "Ljava/lang/Object;") ∈ lw_all := lw_g (lw_at lw_m1 214 rfl) rfl
theorem q286 : (Jvm.Cond.fieldLink "java/util/LinkedList$ListItr" (49 : Nat) "java/util/LinkedList$Node" "next" "Ljava/util/LinkedList$Node;") ∈ lw_all := lw_g (lw_at lw_m1 217 rfl) rfl
theorem q307 : (Jvm.Cond.fieldLink "java/util/LinkedList$ListItr" (22 : Nat) "java/util/LinkedList" "size" "I") ∈ lw_all := lw_g (lw_at lw_m1 238 rfl) rfl
theorem q871 : (Jvm.Cond.instantiable "java/util/LinkedList$ListItr" (5 : Nat)) ∈ lw_all := lw_g (lw_at lw_m4 82 rfl) rfl
theorem q873 : (Jvm.Cond.instanceMethod ({ cls := "java/util/LinkedList$ListItr", name := "<init>", desc := "(Ljava/util/LinkedList;I)V" } : Jvm.MethodName)) ∈ lw_all := lw_g (lw_at lw_m4 84 rfl) rfl
theorem q874 : (Jvm.Cond.code ({ cls := "java/util/LinkedList$ListItr", name := "<init>", desc := "(Ljava/util/LinkedList;I)V" } : Jvm.MethodName) prog_59_method_1_code (3 : Nat) (Option.none : Option Jvm.ClassFile.FieldType)) ∈ lw_all := lw_g (lw_at lw_m4 85 rfl) rfl
theorem q875 : (Jvm.Cond.methodLink "java/util/LinkedList$ListItr" (7 : Nat) ({ cls := "java/lang/Object", name := "<init>", desc := "()V" } : Jvm.MethodName)) ∈ lw_all := lw_g (lw_at lw_m4 86 rfl) rfl
theorem q876 : (Jvm.Cond.methodLink "java/util/LinkedList$ListItr" (25 : Nat) ({ cls := "java/util/LinkedList", name := "node", desc := "(I)Ljava/util/LinkedList$Node;" } : Jvm.MethodName)) ∈ lw_all := lw_g (lw_at lw_m4 87 rfl) rfl
theorem q877 : (Jvm.Cond.fieldLink "java/util/LinkedList$ListItr" (46 : Nat) "java/util/LinkedList$ListItr" "lastReturned" "Ljava/util/LinkedList$Node;") ∈ lw_all := lw_g (lw_at lw_m4 88 rfl) rfl
theorem q878 : (Jvm.Cond.fieldLink "java/util/LinkedList$ListItr" (29 : Nat) "java/util/LinkedList$ListItr" "next" "Ljava/util/LinkedList$Node;") ∈ lw_all := lw_g (lw_at lw_m4 89 rfl) rfl
theorem q879 : (Jvm.Cond.fieldLink "java/util/LinkedList$ListItr" (33 : Nat) "java/util/LinkedList$ListItr" "nextIndex" "I") ∈ lw_all := lw_g (lw_at lw_m4 90 rfl) rfl
theorem q880 : (Jvm.Cond.fieldLink "java/util/LinkedList$ListItr" (19 : Nat) "java/util/LinkedList$ListItr" "expectedModCount" "I") ∈ lw_all := lw_g (lw_at lw_m4 91 rfl) rfl
theorem q881 : (Jvm.Cond.fieldLink "java/util/LinkedList$ListItr" (1 : Nat) "java/util/LinkedList$ListItr" "this$0" "Ljava/util/LinkedList;") ∈ lw_all := lw_g (lw_at lw_m4 92 rfl) rfl
theorem q882 : (Jvm.Cond.lays "java/util/LinkedList$ListItr" "java/util/LinkedList$ListItr" "lastReturned" "Ljava/util/LinkedList$Node;") ∈ lw_all := lw_g (lw_at lw_m4 93 rfl) rfl
theorem q883 : (Jvm.Cond.soleField "java/util/LinkedList$ListItr" "lastReturned") ∈ lw_all := lw_g (lw_at lw_m4 94 rfl) rfl
theorem q884 : (Jvm.Cond.lays "java/util/LinkedList$ListItr" "java/util/LinkedList$ListItr" "next" "Ljava/util/LinkedList$Node;") ∈ lw_all := lw_g (lw_at lw_m4 95 rfl) rfl
theorem q885 : (Jvm.Cond.soleField "java/util/LinkedList$ListItr" "next") ∈ lw_all := lw_g (lw_at lw_m4 96 rfl) rfl
theorem q886 : (Jvm.Cond.lays "java/util/LinkedList$ListItr" "java/util/LinkedList$ListItr" "nextIndex" "I") ∈ lw_all := lw_g (lw_at lw_m4 97 rfl) rfl
theorem q887 : (Jvm.Cond.soleField "java/util/LinkedList$ListItr" "nextIndex") ∈ lw_all := lw_g (lw_at lw_m4 98 rfl) rfl
theorem q888 : (Jvm.Cond.lays "java/util/LinkedList$ListItr" "java/util/LinkedList$ListItr" "expectedModCount" "I") ∈ lw_all := lw_g (lw_at lw_m4 99 rfl) rfl
theorem q889 : (Jvm.Cond.soleField "java/util/LinkedList$ListItr" "expectedModCount") ∈ lw_all := lw_g (lw_at lw_m4 100 rfl) rfl
theorem q890 : (Jvm.Cond.laysFinal "java/util/LinkedList$ListItr" "java/util/LinkedList$ListItr" "this$0" "Ljava/util/LinkedList;") ∈ lw_all := lw_g (lw_at lw_m4 101 rfl) rfl
theorem q891 : (Jvm.Cond.soleField "java/util/LinkedList$ListItr" "this$0") ∈ lw_all := lw_g (lw_at lw_m4 102 rfl) rfl
theorem q892 : (Jvm.Cond.superclass "java/util/LinkedList$ListItr" "java/lang/Object") ∈ lw_all := lw_g (lw_at lw_m4 103 rfl) rfl
theorem q930 : (Jvm.Cond.castable "java/util/LinkedList$ListItr" "java/util/Iterator") ∈ lw_tbl := lw_at lw_m4 141 rfl
theorem q931 : (Jvm.Cond.selects "java/util/LinkedList$ListItr" ({ cls := "java/util/Iterator", name := "hasNext", desc := "()Z" } : Jvm.MethodName) ({ cls := "java/util/LinkedList$ListItr", name := "hasNext", desc := "()Z" } : Jvm.MethodName)) ∈ lw_all := lw_g (lw_at lw_m4 142 rfl) rfl
theorem q932 : (Jvm.Cond.unhidden "java/util/LinkedList$ListItr" "hasNext" "()Z") ∈ lw_tbl := lw_at lw_m4 143 rfl
theorem q933 : (Jvm.Cond.instanceMethod ({ cls := "java/util/LinkedList$ListItr", name := "hasNext", desc := "()Z" } : Jvm.MethodName)) ∈ lw_all := lw_g (lw_at lw_m4 144 rfl) rfl
theorem q934 : (Jvm.Cond.publicMethod ({ cls := "java/util/LinkedList$ListItr", name := "hasNext", desc := "()Z" } : Jvm.MethodName)) ∈ lw_tbl := lw_at lw_m4 145 rfl
theorem q935 : (Jvm.Cond.code ({ cls := "java/util/LinkedList$ListItr", name := "hasNext", desc := "()Z" } : Jvm.MethodName) prog_59_method_2_code (1 : Nat) (Option.some Jvm.ClassFile.FieldType.boolean)) ∈ lw_all := lw_g (lw_at lw_m4 146 rfl) rfl
theorem q1136 : (Jvm.Cond.selects "java/util/LinkedList$ListItr" ({ cls := "java/util/Iterator", name := "next", desc := "()Ljava/lang/Object;" } : Jvm.MethodName) ({ cls := "java/util/LinkedList$ListItr", name := "next", desc := "()Ljava/lang/Object;" } : Jvm.MethodName)) ∈ lw_all := lw_g (lw_at lw_m5 107 rfl) rfl
theorem q1137 : (Jvm.Cond.unhidden "java/util/LinkedList$ListItr" "next" "()Ljava/lang/Object;") ∈ lw_tbl := lw_at lw_m5 108 rfl
theorem q1138 : (Jvm.Cond.instanceMethod ({ cls := "java/util/LinkedList$ListItr", name := "next", desc := "()Ljava/lang/Object;" } : Jvm.MethodName)) ∈ lw_all := lw_g (lw_at lw_m5 109 rfl) rfl
theorem q1139 : (Jvm.Cond.publicMethod ({ cls := "java/util/LinkedList$ListItr", name := "next", desc := "()Ljava/lang/Object;" } : Jvm.MethodName)) ∈ lw_tbl := lw_at lw_m5 110 rfl
theorem q1140 : (Jvm.Cond.code ({ cls := "java/util/LinkedList$ListItr", name := "next", desc := "()Ljava/lang/Object;" } : Jvm.MethodName) prog_59_method_3_code (1 : Nat) (Option.some (Jvm.ClassFile.FieldType.object "java/lang/Object"))) ∈ lw_all := lw_g (lw_at lw_m5 111 rfl) rfl
theorem q1141 : (Jvm.Cond.methodLink "java/util/LinkedList$ListItr" (36 : Nat) ({ cls := "java/util/LinkedList$ListItr", name := "checkForComodification", desc := "()V" } : Jvm.MethodName)) ∈ lw_all := lw_g (lw_at lw_m5 112 rfl) rfl
theorem q1142 : (Jvm.Cond.instanceMethod ({ cls := "java/util/LinkedList$ListItr", name := "checkForComodification", desc := "()V" } : Jvm.MethodName)) ∈ lw_all := lw_g (lw_at lw_m5 113 rfl) rfl
theorem q1143 : (Jvm.Cond.selects "java/util/LinkedList$ListItr" ({ cls := "java/util/LinkedList$ListItr", name := "checkForComodification", desc := "()V" } : Jvm.MethodName) ({ cls := "java/util/LinkedList$ListItr", name := "checkForComodification", desc := "()V" } : Jvm.MethodName)) ∈ lw_all := lw_g (lw_at lw_m5 114 rfl) rfl
theorem q1144 : (Jvm.Cond.code ({ cls := "java/util/LinkedList$ListItr", name := "checkForComodification", desc := "()V" } : Jvm.MethodName) prog_59_method_12_code (1 : Nat) (Option.none : Option Jvm.ClassFile.FieldType)) ∈ lw_all := lw_g (lw_at lw_m5 115 rfl) rfl
theorem q1145 : (Jvm.Cond.methodLink "java/util/LinkedList$ListItr" (39 : Nat) ({ cls := "java/util/LinkedList$ListItr", name := "hasNext", desc := "()Z" } : Jvm.MethodName)) ∈ lw_all := lw_g (lw_at lw_m5 116 rfl) rfl
theorem q1146 : (Jvm.Cond.classLink "java/util/LinkedList$ListItr" (43 : Nat) "java/util/NoSuchElementException") ∈ lw_all := lw_g (lw_at lw_m5 117 rfl) rfl
theorem q1147 : (Jvm.Cond.methodLink "java/util/LinkedList$ListItr" (45 : Nat) ({ cls := "java/util/NoSuchElementException", name := "<init>", desc := "()V" } : Jvm.MethodName)) ∈ lw_all := lw_g (lw_at lw_m5 118 rfl) rfl
theorem q2054 : (Jvm.Cond.selects "java/util/LinkedList$ListItr" ({ cls := "java/util/LinkedList$ListItr", name := "hasNext", desc := "()Z" } : Jvm.MethodName) ({ cls := "java/util/LinkedList$ListItr", name := "hasNext", desc := "()Z" } : Jvm.MethodName)) ∈ lw_all := lw_g (lw_at lw_m9 65 rfl) rfl
theorem q2077 : (Jvm.Cond.castable "java/util/LinkedList$ListItr" "java/lang/Object") ∈ lw_tbl := lw_at lw_m9 88 rfl
theorem in_J28 : ∀ w ∈ wsJ280, w ∈ lw_all := lw_in wsJ280 [882, 884, 886, 888, 890] (by decide +kernel) (by decide +kernel)
/-! java/lang/Long -/
set_option maxRecDepth 100000
def RJ29 : String := "java/lang/Long"
abbrev cJ29_numberOfTrailingZeros : ByteArray := prog_31_method_49_code
def yJ29_numberOfTrailingZeros : MethodName := ⟨RJ29, "numberOfTrailingZeros", "(J)I"⟩
def dkwJ29_numberOfTrailingZeros_1 : List UInt8 := [184, 1, 55, 172]
abbrev dktJ29_numberOfTrailingZeros_1 : List UInt8 := dkwJ29_numberOfTrailingZeros_1 ++ []
def dkwJ29_numberOfTrailingZeros_0 : List UInt8 := [30, 136, 61, 28, 154, 0, 17, 16, 32, 30, 16, 32, 125, 136, 184, 1, 55, 96, 167, 0, 7, 28]
abbrev dktJ29_numberOfTrailingZeros_0 : List UInt8 := dkwJ29_numberOfTrailingZeros_0 ++ dktJ29_numberOfTrailingZeros_1
theorem dksJ29_numberOfTrailingZeros_0 : cJ29_numberOfTrailingZeros.data.toList.drop 0 = dktJ29_numberOfTrailingZeros_0 := by decide +kernel
theorem dksJ29_numberOfTrailingZeros_1 : cJ29_numberOfTrailingZeros.data.toList.drop 22 = dktJ29_numberOfTrailingZeros_1 := dk_seg dksJ29_numberOfTrailingZeros_0 22 rfl rfl
theorem dJ29_numberOfTrailingZeros_0 : decode cJ29_numberOfTrailingZeros 0 = .ok (.lload_n 0, 1) := dk_30 (dk_at dksJ29_numberOfTrailingZeros_0 0 rfl rfl)
theorem dJ29_numberOfTrailingZeros_1 : decode cJ29_numberOfTrailingZeros 1 = .ok (.l2i, 1) := dk_136 (dk_at dksJ29_numberOfTrailingZeros_0 1 rfl rfl)
theorem dJ29_numberOfTrailingZeros_2 : decode cJ29_numberOfTrailingZeros 2 = .ok (.istore_n 2, 1) := dk_61 (dk_at dksJ29_numberOfTrailingZeros_0 2 rfl rfl)
theorem dJ29_numberOfTrailingZeros_3 : decode cJ29_numberOfTrailingZeros 3 = .ok (.iload_n 2, 1) := dk_28 (dk_at dksJ29_numberOfTrailingZeros_0 3 rfl rfl)
theorem dJ29_numberOfTrailingZeros_4 : decode cJ29_numberOfTrailingZeros 4 = .ok (.ifCond .ne 17, 3) := dk_154 0 17 (dk_at dksJ29_numberOfTrailingZeros_0 4 rfl rfl)
theorem dJ29_numberOfTrailingZeros_7 : decode cJ29_numberOfTrailingZeros 7 = .ok (.bipush 32, 2) := dk_16 32 (dk_at dksJ29_numberOfTrailingZeros_0 7 rfl rfl)
theorem dJ29_numberOfTrailingZeros_9 : decode cJ29_numberOfTrailingZeros 9 = .ok (.lload_n 0, 1) := dk_30 (dk_at dksJ29_numberOfTrailingZeros_0 9 rfl rfl)
theorem dJ29_numberOfTrailingZeros_10 : decode cJ29_numberOfTrailingZeros 10 = .ok (.bipush 32, 2) := dk_16 32 (dk_at dksJ29_numberOfTrailingZeros_0 10 rfl rfl)
theorem dJ29_numberOfTrailingZeros_12 : decode cJ29_numberOfTrailingZeros 12 = .ok (.lushr, 1) := dk_125 (dk_at dksJ29_numberOfTrailingZeros_0 12 rfl rfl)
theorem dJ29_numberOfTrailingZeros_13 : decode cJ29_numberOfTrailingZeros 13 = .ok (.l2i, 1) := dk_136 (dk_at dksJ29_numberOfTrailingZeros_0 13 rfl rfl)
theorem dJ29_numberOfTrailingZeros_14 : decode cJ29_numberOfTrailingZeros 14 = .ok (.invokestatic 311, 3) := dk_184 1 55 (dk_at dksJ29_numberOfTrailingZeros_0 14 rfl rfl)
theorem dJ29_numberOfTrailingZeros_17 : decode cJ29_numberOfTrailingZeros 17 = .ok (.iadd, 1) := dk_96 (dk_at dksJ29_numberOfTrailingZeros_0 17 rfl rfl)
theorem dJ29_numberOfTrailingZeros_18 : decode cJ29_numberOfTrailingZeros 18 = .ok (.goto 7, 3) := dk_167 0 7 (dk_at dksJ29_numberOfTrailingZeros_0 18 rfl rfl)
theorem dJ29_numberOfTrailingZeros_21 : decode cJ29_numberOfTrailingZeros 21 = .ok (.iload_n 2, 1) := dk_28 (dk_at dksJ29_numberOfTrailingZeros_0 21 rfl rfl)
theorem dJ29_numberOfTrailingZeros_22 : decode cJ29_numberOfTrailingZeros 22 = .ok (.invokestatic 311, 3) := dk_184 1 55 (dk_at dksJ29_numberOfTrailingZeros_1 0 rfl rfl)
theorem dJ29_numberOfTrailingZeros_25 : decode cJ29_numberOfTrailingZeros 25 = .ok (.ireturn, 1) := dk_172 (dk_at dksJ29_numberOfTrailingZeros_1 3 rfl rfl)
abbrev cJ29_numberOfLeadingZeros : ByteArray := prog_31_method_48_code
def yJ29_numberOfLeadingZeros : MethodName := ⟨RJ29, "numberOfLeadingZeros", "(J)I"⟩
def dkwJ29_numberOfLeadingZeros_1 : List UInt8 := [184, 1, 52, 172]
abbrev dktJ29_numberOfLeadingZeros_1 : List UInt8 := dkwJ29_numberOfLeadingZeros_1 ++ []
def dkwJ29_numberOfLeadingZeros_0 : List UInt8 := [30, 16, 32, 125, 136, 61, 28, 154, 0, 14, 16, 32, 30, 136, 184, 1, 52, 96, 167, 0, 7, 28]
abbrev dktJ29_numberOfLeadingZeros_0 : List UInt8 := dkwJ29_numberOfLeadingZeros_0 ++ dktJ29_numberOfLeadingZeros_1
theorem dksJ29_numberOfLeadingZeros_0 : cJ29_numberOfLeadingZeros.data.toList.drop 0 = dktJ29_numberOfLeadingZeros_0 := by decide +kernel
theorem dksJ29_numberOfLeadingZeros_1 : cJ29_numberOfLeadingZeros.data.toList.drop 22 = dktJ29_numberOfLeadingZeros_1 := dk_seg dksJ29_numberOfLeadingZeros_0 22 rfl rfl
theorem dJ29_numberOfLeadingZeros_0 : decode cJ29_numberOfLeadingZeros 0 = .ok (.lload_n 0, 1) := dk_30 (dk_at dksJ29_numberOfLeadingZeros_0 0 rfl rfl)
theorem dJ29_numberOfLeadingZeros_1 : decode cJ29_numberOfLeadingZeros 1 = .ok (.bipush 32, 2) := dk_16 32 (dk_at dksJ29_numberOfLeadingZeros_0 1 rfl rfl)
theorem dJ29_numberOfLeadingZeros_3 : decode cJ29_numberOfLeadingZeros 3 = .ok (.lushr, 1) := dk_125 (dk_at dksJ29_numberOfLeadingZeros_0 3 rfl rfl)
theorem dJ29_numberOfLeadingZeros_4 : decode cJ29_numberOfLeadingZeros 4 = .ok (.l2i, 1) := dk_136 (dk_at dksJ29_numberOfLeadingZeros_0 4 rfl rfl)
theorem dJ29_numberOfLeadingZeros_5 : decode cJ29_numberOfLeadingZeros 5 = .ok (.istore_n 2, 1) := dk_61 (dk_at dksJ29_numberOfLeadingZeros_0 5 rfl rfl)
theorem dJ29_numberOfLeadingZeros_6 : decode cJ29_numberOfLeadingZeros 6 = .ok (.iload_n 2, 1) := dk_28 (dk_at dksJ29_numberOfLeadingZeros_0 6 rfl rfl)
theorem dJ29_numberOfLeadingZeros_7 : decode cJ29_numberOfLeadingZeros 7 = .ok (.ifCond .ne 14, 3) := dk_154 0 14 (dk_at dksJ29_numberOfLeadingZeros_0 7 rfl rfl)
theorem dJ29_numberOfLeadingZeros_10 : decode cJ29_numberOfLeadingZeros 10 = .ok (.bipush 32, 2) := dk_16 32 (dk_at dksJ29_numberOfLeadingZeros_0 10 rfl rfl)
theorem dJ29_numberOfLeadingZeros_12 : decode cJ29_numberOfLeadingZeros 12 = .ok (.lload_n 0, 1) := dk_30 (dk_at dksJ29_numberOfLeadingZeros_0 12 rfl rfl)
theorem dJ29_numberOfLeadingZeros_13 : decode cJ29_numberOfLeadingZeros 13 = .ok (.l2i, 1) := dk_136 (dk_at dksJ29_numberOfLeadingZeros_0 13 rfl rfl)
theorem dJ29_numberOfLeadingZeros_14 : decode cJ29_numberOfLeadingZeros 14 = .ok (.invokestatic 308, 3) := dk_184 1 52 (dk_at dksJ29_numberOfLeadingZeros_0 14 rfl rfl)
theorem dJ29_numberOfLeadingZeros_17 : decode cJ29_numberOfLeadingZeros 17 = .ok (.iadd, 1) := dk_96 (dk_at dksJ29_numberOfLeadingZeros_0 17 rfl rfl)
theorem dJ29_numberOfLeadingZeros_18 : decode cJ29_numberOfLeadingZeros 18 = .ok (.goto 7, 3) := dk_167 0 7 (dk_at dksJ29_numberOfLeadingZeros_0 18 rfl rfl)
theorem dJ29_numberOfLeadingZeros_21 : decode cJ29_numberOfLeadingZeros 21 = .ok (.iload_n 2, 1) := dk_28 (dk_at dksJ29_numberOfLeadingZeros_0 21 rfl rfl)
theorem dJ29_numberOfLeadingZeros_22 : decode cJ29_numberOfLeadingZeros 22 = .ok (.invokestatic 308, 3) := dk_184 1 52 (dk_at dksJ29_numberOfLeadingZeros_1 0 rfl rfl)
theorem dJ29_numberOfLeadingZeros_25 : decode cJ29_numberOfLeadingZeros 25 = .ok (.ireturn, 1) := dk_172 (dk_at dksJ29_numberOfLeadingZeros_1 3 rfl rfl)
theorem q105 : (Jvm.Cond.initialized "java/lang/Long") ∈ lw_all := lw_g (lw_at lw_m1 36 rfl) rfl
theorem q978 : (Jvm.Cond.static ({ cls := "java/lang/Long", name := "numberOfTrailingZeros", desc := "(J)I" } : Jvm.MethodName)) ∈ lw_all := lw_g (lw_at lw_m4 189 rfl) rfl
theorem q979 : (Jvm.Cond.code ({ cls := "java/lang/Long", name := "numberOfTrailingZeros", desc := "(J)I" } : Jvm.MethodName) prog_31_method_49_code (3 : Nat) (Option.some Jvm.ClassFile.FieldType.int)) ∈ lw_all := lw_g (lw_at lw_m4 190 rfl) rfl
theorem q980 : (Jvm.Cond.methodLink "java/lang/Long" (311 : Nat) ({ cls := "java/lang/Integer", name := "numberOfTrailingZeros", desc := "(I)I" } : Jvm.MethodName)) ∈ lw_all := lw_g (lw_at lw_m4 191 rfl) rfl
theorem q994 : (Jvm.Cond.static ({ cls := "java/lang/Long", name := "numberOfLeadingZeros", desc := "(J)I" } : Jvm.MethodName)) ∈ lw_all := lw_g (lw_at lw_m4 205 rfl) rfl
theorem q995 : (Jvm.Cond.code ({ cls := "java/lang/Long", name := "numberOfLeadingZeros", desc := "(J)I" } : Jvm.MethodName) prog_31_method_48_code (3 : Nat) (Option.some Jvm.ClassFile.FieldType.int)) ∈ lw_all := lw_g (lw_at lw_m4 206 rfl) rfl
theorem q996 : (Jvm.Cond.methodLink "java/lang/Long" (308 : Nat) ({ cls := "java/lang/Integer", name := "numberOfLeadingZeros", desc := "(I)I" } : Jvm.MethodName)) ∈ lw_all := lw_g (lw_at lw_m4 207 rfl) rfl
/-! jdk/internal/util/ArraysSupport -/
set_option maxRecDepth 100000
def RJ3 : String := "jdk/internal/util/ArraysSupport"
abbrev cJ3_newLength : ByteArray := prog_68_method_27_code
def yJ3_newLength : MethodName := ⟨RJ3, "newLength", "(III)I"⟩
def dkwJ3_newLength_1 : List UInt8 := [184, 0, 201, 172]
abbrev dktJ3_newLength_1 : List UInt8 := dkwJ3_newLength_1 ++ []
def dkwJ3_newLength_0 : List UInt8 := [26, 27, 28, 184, 0, 194, 96, 62, 3, 29, 162, 0, 11, 29, 18, 200, 163, 0, 5, 29, 172, 26, 27]
abbrev dktJ3_newLength_0 : List UInt8 := dkwJ3_newLength_0 ++ dktJ3_newLength_1
theorem dksJ3_newLength_0 : cJ3_newLength.data.toList.drop 0 = dktJ3_newLength_0 := by decide +kernel
theorem dksJ3_newLength_1 : cJ3_newLength.data.toList.drop 23 = dktJ3_newLength_1 := dk_seg dksJ3_newLength_0 23 rfl rfl
theorem dJ3_newLength_0 : decode cJ3_newLength 0 = .ok (.iload_n 0, 1) := dk_26 (dk_at dksJ3_newLength_0 0 rfl rfl)
theorem dJ3_newLength_1 : decode cJ3_newLength 1 = .ok (.iload_n 1, 1) := dk_27 (dk_at dksJ3_newLength_0 1 rfl rfl)
theorem dJ3_newLength_2 : decode cJ3_newLength 2 = .ok (.iload_n 2, 1) := dk_28 (dk_at dksJ3_newLength_0 2 rfl rfl)
theorem dJ3_newLength_3 : decode cJ3_newLength 3 = .ok (.invokestatic 194, 3) := dk_184 0 194 (dk_at dksJ3_newLength_0 3 rfl rfl)
theorem dJ3_newLength_6 : decode cJ3_newLength 6 = .ok (.iadd, 1) := dk_96 (dk_at dksJ3_newLength_0 6 rfl rfl)
theorem dJ3_newLength_7 : decode cJ3_newLength 7 = .ok (.istore_n 3, 1) := dk_62 (dk_at dksJ3_newLength_0 7 rfl rfl)
theorem dJ3_newLength_8 : decode cJ3_newLength 8 = .ok (.iconst 0, 1) := dk_3 (dk_at dksJ3_newLength_0 8 rfl rfl)
theorem dJ3_newLength_9 : decode cJ3_newLength 9 = .ok (.iload_n 3, 1) := dk_29 (dk_at dksJ3_newLength_0 9 rfl rfl)
theorem dJ3_newLength_10 : decode cJ3_newLength 10 = .ok (.if_icmp .ge 11, 3) := dk_162 0 11 (dk_at dksJ3_newLength_0 10 rfl rfl)
theorem dJ3_newLength_13 : decode cJ3_newLength 13 = .ok (.iload_n 3, 1) := dk_29 (dk_at dksJ3_newLength_0 13 rfl rfl)
theorem dJ3_newLength_14 : decode cJ3_newLength 14 = .ok (.ldc 200, 2) := dk_18 200 (dk_at dksJ3_newLength_0 14 rfl rfl)
theorem dJ3_newLength_16 : decode cJ3_newLength 16 = .ok (.if_icmp .gt 5, 3) := dk_163 0 5 (dk_at dksJ3_newLength_0 16 rfl rfl)
theorem dJ3_newLength_19 : decode cJ3_newLength 19 = .ok (.iload_n 3, 1) := dk_29 (dk_at dksJ3_newLength_0 19 rfl rfl)
theorem dJ3_newLength_20 : decode cJ3_newLength 20 = .ok (.ireturn, 1) := dk_172 (dk_at dksJ3_newLength_0 20 rfl rfl)
theorem dJ3_newLength_21 : decode cJ3_newLength 21 = .ok (.iload_n 0, 1) := dk_26 (dk_at dksJ3_newLength_0 21 rfl rfl)
theorem dJ3_newLength_22 : decode cJ3_newLength 22 = .ok (.iload_n 1, 1) := dk_27 (dk_at dksJ3_newLength_0 22 rfl rfl)
theorem dJ3_newLength_23 : decode cJ3_newLength 23 = .ok (.invokestatic 201, 3) := dk_184 0 201 (dk_at dksJ3_newLength_1 0 rfl rfl)
theorem dJ3_newLength_26 : decode cJ3_newLength 26 = .ok (.ireturn, 1) := dk_172 (dk_at dksJ3_newLength_1 3 rfl rfl)
abbrev cJ3_hugeLength : ByteArray := prog_68_method_28_code
def yJ3_hugeLength : MethodName := ⟨RJ3, "hugeLength", "(II)I"⟩
def dkwJ3_hugeLength_2 : List UInt8 := [191, 28, 18, 200, 163, 0, 6, 18, 200, 172, 28, 172]
abbrev dktJ3_hugeLength_2 : List UInt8 := dkwJ3_hugeLength_2 ++ []
def dkwJ3_hugeLength_1 : List UInt8 := [26, 182, 0, 98, 18, 208, 182, 0, 94, 27, 182, 0, 98, 18, 210, 182, 0, 94, 182, 0, 101, 183, 0, 212]
abbrev dktJ3_hugeLength_1 : List UInt8 := dkwJ3_hugeLength_1 ++ dktJ3_hugeLength_2
def dkwJ3_hugeLength_0 : List UInt8 := [26, 27, 96, 61, 28, 156, 0, 44, 187, 0, 204, 89, 187, 0, 89, 89, 183, 0, 91, 18, 206, 182, 0, 94]
abbrev dktJ3_hugeLength_0 : List UInt8 := dkwJ3_hugeLength_0 ++ dktJ3_hugeLength_1
theorem dksJ3_hugeLength_0 : cJ3_hugeLength.data.toList.drop 0 = dktJ3_hugeLength_0 := by decide +kernel
theorem dksJ3_hugeLength_1 : cJ3_hugeLength.data.toList.drop 24 = dktJ3_hugeLength_1 := dk_seg dksJ3_hugeLength_0 24 rfl rfl
theorem dksJ3_hugeLength_2 : cJ3_hugeLength.data.toList.drop 48 = dktJ3_hugeLength_2 := dk_seg dksJ3_hugeLength_1 24 rfl rfl
theorem dJ3_hugeLength_0 : decode cJ3_hugeLength 0 = .ok (.iload_n 0, 1) := dk_26 (dk_at dksJ3_hugeLength_0 0 rfl rfl)
theorem dJ3_hugeLength_1 : decode cJ3_hugeLength 1 = .ok (.iload_n 1, 1) := dk_27 (dk_at dksJ3_hugeLength_0 1 rfl rfl)
theorem dJ3_hugeLength_2 : decode cJ3_hugeLength 2 = .ok (.iadd, 1) := dk_96 (dk_at dksJ3_hugeLength_0 2 rfl rfl)
theorem dJ3_hugeLength_3 : decode cJ3_hugeLength 3 = .ok (.istore_n 2, 1) := dk_61 (dk_at dksJ3_hugeLength_0 3 rfl rfl)
theorem dJ3_hugeLength_4 : decode cJ3_hugeLength 4 = .ok (.iload_n 2, 1) := dk_28 (dk_at dksJ3_hugeLength_0 4 rfl rfl)
theorem dJ3_hugeLength_5 : decode cJ3_hugeLength 5 = .ok (.ifCond .ge 44, 3) := dk_156 0 44 (dk_at dksJ3_hugeLength_0 5 rfl rfl)
theorem dJ3_hugeLength_8 : decode cJ3_hugeLength 8 = .ok (.new 204, 3) := dk_187 0 204 (dk_at dksJ3_hugeLength_0 8 rfl rfl)
theorem dJ3_hugeLength_11 : decode cJ3_hugeLength 11 = .ok (.dup, 1) := dk_89 (dk_at dksJ3_hugeLength_0 11 rfl rfl)
theorem dJ3_hugeLength_12 : decode cJ3_hugeLength 12 = .ok (.new 89, 3) := dk_187 0 89 (dk_at dksJ3_hugeLength_0 12 rfl rfl)
theorem dJ3_hugeLength_15 : decode cJ3_hugeLength 15 = .ok (.dup, 1) := dk_89 (dk_at dksJ3_hugeLength_0 15 rfl rfl)
theorem dJ3_hugeLength_16 : decode cJ3_hugeLength 16 = .ok (.invokespecial 91, 3) := dk_183 0 91 (dk_at dksJ3_hugeLength_0 16 rfl rfl)
theorem dJ3_hugeLength_19 : decode cJ3_hugeLength 19 = .ok (.ldc 206, 2) := dk_18 206 (dk_at dksJ3_hugeLength_0 19 rfl rfl)
theorem dJ3_hugeLength_21 : decode cJ3_hugeLength 21 = .ok (.invokevirtual 94, 3) := dk_182 0 94 (dk_at dksJ3_hugeLength_0 21 rfl rfl)
theorem dJ3_hugeLength_24 : decode cJ3_hugeLength 24 = .ok (.iload_n 0, 1) := dk_26 (dk_at dksJ3_hugeLength_1 0 rfl rfl)
theorem dJ3_hugeLength_25 : decode cJ3_hugeLength 25 = .ok (.invokevirtual 98, 3) := dk_182 0 98 (dk_at dksJ3_hugeLength_1 1 rfl rfl)
theorem dJ3_hugeLength_28 : decode cJ3_hugeLength 28 = .ok (.ldc 208, 2) := dk_18 208 (dk_at dksJ3_hugeLength_1 4 rfl rfl)
theorem dJ3_hugeLength_30 : decode cJ3_hugeLength 30 = .ok (.invokevirtual 94, 3) := dk_182 0 94 (dk_at dksJ3_hugeLength_1 6 rfl rfl)
theorem dJ3_hugeLength_33 : decode cJ3_hugeLength 33 = .ok (.iload_n 1, 1) := dk_27 (dk_at dksJ3_hugeLength_1 9 rfl rfl)
theorem dJ3_hugeLength_34 : decode cJ3_hugeLength 34 = .ok (.invokevirtual 98, 3) := dk_182 0 98 (dk_at dksJ3_hugeLength_1 10 rfl rfl)
theorem dJ3_hugeLength_37 : decode cJ3_hugeLength 37 = .ok (.ldc 210, 2) := dk_18 210 (dk_at dksJ3_hugeLength_1 13 rfl rfl)
theorem dJ3_hugeLength_39 : decode cJ3_hugeLength 39 = .ok (.invokevirtual 94, 3) := dk_182 0 94 (dk_at dksJ3_hugeLength_1 15 rfl rfl)
theorem dJ3_hugeLength_42 : decode cJ3_hugeLength 42 = .ok (.invokevirtual 101, 3) := dk_182 0 101 (dk_at dksJ3_hugeLength_1 18 rfl rfl)
theorem dJ3_hugeLength_45 : decode cJ3_hugeLength 45 = .ok (.invokespecial 212, 3) := dk_183 0 212 (dk_at dksJ3_hugeLength_1 21 rfl rfl)
theorem dJ3_hugeLength_48 : decode cJ3_hugeLength 48 = .ok (.athrow, 1) := dk_191 (dk_at dksJ3_hugeLength_2 0 rfl rfl)
theorem dJ3_hugeLength_49 : decode cJ3_hugeLength 49 = .ok (.iload_n 2, 1) := dk_28 (dk_at dksJ3_hugeLength_2 1 rfl rfl)
theorem dJ3_hugeLength_50 : decode cJ3_hugeLength 50 = .ok (.ldc 200, 2) := dk_18 200 (dk_at dksJ3_hugeLength_2 2 rfl rfl)
theorem dJ3_hugeLength_52 : decode cJ3_hugeLength 52 = .ok (.if_icmp .gt 6, 3) := dk_163 0 6 (dk_at dksJ3_hugeLength_2 4 rfl rfl)
theorem dJ3_hugeLength_55 : decode cJ3_hugeLength 55 = .ok (.ldc 200, 2) := dk_18 200 (dk_at dksJ3_hugeLength_2 7 rfl rfl)
theorem dJ3_hugeLength_57 : decode cJ3_hugeLength 57 = .ok (.ireturn, 1) := dk_172 (dk_at dksJ3_hugeLength_2 9 rfl rfl)
theorem dJ3_hugeLength_58 : decode cJ3_hugeLength 58 = .ok (.iload_n 2, 1) := dk_28 (dk_at dksJ3_hugeLength_2 10 rfl rfl)
theorem dJ3_hugeLength_59 : decode cJ3_hugeLength 59 = .ok (.ireturn, 1) := dk_172 (dk_at dksJ3_hugeLength_2 11 rfl rfl)
theorem q75 : (Jvm.Cond.initialized "jdk/internal/util/ArraysSupport") ∈ lw_all := lw_g (lw_at lw_m1 6 rfl) rfl
theorem q206 : (Jvm.Cond.static ({ cls := "jdk/internal/util/ArraysSupport", name := "newLength", desc := "(III)I" } : Jvm.MethodName)) ∈ lw_all := lw_g (lw_at lw_m1 137 rfl) rfl
theorem q207 : (Jvm.Cond.code ({ cls := "jdk/internal/util/ArraysSupport", name := "newLength", desc := "(III)I" } : Jvm.MethodName) prog_68_method_27_code (4 : Nat) (Option.some Jvm.ClassFile.FieldType.int)) ∈ lw_all := lw_g (lw_at lw_m1 138 rfl) rfl
theorem q208 : (Jvm.Cond.methodLink "jdk/internal/util/ArraysSupport" (194 : Nat) ({ cls := "java/lang/Math", name := "max", desc := "(II)I" } : Jvm.MethodName)) ∈ lw_all := lw_g (lw_at lw_m1 139 rfl) rfl
theorem q211 : (Jvm.Cond.constant "jdk/internal/util/ArraysSupport" (200 : Nat) (2147483639 : Int32)) ∈ lw_all := lw_g (lw_at lw_m1 142 rfl) rfl
theorem q212 : (Jvm.Cond.methodLink "jdk/internal/util/ArraysSupport" (201 : Nat) ({ cls := "jdk/internal/util/ArraysSupport", name := "hugeLength", desc := "(II)I" } : Jvm.MethodName)) ∈ lw_all := lw_g (lw_at lw_m1 143 rfl) rfl
theorem q213 : (Jvm.Cond.static ({ cls := "jdk/internal/util/ArraysSupport", name := "hugeLength", desc := "(II)I" } : Jvm.MethodName)) ∈ lw_all := lw_g (lw_at lw_m1 144 rfl) rfl
theorem q214 : (Jvm.Cond.code ({ cls := "jdk/internal/util/ArraysSupport", name := "hugeLength", desc := "(II)I" } : Jvm.MethodName) prog_68_method_28_code (3 : Nat) (Option.some Jvm.ClassFile.FieldType.int)) ∈ lw_all := lw_g (lw_at lw_m1 145 rfl) rfl
/-! java/util/Objects -/
set_option maxRecDepth 100000
def RJ30 : String := "java/util/Objects"
abbrev cJ30_checkIndex : ByteArray := prog_64_method_17_code
def yJ30_checkIndex : MethodName := ⟨RJ30, "checkIndex", "(II)I"⟩
def dkwJ30_checkIndex_0 : List UInt8 := [26, 27, 1, 184, 0, 105, 172]
abbrev dktJ30_checkIndex_0 : List UInt8 := dkwJ30_checkIndex_0 ++ []
theorem dksJ30_checkIndex_0 : cJ30_checkIndex.data.toList.drop 0 = dktJ30_checkIndex_0 := by decide +kernel
theorem dJ30_checkIndex_0 : decode cJ30_checkIndex 0 = .ok (.iload_n 0, 1) := dk_26 (dk_at dksJ30_checkIndex_0 0 rfl rfl)
theorem dJ30_checkIndex_1 : decode cJ30_checkIndex 1 = .ok (.iload_n 1, 1) := dk_27 (dk_at dksJ30_checkIndex_0 1 rfl rfl)
theorem dJ30_checkIndex_2 : decode cJ30_checkIndex 2 = .ok (.aconst_null, 1) := dk_1 (dk_at dksJ30_checkIndex_0 2 rfl rfl)
theorem dJ30_checkIndex_3 : decode cJ30_checkIndex 3 = .ok (.invokestatic 105, 3) := dk_184 0 105 (dk_at dksJ30_checkIndex_0 3 rfl rfl)
theorem dJ30_checkIndex_6 : decode cJ30_checkIndex 6 = .ok (.ireturn, 1) := dk_172 (dk_at dksJ30_checkIndex_0 6 rfl rfl)
theorem q107 : (Jvm.Cond.initialized "java/util/Objects") ∈ lw_all := lw_g (lw_at lw_m1 38 rfl) rfl
theorem q423 : (Jvm.Cond.static ({ cls := "java/util/Objects", name := "checkIndex", desc := "(II)I" } : Jvm.MethodName)) ∈ lw_all := lw_g (lw_at lw_m2 114 rfl) rfl
theorem q424 : (Jvm.Cond.code ({ cls := "java/util/Objects", name := "checkIndex", desc := "(II)I" } : Jvm.MethodName) prog_64_method_17_code (2 : Nat) (Option.some Jvm.ClassFile.FieldType.int)) ∈ lw_all := lw_g (lw_at lw_m2 115 rfl) rfl
theorem q425 : (Jvm.Cond.methodLink "java/util/Objects" (105 : Nat) ({ cls := "jdk/internal/util/Preconditions", name := "checkIndex", desc := "(IILjava/util/function/BiFunction;)I" } : Jvm.MethodName)) ∈ lw_all := lw_g (lw_at lw_m2 116 rfl) rfl
/-! java/util/NoSuchElementException -/
set_option maxRecDepth 100000
def RJ31 : String := "java/util/NoSuchElementException"
def TJ31 : u_T := fun k => match k with
  | 0 => ("java/lang/Throwable", "cause", "Ljava/lang/Throwable;", false)
  | 1 => ("java/lang/Throwable", "stackTrace", "[Ljava/lang/StackTraceElement;", false)
  | 2 => ("java/lang/Throwable", "suppressedExceptions", "Ljava/util/List;", false)
  | 3 => ("java/lang/Throwable", "detailMessage", "Ljava/lang/String;", false)
  | 4 => ("java/lang/Throwable", "backtrace", "Ljava/lang/Object;", false)
  | _ => ("java/lang/Throwable", "depth", "I", false)
def tyJ31 : Nat → FieldType := fun k => match k with
  | 0 => .object "java/lang/Throwable"
  | 1 => .array (.object "java/lang/StackTraceElement")
  | 2 => .object "java/util/List"
  | 3 => .object "java/lang/String"
  | 4 => .object "java/lang/Object"
  | _ => .int
abbrev wsJ310 : List Cond := u_ws RJ31 TJ31 6
theorem nmJ31 : ∀ a, a < 6 → ∀ b, b < 6 → a ≠ b → (TJ31 a).2.1 ≠ (TJ31 b).2.1 := by decide +kernel
theorem tyJ31_ok : ∀ k, k < 6 → parseFieldDescriptor (TJ31 k).2.2.1 = some (tyJ31 k) := by decide +kernel
abbrev cJ31_init : ByteArray := prog_63_method_3_code
def yJ31_init : MethodName := ⟨RJ31, "<init>", "(Ljava/lang/Throwable;)V"⟩
def dkwJ31_init_0 : List UInt8 := [42, 43, 183, 0, 10, 177]
abbrev dktJ31_init_0 : List UInt8 := dkwJ31_init_0 ++ []
theorem dksJ31_init_0 : cJ31_init.data.toList.drop 0 = dktJ31_init_0 := by decide +kernel
theorem dJ31_init_0 : decode cJ31_init 0 = .ok (.aload_n 0, 1) := dk_42 (dk_at dksJ31_init_0 0 rfl rfl)
theorem dJ31_init_1 : decode cJ31_init 1 = .ok (.aload_n 1, 1) := dk_43 (dk_at dksJ31_init_0 1 rfl rfl)
theorem dJ31_init_2 : decode cJ31_init 2 = .ok (.invokespecial 10, 3) := dk_183 0 10 (dk_at dksJ31_init_0 2 rfl rfl)
theorem dJ31_init_5 : decode cJ31_init 5 = .ok (.return_, 1) := dk_177 (dk_at dksJ31_init_0 5 rfl rfl)
abbrev cJ31_init_2 : ByteArray := prog_63_method_1_code
def yJ31_init_2 : MethodName := ⟨RJ31, "<init>", "()V"⟩
theorem dJ31_init_2_0 : decode cJ31_init_2 0 = .ok (.aload_n 0, 1) := by decide +kernel
theorem dJ31_init_2_1 : decode cJ31_init_2 1 = .ok (.invokespecial 1, 3) := by decide +kernel
theorem dJ31_init_2_4 : decode cJ31_init_2 4 = .ok (.return_, 1) := by decide +kernel
theorem q108 : (Jvm.Cond.initialized "java/util/NoSuchElementException") ∈ lw_all := lw_g (lw_at lw_m1 39 rfl) rfl
theorem q250 : (Jvm.Cond.selects "java/util/NoSuchElementException" ({ cls := "java/lang/Object", name := "getClass", desc := "()Ljava/lang/Class;" } : Jvm.MethodName) ({ cls := "java/lang/Object", name := "getClass", desc := "()Ljava/lang/Class;" } : Jvm.MethodName)) ∈ lw_all := lw_g (lw_at lw_m1 181 rfl) rfl
theorem q484 : (Jvm.Cond.selects "java/util/NoSuchElementException" ({ cls := "java/lang/Throwable", name := "fillInStackTrace", desc := "()Ljava/lang/Throwable;" } : Jvm.MethodName) ({ cls := "java/lang/Throwable", name := "fillInStackTrace", desc := "()Ljava/lang/Throwable;" } : Jvm.MethodName)) ∈ lw_all := lw_g (lw_at lw_m2 175 rfl) rfl
theorem q1035 : (Jvm.Cond.instantiable "java/util/NoSuchElementException" (6 : Nat)) ∈ lw_all := lw_g (lw_at lw_m5 6 rfl) rfl
theorem q1036 : (Jvm.Cond.castable "java/util/NoSuchElementException" "java/util/NoSuchElementException") ∈ lw_tbl := lw_at lw_m5 7 rfl
theorem q1037 : (Jvm.Cond.selects "java/util/NoSuchElementException" ({ cls := "java/lang/Throwable", name := "fillInStackTrace", desc := "(I)Ljava/lang/Throwable;" } : Jvm.MethodName) ({ cls := "java/lang/Throwable", name := "fillInStackTrace", desc := "(I)Ljava/lang/Throwable;" } : Jvm.MethodName)) ∈ lw_all := lw_g (lw_at lw_m5 8 rfl) rfl
theorem q1038 : (Jvm.Cond.lays "java/util/NoSuchElementException" "java/lang/Throwable" "cause" "Ljava/lang/Throwable;") ∈ lw_all := lw_g (lw_at lw_m5 9 rfl) rfl
theorem q1039 : (Jvm.Cond.lays "java/util/NoSuchElementException" "java/lang/Throwable" "stackTrace" "[Ljava/lang/StackTraceElement;") ∈ lw_all := lw_g (lw_at lw_m5 10 rfl) rfl
theorem q1040 : (Jvm.Cond.lays "java/util/NoSuchElementException" "java/lang/Throwable" "suppressedExceptions" "Ljava/util/List;") ∈ lw_all := lw_g (lw_at lw_m5 11 rfl) rfl
theorem q1041 : (Jvm.Cond.lays "java/util/NoSuchElementException" "java/lang/Throwable" "detailMessage" "Ljava/lang/String;") ∈ lw_all := lw_g (lw_at lw_m5 12 rfl) rfl
theorem q1042 : (Jvm.Cond.lays "java/util/NoSuchElementException" "java/lang/Throwable" "backtrace" "Ljava/lang/Object;") ∈ lw_all := lw_g (lw_at lw_m5 13 rfl) rfl
theorem q1044 : (Jvm.Cond.instanceMethod ({ cls := "java/util/NoSuchElementException", name := "<init>", desc := "(Ljava/lang/Throwable;)V" } : Jvm.MethodName)) ∈ lw_all := lw_g (lw_at lw_m5 15 rfl) rfl
theorem q1045 : (Jvm.Cond.code ({ cls := "java/util/NoSuchElementException", name := "<init>", desc := "(Ljava/lang/Throwable;)V" } : Jvm.MethodName) prog_63_method_3_code (2 : Nat) (Option.none : Option Jvm.ClassFile.FieldType)) ∈ lw_all := lw_g (lw_at lw_m5 16 rfl) rfl
theorem q1046 : (Jvm.Cond.methodLink "java/util/NoSuchElementException" (10 : Nat) ({ cls := "java/lang/RuntimeException", name := "<init>", desc := "(Ljava/lang/Throwable;)V" } : Jvm.MethodName)) ∈ lw_all := lw_g (lw_at lw_m5 17 rfl) rfl
theorem q1065 : (Jvm.Cond.selects "java/util/NoSuchElementException" ({ cls := "java/lang/Throwable", name := "toString", desc := "()Ljava/lang/String;" } : Jvm.MethodName) ({ cls := "java/lang/Throwable", name := "toString", desc := "()Ljava/lang/String;" } : Jvm.MethodName)) ∈ lw_all := lw_g (lw_at lw_m5 36 rfl) rfl
theorem q1078 : (Jvm.Cond.selects "java/util/NoSuchElementException" ({ cls := "java/lang/Throwable", name := "getLocalizedMessage", desc := "()Ljava/lang/String;" } : Jvm.MethodName) ({ cls := "java/lang/Throwable", name := "getLocalizedMessage", desc := "()Ljava/lang/String;" } : Jvm.MethodName)) ∈ lw_all := lw_g (lw_at lw_m5 49 rfl) rfl
theorem q1090 : (Jvm.Cond.selects "java/util/NoSuchElementException" ({ cls := "java/lang/Throwable", name := "getMessage", desc := "()Ljava/lang/String;" } : Jvm.MethodName) ({ cls := "java/lang/Throwable", name := "getMessage", desc := "()Ljava/lang/String;" } : Jvm.MethodName)) ∈ lw_all := lw_g (lw_at lw_m5 61 rfl) rfl
theorem q1097 : (Jvm.Cond.lays "java/util/NoSuchElementException" "java/lang/Throwable" "depth" "I") ∈ lw_all := lw_g (lw_at lw_m5 68 rfl) rfl
theorem q1098 : (Jvm.Cond.superclass "java/util/NoSuchElementException" "java/lang/RuntimeException") ∈ lw_all := lw_g (lw_at lw_m5 69 rfl) rfl
theorem q1106 : (Jvm.Cond.instanceMethod ({ cls := "java/util/NoSuchElementException", name := "<init>", desc := "()V" } : Jvm.MethodName)) ∈ lw_all := lw_g (lw_at lw_m5 77 rfl) rfl
theorem q1107 : (Jvm.Cond.code ({ cls := "java/util/NoSuchElementException", name := "<init>", desc := "()V" } : Jvm.MethodName) prog_63_method_1_code (1 : Nat) (Option.none : Option Jvm.ClassFile.FieldType)) ∈ lw_all := lw_g (lw_at lw_m5 78 rfl) rfl
theorem q1108 : (Jvm.Cond.methodLink "java/util/NoSuchElementException" (1 : Nat) ({ cls := "java/lang/RuntimeException", name := "<init>", desc := "()V" } : Jvm.MethodName)) ∈ lw_all := lw_g (lw_at lw_m5 79 rfl) rfl
theorem q2078 : (Jvm.Cond.castable "java/util/NoSuchElementException" "java/lang/Object") ∈ lw_tbl := lw_at lw_m9 89 rfl
theorem in_J31 : ∀ w ∈ wsJ310, w ∈ lw_all := lw_in wsJ310 [1038, 1039, 1040, 1041, 1042, 1097] (by decide +kernel) (by decide +kernel)
/-! java/lang/Enum -/
set_option maxRecDepth 100000
def RJ32 : String := "java/lang/Enum"
abbrev cJ32_ordinal : ByteArray := prog_23_method_2_code
def yJ32_ordinal : MethodName := ⟨RJ32, "ordinal", "()I"⟩
theorem dJ32_ordinal_0 : decode cJ32_ordinal 0 = .ok (.aload_n 0, 1) := by decide +kernel
theorem dJ32_ordinal_1 : decode cJ32_ordinal 1 = .ok (.getfield 7, 3) := by decide +kernel
theorem dJ32_ordinal_4 : decode cJ32_ordinal 4 = .ok (.ireturn, 1) := by decide +kernel
theorem q109 : (Jvm.Cond.initialized "java/lang/Enum") ∈ lw_all := lw_g (lw_at lw_m1 40 rfl) rfl
theorem q1317 : (Jvm.Cond.declares ({ cls := "java/lang/Enum", name := "ordinal", desc := "()I" } : Jvm.MethodName)) ∈ lw_tbl := lw_at lw_m6 48 rfl
theorem q1320 : (Jvm.Cond.instanceMethod ({ cls := "java/lang/Enum", name := "ordinal", desc := "()I" } : Jvm.MethodName)) ∈ lw_all := lw_g (lw_at lw_m6 51 rfl) rfl
theorem q1321 : (Jvm.Cond.code ({ cls := "java/lang/Enum", name := "ordinal", desc := "()I" } : Jvm.MethodName) prog_23_method_2_code (1 : Nat) (Option.some Jvm.ClassFile.FieldType.int)) ∈ lw_all := lw_g (lw_at lw_m6 52 rfl) rfl
theorem q2108 : (Jvm.Cond.fieldLink "java/lang/Enum" (7 : Nat) "java/lang/Enum" "ordinal" "I") ∈ lw_all := lw_g (lw_at lw_m9 119 rfl) rfl
/-! java/util/ArrayDeque$DeqIterator -/
set_option maxRecDepth 100000
def RJ33 : String := "java/util/ArrayDeque$DeqIterator"
def TJ33 : u_T := fun k => match k with
  | 0 => ("java/util/ArrayDeque$DeqIterator", "cursor", "I", false)
  | 1 => ("java/util/ArrayDeque$DeqIterator", "remaining", "I", false)
  | 2 => ("java/util/ArrayDeque$DeqIterator", "lastRet", "I", false)
  | _ => ("java/util/ArrayDeque$DeqIterator", "this$0", "Ljava/util/ArrayDeque;", true)
def tyJ33 : Nat → FieldType := fun k => match k with
  | 0 => .int
  | 1 => .int
  | 2 => .int
  | _ => .object "java/util/ArrayDeque"
abbrev wsJ330 : List Cond := u_ws RJ33 TJ33 4
theorem nmJ33 : ∀ a, a < 4 → ∀ b, b < 4 → a ≠ b → (TJ33 a).2.1 ≠ (TJ33 b).2.1 := by decide +kernel
theorem tyJ33_ok : ∀ k, k < 4 → parseFieldDescriptor (TJ33 k).2.2.1 = some (tyJ33 k) := by decide +kernel
abbrev cJ33_hasNext : ByteArray := prog_49_method_2_code
def yJ33_hasNext : MethodName := ⟨RJ33, "hasNext", "()Z"⟩
def dkwJ33_hasNext_0 : List UInt8 := [42, 180, 0, 19, 158, 0, 7, 4, 167, 0, 4, 3, 172]
abbrev dktJ33_hasNext_0 : List UInt8 := dkwJ33_hasNext_0 ++ []
theorem dksJ33_hasNext_0 : cJ33_hasNext.data.toList.drop 0 = dktJ33_hasNext_0 := by decide +kernel
theorem dJ33_hasNext_0 : decode cJ33_hasNext 0 = .ok (.aload_n 0, 1) := dk_42 (dk_at dksJ33_hasNext_0 0 rfl rfl)
theorem dJ33_hasNext_1 : decode cJ33_hasNext 1 = .ok (.getfield 19, 3) := dk_180 0 19 (dk_at dksJ33_hasNext_0 1 rfl rfl)
theorem dJ33_hasNext_4 : decode cJ33_hasNext 4 = .ok (.ifCond .le 7, 3) := dk_158 0 7 (dk_at dksJ33_hasNext_0 4 rfl rfl)
theorem dJ33_hasNext_7 : decode cJ33_hasNext 7 = .ok (.iconst 1, 1) := dk_4 (dk_at dksJ33_hasNext_0 7 rfl rfl)
theorem dJ33_hasNext_8 : decode cJ33_hasNext 8 = .ok (.goto 4, 3) := dk_167 0 4 (dk_at dksJ33_hasNext_0 8 rfl rfl)
theorem dJ33_hasNext_11 : decode cJ33_hasNext 11 = .ok (.iconst 0, 1) := dk_3 (dk_at dksJ33_hasNext_0 11 rfl rfl)
theorem dJ33_hasNext_12 : decode cJ33_hasNext 12 = .ok (.ireturn, 1) := dk_172 (dk_at dksJ33_hasNext_0 12 rfl rfl)
abbrev cJ33_next : ByteArray := prog_49_method_3_code
def yJ33_next : MethodName := ⟨RJ33, "next", "()Ljava/lang/Object;"⟩
def dkwJ33_next_2 : List UInt8 := [181, 0, 29, 42, 89, 180, 0, 19, 4, 100, 181, 0, 19, 44, 176]
abbrev dktJ33_next_2 : List UInt8 := dkwJ33_next_2 ++ []
def dkwJ33_next_1 : List UInt8 := [42, 180, 0, 29, 184, 0, 39, 77, 42, 42, 42, 180, 0, 29, 90, 181, 0, 23, 43, 190, 184, 0, 43]
abbrev dktJ33_next_1 : List UInt8 := dkwJ33_next_1 ++ dktJ33_next_2
def dkwJ33_next_0 : List UInt8 := [42, 180, 0, 19, 157, 0, 11, 187, 0, 32, 89, 183, 0, 34, 191, 42, 180, 0, 1, 180, 0, 35, 76, 43]
abbrev dktJ33_next_0 : List UInt8 := dkwJ33_next_0 ++ dktJ33_next_1
theorem dksJ33_next_0 : cJ33_next.data.toList.drop 0 = dktJ33_next_0 := by decide +kernel
theorem dksJ33_next_1 : cJ33_next.data.toList.drop 24 = dktJ33_next_1 := dk_seg dksJ33_next_0 24 rfl rfl
theorem dksJ33_next_2 : cJ33_next.data.toList.drop 47 = dktJ33_next_2 := dk_seg dksJ33_next_1 23 rfl rfl
theorem dJ33_next_0 : decode cJ33_next 0 = .ok (.aload_n 0, 1) := dk_42 (dk_at dksJ33_next_0 0 rfl rfl)
theorem dJ33_next_1 : decode cJ33_next 1 = .ok (.getfield 19, 3) := dk_180 0 19 (dk_at dksJ33_next_0 1 rfl rfl)
theorem dJ33_next_4 : decode cJ33_next 4 = .ok (.ifCond .gt 11, 3) := dk_157 0 11 (dk_at dksJ33_next_0 4 rfl rfl)
theorem dJ33_next_7 : decode cJ33_next 7 = .ok (.new 32, 3) := dk_187 0 32 (dk_at dksJ33_next_0 7 rfl rfl)
theorem dJ33_next_10 : decode cJ33_next 10 = .ok (.dup, 1) := dk_89 (dk_at dksJ33_next_0 10 rfl rfl)
theorem dJ33_next_11 : decode cJ33_next 11 = .ok (.invokespecial 34, 3) := dk_183 0 34 (dk_at dksJ33_next_0 11 rfl rfl)
theorem dJ33_next_14 : decode cJ33_next 14 = .ok (.athrow, 1) := dk_191 (dk_at dksJ33_next_0 14 rfl rfl)
theorem dJ33_next_15 : decode cJ33_next 15 = .ok (.aload_n 0, 1) := dk_42 (dk_at dksJ33_next_0 15 rfl rfl)
theorem dJ33_next_16 : decode cJ33_next 16 = .ok (.getfield 1, 3) := dk_180 0 1 (dk_at dksJ33_next_0 16 rfl rfl)
theorem dJ33_next_19 : decode cJ33_next 19 = .ok (.getfield 35, 3) := dk_180 0 35 (dk_at dksJ33_next_0 19 rfl rfl)
theorem dJ33_next_22 : decode cJ33_next 22 = .ok (.astore_n 1, 1) := dk_76 (dk_at dksJ33_next_0 22 rfl rfl)
theorem dJ33_next_23 : decode cJ33_next 23 = .ok (.aload_n 1, 1) := dk_43 (dk_at dksJ33_next_0 23 rfl rfl)
theorem dJ33_next_24 : decode cJ33_next 24 = .ok (.aload_n 0, 1) := dk_42 (dk_at dksJ33_next_1 0 rfl rfl)
theorem dJ33_next_25 : decode cJ33_next 25 = .ok (.getfield 29, 3) := dk_180 0 29 (dk_at dksJ33_next_1 1 rfl rfl)
theorem dJ33_next_28 : decode cJ33_next 28 = .ok (.invokestatic 39, 3) := dk_184 0 39 (dk_at dksJ33_next_1 4 rfl rfl)
theorem dJ33_next_31 : decode cJ33_next 31 = .ok (.astore_n 2, 1) := dk_77 (dk_at dksJ33_next_1 7 rfl rfl)
theorem dJ33_next_32 : decode cJ33_next 32 = .ok (.aload_n 0, 1) := dk_42 (dk_at dksJ33_next_1 8 rfl rfl)
theorem dJ33_next_33 : decode cJ33_next 33 = .ok (.aload_n 0, 1) := dk_42 (dk_at dksJ33_next_1 9 rfl rfl)
theorem dJ33_next_34 : decode cJ33_next 34 = .ok (.aload_n 0, 1) := dk_42 (dk_at dksJ33_next_1 10 rfl rfl)
theorem dJ33_next_35 : decode cJ33_next 35 = .ok (.getfield 29, 3) := dk_180 0 29 (dk_at dksJ33_next_1 11 rfl rfl)
theorem dJ33_next_38 : decode cJ33_next 38 = .ok (.dup_x1, 1) := dk_90 (dk_at dksJ33_next_1 14 rfl rfl)
theorem dJ33_next_39 : decode cJ33_next 39 = .ok (.putfield 23, 3) := dk_181 0 23 (dk_at dksJ33_next_1 15 rfl rfl)
theorem dJ33_next_42 : decode cJ33_next 42 = .ok (.aload_n 1, 1) := dk_43 (dk_at dksJ33_next_1 18 rfl rfl)
theorem dJ33_next_43 : decode cJ33_next 43 = .ok (.arraylength, 1) := dk_190 (dk_at dksJ33_next_1 19 rfl rfl)
theorem dJ33_next_44 : decode cJ33_next 44 = .ok (.invokestatic 43, 3) := dk_184 0 43 (dk_at dksJ33_next_1 20 rfl rfl)
theorem dJ33_next_47 : decode cJ33_next 47 = .ok (.putfield 29, 3) := dk_181 0 29 (dk_at dksJ33_next_2 0 rfl rfl)
theorem dJ33_next_50 : decode cJ33_next 50 = .ok (.aload_n 0, 1) := dk_42 (dk_at dksJ33_next_2 3 rfl rfl)
theorem dJ33_next_51 : decode cJ33_next 51 = .ok (.dup, 1) := dk_89 (dk_at dksJ33_next_2 4 rfl rfl)
theorem dJ33_next_52 : decode cJ33_next 52 = .ok (.getfield 19, 3) := dk_180 0 19 (dk_at dksJ33_next_2 5 rfl rfl)
theorem dJ33_next_55 : decode cJ33_next 55 = .ok (.iconst 1, 1) := dk_4 (dk_at dksJ33_next_2 8 rfl rfl)
theorem dJ33_next_56 : decode cJ33_next 56 = .ok (.isub, 1) := dk_100 (dk_at dksJ33_next_2 9 rfl rfl)
theorem dJ33_next_57 : decode cJ33_next 57 = .ok (.putfield 19, 3) := dk_181 0 19 (dk_at dksJ33_next_2 10 rfl rfl)
theorem dJ33_next_60 : decode cJ33_next 60 = .ok (.aload_n 2, 1) := dk_44 (dk_at dksJ33_next_2 13 rfl rfl)
theorem dJ33_next_61 : decode cJ33_next 61 = .ok (.areturn, 1) := dk_176 (dk_at dksJ33_next_2 14 rfl rfl)
abbrev cJ33_init : ByteArray := prog_49_method_1_code
def yJ33_init : MethodName := ⟨RJ33, "<init>", "(Ljava/util/ArrayDeque;)V"⟩
def dkwJ33_init_1 : List UInt8 := [181, 0, 23, 42, 43, 180, 0, 26, 181, 0, 29, 177]
abbrev dktJ33_init_1 : List UInt8 := dkwJ33_init_1 ++ []
def dkwJ33_init_0 : List UInt8 := [42, 43, 181, 0, 1, 42, 183, 0, 7, 42, 42, 180, 0, 1, 182, 0, 13, 181, 0, 19, 42, 2]
abbrev dktJ33_init_0 : List UInt8 := dkwJ33_init_0 ++ dktJ33_init_1
theorem dksJ33_init_0 : cJ33_init.data.toList.drop 0 = dktJ33_init_0 := by decide +kernel
theorem dksJ33_init_1 : cJ33_init.data.toList.drop 22 = dktJ33_init_1 := dk_seg dksJ33_init_0 22 rfl rfl
theorem dJ33_init_0 : decode cJ33_init 0 = .ok (.aload_n 0, 1) := dk_42 (dk_at dksJ33_init_0 0 rfl rfl)
theorem dJ33_init_1 : decode cJ33_init 1 = .ok (.aload_n 1, 1) := dk_43 (dk_at dksJ33_init_0 1 rfl rfl)
theorem dJ33_init_2 : decode cJ33_init 2 = .ok (.putfield 1, 3) := dk_181 0 1 (dk_at dksJ33_init_0 2 rfl rfl)
theorem dJ33_init_5 : decode cJ33_init 5 = .ok (.aload_n 0, 1) := dk_42 (dk_at dksJ33_init_0 5 rfl rfl)
theorem dJ33_init_6 : decode cJ33_init 6 = .ok (.invokespecial 7, 3) := dk_183 0 7 (dk_at dksJ33_init_0 6 rfl rfl)
theorem dJ33_init_9 : decode cJ33_init 9 = .ok (.aload_n 0, 1) := dk_42 (dk_at dksJ33_init_0 9 rfl rfl)
theorem dJ33_init_10 : decode cJ33_init 10 = .ok (.aload_n 0, 1) := dk_42 (dk_at dksJ33_init_0 10 rfl rfl)
theorem dJ33_init_11 : decode cJ33_init 11 = .ok (.getfield 1, 3) := dk_180 0 1 (dk_at dksJ33_init_0 11 rfl rfl)
theorem dJ33_init_14 : decode cJ33_init 14 = .ok (.invokevirtual 13, 3) := dk_182 0 13 (dk_at dksJ33_init_0 14 rfl rfl)
theorem dJ33_init_17 : decode cJ33_init 17 = .ok (.putfield 19, 3) := dk_181 0 19 (dk_at dksJ33_init_0 17 rfl rfl)
theorem dJ33_init_20 : decode cJ33_init 20 = .ok (.aload_n 0, 1) := dk_42 (dk_at dksJ33_init_0 20 rfl rfl)
theorem dJ33_init_21 : decode cJ33_init 21 = .ok (.iconst (-1), 1) := dk_2 (dk_at dksJ33_init_0 21 rfl rfl)
theorem dJ33_init_22 : decode cJ33_init 22 = .ok (.putfield 23, 3) := dk_181 0 23 (dk_at dksJ33_init_1 0 rfl rfl)
theorem dJ33_init_25 : decode cJ33_init 25 = .ok (.aload_n 0, 1) := dk_42 (dk_at dksJ33_init_1 3 rfl rfl)
theorem dJ33_init_26 : decode cJ33_init 26 = .ok (.aload_n 1, 1) := dk_43 (dk_at dksJ33_init_1 4 rfl rfl)
theorem dJ33_init_27 : decode cJ33_init 27 = .ok (.getfield 26, 3) := dk_180 0 26 (dk_at dksJ33_init_1 5 rfl rfl)
theorem dJ33_init_30 : decode cJ33_init 30 = .ok (.putfield 29, 3) := dk_181 0 29 (dk_at dksJ33_init_1 8 rfl rfl)
theorem dJ33_init_33 : decode cJ33_init 33 = .ok (.return_, 1) := dk_177 (dk_at dksJ33_init_1 11 rfl rfl)
theorem q113 : (Jvm.Cond.initialized "java/util/ArrayDeque$DeqIterator") ∈ lw_all := lw_g (lw_at lw_m1 44 rfl) rfl
theorem q242 : (Jvm.Cond.selects "java/util/ArrayDeque$DeqIterator" ({ cls := "java/lang/Object", name := "getClass", desc := "()Ljava/lang/Class;" } : Jvm.MethodName) ({ cls := "java/lang/Object", name := "getClass", desc := "()Ljava/lang/Class;" } : Jvm.MethodName)) ∈ lw_all := lw_g (lw_at lw_m1 173 rfl) rfl
theorem q326 : (Jvm.Cond.fieldLink "java/util/ArrayDeque$DeqIterator" (35 : Nat) "java/util/ArrayDeque" "elements" "[Ljava/lang/Object;") ∈ lw_all := lw_g (lw_at lw_m2 17 rfl) rfl
theorem q327 : (Jvm.Cond.fieldLink "java/util/ArrayDeque$DeqIterator" (26 : Nat) "java/util/ArrayDeque" "head" "I") ∈ lw_all := lw_g (lw_at lw_m2 18 rfl) rfl
theorem q915 : (Jvm.Cond.castable "java/util/ArrayDeque$DeqIterator" "java/util/Iterator") ∈ lw_tbl := lw_at lw_m4 126 rfl
theorem q916 : (Jvm.Cond.selects "java/util/ArrayDeque$DeqIterator" ({ cls := "java/util/Iterator", name := "hasNext", desc := "()Z" } : Jvm.MethodName) ({ cls := "java/util/ArrayDeque$DeqIterator", name := "hasNext", desc := "()Z" } : Jvm.MethodName)) ∈ lw_all := lw_g (lw_at lw_m4 127 rfl) rfl
theorem q917 : (Jvm.Cond.unhidden "java/util/ArrayDeque$DeqIterator" "hasNext" "()Z") ∈ lw_tbl := lw_at lw_m4 128 rfl
theorem q918 : (Jvm.Cond.instanceMethod ({ cls := "java/util/ArrayDeque$DeqIterator", name := "hasNext", desc := "()Z" } : Jvm.MethodName)) ∈ lw_all := lw_g (lw_at lw_m4 129 rfl) rfl
theorem q919 : (Jvm.Cond.publicMethod ({ cls := "java/util/ArrayDeque$DeqIterator", name := "hasNext", desc := "()Z" } : Jvm.MethodName)) ∈ lw_tbl := lw_at lw_m4 130 rfl
theorem q920 : (Jvm.Cond.code ({ cls := "java/util/ArrayDeque$DeqIterator", name := "hasNext", desc := "()Z" } : Jvm.MethodName) prog_49_method_2_code (1 : Nat) (Option.some Jvm.ClassFile.FieldType.boolean)) ∈ lw_all := lw_g (lw_at lw_m4 131 rfl) rfl
theorem q1099 : (Jvm.Cond.selects "java/util/ArrayDeque$DeqIterator" ({ cls := "java/util/Iterator", name := "next", desc := "()Ljava/lang/Object;" } : Jvm.MethodName) ({ cls := "java/util/ArrayDeque$DeqIterator", name := "next", desc := "()Ljava/lang/Object;" } : Jvm.MethodName)) ∈ lw_all := lw_g (lw_at lw_m5 70 rfl) rfl
theorem q1100 : (Jvm.Cond.unhidden "java/util/ArrayDeque$DeqIterator" "next" "()Ljava/lang/Object;") ∈ lw_tbl := lw_at lw_m5 71 rfl
theorem q1101 : (Jvm.Cond.instanceMethod ({ cls := "java/util/ArrayDeque$DeqIterator", name := "next", desc := "()Ljava/lang/Object;" } : Jvm.MethodName)) ∈ lw_all := lw_g (lw_at lw_m5 72 rfl) rfl
theorem q1102 : (Jvm.Cond.publicMethod ({ cls := "java/util/ArrayDeque$DeqIterator", name := "next", desc := "()Ljava/lang/Object;" } : Jvm.MethodName)) ∈ lw_tbl := lw_at lw_m5 73 rfl
theorem q1103 : (Jvm.Cond.code ({ cls := "java/util/ArrayDeque$DeqIterator", name := "next", desc := "()Ljava/lang/Object;" } : Jvm.MethodName) prog_49_method_3_code (3 : Nat) (Option.some (Jvm.ClassFile.FieldType.object "java/lang/Object"))) ∈ lw_all := lw_g (lw_at lw_m5 74 rfl) rfl
theorem q1104 : (Jvm.Cond.classLink "java/util/ArrayDeque$DeqIterator" (32 : Nat) "java/util/NoSuchElementException") ∈ lw_all := lw_g (lw_at lw_m5 75 rfl) rfl
theorem q1105 : (Jvm.Cond.methodLink "java/util/ArrayDeque$DeqIterator" (34 : Nat) ({ cls := "java/util/NoSuchElementException", name := "<init>", desc := "()V" } : Jvm.MethodName)) ∈ lw_all := lw_g (lw_at lw_m5 76 rfl) rfl
theorem q1115 : (Jvm.Cond.methodLink "java/util/ArrayDeque$DeqIterator" (39 : Nat) ({ cls := "java/util/ArrayDeque", name := "nonNullElementAt", desc := "([Ljava/lang/Object;I)Ljava/lang/Object;" } : Jvm.MethodName)) ∈ lw_all := lw_g (lw_at lw_m5 86 rfl) rfl
theorem q1118 : (Jvm.Cond.methodLink "java/util/ArrayDeque$DeqIterator" (43 : Nat) ({ cls := "java/util/ArrayDeque", name := "inc", desc := "(II)I" } : Jvm.MethodName)) ∈ lw_all := lw_g (lw_at lw_m5 89 rfl) rfl
theorem q1386 : (Jvm.Cond.instantiable "java/util/ArrayDeque$DeqIterator" (4 : Nat)) ∈ lw_all := lw_g (lw_at lw_m6 117 rfl) rfl
theorem q1388 : (Jvm.Cond.instanceMethod ({ cls := "java/util/ArrayDeque$DeqIterator", name := "<init>", desc := "(Ljava/util/ArrayDeque;)V" } : Jvm.MethodName)) ∈ lw_all := lw_g (lw_at lw_m6 119 rfl) rfl
theorem q1389 : (Jvm.Cond.code ({ cls := "java/util/ArrayDeque$DeqIterator", name := "<init>", desc := "(Ljava/util/ArrayDeque;)V" } : Jvm.MethodName) prog_49_method_1_code (2 : Nat) (Option.none : Option Jvm.ClassFile.FieldType)) ∈ lw_all := lw_g (lw_at lw_m6 120 rfl) rfl
theorem q1390 : (Jvm.Cond.methodLink "java/util/ArrayDeque$DeqIterator" (7 : Nat) ({ cls := "java/lang/Object", name := "<init>", desc := "()V" } : Jvm.MethodName)) ∈ lw_all := lw_g (lw_at lw_m6 121 rfl) rfl
theorem q1391 : (Jvm.Cond.methodLink "java/util/ArrayDeque$DeqIterator" (13 : Nat) ({ cls := "java/util/ArrayDeque", name := "size", desc := "()I" } : Jvm.MethodName)) ∈ lw_all := lw_g (lw_at lw_m6 122 rfl) rfl
theorem q1398 : (Jvm.Cond.fieldLink "java/util/ArrayDeque$DeqIterator" (29 : Nat) "java/util/ArrayDeque$DeqIterator" "cursor" "I") ∈ lw_all := lw_g (lw_at lw_m6 129 rfl) rfl
theorem q1399 : (Jvm.Cond.fieldLink "java/util/ArrayDeque$DeqIterator" (19 : Nat) "java/util/ArrayDeque$DeqIterator" "remaining" "I") ∈ lw_all := lw_g (lw_at lw_m6 130 rfl) rfl
theorem q1400 : (Jvm.Cond.fieldLink "java/util/ArrayDeque$DeqIterator" (23 : Nat) "java/util/ArrayDeque$DeqIterator" "lastRet" "I") ∈ lw_all := lw_g (lw_at lw_m6 131 rfl) rfl
theorem q1401 : (Jvm.Cond.fieldLink "java/util/ArrayDeque$DeqIterator" (1 : Nat) "java/util/ArrayDeque$DeqIterator" "this$0" "Ljava/util/ArrayDeque;") ∈ lw_all := lw_g (lw_at lw_m6 132 rfl) rfl
theorem q1402 : (Jvm.Cond.lays "java/util/ArrayDeque$DeqIterator" "java/util/ArrayDeque$DeqIterator" "cursor" "I") ∈ lw_all := lw_g (lw_at lw_m6 133 rfl) rfl
theorem q1403 : (Jvm.Cond.soleField "java/util/ArrayDeque$DeqIterator" "cursor") ∈ lw_all := lw_g (lw_at lw_m6 134 rfl) rfl
theorem q1404 : (Jvm.Cond.lays "java/util/ArrayDeque$DeqIterator" "java/util/ArrayDeque$DeqIterator" "remaining" "I") ∈ lw_all := lw_g (lw_at lw_m6 135 rfl) rfl
theorem q1405 : (Jvm.Cond.soleField "java/util/ArrayDeque$DeqIterator" "remaining") ∈ lw_all := lw_g (lw_at lw_m6 136 rfl) rfl
theorem q1406 : (Jvm.Cond.lays "java/util/ArrayDeque$DeqIterator" "java/util/ArrayDeque$DeqIterator" "lastRet" "I") ∈ lw_all := lw_g (lw_at lw_m6 137 rfl) rfl
theorem q1407 : (Jvm.Cond.soleField "java/util/ArrayDeque$DeqIterator" "lastRet") ∈ lw_all := lw_g (lw_at lw_m6 138 rfl) rfl
theorem q1408 : (Jvm.Cond.laysFinal "java/util/ArrayDeque$DeqIterator" "java/util/ArrayDeque$DeqIterator" "this$0" "Ljava/util/ArrayDeque;") ∈ lw_all := lw_g (lw_at lw_m6 139 rfl) rfl
theorem q1409 : (Jvm.Cond.soleField "java/util/ArrayDeque$DeqIterator" "this$0") ∈ lw_all := lw_g (lw_at lw_m6 140 rfl) rfl
theorem q1410 : (Jvm.Cond.superclass "java/util/ArrayDeque$DeqIterator" "java/lang/Object") ∈ lw_all := lw_g (lw_at lw_m6 141 rfl) rfl
theorem q2081 : (Jvm.Cond.castable "java/util/ArrayDeque$DeqIterator" "java/lang/Object") ∈ lw_tbl := lw_at lw_m9 92 rfl
theorem in_J33 : ∀ w ∈ wsJ330, w ∈ lw_all := lw_in wsJ330 [1402, 1404, 1406, 1408] (by decide +kernel) (by decide +kernel)
/-! java/lang/ArrayIndexOutOfBoundsException -/
set_option maxRecDepth 100000
def RJ34 : String := "java/lang/ArrayIndexOutOfBoundsException"
def TJ34 : u_T := fun k => match k with
  | 0 => ("java/lang/Throwable", "backtrace", "Ljava/lang/Object;", false)
  | 1 => ("java/lang/Throwable", "detailMessage", "Ljava/lang/String;", false)
  | 2 => ("java/lang/Throwable", "cause", "Ljava/lang/Throwable;", false)
  | 3 => ("java/lang/Throwable", "stackTrace", "[Ljava/lang/StackTraceElement;", false)
  | 4 => ("java/lang/Throwable", "depth", "I", false)
  | _ => ("java/lang/Throwable", "suppressedExceptions", "Ljava/util/List;", false)
def tyJ34 : Nat → FieldType := fun k => match k with
  | 0 => .object "java/lang/Object"
  | 1 => .object "java/lang/String"
  | 2 => .object "java/lang/Throwable"
  | 3 => .array (.object "java/lang/StackTraceElement")
  | 4 => .int
  | _ => .object "java/util/List"
abbrev wsJ340 : List Cond := u_ws RJ34 TJ34 6
theorem nmJ34 : ∀ a, a < 6 → ∀ b, b < 6 → a ≠ b → (TJ34 a).2.1 ≠ (TJ34 b).2.1 := by decide +kernel
theorem tyJ34_ok : ∀ k, k < 6 → parseFieldDescriptor (TJ34 k).2.2.1 = some (tyJ34 k) := by decide +kernel
abbrev cJ34_init : ByteArray := prog_19_method_2_code
def yJ34_init : MethodName := ⟨RJ34, "<init>", "(Ljava/lang/String;)V"⟩
def dkwJ34_init_0 : List UInt8 := [42, 43, 183, 0, 7, 177]
abbrev dktJ34_init_0 : List UInt8 := dkwJ34_init_0 ++ []
theorem dksJ34_init_0 : cJ34_init.data.toList.drop 0 = dktJ34_init_0 := by decide +kernel
theorem dJ34_init_0 : decode cJ34_init 0 = .ok (.aload_n 0, 1) := dk_42 (dk_at dksJ34_init_0 0 rfl rfl)
theorem dJ34_init_1 : decode cJ34_init 1 = .ok (.aload_n 1, 1) := dk_43 (dk_at dksJ34_init_0 1 rfl rfl)
theorem dJ34_init_2 : decode cJ34_init 2 = .ok (.invokespecial 7, 3) := dk_183 0 7 (dk_at dksJ34_init_0 2 rfl rfl)
theorem dJ34_init_5 : decode cJ34_init 5 = .ok (.return_, 1) := dk_177 (dk_at dksJ34_init_0 5 rfl rfl)
theorem q114 : (Jvm.Cond.initialized "java/lang/ArrayIndexOutOfBoundsException") ∈ lw_all := lw_g (lw_at lw_m1 45 rfl) rfl
theorem q233 : (Jvm.Cond.selects "java/lang/ArrayIndexOutOfBoundsException" ({ cls := "java/lang/Object", name := "getClass", desc := "()Ljava/lang/Class;" } : Jvm.MethodName) ({ cls := "java/lang/Object", name := "getClass", desc := "()Ljava/lang/Class;" } : Jvm.MethodName)) ∈ lw_all := lw_g (lw_at lw_m1 164 rfl) rfl
theorem q481 : (Jvm.Cond.selects "java/lang/ArrayIndexOutOfBoundsException" ({ cls := "java/lang/Throwable", name := "fillInStackTrace", desc := "()Ljava/lang/Throwable;" } : Jvm.MethodName) ({ cls := "java/lang/Throwable", name := "fillInStackTrace", desc := "()Ljava/lang/Throwable;" } : Jvm.MethodName)) ∈ lw_all := lw_g (lw_at lw_m2 172 rfl) rfl
theorem q1061 : (Jvm.Cond.selects "java/lang/ArrayIndexOutOfBoundsException" ({ cls := "java/lang/Throwable", name := "toString", desc := "()Ljava/lang/String;" } : Jvm.MethodName) ({ cls := "java/lang/Throwable", name := "toString", desc := "()Ljava/lang/String;" } : Jvm.MethodName)) ∈ lw_all := lw_g (lw_at lw_m5 32 rfl) rfl
theorem q1074 : (Jvm.Cond.selects "java/lang/ArrayIndexOutOfBoundsException" ({ cls := "java/lang/Throwable", name := "getLocalizedMessage", desc := "()Ljava/lang/String;" } : Jvm.MethodName) ({ cls := "java/lang/Throwable", name := "getLocalizedMessage", desc := "()Ljava/lang/String;" } : Jvm.MethodName)) ∈ lw_all := lw_g (lw_at lw_m5 45 rfl) rfl
theorem q1086 : (Jvm.Cond.selects "java/lang/ArrayIndexOutOfBoundsException" ({ cls := "java/lang/Throwable", name := "getMessage", desc := "()Ljava/lang/String;" } : Jvm.MethodName) ({ cls := "java/lang/Throwable", name := "getMessage", desc := "()Ljava/lang/String;" } : Jvm.MethodName)) ∈ lw_all := lw_g (lw_at lw_m5 57 rfl) rfl
theorem q1438 : (Jvm.Cond.instantiable "java/lang/ArrayIndexOutOfBoundsException" (6 : Nat)) ∈ lw_all := lw_g (lw_at lw_m6 169 rfl) rfl
theorem q1439 : (Jvm.Cond.instanceMethod ({ cls := "java/lang/ArrayIndexOutOfBoundsException", name := "<init>", desc := "(Ljava/lang/String;)V" } : Jvm.MethodName)) ∈ lw_all := lw_g (lw_at lw_m6 170 rfl) rfl
theorem q1440 : (Jvm.Cond.code ({ cls := "java/lang/ArrayIndexOutOfBoundsException", name := "<init>", desc := "(Ljava/lang/String;)V" } : Jvm.MethodName) prog_19_method_2_code (2 : Nat) (Option.none : Option Jvm.ClassFile.FieldType)) ∈ lw_all := lw_g (lw_at lw_m6 171 rfl) rfl
theorem q1441 : (Jvm.Cond.methodLink "java/lang/ArrayIndexOutOfBoundsException" (7 : Nat) ({ cls := "java/lang/IndexOutOfBoundsException", name := "<init>", desc := "(Ljava/lang/String;)V" } : Jvm.MethodName)) ∈ lw_all := lw_g (lw_at lw_m6 172 rfl) rfl
theorem q1442 : (Jvm.Cond.lays "java/lang/ArrayIndexOutOfBoundsException" "java/lang/Throwable" "backtrace" "Ljava/lang/Object;") ∈ lw_all := lw_g (lw_at lw_m6 173 rfl) rfl
theorem q1443 : (Jvm.Cond.lays "java/lang/ArrayIndexOutOfBoundsException" "java/lang/Throwable" "detailMessage" "Ljava/lang/String;") ∈ lw_all := lw_g (lw_at lw_m6 174 rfl) rfl
theorem q1444 : (Jvm.Cond.lays "java/lang/ArrayIndexOutOfBoundsException" "java/lang/Throwable" "cause" "Ljava/lang/Throwable;") ∈ lw_all := lw_g (lw_at lw_m6 175 rfl) rfl
theorem q1445 : (Jvm.Cond.lays "java/lang/ArrayIndexOutOfBoundsException" "java/lang/Throwable" "stackTrace" "[Ljava/lang/StackTraceElement;") ∈ lw_all := lw_g (lw_at lw_m6 176 rfl) rfl
theorem q1446 : (Jvm.Cond.lays "java/lang/ArrayIndexOutOfBoundsException" "java/lang/Throwable" "depth" "I") ∈ lw_all := lw_g (lw_at lw_m6 177 rfl) rfl
theorem q1447 : (Jvm.Cond.lays "java/lang/ArrayIndexOutOfBoundsException" "java/lang/Throwable" "suppressedExceptions" "Ljava/util/List;") ∈ lw_all := lw_g (lw_at lw_m6 178 rfl) rfl
theorem q1448 : (Jvm.Cond.superclass "java/lang/ArrayIndexOutOfBoundsException" "java/lang/IndexOutOfBoundsException") ∈ lw_all := lw_g (lw_at lw_m6 179 rfl) rfl
theorem q1449 : (Jvm.Cond.castable "java/lang/ArrayIndexOutOfBoundsException" "java/lang/ArrayIndexOutOfBoundsException") ∈ lw_tbl := lw_at lw_m6 180 rfl
theorem q1452 : (Jvm.Cond.selects "java/lang/ArrayIndexOutOfBoundsException" ({ cls := "java/lang/Throwable", name := "fillInStackTrace", desc := "(I)Ljava/lang/Throwable;" } : Jvm.MethodName) ({ cls := "java/lang/Throwable", name := "fillInStackTrace", desc := "(I)Ljava/lang/Throwable;" } : Jvm.MethodName)) ∈ lw_all := lw_g (lw_at lw_m6 183 rfl) rfl
theorem q2058 : (Jvm.Cond.castable "java/lang/ArrayIndexOutOfBoundsException" "java/lang/IndexOutOfBoundsException") ∈ lw_tbl := lw_at lw_m9 69 rfl
theorem q2083 : (Jvm.Cond.castable "java/lang/ArrayIndexOutOfBoundsException" "java/lang/Object") ∈ lw_tbl := lw_at lw_m9 94 rfl
theorem in_J34 : ∀ w ∈ wsJ340, w ∈ lw_all := lw_in wsJ340 [1442, 1443, 1444, 1445, 1446, 1447] (by decide +kernel) (by decide +kernel)
/-! java/lang/Object -/
set_option maxRecDepth 100000
def RJ35 : String := "java/lang/Object"
abbrev cJ35_init : ByteArray := object_method_1_code
def yJ35_init : MethodName := ⟨RJ35, "<init>", "()V"⟩
theorem dJ35_init_0 : decode cJ35_init 0 = .ok (.return_, 1) := by decide +kernel
theorem q127 : (Jvm.Cond.instanceMethod ({ cls := "java/lang/Object", name := "<init>", desc := "()V" } : Jvm.MethodName)) ∈ lw_all := lw_g (lw_at lw_m1 58 rfl) rfl
theorem q128 : (Jvm.Cond.code ({ cls := "java/lang/Object", name := "<init>", desc := "()V" } : Jvm.MethodName) object_method_1_code (1 : Nat) (Option.none : Option Jvm.ClassFile.FieldType)) ∈ lw_all := lw_g (lw_at lw_m1 59 rfl) rfl
theorem q219 : (Jvm.Cond.instanceMethod ({ cls := "java/lang/Object", name := "getClass", desc := "()Ljava/lang/Class;" } : Jvm.MethodName)) ∈ lw_all := lw_g (lw_at lw_m1 150 rfl) rfl
theorem q220 : (Jvm.Cond.sameMethod "java/lang/Object" "java/lang/Object" "getClass" "()Ljava/lang/Class;") ∈ lw_all := lw_g (lw_at lw_m1 151 rfl) rfl
theorem q251 : (Jvm.Cond.native ({ cls := "java/lang/Object", name := "getClass", desc := "()Ljava/lang/Class;" } : Jvm.MethodName)) ∈ lw_all := lw_g (lw_at lw_m1 182 rfl) rfl
theorem q554 : (Jvm.Cond.native ({ cls := "java/lang/Object", name := "clone", desc := "()Ljava/lang/Object;" } : Jvm.MethodName)) ∈ lw_all := lw_g (lw_at lw_m3 5 rfl) rfl
theorem q555 : (Jvm.Cond.instanceMethod ({ cls := "java/lang/Object", name := "clone", desc := "()Ljava/lang/Object;" } : Jvm.MethodName)) ∈ lw_all := lw_g (lw_at lw_m3 6 rfl) rfl
theorem q2055 : (Jvm.Cond.initialized "java/lang/Object") ∈ lw_all := lw_g (lw_at lw_m9 66 rfl) rfl
theorem q2093 : (Jvm.Cond.declares ({ cls := "java/lang/Object", name := "getClass", desc := "()Ljava/lang/Class;" } : Jvm.MethodName)) ∈ lw_tbl := lw_at lw_m9 104 rfl
theorem q2109 : (Jvm.Cond.instantiable "java/lang/Object" (0 : Nat)) ∈ lw_all := lw_g (lw_at lw_m9 120 rfl) rfl
/-! java/lang/Math -/
set_option maxRecDepth 100000
def RJ4 : String := "java/lang/Math"
abbrev cJ4_max : ByteArray := prog_32_method_65_code
def yJ4_max : MethodName := ⟨RJ4, "max", "(II)I"⟩
def dkwJ4_max_0 : List UInt8 := [26, 27, 161, 0, 7, 26, 167, 0, 4, 27, 172]
abbrev dktJ4_max_0 : List UInt8 := dkwJ4_max_0 ++ []
theorem dksJ4_max_0 : cJ4_max.data.toList.drop 0 = dktJ4_max_0 := by decide +kernel
theorem dJ4_max_0 : decode cJ4_max 0 = .ok (.iload_n 0, 1) := dk_26 (dk_at dksJ4_max_0 0 rfl rfl)
theorem dJ4_max_1 : decode cJ4_max 1 = .ok (.iload_n 1, 1) := dk_27 (dk_at dksJ4_max_0 1 rfl rfl)
theorem dJ4_max_2 : decode cJ4_max 2 = .ok (.if_icmp .lt 7, 3) := dk_161 0 7 (dk_at dksJ4_max_0 2 rfl rfl)
theorem dJ4_max_5 : decode cJ4_max 5 = .ok (.iload_n 0, 1) := dk_26 (dk_at dksJ4_max_0 5 rfl rfl)
theorem dJ4_max_6 : decode cJ4_max 6 = .ok (.goto 4, 3) := dk_167 0 4 (dk_at dksJ4_max_0 6 rfl rfl)
theorem dJ4_max_9 : decode cJ4_max 9 = .ok (.iload_n 1, 1) := dk_27 (dk_at dksJ4_max_0 9 rfl rfl)
theorem dJ4_max_10 : decode cJ4_max 10 = .ok (.ireturn, 1) := dk_172 (dk_at dksJ4_max_0 10 rfl rfl)
abbrev cJ4_min : ByteArray := prog_32_method_69_code
def yJ4_min : MethodName := ⟨RJ4, "min", "(II)I"⟩
def dkwJ4_min_0 : List UInt8 := [26, 27, 163, 0, 7, 26, 167, 0, 4, 27, 172]
abbrev dktJ4_min_0 : List UInt8 := dkwJ4_min_0 ++ []
theorem dksJ4_min_0 : cJ4_min.data.toList.drop 0 = dktJ4_min_0 := by decide +kernel
theorem dJ4_min_0 : decode cJ4_min 0 = .ok (.iload_n 0, 1) := dk_26 (dk_at dksJ4_min_0 0 rfl rfl)
theorem dJ4_min_1 : decode cJ4_min 1 = .ok (.iload_n 1, 1) := dk_27 (dk_at dksJ4_min_0 1 rfl rfl)
theorem dJ4_min_2 : decode cJ4_min 2 = .ok (.if_icmp .gt 7, 3) := dk_163 0 7 (dk_at dksJ4_min_0 2 rfl rfl)
theorem dJ4_min_5 : decode cJ4_min 5 = .ok (.iload_n 0, 1) := dk_26 (dk_at dksJ4_min_0 5 rfl rfl)
theorem dJ4_min_6 : decode cJ4_min 6 = .ok (.goto 4, 3) := dk_167 0 4 (dk_at dksJ4_min_0 6 rfl rfl)
theorem dJ4_min_9 : decode cJ4_min 9 = .ok (.iload_n 1, 1) := dk_27 (dk_at dksJ4_min_0 9 rfl rfl)
theorem dJ4_min_10 : decode cJ4_min 10 = .ok (.ireturn, 1) := dk_172 (dk_at dksJ4_min_0 10 rfl rfl)
theorem q76 : (Jvm.Cond.initialized "java/lang/Math") ∈ lw_all := lw_g (lw_at lw_m1 7 rfl) rfl
theorem q209 : (Jvm.Cond.static ({ cls := "java/lang/Math", name := "max", desc := "(II)I" } : Jvm.MethodName)) ∈ lw_all := lw_g (lw_at lw_m1 140 rfl) rfl
theorem q210 : (Jvm.Cond.code ({ cls := "java/lang/Math", name := "max", desc := "(II)I" } : Jvm.MethodName) prog_32_method_65_code (2 : Nat) (Option.some Jvm.ClassFile.FieldType.int)) ∈ lw_all := lw_g (lw_at lw_m1 141 rfl) rfl
theorem q259 : (Jvm.Cond.static ({ cls := "java/lang/Math", name := "min", desc := "(II)I" } : Jvm.MethodName)) ∈ lw_all := lw_g (lw_at lw_m1 190 rfl) rfl
theorem q260 : (Jvm.Cond.code ({ cls := "java/lang/Math", name := "min", desc := "(II)I" } : Jvm.MethodName) prog_32_method_69_code (2 : Nat) (Option.some Jvm.ClassFile.FieldType.int)) ∈ lw_all := lw_g (lw_at lw_m1 191 rfl) rfl
/-! java/util/Arrays -/
set_option maxRecDepth 100000
def RJ5 : String := "java/util/Arrays"
abbrev cJ5_copyOf : ByteArray := prog_53_method_119_code
def yJ5_copyOf : MethodName := ⟨RJ5, "copyOf", "([Ljava/lang/Object;I)[Ljava/lang/Object;"⟩
def dkwJ5_copyOf_0 : List UInt8 := [42, 27, 42, 182, 0, 86, 184, 1, 44, 176]
abbrev dktJ5_copyOf_0 : List UInt8 := dkwJ5_copyOf_0 ++ []
theorem dksJ5_copyOf_0 : cJ5_copyOf.data.toList.drop 0 = dktJ5_copyOf_0 := by decide +kernel
theorem dJ5_copyOf_0 : decode cJ5_copyOf 0 = .ok (.aload_n 0, 1) := dk_42 (dk_at dksJ5_copyOf_0 0 rfl rfl)
theorem dJ5_copyOf_1 : decode cJ5_copyOf 1 = .ok (.iload_n 1, 1) := dk_27 (dk_at dksJ5_copyOf_0 1 rfl rfl)
theorem dJ5_copyOf_2 : decode cJ5_copyOf 2 = .ok (.aload_n 0, 1) := dk_42 (dk_at dksJ5_copyOf_0 2 rfl rfl)
theorem dJ5_copyOf_3 : decode cJ5_copyOf 3 = .ok (.invokevirtual 86, 3) := dk_182 0 86 (dk_at dksJ5_copyOf_0 3 rfl rfl)
theorem dJ5_copyOf_6 : decode cJ5_copyOf 6 = .ok (.invokestatic 300, 3) := dk_184 1 44 (dk_at dksJ5_copyOf_0 6 rfl rfl)
theorem dJ5_copyOf_9 : decode cJ5_copyOf 9 = .ok (.areturn, 1) := dk_176 (dk_at dksJ5_copyOf_0 9 rfl rfl)
abbrev cJ5_copyOf_2 : ByteArray := prog_53_method_120_code
def yJ5_copyOf_2 : MethodName := ⟨RJ5, "copyOf", "([Ljava/lang/Object;ILjava/lang/Class;)[Ljava/lang/Object;"⟩
def dkwJ5_copyOf_2_1 : List UInt8 := [78, 42, 3, 45, 3, 42, 190, 27, 184, 1, 48, 184, 0, 150, 45, 176]
abbrev dktJ5_copyOf_2_1 : List UInt8 := dkwJ5_copyOf_2_1 ++ []
def dkwJ5_copyOf_2_0 : List UInt8 := [44, 18, 110, 166, 0, 10, 27, 189, 0, 2, 167, 0, 14, 44, 182, 0, 90, 27, 184, 0, 95, 192, 0, 110]
abbrev dktJ5_copyOf_2_0 : List UInt8 := dkwJ5_copyOf_2_0 ++ dktJ5_copyOf_2_1
theorem dksJ5_copyOf_2_0 : cJ5_copyOf_2.data.toList.drop 0 = dktJ5_copyOf_2_0 := by decide +kernel
theorem dksJ5_copyOf_2_1 : cJ5_copyOf_2.data.toList.drop 24 = dktJ5_copyOf_2_1 := dk_seg dksJ5_copyOf_2_0 24 rfl rfl
theorem dJ5_copyOf_2_0 : decode cJ5_copyOf_2 0 = .ok (.aload_n 2, 1) := dk_44 (dk_at dksJ5_copyOf_2_0 0 rfl rfl)
theorem dJ5_copyOf_2_1 : decode cJ5_copyOf_2 1 = .ok (.ldc 110, 2) := dk_18 110 (dk_at dksJ5_copyOf_2_0 1 rfl rfl)
theorem dJ5_copyOf_2_3 : decode cJ5_copyOf_2 3 = .ok (.if_acmp .ne 10, 3) := dk_166 0 10 (dk_at dksJ5_copyOf_2_0 3 rfl rfl)
theorem dJ5_copyOf_2_6 : decode cJ5_copyOf_2 6 = .ok (.iload_n 1, 1) := dk_27 (dk_at dksJ5_copyOf_2_0 6 rfl rfl)
theorem dJ5_copyOf_2_7 : decode cJ5_copyOf_2 7 = .ok (.anewarray 2, 3) := dk_189 0 2 (dk_at dksJ5_copyOf_2_0 7 rfl rfl)
theorem dJ5_copyOf_2_10 : decode cJ5_copyOf_2 10 = .ok (.goto 14, 3) := dk_167 0 14 (dk_at dksJ5_copyOf_2_0 10 rfl rfl)
theorem dJ5_copyOf_2_13 : decode cJ5_copyOf_2 13 = .ok (.aload_n 2, 1) := dk_44 (dk_at dksJ5_copyOf_2_0 13 rfl rfl)
theorem dJ5_copyOf_2_14 : decode cJ5_copyOf_2 14 = .ok (.invokevirtual 90, 3) := dk_182 0 90 (dk_at dksJ5_copyOf_2_0 14 rfl rfl)
theorem dJ5_copyOf_2_17 : decode cJ5_copyOf_2 17 = .ok (.iload_n 1, 1) := dk_27 (dk_at dksJ5_copyOf_2_0 17 rfl rfl)
theorem dJ5_copyOf_2_18 : decode cJ5_copyOf_2 18 = .ok (.invokestatic 95, 3) := dk_184 0 95 (dk_at dksJ5_copyOf_2_0 18 rfl rfl)
theorem dJ5_copyOf_2_21 : decode cJ5_copyOf_2 21 = .ok (.checkcast 110, 3) := dk_192 0 110 (dk_at dksJ5_copyOf_2_0 21 rfl rfl)
theorem dJ5_copyOf_2_24 : decode cJ5_copyOf_2 24 = .ok (.astore_n 3, 1) := dk_78 (dk_at dksJ5_copyOf_2_1 0 rfl rfl)
theorem dJ5_copyOf_2_25 : decode cJ5_copyOf_2 25 = .ok (.aload_n 0, 1) := dk_42 (dk_at dksJ5_copyOf_2_1 1 rfl rfl)
theorem dJ5_copyOf_2_26 : decode cJ5_copyOf_2 26 = .ok (.iconst 0, 1) := dk_3 (dk_at dksJ5_copyOf_2_1 2 rfl rfl)
theorem dJ5_copyOf_2_27 : decode cJ5_copyOf_2 27 = .ok (.aload_n 3, 1) := dk_45 (dk_at dksJ5_copyOf_2_1 3 rfl rfl)
theorem dJ5_copyOf_2_28 : decode cJ5_copyOf_2 28 = .ok (.iconst 0, 1) := dk_3 (dk_at dksJ5_copyOf_2_1 4 rfl rfl)
theorem dJ5_copyOf_2_29 : decode cJ5_copyOf_2 29 = .ok (.aload_n 0, 1) := dk_42 (dk_at dksJ5_copyOf_2_1 5 rfl rfl)
theorem dJ5_copyOf_2_30 : decode cJ5_copyOf_2 30 = .ok (.arraylength, 1) := dk_190 (dk_at dksJ5_copyOf_2_1 6 rfl rfl)
theorem dJ5_copyOf_2_31 : decode cJ5_copyOf_2 31 = .ok (.iload_n 1, 1) := dk_27 (dk_at dksJ5_copyOf_2_1 7 rfl rfl)
theorem dJ5_copyOf_2_32 : decode cJ5_copyOf_2 32 = .ok (.invokestatic 304, 3) := dk_184 1 48 (dk_at dksJ5_copyOf_2_1 8 rfl rfl)
theorem dJ5_copyOf_2_35 : decode cJ5_copyOf_2 35 = .ok (.invokestatic 150, 3) := dk_184 0 150 (dk_at dksJ5_copyOf_2_1 11 rfl rfl)
theorem dJ5_copyOf_2_38 : decode cJ5_copyOf_2 38 = .ok (.aload_n 3, 1) := dk_45 (dk_at dksJ5_copyOf_2_1 14 rfl rfl)
theorem dJ5_copyOf_2_39 : decode cJ5_copyOf_2 39 = .ok (.areturn, 1) := dk_176 (dk_at dksJ5_copyOf_2_1 15 rfl rfl)
abbrev cJ5_copyOf_3 : ByteArray := prog_53_method_121_code
def yJ5_copyOf_3 : MethodName := ⟨RJ5, "copyOf", "([BI)[B"⟩
def dkwJ5_copyOf_3_1 : List UInt8 := [27, 184, 1, 48, 184, 0, 150, 44, 176]
abbrev dktJ5_copyOf_3_1 : List UInt8 := dkwJ5_copyOf_3_1 ++ []
def dkwJ5_copyOf_3_0 : List UInt8 := [27, 42, 190, 160, 0, 11, 42, 182, 1, 54, 192, 1, 55, 176, 27, 188, 8, 77, 42, 3, 44, 3, 42, 190]
abbrev dktJ5_copyOf_3_0 : List UInt8 := dkwJ5_copyOf_3_0 ++ dktJ5_copyOf_3_1
theorem dksJ5_copyOf_3_0 : cJ5_copyOf_3.data.toList.drop 0 = dktJ5_copyOf_3_0 := by decide +kernel
theorem dksJ5_copyOf_3_1 : cJ5_copyOf_3.data.toList.drop 24 = dktJ5_copyOf_3_1 := dk_seg dksJ5_copyOf_3_0 24 rfl rfl
theorem dJ5_copyOf_3_0 : decode cJ5_copyOf_3 0 = .ok (.iload_n 1, 1) := dk_27 (dk_at dksJ5_copyOf_3_0 0 rfl rfl)
theorem dJ5_copyOf_3_1 : decode cJ5_copyOf_3 1 = .ok (.aload_n 0, 1) := dk_42 (dk_at dksJ5_copyOf_3_0 1 rfl rfl)
theorem dJ5_copyOf_3_2 : decode cJ5_copyOf_3 2 = .ok (.arraylength, 1) := dk_190 (dk_at dksJ5_copyOf_3_0 2 rfl rfl)
theorem dJ5_copyOf_3_3 : decode cJ5_copyOf_3 3 = .ok (.if_icmp .ne 11, 3) := dk_160 0 11 (dk_at dksJ5_copyOf_3_0 3 rfl rfl)
theorem dJ5_copyOf_3_6 : decode cJ5_copyOf_3 6 = .ok (.aload_n 0, 1) := dk_42 (dk_at dksJ5_copyOf_3_0 6 rfl rfl)
theorem dJ5_copyOf_3_7 : decode cJ5_copyOf_3 7 = .ok (.invokevirtual 310, 3) := dk_182 1 54 (dk_at dksJ5_copyOf_3_0 7 rfl rfl)
theorem dJ5_copyOf_3_10 : decode cJ5_copyOf_3 10 = .ok (.checkcast 311, 3) := dk_192 1 55 (dk_at dksJ5_copyOf_3_0 10 rfl rfl)
theorem dJ5_copyOf_3_13 : decode cJ5_copyOf_3 13 = .ok (.areturn, 1) := dk_176 (dk_at dksJ5_copyOf_3_0 13 rfl rfl)
theorem dJ5_copyOf_3_14 : decode cJ5_copyOf_3 14 = .ok (.iload_n 1, 1) := dk_27 (dk_at dksJ5_copyOf_3_0 14 rfl rfl)
theorem dJ5_copyOf_3_15 : decode cJ5_copyOf_3 15 = .ok (.newarray .byte, 2) := dk_188_8 (dk_at dksJ5_copyOf_3_0 15 rfl rfl)
theorem dJ5_copyOf_3_17 : decode cJ5_copyOf_3 17 = .ok (.astore_n 2, 1) := dk_77 (dk_at dksJ5_copyOf_3_0 17 rfl rfl)
theorem dJ5_copyOf_3_18 : decode cJ5_copyOf_3 18 = .ok (.aload_n 0, 1) := dk_42 (dk_at dksJ5_copyOf_3_0 18 rfl rfl)
theorem dJ5_copyOf_3_19 : decode cJ5_copyOf_3 19 = .ok (.iconst 0, 1) := dk_3 (dk_at dksJ5_copyOf_3_0 19 rfl rfl)
theorem dJ5_copyOf_3_20 : decode cJ5_copyOf_3 20 = .ok (.aload_n 2, 1) := dk_44 (dk_at dksJ5_copyOf_3_0 20 rfl rfl)
theorem dJ5_copyOf_3_21 : decode cJ5_copyOf_3 21 = .ok (.iconst 0, 1) := dk_3 (dk_at dksJ5_copyOf_3_0 21 rfl rfl)
theorem dJ5_copyOf_3_22 : decode cJ5_copyOf_3 22 = .ok (.aload_n 0, 1) := dk_42 (dk_at dksJ5_copyOf_3_0 22 rfl rfl)
theorem dJ5_copyOf_3_23 : decode cJ5_copyOf_3 23 = .ok (.arraylength, 1) := dk_190 (dk_at dksJ5_copyOf_3_0 23 rfl rfl)
theorem dJ5_copyOf_3_24 : decode cJ5_copyOf_3 24 = .ok (.iload_n 1, 1) := dk_27 (dk_at dksJ5_copyOf_3_1 0 rfl rfl)
theorem dJ5_copyOf_3_25 : decode cJ5_copyOf_3 25 = .ok (.invokestatic 304, 3) := dk_184 1 48 (dk_at dksJ5_copyOf_3_1 1 rfl rfl)
theorem dJ5_copyOf_3_28 : decode cJ5_copyOf_3 28 = .ok (.invokestatic 150, 3) := dk_184 0 150 (dk_at dksJ5_copyOf_3_1 4 rfl rfl)
theorem dJ5_copyOf_3_31 : decode cJ5_copyOf_3 31 = .ok (.aload_n 2, 1) := dk_44 (dk_at dksJ5_copyOf_3_1 7 rfl rfl)
theorem dJ5_copyOf_3_32 : decode cJ5_copyOf_3 32 = .ok (.areturn, 1) := dk_176 (dk_at dksJ5_copyOf_3_1 8 rfl rfl)
abbrev cJ5_copyOfRange : ByteArray := prog_53_method_132_code
def yJ5_copyOfRange : MethodName := ⟨RJ5, "copyOfRange", "([BII)[B"⟩
def dkwJ5_copyOfRange_1 : List UInt8 := [176]
abbrev dktJ5_copyOfRange_1 : List UInt8 := dkwJ5_copyOfRange_1 ++ []
def dkwJ5_copyOfRange_0 : List UInt8 := [27, 154, 0, 9, 28, 42, 190, 159, 0, 10, 42, 27, 28, 184, 1, 83, 176, 42, 182, 1, 54, 192, 1, 55]
abbrev dktJ5_copyOfRange_0 : List UInt8 := dkwJ5_copyOfRange_0 ++ dktJ5_copyOfRange_1
theorem dksJ5_copyOfRange_0 : cJ5_copyOfRange.data.toList.drop 0 = dktJ5_copyOfRange_0 := by decide +kernel
theorem dksJ5_copyOfRange_1 : cJ5_copyOfRange.data.toList.drop 24 = dktJ5_copyOfRange_1 := dk_seg dksJ5_copyOfRange_0 24 rfl rfl
theorem dJ5_copyOfRange_0 : decode cJ5_copyOfRange 0 = .ok (.iload_n 1, 1) := dk_27 (dk_at dksJ5_copyOfRange_0 0 rfl rfl)
theorem dJ5_copyOfRange_1 : decode cJ5_copyOfRange 1 = .ok (.ifCond .ne 9, 3) := dk_154 0 9 (dk_at dksJ5_copyOfRange_0 1 rfl rfl)
theorem dJ5_copyOfRange_4 : decode cJ5_copyOfRange 4 = .ok (.iload_n 2, 1) := dk_28 (dk_at dksJ5_copyOfRange_0 4 rfl rfl)
theorem dJ5_copyOfRange_5 : decode cJ5_copyOfRange 5 = .ok (.aload_n 0, 1) := dk_42 (dk_at dksJ5_copyOfRange_0 5 rfl rfl)
theorem dJ5_copyOfRange_6 : decode cJ5_copyOfRange 6 = .ok (.arraylength, 1) := dk_190 (dk_at dksJ5_copyOfRange_0 6 rfl rfl)
theorem dJ5_copyOfRange_7 : decode cJ5_copyOfRange 7 = .ok (.if_icmp .eq 10, 3) := dk_159 0 10 (dk_at dksJ5_copyOfRange_0 7 rfl rfl)
theorem dJ5_copyOfRange_10 : decode cJ5_copyOfRange 10 = .ok (.aload_n 0, 1) := dk_42 (dk_at dksJ5_copyOfRange_0 10 rfl rfl)
theorem dJ5_copyOfRange_11 : decode cJ5_copyOfRange 11 = .ok (.iload_n 1, 1) := dk_27 (dk_at dksJ5_copyOfRange_0 11 rfl rfl)
theorem dJ5_copyOfRange_12 : decode cJ5_copyOfRange 12 = .ok (.iload_n 2, 1) := dk_28 (dk_at dksJ5_copyOfRange_0 12 rfl rfl)
theorem dJ5_copyOfRange_13 : decode cJ5_copyOfRange 13 = .ok (.invokestatic 339, 3) := dk_184 1 83 (dk_at dksJ5_copyOfRange_0 13 rfl rfl)
theorem dJ5_copyOfRange_16 : decode cJ5_copyOfRange 16 = .ok (.areturn, 1) := dk_176 (dk_at dksJ5_copyOfRange_0 16 rfl rfl)
theorem dJ5_copyOfRange_17 : decode cJ5_copyOfRange 17 = .ok (.aload_n 0, 1) := dk_42 (dk_at dksJ5_copyOfRange_0 17 rfl rfl)
theorem dJ5_copyOfRange_18 : decode cJ5_copyOfRange 18 = .ok (.invokevirtual 310, 3) := dk_182 1 54 (dk_at dksJ5_copyOfRange_0 18 rfl rfl)
theorem dJ5_copyOfRange_21 : decode cJ5_copyOfRange 21 = .ok (.checkcast 311, 3) := dk_192 1 55 (dk_at dksJ5_copyOfRange_0 21 rfl rfl)
theorem dJ5_copyOfRange_24 : decode cJ5_copyOfRange 24 = .ok (.areturn, 1) := dk_176 (dk_at dksJ5_copyOfRange_1 0 rfl rfl)
abbrev cJ5_copyOfRangeByte : ByteArray := prog_53_method_133_code
def yJ5_copyOfRangeByte : MethodName := ⟨RJ5, "copyOfRangeByte", "([BII)[B"⟩
def dkwJ5_copyOfRangeByte_1 : List UInt8 := [184, 1, 48, 184, 0, 150, 25, 4, 176]
abbrev dktJ5_copyOfRangeByte_1 : List UInt8 := dkwJ5_copyOfRangeByte_1 ++ []
def dkwJ5_copyOfRangeByte_0 : List UInt8 := [27, 28, 184, 1, 87, 28, 27, 100, 62, 29, 188, 8, 58, 4, 42, 27, 25, 4, 3, 42, 190, 27, 100, 29]
abbrev dktJ5_copyOfRangeByte_0 : List UInt8 := dkwJ5_copyOfRangeByte_0 ++ dktJ5_copyOfRangeByte_1
theorem dksJ5_copyOfRangeByte_0 : cJ5_copyOfRangeByte.data.toList.drop 0 = dktJ5_copyOfRangeByte_0 := by decide +kernel
theorem dksJ5_copyOfRangeByte_1 : cJ5_copyOfRangeByte.data.toList.drop 24 = dktJ5_copyOfRangeByte_1 := dk_seg dksJ5_copyOfRangeByte_0 24 rfl rfl
theorem dJ5_copyOfRangeByte_0 : decode cJ5_copyOfRangeByte 0 = .ok (.iload_n 1, 1) := dk_27 (dk_at dksJ5_copyOfRangeByte_0 0 rfl rfl)
theorem dJ5_copyOfRangeByte_1 : decode cJ5_copyOfRangeByte 1 = .ok (.iload_n 2, 1) := dk_28 (dk_at dksJ5_copyOfRangeByte_0 1 rfl rfl)
theorem dJ5_copyOfRangeByte_2 : decode cJ5_copyOfRangeByte 2 = .ok (.invokestatic 343, 3) := dk_184 1 87 (dk_at dksJ5_copyOfRangeByte_0 2 rfl rfl)
theorem dJ5_copyOfRangeByte_5 : decode cJ5_copyOfRangeByte 5 = .ok (.iload_n 2, 1) := dk_28 (dk_at dksJ5_copyOfRangeByte_0 5 rfl rfl)
theorem dJ5_copyOfRangeByte_6 : decode cJ5_copyOfRangeByte 6 = .ok (.iload_n 1, 1) := dk_27 (dk_at dksJ5_copyOfRangeByte_0 6 rfl rfl)
theorem dJ5_copyOfRangeByte_7 : decode cJ5_copyOfRangeByte 7 = .ok (.isub, 1) := dk_100 (dk_at dksJ5_copyOfRangeByte_0 7 rfl rfl)
theorem dJ5_copyOfRangeByte_8 : decode cJ5_copyOfRangeByte 8 = .ok (.istore_n 3, 1) := dk_62 (dk_at dksJ5_copyOfRangeByte_0 8 rfl rfl)
theorem dJ5_copyOfRangeByte_9 : decode cJ5_copyOfRangeByte 9 = .ok (.iload_n 3, 1) := dk_29 (dk_at dksJ5_copyOfRangeByte_0 9 rfl rfl)
theorem dJ5_copyOfRangeByte_10 : decode cJ5_copyOfRangeByte 10 = .ok (.newarray .byte, 2) := dk_188_8 (dk_at dksJ5_copyOfRangeByte_0 10 rfl rfl)
theorem dJ5_copyOfRangeByte_12 : decode cJ5_copyOfRangeByte 12 = .ok (.astore 4, 2) := dk_58 4 (dk_at dksJ5_copyOfRangeByte_0 12 rfl rfl)
theorem dJ5_copyOfRangeByte_14 : decode cJ5_copyOfRangeByte 14 = .ok (.aload_n 0, 1) := dk_42 (dk_at dksJ5_copyOfRangeByte_0 14 rfl rfl)
theorem dJ5_copyOfRangeByte_15 : decode cJ5_copyOfRangeByte 15 = .ok (.iload_n 1, 1) := dk_27 (dk_at dksJ5_copyOfRangeByte_0 15 rfl rfl)
theorem dJ5_copyOfRangeByte_16 : decode cJ5_copyOfRangeByte 16 = .ok (.aload 4, 2) := dk_25 4 (dk_at dksJ5_copyOfRangeByte_0 16 rfl rfl)
theorem dJ5_copyOfRangeByte_18 : decode cJ5_copyOfRangeByte 18 = .ok (.iconst 0, 1) := dk_3 (dk_at dksJ5_copyOfRangeByte_0 18 rfl rfl)
theorem dJ5_copyOfRangeByte_19 : decode cJ5_copyOfRangeByte 19 = .ok (.aload_n 0, 1) := dk_42 (dk_at dksJ5_copyOfRangeByte_0 19 rfl rfl)
theorem dJ5_copyOfRangeByte_20 : decode cJ5_copyOfRangeByte 20 = .ok (.arraylength, 1) := dk_190 (dk_at dksJ5_copyOfRangeByte_0 20 rfl rfl)
theorem dJ5_copyOfRangeByte_21 : decode cJ5_copyOfRangeByte 21 = .ok (.iload_n 1, 1) := dk_27 (dk_at dksJ5_copyOfRangeByte_0 21 rfl rfl)
theorem dJ5_copyOfRangeByte_22 : decode cJ5_copyOfRangeByte 22 = .ok (.isub, 1) := dk_100 (dk_at dksJ5_copyOfRangeByte_0 22 rfl rfl)
theorem dJ5_copyOfRangeByte_23 : decode cJ5_copyOfRangeByte 23 = .ok (.iload_n 3, 1) := dk_29 (dk_at dksJ5_copyOfRangeByte_0 23 rfl rfl)
theorem dJ5_copyOfRangeByte_24 : decode cJ5_copyOfRangeByte 24 = .ok (.invokestatic 304, 3) := dk_184 1 48 (dk_at dksJ5_copyOfRangeByte_1 0 rfl rfl)
theorem dJ5_copyOfRangeByte_27 : decode cJ5_copyOfRangeByte 27 = .ok (.invokestatic 150, 3) := dk_184 0 150 (dk_at dksJ5_copyOfRangeByte_1 3 rfl rfl)
theorem dJ5_copyOfRangeByte_30 : decode cJ5_copyOfRangeByte 30 = .ok (.aload 4, 2) := dk_25 4 (dk_at dksJ5_copyOfRangeByte_1 6 rfl rfl)
theorem dJ5_copyOfRangeByte_32 : decode cJ5_copyOfRangeByte 32 = .ok (.areturn, 1) := dk_176 (dk_at dksJ5_copyOfRangeByte_1 8 rfl rfl)
abbrev cJ5_checkLength : ByteArray := prog_53_method_131_code
def yJ5_checkLength : MethodName := ⟨RJ5, "checkLength", "(II)V"⟩
def dkwJ5_checkLength_1 : List UInt8 := [182, 0, 50, 27, 182, 0, 54, 182, 0, 61, 183, 0, 65, 191, 177]
abbrev dktJ5_checkLength_1 : List UInt8 := dkwJ5_checkLength_1 ++ []
def dkwJ5_checkLength_0 : List UInt8 := [27, 26, 162, 0, 35, 187, 0, 43, 89, 187, 0, 45, 89, 183, 0, 47, 26, 182, 0, 54, 19, 1, 81]
abbrev dktJ5_checkLength_0 : List UInt8 := dkwJ5_checkLength_0 ++ dktJ5_checkLength_1
theorem dksJ5_checkLength_0 : cJ5_checkLength.data.toList.drop 0 = dktJ5_checkLength_0 := by decide +kernel
theorem dksJ5_checkLength_1 : cJ5_checkLength.data.toList.drop 23 = dktJ5_checkLength_1 := dk_seg dksJ5_checkLength_0 23 rfl rfl
theorem dJ5_checkLength_0 : decode cJ5_checkLength 0 = .ok (.iload_n 1, 1) := dk_27 (dk_at dksJ5_checkLength_0 0 rfl rfl)
theorem dJ5_checkLength_1 : decode cJ5_checkLength 1 = .ok (.iload_n 0, 1) := dk_26 (dk_at dksJ5_checkLength_0 1 rfl rfl)
theorem dJ5_checkLength_2 : decode cJ5_checkLength 2 = .ok (.if_icmp .ge 35, 3) := dk_162 0 35 (dk_at dksJ5_checkLength_0 2 rfl rfl)
theorem dJ5_checkLength_5 : decode cJ5_checkLength 5 = .ok (.new 43, 3) := dk_187 0 43 (dk_at dksJ5_checkLength_0 5 rfl rfl)
theorem dJ5_checkLength_8 : decode cJ5_checkLength 8 = .ok (.dup, 1) := dk_89 (dk_at dksJ5_checkLength_0 8 rfl rfl)
theorem dJ5_checkLength_9 : decode cJ5_checkLength 9 = .ok (.new 45, 3) := dk_187 0 45 (dk_at dksJ5_checkLength_0 9 rfl rfl)
theorem dJ5_checkLength_12 : decode cJ5_checkLength 12 = .ok (.dup, 1) := dk_89 (dk_at dksJ5_checkLength_0 12 rfl rfl)
theorem dJ5_checkLength_13 : decode cJ5_checkLength 13 = .ok (.invokespecial 47, 3) := dk_183 0 47 (dk_at dksJ5_checkLength_0 13 rfl rfl)
theorem dJ5_checkLength_16 : decode cJ5_checkLength 16 = .ok (.iload_n 0, 1) := dk_26 (dk_at dksJ5_checkLength_0 16 rfl rfl)
theorem dJ5_checkLength_17 : decode cJ5_checkLength 17 = .ok (.invokevirtual 54, 3) := dk_182 0 54 (dk_at dksJ5_checkLength_0 17 rfl rfl)
theorem dJ5_checkLength_20 : decode cJ5_checkLength 20 = .ok (.ldc_w 337, 3) := dk_19 1 81 (dk_at dksJ5_checkLength_0 20 rfl rfl)
theorem dJ5_checkLength_23 : decode cJ5_checkLength 23 = .ok (.invokevirtual 50, 3) := dk_182 0 50 (dk_at dksJ5_checkLength_1 0 rfl rfl)
theorem dJ5_checkLength_26 : decode cJ5_checkLength 26 = .ok (.iload_n 1, 1) := dk_27 (dk_at dksJ5_checkLength_1 3 rfl rfl)
theorem dJ5_checkLength_27 : decode cJ5_checkLength 27 = .ok (.invokevirtual 54, 3) := dk_182 0 54 (dk_at dksJ5_checkLength_1 4 rfl rfl)
theorem dJ5_checkLength_30 : decode cJ5_checkLength 30 = .ok (.invokevirtual 61, 3) := dk_182 0 61 (dk_at dksJ5_checkLength_1 7 rfl rfl)
theorem dJ5_checkLength_33 : decode cJ5_checkLength 33 = .ok (.invokespecial 65, 3) := dk_183 0 65 (dk_at dksJ5_checkLength_1 10 rfl rfl)
theorem dJ5_checkLength_36 : decode cJ5_checkLength 36 = .ok (.athrow, 1) := dk_191 (dk_at dksJ5_checkLength_1 13 rfl rfl)
theorem dJ5_checkLength_37 : decode cJ5_checkLength 37 = .ok (.return_, 1) := dk_177 (dk_at dksJ5_checkLength_1 14 rfl rfl)
abbrev cJ5_copyOf_4 : ByteArray := prog_53_method_124_code
def yJ5_copyOf_4 : MethodName := ⟨RJ5, "copyOf", "([JI)[J"⟩
def dkwJ5_copyOf_4_1 : List UInt8 := [27, 184, 1, 48, 184, 0, 150, 44, 176]
abbrev dktJ5_copyOf_4_1 : List UInt8 := dkwJ5_copyOf_4_1 ++ []
def dkwJ5_copyOf_4_0 : List UInt8 := [27, 42, 190, 160, 0, 11, 42, 182, 1, 63, 192, 1, 64, 176, 27, 188, 11, 77, 42, 3, 44, 3, 42, 190]
abbrev dktJ5_copyOf_4_0 : List UInt8 := dkwJ5_copyOf_4_0 ++ dktJ5_copyOf_4_1
theorem dksJ5_copyOf_4_0 : cJ5_copyOf_4.data.toList.drop 0 = dktJ5_copyOf_4_0 := by decide +kernel
theorem dksJ5_copyOf_4_1 : cJ5_copyOf_4.data.toList.drop 24 = dktJ5_copyOf_4_1 := dk_seg dksJ5_copyOf_4_0 24 rfl rfl
theorem dJ5_copyOf_4_0 : decode cJ5_copyOf_4 0 = .ok (.iload_n 1, 1) := dk_27 (dk_at dksJ5_copyOf_4_0 0 rfl rfl)
theorem dJ5_copyOf_4_1 : decode cJ5_copyOf_4 1 = .ok (.aload_n 0, 1) := dk_42 (dk_at dksJ5_copyOf_4_0 1 rfl rfl)
theorem dJ5_copyOf_4_2 : decode cJ5_copyOf_4 2 = .ok (.arraylength, 1) := dk_190 (dk_at dksJ5_copyOf_4_0 2 rfl rfl)
theorem dJ5_copyOf_4_3 : decode cJ5_copyOf_4 3 = .ok (.if_icmp .ne 11, 3) := dk_160 0 11 (dk_at dksJ5_copyOf_4_0 3 rfl rfl)
theorem dJ5_copyOf_4_6 : decode cJ5_copyOf_4 6 = .ok (.aload_n 0, 1) := dk_42 (dk_at dksJ5_copyOf_4_0 6 rfl rfl)
theorem dJ5_copyOf_4_7 : decode cJ5_copyOf_4 7 = .ok (.invokevirtual 319, 3) := dk_182 1 63 (dk_at dksJ5_copyOf_4_0 7 rfl rfl)
theorem dJ5_copyOf_4_10 : decode cJ5_copyOf_4 10 = .ok (.checkcast 320, 3) := dk_192 1 64 (dk_at dksJ5_copyOf_4_0 10 rfl rfl)
theorem dJ5_copyOf_4_13 : decode cJ5_copyOf_4 13 = .ok (.areturn, 1) := dk_176 (dk_at dksJ5_copyOf_4_0 13 rfl rfl)
theorem dJ5_copyOf_4_14 : decode cJ5_copyOf_4 14 = .ok (.iload_n 1, 1) := dk_27 (dk_at dksJ5_copyOf_4_0 14 rfl rfl)
theorem dJ5_copyOf_4_15 : decode cJ5_copyOf_4 15 = .ok (.newarray .long, 2) := dk_188_11 (dk_at dksJ5_copyOf_4_0 15 rfl rfl)
theorem dJ5_copyOf_4_17 : decode cJ5_copyOf_4 17 = .ok (.astore_n 2, 1) := dk_77 (dk_at dksJ5_copyOf_4_0 17 rfl rfl)
theorem dJ5_copyOf_4_18 : decode cJ5_copyOf_4 18 = .ok (.aload_n 0, 1) := dk_42 (dk_at dksJ5_copyOf_4_0 18 rfl rfl)
theorem dJ5_copyOf_4_19 : decode cJ5_copyOf_4 19 = .ok (.iconst 0, 1) := dk_3 (dk_at dksJ5_copyOf_4_0 19 rfl rfl)
theorem dJ5_copyOf_4_20 : decode cJ5_copyOf_4 20 = .ok (.aload_n 2, 1) := dk_44 (dk_at dksJ5_copyOf_4_0 20 rfl rfl)
theorem dJ5_copyOf_4_21 : decode cJ5_copyOf_4 21 = .ok (.iconst 0, 1) := dk_3 (dk_at dksJ5_copyOf_4_0 21 rfl rfl)
theorem dJ5_copyOf_4_22 : decode cJ5_copyOf_4 22 = .ok (.aload_n 0, 1) := dk_42 (dk_at dksJ5_copyOf_4_0 22 rfl rfl)
theorem dJ5_copyOf_4_23 : decode cJ5_copyOf_4 23 = .ok (.arraylength, 1) := dk_190 (dk_at dksJ5_copyOf_4_0 23 rfl rfl)
theorem dJ5_copyOf_4_24 : decode cJ5_copyOf_4 24 = .ok (.iload_n 1, 1) := dk_27 (dk_at dksJ5_copyOf_4_1 0 rfl rfl)
theorem dJ5_copyOf_4_25 : decode cJ5_copyOf_4 25 = .ok (.invokestatic 304, 3) := dk_184 1 48 (dk_at dksJ5_copyOf_4_1 1 rfl rfl)
theorem dJ5_copyOf_4_28 : decode cJ5_copyOf_4 28 = .ok (.invokestatic 150, 3) := dk_184 0 150 (dk_at dksJ5_copyOf_4_1 4 rfl rfl)
theorem dJ5_copyOf_4_31 : decode cJ5_copyOf_4 31 = .ok (.aload_n 2, 1) := dk_44 (dk_at dksJ5_copyOf_4_1 7 rfl rfl)
theorem dJ5_copyOf_4_32 : decode cJ5_copyOf_4 32 = .ok (.areturn, 1) := dk_176 (dk_at dksJ5_copyOf_4_1 8 rfl rfl)
theorem q77 : (Jvm.Cond.initialized "java/util/Arrays") ∈ lw_all := lw_g (lw_at lw_m1 8 rfl) rfl
theorem q216 : (Jvm.Cond.static ({ cls := "java/util/Arrays", name := "copyOf", desc := "([Ljava/lang/Object;I)[Ljava/lang/Object;" } : Jvm.MethodName)) ∈ lw_all := lw_g (lw_at lw_m1 147 rfl) rfl
theorem q217 : (Jvm.Cond.code ({ cls := "java/util/Arrays", name := "copyOf", desc := "([Ljava/lang/Object;I)[Ljava/lang/Object;" } : Jvm.MethodName) prog_53_method_119_code (2 : Nat) (Option.some (Jvm.ClassFile.FieldType.array (Jvm.ClassFile.FieldType.object "java/lang/Object")))) ∈ lw_all := lw_g (lw_at lw_m1 148 rfl) rfl
theorem q218 : (Jvm.Cond.methodLink "java/util/Arrays" (86 : Nat) ({ cls := "java/lang/Object", name := "getClass", desc := "()Ljava/lang/Class;" } : Jvm.MethodName)) ∈ lw_all := lw_g (lw_at lw_m1 149 rfl) rfl
theorem q252 : (Jvm.Cond.methodLink "java/util/Arrays" (300 : Nat) ({ cls := "java/util/Arrays", name := "copyOf", desc := "([Ljava/lang/Object;ILjava/lang/Class;)[Ljava/lang/Object;" } : Jvm.MethodName)) ∈ lw_all := lw_g (lw_at lw_m1 183 rfl) rfl
theorem q253 : (Jvm.Cond.static ({ cls := "java/util/Arrays", name := "copyOf", desc := "([Ljava/lang/Object;ILjava/lang/Class;)[Ljava/lang/Object;" } : Jvm.MethodName)) ∈ lw_all := lw_g (lw_at lw_m1 184 rfl) rfl
theorem q254 : (Jvm.Cond.code ({ cls := "java/util/Arrays", name := "copyOf", desc := "([Ljava/lang/Object;ILjava/lang/Class;)[Ljava/lang/Object;" } : Jvm.MethodName) prog_53_method_120_code (4 : Nat) (Option.some (Jvm.ClassFile.FieldType.array (Jvm.ClassFile.FieldType.object "java/lang/Object")))) ∈ lw_all := lw_g (lw_at lw_m1 185 rfl) rfl
theorem q255 : (Jvm.Cond.classLink "java/util/Arrays" (110 : Nat) "[Ljava/lang/Object;") ∈ lw_all := lw_g (lw_at lw_m1 186 rfl) rfl
theorem q257 : (Jvm.Cond.classLink "java/util/Arrays" (2 : Nat) "java/lang/Object") ∈ lw_all := lw_g (lw_at lw_m1 188 rfl) rfl
theorem q258 : (Jvm.Cond.methodLink "java/util/Arrays" (304 : Nat) ({ cls := "java/lang/Math", name := "min", desc := "(II)I" } : Jvm.MethodName)) ∈ lw_all := lw_g (lw_at lw_m1 189 rfl) rfl
theorem q261 : (Jvm.Cond.methodLink "java/util/Arrays" (150 : Nat) ({ cls := "java/lang/System", name := "arraycopy", desc := "(Ljava/lang/Object;ILjava/lang/Object;II)V" } : Jvm.MethodName)) ∈ lw_all := lw_g (lw_at lw_m1 192 rfl) rfl
theorem q550 : (Jvm.Cond.static ({ cls := "java/util/Arrays", name := "copyOf", desc := "([BI)[B" } : Jvm.MethodName)) ∈ lw_all := lw_g (lw_at lw_m3 1 rfl) rfl
theorem q551 : (Jvm.Cond.code ({ cls := "java/util/Arrays", name := "copyOf", desc := "([BI)[B" } : Jvm.MethodName) prog_53_method_121_code (3 : Nat) (Option.some (Jvm.ClassFile.FieldType.array Jvm.ClassFile.FieldType.byte))) ∈ lw_all := lw_g (lw_at lw_m3 2 rfl) rfl
theorem q552 : (Jvm.Cond.methodLink "java/util/Arrays" (310 : Nat) ({ cls := "[B", name := "clone", desc := "()Ljava/lang/Object;" } : Jvm.MethodName)) ∈ lw_all := lw_g (lw_at lw_m3 3 rfl) rfl
theorem q558 : (Jvm.Cond.classLink "java/util/Arrays" (311 : Nat) "[B") ∈ lw_all := lw_g (lw_at lw_m3 9 rfl) rfl
theorem q687 : (Jvm.Cond.static ({ cls := "java/util/Arrays", name := "copyOfRange", desc := "([BII)[B" } : Jvm.MethodName)) ∈ lw_all := lw_g (lw_at lw_m3 138 rfl) rfl
theorem q688 : (Jvm.Cond.code ({ cls := "java/util/Arrays", name := "copyOfRange", desc := "([BII)[B" } : Jvm.MethodName) prog_53_method_132_code (3 : Nat) (Option.some (Jvm.ClassFile.FieldType.array Jvm.ClassFile.FieldType.byte))) ∈ lw_all := lw_g (lw_at lw_m3 139 rfl) rfl
theorem q689 : (Jvm.Cond.methodLink "java/util/Arrays" (339 : Nat) ({ cls := "java/util/Arrays", name := "copyOfRangeByte", desc := "([BII)[B" } : Jvm.MethodName)) ∈ lw_all := lw_g (lw_at lw_m3 140 rfl) rfl
theorem q690 : (Jvm.Cond.static ({ cls := "java/util/Arrays", name := "copyOfRangeByte", desc := "([BII)[B" } : Jvm.MethodName)) ∈ lw_all := lw_g (lw_at lw_m3 141 rfl) rfl
theorem q691 : (Jvm.Cond.code ({ cls := "java/util/Arrays", name := "copyOfRangeByte", desc := "([BII)[B" } : Jvm.MethodName) prog_53_method_133_code (5 : Nat) (Option.some (Jvm.ClassFile.FieldType.array Jvm.ClassFile.FieldType.byte))) ∈ lw_all := lw_g (lw_at lw_m3 142 rfl) rfl
theorem q692 : (Jvm.Cond.methodLink "java/util/Arrays" (343 : Nat) ({ cls := "java/util/Arrays", name := "checkLength", desc := "(II)V" } : Jvm.MethodName)) ∈ lw_all := lw_g (lw_at lw_m3 143 rfl) rfl
theorem q693 : (Jvm.Cond.static ({ cls := "java/util/Arrays", name := "checkLength", desc := "(II)V" } : Jvm.MethodName)) ∈ lw_all := lw_g (lw_at lw_m3 144 rfl) rfl
theorem q694 : (Jvm.Cond.code ({ cls := "java/util/Arrays", name := "checkLength", desc := "(II)V" } : Jvm.MethodName) prog_53_method_131_code (2 : Nat) (Option.none : Option Jvm.ClassFile.FieldType)) ∈ lw_all := lw_g (lw_at lw_m3 145 rfl) rfl
theorem q695 : (Jvm.Cond.classLink "java/util/Arrays" (43 : Nat) "java/lang/IllegalArgumentException") ∈ lw_all := lw_g (lw_at lw_m3 146 rfl) rfl
theorem q704 : (Jvm.Cond.classLink "java/util/Arrays" (45 : Nat) "java/lang/StringBuilder") ∈ lw_all := lw_g (lw_at lw_m3 155 rfl) rfl
theorem q705 : (Jvm.Cond.methodLink "java/util/Arrays" (47 : Nat) ({ cls := "java/lang/StringBuilder", name := "<init>", desc := "()V" } : Jvm.MethodName)) ∈ lw_all := lw_g (lw_at lw_m3 156 rfl) rfl
theorem q706 : (Jvm.Cond.methodLink "java/util/Arrays" (54 : Nat) ({ cls := "java/lang/StringBuilder", name := "append", desc := "(I)Ljava/lang/StringBuilder;" } : Jvm.MethodName)) ∈ lw_all := lw_g (lw_at lw_m3 157 rfl) rfl
theorem q707 : (Jvm.Cond.stringRef "java/util/Arrays" (337 : Nat) " > ") ∈ lw_tbl := lw_at lw_m3 158 rfl
theorem q708 : (Jvm.Cond.methodLink "java/util/Arrays" (50 : Nat) ({ cls := "java/lang/StringBuilder", name := "append", desc := "(Ljava/lang/String;)Ljava/lang/StringBuilder;" } : Jvm.MethodName)) ∈ lw_all := lw_g (lw_at lw_m3 159 rfl) rfl
theorem q709 : (Jvm.Cond.methodLink "java/util/Arrays" (61 : Nat) ({ cls := "java/lang/StringBuilder", name := "toString", desc := "()Ljava/lang/String;" } : Jvm.MethodName)) ∈ lw_all := lw_g (lw_at lw_m3 160 rfl) rfl
theorem q710 : (Jvm.Cond.methodLink "java/util/Arrays" (65 : Nat) ({ cls := "java/lang/IllegalArgumentException", name := "<init>", desc := "(Ljava/lang/String;)V" } : Jvm.MethodName)) ∈ lw_all := lw_g (lw_at lw_m3 161 rfl) rfl
theorem q1286 : (Jvm.Cond.static ({ cls := "java/util/Arrays", name := "copyOf", desc := "([JI)[J" } : Jvm.MethodName)) ∈ lw_all := lw_g (lw_at lw_m6 17 rfl) rfl
theorem q1287 : (Jvm.Cond.code ({ cls := "java/util/Arrays", name := "copyOf", desc := "([JI)[J" } : Jvm.MethodName) prog_53_method_124_code (3 : Nat) (Option.some (Jvm.ClassFile.FieldType.array Jvm.ClassFile.FieldType.long))) ∈ lw_all := lw_g (lw_at lw_m6 18 rfl) rfl
theorem q1288 : (Jvm.Cond.methodLink "java/util/Arrays" (319 : Nat) ({ cls := "[J", name := "clone", desc := "()Ljava/lang/Object;" } : Jvm.MethodName)) ∈ lw_all := lw_g (lw_at lw_m6 19 rfl) rfl
theorem q1292 : (Jvm.Cond.classLink "java/util/Arrays" (320 : Nat) "[J") ∈ lw_all := lw_g (lw_at lw_m6 23 rfl) rfl
/-! java/util/LinkedList$Node -/
set_option maxRecDepth 100000
def RJ6 : String := "java/util/LinkedList$Node"
def TJ6 : u_T := fun k => match k with
  | 0 => ("java/util/LinkedList$Node", "item", "Ljava/lang/Object;", false)
  | 1 => ("java/util/LinkedList$Node", "next", "Ljava/util/LinkedList$Node;", false)
  | _ => ("java/util/LinkedList$Node", "prev", "Ljava/util/LinkedList$Node;", false)
def tyJ6 : Nat → FieldType := fun k => match k with
  | 0 => .object "java/lang/Object"
  | 1 => .object "java/util/LinkedList$Node"
  | _ => .object "java/util/LinkedList$Node"
abbrev wsJ60 : List Cond := u_ws RJ6 TJ6 3
theorem nmJ6 : ∀ a, a < 3 → ∀ b, b < 3 → a ≠ b → (TJ6 a).2.1 ≠ (TJ6 b).2.1 := by decide +kernel
theorem tyJ6_ok : ∀ k, k < 3 → parseFieldDescriptor (TJ6 k).2.2.1 = some (tyJ6 k) := by decide +kernel
abbrev cJ6_init : ByteArray := prog_60_method_1_code
def yJ6_init : MethodName := ⟨RJ6, "<init>", "(Ljava/util/LinkedList$Node;Ljava/lang/Object;Ljava/util/LinkedList$Node;)V"⟩
def dkwJ6_init_0 : List UInt8 := [42, 183, 0, 1, 42, 44, 181, 0, 7, 42, 45, 181, 0, 13, 42, 43, 181, 0, 17, 177]
abbrev dktJ6_init_0 : List UInt8 := dkwJ6_init_0 ++ []
theorem dksJ6_init_0 : cJ6_init.data.toList.drop 0 = dktJ6_init_0 := by decide +kernel
theorem dJ6_init_0 : decode cJ6_init 0 = .ok (.aload_n 0, 1) := dk_42 (dk_at dksJ6_init_0 0 rfl rfl)
theorem dJ6_init_1 : decode cJ6_init 1 = .ok (.invokespecial 1, 3) := dk_183 0 1 (dk_at dksJ6_init_0 1 rfl rfl)
theorem dJ6_init_4 : decode cJ6_init 4 = .ok (.aload_n 0, 1) := dk_42 (dk_at dksJ6_init_0 4 rfl rfl)
theorem dJ6_init_5 : decode cJ6_init 5 = .ok (.aload_n 2, 1) := dk_44 (dk_at dksJ6_init_0 5 rfl rfl)
theorem dJ6_init_6 : decode cJ6_init 6 = .ok (.putfield 7, 3) := dk_181 0 7 (dk_at dksJ6_init_0 6 rfl rfl)
theorem dJ6_init_9 : decode cJ6_init 9 = .ok (.aload_n 0, 1) := dk_42 (dk_at dksJ6_init_0 9 rfl rfl)
theorem dJ6_init_10 : decode cJ6_init 10 = .ok (.aload_n 3, 1) := dk_45 (dk_at dksJ6_init_0 10 rfl rfl)
theorem dJ6_init_11 : decode cJ6_init 11 = .ok (.putfield 13, 3) := dk_181 0 13 (dk_at dksJ6_init_0 11 rfl rfl)
theorem dJ6_init_14 : decode cJ6_init 14 = .ok (.aload_n 0, 1) := dk_42 (dk_at dksJ6_init_0 14 rfl rfl)
theorem dJ6_init_15 : decode cJ6_init 15 = .ok (.aload_n 1, 1) := dk_43 (dk_at dksJ6_init_0 15 rfl rfl)
theorem dJ6_init_16 : decode cJ6_init 16 = .ok (.putfield 17, 3) := dk_181 0 17 (dk_at dksJ6_init_0 16 rfl rfl)
theorem dJ6_init_19 : decode cJ6_init 19 = .ok (.return_, 1) := dk_177 (dk_at dksJ6_init_0 19 rfl rfl)
theorem q79 : (Jvm.Cond.initialized "java/util/LinkedList$Node") ∈ lw_all := lw_g (lw_at lw_m1 10 rfl) rfl
theorem q249 : (Jvm.Cond.selects "java/util/LinkedList$Node" ({ cls := "java/lang/Object", name := "getClass", desc := "()Ljava/lang/Class;" } : Jvm.MethodName) ({ cls := "java/lang/Object", name := "getClass", desc := "()Ljava/lang/Class;" } : Jvm.MethodName)) ∈ lw_all := lw_g (lw_at lw_m1 180 rfl) rfl
theorem q277 : (Jvm.Cond.instantiable "java/util/LinkedList$Node" (3 : Nat)) ∈ lw_all := lw_g (lw_at lw_m1 208 rfl) rfl
theorem q279 : (Jvm.Cond.instanceMethod ({ cls := "java/util/LinkedList$Node", name := "<init>", desc := "(Ljava/util/LinkedList$Node;Ljava/lang/Object;Ljava/util/LinkedList$Node;)V" } : Jvm.MethodName)) ∈ lw_all := lw_g (lw_at lw_m1 210 rfl) rfl
theorem q280 : (Jvm.Cond.code ({ cls := "java/util/LinkedList$Node", name := "<init>", desc := "(Ljava/util/LinkedList$Node;Ljava/lang/Object;Ljava/util/LinkedList$Node;)V" } : Jvm.MethodName) prog_60_method_1_code (4 : Nat) (Option.none : Option Jvm.ClassFile.FieldType)) ∈ lw_all := lw_g (lw_at lw_m1 211 rfl) rfl
theorem q281 : (Jvm.Cond.methodLink "java/util/LinkedList$Node" (1 : Nat) ({ cls := "java/lang/Object", name := "<init>", desc := "()V" } : Jvm.MethodName)) ∈ lw_all := lw_g (lw_at lw_m1 212 rfl) rfl
theorem q282 : (Jvm.Cond.fieldLink "java/util/LinkedList$Node" (7 : Nat) "java/util/LinkedList$Node" "item" "Ljava/lang/Object;") ∈ lw_all := lw_g (lw_at lw_m1 213 rfl) rfl
theorem q285 : (Jvm.Cond.fieldLink "java/util/LinkedList$Node" (13 : Nat) "java/util/LinkedList$Node" "next" "Ljava/util/LinkedList$Node;") ∈ lw_all := lw_g (lw_at lw_m1 216 rfl) rfl
theorem q288 : (Jvm.Cond.fieldLink "java/util/LinkedList$Node" (17 : Nat) "java/util/LinkedList$Node" "prev" "Ljava/util/LinkedList$Node;") ∈ lw_all := lw_g (lw_at lw_m1 219 rfl) rfl
theorem q290 : (Jvm.Cond.lays "java/util/LinkedList$Node" "java/util/LinkedList$Node" "item" "Ljava/lang/Object;") ∈ lw_all := lw_g (lw_at lw_m1 221 rfl) rfl
theorem q291 : (Jvm.Cond.soleField "java/util/LinkedList$Node" "item") ∈ lw_all := lw_g (lw_at lw_m1 222 rfl) rfl
theorem q292 : (Jvm.Cond.lays "java/util/LinkedList$Node" "java/util/LinkedList$Node" "next" "Ljava/util/LinkedList$Node;") ∈ lw_all := lw_g (lw_at lw_m1 223 rfl) rfl
theorem q293 : (Jvm.Cond.soleField "java/util/LinkedList$Node" "next") ∈ lw_all := lw_g (lw_at lw_m1 224 rfl) rfl
theorem q294 : (Jvm.Cond.lays "java/util/LinkedList$Node" "java/util/LinkedList$Node" "prev" "Ljava/util/LinkedList$Node;") ∈ lw_all := lw_g (lw_at lw_m1 225 rfl) rfl
theorem q295 : (Jvm.Cond.soleField "java/util/LinkedList$Node" "prev") ∈ lw_all := lw_g (lw_at lw_m1 226 rfl) rfl
theorem q296 : (Jvm.Cond.superclass "java/util/LinkedList$Node" "java/lang/Object") ∈ lw_all := lw_g (lw_at lw_m1 227 rfl) rfl
theorem q2067 : (Jvm.Cond.castable "java/util/LinkedList$Node" "java/lang/Object") ∈ lw_tbl := lw_at lw_m9 78 rfl
theorem in_J6 : ∀ w ∈ wsJ60, w ∈ lw_all := lw_in wsJ60 [290, 292, 294] (by decide +kernel) (by decide +kernel)
/-! java/util/AbstractSequentialList -/
set_option maxRecDepth 100000
def RJ7 : String := "java/util/AbstractSequentialList"
abbrev cJ7_init : ByteArray := prog_47_method_1_code
def yJ7_init : MethodName := ⟨RJ7, "<init>", "()V"⟩
theorem dJ7_init_0 : decode cJ7_init 0 = .ok (.aload_n 0, 1) := by decide +kernel
theorem dJ7_init_1 : decode cJ7_init 1 = .ok (.invokespecial 1, 3) := by decide +kernel
theorem dJ7_init_4 : decode cJ7_init 4 = .ok (.return_, 1) := by decide +kernel
abbrev cJ7_iterator : ByteArray := prog_47_method_7_code
def yJ7_iterator : MethodName := ⟨RJ7, "iterator", "()Ljava/util/Iterator;"⟩
theorem dJ7_iterator_0 : decode cJ7_iterator 0 = .ok (.aload_n 0, 1) := by decide +kernel
theorem dJ7_iterator_1 : decode cJ7_iterator 1 = .ok (.invokevirtual 65, 3) := by decide +kernel
theorem dJ7_iterator_4 : decode cJ7_iterator 4 = .ok (.areturn, 1) := by decide +kernel
theorem q80 : (Jvm.Cond.initialized "java/util/AbstractSequentialList") ∈ lw_all := lw_g (lw_at lw_m1 11 rfl) rfl
theorem q303 : (Jvm.Cond.instanceMethod ({ cls := "java/util/AbstractSequentialList", name := "<init>", desc := "()V" } : Jvm.MethodName)) ∈ lw_all := lw_g (lw_at lw_m1 234 rfl) rfl
theorem q304 : (Jvm.Cond.code ({ cls := "java/util/AbstractSequentialList", name := "<init>", desc := "()V" } : Jvm.MethodName) prog_47_method_1_code (1 : Nat) (Option.none : Option Jvm.ClassFile.FieldType)) ∈ lw_all := lw_g (lw_at lw_m1 235 rfl) rfl
theorem q305 : (Jvm.Cond.methodLink "java/util/AbstractSequentialList" (1 : Nat) ({ cls := "java/util/AbstractList", name := "<init>", desc := "()V" } : Jvm.MethodName)) ∈ lw_all := lw_g (lw_at lw_m1 236 rfl) rfl
theorem q813 : (Jvm.Cond.instanceMethod ({ cls := "java/util/AbstractSequentialList", name := "iterator", desc := "()Ljava/util/Iterator;" } : Jvm.MethodName)) ∈ lw_all := lw_g (lw_at lw_m4 24 rfl) rfl
theorem q814 : (Jvm.Cond.publicMethod ({ cls := "java/util/AbstractSequentialList", name := "iterator", desc := "()Ljava/util/Iterator;" } : Jvm.MethodName)) ∈ lw_tbl := lw_at lw_m4 25 rfl
theorem q815 : (Jvm.Cond.code ({ cls := "java/util/AbstractSequentialList", name := "iterator", desc := "()Ljava/util/Iterator;" } : Jvm.MethodName) prog_47_method_7_code (1 : Nat) (Option.some (Jvm.ClassFile.FieldType.object "java/util/Iterator"))) ∈ lw_all := lw_g (lw_at lw_m4 26 rfl) rfl
theorem q816 : (Jvm.Cond.methodLink "java/util/AbstractSequentialList" (65 : Nat) ({ cls := "java/util/AbstractSequentialList", name := "listIterator", desc := "()Ljava/util/ListIterator;" } : Jvm.MethodName)) ∈ lw_all := lw_g (lw_at lw_m4 27 rfl) rfl
theorem q817 : (Jvm.Cond.sameMethod "java/util/AbstractSequentialList" "java/util/AbstractList" "listIterator" "()Ljava/util/ListIterator;") ∈ lw_all := lw_g (lw_at lw_m4 28 rfl) rfl
/-! java/util/LinkedList -/
set_option maxRecDepth 100000
def RJ8 : String := "java/util/LinkedList"
def TJ8 : u_T := fun k => match k with
  | 0 => ("java/util/AbstractList", "modCount", "I", false)
  | 1 => ("java/util/LinkedList", "size", "I", false)
  | 2 => ("java/util/LinkedList", "first", "Ljava/util/LinkedList$Node;", false)
  | _ => ("java/util/LinkedList", "last", "Ljava/util/LinkedList$Node;", false)
def tyJ8 : Nat → FieldType := fun k => match k with
  | 0 => .int
  | 1 => .int
  | 2 => .object "java/util/LinkedList$Node"
  | _ => .object "java/util/LinkedList$Node"
abbrev wsJ80 : List Cond := u_ws RJ8 TJ8 4
theorem nmJ8 : ∀ a, a < 4 → ∀ b, b < 4 → a ≠ b → (TJ8 a).2.1 ≠ (TJ8 b).2.1 := by decide +kernel
theorem tyJ8_ok : ∀ k, k < 4 → parseFieldDescriptor (TJ8 k).2.2.1 = some (tyJ8 k) := by decide +kernel
abbrev cJ8_add : ByteArray := prog_58_method_17_code
def yJ8_add : MethodName := ⟨RJ8, "add", "(Ljava/lang/Object;)Z"⟩
def dkwJ8_add_0 : List UInt8 := [42, 43, 182, 0, 57, 4, 172]
abbrev dktJ8_add_0 : List UInt8 := dkwJ8_add_0 ++ []
theorem dksJ8_add_0 : cJ8_add.data.toList.drop 0 = dktJ8_add_0 := by decide +kernel
theorem dJ8_add_0 : decode cJ8_add 0 = .ok (.aload_n 0, 1) := dk_42 (dk_at dksJ8_add_0 0 rfl rfl)
theorem dJ8_add_1 : decode cJ8_add 1 = .ok (.aload_n 1, 1) := dk_43 (dk_at dksJ8_add_0 1 rfl rfl)
theorem dJ8_add_2 : decode cJ8_add 2 = .ok (.invokevirtual 57, 3) := dk_182 0 57 (dk_at dksJ8_add_0 2 rfl rfl)
theorem dJ8_add_5 : decode cJ8_add 5 = .ok (.iconst 1, 1) := dk_4 (dk_at dksJ8_add_0 5 rfl rfl)
theorem dJ8_add_6 : decode cJ8_add 6 = .ok (.ireturn, 1) := dk_172 (dk_at dksJ8_add_0 6 rfl rfl)
abbrev cJ8_linkLast : ByteArray := prog_58_method_4_code
def yJ8_linkLast : MethodName := ⟨RJ8, "linkLast", "(Ljava/lang/Object;)V"⟩
def dkwJ8_linkLast_2 : List UInt8 := [181, 0, 7, 42, 89, 180, 0, 33, 4, 96, 181, 0, 33, 177]
abbrev dktJ8_linkLast_2 : List UInt8 := dkwJ8_linkLast_2 ++ []
def dkwJ8_linkLast_1 : List UInt8 := [199, 0, 11, 42, 45, 181, 0, 18, 167, 0, 8, 44, 45, 181, 0, 36, 42, 89, 180, 0, 7, 4, 96]
abbrev dktJ8_linkLast_1 : List UInt8 := dkwJ8_linkLast_1 ++ dktJ8_linkLast_2
def dkwJ8_linkLast_0 : List UInt8 := [42, 180, 0, 27, 77, 187, 0, 22, 89, 44, 43, 1, 183, 0, 24, 78, 42, 45, 181, 0, 27, 44]
abbrev dktJ8_linkLast_0 : List UInt8 := dkwJ8_linkLast_0 ++ dktJ8_linkLast_1
theorem dksJ8_linkLast_0 : cJ8_linkLast.data.toList.drop 0 = dktJ8_linkLast_0 := by decide +kernel
theorem dksJ8_linkLast_1 : cJ8_linkLast.data.toList.drop 22 = dktJ8_linkLast_1 := dk_seg dksJ8_linkLast_0 22 rfl rfl
theorem dksJ8_linkLast_2 : cJ8_linkLast.data.toList.drop 45 = dktJ8_linkLast_2 := dk_seg dksJ8_linkLast_1 23 rfl rfl
theorem dJ8_linkLast_0 : decode cJ8_linkLast 0 = .ok (.aload_n 0, 1) := dk_42 (dk_at dksJ8_linkLast_0 0 rfl rfl)
theorem dJ8_linkLast_1 : decode cJ8_linkLast 1 = .ok (.getfield 27, 3) := dk_180 0 27 (dk_at dksJ8_linkLast_0 1 rfl rfl)
theorem dJ8_linkLast_4 : decode cJ8_linkLast 4 = .ok (.astore_n 2, 1) := dk_77 (dk_at dksJ8_linkLast_0 4 rfl rfl)
theorem dJ8_linkLast_5 : decode cJ8_linkLast 5 = .ok (.new 22, 3) := dk_187 0 22 (dk_at dksJ8_linkLast_0 5 rfl rfl)
theorem dJ8_linkLast_8 : decode cJ8_linkLast 8 = .ok (.dup, 1) := dk_89 (dk_at dksJ8_linkLast_0 8 rfl rfl)
theorem dJ8_linkLast_9 : decode cJ8_linkLast 9 = .ok (.aload_n 2, 1) := dk_44 (dk_at dksJ8_linkLast_0 9 rfl rfl)
theorem dJ8_linkLast_10 : decode cJ8_linkLast 10 = .ok (.aload_n 1, 1) := dk_43 (dk_at dksJ8_linkLast_0 10 rfl rfl)
theorem dJ8_linkLast_11 : decode cJ8_linkLast 11 = .ok (.aconst_null, 1) := dk_1 (dk_at dksJ8_linkLast_0 11 rfl rfl)
theorem dJ8_linkLast_12 : decode cJ8_linkLast 12 = .ok (.invokespecial 24, 3) := dk_183 0 24 (dk_at dksJ8_linkLast_0 12 rfl rfl)
theorem dJ8_linkLast_15 : decode cJ8_linkLast 15 = .ok (.astore_n 3, 1) := dk_78 (dk_at dksJ8_linkLast_0 15 rfl rfl)
theorem dJ8_linkLast_16 : decode cJ8_linkLast 16 = .ok (.aload_n 0, 1) := dk_42 (dk_at dksJ8_linkLast_0 16 rfl rfl)
theorem dJ8_linkLast_17 : decode cJ8_linkLast 17 = .ok (.aload_n 3, 1) := dk_45 (dk_at dksJ8_linkLast_0 17 rfl rfl)
theorem dJ8_linkLast_18 : decode cJ8_linkLast 18 = .ok (.putfield 27, 3) := dk_181 0 27 (dk_at dksJ8_linkLast_0 18 rfl rfl)
theorem dJ8_linkLast_21 : decode cJ8_linkLast 21 = .ok (.aload_n 2, 1) := dk_44 (dk_at dksJ8_linkLast_0 21 rfl rfl)
theorem dJ8_linkLast_22 : decode cJ8_linkLast 22 = .ok (.ifnonnull 11, 3) := dk_199 0 11 (dk_at dksJ8_linkLast_1 0 rfl rfl)
theorem dJ8_linkLast_25 : decode cJ8_linkLast 25 = .ok (.aload_n 0, 1) := dk_42 (dk_at dksJ8_linkLast_1 3 rfl rfl)
theorem dJ8_linkLast_26 : decode cJ8_linkLast 26 = .ok (.aload_n 3, 1) := dk_45 (dk_at dksJ8_linkLast_1 4 rfl rfl)
theorem dJ8_linkLast_27 : decode cJ8_linkLast 27 = .ok (.putfield 18, 3) := dk_181 0 18 (dk_at dksJ8_linkLast_1 5 rfl rfl)
theorem dJ8_linkLast_30 : decode cJ8_linkLast 30 = .ok (.goto 8, 3) := dk_167 0 8 (dk_at dksJ8_linkLast_1 8 rfl rfl)
theorem dJ8_linkLast_33 : decode cJ8_linkLast 33 = .ok (.aload_n 2, 1) := dk_44 (dk_at dksJ8_linkLast_1 11 rfl rfl)
theorem dJ8_linkLast_34 : decode cJ8_linkLast 34 = .ok (.aload_n 3, 1) := dk_45 (dk_at dksJ8_linkLast_1 12 rfl rfl)
theorem dJ8_linkLast_35 : decode cJ8_linkLast 35 = .ok (.putfield 36, 3) := dk_181 0 36 (dk_at dksJ8_linkLast_1 13 rfl rfl)
theorem dJ8_linkLast_38 : decode cJ8_linkLast 38 = .ok (.aload_n 0, 1) := dk_42 (dk_at dksJ8_linkLast_1 16 rfl rfl)
theorem dJ8_linkLast_39 : decode cJ8_linkLast 39 = .ok (.dup, 1) := dk_89 (dk_at dksJ8_linkLast_1 17 rfl rfl)
theorem dJ8_linkLast_40 : decode cJ8_linkLast 40 = .ok (.getfield 7, 3) := dk_180 0 7 (dk_at dksJ8_linkLast_1 18 rfl rfl)
theorem dJ8_linkLast_43 : decode cJ8_linkLast 43 = .ok (.iconst 1, 1) := dk_4 (dk_at dksJ8_linkLast_1 21 rfl rfl)
theorem dJ8_linkLast_44 : decode cJ8_linkLast 44 = .ok (.iadd, 1) := dk_96 (dk_at dksJ8_linkLast_1 22 rfl rfl)
theorem dJ8_linkLast_45 : decode cJ8_linkLast 45 = .ok (.putfield 7, 3) := dk_181 0 7 (dk_at dksJ8_linkLast_2 0 rfl rfl)
theorem dJ8_linkLast_48 : decode cJ8_linkLast 48 = .ok (.aload_n 0, 1) := dk_42 (dk_at dksJ8_linkLast_2 3 rfl rfl)
theorem dJ8_linkLast_49 : decode cJ8_linkLast 49 = .ok (.dup, 1) := dk_89 (dk_at dksJ8_linkLast_2 4 rfl rfl)
theorem dJ8_linkLast_50 : decode cJ8_linkLast 50 = .ok (.getfield 33, 3) := dk_180 0 33 (dk_at dksJ8_linkLast_2 5 rfl rfl)
theorem dJ8_linkLast_53 : decode cJ8_linkLast 53 = .ok (.iconst 1, 1) := dk_4 (dk_at dksJ8_linkLast_2 8 rfl rfl)
theorem dJ8_linkLast_54 : decode cJ8_linkLast 54 = .ok (.iadd, 1) := dk_96 (dk_at dksJ8_linkLast_2 9 rfl rfl)
theorem dJ8_linkLast_55 : decode cJ8_linkLast 55 = .ok (.putfield 33, 3) := dk_181 0 33 (dk_at dksJ8_linkLast_2 10 rfl rfl)
theorem dJ8_linkLast_58 : decode cJ8_linkLast 58 = .ok (.return_, 1) := dk_177 (dk_at dksJ8_linkLast_2 13 rfl rfl)
abbrev cJ8_init : ByteArray := prog_58_method_1_code
def yJ8_init : MethodName := ⟨RJ8, "<init>", "()V"⟩
def dkwJ8_init_0 : List UInt8 := [42, 183, 0, 1, 42, 3, 181, 0, 7, 177]
abbrev dktJ8_init_0 : List UInt8 := dkwJ8_init_0 ++ []
theorem dksJ8_init_0 : cJ8_init.data.toList.drop 0 = dktJ8_init_0 := by decide +kernel
theorem dJ8_init_0 : decode cJ8_init 0 = .ok (.aload_n 0, 1) := dk_42 (dk_at dksJ8_init_0 0 rfl rfl)
theorem dJ8_init_1 : decode cJ8_init 1 = .ok (.invokespecial 1, 3) := dk_183 0 1 (dk_at dksJ8_init_0 1 rfl rfl)
theorem dJ8_init_4 : decode cJ8_init 4 = .ok (.aload_n 0, 1) := dk_42 (dk_at dksJ8_init_0 4 rfl rfl)
theorem dJ8_init_5 : decode cJ8_init 5 = .ok (.iconst 0, 1) := dk_3 (dk_at dksJ8_init_0 5 rfl rfl)
theorem dJ8_init_6 : decode cJ8_init 6 = .ok (.putfield 7, 3) := dk_181 0 7 (dk_at dksJ8_init_0 6 rfl rfl)
theorem dJ8_init_9 : decode cJ8_init 9 = .ok (.return_, 1) := dk_177 (dk_at dksJ8_init_0 9 rfl rfl)
abbrev cJ8_clear : ByteArray := prog_58_method_21_code
def yJ8_clear : MethodName := ⟨RJ8, "clear", "()V"⟩
def dkwJ8_clear_2 : List UInt8 := [181, 0, 7, 42, 89, 180, 0, 33, 4, 96, 181, 0, 33, 177]
abbrev dktJ8_clear_2 : List UInt8 := dkwJ8_clear_2 ++ []
def dkwJ8_clear_1 : List UInt8 := [43, 1, 181, 0, 30, 44, 76, 167, 255, 230, 42, 42, 1, 90, 181, 0, 27, 181, 0, 18, 42, 3]
abbrev dktJ8_clear_1 : List UInt8 := dkwJ8_clear_1 ++ dktJ8_clear_2
def dkwJ8_clear_0 : List UInt8 := [42, 180, 0, 18, 76, 43, 198, 0, 28, 43, 180, 0, 36, 77, 43, 1, 181, 0, 39, 43, 1, 181, 0, 36]
abbrev dktJ8_clear_0 : List UInt8 := dkwJ8_clear_0 ++ dktJ8_clear_1
theorem dksJ8_clear_0 : cJ8_clear.data.toList.drop 0 = dktJ8_clear_0 := by decide +kernel
theorem dksJ8_clear_1 : cJ8_clear.data.toList.drop 24 = dktJ8_clear_1 := dk_seg dksJ8_clear_0 24 rfl rfl
theorem dksJ8_clear_2 : cJ8_clear.data.toList.drop 46 = dktJ8_clear_2 := dk_seg dksJ8_clear_1 22 rfl rfl
theorem dJ8_clear_0 : decode cJ8_clear 0 = .ok (.aload_n 0, 1) := dk_42 (dk_at dksJ8_clear_0 0 rfl rfl)
theorem dJ8_clear_1 : decode cJ8_clear 1 = .ok (.getfield 18, 3) := dk_180 0 18 (dk_at dksJ8_clear_0 1 rfl rfl)
theorem dJ8_clear_4 : decode cJ8_clear 4 = .ok (.astore_n 1, 1) := dk_76 (dk_at dksJ8_clear_0 4 rfl rfl)
theorem dJ8_clear_5 : decode cJ8_clear 5 = .ok (.aload_n 1, 1) := dk_43 (dk_at dksJ8_clear_0 5 rfl rfl)
theorem dJ8_clear_6 : decode cJ8_clear 6 = .ok (.ifnull 28, 3) := dk_198 0 28 (dk_at dksJ8_clear_0 6 rfl rfl)
theorem dJ8_clear_9 : decode cJ8_clear 9 = .ok (.aload_n 1, 1) := dk_43 (dk_at dksJ8_clear_0 9 rfl rfl)
theorem dJ8_clear_10 : decode cJ8_clear 10 = .ok (.getfield 36, 3) := dk_180 0 36 (dk_at dksJ8_clear_0 10 rfl rfl)
theorem dJ8_clear_13 : decode cJ8_clear 13 = .ok (.astore_n 2, 1) := dk_77 (dk_at dksJ8_clear_0 13 rfl rfl)
theorem dJ8_clear_14 : decode cJ8_clear 14 = .ok (.aload_n 1, 1) := dk_43 (dk_at dksJ8_clear_0 14 rfl rfl)
theorem dJ8_clear_15 : decode cJ8_clear 15 = .ok (.aconst_null, 1) := dk_1 (dk_at dksJ8_clear_0 15 rfl rfl)
theorem dJ8_clear_16 : decode cJ8_clear 16 = .ok (.putfield 39, 3) := dk_181 0 39 (dk_at dksJ8_clear_0 16 rfl rfl)
theorem dJ8_clear_19 : decode cJ8_clear 19 = .ok (.aload_n 1, 1) := dk_43 (dk_at dksJ8_clear_0 19 rfl rfl)
theorem dJ8_clear_20 : decode cJ8_clear 20 = .ok (.aconst_null, 1) := dk_1 (dk_at dksJ8_clear_0 20 rfl rfl)
theorem dJ8_clear_21 : decode cJ8_clear 21 = .ok (.putfield 36, 3) := dk_181 0 36 (dk_at dksJ8_clear_0 21 rfl rfl)
theorem dJ8_clear_24 : decode cJ8_clear 24 = .ok (.aload_n 1, 1) := dk_43 (dk_at dksJ8_clear_1 0 rfl rfl)
theorem dJ8_clear_25 : decode cJ8_clear 25 = .ok (.aconst_null, 1) := dk_1 (dk_at dksJ8_clear_1 1 rfl rfl)
theorem dJ8_clear_26 : decode cJ8_clear 26 = .ok (.putfield 30, 3) := dk_181 0 30 (dk_at dksJ8_clear_1 2 rfl rfl)
theorem dJ8_clear_29 : decode cJ8_clear 29 = .ok (.aload_n 2, 1) := dk_44 (dk_at dksJ8_clear_1 5 rfl rfl)
theorem dJ8_clear_30 : decode cJ8_clear 30 = .ok (.astore_n 1, 1) := dk_76 (dk_at dksJ8_clear_1 6 rfl rfl)
theorem dJ8_clear_31 : decode cJ8_clear 31 = .ok (.goto (-26), 3) := dk_167 255 230 (dk_at dksJ8_clear_1 7 rfl rfl)
theorem dJ8_clear_34 : decode cJ8_clear 34 = .ok (.aload_n 0, 1) := dk_42 (dk_at dksJ8_clear_1 10 rfl rfl)
theorem dJ8_clear_35 : decode cJ8_clear 35 = .ok (.aload_n 0, 1) := dk_42 (dk_at dksJ8_clear_1 11 rfl rfl)
theorem dJ8_clear_36 : decode cJ8_clear 36 = .ok (.aconst_null, 1) := dk_1 (dk_at dksJ8_clear_1 12 rfl rfl)
theorem dJ8_clear_37 : decode cJ8_clear 37 = .ok (.dup_x1, 1) := dk_90 (dk_at dksJ8_clear_1 13 rfl rfl)
theorem dJ8_clear_38 : decode cJ8_clear 38 = .ok (.putfield 27, 3) := dk_181 0 27 (dk_at dksJ8_clear_1 14 rfl rfl)
theorem dJ8_clear_41 : decode cJ8_clear 41 = .ok (.putfield 18, 3) := dk_181 0 18 (dk_at dksJ8_clear_1 17 rfl rfl)
theorem dJ8_clear_44 : decode cJ8_clear 44 = .ok (.aload_n 0, 1) := dk_42 (dk_at dksJ8_clear_1 20 rfl rfl)
theorem dJ8_clear_45 : decode cJ8_clear 45 = .ok (.iconst 0, 1) := dk_3 (dk_at dksJ8_clear_1 21 rfl rfl)
theorem dJ8_clear_46 : decode cJ8_clear 46 = .ok (.putfield 7, 3) := dk_181 0 7 (dk_at dksJ8_clear_2 0 rfl rfl)
theorem dJ8_clear_49 : decode cJ8_clear 49 = .ok (.aload_n 0, 1) := dk_42 (dk_at dksJ8_clear_2 3 rfl rfl)
theorem dJ8_clear_50 : decode cJ8_clear 50 = .ok (.dup, 1) := dk_89 (dk_at dksJ8_clear_2 4 rfl rfl)
theorem dJ8_clear_51 : decode cJ8_clear 51 = .ok (.getfield 33, 3) := dk_180 0 33 (dk_at dksJ8_clear_2 5 rfl rfl)
theorem dJ8_clear_54 : decode cJ8_clear 54 = .ok (.iconst 1, 1) := dk_4 (dk_at dksJ8_clear_2 8 rfl rfl)
theorem dJ8_clear_55 : decode cJ8_clear 55 = .ok (.iadd, 1) := dk_96 (dk_at dksJ8_clear_2 9 rfl rfl)
theorem dJ8_clear_56 : decode cJ8_clear 56 = .ok (.putfield 33, 3) := dk_181 0 33 (dk_at dksJ8_clear_2 10 rfl rfl)
theorem dJ8_clear_59 : decode cJ8_clear 59 = .ok (.return_, 1) := dk_177 (dk_at dksJ8_clear_2 13 rfl rfl)
abbrev cJ8_size : ByteArray := prog_58_method_16_code
def yJ8_size : MethodName := ⟨RJ8, "size", "()I"⟩
theorem dJ8_size_0 : decode cJ8_size 0 = .ok (.aload_n 0, 1) := by decide +kernel
theorem dJ8_size_1 : decode cJ8_size 1 = .ok (.getfield 7, 3) := by decide +kernel
theorem dJ8_size_4 : decode cJ8_size 4 = .ok (.ireturn, 1) := by decide +kernel
abbrev cJ8_get : ByteArray := prog_58_method_22_code
def yJ8_get : MethodName := ⟨RJ8, "get", "(I)Ljava/lang/Object;"⟩
def dkwJ8_get_0 : List UInt8 := [42, 27, 182, 0, 90, 42, 27, 182, 0, 86, 180, 0, 39, 176]
abbrev dktJ8_get_0 : List UInt8 := dkwJ8_get_0 ++ []
theorem dksJ8_get_0 : cJ8_get.data.toList.drop 0 = dktJ8_get_0 := by decide +kernel
theorem dJ8_get_0 : decode cJ8_get 0 = .ok (.aload_n 0, 1) := dk_42 (dk_at dksJ8_get_0 0 rfl rfl)
theorem dJ8_get_1 : decode cJ8_get 1 = .ok (.iload_n 1, 1) := dk_27 (dk_at dksJ8_get_0 1 rfl rfl)
theorem dJ8_get_2 : decode cJ8_get 2 = .ok (.invokevirtual 90, 3) := dk_182 0 90 (dk_at dksJ8_get_0 2 rfl rfl)
theorem dJ8_get_5 : decode cJ8_get 5 = .ok (.aload_n 0, 1) := dk_42 (dk_at dksJ8_get_0 5 rfl rfl)
theorem dJ8_get_6 : decode cJ8_get 6 = .ok (.iload_n 1, 1) := dk_27 (dk_at dksJ8_get_0 6 rfl rfl)
theorem dJ8_get_7 : decode cJ8_get 7 = .ok (.invokevirtual 86, 3) := dk_182 0 86 (dk_at dksJ8_get_0 7 rfl rfl)
theorem dJ8_get_10 : decode cJ8_get 10 = .ok (.getfield 39, 3) := dk_180 0 39 (dk_at dksJ8_get_0 10 rfl rfl)
theorem dJ8_get_13 : decode cJ8_get 13 = .ok (.areturn, 1) := dk_176 (dk_at dksJ8_get_0 13 rfl rfl)
abbrev cJ8_checkElementIndex : ByteArray := prog_58_method_29_code
def yJ8_checkElementIndex : MethodName := ⟨RJ8, "checkElementIndex", "(I)V"⟩
def dkwJ8_checkElementIndex_0 : List UInt8 := [42, 27, 182, 0, 115, 154, 0, 16, 187, 0, 119, 89, 42, 27, 182, 0, 121, 183, 0, 125, 191, 177]
abbrev dktJ8_checkElementIndex_0 : List UInt8 := dkwJ8_checkElementIndex_0 ++ []
theorem dksJ8_checkElementIndex_0 : cJ8_checkElementIndex.data.toList.drop 0 = dktJ8_checkElementIndex_0 := by decide +kernel
theorem dJ8_checkElementIndex_0 : decode cJ8_checkElementIndex 0 = .ok (.aload_n 0, 1) := dk_42 (dk_at dksJ8_checkElementIndex_0 0 rfl rfl)
theorem dJ8_checkElementIndex_1 : decode cJ8_checkElementIndex 1 = .ok (.iload_n 1, 1) := dk_27 (dk_at dksJ8_checkElementIndex_0 1 rfl rfl)
theorem dJ8_checkElementIndex_2 : decode cJ8_checkElementIndex 2 = .ok (.invokevirtual 115, 3) := dk_182 0 115 (dk_at dksJ8_checkElementIndex_0 2 rfl rfl)
theorem dJ8_checkElementIndex_5 : decode cJ8_checkElementIndex 5 = .ok (.ifCond .ne 16, 3) := dk_154 0 16 (dk_at dksJ8_checkElementIndex_0 5 rfl rfl)
theorem dJ8_checkElementIndex_8 : decode cJ8_checkElementIndex 8 = .ok (.new 119, 3) := dk_187 0 119 (dk_at dksJ8_checkElementIndex_0 8 rfl rfl)
theorem dJ8_checkElementIndex_11 : decode cJ8_checkElementIndex 11 = .ok (.dup, 1) := dk_89 (dk_at dksJ8_checkElementIndex_0 11 rfl rfl)
theorem dJ8_checkElementIndex_12 : decode cJ8_checkElementIndex 12 = .ok (.aload_n 0, 1) := dk_42 (dk_at dksJ8_checkElementIndex_0 12 rfl rfl)
theorem dJ8_checkElementIndex_13 : decode cJ8_checkElementIndex 13 = .ok (.iload_n 1, 1) := dk_27 (dk_at dksJ8_checkElementIndex_0 13 rfl rfl)
theorem dJ8_checkElementIndex_14 : decode cJ8_checkElementIndex 14 = .ok (.invokevirtual 121, 3) := dk_182 0 121 (dk_at dksJ8_checkElementIndex_0 14 rfl rfl)
theorem dJ8_checkElementIndex_17 : decode cJ8_checkElementIndex 17 = .ok (.invokespecial 125, 3) := dk_183 0 125 (dk_at dksJ8_checkElementIndex_0 17 rfl rfl)
theorem dJ8_checkElementIndex_20 : decode cJ8_checkElementIndex 20 = .ok (.athrow, 1) := dk_191 (dk_at dksJ8_checkElementIndex_0 20 rfl rfl)
theorem dJ8_checkElementIndex_21 : decode cJ8_checkElementIndex 21 = .ok (.return_, 1) := dk_177 (dk_at dksJ8_checkElementIndex_0 21 rfl rfl)
abbrev cJ8_isElementIndex : ByteArray := prog_58_method_26_code
def yJ8_isElementIndex : MethodName := ⟨RJ8, "isElementIndex", "(I)Z"⟩
def dkwJ8_isElementIndex_0 : List UInt8 := [27, 155, 0, 15, 27, 42, 180, 0, 7, 162, 0, 7, 4, 167, 0, 4, 3, 172]
abbrev dktJ8_isElementIndex_0 : List UInt8 := dkwJ8_isElementIndex_0 ++ []
theorem dksJ8_isElementIndex_0 : cJ8_isElementIndex.data.toList.drop 0 = dktJ8_isElementIndex_0 := by decide +kernel
theorem dJ8_isElementIndex_0 : decode cJ8_isElementIndex 0 = .ok (.iload_n 1, 1) := dk_27 (dk_at dksJ8_isElementIndex_0 0 rfl rfl)
theorem dJ8_isElementIndex_1 : decode cJ8_isElementIndex 1 = .ok (.ifCond .lt 15, 3) := dk_155 0 15 (dk_at dksJ8_isElementIndex_0 1 rfl rfl)
theorem dJ8_isElementIndex_4 : decode cJ8_isElementIndex 4 = .ok (.iload_n 1, 1) := dk_27 (dk_at dksJ8_isElementIndex_0 4 rfl rfl)
theorem dJ8_isElementIndex_5 : decode cJ8_isElementIndex 5 = .ok (.aload_n 0, 1) := dk_42 (dk_at dksJ8_isElementIndex_0 5 rfl rfl)
theorem dJ8_isElementIndex_6 : decode cJ8_isElementIndex 6 = .ok (.getfield 7, 3) := dk_180 0 7 (dk_at dksJ8_isElementIndex_0 6 rfl rfl)
theorem dJ8_isElementIndex_9 : decode cJ8_isElementIndex 9 = .ok (.if_icmp .ge 7, 3) := dk_162 0 7 (dk_at dksJ8_isElementIndex_0 9 rfl rfl)
theorem dJ8_isElementIndex_12 : decode cJ8_isElementIndex 12 = .ok (.iconst 1, 1) := dk_4 (dk_at dksJ8_isElementIndex_0 12 rfl rfl)
theorem dJ8_isElementIndex_13 : decode cJ8_isElementIndex 13 = .ok (.goto 4, 3) := dk_167 0 4 (dk_at dksJ8_isElementIndex_0 13 rfl rfl)
theorem dJ8_isElementIndex_16 : decode cJ8_isElementIndex 16 = .ok (.iconst 0, 1) := dk_3 (dk_at dksJ8_isElementIndex_0 16 rfl rfl)
theorem dJ8_isElementIndex_17 : decode cJ8_isElementIndex 17 = .ok (.ireturn, 1) := dk_172 (dk_at dksJ8_isElementIndex_0 17 rfl rfl)
abbrev cJ8_outOfBoundsMsg : ByteArray := prog_58_method_28_code
def yJ8_outOfBoundsMsg : MethodName := ⟨RJ8, "outOfBoundsMsg", "(I)Ljava/lang/String;"⟩
def dkwJ8_outOfBoundsMsg_1 : List UInt8 := [180, 0, 7, 182, 0, 106, 182, 0, 111, 176]
abbrev dktJ8_outOfBoundsMsg_1 : List UInt8 := dkwJ8_outOfBoundsMsg_1 ++ []
def dkwJ8_outOfBoundsMsg_0 : List UInt8 := [187, 0, 97, 89, 183, 0, 99, 18, 100, 182, 0, 102, 27, 182, 0, 106, 18, 109, 182, 0, 102, 42]
abbrev dktJ8_outOfBoundsMsg_0 : List UInt8 := dkwJ8_outOfBoundsMsg_0 ++ dktJ8_outOfBoundsMsg_1
theorem dksJ8_outOfBoundsMsg_0 : cJ8_outOfBoundsMsg.data.toList.drop 0 = dktJ8_outOfBoundsMsg_0 := by decide +kernel
theorem dksJ8_outOfBoundsMsg_1 : cJ8_outOfBoundsMsg.data.toList.drop 22 = dktJ8_outOfBoundsMsg_1 := dk_seg dksJ8_outOfBoundsMsg_0 22 rfl rfl
theorem dJ8_outOfBoundsMsg_0 : decode cJ8_outOfBoundsMsg 0 = .ok (.new 97, 3) := dk_187 0 97 (dk_at dksJ8_outOfBoundsMsg_0 0 rfl rfl)
theorem dJ8_outOfBoundsMsg_3 : decode cJ8_outOfBoundsMsg 3 = .ok (.dup, 1) := dk_89 (dk_at dksJ8_outOfBoundsMsg_0 3 rfl rfl)
theorem dJ8_outOfBoundsMsg_4 : decode cJ8_outOfBoundsMsg 4 = .ok (.invokespecial 99, 3) := dk_183 0 99 (dk_at dksJ8_outOfBoundsMsg_0 4 rfl rfl)
theorem dJ8_outOfBoundsMsg_7 : decode cJ8_outOfBoundsMsg 7 = .ok (.ldc 100, 2) := dk_18 100 (dk_at dksJ8_outOfBoundsMsg_0 7 rfl rfl)
theorem dJ8_outOfBoundsMsg_9 : decode cJ8_outOfBoundsMsg 9 = .ok (.invokevirtual 102, 3) := dk_182 0 102 (dk_at dksJ8_outOfBoundsMsg_0 9 rfl rfl)
theorem dJ8_outOfBoundsMsg_12 : decode cJ8_outOfBoundsMsg 12 = .ok (.iload_n 1, 1) := dk_27 (dk_at dksJ8_outOfBoundsMsg_0 12 rfl rfl)
theorem dJ8_outOfBoundsMsg_13 : decode cJ8_outOfBoundsMsg 13 = .ok (.invokevirtual 106, 3) := dk_182 0 106 (dk_at dksJ8_outOfBoundsMsg_0 13 rfl rfl)
theorem dJ8_outOfBoundsMsg_16 : decode cJ8_outOfBoundsMsg 16 = .ok (.ldc 109, 2) := dk_18 109 (dk_at dksJ8_outOfBoundsMsg_0 16 rfl rfl)
theorem dJ8_outOfBoundsMsg_18 : decode cJ8_outOfBoundsMsg 18 = .ok (.invokevirtual 102, 3) := dk_182 0 102 (dk_at dksJ8_outOfBoundsMsg_0 18 rfl rfl)
theorem dJ8_outOfBoundsMsg_21 : decode cJ8_outOfBoundsMsg 21 = .ok (.aload_n 0, 1) := dk_42 (dk_at dksJ8_outOfBoundsMsg_0 21 rfl rfl)
theorem dJ8_outOfBoundsMsg_22 : decode cJ8_outOfBoundsMsg 22 = .ok (.getfield 7, 3) := dk_180 0 7 (dk_at dksJ8_outOfBoundsMsg_1 0 rfl rfl)
theorem dJ8_outOfBoundsMsg_25 : decode cJ8_outOfBoundsMsg 25 = .ok (.invokevirtual 106, 3) := dk_182 0 106 (dk_at dksJ8_outOfBoundsMsg_1 3 rfl rfl)
theorem dJ8_outOfBoundsMsg_28 : decode cJ8_outOfBoundsMsg 28 = .ok (.invokevirtual 111, 3) := dk_182 0 111 (dk_at dksJ8_outOfBoundsMsg_1 6 rfl rfl)
theorem dJ8_outOfBoundsMsg_31 : decode cJ8_outOfBoundsMsg 31 = .ok (.areturn, 1) := dk_176 (dk_at dksJ8_outOfBoundsMsg_1 9 rfl rfl)
abbrev cJ8_node : ByteArray := prog_58_method_31_code
def yJ8_node : MethodName := ⟨RJ8, "node", "(I)Ljava/util/LinkedList$Node;"⟩
def dkwJ8_node_2 : List UInt8 := [29, 27, 164, 0, 14, 44, 180, 0, 30, 77, 132, 3, 255, 167, 255, 243, 44, 176]
abbrev dktJ8_node_2 : List UInt8 := dkwJ8_node_2 ++ []
def dkwJ8_node_1 : List UInt8 := [180, 0, 36, 77, 132, 3, 1, 167, 255, 243, 44, 176, 42, 180, 0, 27, 77, 42, 180, 0, 7, 4, 100, 62]
abbrev dktJ8_node_1 : List UInt8 := dkwJ8_node_1 ++ dktJ8_node_2
def dkwJ8_node_0 : List UInt8 := [27, 42, 180, 0, 7, 4, 122, 162, 0, 28, 42, 180, 0, 18, 77, 3, 62, 29, 27, 162, 0, 14, 44]
abbrev dktJ8_node_0 : List UInt8 := dkwJ8_node_0 ++ dktJ8_node_1
theorem dksJ8_node_0 : cJ8_node.data.toList.drop 0 = dktJ8_node_0 := by decide +kernel
theorem dksJ8_node_1 : cJ8_node.data.toList.drop 23 = dktJ8_node_1 := dk_seg dksJ8_node_0 23 rfl rfl
theorem dksJ8_node_2 : cJ8_node.data.toList.drop 47 = dktJ8_node_2 := dk_seg dksJ8_node_1 24 rfl rfl
theorem dJ8_node_0 : decode cJ8_node 0 = .ok (.iload_n 1, 1) := dk_27 (dk_at dksJ8_node_0 0 rfl rfl)
theorem dJ8_node_1 : decode cJ8_node 1 = .ok (.aload_n 0, 1) := dk_42 (dk_at dksJ8_node_0 1 rfl rfl)
theorem dJ8_node_2 : decode cJ8_node 2 = .ok (.getfield 7, 3) := dk_180 0 7 (dk_at dksJ8_node_0 2 rfl rfl)
theorem dJ8_node_5 : decode cJ8_node 5 = .ok (.iconst 1, 1) := dk_4 (dk_at dksJ8_node_0 5 rfl rfl)
theorem dJ8_node_6 : decode cJ8_node 6 = .ok (.ishr, 1) := dk_122 (dk_at dksJ8_node_0 6 rfl rfl)
theorem dJ8_node_7 : decode cJ8_node 7 = .ok (.if_icmp .ge 28, 3) := dk_162 0 28 (dk_at dksJ8_node_0 7 rfl rfl)
theorem dJ8_node_10 : decode cJ8_node 10 = .ok (.aload_n 0, 1) := dk_42 (dk_at dksJ8_node_0 10 rfl rfl)
theorem dJ8_node_11 : decode cJ8_node 11 = .ok (.getfield 18, 3) := dk_180 0 18 (dk_at dksJ8_node_0 11 rfl rfl)
theorem dJ8_node_14 : decode cJ8_node 14 = .ok (.astore_n 2, 1) := dk_77 (dk_at dksJ8_node_0 14 rfl rfl)
theorem dJ8_node_15 : decode cJ8_node 15 = .ok (.iconst 0, 1) := dk_3 (dk_at dksJ8_node_0 15 rfl rfl)
theorem dJ8_node_16 : decode cJ8_node 16 = .ok (.istore_n 3, 1) := dk_62 (dk_at dksJ8_node_0 16 rfl rfl)
theorem dJ8_node_17 : decode cJ8_node 17 = .ok (.iload_n 3, 1) := dk_29 (dk_at dksJ8_node_0 17 rfl rfl)
theorem dJ8_node_18 : decode cJ8_node 18 = .ok (.iload_n 1, 1) := dk_27 (dk_at dksJ8_node_0 18 rfl rfl)
theorem dJ8_node_19 : decode cJ8_node 19 = .ok (.if_icmp .ge 14, 3) := dk_162 0 14 (dk_at dksJ8_node_0 19 rfl rfl)
theorem dJ8_node_22 : decode cJ8_node 22 = .ok (.aload_n 2, 1) := dk_44 (dk_at dksJ8_node_0 22 rfl rfl)
theorem dJ8_node_23 : decode cJ8_node 23 = .ok (.getfield 36, 3) := dk_180 0 36 (dk_at dksJ8_node_1 0 rfl rfl)
theorem dJ8_node_26 : decode cJ8_node 26 = .ok (.astore_n 2, 1) := dk_77 (dk_at dksJ8_node_1 3 rfl rfl)
theorem dJ8_node_27 : decode cJ8_node 27 = .ok (.iinc 3 1, 3) := dk_132 3 1 (dk_at dksJ8_node_1 4 rfl rfl)
theorem dJ8_node_30 : decode cJ8_node 30 = .ok (.goto (-13), 3) := dk_167 255 243 (dk_at dksJ8_node_1 7 rfl rfl)
theorem dJ8_node_33 : decode cJ8_node 33 = .ok (.aload_n 2, 1) := dk_44 (dk_at dksJ8_node_1 10 rfl rfl)
theorem dJ8_node_34 : decode cJ8_node 34 = .ok (.areturn, 1) := dk_176 (dk_at dksJ8_node_1 11 rfl rfl)
theorem dJ8_node_35 : decode cJ8_node 35 = .ok (.aload_n 0, 1) := dk_42 (dk_at dksJ8_node_1 12 rfl rfl)
theorem dJ8_node_36 : decode cJ8_node 36 = .ok (.getfield 27, 3) := dk_180 0 27 (dk_at dksJ8_node_1 13 rfl rfl)
theorem dJ8_node_39 : decode cJ8_node 39 = .ok (.astore_n 2, 1) := dk_77 (dk_at dksJ8_node_1 16 rfl rfl)
theorem dJ8_node_40 : decode cJ8_node 40 = .ok (.aload_n 0, 1) := dk_42 (dk_at dksJ8_node_1 17 rfl rfl)
theorem dJ8_node_41 : decode cJ8_node 41 = .ok (.getfield 7, 3) := dk_180 0 7 (dk_at dksJ8_node_1 18 rfl rfl)
theorem dJ8_node_44 : decode cJ8_node 44 = .ok (.iconst 1, 1) := dk_4 (dk_at dksJ8_node_1 21 rfl rfl)
theorem dJ8_node_45 : decode cJ8_node 45 = .ok (.isub, 1) := dk_100 (dk_at dksJ8_node_1 22 rfl rfl)
theorem dJ8_node_46 : decode cJ8_node 46 = .ok (.istore_n 3, 1) := dk_62 (dk_at dksJ8_node_1 23 rfl rfl)
theorem dJ8_node_47 : decode cJ8_node 47 = .ok (.iload_n 3, 1) := dk_29 (dk_at dksJ8_node_2 0 rfl rfl)
theorem dJ8_node_48 : decode cJ8_node 48 = .ok (.iload_n 1, 1) := dk_27 (dk_at dksJ8_node_2 1 rfl rfl)
theorem dJ8_node_49 : decode cJ8_node 49 = .ok (.if_icmp .le 14, 3) := dk_164 0 14 (dk_at dksJ8_node_2 2 rfl rfl)
theorem dJ8_node_52 : decode cJ8_node 52 = .ok (.aload_n 2, 1) := dk_44 (dk_at dksJ8_node_2 5 rfl rfl)
theorem dJ8_node_53 : decode cJ8_node 53 = .ok (.getfield 30, 3) := dk_180 0 30 (dk_at dksJ8_node_2 6 rfl rfl)
theorem dJ8_node_56 : decode cJ8_node 56 = .ok (.astore_n 2, 1) := dk_77 (dk_at dksJ8_node_2 9 rfl rfl)
theorem dJ8_node_57 : decode cJ8_node 57 = .ok (.iinc 3 (-1), 3) := dk_132 3 255 (dk_at dksJ8_node_2 10 rfl rfl)
theorem dJ8_node_60 : decode cJ8_node 60 = .ok (.goto (-13), 3) := dk_167 255 243 (dk_at dksJ8_node_2 13 rfl rfl)
theorem dJ8_node_63 : decode cJ8_node 63 = .ok (.aload_n 2, 1) := dk_44 (dk_at dksJ8_node_2 16 rfl rfl)
theorem dJ8_node_64 : decode cJ8_node 64 = .ok (.areturn, 1) := dk_176 (dk_at dksJ8_node_2 17 rfl rfl)
abbrev cJ8_listIterator : ByteArray := prog_58_method_49_code
def yJ8_listIterator : MethodName := ⟨RJ8, "listIterator", "(I)Ljava/util/ListIterator;"⟩
def dkwJ8_listIterator_0 : List UInt8 := [42, 27, 182, 0, 76, 187, 0, 150, 89, 42, 27, 183, 0, 152, 176]
abbrev dktJ8_listIterator_0 : List UInt8 := dkwJ8_listIterator_0 ++ []
theorem dksJ8_listIterator_0 : cJ8_listIterator.data.toList.drop 0 = dktJ8_listIterator_0 := by decide +kernel
theorem dJ8_listIterator_0 : decode cJ8_listIterator 0 = .ok (.aload_n 0, 1) := dk_42 (dk_at dksJ8_listIterator_0 0 rfl rfl)
theorem dJ8_listIterator_1 : decode cJ8_listIterator 1 = .ok (.iload_n 1, 1) := dk_27 (dk_at dksJ8_listIterator_0 1 rfl rfl)
theorem dJ8_listIterator_2 : decode cJ8_listIterator 2 = .ok (.invokevirtual 76, 3) := dk_182 0 76 (dk_at dksJ8_listIterator_0 2 rfl rfl)
theorem dJ8_listIterator_5 : decode cJ8_listIterator 5 = .ok (.new 150, 3) := dk_187 0 150 (dk_at dksJ8_listIterator_0 5 rfl rfl)
theorem dJ8_listIterator_8 : decode cJ8_listIterator 8 = .ok (.dup, 1) := dk_89 (dk_at dksJ8_listIterator_0 8 rfl rfl)
theorem dJ8_listIterator_9 : decode cJ8_listIterator 9 = .ok (.aload_n 0, 1) := dk_42 (dk_at dksJ8_listIterator_0 9 rfl rfl)
theorem dJ8_listIterator_10 : decode cJ8_listIterator 10 = .ok (.iload_n 1, 1) := dk_27 (dk_at dksJ8_listIterator_0 10 rfl rfl)
theorem dJ8_listIterator_11 : decode cJ8_listIterator 11 = .ok (.invokespecial 152, 3) := dk_183 0 152 (dk_at dksJ8_listIterator_0 11 rfl rfl)
theorem dJ8_listIterator_14 : decode cJ8_listIterator 14 = .ok (.areturn, 1) := dk_176 (dk_at dksJ8_listIterator_0 14 rfl rfl)
abbrev cJ8_checkPositionIndex : ByteArray := prog_58_method_30_code
def yJ8_checkPositionIndex : MethodName := ⟨RJ8, "checkPositionIndex", "(I)V"⟩
def dkwJ8_checkPositionIndex_0 : List UInt8 := [42, 27, 182, 0, 128, 154, 0, 16, 187, 0, 119, 89, 42, 27, 182, 0, 121, 183, 0, 125, 191, 177]
abbrev dktJ8_checkPositionIndex_0 : List UInt8 := dkwJ8_checkPositionIndex_0 ++ []
theorem dksJ8_checkPositionIndex_0 : cJ8_checkPositionIndex.data.toList.drop 0 = dktJ8_checkPositionIndex_0 := by decide +kernel
theorem dJ8_checkPositionIndex_0 : decode cJ8_checkPositionIndex 0 = .ok (.aload_n 0, 1) := dk_42 (dk_at dksJ8_checkPositionIndex_0 0 rfl rfl)
theorem dJ8_checkPositionIndex_1 : decode cJ8_checkPositionIndex 1 = .ok (.iload_n 1, 1) := dk_27 (dk_at dksJ8_checkPositionIndex_0 1 rfl rfl)
theorem dJ8_checkPositionIndex_2 : decode cJ8_checkPositionIndex 2 = .ok (.invokevirtual 128, 3) := dk_182 0 128 (dk_at dksJ8_checkPositionIndex_0 2 rfl rfl)
theorem dJ8_checkPositionIndex_5 : decode cJ8_checkPositionIndex 5 = .ok (.ifCond .ne 16, 3) := dk_154 0 16 (dk_at dksJ8_checkPositionIndex_0 5 rfl rfl)
theorem dJ8_checkPositionIndex_8 : decode cJ8_checkPositionIndex 8 = .ok (.new 119, 3) := dk_187 0 119 (dk_at dksJ8_checkPositionIndex_0 8 rfl rfl)
theorem dJ8_checkPositionIndex_11 : decode cJ8_checkPositionIndex 11 = .ok (.dup, 1) := dk_89 (dk_at dksJ8_checkPositionIndex_0 11 rfl rfl)
theorem dJ8_checkPositionIndex_12 : decode cJ8_checkPositionIndex 12 = .ok (.aload_n 0, 1) := dk_42 (dk_at dksJ8_checkPositionIndex_0 12 rfl rfl)
theorem dJ8_checkPositionIndex_13 : decode cJ8_checkPositionIndex 13 = .ok (.iload_n 1, 1) := dk_27 (dk_at dksJ8_checkPositionIndex_0 13 rfl rfl)
theorem dJ8_checkPositionIndex_14 : decode cJ8_checkPositionIndex 14 = .ok (.invokevirtual 121, 3) := dk_182 0 121 (dk_at dksJ8_checkPositionIndex_0 14 rfl rfl)
theorem dJ8_checkPositionIndex_17 : decode cJ8_checkPositionIndex 17 = .ok (.invokespecial 125, 3) := dk_183 0 125 (dk_at dksJ8_checkPositionIndex_0 17 rfl rfl)
theorem dJ8_checkPositionIndex_20 : decode cJ8_checkPositionIndex 20 = .ok (.athrow, 1) := dk_191 (dk_at dksJ8_checkPositionIndex_0 20 rfl rfl)
theorem dJ8_checkPositionIndex_21 : decode cJ8_checkPositionIndex 21 = .ok (.return_, 1) := dk_177 (dk_at dksJ8_checkPositionIndex_0 21 rfl rfl)
abbrev cJ8_isPositionIndex : ByteArray := prog_58_method_27_code
def yJ8_isPositionIndex : MethodName := ⟨RJ8, "isPositionIndex", "(I)Z"⟩
def dkwJ8_isPositionIndex_0 : List UInt8 := [27, 155, 0, 15, 27, 42, 180, 0, 7, 163, 0, 7, 4, 167, 0, 4, 3, 172]
abbrev dktJ8_isPositionIndex_0 : List UInt8 := dkwJ8_isPositionIndex_0 ++ []
theorem dksJ8_isPositionIndex_0 : cJ8_isPositionIndex.data.toList.drop 0 = dktJ8_isPositionIndex_0 := by decide +kernel
theorem dJ8_isPositionIndex_0 : decode cJ8_isPositionIndex 0 = .ok (.iload_n 1, 1) := dk_27 (dk_at dksJ8_isPositionIndex_0 0 rfl rfl)
theorem dJ8_isPositionIndex_1 : decode cJ8_isPositionIndex 1 = .ok (.ifCond .lt 15, 3) := dk_155 0 15 (dk_at dksJ8_isPositionIndex_0 1 rfl rfl)
theorem dJ8_isPositionIndex_4 : decode cJ8_isPositionIndex 4 = .ok (.iload_n 1, 1) := dk_27 (dk_at dksJ8_isPositionIndex_0 4 rfl rfl)
theorem dJ8_isPositionIndex_5 : decode cJ8_isPositionIndex 5 = .ok (.aload_n 0, 1) := dk_42 (dk_at dksJ8_isPositionIndex_0 5 rfl rfl)
theorem dJ8_isPositionIndex_6 : decode cJ8_isPositionIndex 6 = .ok (.getfield 7, 3) := dk_180 0 7 (dk_at dksJ8_isPositionIndex_0 6 rfl rfl)
theorem dJ8_isPositionIndex_9 : decode cJ8_isPositionIndex 9 = .ok (.if_icmp .gt 7, 3) := dk_163 0 7 (dk_at dksJ8_isPositionIndex_0 9 rfl rfl)
theorem dJ8_isPositionIndex_12 : decode cJ8_isPositionIndex 12 = .ok (.iconst 1, 1) := dk_4 (dk_at dksJ8_isPositionIndex_0 12 rfl rfl)
theorem dJ8_isPositionIndex_13 : decode cJ8_isPositionIndex 13 = .ok (.goto 4, 3) := dk_167 0 4 (dk_at dksJ8_isPositionIndex_0 13 rfl rfl)
theorem dJ8_isPositionIndex_16 : decode cJ8_isPositionIndex 16 = .ok (.iconst 0, 1) := dk_3 (dk_at dksJ8_isPositionIndex_0 16 rfl rfl)
theorem dJ8_isPositionIndex_17 : decode cJ8_isPositionIndex 17 = .ok (.ireturn, 1) := dk_172 (dk_at dksJ8_isPositionIndex_0 17 rfl rfl)
theorem q81 : (Jvm.Cond.initialized "java/util/LinkedList") ∈ lw_all := lw_g (lw_at lw_m1 12 rfl) rfl
theorem q151 : (Jvm.Cond.sameField "java/util/LinkedList" "java/util/AbstractList" "modCount" "I") ∈ lw_all := lw_g (lw_at lw_m1 82 rfl) rfl
theorem q155 : (Jvm.Cond.fieldLink "java/util/LinkedList" (33 : Nat) "java/util/LinkedList" "modCount" "I") ∈ lw_all := lw_g (lw_at lw_m1 86 rfl) rfl
theorem q247 : (Jvm.Cond.selects "java/util/LinkedList" ({ cls := "java/lang/Object", name := "getClass", desc := "()Ljava/lang/Class;" } : Jvm.MethodName) ({ cls := "java/lang/Object", name := "getClass", desc := "()Ljava/lang/Class;" } : Jvm.MethodName)) ∈ lw_all := lw_g (lw_at lw_m1 178 rfl) rfl
theorem q266 : (Jvm.Cond.castable "java/util/LinkedList" "java/util/List") ∈ lw_tbl := lw_at lw_m1 197 rfl
theorem q267 : (Jvm.Cond.selects "java/util/LinkedList" ({ cls := "java/util/List", name := "add", desc := "(Ljava/lang/Object;)Z" } : Jvm.MethodName) ({ cls := "java/util/LinkedList", name := "add", desc := "(Ljava/lang/Object;)Z" } : Jvm.MethodName)) ∈ lw_all := lw_g (lw_at lw_m1 198 rfl) rfl
theorem q268 : (Jvm.Cond.unhidden "java/util/LinkedList" "add" "(Ljava/lang/Object;)Z") ∈ lw_tbl := lw_at lw_m1 199 rfl
theorem q269 : (Jvm.Cond.instanceMethod ({ cls := "java/util/LinkedList", name := "add", desc := "(Ljava/lang/Object;)Z" } : Jvm.MethodName)) ∈ lw_all := lw_g (lw_at lw_m1 200 rfl) rfl
theorem q270 : (Jvm.Cond.publicMethod ({ cls := "java/util/LinkedList", name := "add", desc := "(Ljava/lang/Object;)Z" } : Jvm.MethodName)) ∈ lw_tbl := lw_at lw_m1 201 rfl
theorem q271 : (Jvm.Cond.code ({ cls := "java/util/LinkedList", name := "add", desc := "(Ljava/lang/Object;)Z" } : Jvm.MethodName) prog_58_method_17_code (2 : Nat) (Option.some Jvm.ClassFile.FieldType.boolean)) ∈ lw_all := lw_g (lw_at lw_m1 202 rfl) rfl
theorem q272 : (Jvm.Cond.methodLink "java/util/LinkedList" (57 : Nat) ({ cls := "java/util/LinkedList", name := "linkLast", desc := "(Ljava/lang/Object;)V" } : Jvm.MethodName)) ∈ lw_all := lw_g (lw_at lw_m1 203 rfl) rfl
theorem q273 : (Jvm.Cond.instanceMethod ({ cls := "java/util/LinkedList", name := "linkLast", desc := "(Ljava/lang/Object;)V" } : Jvm.MethodName)) ∈ lw_all := lw_g (lw_at lw_m1 204 rfl) rfl
theorem q274 : (Jvm.Cond.selects "java/util/LinkedList" ({ cls := "java/util/LinkedList", name := "linkLast", desc := "(Ljava/lang/Object;)V" } : Jvm.MethodName) ({ cls := "java/util/LinkedList", name := "linkLast", desc := "(Ljava/lang/Object;)V" } : Jvm.MethodName)) ∈ lw_all := lw_g (lw_at lw_m1 205 rfl) rfl
theorem q275 : (Jvm.Cond.code ({ cls := "java/util/LinkedList", name := "linkLast", desc := "(Ljava/lang/Object;)V" } : Jvm.MethodName) prog_58_method_4_code (4 : Nat) (Option.none : Option Jvm.ClassFile.FieldType)) ∈ lw_all := lw_g (lw_at lw_m1 206 rfl) rfl
theorem q276 : (Jvm.Cond.classLink "java/util/LinkedList" (22 : Nat) "java/util/LinkedList$Node") ∈ lw_all := lw_g (lw_at lw_m1 207 rfl) rfl
theorem q278 : (Jvm.Cond.methodLink "java/util/LinkedList" (24 : Nat) ({ cls := "java/util/LinkedList$Node", name := "<init>", desc := "(Ljava/util/LinkedList$Node;Ljava/lang/Object;Ljava/util/LinkedList$Node;)V" } : Jvm.MethodName)) ∈ lw_all := lw_g (lw_at lw_m1 209 rfl) rfl
theorem q284 : (Jvm.Cond.fieldLink "java/util/LinkedList" (39 : Nat) "java/util/LinkedList$Node" "item" "Ljava/lang/Object;") ∈ lw_all := lw_g (lw_at lw_m1 215 rfl) rfl
theorem q287 : (Jvm.Cond.fieldLink "java/util/LinkedList" (36 : Nat) "java/util/LinkedList$Node" "next" "Ljava/util/LinkedList$Node;") ∈ lw_all := lw_g (lw_at lw_m1 218 rfl) rfl
theorem q289 : (Jvm.Cond.fieldLink "java/util/LinkedList" (30 : Nat) "java/util/LinkedList$Node" "prev" "Ljava/util/LinkedList$Node;") ∈ lw_all := lw_g (lw_at lw_m1 220 rfl) rfl
theorem q298 : (Jvm.Cond.instantiable "java/util/LinkedList" (4 : Nat)) ∈ lw_all := lw_g (lw_at lw_m1 229 rfl) rfl
theorem q300 : (Jvm.Cond.instanceMethod ({ cls := "java/util/LinkedList", name := "<init>", desc := "()V" } : Jvm.MethodName)) ∈ lw_all := lw_g (lw_at lw_m1 231 rfl) rfl
theorem q301 : (Jvm.Cond.code ({ cls := "java/util/LinkedList", name := "<init>", desc := "()V" } : Jvm.MethodName) prog_58_method_1_code (1 : Nat) (Option.none : Option Jvm.ClassFile.FieldType)) ∈ lw_all := lw_g (lw_at lw_m1 232 rfl) rfl
theorem q302 : (Jvm.Cond.methodLink "java/util/LinkedList" (1 : Nat) ({ cls := "java/util/AbstractSequentialList", name := "<init>", desc := "()V" } : Jvm.MethodName)) ∈ lw_all := lw_g (lw_at lw_m1 233 rfl) rfl
theorem q306 : (Jvm.Cond.fieldLink "java/util/LinkedList" (7 : Nat) "java/util/LinkedList" "size" "I") ∈ lw_all := lw_g (lw_at lw_m1 237 rfl) rfl
theorem q308 : (Jvm.Cond.fieldLink "java/util/LinkedList" (18 : Nat) "java/util/LinkedList" "first" "Ljava/util/LinkedList$Node;") ∈ lw_all := lw_g (lw_at lw_m1 239 rfl) rfl
theorem q309 : (Jvm.Cond.fieldLink "java/util/LinkedList" (27 : Nat) "java/util/LinkedList" "last" "Ljava/util/LinkedList$Node;") ∈ lw_all := lw_g (lw_at lw_m2 0 rfl) rfl
theorem q310 : (Jvm.Cond.lays "java/util/LinkedList" "java/util/LinkedList" "size" "I") ∈ lw_all := lw_g (lw_at lw_m2 1 rfl) rfl
theorem q311 : (Jvm.Cond.soleField "java/util/LinkedList" "size") ∈ lw_all := lw_g (lw_at lw_m2 2 rfl) rfl
theorem q312 : (Jvm.Cond.lays "java/util/LinkedList" "java/util/LinkedList" "first" "Ljava/util/LinkedList$Node;") ∈ lw_all := lw_g (lw_at lw_m2 3 rfl) rfl
theorem q313 : (Jvm.Cond.soleField "java/util/LinkedList" "first") ∈ lw_all := lw_g (lw_at lw_m2 4 rfl) rfl
theorem q314 : (Jvm.Cond.lays "java/util/LinkedList" "java/util/LinkedList" "last" "Ljava/util/LinkedList$Node;") ∈ lw_all := lw_g (lw_at lw_m2 5 rfl) rfl
theorem q315 : (Jvm.Cond.soleField "java/util/LinkedList" "last") ∈ lw_all := lw_g (lw_at lw_m2 6 rfl) rfl
theorem q316 : (Jvm.Cond.lays "java/util/LinkedList" "java/util/AbstractList" "modCount" "I") ∈ lw_all := lw_g (lw_at lw_m2 7 rfl) rfl
theorem q317 : (Jvm.Cond.superclass "java/util/LinkedList" "java/util/AbstractSequentialList") ∈ lw_all := lw_g (lw_at lw_m2 8 rfl) rfl
theorem q375 : (Jvm.Cond.selects "java/util/LinkedList" ({ cls := "java/util/List", name := "clear", desc := "()V" } : Jvm.MethodName) ({ cls := "java/util/LinkedList", name := "clear", desc := "()V" } : Jvm.MethodName)) ∈ lw_all := lw_g (lw_at lw_m2 66 rfl) rfl
theorem q376 : (Jvm.Cond.unhidden "java/util/LinkedList" "clear" "()V") ∈ lw_tbl := lw_at lw_m2 67 rfl
theorem q377 : (Jvm.Cond.instanceMethod ({ cls := "java/util/LinkedList", name := "clear", desc := "()V" } : Jvm.MethodName)) ∈ lw_all := lw_g (lw_at lw_m2 68 rfl) rfl
theorem q378 : (Jvm.Cond.publicMethod ({ cls := "java/util/LinkedList", name := "clear", desc := "()V" } : Jvm.MethodName)) ∈ lw_tbl := lw_at lw_m2 69 rfl
theorem q379 : (Jvm.Cond.code ({ cls := "java/util/LinkedList", name := "clear", desc := "()V" } : Jvm.MethodName) prog_58_method_21_code (3 : Nat) (Option.none : Option Jvm.ClassFile.FieldType)) ∈ lw_all := lw_g (lw_at lw_m2 70 rfl) rfl
theorem q400 : (Jvm.Cond.selects "java/util/LinkedList" ({ cls := "java/util/List", name := "size", desc := "()I" } : Jvm.MethodName) ({ cls := "java/util/LinkedList", name := "size", desc := "()I" } : Jvm.MethodName)) ∈ lw_all := lw_g (lw_at lw_m2 91 rfl) rfl
theorem q401 : (Jvm.Cond.unhidden "java/util/LinkedList" "size" "()I") ∈ lw_tbl := lw_at lw_m2 92 rfl
theorem q402 : (Jvm.Cond.instanceMethod ({ cls := "java/util/LinkedList", name := "size", desc := "()I" } : Jvm.MethodName)) ∈ lw_all := lw_g (lw_at lw_m2 93 rfl) rfl
theorem q403 : (Jvm.Cond.publicMethod ({ cls := "java/util/LinkedList", name := "size", desc := "()I" } : Jvm.MethodName)) ∈ lw_tbl := lw_at lw_m2 94 rfl
theorem q404 : (Jvm.Cond.code ({ cls := "java/util/LinkedList", name := "size", desc := "()I" } : Jvm.MethodName) prog_58_method_16_code (1 : Nat) (Option.some Jvm.ClassFile.FieldType.int)) ∈ lw_all := lw_g (lw_at lw_m2 95 rfl) rfl
theorem q432 : (Jvm.Cond.selects "java/util/LinkedList" ({ cls := "java/util/List", name := "get", desc := "(I)Ljava/lang/Object;" } : Jvm.MethodName) ({ cls := "java/util/LinkedList", name := "get", desc := "(I)Ljava/lang/Object;" } : Jvm.MethodName)) ∈ lw_all := lw_g (lw_at lw_m2 123 rfl) rfl
theorem q433 : (Jvm.Cond.unhidden "java/util/LinkedList" "get" "(I)Ljava/lang/Object;") ∈ lw_tbl := lw_at lw_m2 124 rfl
theorem q434 : (Jvm.Cond.instanceMethod ({ cls := "java/util/LinkedList", name := "get", desc := "(I)Ljava/lang/Object;" } : Jvm.MethodName)) ∈ lw_all := lw_g (lw_at lw_m2 125 rfl) rfl
theorem q435 : (Jvm.Cond.publicMethod ({ cls := "java/util/LinkedList", name := "get", desc := "(I)Ljava/lang/Object;" } : Jvm.MethodName)) ∈ lw_tbl := lw_at lw_m2 126 rfl
theorem q436 : (Jvm.Cond.code ({ cls := "java/util/LinkedList", name := "get", desc := "(I)Ljava/lang/Object;" } : Jvm.MethodName) prog_58_method_22_code (2 : Nat) (Option.some (Jvm.ClassFile.FieldType.object "java/lang/Object"))) ∈ lw_all := lw_g (lw_at lw_m2 127 rfl) rfl
theorem q437 : (Jvm.Cond.methodLink "java/util/LinkedList" (90 : Nat) ({ cls := "java/util/LinkedList", name := "checkElementIndex", desc := "(I)V" } : Jvm.MethodName)) ∈ lw_all := lw_g (lw_at lw_m2 128 rfl) rfl
theorem q438 : (Jvm.Cond.privateMethod ({ cls := "java/util/LinkedList", name := "checkElementIndex", desc := "(I)V" } : Jvm.MethodName)) ∈ lw_tbl := lw_at lw_m2 129 rfl
theorem q439 : (Jvm.Cond.instanceMethod ({ cls := "java/util/LinkedList", name := "checkElementIndex", desc := "(I)V" } : Jvm.MethodName)) ∈ lw_all := lw_g (lw_at lw_m2 130 rfl) rfl
theorem q440 : (Jvm.Cond.code ({ cls := "java/util/LinkedList", name := "checkElementIndex", desc := "(I)V" } : Jvm.MethodName) prog_58_method_29_code (2 : Nat) (Option.none : Option Jvm.ClassFile.FieldType)) ∈ lw_all := lw_g (lw_at lw_m2 131 rfl) rfl
theorem q441 : (Jvm.Cond.methodLink "java/util/LinkedList" (115 : Nat) ({ cls := "java/util/LinkedList", name := "isElementIndex", desc := "(I)Z" } : Jvm.MethodName)) ∈ lw_all := lw_g (lw_at lw_m2 132 rfl) rfl
theorem q442 : (Jvm.Cond.privateMethod ({ cls := "java/util/LinkedList", name := "isElementIndex", desc := "(I)Z" } : Jvm.MethodName)) ∈ lw_tbl := lw_at lw_m2 133 rfl
theorem q443 : (Jvm.Cond.instanceMethod ({ cls := "java/util/LinkedList", name := "isElementIndex", desc := "(I)Z" } : Jvm.MethodName)) ∈ lw_all := lw_g (lw_at lw_m2 134 rfl) rfl
theorem q444 : (Jvm.Cond.code ({ cls := "java/util/LinkedList", name := "isElementIndex", desc := "(I)Z" } : Jvm.MethodName) prog_58_method_26_code (2 : Nat) (Option.some Jvm.ClassFile.FieldType.boolean)) ∈ lw_all := lw_g (lw_at lw_m2 135 rfl) rfl
theorem q445 : (Jvm.Cond.classLink "java/util/LinkedList" (119 : Nat) "java/lang/IndexOutOfBoundsException") ∈ lw_all := lw_g (lw_at lw_m2 136 rfl) rfl
theorem q491 : (Jvm.Cond.methodLink "java/util/LinkedList" (121 : Nat) ({ cls := "java/util/LinkedList", name := "outOfBoundsMsg", desc := "(I)Ljava/lang/String;" } : Jvm.MethodName)) ∈ lw_all := lw_g (lw_at lw_m2 182 rfl) rfl
theorem q492 : (Jvm.Cond.privateMethod ({ cls := "java/util/LinkedList", name := "outOfBoundsMsg", desc := "(I)Ljava/lang/String;" } : Jvm.MethodName)) ∈ lw_tbl := lw_at lw_m2 183 rfl
theorem q493 : (Jvm.Cond.instanceMethod ({ cls := "java/util/LinkedList", name := "outOfBoundsMsg", desc := "(I)Ljava/lang/String;" } : Jvm.MethodName)) ∈ lw_all := lw_g (lw_at lw_m2 184 rfl) rfl
theorem q494 : (Jvm.Cond.code ({ cls := "java/util/LinkedList", name := "outOfBoundsMsg", desc := "(I)Ljava/lang/String;" } : Jvm.MethodName) prog_58_method_28_code (2 : Nat) (Option.some (Jvm.ClassFile.FieldType.object "java/lang/String"))) ∈ lw_all := lw_g (lw_at lw_m2 185 rfl) rfl
theorem q495 : (Jvm.Cond.classLink "java/util/LinkedList" (97 : Nat) "java/lang/StringBuilder") ∈ lw_all := lw_g (lw_at lw_m2 186 rfl) rfl
theorem q497 : (Jvm.Cond.methodLink "java/util/LinkedList" (99 : Nat) ({ cls := "java/lang/StringBuilder", name := "<init>", desc := "()V" } : Jvm.MethodName)) ∈ lw_all := lw_g (lw_at lw_m2 188 rfl) rfl
theorem q527 : (Jvm.Cond.stringRef "java/util/LinkedList" (100 : Nat) "Index: ") ∈ lw_tbl := lw_at lw_m2 218 rfl
theorem q528 : (Jvm.Cond.methodLink "java/util/LinkedList" (102 : Nat) ({ cls := "java/lang/StringBuilder", name := "append", desc := "(Ljava/lang/String;)Ljava/lang/StringBuilder;" } : Jvm.MethodName)) ∈ lw_all := lw_g (lw_at lw_m2 219 rfl) rfl
theorem q633 : (Jvm.Cond.methodLink "java/util/LinkedList" (106 : Nat) ({ cls := "java/lang/StringBuilder", name := "append", desc := "(I)Ljava/lang/StringBuilder;" } : Jvm.MethodName)) ∈ lw_all := lw_g (lw_at lw_m3 84 rfl) rfl
theorem q658 : (Jvm.Cond.stringRef "java/util/LinkedList" (109 : Nat) ", Size: ") ∈ lw_tbl := lw_at lw_m3 109 rfl
theorem q659 : (Jvm.Cond.methodLink "java/util/LinkedList" (111 : Nat) ({ cls := "java/lang/StringBuilder", name := "toString", desc := "()Ljava/lang/String;" } : Jvm.MethodName)) ∈ lw_all := lw_g (lw_at lw_m3 110 rfl) rfl
theorem q759 : (Jvm.Cond.methodLink "java/util/LinkedList" (125 : Nat) ({ cls := "java/lang/IndexOutOfBoundsException", name := "<init>", desc := "(Ljava/lang/String;)V" } : Jvm.MethodName)) ∈ lw_all := lw_g (lw_at lw_m3 210 rfl) rfl
theorem q765 : (Jvm.Cond.methodLink "java/util/LinkedList" (86 : Nat) ({ cls := "java/util/LinkedList", name := "node", desc := "(I)Ljava/util/LinkedList$Node;" } : Jvm.MethodName)) ∈ lw_all := lw_g (lw_at lw_m3 216 rfl) rfl
theorem q766 : (Jvm.Cond.instanceMethod ({ cls := "java/util/LinkedList", name := "node", desc := "(I)Ljava/util/LinkedList$Node;" } : Jvm.MethodName)) ∈ lw_all := lw_g (lw_at lw_m3 217 rfl) rfl
theorem q767 : (Jvm.Cond.selects "java/util/LinkedList" ({ cls := "java/util/LinkedList", name := "node", desc := "(I)Ljava/util/LinkedList$Node;" } : Jvm.MethodName) ({ cls := "java/util/LinkedList", name := "node", desc := "(I)Ljava/util/LinkedList$Node;" } : Jvm.MethodName)) ∈ lw_all := lw_g (lw_at lw_m3 218 rfl) rfl
theorem q768 : (Jvm.Cond.code ({ cls := "java/util/LinkedList", name := "node", desc := "(I)Ljava/util/LinkedList$Node;" } : Jvm.MethodName) prog_58_method_31_code (4 : Nat) (Option.some (Jvm.ClassFile.FieldType.object "java/util/LinkedList$Node"))) ∈ lw_all := lw_g (lw_at lw_m3 219 rfl) rfl
theorem q811 : (Jvm.Cond.selects "java/util/LinkedList" ({ cls := "java/util/List", name := "iterator", desc := "()Ljava/util/Iterator;" } : Jvm.MethodName) ({ cls := "java/util/AbstractSequentialList", name := "iterator", desc := "()Ljava/util/Iterator;" } : Jvm.MethodName)) ∈ lw_all := lw_g (lw_at lw_m4 22 rfl) rfl
theorem q812 : (Jvm.Cond.unhidden "java/util/LinkedList" "iterator" "()Ljava/util/Iterator;") ∈ lw_tbl := lw_at lw_m4 23 rfl
theorem q819 : (Jvm.Cond.selects "java/util/LinkedList" ({ cls := "java/util/AbstractSequentialList", name := "listIterator", desc := "()Ljava/util/ListIterator;" } : Jvm.MethodName) ({ cls := "java/util/AbstractList", name := "listIterator", desc := "()Ljava/util/ListIterator;" } : Jvm.MethodName)) ∈ lw_all := lw_g (lw_at lw_m4 30 rfl) rfl
theorem q859 : (Jvm.Cond.selects "java/util/LinkedList" ({ cls := "java/util/AbstractList", name := "listIterator", desc := "(I)Ljava/util/ListIterator;" } : Jvm.MethodName) ({ cls := "java/util/LinkedList", name := "listIterator", desc := "(I)Ljava/util/ListIterator;" } : Jvm.MethodName)) ∈ lw_all := lw_g (lw_at lw_m4 70 rfl) rfl
theorem q860 : (Jvm.Cond.instanceMethod ({ cls := "java/util/LinkedList", name := "listIterator", desc := "(I)Ljava/util/ListIterator;" } : Jvm.MethodName)) ∈ lw_all := lw_g (lw_at lw_m4 71 rfl) rfl
theorem q861 : (Jvm.Cond.code ({ cls := "java/util/LinkedList", name := "listIterator", desc := "(I)Ljava/util/ListIterator;" } : Jvm.MethodName) prog_58_method_49_code (2 : Nat) (Option.some (Jvm.ClassFile.FieldType.object "java/util/ListIterator"))) ∈ lw_all := lw_g (lw_at lw_m4 72 rfl) rfl
theorem q862 : (Jvm.Cond.methodLink "java/util/LinkedList" (76 : Nat) ({ cls := "java/util/LinkedList", name := "checkPositionIndex", desc := "(I)V" } : Jvm.MethodName)) ∈ lw_all := lw_g (lw_at lw_m4 73 rfl) rfl
theorem q863 : (Jvm.Cond.privateMethod ({ cls := "java/util/LinkedList", name := "checkPositionIndex", desc := "(I)V" } : Jvm.MethodName)) ∈ lw_tbl := lw_at lw_m4 74 rfl
theorem q864 : (Jvm.Cond.instanceMethod ({ cls := "java/util/LinkedList", name := "checkPositionIndex", desc := "(I)V" } : Jvm.MethodName)) ∈ lw_all := lw_g (lw_at lw_m4 75 rfl) rfl
theorem q865 : (Jvm.Cond.code ({ cls := "java/util/LinkedList", name := "checkPositionIndex", desc := "(I)V" } : Jvm.MethodName) prog_58_method_30_code (2 : Nat) (Option.none : Option Jvm.ClassFile.FieldType)) ∈ lw_all := lw_g (lw_at lw_m4 76 rfl) rfl
theorem q866 : (Jvm.Cond.methodLink "java/util/LinkedList" (128 : Nat) ({ cls := "java/util/LinkedList", name := "isPositionIndex", desc := "(I)Z" } : Jvm.MethodName)) ∈ lw_all := lw_g (lw_at lw_m4 77 rfl) rfl
theorem q867 : (Jvm.Cond.privateMethod ({ cls := "java/util/LinkedList", name := "isPositionIndex", desc := "(I)Z" } : Jvm.MethodName)) ∈ lw_tbl := lw_at lw_m4 78 rfl
theorem q868 : (Jvm.Cond.instanceMethod ({ cls := "java/util/LinkedList", name := "isPositionIndex", desc := "(I)Z" } : Jvm.MethodName)) ∈ lw_all := lw_g (lw_at lw_m4 79 rfl) rfl
theorem q869 : (Jvm.Cond.code ({ cls := "java/util/LinkedList", name := "isPositionIndex", desc := "(I)Z" } : Jvm.MethodName) prog_58_method_27_code (2 : Nat) (Option.some Jvm.ClassFile.FieldType.boolean)) ∈ lw_all := lw_g (lw_at lw_m4 80 rfl) rfl
theorem q870 : (Jvm.Cond.classLink "java/util/LinkedList" (150 : Nat) "java/util/LinkedList$ListItr") ∈ lw_all := lw_g (lw_at lw_m4 81 rfl) rfl
theorem q872 : (Jvm.Cond.methodLink "java/util/LinkedList" (152 : Nat) ({ cls := "java/util/LinkedList$ListItr", name := "<init>", desc := "(Ljava/util/LinkedList;I)V" } : Jvm.MethodName)) ∈ lw_all := lw_g (lw_at lw_m4 83 rfl) rfl
theorem q914 : (Jvm.Cond.selects "java/util/LinkedList" ({ cls := "java/util/AbstractList", name := "size", desc := "()I" } : Jvm.MethodName) ({ cls := "java/util/LinkedList", name := "size", desc := "()I" } : Jvm.MethodName)) ∈ lw_all := lw_g (lw_at lw_m4 125 rfl) rfl
theorem q1033 : (Jvm.Cond.selects "java/util/LinkedList" ({ cls := "java/util/AbstractList", name := "get", desc := "(I)Ljava/lang/Object;" } : Jvm.MethodName) ({ cls := "java/util/LinkedList", name := "get", desc := "(I)Ljava/lang/Object;" } : Jvm.MethodName)) ∈ lw_all := lw_g (lw_at lw_m5 4 rfl) rfl
theorem q2064 : (Jvm.Cond.castable "java/util/LinkedList" "java/lang/Object") ∈ lw_tbl := lw_at lw_m9 75 rfl
theorem in_J8 : ∀ w ∈ wsJ80, w ∈ lw_all := lw_in wsJ80 [316, 310, 312, 314] (by decide +kernel) (by decide +kernel)
/-! java/util/ArrayDeque -/
set_option maxRecDepth 100000
def RJ9 : String := "java/util/ArrayDeque"
def TJ9 : u_T := fun k => match k with
  | 0 => ("java/util/ArrayDeque", "elements", "[Ljava/lang/Object;", false)
  | 1 => ("java/util/ArrayDeque", "head", "I", false)
  | _ => ("java/util/ArrayDeque", "tail", "I", false)
def tyJ9 : Nat → FieldType := fun k => match k with
  | 0 => .array (.object "java/lang/Object")
  | 1 => .int
  | _ => .int
abbrev wsJ90 : List Cond := u_ws RJ9 TJ9 3
theorem nmJ9 : ∀ a, a < 3 → ∀ b, b < 3 → a ≠ b → (TJ9 a).2.1 ≠ (TJ9 b).2.1 := by decide +kernel
theorem tyJ9_ok : ∀ k, k < 3 → parseFieldDescriptor (TJ9 k).2.2.1 = some (tyJ9 k) := by decide +kernel
abbrev cJ9_init : ByteArray := prog_48_method_3_code
def yJ9_init : MethodName := ⟨RJ9, "<init>", "()V"⟩
def dkwJ9_init_0 : List UInt8 := [42, 183, 0, 42, 42, 16, 17, 189, 0, 47, 181, 0, 3, 177]
abbrev dktJ9_init_0 : List UInt8 := dkwJ9_init_0 ++ []
theorem dksJ9_init_0 : cJ9_init.data.toList.drop 0 = dktJ9_init_0 := by decide +kernel
theorem dJ9_init_0 : decode cJ9_init 0 = .ok (.aload_n 0, 1) := dk_42 (dk_at dksJ9_init_0 0 rfl rfl)
theorem dJ9_init_1 : decode cJ9_init 1 = .ok (.invokespecial 42, 3) := dk_183 0 42 (dk_at dksJ9_init_0 1 rfl rfl)
theorem dJ9_init_4 : decode cJ9_init 4 = .ok (.aload_n 0, 1) := dk_42 (dk_at dksJ9_init_0 4 rfl rfl)
theorem dJ9_init_5 : decode cJ9_init 5 = .ok (.bipush 17, 2) := dk_16 17 (dk_at dksJ9_init_0 5 rfl rfl)
theorem dJ9_init_7 : decode cJ9_init 7 = .ok (.anewarray 47, 3) := dk_189 0 47 (dk_at dksJ9_init_0 7 rfl rfl)
theorem dJ9_init_10 : decode cJ9_init 10 = .ok (.putfield 3, 3) := dk_181 0 3 (dk_at dksJ9_init_0 10 rfl rfl)
theorem dJ9_init_13 : decode cJ9_init 13 = .ok (.return_, 1) := dk_177 (dk_at dksJ9_init_0 13 rfl rfl)
abbrev cJ9_clear : ByteArray := prog_48_method_53_code
def yJ9_clear : MethodName := ⟨RJ9, "clear", "()V"⟩
def dkwJ9_clear_1 : List UInt8 := [181, 0, 24, 177]
abbrev dktJ9_clear_1 : List UInt8 := dkwJ9_clear_1 ++ []
def dkwJ9_clear_0 : List UInt8 := [42, 180, 0, 3, 42, 180, 0, 24, 42, 180, 0, 20, 184, 0, 181, 42, 42, 3, 90, 181, 0, 20]
abbrev dktJ9_clear_0 : List UInt8 := dkwJ9_clear_0 ++ dktJ9_clear_1
theorem dksJ9_clear_0 : cJ9_clear.data.toList.drop 0 = dktJ9_clear_0 := by decide +kernel
theorem dksJ9_clear_1 : cJ9_clear.data.toList.drop 22 = dktJ9_clear_1 := dk_seg dksJ9_clear_0 22 rfl rfl
theorem dJ9_clear_0 : decode cJ9_clear 0 = .ok (.aload_n 0, 1) := dk_42 (dk_at dksJ9_clear_0 0 rfl rfl)
theorem dJ9_clear_1 : decode cJ9_clear 1 = .ok (.getfield 3, 3) := dk_180 0 3 (dk_at dksJ9_clear_0 1 rfl rfl)
theorem dJ9_clear_4 : decode cJ9_clear 4 = .ok (.aload_n 0, 1) := dk_42 (dk_at dksJ9_clear_0 4 rfl rfl)
theorem dJ9_clear_5 : decode cJ9_clear 5 = .ok (.getfield 24, 3) := dk_180 0 24 (dk_at dksJ9_clear_0 5 rfl rfl)
theorem dJ9_clear_8 : decode cJ9_clear 8 = .ok (.aload_n 0, 1) := dk_42 (dk_at dksJ9_clear_0 8 rfl rfl)
theorem dJ9_clear_9 : decode cJ9_clear 9 = .ok (.getfield 20, 3) := dk_180 0 20 (dk_at dksJ9_clear_0 9 rfl rfl)
theorem dJ9_clear_12 : decode cJ9_clear 12 = .ok (.invokestatic 181, 3) := dk_184 0 181 (dk_at dksJ9_clear_0 12 rfl rfl)
theorem dJ9_clear_15 : decode cJ9_clear 15 = .ok (.aload_n 0, 1) := dk_42 (dk_at dksJ9_clear_0 15 rfl rfl)
theorem dJ9_clear_16 : decode cJ9_clear 16 = .ok (.aload_n 0, 1) := dk_42 (dk_at dksJ9_clear_0 16 rfl rfl)
theorem dJ9_clear_17 : decode cJ9_clear 17 = .ok (.iconst 0, 1) := dk_3 (dk_at dksJ9_clear_0 17 rfl rfl)
theorem dJ9_clear_18 : decode cJ9_clear 18 = .ok (.dup_x1, 1) := dk_90 (dk_at dksJ9_clear_0 18 rfl rfl)
theorem dJ9_clear_19 : decode cJ9_clear 19 = .ok (.putfield 20, 3) := dk_181 0 20 (dk_at dksJ9_clear_0 19 rfl rfl)
theorem dJ9_clear_22 : decode cJ9_clear 22 = .ok (.putfield 24, 3) := dk_181 0 24 (dk_at dksJ9_clear_1 0 rfl rfl)
theorem dJ9_clear_25 : decode cJ9_clear 25 = .ok (.return_, 1) := dk_177 (dk_at dksJ9_clear_1 3 rfl rfl)
abbrev cJ9_circularClear : ByteArray := prog_48_method_54_code
def yJ9_circularClear : MethodName := ⟨RJ9, "circularClear", "([Ljava/lang/Object;II)V"⟩
def dkwJ9_circularClear_1 : List UInt8 := [167, 255, 244, 29, 28, 160, 0, 6, 167, 0, 10, 3, 60, 28, 62, 167, 255, 229, 177]
abbrev dktJ9_circularClear_1 : List UInt8 := dkwJ9_circularClear_1 ++ []
def dkwJ9_circularClear_0 : List UInt8 := [27, 28, 163, 0, 7, 28, 167, 0, 5, 42, 190, 62, 27, 29, 162, 0, 13, 42, 27, 1, 83, 132, 1, 1]
abbrev dktJ9_circularClear_0 : List UInt8 := dkwJ9_circularClear_0 ++ dktJ9_circularClear_1
theorem dksJ9_circularClear_0 : cJ9_circularClear.data.toList.drop 0 = dktJ9_circularClear_0 := by decide +kernel
theorem dksJ9_circularClear_1 : cJ9_circularClear.data.toList.drop 24 = dktJ9_circularClear_1 := dk_seg dksJ9_circularClear_0 24 rfl rfl
theorem dJ9_circularClear_0 : decode cJ9_circularClear 0 = .ok (.iload_n 1, 1) := dk_27 (dk_at dksJ9_circularClear_0 0 rfl rfl)
theorem dJ9_circularClear_1 : decode cJ9_circularClear 1 = .ok (.iload_n 2, 1) := dk_28 (dk_at dksJ9_circularClear_0 1 rfl rfl)
theorem dJ9_circularClear_2 : decode cJ9_circularClear 2 = .ok (.if_icmp .gt 7, 3) := dk_163 0 7 (dk_at dksJ9_circularClear_0 2 rfl rfl)
theorem dJ9_circularClear_5 : decode cJ9_circularClear 5 = .ok (.iload_n 2, 1) := dk_28 (dk_at dksJ9_circularClear_0 5 rfl rfl)
theorem dJ9_circularClear_6 : decode cJ9_circularClear 6 = .ok (.goto 5, 3) := dk_167 0 5 (dk_at dksJ9_circularClear_0 6 rfl rfl)
theorem dJ9_circularClear_9 : decode cJ9_circularClear 9 = .ok (.aload_n 0, 1) := dk_42 (dk_at dksJ9_circularClear_0 9 rfl rfl)
theorem dJ9_circularClear_10 : decode cJ9_circularClear 10 = .ok (.arraylength, 1) := dk_190 (dk_at dksJ9_circularClear_0 10 rfl rfl)
theorem dJ9_circularClear_11 : decode cJ9_circularClear 11 = .ok (.istore_n 3, 1) := dk_62 (dk_at dksJ9_circularClear_0 11 rfl rfl)
theorem dJ9_circularClear_12 : decode cJ9_circularClear 12 = .ok (.iload_n 1, 1) := dk_27 (dk_at dksJ9_circularClear_0 12 rfl rfl)
theorem dJ9_circularClear_13 : decode cJ9_circularClear 13 = .ok (.iload_n 3, 1) := dk_29 (dk_at dksJ9_circularClear_0 13 rfl rfl)
theorem dJ9_circularClear_14 : decode cJ9_circularClear 14 = .ok (.if_icmp .ge 13, 3) := dk_162 0 13 (dk_at dksJ9_circularClear_0 14 rfl rfl)
theorem dJ9_circularClear_17 : decode cJ9_circularClear 17 = .ok (.aload_n 0, 1) := dk_42 (dk_at dksJ9_circularClear_0 17 rfl rfl)
theorem dJ9_circularClear_18 : decode cJ9_circularClear 18 = .ok (.iload_n 1, 1) := dk_27 (dk_at dksJ9_circularClear_0 18 rfl rfl)
theorem dJ9_circularClear_19 : decode cJ9_circularClear 19 = .ok (.aconst_null, 1) := dk_1 (dk_at dksJ9_circularClear_0 19 rfl rfl)
theorem dJ9_circularClear_20 : decode cJ9_circularClear 20 = .ok (.aastore, 1) := dk_83 (dk_at dksJ9_circularClear_0 20 rfl rfl)
theorem dJ9_circularClear_21 : decode cJ9_circularClear 21 = .ok (.iinc 1 1, 3) := dk_132 1 1 (dk_at dksJ9_circularClear_0 21 rfl rfl)
theorem dJ9_circularClear_24 : decode cJ9_circularClear 24 = .ok (.goto (-12), 3) := dk_167 255 244 (dk_at dksJ9_circularClear_1 0 rfl rfl)
theorem dJ9_circularClear_27 : decode cJ9_circularClear 27 = .ok (.iload_n 3, 1) := dk_29 (dk_at dksJ9_circularClear_1 3 rfl rfl)
theorem dJ9_circularClear_28 : decode cJ9_circularClear 28 = .ok (.iload_n 2, 1) := dk_28 (dk_at dksJ9_circularClear_1 4 rfl rfl)
theorem dJ9_circularClear_29 : decode cJ9_circularClear 29 = .ok (.if_icmp .ne 6, 3) := dk_160 0 6 (dk_at dksJ9_circularClear_1 5 rfl rfl)
theorem dJ9_circularClear_32 : decode cJ9_circularClear 32 = .ok (.goto 10, 3) := dk_167 0 10 (dk_at dksJ9_circularClear_1 8 rfl rfl)
theorem dJ9_circularClear_35 : decode cJ9_circularClear 35 = .ok (.iconst 0, 1) := dk_3 (dk_at dksJ9_circularClear_1 11 rfl rfl)
theorem dJ9_circularClear_36 : decode cJ9_circularClear 36 = .ok (.istore_n 1, 1) := dk_60 (dk_at dksJ9_circularClear_1 12 rfl rfl)
theorem dJ9_circularClear_37 : decode cJ9_circularClear 37 = .ok (.iload_n 2, 1) := dk_28 (dk_at dksJ9_circularClear_1 13 rfl rfl)
theorem dJ9_circularClear_38 : decode cJ9_circularClear 38 = .ok (.istore_n 3, 1) := dk_62 (dk_at dksJ9_circularClear_1 14 rfl rfl)
theorem dJ9_circularClear_39 : decode cJ9_circularClear 39 = .ok (.goto (-27), 3) := dk_167 255 229 (dk_at dksJ9_circularClear_1 15 rfl rfl)
theorem dJ9_circularClear_42 : decode cJ9_circularClear 42 = .ok (.return_, 1) := dk_177 (dk_at dksJ9_circularClear_1 18 rfl rfl)
abbrev cJ9_nonNullElementAt : ByteArray := prog_48_method_11_code
def yJ9_nonNullElementAt : MethodName := ⟨RJ9, "nonNullElementAt", "([Ljava/lang/Object;I)Ljava/lang/Object;"⟩
def dkwJ9_nonNullElementAt_0 : List UInt8 := [42, 27, 50, 77, 44, 199, 0, 11, 187, 0, 62, 89, 183, 0, 64, 191, 44, 176]
abbrev dktJ9_nonNullElementAt_0 : List UInt8 := dkwJ9_nonNullElementAt_0 ++ []
theorem dksJ9_nonNullElementAt_0 : cJ9_nonNullElementAt.data.toList.drop 0 = dktJ9_nonNullElementAt_0 := by decide +kernel
theorem dJ9_nonNullElementAt_0 : decode cJ9_nonNullElementAt 0 = .ok (.aload_n 0, 1) := dk_42 (dk_at dksJ9_nonNullElementAt_0 0 rfl rfl)
theorem dJ9_nonNullElementAt_1 : decode cJ9_nonNullElementAt 1 = .ok (.iload_n 1, 1) := dk_27 (dk_at dksJ9_nonNullElementAt_0 1 rfl rfl)
theorem dJ9_nonNullElementAt_2 : decode cJ9_nonNullElementAt 2 = .ok (.aaload, 1) := dk_50 (dk_at dksJ9_nonNullElementAt_0 2 rfl rfl)
theorem dJ9_nonNullElementAt_3 : decode cJ9_nonNullElementAt 3 = .ok (.astore_n 2, 1) := dk_77 (dk_at dksJ9_nonNullElementAt_0 3 rfl rfl)
theorem dJ9_nonNullElementAt_4 : decode cJ9_nonNullElementAt 4 = .ok (.aload_n 2, 1) := dk_44 (dk_at dksJ9_nonNullElementAt_0 4 rfl rfl)
theorem dJ9_nonNullElementAt_5 : decode cJ9_nonNullElementAt 5 = .ok (.ifnonnull 11, 3) := dk_199 0 11 (dk_at dksJ9_nonNullElementAt_0 5 rfl rfl)
theorem dJ9_nonNullElementAt_8 : decode cJ9_nonNullElementAt 8 = .ok (.new 62, 3) := dk_187 0 62 (dk_at dksJ9_nonNullElementAt_0 8 rfl rfl)
theorem dJ9_nonNullElementAt_11 : decode cJ9_nonNullElementAt 11 = .ok (.dup, 1) := dk_89 (dk_at dksJ9_nonNullElementAt_0 11 rfl rfl)
theorem dJ9_nonNullElementAt_12 : decode cJ9_nonNullElementAt 12 = .ok (.invokespecial 64, 3) := dk_183 0 64 (dk_at dksJ9_nonNullElementAt_0 12 rfl rfl)
theorem dJ9_nonNullElementAt_15 : decode cJ9_nonNullElementAt 15 = .ok (.athrow, 1) := dk_191 (dk_at dksJ9_nonNullElementAt_0 15 rfl rfl)
theorem dJ9_nonNullElementAt_16 : decode cJ9_nonNullElementAt 16 = .ok (.aload_n 2, 1) := dk_44 (dk_at dksJ9_nonNullElementAt_0 16 rfl rfl)
theorem dJ9_nonNullElementAt_17 : decode cJ9_nonNullElementAt 17 = .ok (.areturn, 1) := dk_176 (dk_at dksJ9_nonNullElementAt_0 17 rfl rfl)
abbrev cJ9_inc : ByteArray := prog_48_method_6_code
def yJ9_inc : MethodName := ⟨RJ9, "inc", "(II)I"⟩
def dkwJ9_inc_0 : List UInt8 := [132, 0, 1, 26, 27, 161, 0, 5, 3, 59, 26, 172]
abbrev dktJ9_inc_0 : List UInt8 := dkwJ9_inc_0 ++ []
theorem dksJ9_inc_0 : cJ9_inc.data.toList.drop 0 = dktJ9_inc_0 := by decide +kernel
theorem dJ9_inc_0 : decode cJ9_inc 0 = .ok (.iinc 0 1, 3) := dk_132 0 1 (dk_at dksJ9_inc_0 0 rfl rfl)
theorem dJ9_inc_3 : decode cJ9_inc 3 = .ok (.iload_n 0, 1) := dk_26 (dk_at dksJ9_inc_0 3 rfl rfl)
theorem dJ9_inc_4 : decode cJ9_inc 4 = .ok (.iload_n 1, 1) := dk_27 (dk_at dksJ9_inc_0 4 rfl rfl)
theorem dJ9_inc_5 : decode cJ9_inc 5 = .ok (.if_icmp .lt 5, 3) := dk_161 0 5 (dk_at dksJ9_inc_0 5 rfl rfl)
theorem dJ9_inc_8 : decode cJ9_inc 8 = .ok (.iconst 0, 1) := dk_3 (dk_at dksJ9_inc_0 8 rfl rfl)
theorem dJ9_inc_9 : decode cJ9_inc 9 = .ok (.istore_n 0, 1) := dk_59 (dk_at dksJ9_inc_0 9 rfl rfl)
theorem dJ9_inc_10 : decode cJ9_inc 10 = .ok (.iload_n 0, 1) := dk_26 (dk_at dksJ9_inc_0 10 rfl rfl)
theorem dJ9_inc_11 : decode cJ9_inc 11 = .ok (.ireturn, 1) := dk_172 (dk_at dksJ9_inc_0 11 rfl rfl)
abbrev cJ9_addFirst : ByteArray := prog_48_method_12_code
def yJ9_addFirst : MethodName := ⟨RJ9, "addFirst", "(Ljava/lang/Object;)V"⟩
def dkwJ9_addFirst_2 : List UInt8 := [182, 0, 71, 177]
abbrev dktJ9_addFirst_2 : List UInt8 := dkwJ9_addFirst_2 ++ []
def dkwJ9_addFirst_1 : List UInt8 := [190, 184, 0, 68, 90, 181, 0, 24, 43, 83, 42, 180, 0, 24, 42, 180, 0, 20, 160, 0, 8, 42, 4]
abbrev dktJ9_addFirst_1 : List UInt8 := dkwJ9_addFirst_1 ++ dktJ9_addFirst_2
def dkwJ9_addFirst_0 : List UInt8 := [43, 199, 0, 11, 187, 0, 65, 89, 183, 0, 67, 191, 42, 180, 0, 3, 77, 44, 42, 42, 180, 0, 24, 44]
abbrev dktJ9_addFirst_0 : List UInt8 := dkwJ9_addFirst_0 ++ dktJ9_addFirst_1
theorem dksJ9_addFirst_0 : cJ9_addFirst.data.toList.drop 0 = dktJ9_addFirst_0 := by decide +kernel
theorem dksJ9_addFirst_1 : cJ9_addFirst.data.toList.drop 24 = dktJ9_addFirst_1 := dk_seg dksJ9_addFirst_0 24 rfl rfl
theorem dksJ9_addFirst_2 : cJ9_addFirst.data.toList.drop 47 = dktJ9_addFirst_2 := dk_seg dksJ9_addFirst_1 23 rfl rfl
theorem dJ9_addFirst_0 : decode cJ9_addFirst 0 = .ok (.aload_n 1, 1) := dk_43 (dk_at dksJ9_addFirst_0 0 rfl rfl)
theorem dJ9_addFirst_1 : decode cJ9_addFirst 1 = .ok (.ifnonnull 11, 3) := dk_199 0 11 (dk_at dksJ9_addFirst_0 1 rfl rfl)
theorem dJ9_addFirst_4 : decode cJ9_addFirst 4 = .ok (.new 65, 3) := dk_187 0 65 (dk_at dksJ9_addFirst_0 4 rfl rfl)
theorem dJ9_addFirst_7 : decode cJ9_addFirst 7 = .ok (.dup, 1) := dk_89 (dk_at dksJ9_addFirst_0 7 rfl rfl)
theorem dJ9_addFirst_8 : decode cJ9_addFirst 8 = .ok (.invokespecial 67, 3) := dk_183 0 67 (dk_at dksJ9_addFirst_0 8 rfl rfl)
theorem dJ9_addFirst_11 : decode cJ9_addFirst 11 = .ok (.athrow, 1) := dk_191 (dk_at dksJ9_addFirst_0 11 rfl rfl)
theorem dJ9_addFirst_12 : decode cJ9_addFirst 12 = .ok (.aload_n 0, 1) := dk_42 (dk_at dksJ9_addFirst_0 12 rfl rfl)
theorem dJ9_addFirst_13 : decode cJ9_addFirst 13 = .ok (.getfield 3, 3) := dk_180 0 3 (dk_at dksJ9_addFirst_0 13 rfl rfl)
theorem dJ9_addFirst_16 : decode cJ9_addFirst 16 = .ok (.astore_n 2, 1) := dk_77 (dk_at dksJ9_addFirst_0 16 rfl rfl)
theorem dJ9_addFirst_17 : decode cJ9_addFirst 17 = .ok (.aload_n 2, 1) := dk_44 (dk_at dksJ9_addFirst_0 17 rfl rfl)
theorem dJ9_addFirst_18 : decode cJ9_addFirst 18 = .ok (.aload_n 0, 1) := dk_42 (dk_at dksJ9_addFirst_0 18 rfl rfl)
theorem dJ9_addFirst_19 : decode cJ9_addFirst 19 = .ok (.aload_n 0, 1) := dk_42 (dk_at dksJ9_addFirst_0 19 rfl rfl)
theorem dJ9_addFirst_20 : decode cJ9_addFirst 20 = .ok (.getfield 24, 3) := dk_180 0 24 (dk_at dksJ9_addFirst_0 20 rfl rfl)
theorem dJ9_addFirst_23 : decode cJ9_addFirst 23 = .ok (.aload_n 2, 1) := dk_44 (dk_at dksJ9_addFirst_0 23 rfl rfl)
theorem dJ9_addFirst_24 : decode cJ9_addFirst 24 = .ok (.arraylength, 1) := dk_190 (dk_at dksJ9_addFirst_1 0 rfl rfl)
theorem dJ9_addFirst_25 : decode cJ9_addFirst 25 = .ok (.invokestatic 68, 3) := dk_184 0 68 (dk_at dksJ9_addFirst_1 1 rfl rfl)
theorem dJ9_addFirst_28 : decode cJ9_addFirst 28 = .ok (.dup_x1, 1) := dk_90 (dk_at dksJ9_addFirst_1 4 rfl rfl)
theorem dJ9_addFirst_29 : decode cJ9_addFirst 29 = .ok (.putfield 24, 3) := dk_181 0 24 (dk_at dksJ9_addFirst_1 5 rfl rfl)
theorem dJ9_addFirst_32 : decode cJ9_addFirst 32 = .ok (.aload_n 1, 1) := dk_43 (dk_at dksJ9_addFirst_1 8 rfl rfl)
theorem dJ9_addFirst_33 : decode cJ9_addFirst 33 = .ok (.aastore, 1) := dk_83 (dk_at dksJ9_addFirst_1 9 rfl rfl)
theorem dJ9_addFirst_34 : decode cJ9_addFirst 34 = .ok (.aload_n 0, 1) := dk_42 (dk_at dksJ9_addFirst_1 10 rfl rfl)
theorem dJ9_addFirst_35 : decode cJ9_addFirst 35 = .ok (.getfield 24, 3) := dk_180 0 24 (dk_at dksJ9_addFirst_1 11 rfl rfl)
theorem dJ9_addFirst_38 : decode cJ9_addFirst 38 = .ok (.aload_n 0, 1) := dk_42 (dk_at dksJ9_addFirst_1 14 rfl rfl)
theorem dJ9_addFirst_39 : decode cJ9_addFirst 39 = .ok (.getfield 20, 3) := dk_180 0 20 (dk_at dksJ9_addFirst_1 15 rfl rfl)
theorem dJ9_addFirst_42 : decode cJ9_addFirst 42 = .ok (.if_icmp .ne 8, 3) := dk_160 0 8 (dk_at dksJ9_addFirst_1 18 rfl rfl)
theorem dJ9_addFirst_45 : decode cJ9_addFirst 45 = .ok (.aload_n 0, 1) := dk_42 (dk_at dksJ9_addFirst_1 21 rfl rfl)
theorem dJ9_addFirst_46 : decode cJ9_addFirst 46 = .ok (.iconst 1, 1) := dk_4 (dk_at dksJ9_addFirst_1 22 rfl rfl)
theorem dJ9_addFirst_47 : decode cJ9_addFirst 47 = .ok (.invokevirtual 71, 3) := dk_182 0 71 (dk_at dksJ9_addFirst_2 0 rfl rfl)
theorem dJ9_addFirst_50 : decode cJ9_addFirst 50 = .ok (.return_, 1) := dk_177 (dk_at dksJ9_addFirst_2 3 rfl rfl)
abbrev cJ9_dec : ByteArray := prog_48_method_7_code
def yJ9_dec : MethodName := ⟨RJ9, "dec", "(II)I"⟩
def dkwJ9_dec_0 : List UInt8 := [132, 0, 255, 26, 156, 0, 7, 27, 4, 100, 59, 26, 172]
abbrev dktJ9_dec_0 : List UInt8 := dkwJ9_dec_0 ++ []
theorem dksJ9_dec_0 : cJ9_dec.data.toList.drop 0 = dktJ9_dec_0 := by decide +kernel
theorem dJ9_dec_0 : decode cJ9_dec 0 = .ok (.iinc 0 (-1), 3) := dk_132 0 255 (dk_at dksJ9_dec_0 0 rfl rfl)
theorem dJ9_dec_3 : decode cJ9_dec 3 = .ok (.iload_n 0, 1) := dk_26 (dk_at dksJ9_dec_0 3 rfl rfl)
theorem dJ9_dec_4 : decode cJ9_dec 4 = .ok (.ifCond .ge 7, 3) := dk_156 0 7 (dk_at dksJ9_dec_0 4 rfl rfl)
theorem dJ9_dec_7 : decode cJ9_dec 7 = .ok (.iload_n 1, 1) := dk_27 (dk_at dksJ9_dec_0 7 rfl rfl)
theorem dJ9_dec_8 : decode cJ9_dec 8 = .ok (.iconst 1, 1) := dk_4 (dk_at dksJ9_dec_0 8 rfl rfl)
theorem dJ9_dec_9 : decode cJ9_dec 9 = .ok (.isub, 1) := dk_100 (dk_at dksJ9_dec_0 9 rfl rfl)
theorem dJ9_dec_10 : decode cJ9_dec 10 = .ok (.istore_n 0, 1) := dk_59 (dk_at dksJ9_dec_0 10 rfl rfl)
theorem dJ9_dec_11 : decode cJ9_dec 11 = .ok (.iload_n 0, 1) := dk_26 (dk_at dksJ9_dec_0 11 rfl rfl)
theorem dJ9_dec_12 : decode cJ9_dec 12 = .ok (.ireturn, 1) := dk_172 (dk_at dksJ9_dec_0 12 rfl rfl)
abbrev cJ9_grow : ByteArray := prog_48_method_1_code
def yJ9_grow : MethodName := ⟨RJ9, "grow", "(I)V"⟩
def dkwJ9_grow_7 : List UInt8 := [177]
abbrev dktJ9_grow_7 : List UInt8 := dkwJ9_grow_7 ++ []
def dkwJ9_grow_6 : List UInt8 := [181, 0, 24, 54, 8, 21, 7, 21, 8, 162, 0, 15, 25, 5, 21, 7, 1, 83, 132, 7, 1, 167, 255, 240]
abbrev dktJ9_grow_6 : List UInt8 := dkwJ9_grow_6 ++ dktJ9_grow_7
def dkwJ9_grow_5 : List UInt8 := [42, 180, 0, 24, 100, 184, 0, 27, 42, 180, 0, 24, 54, 7, 42, 89, 180, 0, 24, 21, 6, 96, 90]
abbrev dktJ9_grow_5 : List UInt8 := dkwJ9_grow_5 ++ dktJ9_grow_6
def dkwJ9_grow_4 : List UInt8 := [198, 0, 71, 29, 28, 100, 54, 6, 25, 5, 42, 180, 0, 24, 25, 5, 42, 180, 0, 24, 21, 6, 96, 28]
abbrev dktJ9_grow_4 : List UInt8 := dkwJ9_grow_4 ++ dktJ9_grow_5
def dkwJ9_grow_3 : List UInt8 := [180, 0, 24, 161, 0, 24, 42, 180, 0, 20, 42, 180, 0, 24, 160, 0, 81, 25, 5, 42, 180, 0, 24, 50]
abbrev dktJ9_grow_3 : List UInt8 := dkwJ9_grow_3 ++ dktJ9_grow_4
def dkwJ9_grow_2 : List UInt8 := [182, 0, 10, 62, 42, 42, 180, 0, 3, 29, 184, 0, 14, 90, 181, 0, 3, 58, 5, 42, 180, 0, 20, 42]
abbrev dktJ9_grow_2 : List UInt8 := dkwJ9_grow_2 ++ dktJ9_grow_3
def dkwJ9_grow_1 : List UInt8 := [21, 4, 27, 161, 0, 15, 28, 21, 4, 96, 89, 62, 18, 9, 100, 158, 0, 11, 42, 27, 21, 4]
abbrev dktJ9_grow_1 : List UInt8 := dkwJ9_grow_1 ++ dktJ9_grow_2
def dkwJ9_grow_0 : List UInt8 := [42, 180, 0, 3, 190, 61, 28, 16, 64, 162, 0, 9, 28, 5, 96, 167, 0, 6, 28, 4, 122, 54, 4]
abbrev dktJ9_grow_0 : List UInt8 := dkwJ9_grow_0 ++ dktJ9_grow_1
theorem dksJ9_grow_0 : cJ9_grow.data.toList.drop 0 = dktJ9_grow_0 := by decide +kernel
theorem dksJ9_grow_1 : cJ9_grow.data.toList.drop 23 = dktJ9_grow_1 := dk_seg dksJ9_grow_0 23 rfl rfl
theorem dksJ9_grow_2 : cJ9_grow.data.toList.drop 45 = dktJ9_grow_2 := dk_seg dksJ9_grow_1 22 rfl rfl
theorem dksJ9_grow_3 : cJ9_grow.data.toList.drop 69 = dktJ9_grow_3 := dk_seg dksJ9_grow_2 24 rfl rfl
theorem dksJ9_grow_4 : cJ9_grow.data.toList.drop 93 = dktJ9_grow_4 := dk_seg dksJ9_grow_3 24 rfl rfl
theorem dksJ9_grow_5 : cJ9_grow.data.toList.drop 117 = dktJ9_grow_5 := dk_seg dksJ9_grow_4 24 rfl rfl
theorem dksJ9_grow_6 : cJ9_grow.data.toList.drop 140 = dktJ9_grow_6 := dk_seg dksJ9_grow_5 23 rfl rfl
theorem dksJ9_grow_7 : cJ9_grow.data.toList.drop 164 = dktJ9_grow_7 := dk_seg dksJ9_grow_6 24 rfl rfl
theorem dJ9_grow_0 : decode cJ9_grow 0 = .ok (.aload_n 0, 1) := dk_42 (dk_at dksJ9_grow_0 0 rfl rfl)
theorem dJ9_grow_1 : decode cJ9_grow 1 = .ok (.getfield 3, 3) := dk_180 0 3 (dk_at dksJ9_grow_0 1 rfl rfl)
theorem dJ9_grow_4 : decode cJ9_grow 4 = .ok (.arraylength, 1) := dk_190 (dk_at dksJ9_grow_0 4 rfl rfl)
theorem dJ9_grow_5 : decode cJ9_grow 5 = .ok (.istore_n 2, 1) := dk_61 (dk_at dksJ9_grow_0 5 rfl rfl)
theorem dJ9_grow_6 : decode cJ9_grow 6 = .ok (.iload_n 2, 1) := dk_28 (dk_at dksJ9_grow_0 6 rfl rfl)
theorem dJ9_grow_7 : decode cJ9_grow 7 = .ok (.bipush 64, 2) := dk_16 64 (dk_at dksJ9_grow_0 7 rfl rfl)
theorem dJ9_grow_9 : decode cJ9_grow 9 = .ok (.if_icmp .ge 9, 3) := dk_162 0 9 (dk_at dksJ9_grow_0 9 rfl rfl)
theorem dJ9_grow_12 : decode cJ9_grow 12 = .ok (.iload_n 2, 1) := dk_28 (dk_at dksJ9_grow_0 12 rfl rfl)
theorem dJ9_grow_13 : decode cJ9_grow 13 = .ok (.iconst 2, 1) := dk_5 (dk_at dksJ9_grow_0 13 rfl rfl)
theorem dJ9_grow_14 : decode cJ9_grow 14 = .ok (.iadd, 1) := dk_96 (dk_at dksJ9_grow_0 14 rfl rfl)
theorem dJ9_grow_15 : decode cJ9_grow 15 = .ok (.goto 6, 3) := dk_167 0 6 (dk_at dksJ9_grow_0 15 rfl rfl)
theorem dJ9_grow_18 : decode cJ9_grow 18 = .ok (.iload_n 2, 1) := dk_28 (dk_at dksJ9_grow_0 18 rfl rfl)
theorem dJ9_grow_19 : decode cJ9_grow 19 = .ok (.iconst 1, 1) := dk_4 (dk_at dksJ9_grow_0 19 rfl rfl)
theorem dJ9_grow_20 : decode cJ9_grow 20 = .ok (.ishr, 1) := dk_122 (dk_at dksJ9_grow_0 20 rfl rfl)
theorem dJ9_grow_21 : decode cJ9_grow 21 = .ok (.istore 4, 2) := dk_54 4 (dk_at dksJ9_grow_0 21 rfl rfl)
theorem dJ9_grow_23 : decode cJ9_grow 23 = .ok (.iload 4, 2) := dk_21 4 (dk_at dksJ9_grow_1 0 rfl rfl)
theorem dJ9_grow_25 : decode cJ9_grow 25 = .ok (.iload_n 1, 1) := dk_27 (dk_at dksJ9_grow_1 2 rfl rfl)
theorem dJ9_grow_26 : decode cJ9_grow 26 = .ok (.if_icmp .lt 15, 3) := dk_161 0 15 (dk_at dksJ9_grow_1 3 rfl rfl)
theorem dJ9_grow_29 : decode cJ9_grow 29 = .ok (.iload_n 2, 1) := dk_28 (dk_at dksJ9_grow_1 6 rfl rfl)
theorem dJ9_grow_30 : decode cJ9_grow 30 = .ok (.iload 4, 2) := dk_21 4 (dk_at dksJ9_grow_1 7 rfl rfl)
theorem dJ9_grow_32 : decode cJ9_grow 32 = .ok (.iadd, 1) := dk_96 (dk_at dksJ9_grow_1 9 rfl rfl)
theorem dJ9_grow_33 : decode cJ9_grow 33 = .ok (.dup, 1) := dk_89 (dk_at dksJ9_grow_1 10 rfl rfl)
theorem dJ9_grow_34 : decode cJ9_grow 34 = .ok (.istore_n 3, 1) := dk_62 (dk_at dksJ9_grow_1 11 rfl rfl)
theorem dJ9_grow_35 : decode cJ9_grow 35 = .ok (.ldc 9, 2) := dk_18 9 (dk_at dksJ9_grow_1 12 rfl rfl)
theorem dJ9_grow_37 : decode cJ9_grow 37 = .ok (.isub, 1) := dk_100 (dk_at dksJ9_grow_1 14 rfl rfl)
theorem dJ9_grow_38 : decode cJ9_grow 38 = .ok (.ifCond .le 11, 3) := dk_158 0 11 (dk_at dksJ9_grow_1 15 rfl rfl)
theorem dJ9_grow_41 : decode cJ9_grow 41 = .ok (.aload_n 0, 1) := dk_42 (dk_at dksJ9_grow_1 18 rfl rfl)
theorem dJ9_grow_42 : decode cJ9_grow 42 = .ok (.iload_n 1, 1) := dk_27 (dk_at dksJ9_grow_1 19 rfl rfl)
theorem dJ9_grow_43 : decode cJ9_grow 43 = .ok (.iload 4, 2) := dk_21 4 (dk_at dksJ9_grow_1 20 rfl rfl)
theorem dJ9_grow_45 : decode cJ9_grow 45 = .ok (.invokevirtual 10, 3) := dk_182 0 10 (dk_at dksJ9_grow_2 0 rfl rfl)
theorem dJ9_grow_48 : decode cJ9_grow 48 = .ok (.istore_n 3, 1) := dk_62 (dk_at dksJ9_grow_2 3 rfl rfl)
theorem dJ9_grow_49 : decode cJ9_grow 49 = .ok (.aload_n 0, 1) := dk_42 (dk_at dksJ9_grow_2 4 rfl rfl)
theorem dJ9_grow_50 : decode cJ9_grow 50 = .ok (.aload_n 0, 1) := dk_42 (dk_at dksJ9_grow_2 5 rfl rfl)
theorem dJ9_grow_51 : decode cJ9_grow 51 = .ok (.getfield 3, 3) := dk_180 0 3 (dk_at dksJ9_grow_2 6 rfl rfl)
theorem dJ9_grow_54 : decode cJ9_grow 54 = .ok (.iload_n 3, 1) := dk_29 (dk_at dksJ9_grow_2 9 rfl rfl)
theorem dJ9_grow_55 : decode cJ9_grow 55 = .ok (.invokestatic 14, 3) := dk_184 0 14 (dk_at dksJ9_grow_2 10 rfl rfl)
theorem dJ9_grow_58 : decode cJ9_grow 58 = .ok (.dup_x1, 1) := dk_90 (dk_at dksJ9_grow_2 13 rfl rfl)
theorem dJ9_grow_59 : decode cJ9_grow 59 = .ok (.putfield 3, 3) := dk_181 0 3 (dk_at dksJ9_grow_2 14 rfl rfl)
theorem dJ9_grow_62 : decode cJ9_grow 62 = .ok (.astore 5, 2) := dk_58 5 (dk_at dksJ9_grow_2 17 rfl rfl)
theorem dJ9_grow_64 : decode cJ9_grow 64 = .ok (.aload_n 0, 1) := dk_42 (dk_at dksJ9_grow_2 19 rfl rfl)
theorem dJ9_grow_65 : decode cJ9_grow 65 = .ok (.getfield 20, 3) := dk_180 0 20 (dk_at dksJ9_grow_2 20 rfl rfl)
theorem dJ9_grow_68 : decode cJ9_grow 68 = .ok (.aload_n 0, 1) := dk_42 (dk_at dksJ9_grow_2 23 rfl rfl)
theorem dJ9_grow_69 : decode cJ9_grow 69 = .ok (.getfield 24, 3) := dk_180 0 24 (dk_at dksJ9_grow_3 0 rfl rfl)
theorem dJ9_grow_72 : decode cJ9_grow 72 = .ok (.if_icmp .lt 24, 3) := dk_161 0 24 (dk_at dksJ9_grow_3 3 rfl rfl)
theorem dJ9_grow_75 : decode cJ9_grow 75 = .ok (.aload_n 0, 1) := dk_42 (dk_at dksJ9_grow_3 6 rfl rfl)
theorem dJ9_grow_76 : decode cJ9_grow 76 = .ok (.getfield 20, 3) := dk_180 0 20 (dk_at dksJ9_grow_3 7 rfl rfl)
theorem dJ9_grow_79 : decode cJ9_grow 79 = .ok (.aload_n 0, 1) := dk_42 (dk_at dksJ9_grow_3 10 rfl rfl)
theorem dJ9_grow_80 : decode cJ9_grow 80 = .ok (.getfield 24, 3) := dk_180 0 24 (dk_at dksJ9_grow_3 11 rfl rfl)
theorem dJ9_grow_83 : decode cJ9_grow 83 = .ok (.if_icmp .ne 81, 3) := dk_160 0 81 (dk_at dksJ9_grow_3 14 rfl rfl)
theorem dJ9_grow_86 : decode cJ9_grow 86 = .ok (.aload 5, 2) := dk_25 5 (dk_at dksJ9_grow_3 17 rfl rfl)
theorem dJ9_grow_88 : decode cJ9_grow 88 = .ok (.aload_n 0, 1) := dk_42 (dk_at dksJ9_grow_3 19 rfl rfl)
theorem dJ9_grow_89 : decode cJ9_grow 89 = .ok (.getfield 24, 3) := dk_180 0 24 (dk_at dksJ9_grow_3 20 rfl rfl)
theorem dJ9_grow_92 : decode cJ9_grow 92 = .ok (.aaload, 1) := dk_50 (dk_at dksJ9_grow_3 23 rfl rfl)
theorem dJ9_grow_93 : decode cJ9_grow 93 = .ok (.ifnull 71, 3) := dk_198 0 71 (dk_at dksJ9_grow_4 0 rfl rfl)
theorem dJ9_grow_96 : decode cJ9_grow 96 = .ok (.iload_n 3, 1) := dk_29 (dk_at dksJ9_grow_4 3 rfl rfl)
theorem dJ9_grow_97 : decode cJ9_grow 97 = .ok (.iload_n 2, 1) := dk_28 (dk_at dksJ9_grow_4 4 rfl rfl)
theorem dJ9_grow_98 : decode cJ9_grow 98 = .ok (.isub, 1) := dk_100 (dk_at dksJ9_grow_4 5 rfl rfl)
theorem dJ9_grow_99 : decode cJ9_grow 99 = .ok (.istore 6, 2) := dk_54 6 (dk_at dksJ9_grow_4 6 rfl rfl)
theorem dJ9_grow_101 : decode cJ9_grow 101 = .ok (.aload 5, 2) := dk_25 5 (dk_at dksJ9_grow_4 8 rfl rfl)
theorem dJ9_grow_103 : decode cJ9_grow 103 = .ok (.aload_n 0, 1) := dk_42 (dk_at dksJ9_grow_4 10 rfl rfl)
theorem dJ9_grow_104 : decode cJ9_grow 104 = .ok (.getfield 24, 3) := dk_180 0 24 (dk_at dksJ9_grow_4 11 rfl rfl)
theorem dJ9_grow_107 : decode cJ9_grow 107 = .ok (.aload 5, 2) := dk_25 5 (dk_at dksJ9_grow_4 14 rfl rfl)
theorem dJ9_grow_109 : decode cJ9_grow 109 = .ok (.aload_n 0, 1) := dk_42 (dk_at dksJ9_grow_4 16 rfl rfl)
theorem dJ9_grow_110 : decode cJ9_grow 110 = .ok (.getfield 24, 3) := dk_180 0 24 (dk_at dksJ9_grow_4 17 rfl rfl)
theorem dJ9_grow_113 : decode cJ9_grow 113 = .ok (.iload 6, 2) := dk_21 6 (dk_at dksJ9_grow_4 20 rfl rfl)
theorem dJ9_grow_115 : decode cJ9_grow 115 = .ok (.iadd, 1) := dk_96 (dk_at dksJ9_grow_4 22 rfl rfl)
theorem dJ9_grow_116 : decode cJ9_grow 116 = .ok (.iload_n 2, 1) := dk_28 (dk_at dksJ9_grow_4 23 rfl rfl)
theorem dJ9_grow_117 : decode cJ9_grow 117 = .ok (.aload_n 0, 1) := dk_42 (dk_at dksJ9_grow_5 0 rfl rfl)
theorem dJ9_grow_118 : decode cJ9_grow 118 = .ok (.getfield 24, 3) := dk_180 0 24 (dk_at dksJ9_grow_5 1 rfl rfl)
theorem dJ9_grow_121 : decode cJ9_grow 121 = .ok (.isub, 1) := dk_100 (dk_at dksJ9_grow_5 4 rfl rfl)
theorem dJ9_grow_122 : decode cJ9_grow 122 = .ok (.invokestatic 27, 3) := dk_184 0 27 (dk_at dksJ9_grow_5 5 rfl rfl)
theorem dJ9_grow_125 : decode cJ9_grow 125 = .ok (.aload_n 0, 1) := dk_42 (dk_at dksJ9_grow_5 8 rfl rfl)
theorem dJ9_grow_126 : decode cJ9_grow 126 = .ok (.getfield 24, 3) := dk_180 0 24 (dk_at dksJ9_grow_5 9 rfl rfl)
theorem dJ9_grow_129 : decode cJ9_grow 129 = .ok (.istore 7, 2) := dk_54 7 (dk_at dksJ9_grow_5 12 rfl rfl)
theorem dJ9_grow_131 : decode cJ9_grow 131 = .ok (.aload_n 0, 1) := dk_42 (dk_at dksJ9_grow_5 14 rfl rfl)
theorem dJ9_grow_132 : decode cJ9_grow 132 = .ok (.dup, 1) := dk_89 (dk_at dksJ9_grow_5 15 rfl rfl)
theorem dJ9_grow_133 : decode cJ9_grow 133 = .ok (.getfield 24, 3) := dk_180 0 24 (dk_at dksJ9_grow_5 16 rfl rfl)
theorem dJ9_grow_136 : decode cJ9_grow 136 = .ok (.iload 6, 2) := dk_21 6 (dk_at dksJ9_grow_5 19 rfl rfl)
theorem dJ9_grow_138 : decode cJ9_grow 138 = .ok (.iadd, 1) := dk_96 (dk_at dksJ9_grow_5 21 rfl rfl)
theorem dJ9_grow_139 : decode cJ9_grow 139 = .ok (.dup_x1, 1) := dk_90 (dk_at dksJ9_grow_5 22 rfl rfl)
theorem dJ9_grow_140 : decode cJ9_grow 140 = .ok (.putfield 24, 3) := dk_181 0 24 (dk_at dksJ9_grow_6 0 rfl rfl)
theorem dJ9_grow_143 : decode cJ9_grow 143 = .ok (.istore 8, 2) := dk_54 8 (dk_at dksJ9_grow_6 3 rfl rfl)
theorem dJ9_grow_145 : decode cJ9_grow 145 = .ok (.iload 7, 2) := dk_21 7 (dk_at dksJ9_grow_6 5 rfl rfl)
theorem dJ9_grow_147 : decode cJ9_grow 147 = .ok (.iload 8, 2) := dk_21 8 (dk_at dksJ9_grow_6 7 rfl rfl)
theorem dJ9_grow_149 : decode cJ9_grow 149 = .ok (.if_icmp .ge 15, 3) := dk_162 0 15 (dk_at dksJ9_grow_6 9 rfl rfl)
theorem dJ9_grow_152 : decode cJ9_grow 152 = .ok (.aload 5, 2) := dk_25 5 (dk_at dksJ9_grow_6 12 rfl rfl)
theorem dJ9_grow_154 : decode cJ9_grow 154 = .ok (.iload 7, 2) := dk_21 7 (dk_at dksJ9_grow_6 14 rfl rfl)
theorem dJ9_grow_156 : decode cJ9_grow 156 = .ok (.aconst_null, 1) := dk_1 (dk_at dksJ9_grow_6 16 rfl rfl)
theorem dJ9_grow_157 : decode cJ9_grow 157 = .ok (.aastore, 1) := dk_83 (dk_at dksJ9_grow_6 17 rfl rfl)
theorem dJ9_grow_158 : decode cJ9_grow 158 = .ok (.iinc 7 1, 3) := dk_132 7 1 (dk_at dksJ9_grow_6 18 rfl rfl)
theorem dJ9_grow_161 : decode cJ9_grow 161 = .ok (.goto (-16), 3) := dk_167 255 240 (dk_at dksJ9_grow_6 21 rfl rfl)
theorem dJ9_grow_164 : decode cJ9_grow 164 = .ok (.return_, 1) := dk_177 (dk_at dksJ9_grow_7 0 rfl rfl)
abbrev cJ9_newCapacity : ByteArray := prog_48_method_2_code
def yJ9_newCapacity : MethodName := ⟨RJ9, "newCapacity", "(II)I"⟩
def dkwJ9_newCapacity_2 : List UInt8 := [18, 9, 100, 156, 0, 9, 29, 28, 96, 167, 0, 5, 18, 9, 172]
abbrev dktJ9_newCapacity_2 : List UInt8 := dkwJ9_newCapacity_2 ++ []
def dkwJ9_newCapacity_1 : List UInt8 := [187, 0, 33, 89, 18, 35, 183, 0, 37, 191, 18, 41, 172, 27, 28, 164, 0, 6, 21, 4, 172, 29, 28, 96]
abbrev dktJ9_newCapacity_1 : List UInt8 := dkwJ9_newCapacity_1 ++ dktJ9_newCapacity_2
def dkwJ9_newCapacity_0 : List UInt8 := [42, 180, 0, 3, 190, 62, 29, 27, 96, 89, 54, 4, 18, 9, 100, 158, 0, 21, 21, 4, 156, 0, 13]
abbrev dktJ9_newCapacity_0 : List UInt8 := dkwJ9_newCapacity_0 ++ dktJ9_newCapacity_1
theorem dksJ9_newCapacity_0 : cJ9_newCapacity.data.toList.drop 0 = dktJ9_newCapacity_0 := by decide +kernel
theorem dksJ9_newCapacity_1 : cJ9_newCapacity.data.toList.drop 23 = dktJ9_newCapacity_1 := dk_seg dksJ9_newCapacity_0 23 rfl rfl
theorem dksJ9_newCapacity_2 : cJ9_newCapacity.data.toList.drop 47 = dktJ9_newCapacity_2 := dk_seg dksJ9_newCapacity_1 24 rfl rfl
theorem dJ9_newCapacity_0 : decode cJ9_newCapacity 0 = .ok (.aload_n 0, 1) := dk_42 (dk_at dksJ9_newCapacity_0 0 rfl rfl)
theorem dJ9_newCapacity_1 : decode cJ9_newCapacity 1 = .ok (.getfield 3, 3) := dk_180 0 3 (dk_at dksJ9_newCapacity_0 1 rfl rfl)
theorem dJ9_newCapacity_4 : decode cJ9_newCapacity 4 = .ok (.arraylength, 1) := dk_190 (dk_at dksJ9_newCapacity_0 4 rfl rfl)
theorem dJ9_newCapacity_5 : decode cJ9_newCapacity 5 = .ok (.istore_n 3, 1) := dk_62 (dk_at dksJ9_newCapacity_0 5 rfl rfl)
theorem dJ9_newCapacity_6 : decode cJ9_newCapacity 6 = .ok (.iload_n 3, 1) := dk_29 (dk_at dksJ9_newCapacity_0 6 rfl rfl)
theorem dJ9_newCapacity_7 : decode cJ9_newCapacity 7 = .ok (.iload_n 1, 1) := dk_27 (dk_at dksJ9_newCapacity_0 7 rfl rfl)
theorem dJ9_newCapacity_8 : decode cJ9_newCapacity 8 = .ok (.iadd, 1) := dk_96 (dk_at dksJ9_newCapacity_0 8 rfl rfl)
theorem dJ9_newCapacity_9 : decode cJ9_newCapacity 9 = .ok (.dup, 1) := dk_89 (dk_at dksJ9_newCapacity_0 9 rfl rfl)
theorem dJ9_newCapacity_10 : decode cJ9_newCapacity 10 = .ok (.istore 4, 2) := dk_54 4 (dk_at dksJ9_newCapacity_0 10 rfl rfl)
theorem dJ9_newCapacity_12 : decode cJ9_newCapacity 12 = .ok (.ldc 9, 2) := dk_18 9 (dk_at dksJ9_newCapacity_0 12 rfl rfl)
theorem dJ9_newCapacity_14 : decode cJ9_newCapacity 14 = .ok (.isub, 1) := dk_100 (dk_at dksJ9_newCapacity_0 14 rfl rfl)
theorem dJ9_newCapacity_15 : decode cJ9_newCapacity 15 = .ok (.ifCond .le 21, 3) := dk_158 0 21 (dk_at dksJ9_newCapacity_0 15 rfl rfl)
theorem dJ9_newCapacity_18 : decode cJ9_newCapacity 18 = .ok (.iload 4, 2) := dk_21 4 (dk_at dksJ9_newCapacity_0 18 rfl rfl)
theorem dJ9_newCapacity_20 : decode cJ9_newCapacity 20 = .ok (.ifCond .ge 13, 3) := dk_156 0 13 (dk_at dksJ9_newCapacity_0 20 rfl rfl)
theorem dJ9_newCapacity_23 : decode cJ9_newCapacity 23 = .ok (.new 33, 3) := dk_187 0 33 (dk_at dksJ9_newCapacity_1 0 rfl rfl)
theorem dJ9_newCapacity_26 : decode cJ9_newCapacity 26 = .ok (.dup, 1) := dk_89 (dk_at dksJ9_newCapacity_1 3 rfl rfl)
theorem dJ9_newCapacity_27 : decode cJ9_newCapacity 27 = .ok (.ldc 35, 2) := dk_18 35 (dk_at dksJ9_newCapacity_1 4 rfl rfl)
theorem dJ9_newCapacity_29 : decode cJ9_newCapacity 29 = .ok (.invokespecial 37, 3) := dk_183 0 37 (dk_at dksJ9_newCapacity_1 6 rfl rfl)
theorem dJ9_newCapacity_32 : decode cJ9_newCapacity 32 = .ok (.athrow, 1) := dk_191 (dk_at dksJ9_newCapacity_1 9 rfl rfl)
theorem dJ9_newCapacity_33 : decode cJ9_newCapacity 33 = .ok (.ldc 41, 2) := dk_18 41 (dk_at dksJ9_newCapacity_1 10 rfl rfl)
theorem dJ9_newCapacity_35 : decode cJ9_newCapacity 35 = .ok (.ireturn, 1) := dk_172 (dk_at dksJ9_newCapacity_1 12 rfl rfl)
theorem dJ9_newCapacity_36 : decode cJ9_newCapacity 36 = .ok (.iload_n 1, 1) := dk_27 (dk_at dksJ9_newCapacity_1 13 rfl rfl)
theorem dJ9_newCapacity_37 : decode cJ9_newCapacity 37 = .ok (.iload_n 2, 1) := dk_28 (dk_at dksJ9_newCapacity_1 14 rfl rfl)
theorem dJ9_newCapacity_38 : decode cJ9_newCapacity 38 = .ok (.if_icmp .le 6, 3) := dk_164 0 6 (dk_at dksJ9_newCapacity_1 15 rfl rfl)
theorem dJ9_newCapacity_41 : decode cJ9_newCapacity 41 = .ok (.iload 4, 2) := dk_21 4 (dk_at dksJ9_newCapacity_1 18 rfl rfl)
theorem dJ9_newCapacity_43 : decode cJ9_newCapacity 43 = .ok (.ireturn, 1) := dk_172 (dk_at dksJ9_newCapacity_1 20 rfl rfl)
theorem dJ9_newCapacity_44 : decode cJ9_newCapacity 44 = .ok (.iload_n 3, 1) := dk_29 (dk_at dksJ9_newCapacity_1 21 rfl rfl)
theorem dJ9_newCapacity_45 : decode cJ9_newCapacity 45 = .ok (.iload_n 2, 1) := dk_28 (dk_at dksJ9_newCapacity_1 22 rfl rfl)
theorem dJ9_newCapacity_46 : decode cJ9_newCapacity 46 = .ok (.iadd, 1) := dk_96 (dk_at dksJ9_newCapacity_1 23 rfl rfl)
theorem dJ9_newCapacity_47 : decode cJ9_newCapacity 47 = .ok (.ldc 9, 2) := dk_18 9 (dk_at dksJ9_newCapacity_2 0 rfl rfl)
theorem dJ9_newCapacity_49 : decode cJ9_newCapacity 49 = .ok (.isub, 1) := dk_100 (dk_at dksJ9_newCapacity_2 2 rfl rfl)
theorem dJ9_newCapacity_50 : decode cJ9_newCapacity 50 = .ok (.ifCond .ge 9, 3) := dk_156 0 9 (dk_at dksJ9_newCapacity_2 3 rfl rfl)
theorem dJ9_newCapacity_53 : decode cJ9_newCapacity 53 = .ok (.iload_n 3, 1) := dk_29 (dk_at dksJ9_newCapacity_2 6 rfl rfl)
theorem dJ9_newCapacity_54 : decode cJ9_newCapacity 54 = .ok (.iload_n 2, 1) := dk_28 (dk_at dksJ9_newCapacity_2 7 rfl rfl)
theorem dJ9_newCapacity_55 : decode cJ9_newCapacity 55 = .ok (.iadd, 1) := dk_96 (dk_at dksJ9_newCapacity_2 8 rfl rfl)
theorem dJ9_newCapacity_56 : decode cJ9_newCapacity 56 = .ok (.goto 5, 3) := dk_167 0 5 (dk_at dksJ9_newCapacity_2 9 rfl rfl)
theorem dJ9_newCapacity_59 : decode cJ9_newCapacity 59 = .ok (.ldc 9, 2) := dk_18 9 (dk_at dksJ9_newCapacity_2 12 rfl rfl)
theorem dJ9_newCapacity_61 : decode cJ9_newCapacity 61 = .ok (.ireturn, 1) := dk_172 (dk_at dksJ9_newCapacity_2 14 rfl rfl)
abbrev cJ9_iterator : ByteArray := prog_48_method_39_code
def yJ9_iterator : MethodName := ⟨RJ9, "iterator", "()Ljava/util/Iterator;"⟩
def dkwJ9_iterator_0 : List UInt8 := [187, 0, 131, 89, 42, 183, 0, 133, 176]
abbrev dktJ9_iterator_0 : List UInt8 := dkwJ9_iterator_0 ++ []
theorem dksJ9_iterator_0 : cJ9_iterator.data.toList.drop 0 = dktJ9_iterator_0 := by decide +kernel
theorem dJ9_iterator_0 : decode cJ9_iterator 0 = .ok (.new 131, 3) := dk_187 0 131 (dk_at dksJ9_iterator_0 0 rfl rfl)
theorem dJ9_iterator_3 : decode cJ9_iterator 3 = .ok (.dup, 1) := dk_89 (dk_at dksJ9_iterator_0 3 rfl rfl)
theorem dJ9_iterator_4 : decode cJ9_iterator 4 = .ok (.aload_n 0, 1) := dk_42 (dk_at dksJ9_iterator_0 4 rfl rfl)
theorem dJ9_iterator_5 : decode cJ9_iterator 5 = .ok (.invokespecial 133, 3) := dk_183 0 133 (dk_at dksJ9_iterator_0 5 rfl rfl)
theorem dJ9_iterator_8 : decode cJ9_iterator 8 = .ok (.areturn, 1) := dk_176 (dk_at dksJ9_iterator_0 8 rfl rfl)
abbrev cJ9_size : ByteArray := prog_48_method_37_code
def yJ9_size : MethodName := ⟨RJ9, "size", "()I"⟩
def dkwJ9_size_0 : List UInt8 := [42, 180, 0, 20, 42, 180, 0, 24, 42, 180, 0, 3, 190, 184, 0, 127, 172]
abbrev dktJ9_size_0 : List UInt8 := dkwJ9_size_0 ++ []
theorem dksJ9_size_0 : cJ9_size.data.toList.drop 0 = dktJ9_size_0 := by decide +kernel
theorem dJ9_size_0 : decode cJ9_size 0 = .ok (.aload_n 0, 1) := dk_42 (dk_at dksJ9_size_0 0 rfl rfl)
theorem dJ9_size_1 : decode cJ9_size 1 = .ok (.getfield 20, 3) := dk_180 0 20 (dk_at dksJ9_size_0 1 rfl rfl)
theorem dJ9_size_4 : decode cJ9_size 4 = .ok (.aload_n 0, 1) := dk_42 (dk_at dksJ9_size_0 4 rfl rfl)
theorem dJ9_size_5 : decode cJ9_size 5 = .ok (.getfield 24, 3) := dk_180 0 24 (dk_at dksJ9_size_0 5 rfl rfl)
theorem dJ9_size_8 : decode cJ9_size 8 = .ok (.aload_n 0, 1) := dk_42 (dk_at dksJ9_size_0 8 rfl rfl)
theorem dJ9_size_9 : decode cJ9_size 9 = .ok (.getfield 3, 3) := dk_180 0 3 (dk_at dksJ9_size_0 9 rfl rfl)
theorem dJ9_size_12 : decode cJ9_size 12 = .ok (.arraylength, 1) := dk_190 (dk_at dksJ9_size_0 12 rfl rfl)
theorem dJ9_size_13 : decode cJ9_size 13 = .ok (.invokestatic 127, 3) := dk_184 0 127 (dk_at dksJ9_size_0 13 rfl rfl)
theorem dJ9_size_16 : decode cJ9_size 16 = .ok (.ireturn, 1) := dk_172 (dk_at dksJ9_size_0 16 rfl rfl)
abbrev cJ9_sub : ByteArray := prog_48_method_9_code
def yJ9_sub : MethodName := ⟨RJ9, "sub", "(III)I"⟩
def dkwJ9_sub_0 : List UInt8 := [26, 27, 100, 89, 59, 156, 0, 7, 26, 28, 96, 59, 26, 172]
abbrev dktJ9_sub_0 : List UInt8 := dkwJ9_sub_0 ++ []
theorem dksJ9_sub_0 : cJ9_sub.data.toList.drop 0 = dktJ9_sub_0 := by decide +kernel
theorem dJ9_sub_0 : decode cJ9_sub 0 = .ok (.iload_n 0, 1) := dk_26 (dk_at dksJ9_sub_0 0 rfl rfl)
theorem dJ9_sub_1 : decode cJ9_sub 1 = .ok (.iload_n 1, 1) := dk_27 (dk_at dksJ9_sub_0 1 rfl rfl)
theorem dJ9_sub_2 : decode cJ9_sub 2 = .ok (.isub, 1) := dk_100 (dk_at dksJ9_sub_0 2 rfl rfl)
theorem dJ9_sub_3 : decode cJ9_sub 3 = .ok (.dup, 1) := dk_89 (dk_at dksJ9_sub_0 3 rfl rfl)
theorem dJ9_sub_4 : decode cJ9_sub 4 = .ok (.istore_n 0, 1) := dk_59 (dk_at dksJ9_sub_0 4 rfl rfl)
theorem dJ9_sub_5 : decode cJ9_sub 5 = .ok (.ifCond .ge 7, 3) := dk_156 0 7 (dk_at dksJ9_sub_0 5 rfl rfl)
theorem dJ9_sub_8 : decode cJ9_sub 8 = .ok (.iload_n 0, 1) := dk_26 (dk_at dksJ9_sub_0 8 rfl rfl)
theorem dJ9_sub_9 : decode cJ9_sub 9 = .ok (.iload_n 2, 1) := dk_28 (dk_at dksJ9_sub_0 9 rfl rfl)
theorem dJ9_sub_10 : decode cJ9_sub 10 = .ok (.iadd, 1) := dk_96 (dk_at dksJ9_sub_0 10 rfl rfl)
theorem dJ9_sub_11 : decode cJ9_sub 11 = .ok (.istore_n 0, 1) := dk_59 (dk_at dksJ9_sub_0 11 rfl rfl)
theorem dJ9_sub_12 : decode cJ9_sub 12 = .ok (.iload_n 0, 1) := dk_26 (dk_at dksJ9_sub_0 12 rfl rfl)
theorem dJ9_sub_13 : decode cJ9_sub 13 = .ok (.ireturn, 1) := dk_172 (dk_at dksJ9_sub_0 13 rfl rfl)
abbrev cJ9_addLast : ByteArray := prog_48_method_13_code
def yJ9_addLast : MethodName := ⟨RJ9, "addLast", "(Ljava/lang/Object;)V"⟩
def dkwJ9_addLast_2 : List UInt8 := [182, 0, 71, 177]
abbrev dktJ9_addLast_2 : List UInt8 := dkwJ9_addLast_2 ++ []
def dkwJ9_addLast_1 : List UInt8 := [42, 180, 0, 24, 42, 42, 180, 0, 20, 44, 190, 184, 0, 74, 90, 181, 0, 20, 160, 0, 8, 42, 4]
abbrev dktJ9_addLast_1 : List UInt8 := dkwJ9_addLast_1 ++ dktJ9_addLast_2
def dkwJ9_addLast_0 : List UInt8 := [43, 199, 0, 11, 187, 0, 65, 89, 183, 0, 67, 191, 42, 180, 0, 3, 77, 44, 42, 180, 0, 20, 43, 83]
abbrev dktJ9_addLast_0 : List UInt8 := dkwJ9_addLast_0 ++ dktJ9_addLast_1
theorem dksJ9_addLast_0 : cJ9_addLast.data.toList.drop 0 = dktJ9_addLast_0 := by decide +kernel
theorem dksJ9_addLast_1 : cJ9_addLast.data.toList.drop 24 = dktJ9_addLast_1 := dk_seg dksJ9_addLast_0 24 rfl rfl
theorem dksJ9_addLast_2 : cJ9_addLast.data.toList.drop 47 = dktJ9_addLast_2 := dk_seg dksJ9_addLast_1 23 rfl rfl
theorem dJ9_addLast_0 : decode cJ9_addLast 0 = .ok (.aload_n 1, 1) := dk_43 (dk_at dksJ9_addLast_0 0 rfl rfl)
theorem dJ9_addLast_1 : decode cJ9_addLast 1 = .ok (.ifnonnull 11, 3) := dk_199 0 11 (dk_at dksJ9_addLast_0 1 rfl rfl)
theorem dJ9_addLast_4 : decode cJ9_addLast 4 = .ok (.new 65, 3) := dk_187 0 65 (dk_at dksJ9_addLast_0 4 rfl rfl)
theorem dJ9_addLast_7 : decode cJ9_addLast 7 = .ok (.dup, 1) := dk_89 (dk_at dksJ9_addLast_0 7 rfl rfl)
theorem dJ9_addLast_8 : decode cJ9_addLast 8 = .ok (.invokespecial 67, 3) := dk_183 0 67 (dk_at dksJ9_addLast_0 8 rfl rfl)
theorem dJ9_addLast_11 : decode cJ9_addLast 11 = .ok (.athrow, 1) := dk_191 (dk_at dksJ9_addLast_0 11 rfl rfl)
theorem dJ9_addLast_12 : decode cJ9_addLast 12 = .ok (.aload_n 0, 1) := dk_42 (dk_at dksJ9_addLast_0 12 rfl rfl)
theorem dJ9_addLast_13 : decode cJ9_addLast 13 = .ok (.getfield 3, 3) := dk_180 0 3 (dk_at dksJ9_addLast_0 13 rfl rfl)
theorem dJ9_addLast_16 : decode cJ9_addLast 16 = .ok (.astore_n 2, 1) := dk_77 (dk_at dksJ9_addLast_0 16 rfl rfl)
theorem dJ9_addLast_17 : decode cJ9_addLast 17 = .ok (.aload_n 2, 1) := dk_44 (dk_at dksJ9_addLast_0 17 rfl rfl)
theorem dJ9_addLast_18 : decode cJ9_addLast 18 = .ok (.aload_n 0, 1) := dk_42 (dk_at dksJ9_addLast_0 18 rfl rfl)
theorem dJ9_addLast_19 : decode cJ9_addLast 19 = .ok (.getfield 20, 3) := dk_180 0 20 (dk_at dksJ9_addLast_0 19 rfl rfl)
theorem dJ9_addLast_22 : decode cJ9_addLast 22 = .ok (.aload_n 1, 1) := dk_43 (dk_at dksJ9_addLast_0 22 rfl rfl)
theorem dJ9_addLast_23 : decode cJ9_addLast 23 = .ok (.aastore, 1) := dk_83 (dk_at dksJ9_addLast_0 23 rfl rfl)
theorem dJ9_addLast_24 : decode cJ9_addLast 24 = .ok (.aload_n 0, 1) := dk_42 (dk_at dksJ9_addLast_1 0 rfl rfl)
theorem dJ9_addLast_25 : decode cJ9_addLast 25 = .ok (.getfield 24, 3) := dk_180 0 24 (dk_at dksJ9_addLast_1 1 rfl rfl)
theorem dJ9_addLast_28 : decode cJ9_addLast 28 = .ok (.aload_n 0, 1) := dk_42 (dk_at dksJ9_addLast_1 4 rfl rfl)
theorem dJ9_addLast_29 : decode cJ9_addLast 29 = .ok (.aload_n 0, 1) := dk_42 (dk_at dksJ9_addLast_1 5 rfl rfl)
theorem dJ9_addLast_30 : decode cJ9_addLast 30 = .ok (.getfield 20, 3) := dk_180 0 20 (dk_at dksJ9_addLast_1 6 rfl rfl)
theorem dJ9_addLast_33 : decode cJ9_addLast 33 = .ok (.aload_n 2, 1) := dk_44 (dk_at dksJ9_addLast_1 9 rfl rfl)
theorem dJ9_addLast_34 : decode cJ9_addLast 34 = .ok (.arraylength, 1) := dk_190 (dk_at dksJ9_addLast_1 10 rfl rfl)
theorem dJ9_addLast_35 : decode cJ9_addLast 35 = .ok (.invokestatic 74, 3) := dk_184 0 74 (dk_at dksJ9_addLast_1 11 rfl rfl)
theorem dJ9_addLast_38 : decode cJ9_addLast 38 = .ok (.dup_x1, 1) := dk_90 (dk_at dksJ9_addLast_1 14 rfl rfl)
theorem dJ9_addLast_39 : decode cJ9_addLast 39 = .ok (.putfield 20, 3) := dk_181 0 20 (dk_at dksJ9_addLast_1 15 rfl rfl)
theorem dJ9_addLast_42 : decode cJ9_addLast 42 = .ok (.if_icmp .ne 8, 3) := dk_160 0 8 (dk_at dksJ9_addLast_1 18 rfl rfl)
theorem dJ9_addLast_45 : decode cJ9_addLast 45 = .ok (.aload_n 0, 1) := dk_42 (dk_at dksJ9_addLast_1 21 rfl rfl)
theorem dJ9_addLast_46 : decode cJ9_addLast 46 = .ok (.iconst 1, 1) := dk_4 (dk_at dksJ9_addLast_1 22 rfl rfl)
theorem dJ9_addLast_47 : decode cJ9_addLast 47 = .ok (.invokevirtual 71, 3) := dk_182 0 71 (dk_at dksJ9_addLast_2 0 rfl rfl)
theorem dJ9_addLast_50 : decode cJ9_addLast 50 = .ok (.return_, 1) := dk_177 (dk_at dksJ9_addLast_2 3 rfl rfl)
theorem q82 : (Jvm.Cond.initialized "java/util/ArrayDeque") ∈ lw_all := lw_g (lw_at lw_m1 13 rfl) rfl
theorem q241 : (Jvm.Cond.selects "java/util/ArrayDeque" ({ cls := "java/lang/Object", name := "getClass", desc := "()Ljava/lang/Class;" } : Jvm.MethodName) ({ cls := "java/lang/Object", name := "getClass", desc := "()Ljava/lang/Class;" } : Jvm.MethodName)) ∈ lw_all := lw_g (lw_at lw_m1 172 rfl) rfl
theorem q319 : (Jvm.Cond.instantiable "java/util/ArrayDeque" (3 : Nat)) ∈ lw_all := lw_g (lw_at lw_m2 10 rfl) rfl
theorem q321 : (Jvm.Cond.instanceMethod ({ cls := "java/util/ArrayDeque", name := "<init>", desc := "()V" } : Jvm.MethodName)) ∈ lw_all := lw_g (lw_at lw_m2 12 rfl) rfl
theorem q322 : (Jvm.Cond.code ({ cls := "java/util/ArrayDeque", name := "<init>", desc := "()V" } : Jvm.MethodName) prog_48_method_3_code (1 : Nat) (Option.none : Option Jvm.ClassFile.FieldType)) ∈ lw_all := lw_g (lw_at lw_m2 13 rfl) rfl
theorem q323 : (Jvm.Cond.methodLink "java/util/ArrayDeque" (42 : Nat) ({ cls := "java/util/AbstractCollection", name := "<init>", desc := "()V" } : Jvm.MethodName)) ∈ lw_all := lw_g (lw_at lw_m2 14 rfl) rfl
theorem q324 : (Jvm.Cond.classLink "java/util/ArrayDeque" (47 : Nat) "java/lang/Object") ∈ lw_all := lw_g (lw_at lw_m2 15 rfl) rfl
theorem q325 : (Jvm.Cond.fieldLink "java/util/ArrayDeque" (3 : Nat) "java/util/ArrayDeque" "elements" "[Ljava/lang/Object;") ∈ lw_all := lw_g (lw_at lw_m2 16 rfl) rfl
theorem q328 : (Jvm.Cond.fieldLink "java/util/ArrayDeque" (24 : Nat) "java/util/ArrayDeque" "head" "I") ∈ lw_all := lw_g (lw_at lw_m2 19 rfl) rfl
theorem q329 : (Jvm.Cond.fieldLink "java/util/ArrayDeque" (20 : Nat) "java/util/ArrayDeque" "tail" "I") ∈ lw_all := lw_g (lw_at lw_m2 20 rfl) rfl
theorem q330 : (Jvm.Cond.lays "java/util/ArrayDeque" "java/util/ArrayDeque" "elements" "[Ljava/lang/Object;") ∈ lw_all := lw_g (lw_at lw_m2 21 rfl) rfl
theorem q331 : (Jvm.Cond.soleField "java/util/ArrayDeque" "elements") ∈ lw_all := lw_g (lw_at lw_m2 22 rfl) rfl
theorem q332 : (Jvm.Cond.lays "java/util/ArrayDeque" "java/util/ArrayDeque" "head" "I") ∈ lw_all := lw_g (lw_at lw_m2 23 rfl) rfl
theorem q333 : (Jvm.Cond.soleField "java/util/ArrayDeque" "head") ∈ lw_all := lw_g (lw_at lw_m2 24 rfl) rfl
theorem q334 : (Jvm.Cond.lays "java/util/ArrayDeque" "java/util/ArrayDeque" "tail" "I") ∈ lw_all := lw_g (lw_at lw_m2 25 rfl) rfl
theorem q335 : (Jvm.Cond.soleField "java/util/ArrayDeque" "tail") ∈ lw_all := lw_g (lw_at lw_m2 26 rfl) rfl
theorem q336 : (Jvm.Cond.superclass "java/util/ArrayDeque" "java/util/AbstractCollection") ∈ lw_all := lw_g (lw_at lw_m2 27 rfl) rfl
theorem q381 : (Jvm.Cond.instanceMethod ({ cls := "java/util/ArrayDeque", name := "clear", desc := "()V" } : Jvm.MethodName)) ∈ lw_all := lw_g (lw_at lw_m2 72 rfl) rfl
theorem q382 : (Jvm.Cond.selects "java/util/ArrayDeque" ({ cls := "java/util/ArrayDeque", name := "clear", desc := "()V" } : Jvm.MethodName) ({ cls := "java/util/ArrayDeque", name := "clear", desc := "()V" } : Jvm.MethodName)) ∈ lw_all := lw_g (lw_at lw_m2 73 rfl) rfl
theorem q383 : (Jvm.Cond.code ({ cls := "java/util/ArrayDeque", name := "clear", desc := "()V" } : Jvm.MethodName) prog_48_method_53_code (1 : Nat) (Option.none : Option Jvm.ClassFile.FieldType)) ∈ lw_all := lw_g (lw_at lw_m2 74 rfl) rfl
theorem q384 : (Jvm.Cond.methodLink "java/util/ArrayDeque" (181 : Nat) ({ cls := "java/util/ArrayDeque", name := "circularClear", desc := "([Ljava/lang/Object;II)V" } : Jvm.MethodName)) ∈ lw_all := lw_g (lw_at lw_m2 75 rfl) rfl
theorem q385 : (Jvm.Cond.static ({ cls := "java/util/ArrayDeque", name := "circularClear", desc := "([Ljava/lang/Object;II)V" } : Jvm.MethodName)) ∈ lw_all := lw_g (lw_at lw_m2 76 rfl) rfl
theorem q386 : (Jvm.Cond.code ({ cls := "java/util/ArrayDeque", name := "circularClear", desc := "([Ljava/lang/Object;II)V" } : Jvm.MethodName) prog_48_method_54_code (4 : Nat) (Option.none : Option Jvm.ClassFile.FieldType)) ∈ lw_all := lw_g (lw_at lw_m2 77 rfl) rfl
theorem q1116 : (Jvm.Cond.static ({ cls := "java/util/ArrayDeque", name := "nonNullElementAt", desc := "([Ljava/lang/Object;I)Ljava/lang/Object;" } : Jvm.MethodName)) ∈ lw_all := lw_g (lw_at lw_m5 87 rfl) rfl
theorem q1117 : (Jvm.Cond.code ({ cls := "java/util/ArrayDeque", name := "nonNullElementAt", desc := "([Ljava/lang/Object;I)Ljava/lang/Object;" } : Jvm.MethodName) prog_48_method_11_code (3 : Nat) (Option.some (Jvm.ClassFile.FieldType.object "java/lang/Object"))) ∈ lw_all := lw_g (lw_at lw_m5 88 rfl) rfl
theorem q1119 : (Jvm.Cond.static ({ cls := "java/util/ArrayDeque", name := "inc", desc := "(II)I" } : Jvm.MethodName)) ∈ lw_all := lw_g (lw_at lw_m5 90 rfl) rfl
theorem q1120 : (Jvm.Cond.code ({ cls := "java/util/ArrayDeque", name := "inc", desc := "(II)I" } : Jvm.MethodName) prog_48_method_6_code (2 : Nat) (Option.some Jvm.ClassFile.FieldType.int)) ∈ lw_all := lw_g (lw_at lw_m5 91 rfl) rfl
theorem q1354 : (Jvm.Cond.instanceMethod ({ cls := "java/util/ArrayDeque", name := "addFirst", desc := "(Ljava/lang/Object;)V" } : Jvm.MethodName)) ∈ lw_all := lw_g (lw_at lw_m6 85 rfl) rfl
theorem q1355 : (Jvm.Cond.selects "java/util/ArrayDeque" ({ cls := "java/util/ArrayDeque", name := "addFirst", desc := "(Ljava/lang/Object;)V" } : Jvm.MethodName) ({ cls := "java/util/ArrayDeque", name := "addFirst", desc := "(Ljava/lang/Object;)V" } : Jvm.MethodName)) ∈ lw_all := lw_g (lw_at lw_m6 86 rfl) rfl
theorem q1356 : (Jvm.Cond.code ({ cls := "java/util/ArrayDeque", name := "addFirst", desc := "(Ljava/lang/Object;)V" } : Jvm.MethodName) prog_48_method_12_code (3 : Nat) (Option.none : Option Jvm.ClassFile.FieldType)) ∈ lw_all := lw_g (lw_at lw_m6 87 rfl) rfl
theorem q1357 : (Jvm.Cond.methodLink "java/util/ArrayDeque" (68 : Nat) ({ cls := "java/util/ArrayDeque", name := "dec", desc := "(II)I" } : Jvm.MethodName)) ∈ lw_all := lw_g (lw_at lw_m6 88 rfl) rfl
theorem q1358 : (Jvm.Cond.static ({ cls := "java/util/ArrayDeque", name := "dec", desc := "(II)I" } : Jvm.MethodName)) ∈ lw_all := lw_g (lw_at lw_m6 89 rfl) rfl
theorem q1359 : (Jvm.Cond.code ({ cls := "java/util/ArrayDeque", name := "dec", desc := "(II)I" } : Jvm.MethodName) prog_48_method_7_code (2 : Nat) (Option.some Jvm.ClassFile.FieldType.int)) ∈ lw_all := lw_g (lw_at lw_m6 90 rfl) rfl
theorem q1360 : (Jvm.Cond.methodLink "java/util/ArrayDeque" (71 : Nat) ({ cls := "java/util/ArrayDeque", name := "grow", desc := "(I)V" } : Jvm.MethodName)) ∈ lw_all := lw_g (lw_at lw_m6 91 rfl) rfl
theorem q1361 : (Jvm.Cond.privateMethod ({ cls := "java/util/ArrayDeque", name := "grow", desc := "(I)V" } : Jvm.MethodName)) ∈ lw_tbl := lw_at lw_m6 92 rfl
theorem q1362 : (Jvm.Cond.instanceMethod ({ cls := "java/util/ArrayDeque", name := "grow", desc := "(I)V" } : Jvm.MethodName)) ∈ lw_all := lw_g (lw_at lw_m6 93 rfl) rfl
theorem q1363 : (Jvm.Cond.code ({ cls := "java/util/ArrayDeque", name := "grow", desc := "(I)V" } : Jvm.MethodName) prog_48_method_1_code (9 : Nat) (Option.none : Option Jvm.ClassFile.FieldType)) ∈ lw_all := lw_g (lw_at lw_m6 94 rfl) rfl
theorem q1364 : (Jvm.Cond.constant "java/util/ArrayDeque" (9 : Nat) (2147483639 : Int32)) ∈ lw_all := lw_g (lw_at lw_m6 95 rfl) rfl
theorem q1365 : (Jvm.Cond.methodLink "java/util/ArrayDeque" (10 : Nat) ({ cls := "java/util/ArrayDeque", name := "newCapacity", desc := "(II)I" } : Jvm.MethodName)) ∈ lw_all := lw_g (lw_at lw_m6 96 rfl) rfl
theorem q1366 : (Jvm.Cond.privateMethod ({ cls := "java/util/ArrayDeque", name := "newCapacity", desc := "(II)I" } : Jvm.MethodName)) ∈ lw_tbl := lw_at lw_m6 97 rfl
theorem q1367 : (Jvm.Cond.instanceMethod ({ cls := "java/util/ArrayDeque", name := "newCapacity", desc := "(II)I" } : Jvm.MethodName)) ∈ lw_all := lw_g (lw_at lw_m6 98 rfl) rfl
theorem q1368 : (Jvm.Cond.code ({ cls := "java/util/ArrayDeque", name := "newCapacity", desc := "(II)I" } : Jvm.MethodName) prog_48_method_2_code (5 : Nat) (Option.some Jvm.ClassFile.FieldType.int)) ∈ lw_all := lw_g (lw_at lw_m6 99 rfl) rfl
theorem q1369 : (Jvm.Cond.classLink "java/util/ArrayDeque" (33 : Nat) "java/lang/IllegalStateException") ∈ lw_all := lw_g (lw_at lw_m6 100 rfl) rfl
theorem q1370 : (Jvm.Cond.stringRef "java/util/ArrayDeque" (35 : Nat) "Sorry, deque too big") ∈ lw_tbl := lw_at lw_m6 101 rfl
theorem q1371 : (Jvm.Cond.methodLink "java/util/ArrayDeque" (37 : Nat) ({ cls := "java/lang/IllegalStateException", name := "<init>", desc := "(Ljava/lang/String;)V" } : Jvm.MethodName)) ∈ lw_all := lw_g (lw_at lw_m6 102 rfl) rfl
theorem q1375 : (Jvm.Cond.constant "java/util/ArrayDeque" (41 : Nat) (2147483647 : Int32)) ∈ lw_all := lw_g (lw_at lw_m6 106 rfl) rfl
theorem q1376 : (Jvm.Cond.methodLink "java/util/ArrayDeque" (14 : Nat) ({ cls := "java/util/Arrays", name := "copyOf", desc := "([Ljava/lang/Object;I)[Ljava/lang/Object;" } : Jvm.MethodName)) ∈ lw_all := lw_g (lw_at lw_m6 107 rfl) rfl
theorem q1377 : (Jvm.Cond.methodLink "java/util/ArrayDeque" (27 : Nat) ({ cls := "java/lang/System", name := "arraycopy", desc := "(Ljava/lang/Object;ILjava/lang/Object;II)V" } : Jvm.MethodName)) ∈ lw_all := lw_g (lw_at lw_m6 108 rfl) rfl
theorem q1382 : (Jvm.Cond.instanceMethod ({ cls := "java/util/ArrayDeque", name := "iterator", desc := "()Ljava/util/Iterator;" } : Jvm.MethodName)) ∈ lw_all := lw_g (lw_at lw_m6 113 rfl) rfl
theorem q1383 : (Jvm.Cond.selects "java/util/ArrayDeque" ({ cls := "java/util/ArrayDeque", name := "iterator", desc := "()Ljava/util/Iterator;" } : Jvm.MethodName) ({ cls := "java/util/ArrayDeque", name := "iterator", desc := "()Ljava/util/Iterator;" } : Jvm.MethodName)) ∈ lw_all := lw_g (lw_at lw_m6 114 rfl) rfl
theorem q1384 : (Jvm.Cond.code ({ cls := "java/util/ArrayDeque", name := "iterator", desc := "()Ljava/util/Iterator;" } : Jvm.MethodName) prog_48_method_39_code (1 : Nat) (Option.some (Jvm.ClassFile.FieldType.object "java/util/Iterator"))) ∈ lw_all := lw_g (lw_at lw_m6 115 rfl) rfl
theorem q1385 : (Jvm.Cond.classLink "java/util/ArrayDeque" (131 : Nat) "java/util/ArrayDeque$DeqIterator") ∈ lw_all := lw_g (lw_at lw_m6 116 rfl) rfl
theorem q1387 : (Jvm.Cond.methodLink "java/util/ArrayDeque" (133 : Nat) ({ cls := "java/util/ArrayDeque$DeqIterator", name := "<init>", desc := "(Ljava/util/ArrayDeque;)V" } : Jvm.MethodName)) ∈ lw_all := lw_g (lw_at lw_m6 118 rfl) rfl
theorem q1392 : (Jvm.Cond.instanceMethod ({ cls := "java/util/ArrayDeque", name := "size", desc := "()I" } : Jvm.MethodName)) ∈ lw_all := lw_g (lw_at lw_m6 123 rfl) rfl
theorem q1393 : (Jvm.Cond.selects "java/util/ArrayDeque" ({ cls := "java/util/ArrayDeque", name := "size", desc := "()I" } : Jvm.MethodName) ({ cls := "java/util/ArrayDeque", name := "size", desc := "()I" } : Jvm.MethodName)) ∈ lw_all := lw_g (lw_at lw_m6 124 rfl) rfl
theorem q1394 : (Jvm.Cond.code ({ cls := "java/util/ArrayDeque", name := "size", desc := "()I" } : Jvm.MethodName) prog_48_method_37_code (1 : Nat) (Option.some Jvm.ClassFile.FieldType.int)) ∈ lw_all := lw_g (lw_at lw_m6 125 rfl) rfl
theorem q1395 : (Jvm.Cond.methodLink "java/util/ArrayDeque" (127 : Nat) ({ cls := "java/util/ArrayDeque", name := "sub", desc := "(III)I" } : Jvm.MethodName)) ∈ lw_all := lw_g (lw_at lw_m6 126 rfl) rfl
theorem q1396 : (Jvm.Cond.static ({ cls := "java/util/ArrayDeque", name := "sub", desc := "(III)I" } : Jvm.MethodName)) ∈ lw_all := lw_g (lw_at lw_m6 127 rfl) rfl
theorem q1397 : (Jvm.Cond.code ({ cls := "java/util/ArrayDeque", name := "sub", desc := "(III)I" } : Jvm.MethodName) prog_48_method_9_code (3 : Nat) (Option.some Jvm.ClassFile.FieldType.int)) ∈ lw_all := lw_g (lw_at lw_m6 128 rfl) rfl
theorem q1706 : (Jvm.Cond.instanceMethod ({ cls := "java/util/ArrayDeque", name := "addLast", desc := "(Ljava/lang/Object;)V" } : Jvm.MethodName)) ∈ lw_all := lw_g (lw_at lw_m7 197 rfl) rfl
theorem q1707 : (Jvm.Cond.selects "java/util/ArrayDeque" ({ cls := "java/util/ArrayDeque", name := "addLast", desc := "(Ljava/lang/Object;)V" } : Jvm.MethodName) ({ cls := "java/util/ArrayDeque", name := "addLast", desc := "(Ljava/lang/Object;)V" } : Jvm.MethodName)) ∈ lw_all := lw_g (lw_at lw_m7 198 rfl) rfl
theorem q1708 : (Jvm.Cond.code ({ cls := "java/util/ArrayDeque", name := "addLast", desc := "(Ljava/lang/Object;)V" } : Jvm.MethodName) prog_48_method_13_code (3 : Nat) (Option.none : Option Jvm.ClassFile.FieldType)) ∈ lw_all := lw_g (lw_at lw_m7 199 rfl) rfl
theorem q1709 : (Jvm.Cond.methodLink "java/util/ArrayDeque" (74 : Nat) ({ cls := "java/util/ArrayDeque", name := "inc", desc := "(II)I" } : Jvm.MethodName)) ∈ lw_all := lw_g (lw_at lw_m7 200 rfl) rfl
theorem q2065 : (Jvm.Cond.castable "java/util/ArrayDeque" "java/lang/Object") ∈ lw_tbl := lw_at lw_m9 76 rfl
theorem in_J9 : ∀ w ∈ wsJ90, w ∈ lw_all := lw_in wsJ90 [330, 332, 334] (by decide +kernel) (by decide +kernel)
theorem q1420 : (Jvm.Cond.interfaceMethod "Coreplug$Undone" "Coreplug$Undone" "run" "()V") ∈ lw_tbl := lw_at lw_m6 151 rfl
set_option maxRecDepth 100000
theorem q1421 : (Jvm.Cond.declares ({ cls := "Coreplug$Undone", name := "run", desc := "()V" } : Jvm.MethodName)) ∈ lw_tbl := lw_at lw_m6 152 rfl
theorem q110 : (Jvm.Cond.initialized "Coreplug$Way") ∈ lw_all := lw_g (lw_at lw_m1 41 rfl) rfl
set_option maxRecDepth 100000
theorem q1294 : (Jvm.Cond.laysStatic "Coreplug$Way" "STARTING" "LCoreplug$Way;") ∈ lw_tbl := lw_at lw_m6 25 rfl
theorem q1300 : (Jvm.Cond.declares ({ cls := "Coreplug$Way", name := "has", desc := "(LCoreplug$Step;)Z" } : Jvm.MethodName)) ∈ lw_tbl := lw_at lw_m6 31 rfl
theorem q1301 : (Jvm.Cond.sameMethod "Coreplug$Way" "Coreplug$Way" "has" "(LCoreplug$Step;)Z") ∈ lw_all := lw_g (lw_at lw_m6 32 rfl) rfl
theorem q1316 : (Jvm.Cond.sameMethod "Coreplug$Way" "java/lang/Enum" "ordinal" "()I") ∈ lw_all := lw_g (lw_at lw_m6 47 rfl) rfl
theorem q1412 : (Jvm.Cond.laysStatic "Coreplug$Way" "STOPPING" "LCoreplug$Way;") ∈ lw_tbl := lw_at lw_m6 143 rfl
theorem q1564 : (Jvm.Cond.declares ({ cls := "Coreplug$Way", name := "back", desc := "()LCoreplug$Way;" } : Jvm.MethodName)) ∈ lw_tbl := lw_at lw_m7 55 rfl
theorem q1565 : (Jvm.Cond.sameMethod "Coreplug$Way" "Coreplug$Way" "back" "()LCoreplug$Way;") ∈ lw_all := lw_g (lw_at lw_m7 56 rfl) rfl
theorem q2094 : (Jvm.Cond.castable "Coreplug$Way" "java/lang/Object") ∈ lw_tbl := lw_at lw_m9 105 rfl
theorem q553 : (Jvm.Cond.sameMethod "[B" "java/lang/Object" "clone" "()Ljava/lang/Object;") ∈ lw_all := lw_g (lw_at lw_m3 4 rfl) rfl
set_option maxRecDepth 100000
theorem q556 : (Jvm.Cond.selects "[B" ({ cls := "[B", name := "clone", desc := "()Ljava/lang/Object;" } : Jvm.MethodName) ({ cls := "java/lang/Object", name := "clone", desc := "()Ljava/lang/Object;" } : Jvm.MethodName)) ∈ lw_all := lw_g (lw_at lw_m3 7 rfl) rfl
theorem q557 : (Jvm.Cond.castable "[B" "java/lang/Cloneable") ∈ lw_tbl := lw_at lw_m3 8 rfl
theorem q2098 : (Jvm.Cond.castable "[B" "java/lang/Object") ∈ lw_tbl := lw_at lw_m9 109 rfl
theorem q2096 : (Jvm.Cond.castable "[I" "java/lang/Object") ∈ lw_tbl := lw_at lw_m9 107 rfl
set_option maxRecDepth 100000
theorem q1289 : (Jvm.Cond.sameMethod "[J" "java/lang/Object" "clone" "()Ljava/lang/Object;") ∈ lw_all := lw_g (lw_at lw_m6 20 rfl) rfl
set_option maxRecDepth 100000
theorem q1290 : (Jvm.Cond.selects "[J" ({ cls := "[J", name := "clone", desc := "()Ljava/lang/Object;" } : Jvm.MethodName) ({ cls := "java/lang/Object", name := "clone", desc := "()Ljava/lang/Object;" } : Jvm.MethodName)) ∈ lw_all := lw_g (lw_at lw_m6 21 rfl) rfl
theorem q1291 : (Jvm.Cond.castable "[J" "java/lang/Cloneable") ∈ lw_tbl := lw_at lw_m6 22 rfl
theorem q2099 : (Jvm.Cond.castable "[J" "java/lang/Object") ∈ lw_tbl := lw_at lw_m9 110 rfl
theorem q2095 : (Jvm.Cond.castable "[LCoreplug$Step;" "java/lang/Object") ∈ lw_tbl := lw_at lw_m9 106 rfl
set_option maxRecDepth 100000
theorem q2091 : (Jvm.Cond.sameMethod "[Ljava/lang/Object;" "java/lang/Object" "getClass" "()Ljava/lang/Class;") ∈ lw_all := lw_g (lw_at lw_m9 102 rfl) rfl
set_option maxRecDepth 100000
theorem q2092 : (Jvm.Cond.selects "[Ljava/lang/Object;" ({ cls := "java/lang/Object", name := "getClass", desc := "()Ljava/lang/Class;" } : Jvm.MethodName) ({ cls := "java/lang/Object", name := "getClass", desc := "()Ljava/lang/Class;" } : Jvm.MethodName)) ∈ lw_all := lw_g (lw_at lw_m9 103 rfl) rfl
theorem q2097 : (Jvm.Cond.castable "[Ljava/lang/Object;" "java/lang/Object") ∈ lw_tbl := lw_at lw_m9 108 rfl
theorem q2100 : (Jvm.Cond.castable "[Z" "java/lang/Object") ∈ lw_tbl := lw_at lw_m9 111 rfl
set_option maxRecDepth 100000
theorem q106 : (Jvm.Cond.initialized "java/lang/Integer$IntegerCache") ∈ lw_all := lw_g (lw_at lw_m1 37 rfl) rfl
set_option maxRecDepth 100000
theorem q1003 : (Jvm.Cond.laysStatic "java/lang/Integer$IntegerCache" "high" "I") ∈ lw_tbl := lw_at lw_m4 214 rfl
theorem q1005 : (Jvm.Cond.laysStatic "java/lang/Integer$IntegerCache" "cache" "[Ljava/lang/Integer;") ∈ lw_tbl := lw_at lw_m4 216 rfl
theorem q78 : (Jvm.Cond.initialized "java/lang/System") ∈ lw_all := lw_g (lw_at lw_m1 9 rfl) rfl
set_option maxRecDepth 100000
theorem q262 : (Jvm.Cond.static ({ cls := "java/lang/System", name := "arraycopy", desc := "(Ljava/lang/Object;ILjava/lang/Object;II)V" } : Jvm.MethodName)) ∈ lw_all := lw_g (lw_at lw_m1 193 rfl) rfl
theorem q263 : (Jvm.Cond.native ({ cls := "java/lang/System", name := "arraycopy", desc := "(Ljava/lang/Object;ILjava/lang/Object;II)V" } : Jvm.MethodName)) ∈ lw_all := lw_g (lw_at lw_m1 194 rfl) rfl
theorem q102 : (Jvm.Cond.initialized "java/util/AbstractList$ListItr") ∈ lw_all := lw_g (lw_at lw_m1 33 rfl) rfl
set_option maxRecDepth 100000
theorem q240 : (Jvm.Cond.selects "java/util/AbstractList$ListItr" ({ cls := "java/lang/Object", name := "getClass", desc := "()Ljava/lang/Class;" } : Jvm.MethodName) ({ cls := "java/lang/Object", name := "getClass", desc := "()Ljava/lang/Class;" } : Jvm.MethodName)) ∈ lw_all := lw_g (lw_at lw_m1 171 rfl) rfl
theorem q904 : (Jvm.Cond.castable "java/util/AbstractList$ListItr" "java/util/Iterator") ∈ lw_tbl := lw_at lw_m4 115 rfl
theorem q905 : (Jvm.Cond.selects "java/util/AbstractList$ListItr" ({ cls := "java/util/Iterator", name := "hasNext", desc := "()Z" } : Jvm.MethodName) ({ cls := "java/util/AbstractList$Itr", name := "hasNext", desc := "()Z" } : Jvm.MethodName)) ∈ lw_all := lw_g (lw_at lw_m4 116 rfl) rfl
theorem q906 : (Jvm.Cond.unhidden "java/util/AbstractList$ListItr" "hasNext" "()Z") ∈ lw_tbl := lw_at lw_m4 117 rfl
theorem q1019 : (Jvm.Cond.selects "java/util/AbstractList$ListItr" ({ cls := "java/util/Iterator", name := "next", desc := "()Ljava/lang/Object;" } : Jvm.MethodName) ({ cls := "java/util/AbstractList$Itr", name := "next", desc := "()Ljava/lang/Object;" } : Jvm.MethodName)) ∈ lw_all := lw_g (lw_at lw_m4 230 rfl) rfl
theorem q1020 : (Jvm.Cond.unhidden "java/util/AbstractList$ListItr" "next" "()Ljava/lang/Object;") ∈ lw_tbl := lw_at lw_m4 231 rfl
theorem q1027 : (Jvm.Cond.selects "java/util/AbstractList$ListItr" ({ cls := "java/util/AbstractList$Itr", name := "checkForComodification", desc := "()V" } : Jvm.MethodName) ({ cls := "java/util/AbstractList$Itr", name := "checkForComodification", desc := "()V" } : Jvm.MethodName)) ∈ lw_all := lw_g (lw_at lw_m4 238 rfl) rfl
theorem q2075 : (Jvm.Cond.castable "java/util/AbstractList$ListItr" "java/lang/Object") ∈ lw_tbl := lw_at lw_m9 86 rfl
theorem q2101 : (Jvm.Cond.fieldLink "java/util/AbstractList$ListItr" (1 : Nat) "java/util/AbstractList$ListItr" "this$0" "Ljava/util/AbstractList;") ∈ lw_all := lw_g (lw_at lw_m9 112 rfl) rfl
theorem q2106 : (Jvm.Cond.fieldLink "java/util/AbstractList$ListItr" (13 : Nat) "java/util/AbstractList$ListItr" "cursor" "I") ∈ lw_all := lw_g (lw_at lw_m9 117 rfl) rfl
theorem q2107 : (Jvm.Cond.sameField "java/util/AbstractList$ListItr" "java/util/AbstractList$Itr" "cursor" "I") ∈ lw_all := lw_g (lw_at lw_m9 118 rfl) rfl
theorem q896 : (Jvm.Cond.interfaceMethod "java/util/Iterator" "java/util/Iterator" "hasNext" "()Z") ∈ lw_tbl := lw_at lw_m4 107 rfl
set_option maxRecDepth 100000
theorem q897 : (Jvm.Cond.declares ({ cls := "java/util/Iterator", name := "hasNext", desc := "()Z" } : Jvm.MethodName)) ∈ lw_tbl := lw_at lw_m4 108 rfl
theorem q938 : (Jvm.Cond.interfaceMethod "java/util/Iterator" "java/util/Iterator" "next" "()Ljava/lang/Object;") ∈ lw_tbl := lw_at lw_m4 149 rfl
theorem q939 : (Jvm.Cond.declares ({ cls := "java/util/Iterator", name := "next", desc := "()Ljava/lang/Object;" } : Jvm.MethodName)) ∈ lw_tbl := lw_at lw_m4 150 rfl
theorem q185 : (Jvm.Cond.interfaceMethod "java/util/List" "java/util/List" "add" "(Ljava/lang/Object;)Z") ∈ lw_tbl := lw_at lw_m1 116 rfl
set_option maxRecDepth 100000
theorem q186 : (Jvm.Cond.declares ({ cls := "java/util/List", name := "add", desc := "(Ljava/lang/Object;)Z" } : Jvm.MethodName)) ∈ lw_tbl := lw_at lw_m1 117 rfl
theorem q368 : (Jvm.Cond.interfaceMethod "java/util/List" "java/util/List" "clear" "()V") ∈ lw_tbl := lw_at lw_m2 59 rfl
theorem q369 : (Jvm.Cond.declares ({ cls := "java/util/List", name := "clear", desc := "()V" } : Jvm.MethodName)) ∈ lw_tbl := lw_at lw_m2 60 rfl
theorem q393 : (Jvm.Cond.interfaceMethod "java/util/List" "java/util/List" "size" "()I") ∈ lw_tbl := lw_at lw_m2 84 rfl
theorem q394 : (Jvm.Cond.declares ({ cls := "java/util/List", name := "size", desc := "()I" } : Jvm.MethodName)) ∈ lw_tbl := lw_at lw_m2 85 rfl
theorem q415 : (Jvm.Cond.interfaceMethod "java/util/List" "java/util/List" "get" "(I)Ljava/lang/Object;") ∈ lw_tbl := lw_at lw_m2 106 rfl
theorem q416 : (Jvm.Cond.declares ({ cls := "java/util/List", name := "get", desc := "(I)Ljava/lang/Object;" } : Jvm.MethodName)) ∈ lw_tbl := lw_at lw_m2 107 rfl
theorem q783 : (Jvm.Cond.interfaceMethod "java/util/List" "java/util/List" "iterator" "()Ljava/util/Iterator;") ∈ lw_tbl := lw_at lw_m3 234 rfl
theorem q784 : (Jvm.Cond.declares ({ cls := "java/util/List", name := "iterator", desc := "()Ljava/util/Iterator;" } : Jvm.MethodName)) ∈ lw_tbl := lw_at lw_m3 235 rfl
theorem q130 : (Jvm.Cond.arrayOver (Jvm.ClassFile.FieldType.object "Coreplug$Step")) ∈ lw_tbl := lw_at lw_m1 61 rfl
set_option maxRecDepth 100000
theorem q182 : (Jvm.Cond.arrayClass Jvm.ClassFile.FieldType.int) ∈ lw_all := lw_g (lw_at lw_m1 113 rfl) rfl
theorem q256 : (Jvm.Cond.arrayOver (Jvm.ClassFile.FieldType.object "java/lang/Object")) ∈ lw_tbl := lw_at lw_m1 187 rfl
theorem q526 : (Jvm.Cond.arrayClass Jvm.ClassFile.FieldType.byte) ∈ lw_all := lw_g (lw_at lw_m2 217 rfl) rfl
theorem q1234 : (Jvm.Cond.arrayClass Jvm.ClassFile.FieldType.long) ∈ lw_all := lw_g (lw_at lw_m5 205 rfl) rfl
theorem q1829 : (Jvm.Cond.arrayClass Jvm.ClassFile.FieldType.boolean) ∈ lw_all := lw_g (lw_at lw_m8 80 rfl) rfl
