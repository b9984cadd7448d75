/-! DECODE ROWS BY BYTES: one lemma an opcode; a method's code is cut into short pieces once, and a row reads its own piece alone. -/
set_option maxRecDepth 100000
/-- the code has just these bytes from pc on -/
def DkAt (code : ByteArray) (pc : Nat) (bs : List UInt8) : Prop := ∀ (j : Nat) (b : UInt8), bs[j]? = some b → code.data.toList[pc + j]? = some b
/-- the piece W has the bytes bs from its place j on -/
def dkIn (W : List UInt8) (j : Nat) (bs : List UInt8) : Bool := decide ((W.drop j).take bs.length = bs)
theorem dk_seg {l W T : List UInt8} {o o2 : Nat} (h : l.drop o = W ++ T) (n : Nat) (hn : W.length = n) (ho : o + n = o2) : l.drop o2 = T := by
  subst ho
  rw [← List.drop_drop, h, List.drop_left' hn]
theorem dk_at {code : ByteArray} {W T bs : List UInt8} {o pc : Nat} (h : code.data.toList.drop o = W ++ T) (j : Nat) (hp : o + j = pc) (hw : dkIn W j bs = true) : DkAt code pc bs := by
  subst hp
  intro i b e
  have h1 := of_decide_eq_true hw
  have h2 : i < bs.length := (List.getElem?_eq_some_iff.mp e).1
  have h3 : W[j + i]? = some b := by
    rw [← h1, List.getElem?_take, if_pos h2, List.getElem?_drop] at e
    exact e
  have h4 : j + i < W.length := (List.getElem?_eq_some_iff.mp h3).1
  have h5 : (code.data.toList.drop o)[j + i]? = some b := by
    rw [h, List.getElem?_append_left h4]
    exact h3
  rw [List.getElem?_drop, ← Nat.add_assoc] at h5
  exact h5
theorem dk_u1 {A : ByteArray} {p : Nat} {b : UInt8} (h : A.data.toList[p]? = some b) : (Reader.u1 : Reader DecodeError Nat) A p = .ok (b.toNat, p + 1) := by
  obtain ⟨h1, h2⟩ := List.getElem?_eq_some_iff.mp h
  have h3 : p < A.size := by simpa using h1
  have h4 : A[p]'h3 = b := h2
  have e : (Reader.u1 : Reader DecodeError Nat) A p = (if h : p < A.size then .ok (A[p].toNat, p + 1) else .error (HasTruncated.truncated p)) := by
    show (do if h : p < A.size then do set (p + 1); Pure.pure A[p].toNat else MonadExcept.throw (HasTruncated.truncated p) : Reader DecodeError Nat) A p = _
    by_cases hi : p < A.size
    · rw [dif_pos hi, dif_pos hi]; rfl
    · rw [dif_neg hi, dif_neg hi]; rfl
  rw [e, dif_pos h3, h4]
theorem dk_bind {α β : Type} {r : Reader DecodeError α} {f : α → Reader DecodeError β} {A : ByteArray} {p s : Nat} {a : α} (h : r A p = .ok (a, s)) : (r >>= f) A p = f a A s := by
  show (do let (a, s) ← r A p; f a A s : Except DecodeError (β × Nat)) = _
  rw [h]
  rfl
theorem dk_map {α β : Type} {r : Reader DecodeError α} {g : α → β} {A : ByteArray} {p s : Nat} {a : α} (h : r A p = .ok (a, s)) : (g <$> r) A p = .ok (g a, s) := by
  show (do let (a, s) ← r A p; .ok (g a, s) : Except DecodeError (β × Nat)) = _
  rw [h]
  rfl
theorem dk_u2 {A : ByteArray} {p : Nat} {a b : UInt8} (h : A.data.toList[p]? = some a) (h2 : A.data.toList[p + 1]? = some b) : (Reader.u2 : Reader DecodeError Nat) A p = .ok (a.toNat * 256 + b.toNat, p + 2) := by
  show (Reader.u1 >>= fun hi => Reader.u1 >>= fun lo => Pure.pure (hi * 256 + lo) : Reader DecodeError Nat) A p = _
  rw [dk_bind (dk_u1 h), dk_bind (dk_u1 h2)]
  rfl
theorem dk_of {code : ByteArray} {pc n : Nat} {i : Instr} (h : Decoder.instr pc code pc = .ok (i, pc + n)) : decode code pc = .ok (i, n) := by
  have e : decode code pc = (match Decoder.instr pc code pc with | .error x => .error x | .ok (j, s) => .ok (j, s - pc)) := by
    show (do let (j, s) ← Decoder.instr pc code pc; Pure.pure (j, s - pc) : Except DecodeError (Instr × Nat)) = _
    cases Decoder.instr pc code pc <;> rfl
  rw [e, h]
  show Except.ok (i, pc + n - pc) = _
  rw [Nat.add_sub_cancel_left]
theorem dk_1 {code : ByteArray} {pc : Nat} (h : DkAt code pc [1]) : decode code pc = .ok (.aconst_null, 1) := dk_of ((dk_bind (dk_u1 (h 0 _ rfl))).trans rfl)
theorem dk_2 {code : ByteArray} {pc : Nat} (h : DkAt code pc [2]) : decode code pc = .ok (.iconst (-1), 1) := dk_of ((dk_bind (dk_u1 (h 0 _ rfl))).trans rfl)
theorem dk_3 {code : ByteArray} {pc : Nat} (h : DkAt code pc [3]) : decode code pc = .ok (.iconst 0, 1) := dk_of ((dk_bind (dk_u1 (h 0 _ rfl))).trans rfl)
theorem dk_4 {code : ByteArray} {pc : Nat} (h : DkAt code pc [4]) : decode code pc = .ok (.iconst 1, 1) := dk_of ((dk_bind (dk_u1 (h 0 _ rfl))).trans rfl)
theorem dk_5 {code : ByteArray} {pc : Nat} (h : DkAt code pc [5]) : decode code pc = .ok (.iconst 2, 1) := dk_of ((dk_bind (dk_u1 (h 0 _ rfl))).trans rfl)
theorem dk_6 {code : ByteArray} {pc : Nat} (h : DkAt code pc [6]) : decode code pc = .ok (.iconst 3, 1) := dk_of ((dk_bind (dk_u1 (h 0 _ rfl))).trans rfl)
theorem dk_7 {code : ByteArray} {pc : Nat} (h : DkAt code pc [7]) : decode code pc = .ok (.iconst 4, 1) := dk_of ((dk_bind (dk_u1 (h 0 _ rfl))).trans rfl)
theorem dk_8 {code : ByteArray} {pc : Nat} (h : DkAt code pc [8]) : decode code pc = .ok (.iconst 5, 1) := dk_of ((dk_bind (dk_u1 (h 0 _ rfl))).trans rfl)
theorem dk_9 {code : ByteArray} {pc : Nat} (h : DkAt code pc [9]) : decode code pc = .ok (.lconst 0, 1) := dk_of ((dk_bind (dk_u1 (h 0 _ rfl))).trans rfl)
theorem dk_10 {code : ByteArray} {pc : Nat} (h : DkAt code pc [10]) : decode code pc = .ok (.lconst 1, 1) := dk_of ((dk_bind (dk_u1 (h 0 _ rfl))).trans rfl)
theorem dk_11 {code : ByteArray} {pc : Nat} (h : DkAt code pc [11]) : decode code pc = .ok (.fconst 0, 1) := dk_of ((dk_bind (dk_u1 (h 0 _ rfl))).trans rfl)
theorem dk_14 {code : ByteArray} {pc : Nat} (h : DkAt code pc [14]) : decode code pc = .ok (.dconst 0, 1) := dk_of ((dk_bind (dk_u1 (h 0 _ rfl))).trans rfl)
theorem dk_16 {code : ByteArray} {pc : Nat} (a : UInt8) (h : DkAt code pc [16, a]) : decode code pc = .ok (.bipush (Reader.signed 8 a.toNat), 2) := dk_of ((dk_bind (dk_u1 (h 0 _ rfl))).trans ((dk_bind (dk_map (dk_u1 (h 1 _ rfl)))).trans rfl))
theorem dk_17 {code : ByteArray} {pc : Nat} (a b : UInt8) (h : DkAt code pc [17, a, b]) : decode code pc = .ok (.sipush (Reader.signed 16 (a.toNat * 256 + b.toNat)), 3) := dk_of ((dk_bind (dk_u1 (h 0 _ rfl))).trans ((dk_bind (dk_map (dk_u2 (h 1 _ rfl) (h 2 _ rfl)))).trans rfl))
theorem dk_18 {code : ByteArray} {pc : Nat} (a : UInt8) (h : DkAt code pc [18, a]) : decode code pc = .ok (.ldc a.toNat, 2) := dk_of ((dk_bind (dk_u1 (h 0 _ rfl))).trans ((dk_bind (dk_u1 (h 1 _ rfl))).trans rfl))
theorem dk_19 {code : ByteArray} {pc : Nat} (a b : UInt8) (h : DkAt code pc [19, a, b]) : decode code pc = .ok (.ldc_w (a.toNat * 256 + b.toNat), 3) := dk_of ((dk_bind (dk_u1 (h 0 _ rfl))).trans ((dk_bind (dk_u2 (h 1 _ rfl) (h 2 _ rfl))).trans rfl))
theorem dk_20 {code : ByteArray} {pc : Nat} (a b : UInt8) (h : DkAt code pc [20, a, b]) : decode code pc = .ok (.ldc2_w (a.toNat * 256 + b.toNat), 3) := dk_of ((dk_bind (dk_u1 (h 0 _ rfl))).trans ((dk_bind (dk_u2 (h 1 _ rfl) (h 2 _ rfl))).trans rfl))
theorem dk_21 {code : ByteArray} {pc : Nat} (a : UInt8) (h : DkAt code pc [21, a]) : decode code pc = .ok (.iload a.toNat, 2) := dk_of ((dk_bind (dk_u1 (h 0 _ rfl))).trans ((dk_bind (dk_u1 (h 1 _ rfl))).trans rfl))
theorem dk_23 {code : ByteArray} {pc : Nat} (a : UInt8) (h : DkAt code pc [23, a]) : decode code pc = .ok (.fload a.toNat, 2) := dk_of ((dk_bind (dk_u1 (h 0 _ rfl))).trans ((dk_bind (dk_u1 (h 1 _ rfl))).trans rfl))
theorem dk_24 {code : ByteArray} {pc : Nat} (a : UInt8) (h : DkAt code pc [24, a]) : decode code pc = .ok (.dload a.toNat, 2) := dk_of ((dk_bind (dk_u1 (h 0 _ rfl))).trans ((dk_bind (dk_u1 (h 1 _ rfl))).trans rfl))
theorem dk_25 {code : ByteArray} {pc : Nat} (a : UInt8) (h : DkAt code pc [25, a]) : decode code pc = .ok (.aload a.toNat, 2) := dk_of ((dk_bind (dk_u1 (h 0 _ rfl))).trans ((dk_bind (dk_u1 (h 1 _ rfl))).trans rfl))
theorem dk_26 {code : ByteArray} {pc : Nat} (h : DkAt code pc [26]) : decode code pc = .ok (.iload_n 0, 1) := dk_of ((dk_bind (dk_u1 (h 0 _ rfl))).trans rfl)
theorem dk_27 {code : ByteArray} {pc : Nat} (h : DkAt code pc [27]) : decode code pc = .ok (.iload_n 1, 1) := dk_of ((dk_bind (dk_u1 (h 0 _ rfl))).trans rfl)
theorem dk_28 {code : ByteArray} {pc : Nat} (h : DkAt code pc [28]) : decode code pc = .ok (.iload_n 2, 1) := dk_of ((dk_bind (dk_u1 (h 0 _ rfl))).trans rfl)
theorem dk_29 {code : ByteArray} {pc : Nat} (h : DkAt code pc [29]) : decode code pc = .ok (.iload_n 3, 1) := dk_of ((dk_bind (dk_u1 (h 0 _ rfl))).trans rfl)
theorem dk_30 {code : ByteArray} {pc : Nat} (h : DkAt code pc [30]) : decode code pc = .ok (.lload_n 0, 1) := dk_of ((dk_bind (dk_u1 (h 0 _ rfl))).trans rfl)
theorem dk_42 {code : ByteArray} {pc : Nat} (h : DkAt code pc [42]) : decode code pc = .ok (.aload_n 0, 1) := dk_of ((dk_bind (dk_u1 (h 0 _ rfl))).trans rfl)
theorem dk_43 {code : ByteArray} {pc : Nat} (h : DkAt code pc [43]) : decode code pc = .ok (.aload_n 1, 1) := dk_of ((dk_bind (dk_u1 (h 0 _ rfl))).trans rfl)
theorem dk_44 {code : ByteArray} {pc : Nat} (h : DkAt code pc [44]) : decode code pc = .ok (.aload_n 2, 1) := dk_of ((dk_bind (dk_u1 (h 0 _ rfl))).trans rfl)
theorem dk_45 {code : ByteArray} {pc : Nat} (h : DkAt code pc [45]) : decode code pc = .ok (.aload_n 3, 1) := dk_of ((dk_bind (dk_u1 (h 0 _ rfl))).trans rfl)
theorem dk_46 {code : ByteArray} {pc : Nat} (h : DkAt code pc [46]) : decode code pc = .ok (.iaload, 1) := dk_of ((dk_bind (dk_u1 (h 0 _ rfl))).trans rfl)
theorem dk_47 {code : ByteArray} {pc : Nat} (h : DkAt code pc [47]) : decode code pc = .ok (.laload, 1) := dk_of ((dk_bind (dk_u1 (h 0 _ rfl))).trans rfl)
theorem dk_50 {code : ByteArray} {pc : Nat} (h : DkAt code pc [50]) : decode code pc = .ok (.aaload, 1) := dk_of ((dk_bind (dk_u1 (h 0 _ rfl))).trans rfl)
theorem dk_51 {code : ByteArray} {pc : Nat} (h : DkAt code pc [51]) : decode code pc = .ok (.baload, 1) := dk_of ((dk_bind (dk_u1 (h 0 _ rfl))).trans rfl)
theorem dk_53 {code : ByteArray} {pc : Nat} (h : DkAt code pc [53]) : decode code pc = .ok (.saload, 1) := dk_of ((dk_bind (dk_u1 (h 0 _ rfl))).trans rfl)
theorem dk_54 {code : ByteArray} {pc : Nat} (a : UInt8) (h : DkAt code pc [54, a]) : decode code pc = .ok (.istore a.toNat, 2) := dk_of ((dk_bind (dk_u1 (h 0 _ rfl))).trans ((dk_bind (dk_u1 (h 1 _ rfl))).trans rfl))
theorem dk_56 {code : ByteArray} {pc : Nat} (a : UInt8) (h : DkAt code pc [56, a]) : decode code pc = .ok (.fstore a.toNat, 2) := dk_of ((dk_bind (dk_u1 (h 0 _ rfl))).trans ((dk_bind (dk_u1 (h 1 _ rfl))).trans rfl))
theorem dk_57 {code : ByteArray} {pc : Nat} (a : UInt8) (h : DkAt code pc [57, a]) : decode code pc = .ok (.dstore a.toNat, 2) := dk_of ((dk_bind (dk_u1 (h 0 _ rfl))).trans ((dk_bind (dk_u1 (h 1 _ rfl))).trans rfl))
theorem dk_58 {code : ByteArray} {pc : Nat} (a : UInt8) (h : DkAt code pc [58, a]) : decode code pc = .ok (.astore a.toNat, 2) := dk_of ((dk_bind (dk_u1 (h 0 _ rfl))).trans ((dk_bind (dk_u1 (h 1 _ rfl))).trans rfl))
theorem dk_59 {code : ByteArray} {pc : Nat} (h : DkAt code pc [59]) : decode code pc = .ok (.istore_n 0, 1) := dk_of ((dk_bind (dk_u1 (h 0 _ rfl))).trans rfl)
theorem dk_60 {code : ByteArray} {pc : Nat} (h : DkAt code pc [60]) : decode code pc = .ok (.istore_n 1, 1) := dk_of ((dk_bind (dk_u1 (h 0 _ rfl))).trans rfl)
theorem dk_61 {code : ByteArray} {pc : Nat} (h : DkAt code pc [61]) : decode code pc = .ok (.istore_n 2, 1) := dk_of ((dk_bind (dk_u1 (h 0 _ rfl))).trans rfl)
theorem dk_62 {code : ByteArray} {pc : Nat} (h : DkAt code pc [62]) : decode code pc = .ok (.istore_n 3, 1) := dk_of ((dk_bind (dk_u1 (h 0 _ rfl))).trans rfl)
theorem dk_63 {code : ByteArray} {pc : Nat} (h : DkAt code pc [63]) : decode code pc = .ok (.lstore_n 0, 1) := dk_of ((dk_bind (dk_u1 (h 0 _ rfl))).trans rfl)
theorem dk_76 {code : ByteArray} {pc : Nat} (h : DkAt code pc [76]) : decode code pc = .ok (.astore_n 1, 1) := dk_of ((dk_bind (dk_u1 (h 0 _ rfl))).trans rfl)
theorem dk_77 {code : ByteArray} {pc : Nat} (h : DkAt code pc [77]) : decode code pc = .ok (.astore_n 2, 1) := dk_of ((dk_bind (dk_u1 (h 0 _ rfl))).trans rfl)
theorem dk_78 {code : ByteArray} {pc : Nat} (h : DkAt code pc [78]) : decode code pc = .ok (.astore_n 3, 1) := dk_of ((dk_bind (dk_u1 (h 0 _ rfl))).trans rfl)
theorem dk_79 {code : ByteArray} {pc : Nat} (h : DkAt code pc [79]) : decode code pc = .ok (.iastore, 1) := dk_of ((dk_bind (dk_u1 (h 0 _ rfl))).trans rfl)
theorem dk_80 {code : ByteArray} {pc : Nat} (h : DkAt code pc [80]) : decode code pc = .ok (.lastore, 1) := dk_of ((dk_bind (dk_u1 (h 0 _ rfl))).trans rfl)
theorem dk_83 {code : ByteArray} {pc : Nat} (h : DkAt code pc [83]) : decode code pc = .ok (.aastore, 1) := dk_of ((dk_bind (dk_u1 (h 0 _ rfl))).trans rfl)
theorem dk_84 {code : ByteArray} {pc : Nat} (h : DkAt code pc [84]) : decode code pc = .ok (.bastore, 1) := dk_of ((dk_bind (dk_u1 (h 0 _ rfl))).trans rfl)
theorem dk_86 {code : ByteArray} {pc : Nat} (h : DkAt code pc [86]) : decode code pc = .ok (.sastore, 1) := dk_of ((dk_bind (dk_u1 (h 0 _ rfl))).trans rfl)
theorem dk_87 {code : ByteArray} {pc : Nat} (h : DkAt code pc [87]) : decode code pc = .ok (.pop, 1) := dk_of ((dk_bind (dk_u1 (h 0 _ rfl))).trans rfl)
theorem dk_89 {code : ByteArray} {pc : Nat} (h : DkAt code pc [89]) : decode code pc = .ok (.dup, 1) := dk_of ((dk_bind (dk_u1 (h 0 _ rfl))).trans rfl)
theorem dk_90 {code : ByteArray} {pc : Nat} (h : DkAt code pc [90]) : decode code pc = .ok (.dup_x1, 1) := dk_of ((dk_bind (dk_u1 (h 0 _ rfl))).trans rfl)
theorem dk_92 {code : ByteArray} {pc : Nat} (h : DkAt code pc [92]) : decode code pc = .ok (.dup2, 1) := dk_of ((dk_bind (dk_u1 (h 0 _ rfl))).trans rfl)
theorem dk_96 {code : ByteArray} {pc : Nat} (h : DkAt code pc [96]) : decode code pc = .ok (.iadd, 1) := dk_of ((dk_bind (dk_u1 (h 0 _ rfl))).trans rfl)
theorem dk_97 {code : ByteArray} {pc : Nat} (h : DkAt code pc [97]) : decode code pc = .ok (.ladd, 1) := dk_of ((dk_bind (dk_u1 (h 0 _ rfl))).trans rfl)
theorem dk_100 {code : ByteArray} {pc : Nat} (h : DkAt code pc [100]) : decode code pc = .ok (.isub, 1) := dk_of ((dk_bind (dk_u1 (h 0 _ rfl))).trans rfl)
theorem dk_101 {code : ByteArray} {pc : Nat} (h : DkAt code pc [101]) : decode code pc = .ok (.lsub, 1) := dk_of ((dk_bind (dk_u1 (h 0 _ rfl))).trans rfl)
theorem dk_104 {code : ByteArray} {pc : Nat} (h : DkAt code pc [104]) : decode code pc = .ok (.imul, 1) := dk_of ((dk_bind (dk_u1 (h 0 _ rfl))).trans rfl)
theorem dk_105 {code : ByteArray} {pc : Nat} (h : DkAt code pc [105]) : decode code pc = .ok (.lmul, 1) := dk_of ((dk_bind (dk_u1 (h 0 _ rfl))).trans rfl)
theorem dk_108 {code : ByteArray} {pc : Nat} (h : DkAt code pc [108]) : decode code pc = .ok (.idiv, 1) := dk_of ((dk_bind (dk_u1 (h 0 _ rfl))).trans rfl)
theorem dk_110 {code : ByteArray} {pc : Nat} (h : DkAt code pc [110]) : decode code pc = .ok (.fdiv, 1) := dk_of ((dk_bind (dk_u1 (h 0 _ rfl))).trans rfl)
theorem dk_111 {code : ByteArray} {pc : Nat} (h : DkAt code pc [111]) : decode code pc = .ok (.ddiv, 1) := dk_of ((dk_bind (dk_u1 (h 0 _ rfl))).trans rfl)
theorem dk_116 {code : ByteArray} {pc : Nat} (h : DkAt code pc [116]) : decode code pc = .ok (.ineg, 1) := dk_of ((dk_bind (dk_u1 (h 0 _ rfl))).trans rfl)
theorem dk_120 {code : ByteArray} {pc : Nat} (h : DkAt code pc [120]) : decode code pc = .ok (.ishl, 1) := dk_of ((dk_bind (dk_u1 (h 0 _ rfl))).trans rfl)
theorem dk_121 {code : ByteArray} {pc : Nat} (h : DkAt code pc [121]) : decode code pc = .ok (.lshl, 1) := dk_of ((dk_bind (dk_u1 (h 0 _ rfl))).trans rfl)
theorem dk_122 {code : ByteArray} {pc : Nat} (h : DkAt code pc [122]) : decode code pc = .ok (.ishr, 1) := dk_of ((dk_bind (dk_u1 (h 0 _ rfl))).trans rfl)
theorem dk_124 {code : ByteArray} {pc : Nat} (h : DkAt code pc [124]) : decode code pc = .ok (.iushr, 1) := dk_of ((dk_bind (dk_u1 (h 0 _ rfl))).trans rfl)
theorem dk_125 {code : ByteArray} {pc : Nat} (h : DkAt code pc [125]) : decode code pc = .ok (.lushr, 1) := dk_of ((dk_bind (dk_u1 (h 0 _ rfl))).trans rfl)
theorem dk_126 {code : ByteArray} {pc : Nat} (h : DkAt code pc [126]) : decode code pc = .ok (.iand, 1) := dk_of ((dk_bind (dk_u1 (h 0 _ rfl))).trans rfl)
theorem dk_127 {code : ByteArray} {pc : Nat} (h : DkAt code pc [127]) : decode code pc = .ok (.land, 1) := dk_of ((dk_bind (dk_u1 (h 0 _ rfl))).trans rfl)
theorem dk_128 {code : ByteArray} {pc : Nat} (h : DkAt code pc [128]) : decode code pc = .ok (.ior, 1) := dk_of ((dk_bind (dk_u1 (h 0 _ rfl))).trans rfl)
theorem dk_129 {code : ByteArray} {pc : Nat} (h : DkAt code pc [129]) : decode code pc = .ok (.lor, 1) := dk_of ((dk_bind (dk_u1 (h 0 _ rfl))).trans rfl)
theorem dk_131 {code : ByteArray} {pc : Nat} (h : DkAt code pc [131]) : decode code pc = .ok (.lxor, 1) := dk_of ((dk_bind (dk_u1 (h 0 _ rfl))).trans rfl)
theorem dk_132 {code : ByteArray} {pc : Nat} (a b : UInt8) (h : DkAt code pc [132, a, b]) : decode code pc = .ok (.iinc a.toNat (Reader.signed 8 b.toNat), 3) := dk_of ((dk_bind (dk_u1 (h 0 _ rfl))).trans ((dk_bind (dk_u1 (h 1 _ rfl))).trans ((dk_bind (dk_map (dk_u1 (h 2 _ rfl)))).trans rfl)))
theorem dk_133 {code : ByteArray} {pc : Nat} (h : DkAt code pc [133]) : decode code pc = .ok (.i2l, 1) := dk_of ((dk_bind (dk_u1 (h 0 _ rfl))).trans rfl)
theorem dk_134 {code : ByteArray} {pc : Nat} (h : DkAt code pc [134]) : decode code pc = .ok (.i2f, 1) := dk_of ((dk_bind (dk_u1 (h 0 _ rfl))).trans rfl)
theorem dk_135 {code : ByteArray} {pc : Nat} (h : DkAt code pc [135]) : decode code pc = .ok (.i2d, 1) := dk_of ((dk_bind (dk_u1 (h 0 _ rfl))).trans rfl)
theorem dk_136 {code : ByteArray} {pc : Nat} (h : DkAt code pc [136]) : decode code pc = .ok (.l2i, 1) := dk_of ((dk_bind (dk_u1 (h 0 _ rfl))).trans rfl)
theorem dk_141 {code : ByteArray} {pc : Nat} (h : DkAt code pc [141]) : decode code pc = .ok (.f2d, 1) := dk_of ((dk_bind (dk_u1 (h 0 _ rfl))).trans rfl)
theorem dk_145 {code : ByteArray} {pc : Nat} (h : DkAt code pc [145]) : decode code pc = .ok (.i2b, 1) := dk_of ((dk_bind (dk_u1 (h 0 _ rfl))).trans rfl)
theorem dk_146 {code : ByteArray} {pc : Nat} (h : DkAt code pc [146]) : decode code pc = .ok (.i2c, 1) := dk_of ((dk_bind (dk_u1 (h 0 _ rfl))).trans rfl)
theorem dk_147 {code : ByteArray} {pc : Nat} (h : DkAt code pc [147]) : decode code pc = .ok (.i2s, 1) := dk_of ((dk_bind (dk_u1 (h 0 _ rfl))).trans rfl)
theorem dk_148 {code : ByteArray} {pc : Nat} (h : DkAt code pc [148]) : decode code pc = .ok (.lcmp, 1) := dk_of ((dk_bind (dk_u1 (h 0 _ rfl))).trans rfl)
theorem dk_149 {code : ByteArray} {pc : Nat} (h : DkAt code pc [149]) : decode code pc = .ok (.fcmp .l, 1) := dk_of ((dk_bind (dk_u1 (h 0 _ rfl))).trans rfl)
theorem dk_151 {code : ByteArray} {pc : Nat} (h : DkAt code pc [151]) : decode code pc = .ok (.dcmp .l, 1) := dk_of ((dk_bind (dk_u1 (h 0 _ rfl))).trans rfl)
theorem dk_153 {code : ByteArray} {pc : Nat} (a b : UInt8) (h : DkAt code pc [153, a, b]) : decode code pc = .ok (.ifCond .eq (Reader.signed 16 (a.toNat * 256 + b.toNat)), 3) := dk_of ((dk_bind (dk_u1 (h 0 _ rfl))).trans ((dk_bind (dk_map (dk_u2 (h 1 _ rfl) (h 2 _ rfl)))).trans rfl))
theorem dk_154 {code : ByteArray} {pc : Nat} (a b : UInt8) (h : DkAt code pc [154, a, b]) : decode code pc = .ok (.ifCond .ne (Reader.signed 16 (a.toNat * 256 + b.toNat)), 3) := dk_of ((dk_bind (dk_u1 (h 0 _ rfl))).trans ((dk_bind (dk_map (dk_u2 (h 1 _ rfl) (h 2 _ rfl)))).trans rfl))
theorem dk_155 {code : ByteArray} {pc : Nat} (a b : UInt8) (h : DkAt code pc [155, a, b]) : decode code pc = .ok (.ifCond .lt (Reader.signed 16 (a.toNat * 256 + b.toNat)), 3) := dk_of ((dk_bind (dk_u1 (h 0 _ rfl))).trans ((dk_bind (dk_map (dk_u2 (h 1 _ rfl) (h 2 _ rfl)))).trans rfl))
theorem dk_156 {code : ByteArray} {pc : Nat} (a b : UInt8) (h : DkAt code pc [156, a, b]) : decode code pc = .ok (.ifCond .ge (Reader.signed 16 (a.toNat * 256 + b.toNat)), 3) := dk_of ((dk_bind (dk_u1 (h 0 _ rfl))).trans ((dk_bind (dk_map (dk_u2 (h 1 _ rfl) (h 2 _ rfl)))).trans rfl))
theorem dk_157 {code : ByteArray} {pc : Nat} (a b : UInt8) (h : DkAt code pc [157, a, b]) : decode code pc = .ok (.ifCond .gt (Reader.signed 16 (a.toNat * 256 + b.toNat)), 3) := dk_of ((dk_bind (dk_u1 (h 0 _ rfl))).trans ((dk_bind (dk_map (dk_u2 (h 1 _ rfl) (h 2 _ rfl)))).trans rfl))
theorem dk_158 {code : ByteArray} {pc : Nat} (a b : UInt8) (h : DkAt code pc [158, a, b]) : decode code pc = .ok (.ifCond .le (Reader.signed 16 (a.toNat * 256 + b.toNat)), 3) := dk_of ((dk_bind (dk_u1 (h 0 _ rfl))).trans ((dk_bind (dk_map (dk_u2 (h 1 _ rfl) (h 2 _ rfl)))).trans rfl))
theorem dk_159 {code : ByteArray} {pc : Nat} (a b : UInt8) (h : DkAt code pc [159, a, b]) : decode code pc = .ok (.if_icmp .eq (Reader.signed 16 (a.toNat * 256 + b.toNat)), 3) := dk_of ((dk_bind (dk_u1 (h 0 _ rfl))).trans ((dk_bind (dk_map (dk_u2 (h 1 _ rfl) (h 2 _ rfl)))).trans rfl))
theorem dk_160 {code : ByteArray} {pc : Nat} (a b : UInt8) (h : DkAt code pc [160, a, b]) : decode code pc = .ok (.if_icmp .ne (Reader.signed 16 (a.toNat * 256 + b.toNat)), 3) := dk_of ((dk_bind (dk_u1 (h 0 _ rfl))).trans ((dk_bind (dk_map (dk_u2 (h 1 _ rfl) (h 2 _ rfl)))).trans rfl))
theorem dk_161 {code : ByteArray} {pc : Nat} (a b : UInt8) (h : DkAt code pc [161, a, b]) : decode code pc = .ok (.if_icmp .lt (Reader.signed 16 (a.toNat * 256 + b.toNat)), 3) := dk_of ((dk_bind (dk_u1 (h 0 _ rfl))).trans ((dk_bind (dk_map (dk_u2 (h 1 _ rfl) (h 2 _ rfl)))).trans rfl))
theorem dk_162 {code : ByteArray} {pc : Nat} (a b : UInt8) (h : DkAt code pc [162, a, b]) : decode code pc = .ok (.if_icmp .ge (Reader.signed 16 (a.toNat * 256 + b.toNat)), 3) := dk_of ((dk_bind (dk_u1 (h 0 _ rfl))).trans ((dk_bind (dk_map (dk_u2 (h 1 _ rfl) (h 2 _ rfl)))).trans rfl))
theorem dk_163 {code : ByteArray} {pc : Nat} (a b : UInt8) (h : DkAt code pc [163, a, b]) : decode code pc = .ok (.if_icmp .gt (Reader.signed 16 (a.toNat * 256 + b.toNat)), 3) := dk_of ((dk_bind (dk_u1 (h 0 _ rfl))).trans ((dk_bind (dk_map (dk_u2 (h 1 _ rfl) (h 2 _ rfl)))).trans rfl))
theorem dk_164 {code : ByteArray} {pc : Nat} (a b : UInt8) (h : DkAt code pc [164, a, b]) : decode code pc = .ok (.if_icmp .le (Reader.signed 16 (a.toNat * 256 + b.toNat)), 3) := dk_of ((dk_bind (dk_u1 (h 0 _ rfl))).trans ((dk_bind (dk_map (dk_u2 (h 1 _ rfl) (h 2 _ rfl)))).trans rfl))
theorem dk_165 {code : ByteArray} {pc : Nat} (a b : UInt8) (h : DkAt code pc [165, a, b]) : decode code pc = .ok (.if_acmp .eq (Reader.signed 16 (a.toNat * 256 + b.toNat)), 3) := dk_of ((dk_bind (dk_u1 (h 0 _ rfl))).trans ((dk_bind (dk_map (dk_u2 (h 1 _ rfl) (h 2 _ rfl)))).trans rfl))
theorem dk_166 {code : ByteArray} {pc : Nat} (a b : UInt8) (h : DkAt code pc [166, a, b]) : decode code pc = .ok (.if_acmp .ne (Reader.signed 16 (a.toNat * 256 + b.toNat)), 3) := dk_of ((dk_bind (dk_u1 (h 0 _ rfl))).trans ((dk_bind (dk_map (dk_u2 (h 1 _ rfl) (h 2 _ rfl)))).trans rfl))
theorem dk_167 {code : ByteArray} {pc : Nat} (a b : UInt8) (h : DkAt code pc [167, a, b]) : decode code pc = .ok (.goto (Reader.signed 16 (a.toNat * 256 + b.toNat)), 3) := dk_of ((dk_bind (dk_u1 (h 0 _ rfl))).trans ((dk_bind (dk_map (dk_u2 (h 1 _ rfl) (h 2 _ rfl)))).trans rfl))
theorem dk_172 {code : ByteArray} {pc : Nat} (h : DkAt code pc [172]) : decode code pc = .ok (.ireturn, 1) := dk_of ((dk_bind (dk_u1 (h 0 _ rfl))).trans rfl)
theorem dk_173 {code : ByteArray} {pc : Nat} (h : DkAt code pc [173]) : decode code pc = .ok (.lreturn, 1) := dk_of ((dk_bind (dk_u1 (h 0 _ rfl))).trans rfl)
theorem dk_174 {code : ByteArray} {pc : Nat} (h : DkAt code pc [174]) : decode code pc = .ok (.freturn, 1) := dk_of ((dk_bind (dk_u1 (h 0 _ rfl))).trans rfl)
theorem dk_175 {code : ByteArray} {pc : Nat} (h : DkAt code pc [175]) : decode code pc = .ok (.dreturn, 1) := dk_of ((dk_bind (dk_u1 (h 0 _ rfl))).trans rfl)
theorem dk_176 {code : ByteArray} {pc : Nat} (h : DkAt code pc [176]) : decode code pc = .ok (.areturn, 1) := dk_of ((dk_bind (dk_u1 (h 0 _ rfl))).trans rfl)
theorem dk_177 {code : ByteArray} {pc : Nat} (h : DkAt code pc [177]) : decode code pc = .ok (.return_, 1) := dk_of ((dk_bind (dk_u1 (h 0 _ rfl))).trans rfl)
theorem dk_178 {code : ByteArray} {pc : Nat} (a b : UInt8) (h : DkAt code pc [178, a, b]) : decode code pc = .ok (.getstatic (a.toNat * 256 + b.toNat), 3) := dk_of ((dk_bind (dk_u1 (h 0 _ rfl))).trans ((dk_bind (dk_u2 (h 1 _ rfl) (h 2 _ rfl))).trans rfl))
theorem dk_180 {code : ByteArray} {pc : Nat} (a b : UInt8) (h : DkAt code pc [180, a, b]) : decode code pc = .ok (.getfield (a.toNat * 256 + b.toNat), 3) := dk_of ((dk_bind (dk_u1 (h 0 _ rfl))).trans ((dk_bind (dk_u2 (h 1 _ rfl) (h 2 _ rfl))).trans rfl))
theorem dk_181 {code : ByteArray} {pc : Nat} (a b : UInt8) (h : DkAt code pc [181, a, b]) : decode code pc = .ok (.putfield (a.toNat * 256 + b.toNat), 3) := dk_of ((dk_bind (dk_u1 (h 0 _ rfl))).trans ((dk_bind (dk_u2 (h 1 _ rfl) (h 2 _ rfl))).trans rfl))
theorem dk_182 {code : ByteArray} {pc : Nat} (a b : UInt8) (h : DkAt code pc [182, a, b]) : decode code pc = .ok (.invokevirtual (a.toNat * 256 + b.toNat), 3) := dk_of ((dk_bind (dk_u1 (h 0 _ rfl))).trans ((dk_bind (dk_u2 (h 1 _ rfl) (h 2 _ rfl))).trans rfl))
theorem dk_183 {code : ByteArray} {pc : Nat} (a b : UInt8) (h : DkAt code pc [183, a, b]) : decode code pc = .ok (.invokespecial (a.toNat * 256 + b.toNat), 3) := dk_of ((dk_bind (dk_u1 (h 0 _ rfl))).trans ((dk_bind (dk_u2 (h 1 _ rfl) (h 2 _ rfl))).trans rfl))
theorem dk_184 {code : ByteArray} {pc : Nat} (a b : UInt8) (h : DkAt code pc [184, a, b]) : decode code pc = .ok (.invokestatic (a.toNat * 256 + b.toNat), 3) := dk_of ((dk_bind (dk_u1 (h 0 _ rfl))).trans ((dk_bind (dk_u2 (h 1 _ rfl) (h 2 _ rfl))).trans rfl))
theorem dk_187 {code : ByteArray} {pc : Nat} (a b : UInt8) (h : DkAt code pc [187, a, b]) : decode code pc = .ok (.new (a.toNat * 256 + b.toNat), 3) := dk_of ((dk_bind (dk_u1 (h 0 _ rfl))).trans ((dk_bind (dk_u2 (h 1 _ rfl) (h 2 _ rfl))).trans rfl))
theorem dk_188_4 {code : ByteArray} {pc : Nat} (h : DkAt code pc [188, 4]) : decode code pc = .ok (.newarray .boolean, 2) := dk_of ((dk_bind (dk_u1 (h 0 _ rfl))).trans ((dk_bind (dk_u1 (h 1 _ rfl))).trans rfl))
theorem dk_188_8 {code : ByteArray} {pc : Nat} (h : DkAt code pc [188, 8]) : decode code pc = .ok (.newarray .byte, 2) := dk_of ((dk_bind (dk_u1 (h 0 _ rfl))).trans ((dk_bind (dk_u1 (h 1 _ rfl))).trans rfl))
theorem dk_188_9 {code : ByteArray} {pc : Nat} (h : DkAt code pc [188, 9]) : decode code pc = .ok (.newarray .short, 2) := dk_of ((dk_bind (dk_u1 (h 0 _ rfl))).trans ((dk_bind (dk_u1 (h 1 _ rfl))).trans rfl))
theorem dk_188_10 {code : ByteArray} {pc : Nat} (h : DkAt code pc [188, 10]) : decode code pc = .ok (.newarray .int, 2) := dk_of ((dk_bind (dk_u1 (h 0 _ rfl))).trans ((dk_bind (dk_u1 (h 1 _ rfl))).trans rfl))
theorem dk_188_11 {code : ByteArray} {pc : Nat} (h : DkAt code pc [188, 11]) : decode code pc = .ok (.newarray .long, 2) := dk_of ((dk_bind (dk_u1 (h 0 _ rfl))).trans ((dk_bind (dk_u1 (h 1 _ rfl))).trans rfl))
theorem dk_189 {code : ByteArray} {pc : Nat} (a b : UInt8) (h : DkAt code pc [189, a, b]) : decode code pc = .ok (.anewarray (a.toNat * 256 + b.toNat), 3) := dk_of ((dk_bind (dk_u1 (h 0 _ rfl))).trans ((dk_bind (dk_u2 (h 1 _ rfl) (h 2 _ rfl))).trans rfl))
theorem dk_190 {code : ByteArray} {pc : Nat} (h : DkAt code pc [190]) : decode code pc = .ok (.arraylength, 1) := dk_of ((dk_bind (dk_u1 (h 0 _ rfl))).trans rfl)
theorem dk_191 {code : ByteArray} {pc : Nat} (h : DkAt code pc [191]) : decode code pc = .ok (.athrow, 1) := dk_of ((dk_bind (dk_u1 (h 0 _ rfl))).trans rfl)
theorem dk_192 {code : ByteArray} {pc : Nat} (a b : UInt8) (h : DkAt code pc [192, a, b]) : decode code pc = .ok (.checkcast (a.toNat * 256 + b.toNat), 3) := dk_of ((dk_bind (dk_u1 (h 0 _ rfl))).trans ((dk_bind (dk_u2 (h 1 _ rfl) (h 2 _ rfl))).trans rfl))
theorem dk_193 {code : ByteArray} {pc : Nat} (a b : UInt8) (h : DkAt code pc [193, a, b]) : decode code pc = .ok (.instanceof (a.toNat * 256 + b.toNat), 3) := dk_of ((dk_bind (dk_u1 (h 0 _ rfl))).trans ((dk_bind (dk_u2 (h 1 _ rfl) (h 2 _ rfl))).trans rfl))
theorem dk_198 {code : ByteArray} {pc : Nat} (a b : UInt8) (h : DkAt code pc [198, a, b]) : decode code pc = .ok (.ifnull (Reader.signed 16 (a.toNat * 256 + b.toNat)), 3) := dk_of ((dk_bind (dk_u1 (h 0 _ rfl))).trans ((dk_bind (dk_map (dk_u2 (h 1 _ rfl) (h 2 _ rfl)))).trans rfl))
theorem dk_199 {code : ByteArray} {pc : Nat} (a b : UInt8) (h : DkAt code pc [199, a, b]) : decode code pc = .ok (.ifnonnull (Reader.signed 16 (a.toNat * 256 + b.toNat)), 3) := dk_of ((dk_bind (dk_u1 (h 0 _ rfl))).trans ((dk_bind (dk_map (dk_u2 (h 1 _ rfl) (h 2 _ rfl)))).trans rfl))

/-! DredgeledgerLaw -/
set_option maxRecDepth 100000
def RX0 : String := "DredgeledgerLaw"
abbrev cX0_addCells : ByteArray := method_2_code
def yX0_addCells : MethodName := ⟨RX0, "addCells", "(LDredgeledger;IILDredgeledgerLaw$Out;)I"⟩
def dkwX0_addCells_0 : List UInt8 := [45, 42, 27, 28, 182, 0, 7, 133, 181, 0, 13, 167, 0, 11, 58, 4, 4, 172, 58, 4, 5, 172, 3, 172]
abbrev dktX0_addCells_0 : List UInt8 := dkwX0_addCells_0 ++ []
theorem dksX0_addCells_0 : cX0_addCells.data.toList.drop 0 = dktX0_addCells_0 := by decide +kernel
theorem dX0_addCells_0 : decode cX0_addCells 0 = .ok (.aload_n 3, 1) := dk_45 (dk_at dksX0_addCells_0 0 rfl rfl)
theorem dX0_addCells_1 : decode cX0_addCells 1 = .ok (.aload_n 0, 1) := dk_42 (dk_at dksX0_addCells_0 1 rfl rfl)
theorem dX0_addCells_2 : decode cX0_addCells 2 = .ok (.iload_n 1, 1) := dk_27 (dk_at dksX0_addCells_0 2 rfl rfl)
theorem dX0_addCells_3 : decode cX0_addCells 3 = .ok (.iload_n 2, 1) := dk_28 (dk_at dksX0_addCells_0 3 rfl rfl)
theorem dX0_addCells_4 : decode cX0_addCells 4 = .ok (.invokevirtual 7, 3) := dk_182 0 7 (dk_at dksX0_addCells_0 4 rfl rfl)
theorem dX0_addCells_7 : decode cX0_addCells 7 = .ok (.i2l, 1) := dk_133 (dk_at dksX0_addCells_0 7 rfl rfl)
theorem dX0_addCells_8 : decode cX0_addCells 8 = .ok (.putfield 13, 3) := dk_181 0 13 (dk_at dksX0_addCells_0 8 rfl rfl)
theorem dX0_addCells_11 : decode cX0_addCells 11 = .ok (.goto 11, 3) := dk_167 0 11 (dk_at dksX0_addCells_0 11 rfl rfl)
theorem dX0_addCells_14 : decode cX0_addCells 14 = .ok (.astore 4, 2) := dk_58 4 (dk_at dksX0_addCells_0 14 rfl rfl)
theorem dX0_addCells_16 : decode cX0_addCells 16 = .ok (.iconst 1, 1) := dk_4 (dk_at dksX0_addCells_0 16 rfl rfl)
theorem dX0_addCells_17 : decode cX0_addCells 17 = .ok (.ireturn, 1) := dk_172 (dk_at dksX0_addCells_0 17 rfl rfl)
theorem dX0_addCells_18 : decode cX0_addCells 18 = .ok (.astore 4, 2) := dk_58 4 (dk_at dksX0_addCells_0 18 rfl rfl)
theorem dX0_addCells_20 : decode cX0_addCells 20 = .ok (.iconst 2, 1) := dk_5 (dk_at dksX0_addCells_0 20 rfl rfl)
theorem dX0_addCells_21 : decode cX0_addCells 21 = .ok (.ireturn, 1) := dk_172 (dk_at dksX0_addCells_0 21 rfl rfl)
theorem dX0_addCells_22 : decode cX0_addCells 22 = .ok (.iconst 0, 1) := dk_3 (dk_at dksX0_addCells_0 22 rfl rfl)
theorem dX0_addCells_23 : decode cX0_addCells 23 = .ok (.ireturn, 1) := dk_172 (dk_at dksX0_addCells_0 23 rfl rfl)
abbrev cX0_setLimit : ByteArray := method_3_code
def yX0_setLimit : MethodName := ⟨RX0, "setLimit", "(LDredgeledger;IILDredgeledgerLaw$Out;)I"⟩
def dkwX0_setLimit_0 : List UInt8 := [45, 42, 27, 28, 182, 0, 23, 133, 181, 0, 13, 167, 0, 11, 58, 4, 4, 172, 58, 4, 5, 172, 3, 172]
abbrev dktX0_setLimit_0 : List UInt8 := dkwX0_setLimit_0 ++ []
theorem dksX0_setLimit_0 : cX0_setLimit.data.toList.drop 0 = dktX0_setLimit_0 := by decide +kernel
theorem dX0_setLimit_0 : decode cX0_setLimit 0 = .ok (.aload_n 3, 1) := dk_45 (dk_at dksX0_setLimit_0 0 rfl rfl)
theorem dX0_setLimit_1 : decode cX0_setLimit 1 = .ok (.aload_n 0, 1) := dk_42 (dk_at dksX0_setLimit_0 1 rfl rfl)
theorem dX0_setLimit_2 : decode cX0_setLimit 2 = .ok (.iload_n 1, 1) := dk_27 (dk_at dksX0_setLimit_0 2 rfl rfl)
theorem dX0_setLimit_3 : decode cX0_setLimit 3 = .ok (.iload_n 2, 1) := dk_28 (dk_at dksX0_setLimit_0 3 rfl rfl)
theorem dX0_setLimit_4 : decode cX0_setLimit 4 = .ok (.invokevirtual 23, 3) := dk_182 0 23 (dk_at dksX0_setLimit_0 4 rfl rfl)
theorem dX0_setLimit_7 : decode cX0_setLimit 7 = .ok (.i2l, 1) := dk_133 (dk_at dksX0_setLimit_0 7 rfl rfl)
theorem dX0_setLimit_8 : decode cX0_setLimit 8 = .ok (.putfield 13, 3) := dk_181 0 13 (dk_at dksX0_setLimit_0 8 rfl rfl)
theorem dX0_setLimit_11 : decode cX0_setLimit 11 = .ok (.goto 11, 3) := dk_167 0 11 (dk_at dksX0_setLimit_0 11 rfl rfl)
theorem dX0_setLimit_14 : decode cX0_setLimit 14 = .ok (.astore 4, 2) := dk_58 4 (dk_at dksX0_setLimit_0 14 rfl rfl)
theorem dX0_setLimit_16 : decode cX0_setLimit 16 = .ok (.iconst 1, 1) := dk_4 (dk_at dksX0_setLimit_0 16 rfl rfl)
theorem dX0_setLimit_17 : decode cX0_setLimit 17 = .ok (.ireturn, 1) := dk_172 (dk_at dksX0_setLimit_0 17 rfl rfl)
theorem dX0_setLimit_18 : decode cX0_setLimit 18 = .ok (.astore 4, 2) := dk_58 4 (dk_at dksX0_setLimit_0 18 rfl rfl)
theorem dX0_setLimit_20 : decode cX0_setLimit 20 = .ok (.iconst 2, 1) := dk_5 (dk_at dksX0_setLimit_0 20 rfl rfl)
theorem dX0_setLimit_21 : decode cX0_setLimit 21 = .ok (.ireturn, 1) := dk_172 (dk_at dksX0_setLimit_0 21 rfl rfl)
theorem dX0_setLimit_22 : decode cX0_setLimit 22 = .ok (.iconst 0, 1) := dk_3 (dk_at dksX0_setLimit_0 22 rfl rfl)
theorem dX0_setLimit_23 : decode cX0_setLimit 23 = .ok (.ireturn, 1) := dk_172 (dk_at dksX0_setLimit_0 23 rfl rfl)
abbrev cX0_setSlope : ByteArray := method_4_code
def yX0_setSlope : MethodName := ⟨RX0, "setSlope", "(LDredgeledger;ILDredgeledgerLaw$Out;)I"⟩
def dkwX0_setSlope_0 : List UInt8 := [44, 42, 27, 182, 0, 28, 133, 181, 0, 13, 167, 0, 6, 78, 4, 172, 3, 172]
abbrev dktX0_setSlope_0 : List UInt8 := dkwX0_setSlope_0 ++ []
theorem dksX0_setSlope_0 : cX0_setSlope.data.toList.drop 0 = dktX0_setSlope_0 := by decide +kernel
theorem dX0_setSlope_0 : decode cX0_setSlope 0 = .ok (.aload_n 2, 1) := dk_44 (dk_at dksX0_setSlope_0 0 rfl rfl)
theorem dX0_setSlope_1 : decode cX0_setSlope 1 = .ok (.aload_n 0, 1) := dk_42 (dk_at dksX0_setSlope_0 1 rfl rfl)
theorem dX0_setSlope_2 : decode cX0_setSlope 2 = .ok (.iload_n 1, 1) := dk_27 (dk_at dksX0_setSlope_0 2 rfl rfl)
theorem dX0_setSlope_3 : decode cX0_setSlope 3 = .ok (.invokevirtual 28, 3) := dk_182 0 28 (dk_at dksX0_setSlope_0 3 rfl rfl)
theorem dX0_setSlope_6 : decode cX0_setSlope 6 = .ok (.i2l, 1) := dk_133 (dk_at dksX0_setSlope_0 6 rfl rfl)
theorem dX0_setSlope_7 : decode cX0_setSlope 7 = .ok (.putfield 13, 3) := dk_181 0 13 (dk_at dksX0_setSlope_0 7 rfl rfl)
theorem dX0_setSlope_10 : decode cX0_setSlope 10 = .ok (.goto 6, 3) := dk_167 0 6 (dk_at dksX0_setSlope_0 10 rfl rfl)
theorem dX0_setSlope_13 : decode cX0_setSlope 13 = .ok (.astore_n 3, 1) := dk_78 (dk_at dksX0_setSlope_0 13 rfl rfl)
theorem dX0_setSlope_14 : decode cX0_setSlope 14 = .ok (.iconst 1, 1) := dk_4 (dk_at dksX0_setSlope_0 14 rfl rfl)
theorem dX0_setSlope_15 : decode cX0_setSlope 15 = .ok (.ireturn, 1) := dk_172 (dk_at dksX0_setSlope_0 15 rfl rfl)
theorem dX0_setSlope_16 : decode cX0_setSlope 16 = .ok (.iconst 0, 1) := dk_3 (dk_at dksX0_setSlope_0 16 rfl rfl)
theorem dX0_setSlope_17 : decode cX0_setSlope 17 = .ok (.ireturn, 1) := dk_172 (dk_at dksX0_setSlope_0 17 rfl rfl)
abbrev cX0_depth : ByteArray := method_5_code
def yX0_depth : MethodName := ⟨RX0, "depth", "(LDredgeledger;ILDredgeledgerLaw$Out;)I"⟩
def dkwX0_depth_0 : List UInt8 := [44, 42, 27, 182, 0, 32, 133, 181, 0, 13, 167, 0, 6, 78, 4, 172, 3, 172]
abbrev dktX0_depth_0 : List UInt8 := dkwX0_depth_0 ++ []
theorem dksX0_depth_0 : cX0_depth.data.toList.drop 0 = dktX0_depth_0 := by decide +kernel
theorem dX0_depth_0 : decode cX0_depth 0 = .ok (.aload_n 2, 1) := dk_44 (dk_at dksX0_depth_0 0 rfl rfl)
theorem dX0_depth_1 : decode cX0_depth 1 = .ok (.aload_n 0, 1) := dk_42 (dk_at dksX0_depth_0 1 rfl rfl)
theorem dX0_depth_2 : decode cX0_depth 2 = .ok (.iload_n 1, 1) := dk_27 (dk_at dksX0_depth_0 2 rfl rfl)
theorem dX0_depth_3 : decode cX0_depth 3 = .ok (.invokevirtual 32, 3) := dk_182 0 32 (dk_at dksX0_depth_0 3 rfl rfl)
theorem dX0_depth_6 : decode cX0_depth 6 = .ok (.i2l, 1) := dk_133 (dk_at dksX0_depth_0 6 rfl rfl)
theorem dX0_depth_7 : decode cX0_depth 7 = .ok (.putfield 13, 3) := dk_181 0 13 (dk_at dksX0_depth_0 7 rfl rfl)
theorem dX0_depth_10 : decode cX0_depth 10 = .ok (.goto 6, 3) := dk_167 0 6 (dk_at dksX0_depth_0 10 rfl rfl)
theorem dX0_depth_13 : decode cX0_depth 13 = .ok (.astore_n 3, 1) := dk_78 (dk_at dksX0_depth_0 13 rfl rfl)
theorem dX0_depth_14 : decode cX0_depth 14 = .ok (.iconst 1, 1) := dk_4 (dk_at dksX0_depth_0 14 rfl rfl)
theorem dX0_depth_15 : decode cX0_depth 15 = .ok (.ireturn, 1) := dk_172 (dk_at dksX0_depth_0 15 rfl rfl)
theorem dX0_depth_16 : decode cX0_depth 16 = .ok (.iconst 0, 1) := dk_3 (dk_at dksX0_depth_0 16 rfl rfl)
theorem dX0_depth_17 : decode cX0_depth 17 = .ok (.ireturn, 1) := dk_172 (dk_at dksX0_depth_0 17 rfl rfl)
abbrev cX0_dredge : ByteArray := method_6_code
def yX0_dredge : MethodName := ⟨RX0, "dredge", "(LDredgeledger;IILDredgeledgerLaw$Out;)I"⟩
def dkwX0_dredge_1 : List UInt8 := [6, 172, 58, 4, 7, 172, 3, 172]
abbrev dktX0_dredge_1 : List UInt8 := dkwX0_dredge_1 ++ []
def dkwX0_dredge_0 : List UInt8 := [45, 42, 27, 28, 182, 0, 35, 133, 181, 0, 13, 167, 0, 19, 58, 4, 4, 172, 58, 4, 5, 172, 58, 4]
abbrev dktX0_dredge_0 : List UInt8 := dkwX0_dredge_0 ++ dktX0_dredge_1
theorem dksX0_dredge_0 : cX0_dredge.data.toList.drop 0 = dktX0_dredge_0 := by decide +kernel
theorem dksX0_dredge_1 : cX0_dredge.data.toList.drop 24 = dktX0_dredge_1 := dk_seg dksX0_dredge_0 24 rfl rfl
theorem dX0_dredge_0 : decode cX0_dredge 0 = .ok (.aload_n 3, 1) := dk_45 (dk_at dksX0_dredge_0 0 rfl rfl)
theorem dX0_dredge_1 : decode cX0_dredge 1 = .ok (.aload_n 0, 1) := dk_42 (dk_at dksX0_dredge_0 1 rfl rfl)
theorem dX0_dredge_2 : decode cX0_dredge 2 = .ok (.iload_n 1, 1) := dk_27 (dk_at dksX0_dredge_0 2 rfl rfl)
theorem dX0_dredge_3 : decode cX0_dredge 3 = .ok (.iload_n 2, 1) := dk_28 (dk_at dksX0_dredge_0 3 rfl rfl)
theorem dX0_dredge_4 : decode cX0_dredge 4 = .ok (.invokevirtual 35, 3) := dk_182 0 35 (dk_at dksX0_dredge_0 4 rfl rfl)
theorem dX0_dredge_7 : decode cX0_dredge 7 = .ok (.i2l, 1) := dk_133 (dk_at dksX0_dredge_0 7 rfl rfl)
theorem dX0_dredge_8 : decode cX0_dredge 8 = .ok (.putfield 13, 3) := dk_181 0 13 (dk_at dksX0_dredge_0 8 rfl rfl)
theorem dX0_dredge_11 : decode cX0_dredge 11 = .ok (.goto 19, 3) := dk_167 0 19 (dk_at dksX0_dredge_0 11 rfl rfl)
theorem dX0_dredge_14 : decode cX0_dredge 14 = .ok (.astore 4, 2) := dk_58 4 (dk_at dksX0_dredge_0 14 rfl rfl)
theorem dX0_dredge_16 : decode cX0_dredge 16 = .ok (.iconst 1, 1) := dk_4 (dk_at dksX0_dredge_0 16 rfl rfl)
theorem dX0_dredge_17 : decode cX0_dredge 17 = .ok (.ireturn, 1) := dk_172 (dk_at dksX0_dredge_0 17 rfl rfl)
theorem dX0_dredge_18 : decode cX0_dredge 18 = .ok (.astore 4, 2) := dk_58 4 (dk_at dksX0_dredge_0 18 rfl rfl)
theorem dX0_dredge_20 : decode cX0_dredge 20 = .ok (.iconst 2, 1) := dk_5 (dk_at dksX0_dredge_0 20 rfl rfl)
theorem dX0_dredge_21 : decode cX0_dredge 21 = .ok (.ireturn, 1) := dk_172 (dk_at dksX0_dredge_0 21 rfl rfl)
theorem dX0_dredge_22 : decode cX0_dredge 22 = .ok (.astore 4, 2) := dk_58 4 (dk_at dksX0_dredge_0 22 rfl rfl)
theorem dX0_dredge_24 : decode cX0_dredge 24 = .ok (.iconst 3, 1) := dk_6 (dk_at dksX0_dredge_1 0 rfl rfl)
theorem dX0_dredge_25 : decode cX0_dredge 25 = .ok (.ireturn, 1) := dk_172 (dk_at dksX0_dredge_1 1 rfl rfl)
theorem dX0_dredge_26 : decode cX0_dredge 26 = .ok (.astore 4, 2) := dk_58 4 (dk_at dksX0_dredge_1 2 rfl rfl)
theorem dX0_dredge_28 : decode cX0_dredge 28 = .ok (.iconst 4, 1) := dk_7 (dk_at dksX0_dredge_1 4 rfl rfl)
theorem dX0_dredge_29 : decode cX0_dredge 29 = .ok (.ireturn, 1) := dk_172 (dk_at dksX0_dredge_1 5 rfl rfl)
theorem dX0_dredge_30 : decode cX0_dredge 30 = .ok (.iconst 0, 1) := dk_3 (dk_at dksX0_dredge_1 6 rfl rfl)
theorem dX0_dredge_31 : decode cX0_dredge 31 = .ok (.ireturn, 1) := dk_172 (dk_at dksX0_dredge_1 7 rfl rfl)
abbrev cX0_pass : ByteArray := method_7_code
def yX0_pass : MethodName := ⟨RX0, "pass", "(LDredgeledger;ILDredgeledgerLaw$Out;)I"⟩
def dkwX0_pass_0 : List UInt8 := [44, 42, 27, 182, 0, 40, 133, 181, 0, 13, 167, 0, 9, 78, 4, 172, 78, 5, 172, 3, 172]
abbrev dktX0_pass_0 : List UInt8 := dkwX0_pass_0 ++ []
theorem dksX0_pass_0 : cX0_pass.data.toList.drop 0 = dktX0_pass_0 := by decide +kernel
theorem dX0_pass_0 : decode cX0_pass 0 = .ok (.aload_n 2, 1) := dk_44 (dk_at dksX0_pass_0 0 rfl rfl)
theorem dX0_pass_1 : decode cX0_pass 1 = .ok (.aload_n 0, 1) := dk_42 (dk_at dksX0_pass_0 1 rfl rfl)
theorem dX0_pass_2 : decode cX0_pass 2 = .ok (.iload_n 1, 1) := dk_27 (dk_at dksX0_pass_0 2 rfl rfl)
theorem dX0_pass_3 : decode cX0_pass 3 = .ok (.invokevirtual 40, 3) := dk_182 0 40 (dk_at dksX0_pass_0 3 rfl rfl)
theorem dX0_pass_6 : decode cX0_pass 6 = .ok (.i2l, 1) := dk_133 (dk_at dksX0_pass_0 6 rfl rfl)
theorem dX0_pass_7 : decode cX0_pass 7 = .ok (.putfield 13, 3) := dk_181 0 13 (dk_at dksX0_pass_0 7 rfl rfl)
theorem dX0_pass_10 : decode cX0_pass 10 = .ok (.goto 9, 3) := dk_167 0 9 (dk_at dksX0_pass_0 10 rfl rfl)
theorem dX0_pass_13 : decode cX0_pass 13 = .ok (.astore_n 3, 1) := dk_78 (dk_at dksX0_pass_0 13 rfl rfl)
theorem dX0_pass_14 : decode cX0_pass 14 = .ok (.iconst 1, 1) := dk_4 (dk_at dksX0_pass_0 14 rfl rfl)
theorem dX0_pass_15 : decode cX0_pass 15 = .ok (.ireturn, 1) := dk_172 (dk_at dksX0_pass_0 15 rfl rfl)
theorem dX0_pass_16 : decode cX0_pass 16 = .ok (.astore_n 3, 1) := dk_78 (dk_at dksX0_pass_0 16 rfl rfl)
theorem dX0_pass_17 : decode cX0_pass 17 = .ok (.iconst 2, 1) := dk_5 (dk_at dksX0_pass_0 17 rfl rfl)
theorem dX0_pass_18 : decode cX0_pass 18 = .ok (.ireturn, 1) := dk_172 (dk_at dksX0_pass_0 18 rfl rfl)
theorem dX0_pass_19 : decode cX0_pass 19 = .ok (.iconst 0, 1) := dk_3 (dk_at dksX0_pass_0 19 rfl rfl)
theorem dX0_pass_20 : decode cX0_pass 20 = .ok (.ireturn, 1) := dk_172 (dk_at dksX0_pass_0 20 rfl rfl)
abbrev cX0_addGround : ByteArray := method_8_code
def yX0_addGround : MethodName := ⟨RX0, "addGround", "(LDredgeledger;IILDredgeledgerLaw$Out;)I"⟩
def dkwX0_addGround_0 : List UInt8 := [45, 42, 27, 28, 182, 0, 43, 133, 181, 0, 13, 167, 0, 11, 58, 4, 4, 172, 58, 4, 5, 172, 3, 172]
abbrev dktX0_addGround_0 : List UInt8 := dkwX0_addGround_0 ++ []
theorem dksX0_addGround_0 : cX0_addGround.data.toList.drop 0 = dktX0_addGround_0 := by decide +kernel
theorem dX0_addGround_0 : decode cX0_addGround 0 = .ok (.aload_n 3, 1) := dk_45 (dk_at dksX0_addGround_0 0 rfl rfl)
theorem dX0_addGround_1 : decode cX0_addGround 1 = .ok (.aload_n 0, 1) := dk_42 (dk_at dksX0_addGround_0 1 rfl rfl)
theorem dX0_addGround_2 : decode cX0_addGround 2 = .ok (.iload_n 1, 1) := dk_27 (dk_at dksX0_addGround_0 2 rfl rfl)
theorem dX0_addGround_3 : decode cX0_addGround 3 = .ok (.iload_n 2, 1) := dk_28 (dk_at dksX0_addGround_0 3 rfl rfl)
theorem dX0_addGround_4 : decode cX0_addGround 4 = .ok (.invokevirtual 43, 3) := dk_182 0 43 (dk_at dksX0_addGround_0 4 rfl rfl)
theorem dX0_addGround_7 : decode cX0_addGround 7 = .ok (.i2l, 1) := dk_133 (dk_at dksX0_addGround_0 7 rfl rfl)
theorem dX0_addGround_8 : decode cX0_addGround 8 = .ok (.putfield 13, 3) := dk_181 0 13 (dk_at dksX0_addGround_0 8 rfl rfl)
theorem dX0_addGround_11 : decode cX0_addGround 11 = .ok (.goto 11, 3) := dk_167 0 11 (dk_at dksX0_addGround_0 11 rfl rfl)
theorem dX0_addGround_14 : decode cX0_addGround 14 = .ok (.astore 4, 2) := dk_58 4 (dk_at dksX0_addGround_0 14 rfl rfl)
theorem dX0_addGround_16 : decode cX0_addGround 16 = .ok (.iconst 1, 1) := dk_4 (dk_at dksX0_addGround_0 16 rfl rfl)
theorem dX0_addGround_17 : decode cX0_addGround 17 = .ok (.ireturn, 1) := dk_172 (dk_at dksX0_addGround_0 17 rfl rfl)
theorem dX0_addGround_18 : decode cX0_addGround 18 = .ok (.astore 4, 2) := dk_58 4 (dk_at dksX0_addGround_0 18 rfl rfl)
theorem dX0_addGround_20 : decode cX0_addGround 20 = .ok (.iconst 2, 1) := dk_5 (dk_at dksX0_addGround_0 20 rfl rfl)
theorem dX0_addGround_21 : decode cX0_addGround 21 = .ok (.ireturn, 1) := dk_172 (dk_at dksX0_addGround_0 21 rfl rfl)
theorem dX0_addGround_22 : decode cX0_addGround 22 = .ok (.iconst 0, 1) := dk_3 (dk_at dksX0_addGround_0 22 rfl rfl)
theorem dX0_addGround_23 : decode cX0_addGround 23 = .ok (.ireturn, 1) := dk_172 (dk_at dksX0_addGround_0 23 rfl rfl)
abbrev cX0_setTide : ByteArray := method_9_code
def yX0_setTide : MethodName := ⟨RX0, "setTide", "(LDredgeledger;ILDredgeledgerLaw$Out;)I"⟩
def dkwX0_setTide_0 : List UInt8 := [44, 42, 27, 182, 0, 46, 133, 181, 0, 13, 167, 0, 6, 78, 4, 172, 3, 172]
abbrev dktX0_setTide_0 : List UInt8 := dkwX0_setTide_0 ++ []
theorem dksX0_setTide_0 : cX0_setTide.data.toList.drop 0 = dktX0_setTide_0 := by decide +kernel
theorem dX0_setTide_0 : decode cX0_setTide 0 = .ok (.aload_n 2, 1) := dk_44 (dk_at dksX0_setTide_0 0 rfl rfl)
theorem dX0_setTide_1 : decode cX0_setTide 1 = .ok (.aload_n 0, 1) := dk_42 (dk_at dksX0_setTide_0 1 rfl rfl)
theorem dX0_setTide_2 : decode cX0_setTide 2 = .ok (.iload_n 1, 1) := dk_27 (dk_at dksX0_setTide_0 2 rfl rfl)
theorem dX0_setTide_3 : decode cX0_setTide 3 = .ok (.invokevirtual 46, 3) := dk_182 0 46 (dk_at dksX0_setTide_0 3 rfl rfl)
theorem dX0_setTide_6 : decode cX0_setTide 6 = .ok (.i2l, 1) := dk_133 (dk_at dksX0_setTide_0 6 rfl rfl)
theorem dX0_setTide_7 : decode cX0_setTide 7 = .ok (.putfield 13, 3) := dk_181 0 13 (dk_at dksX0_setTide_0 7 rfl rfl)
theorem dX0_setTide_10 : decode cX0_setTide 10 = .ok (.goto 6, 3) := dk_167 0 6 (dk_at dksX0_setTide_0 10 rfl rfl)
theorem dX0_setTide_13 : decode cX0_setTide 13 = .ok (.astore_n 3, 1) := dk_78 (dk_at dksX0_setTide_0 13 rfl rfl)
theorem dX0_setTide_14 : decode cX0_setTide 14 = .ok (.iconst 1, 1) := dk_4 (dk_at dksX0_setTide_0 14 rfl rfl)
theorem dX0_setTide_15 : decode cX0_setTide 15 = .ok (.ireturn, 1) := dk_172 (dk_at dksX0_setTide_0 15 rfl rfl)
theorem dX0_setTide_16 : decode cX0_setTide 16 = .ok (.iconst 0, 1) := dk_3 (dk_at dksX0_setTide_0 16 rfl rfl)
theorem dX0_setTide_17 : decode cX0_setTide 17 = .ok (.ireturn, 1) := dk_172 (dk_at dksX0_setTide_0 17 rfl rfl)
abbrev cX0_permit : ByteArray := method_10_code
def yX0_permit : MethodName := ⟨RX0, "permit", "(LDredgeledger;IIIILDredgeledgerLaw$Out;)I"⟩
def dkwX0_permit_1 : List UInt8 := [5, 172, 58, 6, 6, 172, 3, 172]
abbrev dktX0_permit_1 : List UInt8 := dkwX0_permit_1 ++ []
def dkwX0_permit_0 : List UInt8 := [25, 5, 42, 27, 28, 29, 21, 4, 182, 0, 49, 133, 181, 0, 13, 167, 0, 15, 58, 6, 4, 172, 58, 6]
abbrev dktX0_permit_0 : List UInt8 := dkwX0_permit_0 ++ dktX0_permit_1
theorem dksX0_permit_0 : cX0_permit.data.toList.drop 0 = dktX0_permit_0 := by decide +kernel
theorem dksX0_permit_1 : cX0_permit.data.toList.drop 24 = dktX0_permit_1 := dk_seg dksX0_permit_0 24 rfl rfl
theorem dX0_permit_0 : decode cX0_permit 0 = .ok (.aload 5, 2) := dk_25 5 (dk_at dksX0_permit_0 0 rfl rfl)
theorem dX0_permit_2 : decode cX0_permit 2 = .ok (.aload_n 0, 1) := dk_42 (dk_at dksX0_permit_0 2 rfl rfl)
theorem dX0_permit_3 : decode cX0_permit 3 = .ok (.iload_n 1, 1) := dk_27 (dk_at dksX0_permit_0 3 rfl rfl)
theorem dX0_permit_4 : decode cX0_permit 4 = .ok (.iload_n 2, 1) := dk_28 (dk_at dksX0_permit_0 4 rfl rfl)
theorem dX0_permit_5 : decode cX0_permit 5 = .ok (.iload_n 3, 1) := dk_29 (dk_at dksX0_permit_0 5 rfl rfl)
theorem dX0_permit_6 : decode cX0_permit 6 = .ok (.iload 4, 2) := dk_21 4 (dk_at dksX0_permit_0 6 rfl rfl)
theorem dX0_permit_8 : decode cX0_permit 8 = .ok (.invokevirtual 49, 3) := dk_182 0 49 (dk_at dksX0_permit_0 8 rfl rfl)
theorem dX0_permit_11 : decode cX0_permit 11 = .ok (.i2l, 1) := dk_133 (dk_at dksX0_permit_0 11 rfl rfl)
theorem dX0_permit_12 : decode cX0_permit 12 = .ok (.putfield 13, 3) := dk_181 0 13 (dk_at dksX0_permit_0 12 rfl rfl)
theorem dX0_permit_15 : decode cX0_permit 15 = .ok (.goto 15, 3) := dk_167 0 15 (dk_at dksX0_permit_0 15 rfl rfl)
theorem dX0_permit_18 : decode cX0_permit 18 = .ok (.astore 6, 2) := dk_58 6 (dk_at dksX0_permit_0 18 rfl rfl)
theorem dX0_permit_20 : decode cX0_permit 20 = .ok (.iconst 1, 1) := dk_4 (dk_at dksX0_permit_0 20 rfl rfl)
theorem dX0_permit_21 : decode cX0_permit 21 = .ok (.ireturn, 1) := dk_172 (dk_at dksX0_permit_0 21 rfl rfl)
theorem dX0_permit_22 : decode cX0_permit 22 = .ok (.astore 6, 2) := dk_58 6 (dk_at dksX0_permit_0 22 rfl rfl)
theorem dX0_permit_24 : decode cX0_permit 24 = .ok (.iconst 2, 1) := dk_5 (dk_at dksX0_permit_1 0 rfl rfl)
theorem dX0_permit_25 : decode cX0_permit 25 = .ok (.ireturn, 1) := dk_172 (dk_at dksX0_permit_1 1 rfl rfl)
theorem dX0_permit_26 : decode cX0_permit 26 = .ok (.astore 6, 2) := dk_58 6 (dk_at dksX0_permit_1 2 rfl rfl)
theorem dX0_permit_28 : decode cX0_permit 28 = .ok (.iconst 3, 1) := dk_6 (dk_at dksX0_permit_1 4 rfl rfl)
theorem dX0_permit_29 : decode cX0_permit 29 = .ok (.ireturn, 1) := dk_172 (dk_at dksX0_permit_1 5 rfl rfl)
theorem dX0_permit_30 : decode cX0_permit 30 = .ok (.iconst 0, 1) := dk_3 (dk_at dksX0_permit_1 6 rfl rfl)
theorem dX0_permit_31 : decode cX0_permit 31 = .ok (.ireturn, 1) := dk_172 (dk_at dksX0_permit_1 7 rfl rfl)
abbrev cX0_permitted : ByteArray := method_11_code
def yX0_permitted : MethodName := ⟨RX0, "permitted", "(LDredgeledger;ILDredgeledgerLaw$Out;)I"⟩
def dkwX0_permitted_0 : List UInt8 := [44, 42, 27, 182, 0, 53, 133, 181, 0, 13, 167, 0, 6, 78, 4, 172, 3, 172]
abbrev dktX0_permitted_0 : List UInt8 := dkwX0_permitted_0 ++ []
theorem dksX0_permitted_0 : cX0_permitted.data.toList.drop 0 = dktX0_permitted_0 := by decide +kernel
theorem dX0_permitted_0 : decode cX0_permitted 0 = .ok (.aload_n 2, 1) := dk_44 (dk_at dksX0_permitted_0 0 rfl rfl)
theorem dX0_permitted_1 : decode cX0_permitted 1 = .ok (.aload_n 0, 1) := dk_42 (dk_at dksX0_permitted_0 1 rfl rfl)
theorem dX0_permitted_2 : decode cX0_permitted 2 = .ok (.iload_n 1, 1) := dk_27 (dk_at dksX0_permitted_0 2 rfl rfl)
theorem dX0_permitted_3 : decode cX0_permitted 3 = .ok (.invokevirtual 53, 3) := dk_182 0 53 (dk_at dksX0_permitted_0 3 rfl rfl)
theorem dX0_permitted_6 : decode cX0_permitted 6 = .ok (.i2l, 1) := dk_133 (dk_at dksX0_permitted_0 6 rfl rfl)
theorem dX0_permitted_7 : decode cX0_permitted 7 = .ok (.putfield 13, 3) := dk_181 0 13 (dk_at dksX0_permitted_0 7 rfl rfl)
theorem dX0_permitted_10 : decode cX0_permitted 10 = .ok (.goto 6, 3) := dk_167 0 6 (dk_at dksX0_permitted_0 10 rfl rfl)
theorem dX0_permitted_13 : decode cX0_permitted 13 = .ok (.astore_n 3, 1) := dk_78 (dk_at dksX0_permitted_0 13 rfl rfl)
theorem dX0_permitted_14 : decode cX0_permitted 14 = .ok (.iconst 1, 1) := dk_4 (dk_at dksX0_permitted_0 14 rfl rfl)
theorem dX0_permitted_15 : decode cX0_permitted 15 = .ok (.ireturn, 1) := dk_172 (dk_at dksX0_permitted_0 15 rfl rfl)
theorem dX0_permitted_16 : decode cX0_permitted 16 = .ok (.iconst 0, 1) := dk_3 (dk_at dksX0_permitted_0 16 rfl rfl)
theorem dX0_permitted_17 : decode cX0_permitted 17 = .ok (.ireturn, 1) := dk_172 (dk_at dksX0_permitted_0 17 rfl rfl)
abbrev cX0_dump : ByteArray := method_12_code
def yX0_dump : MethodName := ⟨RX0, "dump", "(LDredgeledger;IILDredgeledgerLaw$Out;)I"⟩
def dkwX0_dump_1 : List UInt8 := [6, 172, 58, 4, 7, 172, 3, 172]
abbrev dktX0_dump_1 : List UInt8 := dkwX0_dump_1 ++ []
def dkwX0_dump_0 : List UInt8 := [45, 42, 27, 28, 182, 0, 56, 133, 181, 0, 13, 167, 0, 19, 58, 4, 4, 172, 58, 4, 5, 172, 58, 4]
abbrev dktX0_dump_0 : List UInt8 := dkwX0_dump_0 ++ dktX0_dump_1
theorem dksX0_dump_0 : cX0_dump.data.toList.drop 0 = dktX0_dump_0 := by decide +kernel
theorem dksX0_dump_1 : cX0_dump.data.toList.drop 24 = dktX0_dump_1 := dk_seg dksX0_dump_0 24 rfl rfl
theorem dX0_dump_0 : decode cX0_dump 0 = .ok (.aload_n 3, 1) := dk_45 (dk_at dksX0_dump_0 0 rfl rfl)
theorem dX0_dump_1 : decode cX0_dump 1 = .ok (.aload_n 0, 1) := dk_42 (dk_at dksX0_dump_0 1 rfl rfl)
theorem dX0_dump_2 : decode cX0_dump 2 = .ok (.iload_n 1, 1) := dk_27 (dk_at dksX0_dump_0 2 rfl rfl)
theorem dX0_dump_3 : decode cX0_dump 3 = .ok (.iload_n 2, 1) := dk_28 (dk_at dksX0_dump_0 3 rfl rfl)
theorem dX0_dump_4 : decode cX0_dump 4 = .ok (.invokevirtual 56, 3) := dk_182 0 56 (dk_at dksX0_dump_0 4 rfl rfl)
theorem dX0_dump_7 : decode cX0_dump 7 = .ok (.i2l, 1) := dk_133 (dk_at dksX0_dump_0 7 rfl rfl)
theorem dX0_dump_8 : decode cX0_dump 8 = .ok (.putfield 13, 3) := dk_181 0 13 (dk_at dksX0_dump_0 8 rfl rfl)
theorem dX0_dump_11 : decode cX0_dump 11 = .ok (.goto 19, 3) := dk_167 0 19 (dk_at dksX0_dump_0 11 rfl rfl)
theorem dX0_dump_14 : decode cX0_dump 14 = .ok (.astore 4, 2) := dk_58 4 (dk_at dksX0_dump_0 14 rfl rfl)
theorem dX0_dump_16 : decode cX0_dump 16 = .ok (.iconst 1, 1) := dk_4 (dk_at dksX0_dump_0 16 rfl rfl)
theorem dX0_dump_17 : decode cX0_dump 17 = .ok (.ireturn, 1) := dk_172 (dk_at dksX0_dump_0 17 rfl rfl)
theorem dX0_dump_18 : decode cX0_dump 18 = .ok (.astore 4, 2) := dk_58 4 (dk_at dksX0_dump_0 18 rfl rfl)
theorem dX0_dump_20 : decode cX0_dump 20 = .ok (.iconst 2, 1) := dk_5 (dk_at dksX0_dump_0 20 rfl rfl)
theorem dX0_dump_21 : decode cX0_dump 21 = .ok (.ireturn, 1) := dk_172 (dk_at dksX0_dump_0 21 rfl rfl)
theorem dX0_dump_22 : decode cX0_dump 22 = .ok (.astore 4, 2) := dk_58 4 (dk_at dksX0_dump_0 22 rfl rfl)
theorem dX0_dump_24 : decode cX0_dump 24 = .ok (.iconst 3, 1) := dk_6 (dk_at dksX0_dump_1 0 rfl rfl)
theorem dX0_dump_25 : decode cX0_dump 25 = .ok (.ireturn, 1) := dk_172 (dk_at dksX0_dump_1 1 rfl rfl)
theorem dX0_dump_26 : decode cX0_dump 26 = .ok (.astore 4, 2) := dk_58 4 (dk_at dksX0_dump_1 2 rfl rfl)
theorem dX0_dump_28 : decode cX0_dump 28 = .ok (.iconst 4, 1) := dk_7 (dk_at dksX0_dump_1 4 rfl rfl)
theorem dX0_dump_29 : decode cX0_dump 29 = .ok (.ireturn, 1) := dk_172 (dk_at dksX0_dump_1 5 rfl rfl)
theorem dX0_dump_30 : decode cX0_dump 30 = .ok (.iconst 0, 1) := dk_3 (dk_at dksX0_dump_1 6 rfl rfl)
theorem dX0_dump_31 : decode cX0_dump 31 = .ok (.ireturn, 1) := dk_172 (dk_at dksX0_dump_1 7 rfl rfl)
abbrev cX0_dumped : ByteArray := method_13_code
def yX0_dumped : MethodName := ⟨RX0, "dumped", "(LDredgeledger;ILDredgeledgerLaw$Out;)I"⟩
def dkwX0_dumped_0 : List UInt8 := [44, 42, 27, 182, 0, 59, 133, 181, 0, 13, 167, 0, 6, 78, 4, 172, 3, 172]
abbrev dktX0_dumped_0 : List UInt8 := dkwX0_dumped_0 ++ []
theorem dksX0_dumped_0 : cX0_dumped.data.toList.drop 0 = dktX0_dumped_0 := by decide +kernel
theorem dX0_dumped_0 : decode cX0_dumped 0 = .ok (.aload_n 2, 1) := dk_44 (dk_at dksX0_dumped_0 0 rfl rfl)
theorem dX0_dumped_1 : decode cX0_dumped 1 = .ok (.aload_n 0, 1) := dk_42 (dk_at dksX0_dumped_0 1 rfl rfl)
theorem dX0_dumped_2 : decode cX0_dumped 2 = .ok (.iload_n 1, 1) := dk_27 (dk_at dksX0_dumped_0 2 rfl rfl)
theorem dX0_dumped_3 : decode cX0_dumped 3 = .ok (.invokevirtual 59, 3) := dk_182 0 59 (dk_at dksX0_dumped_0 3 rfl rfl)
theorem dX0_dumped_6 : decode cX0_dumped 6 = .ok (.i2l, 1) := dk_133 (dk_at dksX0_dumped_0 6 rfl rfl)
theorem dX0_dumped_7 : decode cX0_dumped 7 = .ok (.putfield 13, 3) := dk_181 0 13 (dk_at dksX0_dumped_0 7 rfl rfl)
theorem dX0_dumped_10 : decode cX0_dumped 10 = .ok (.goto 6, 3) := dk_167 0 6 (dk_at dksX0_dumped_0 10 rfl rfl)
theorem dX0_dumped_13 : decode cX0_dumped 13 = .ok (.astore_n 3, 1) := dk_78 (dk_at dksX0_dumped_0 13 rfl rfl)
theorem dX0_dumped_14 : decode cX0_dumped 14 = .ok (.iconst 1, 1) := dk_4 (dk_at dksX0_dumped_0 14 rfl rfl)
theorem dX0_dumped_15 : decode cX0_dumped 15 = .ok (.ireturn, 1) := dk_172 (dk_at dksX0_dumped_0 15 rfl rfl)
theorem dX0_dumped_16 : decode cX0_dumped 16 = .ok (.iconst 0, 1) := dk_3 (dk_at dksX0_dumped_0 16 rfl rfl)
theorem dX0_dumped_17 : decode cX0_dumped 17 = .ok (.ireturn, 1) := dk_172 (dk_at dksX0_dumped_0 17 rfl rfl)
abbrev cX0_survey : ByteArray := method_14_code
def yX0_survey : MethodName := ⟨RX0, "survey", "(LDredgeledger;IIIILDredgeledgerLaw$Out;)I"⟩
def dkwX0_survey_1 : List UInt8 := [5, 172, 58, 6, 6, 172, 3, 172]
abbrev dktX0_survey_1 : List UInt8 := dkwX0_survey_1 ++ []
def dkwX0_survey_0 : List UInt8 := [25, 5, 42, 27, 28, 29, 21, 4, 182, 0, 62, 133, 181, 0, 13, 167, 0, 15, 58, 6, 4, 172, 58, 6]
abbrev dktX0_survey_0 : List UInt8 := dkwX0_survey_0 ++ dktX0_survey_1
theorem dksX0_survey_0 : cX0_survey.data.toList.drop 0 = dktX0_survey_0 := by decide +kernel
theorem dksX0_survey_1 : cX0_survey.data.toList.drop 24 = dktX0_survey_1 := dk_seg dksX0_survey_0 24 rfl rfl
theorem dX0_survey_0 : decode cX0_survey 0 = .ok (.aload 5, 2) := dk_25 5 (dk_at dksX0_survey_0 0 rfl rfl)
theorem dX0_survey_2 : decode cX0_survey 2 = .ok (.aload_n 0, 1) := dk_42 (dk_at dksX0_survey_0 2 rfl rfl)
theorem dX0_survey_3 : decode cX0_survey 3 = .ok (.iload_n 1, 1) := dk_27 (dk_at dksX0_survey_0 3 rfl rfl)
theorem dX0_survey_4 : decode cX0_survey 4 = .ok (.iload_n 2, 1) := dk_28 (dk_at dksX0_survey_0 4 rfl rfl)
theorem dX0_survey_5 : decode cX0_survey 5 = .ok (.iload_n 3, 1) := dk_29 (dk_at dksX0_survey_0 5 rfl rfl)
theorem dX0_survey_6 : decode cX0_survey 6 = .ok (.iload 4, 2) := dk_21 4 (dk_at dksX0_survey_0 6 rfl rfl)
theorem dX0_survey_8 : decode cX0_survey 8 = .ok (.invokevirtual 62, 3) := dk_182 0 62 (dk_at dksX0_survey_0 8 rfl rfl)
theorem dX0_survey_11 : decode cX0_survey 11 = .ok (.i2l, 1) := dk_133 (dk_at dksX0_survey_0 11 rfl rfl)
theorem dX0_survey_12 : decode cX0_survey 12 = .ok (.putfield 13, 3) := dk_181 0 13 (dk_at dksX0_survey_0 12 rfl rfl)
theorem dX0_survey_15 : decode cX0_survey 15 = .ok (.goto 15, 3) := dk_167 0 15 (dk_at dksX0_survey_0 15 rfl rfl)
theorem dX0_survey_18 : decode cX0_survey 18 = .ok (.astore 6, 2) := dk_58 6 (dk_at dksX0_survey_0 18 rfl rfl)
theorem dX0_survey_20 : decode cX0_survey 20 = .ok (.iconst 1, 1) := dk_4 (dk_at dksX0_survey_0 20 rfl rfl)
theorem dX0_survey_21 : decode cX0_survey 21 = .ok (.ireturn, 1) := dk_172 (dk_at dksX0_survey_0 21 rfl rfl)
theorem dX0_survey_22 : decode cX0_survey 22 = .ok (.astore 6, 2) := dk_58 6 (dk_at dksX0_survey_0 22 rfl rfl)
theorem dX0_survey_24 : decode cX0_survey 24 = .ok (.iconst 2, 1) := dk_5 (dk_at dksX0_survey_1 0 rfl rfl)
theorem dX0_survey_25 : decode cX0_survey 25 = .ok (.ireturn, 1) := dk_172 (dk_at dksX0_survey_1 1 rfl rfl)
theorem dX0_survey_26 : decode cX0_survey 26 = .ok (.astore 6, 2) := dk_58 6 (dk_at dksX0_survey_1 2 rfl rfl)
theorem dX0_survey_28 : decode cX0_survey 28 = .ok (.iconst 3, 1) := dk_6 (dk_at dksX0_survey_1 4 rfl rfl)
theorem dX0_survey_29 : decode cX0_survey 29 = .ok (.ireturn, 1) := dk_172 (dk_at dksX0_survey_1 5 rfl rfl)
theorem dX0_survey_30 : decode cX0_survey 30 = .ok (.iconst 0, 1) := dk_3 (dk_at dksX0_survey_1 6 rfl rfl)
theorem dX0_survey_31 : decode cX0_survey 31 = .ok (.ireturn, 1) := dk_172 (dk_at dksX0_survey_1 7 rfl rfl)
abbrev cX0_told : ByteArray := method_15_code
def yX0_told : MethodName := ⟨RX0, "told", "(LDredgeledger;IILDredgeledgerLaw$Out;)I"⟩
def dkwX0_told_0 : List UInt8 := [45, 42, 27, 28, 182, 0, 65, 133, 181, 0, 13, 167, 0, 11, 58, 4, 4, 172, 58, 4, 5, 172, 3, 172]
abbrev dktX0_told_0 : List UInt8 := dkwX0_told_0 ++ []
theorem dksX0_told_0 : cX0_told.data.toList.drop 0 = dktX0_told_0 := by decide +kernel
theorem dX0_told_0 : decode cX0_told 0 = .ok (.aload_n 3, 1) := dk_45 (dk_at dksX0_told_0 0 rfl rfl)
theorem dX0_told_1 : decode cX0_told 1 = .ok (.aload_n 0, 1) := dk_42 (dk_at dksX0_told_0 1 rfl rfl)
theorem dX0_told_2 : decode cX0_told 2 = .ok (.iload_n 1, 1) := dk_27 (dk_at dksX0_told_0 2 rfl rfl)
theorem dX0_told_3 : decode cX0_told 3 = .ok (.iload_n 2, 1) := dk_28 (dk_at dksX0_told_0 3 rfl rfl)
theorem dX0_told_4 : decode cX0_told 4 = .ok (.invokevirtual 65, 3) := dk_182 0 65 (dk_at dksX0_told_0 4 rfl rfl)
theorem dX0_told_7 : decode cX0_told 7 = .ok (.i2l, 1) := dk_133 (dk_at dksX0_told_0 7 rfl rfl)
theorem dX0_told_8 : decode cX0_told 8 = .ok (.putfield 13, 3) := dk_181 0 13 (dk_at dksX0_told_0 8 rfl rfl)
theorem dX0_told_11 : decode cX0_told 11 = .ok (.goto 11, 3) := dk_167 0 11 (dk_at dksX0_told_0 11 rfl rfl)
theorem dX0_told_14 : decode cX0_told 14 = .ok (.astore 4, 2) := dk_58 4 (dk_at dksX0_told_0 14 rfl rfl)
theorem dX0_told_16 : decode cX0_told 16 = .ok (.iconst 1, 1) := dk_4 (dk_at dksX0_told_0 16 rfl rfl)
theorem dX0_told_17 : decode cX0_told 17 = .ok (.ireturn, 1) := dk_172 (dk_at dksX0_told_0 17 rfl rfl)
theorem dX0_told_18 : decode cX0_told 18 = .ok (.astore 4, 2) := dk_58 4 (dk_at dksX0_told_0 18 rfl rfl)
theorem dX0_told_20 : decode cX0_told 20 = .ok (.iconst 2, 1) := dk_5 (dk_at dksX0_told_0 20 rfl rfl)
theorem dX0_told_21 : decode cX0_told 21 = .ok (.ireturn, 1) := dk_172 (dk_at dksX0_told_0 21 rfl rfl)
theorem dX0_told_22 : decode cX0_told 22 = .ok (.iconst 0, 1) := dk_3 (dk_at dksX0_told_0 22 rfl rfl)
theorem dX0_told_23 : decode cX0_told 23 = .ok (.ireturn, 1) := dk_172 (dk_at dksX0_told_0 23 rfl rfl)
abbrev cX0_bed : ByteArray := method_16_code
def yX0_bed : MethodName := ⟨RX0, "bed", "(LDredgeledger;ILDredgeledgerLaw$Out;)I"⟩
def dkwX0_bed_0 : List UInt8 := [44, 42, 27, 182, 0, 70, 133, 181, 0, 13, 167, 0, 9, 78, 4, 172, 78, 5, 172, 3, 172]
abbrev dktX0_bed_0 : List UInt8 := dkwX0_bed_0 ++ []
theorem dksX0_bed_0 : cX0_bed.data.toList.drop 0 = dktX0_bed_0 := by decide +kernel
theorem dX0_bed_0 : decode cX0_bed 0 = .ok (.aload_n 2, 1) := dk_44 (dk_at dksX0_bed_0 0 rfl rfl)
theorem dX0_bed_1 : decode cX0_bed 1 = .ok (.aload_n 0, 1) := dk_42 (dk_at dksX0_bed_0 1 rfl rfl)
theorem dX0_bed_2 : decode cX0_bed 2 = .ok (.iload_n 1, 1) := dk_27 (dk_at dksX0_bed_0 2 rfl rfl)
theorem dX0_bed_3 : decode cX0_bed 3 = .ok (.invokevirtual 70, 3) := dk_182 0 70 (dk_at dksX0_bed_0 3 rfl rfl)
theorem dX0_bed_6 : decode cX0_bed 6 = .ok (.i2l, 1) := dk_133 (dk_at dksX0_bed_0 6 rfl rfl)
theorem dX0_bed_7 : decode cX0_bed 7 = .ok (.putfield 13, 3) := dk_181 0 13 (dk_at dksX0_bed_0 7 rfl rfl)
theorem dX0_bed_10 : decode cX0_bed 10 = .ok (.goto 9, 3) := dk_167 0 9 (dk_at dksX0_bed_0 10 rfl rfl)
theorem dX0_bed_13 : decode cX0_bed 13 = .ok (.astore_n 3, 1) := dk_78 (dk_at dksX0_bed_0 13 rfl rfl)
theorem dX0_bed_14 : decode cX0_bed 14 = .ok (.iconst 1, 1) := dk_4 (dk_at dksX0_bed_0 14 rfl rfl)
theorem dX0_bed_15 : decode cX0_bed 15 = .ok (.ireturn, 1) := dk_172 (dk_at dksX0_bed_0 15 rfl rfl)
theorem dX0_bed_16 : decode cX0_bed 16 = .ok (.astore_n 3, 1) := dk_78 (dk_at dksX0_bed_0 16 rfl rfl)
theorem dX0_bed_17 : decode cX0_bed 17 = .ok (.iconst 2, 1) := dk_5 (dk_at dksX0_bed_0 17 rfl rfl)
theorem dX0_bed_18 : decode cX0_bed 18 = .ok (.ireturn, 1) := dk_172 (dk_at dksX0_bed_0 18 rfl rfl)
theorem dX0_bed_19 : decode cX0_bed 19 = .ok (.iconst 0, 1) := dk_3 (dk_at dksX0_bed_0 19 rfl rfl)
theorem dX0_bed_20 : decode cX0_bed 20 = .ok (.ireturn, 1) := dk_172 (dk_at dksX0_bed_0 20 rfl rfl)
abbrev cX0_between : ByteArray := method_17_code
def yX0_between : MethodName := ⟨RX0, "between", "(LDredgeledger;IILDredgeledgerLaw$Out;)I"⟩
def dkwX0_between_0 : List UInt8 := [45, 42, 27, 28, 182, 0, 73, 133, 181, 0, 13, 167, 0, 7, 58, 4, 4, 172, 3, 172]
abbrev dktX0_between_0 : List UInt8 := dkwX0_between_0 ++ []
theorem dksX0_between_0 : cX0_between.data.toList.drop 0 = dktX0_between_0 := by decide +kernel
theorem dX0_between_0 : decode cX0_between 0 = .ok (.aload_n 3, 1) := dk_45 (dk_at dksX0_between_0 0 rfl rfl)
theorem dX0_between_1 : decode cX0_between 1 = .ok (.aload_n 0, 1) := dk_42 (dk_at dksX0_between_0 1 rfl rfl)
theorem dX0_between_2 : decode cX0_between 2 = .ok (.iload_n 1, 1) := dk_27 (dk_at dksX0_between_0 2 rfl rfl)
theorem dX0_between_3 : decode cX0_between 3 = .ok (.iload_n 2, 1) := dk_28 (dk_at dksX0_between_0 3 rfl rfl)
theorem dX0_between_4 : decode cX0_between 4 = .ok (.invokevirtual 73, 3) := dk_182 0 73 (dk_at dksX0_between_0 4 rfl rfl)
theorem dX0_between_7 : decode cX0_between 7 = .ok (.i2l, 1) := dk_133 (dk_at dksX0_between_0 7 rfl rfl)
theorem dX0_between_8 : decode cX0_between 8 = .ok (.putfield 13, 3) := dk_181 0 13 (dk_at dksX0_between_0 8 rfl rfl)
theorem dX0_between_11 : decode cX0_between 11 = .ok (.goto 7, 3) := dk_167 0 7 (dk_at dksX0_between_0 11 rfl rfl)
theorem dX0_between_14 : decode cX0_between 14 = .ok (.astore 4, 2) := dk_58 4 (dk_at dksX0_between_0 14 rfl rfl)
theorem dX0_between_16 : decode cX0_between 16 = .ok (.iconst 1, 1) := dk_4 (dk_at dksX0_between_0 16 rfl rfl)
theorem dX0_between_17 : decode cX0_between 17 = .ok (.ireturn, 1) := dk_172 (dk_at dksX0_between_0 17 rfl rfl)
theorem dX0_between_18 : decode cX0_between 18 = .ok (.iconst 0, 1) := dk_3 (dk_at dksX0_between_0 18 rfl rfl)
theorem dX0_between_19 : decode cX0_between 19 = .ok (.ireturn, 1) := dk_172 (dk_at dksX0_between_0 19 rfl rfl)
abbrev cX0_settle : ByteArray := method_18_code
def yX0_settle : MethodName := ⟨RX0, "settle", "(LDredgeledger;ILDredgeledgerLaw$Out;)I"⟩
def dkwX0_settle_0 : List UInt8 := [44, 42, 27, 182, 0, 76, 133, 181, 0, 13, 167, 0, 9, 78, 4, 172, 78, 5, 172, 3, 172]
abbrev dktX0_settle_0 : List UInt8 := dkwX0_settle_0 ++ []
theorem dksX0_settle_0 : cX0_settle.data.toList.drop 0 = dktX0_settle_0 := by decide +kernel
theorem dX0_settle_0 : decode cX0_settle 0 = .ok (.aload_n 2, 1) := dk_44 (dk_at dksX0_settle_0 0 rfl rfl)
theorem dX0_settle_1 : decode cX0_settle 1 = .ok (.aload_n 0, 1) := dk_42 (dk_at dksX0_settle_0 1 rfl rfl)
theorem dX0_settle_2 : decode cX0_settle 2 = .ok (.iload_n 1, 1) := dk_27 (dk_at dksX0_settle_0 2 rfl rfl)
theorem dX0_settle_3 : decode cX0_settle 3 = .ok (.invokevirtual 76, 3) := dk_182 0 76 (dk_at dksX0_settle_0 3 rfl rfl)
theorem dX0_settle_6 : decode cX0_settle 6 = .ok (.i2l, 1) := dk_133 (dk_at dksX0_settle_0 6 rfl rfl)
theorem dX0_settle_7 : decode cX0_settle 7 = .ok (.putfield 13, 3) := dk_181 0 13 (dk_at dksX0_settle_0 7 rfl rfl)
theorem dX0_settle_10 : decode cX0_settle 10 = .ok (.goto 9, 3) := dk_167 0 9 (dk_at dksX0_settle_0 10 rfl rfl)
theorem dX0_settle_13 : decode cX0_settle 13 = .ok (.astore_n 3, 1) := dk_78 (dk_at dksX0_settle_0 13 rfl rfl)
theorem dX0_settle_14 : decode cX0_settle 14 = .ok (.iconst 1, 1) := dk_4 (dk_at dksX0_settle_0 14 rfl rfl)
theorem dX0_settle_15 : decode cX0_settle 15 = .ok (.ireturn, 1) := dk_172 (dk_at dksX0_settle_0 15 rfl rfl)
theorem dX0_settle_16 : decode cX0_settle 16 = .ok (.astore_n 3, 1) := dk_78 (dk_at dksX0_settle_0 16 rfl rfl)
theorem dX0_settle_17 : decode cX0_settle 17 = .ok (.iconst 2, 1) := dk_5 (dk_at dksX0_settle_0 17 rfl rfl)
theorem dX0_settle_18 : decode cX0_settle 18 = .ok (.ireturn, 1) := dk_172 (dk_at dksX0_settle_0 18 rfl rfl)
theorem dX0_settle_19 : decode cX0_settle 19 = .ok (.iconst 0, 1) := dk_3 (dk_at dksX0_settle_0 19 rfl rfl)
theorem dX0_settle_20 : decode cX0_settle 20 = .ok (.ireturn, 1) := dk_172 (dk_at dksX0_settle_0 20 rfl rfl)
abbrev cX0_setPrice : ByteArray := method_19_code
def yX0_setPrice : MethodName := ⟨RX0, "setPrice", "(LDredgeledger;ILDredgeledgerLaw$Out;)I"⟩
def dkwX0_setPrice_0 : List UInt8 := [44, 42, 27, 182, 0, 79, 133, 181, 0, 13, 167, 0, 6, 78, 4, 172, 3, 172]
abbrev dktX0_setPrice_0 : List UInt8 := dkwX0_setPrice_0 ++ []
theorem dksX0_setPrice_0 : cX0_setPrice.data.toList.drop 0 = dktX0_setPrice_0 := by decide +kernel
theorem dX0_setPrice_0 : decode cX0_setPrice 0 = .ok (.aload_n 2, 1) := dk_44 (dk_at dksX0_setPrice_0 0 rfl rfl)
theorem dX0_setPrice_1 : decode cX0_setPrice 1 = .ok (.aload_n 0, 1) := dk_42 (dk_at dksX0_setPrice_0 1 rfl rfl)
theorem dX0_setPrice_2 : decode cX0_setPrice 2 = .ok (.iload_n 1, 1) := dk_27 (dk_at dksX0_setPrice_0 2 rfl rfl)
theorem dX0_setPrice_3 : decode cX0_setPrice 3 = .ok (.invokevirtual 79, 3) := dk_182 0 79 (dk_at dksX0_setPrice_0 3 rfl rfl)
theorem dX0_setPrice_6 : decode cX0_setPrice 6 = .ok (.i2l, 1) := dk_133 (dk_at dksX0_setPrice_0 6 rfl rfl)
theorem dX0_setPrice_7 : decode cX0_setPrice 7 = .ok (.putfield 13, 3) := dk_181 0 13 (dk_at dksX0_setPrice_0 7 rfl rfl)
theorem dX0_setPrice_10 : decode cX0_setPrice 10 = .ok (.goto 6, 3) := dk_167 0 6 (dk_at dksX0_setPrice_0 10 rfl rfl)
theorem dX0_setPrice_13 : decode cX0_setPrice 13 = .ok (.astore_n 3, 1) := dk_78 (dk_at dksX0_setPrice_0 13 rfl rfl)
theorem dX0_setPrice_14 : decode cX0_setPrice 14 = .ok (.iconst 1, 1) := dk_4 (dk_at dksX0_setPrice_0 14 rfl rfl)
theorem dX0_setPrice_15 : decode cX0_setPrice 15 = .ok (.ireturn, 1) := dk_172 (dk_at dksX0_setPrice_0 15 rfl rfl)
theorem dX0_setPrice_16 : decode cX0_setPrice 16 = .ok (.iconst 0, 1) := dk_3 (dk_at dksX0_setPrice_0 16 rfl rfl)
theorem dX0_setPrice_17 : decode cX0_setPrice 17 = .ok (.ireturn, 1) := dk_172 (dk_at dksX0_setPrice_0 17 rfl rfl)
abbrev cX0_dispute : ByteArray := method_20_code
def yX0_dispute : MethodName := ⟨RX0, "dispute", "(LDredgeledger;ILDredgeledgerLaw$Out;)I"⟩
def dkwX0_dispute_0 : List UInt8 := [44, 42, 27, 182, 0, 82, 133, 181, 0, 13, 167, 0, 9, 78, 4, 172, 78, 5, 172, 3, 172]
abbrev dktX0_dispute_0 : List UInt8 := dkwX0_dispute_0 ++ []
theorem dksX0_dispute_0 : cX0_dispute.data.toList.drop 0 = dktX0_dispute_0 := by decide +kernel
theorem dX0_dispute_0 : decode cX0_dispute 0 = .ok (.aload_n 2, 1) := dk_44 (dk_at dksX0_dispute_0 0 rfl rfl)
theorem dX0_dispute_1 : decode cX0_dispute 1 = .ok (.aload_n 0, 1) := dk_42 (dk_at dksX0_dispute_0 1 rfl rfl)
theorem dX0_dispute_2 : decode cX0_dispute 2 = .ok (.iload_n 1, 1) := dk_27 (dk_at dksX0_dispute_0 2 rfl rfl)
theorem dX0_dispute_3 : decode cX0_dispute 3 = .ok (.invokevirtual 82, 3) := dk_182 0 82 (dk_at dksX0_dispute_0 3 rfl rfl)
theorem dX0_dispute_6 : decode cX0_dispute 6 = .ok (.i2l, 1) := dk_133 (dk_at dksX0_dispute_0 6 rfl rfl)
theorem dX0_dispute_7 : decode cX0_dispute 7 = .ok (.putfield 13, 3) := dk_181 0 13 (dk_at dksX0_dispute_0 7 rfl rfl)
theorem dX0_dispute_10 : decode cX0_dispute 10 = .ok (.goto 9, 3) := dk_167 0 9 (dk_at dksX0_dispute_0 10 rfl rfl)
theorem dX0_dispute_13 : decode cX0_dispute 13 = .ok (.astore_n 3, 1) := dk_78 (dk_at dksX0_dispute_0 13 rfl rfl)
theorem dX0_dispute_14 : decode cX0_dispute 14 = .ok (.iconst 1, 1) := dk_4 (dk_at dksX0_dispute_0 14 rfl rfl)
theorem dX0_dispute_15 : decode cX0_dispute 15 = .ok (.ireturn, 1) := dk_172 (dk_at dksX0_dispute_0 15 rfl rfl)
theorem dX0_dispute_16 : decode cX0_dispute 16 = .ok (.astore_n 3, 1) := dk_78 (dk_at dksX0_dispute_0 16 rfl rfl)
theorem dX0_dispute_17 : decode cX0_dispute 17 = .ok (.iconst 2, 1) := dk_5 (dk_at dksX0_dispute_0 17 rfl rfl)
theorem dX0_dispute_18 : decode cX0_dispute 18 = .ok (.ireturn, 1) := dk_172 (dk_at dksX0_dispute_0 18 rfl rfl)
theorem dX0_dispute_19 : decode cX0_dispute 19 = .ok (.iconst 0, 1) := dk_3 (dk_at dksX0_dispute_0 19 rfl rfl)
theorem dX0_dispute_20 : decode cX0_dispute 20 = .ok (.ireturn, 1) := dk_172 (dk_at dksX0_dispute_0 20 rfl rfl)
abbrev cX0_resolve : ByteArray := method_21_code
def yX0_resolve : MethodName := ⟨RX0, "resolve", "(LDredgeledger;ILDredgeledgerLaw$Out;)I"⟩
def dkwX0_resolve_0 : List UInt8 := [44, 42, 27, 182, 0, 85, 133, 181, 0, 13, 167, 0, 9, 78, 4, 172, 78, 5, 172, 3, 172]
abbrev dktX0_resolve_0 : List UInt8 := dkwX0_resolve_0 ++ []
theorem dksX0_resolve_0 : cX0_resolve.data.toList.drop 0 = dktX0_resolve_0 := by decide +kernel
theorem dX0_resolve_0 : decode cX0_resolve 0 = .ok (.aload_n 2, 1) := dk_44 (dk_at dksX0_resolve_0 0 rfl rfl)
theorem dX0_resolve_1 : decode cX0_resolve 1 = .ok (.aload_n 0, 1) := dk_42 (dk_at dksX0_resolve_0 1 rfl rfl)
theorem dX0_resolve_2 : decode cX0_resolve 2 = .ok (.iload_n 1, 1) := dk_27 (dk_at dksX0_resolve_0 2 rfl rfl)
theorem dX0_resolve_3 : decode cX0_resolve 3 = .ok (.invokevirtual 85, 3) := dk_182 0 85 (dk_at dksX0_resolve_0 3 rfl rfl)
theorem dX0_resolve_6 : decode cX0_resolve 6 = .ok (.i2l, 1) := dk_133 (dk_at dksX0_resolve_0 6 rfl rfl)
theorem dX0_resolve_7 : decode cX0_resolve 7 = .ok (.putfield 13, 3) := dk_181 0 13 (dk_at dksX0_resolve_0 7 rfl rfl)
theorem dX0_resolve_10 : decode cX0_resolve 10 = .ok (.goto 9, 3) := dk_167 0 9 (dk_at dksX0_resolve_0 10 rfl rfl)
theorem dX0_resolve_13 : decode cX0_resolve 13 = .ok (.astore_n 3, 1) := dk_78 (dk_at dksX0_resolve_0 13 rfl rfl)
theorem dX0_resolve_14 : decode cX0_resolve 14 = .ok (.iconst 1, 1) := dk_4 (dk_at dksX0_resolve_0 14 rfl rfl)
theorem dX0_resolve_15 : decode cX0_resolve 15 = .ok (.ireturn, 1) := dk_172 (dk_at dksX0_resolve_0 15 rfl rfl)
theorem dX0_resolve_16 : decode cX0_resolve 16 = .ok (.astore_n 3, 1) := dk_78 (dk_at dksX0_resolve_0 16 rfl rfl)
theorem dX0_resolve_17 : decode cX0_resolve 17 = .ok (.iconst 2, 1) := dk_5 (dk_at dksX0_resolve_0 17 rfl rfl)
theorem dX0_resolve_18 : decode cX0_resolve 18 = .ok (.ireturn, 1) := dk_172 (dk_at dksX0_resolve_0 18 rfl rfl)
theorem dX0_resolve_19 : decode cX0_resolve 19 = .ok (.iconst 0, 1) := dk_3 (dk_at dksX0_resolve_0 19 rfl rfl)
theorem dX0_resolve_20 : decode cX0_resolve 20 = .ok (.ireturn, 1) := dk_172 (dk_at dksX0_resolve_0 20 rfl rfl)
abbrev cX0_paidDepth : ByteArray := method_22_code
def yX0_paidDepth : MethodName := ⟨RX0, "paidDepth", "(LDredgeledger;ILDredgeledgerLaw$Out;)I"⟩
def dkwX0_paidDepth_0 : List UInt8 := [44, 42, 27, 182, 0, 88, 133, 181, 0, 13, 167, 0, 6, 78, 4, 172, 3, 172]
abbrev dktX0_paidDepth_0 : List UInt8 := dkwX0_paidDepth_0 ++ []
theorem dksX0_paidDepth_0 : cX0_paidDepth.data.toList.drop 0 = dktX0_paidDepth_0 := by decide +kernel
theorem dX0_paidDepth_0 : decode cX0_paidDepth 0 = .ok (.aload_n 2, 1) := dk_44 (dk_at dksX0_paidDepth_0 0 rfl rfl)
theorem dX0_paidDepth_1 : decode cX0_paidDepth 1 = .ok (.aload_n 0, 1) := dk_42 (dk_at dksX0_paidDepth_0 1 rfl rfl)
theorem dX0_paidDepth_2 : decode cX0_paidDepth 2 = .ok (.iload_n 1, 1) := dk_27 (dk_at dksX0_paidDepth_0 2 rfl rfl)
theorem dX0_paidDepth_3 : decode cX0_paidDepth 3 = .ok (.invokevirtual 88, 3) := dk_182 0 88 (dk_at dksX0_paidDepth_0 3 rfl rfl)
theorem dX0_paidDepth_6 : decode cX0_paidDepth 6 = .ok (.i2l, 1) := dk_133 (dk_at dksX0_paidDepth_0 6 rfl rfl)
theorem dX0_paidDepth_7 : decode cX0_paidDepth 7 = .ok (.putfield 13, 3) := dk_181 0 13 (dk_at dksX0_paidDepth_0 7 rfl rfl)
theorem dX0_paidDepth_10 : decode cX0_paidDepth 10 = .ok (.goto 6, 3) := dk_167 0 6 (dk_at dksX0_paidDepth_0 10 rfl rfl)
theorem dX0_paidDepth_13 : decode cX0_paidDepth 13 = .ok (.astore_n 3, 1) := dk_78 (dk_at dksX0_paidDepth_0 13 rfl rfl)
theorem dX0_paidDepth_14 : decode cX0_paidDepth 14 = .ok (.iconst 1, 1) := dk_4 (dk_at dksX0_paidDepth_0 14 rfl rfl)
theorem dX0_paidDepth_15 : decode cX0_paidDepth 15 = .ok (.ireturn, 1) := dk_172 (dk_at dksX0_paidDepth_0 15 rfl rfl)
theorem dX0_paidDepth_16 : decode cX0_paidDepth 16 = .ok (.iconst 0, 1) := dk_3 (dk_at dksX0_paidDepth_0 16 rfl rfl)
theorem dX0_paidDepth_17 : decode cX0_paidDepth 17 = .ok (.ireturn, 1) := dk_172 (dk_at dksX0_paidDepth_0 17 rfl rfl)
abbrev cX0_entryAt : ByteArray := method_23_code
def yX0_entryAt : MethodName := ⟨RX0, "entryAt", "(LDredgeledger;ILDredgeledgerLaw$Out;)I"⟩
def dkwX0_entryAt_0 : List UInt8 := [44, 42, 27, 182, 0, 91, 181, 0, 95, 167, 0, 6, 78, 4, 172, 3, 172]
abbrev dktX0_entryAt_0 : List UInt8 := dkwX0_entryAt_0 ++ []
theorem dksX0_entryAt_0 : cX0_entryAt.data.toList.drop 0 = dktX0_entryAt_0 := by decide +kernel
theorem dX0_entryAt_0 : decode cX0_entryAt 0 = .ok (.aload_n 2, 1) := dk_44 (dk_at dksX0_entryAt_0 0 rfl rfl)
theorem dX0_entryAt_1 : decode cX0_entryAt 1 = .ok (.aload_n 0, 1) := dk_42 (dk_at dksX0_entryAt_0 1 rfl rfl)
theorem dX0_entryAt_2 : decode cX0_entryAt 2 = .ok (.iload_n 1, 1) := dk_27 (dk_at dksX0_entryAt_0 2 rfl rfl)
theorem dX0_entryAt_3 : decode cX0_entryAt 3 = .ok (.invokevirtual 91, 3) := dk_182 0 91 (dk_at dksX0_entryAt_0 3 rfl rfl)
theorem dX0_entryAt_6 : decode cX0_entryAt 6 = .ok (.putfield 95, 3) := dk_181 0 95 (dk_at dksX0_entryAt_0 6 rfl rfl)
theorem dX0_entryAt_9 : decode cX0_entryAt 9 = .ok (.goto 6, 3) := dk_167 0 6 (dk_at dksX0_entryAt_0 9 rfl rfl)
theorem dX0_entryAt_12 : decode cX0_entryAt 12 = .ok (.astore_n 3, 1) := dk_78 (dk_at dksX0_entryAt_0 12 rfl rfl)
theorem dX0_entryAt_13 : decode cX0_entryAt 13 = .ok (.iconst 1, 1) := dk_4 (dk_at dksX0_entryAt_0 13 rfl rfl)
theorem dX0_entryAt_14 : decode cX0_entryAt 14 = .ok (.ireturn, 1) := dk_172 (dk_at dksX0_entryAt_0 14 rfl rfl)
theorem dX0_entryAt_15 : decode cX0_entryAt 15 = .ok (.iconst 0, 1) := dk_3 (dk_at dksX0_entryAt_0 15 rfl rfl)
theorem dX0_entryAt_16 : decode cX0_entryAt 16 = .ok (.ireturn, 1) := dk_172 (dk_at dksX0_entryAt_0 16 rfl rfl)
abbrev cX0_doneShare : ByteArray := method_24_code
def yX0_doneShare : MethodName := ⟨RX0, "doneShare", "(LDredgeledger;LDredgeledgerLaw$Out;)I"⟩
def dkwX0_doneShare_0 : List UInt8 := [43, 42, 182, 0, 99, 141, 181, 0, 103, 167, 0, 6, 77, 4, 172, 3, 172]
abbrev dktX0_doneShare_0 : List UInt8 := dkwX0_doneShare_0 ++ []
theorem dksX0_doneShare_0 : cX0_doneShare.data.toList.drop 0 = dktX0_doneShare_0 := by decide +kernel
theorem dX0_doneShare_0 : decode cX0_doneShare 0 = .ok (.aload_n 1, 1) := dk_43 (dk_at dksX0_doneShare_0 0 rfl rfl)
theorem dX0_doneShare_1 : decode cX0_doneShare 1 = .ok (.aload_n 0, 1) := dk_42 (dk_at dksX0_doneShare_0 1 rfl rfl)
theorem dX0_doneShare_2 : decode cX0_doneShare 2 = .ok (.invokevirtual 99, 3) := dk_182 0 99 (dk_at dksX0_doneShare_0 2 rfl rfl)
theorem dX0_doneShare_5 : decode cX0_doneShare 5 = .ok (.f2d, 1) := dk_141 (dk_at dksX0_doneShare_0 5 rfl rfl)
theorem dX0_doneShare_6 : decode cX0_doneShare 6 = .ok (.putfield 103, 3) := dk_181 0 103 (dk_at dksX0_doneShare_0 6 rfl rfl)
theorem dX0_doneShare_9 : decode cX0_doneShare 9 = .ok (.goto 6, 3) := dk_167 0 6 (dk_at dksX0_doneShare_0 9 rfl rfl)
theorem dX0_doneShare_12 : decode cX0_doneShare 12 = .ok (.astore_n 2, 1) := dk_77 (dk_at dksX0_doneShare_0 12 rfl rfl)
theorem dX0_doneShare_13 : decode cX0_doneShare 13 = .ok (.iconst 1, 1) := dk_4 (dk_at dksX0_doneShare_0 13 rfl rfl)
theorem dX0_doneShare_14 : decode cX0_doneShare 14 = .ok (.ireturn, 1) := dk_172 (dk_at dksX0_doneShare_0 14 rfl rfl)
theorem dX0_doneShare_15 : decode cX0_doneShare 15 = .ok (.iconst 0, 1) := dk_3 (dk_at dksX0_doneShare_0 15 rfl rfl)
theorem dX0_doneShare_16 : decode cX0_doneShare 16 = .ok (.ireturn, 1) := dk_172 (dk_at dksX0_doneShare_0 16 rfl rfl)
abbrev cX0_meanDepth : ByteArray := method_25_code
def yX0_meanDepth : MethodName := ⟨RX0, "meanDepth", "(LDredgeledger;LDredgeledgerLaw$Out;)I"⟩
def dkwX0_meanDepth_0 : List UInt8 := [43, 42, 182, 0, 109, 181, 0, 103, 167, 0, 6, 77, 4, 172, 3, 172]
abbrev dktX0_meanDepth_0 : List UInt8 := dkwX0_meanDepth_0 ++ []
theorem dksX0_meanDepth_0 : cX0_meanDepth.data.toList.drop 0 = dktX0_meanDepth_0 := by decide +kernel
theorem dX0_meanDepth_0 : decode cX0_meanDepth 0 = .ok (.aload_n 1, 1) := dk_43 (dk_at dksX0_meanDepth_0 0 rfl rfl)
theorem dX0_meanDepth_1 : decode cX0_meanDepth 1 = .ok (.aload_n 0, 1) := dk_42 (dk_at dksX0_meanDepth_0 1 rfl rfl)
theorem dX0_meanDepth_2 : decode cX0_meanDepth 2 = .ok (.invokevirtual 109, 3) := dk_182 0 109 (dk_at dksX0_meanDepth_0 2 rfl rfl)
theorem dX0_meanDepth_5 : decode cX0_meanDepth 5 = .ok (.putfield 103, 3) := dk_181 0 103 (dk_at dksX0_meanDepth_0 5 rfl rfl)
theorem dX0_meanDepth_8 : decode cX0_meanDepth 8 = .ok (.goto 6, 3) := dk_167 0 6 (dk_at dksX0_meanDepth_0 8 rfl rfl)
theorem dX0_meanDepth_11 : decode cX0_meanDepth 11 = .ok (.astore_n 2, 1) := dk_77 (dk_at dksX0_meanDepth_0 11 rfl rfl)
theorem dX0_meanDepth_12 : decode cX0_meanDepth 12 = .ok (.iconst 1, 1) := dk_4 (dk_at dksX0_meanDepth_0 12 rfl rfl)
theorem dX0_meanDepth_13 : decode cX0_meanDepth 13 = .ok (.ireturn, 1) := dk_172 (dk_at dksX0_meanDepth_0 13 rfl rfl)
theorem dX0_meanDepth_14 : decode cX0_meanDepth 14 = .ok (.iconst 0, 1) := dk_3 (dk_at dksX0_meanDepth_0 14 rfl rfl)
theorem dX0_meanDepth_15 : decode cX0_meanDepth 15 = .ok (.ireturn, 1) := dk_172 (dk_at dksX0_meanDepth_0 15 rfl rfl)
theorem q47 : (Jvm.Cond.initialized "DredgeledgerLaw") ∈ lw_all := lw_g (lw_at lw_m1 0 rfl) rfl
theorem q108 : (Jvm.Cond.classLink "DredgeledgerLaw" (8 : Nat) "Dredgeledger") ∈ lw_all := lw_g (lw_at lw_m1 61 rfl) rfl
theorem q110 : (Jvm.Cond.methodLink "DredgeledgerLaw" (113 : Nat) ({ cls := "Dredgeledger", name := "<init>", desc := "()V" } : Jvm.MethodName)) ∈ lw_all := lw_g (lw_at lw_m1 63 rfl) rfl
theorem q614 : (Jvm.Cond.methodLink "DredgeledgerLaw" (144 : Nat) ({ cls := "Dredgeledger", name := "day", desc := "()I" } : Jvm.MethodName)) ∈ lw_all := lw_g (lw_at lw_m3 87 rfl) rfl
theorem q618 : (Jvm.Cond.methodLink "DredgeledgerLaw" (164 : Nat) ({ cls := "Dredgeledger", name := "hopper", desc := "()I" } : Jvm.MethodName)) ∈ lw_all := lw_g (lw_at lw_m3 91 rfl) rfl
theorem q622 : (Jvm.Cond.methodLink "DredgeledgerLaw" (171 : Nat) ({ cls := "Dredgeledger", name := "permits", desc := "()I" } : Jvm.MethodName)) ∈ lw_all := lw_g (lw_at lw_m3 95 rfl) rfl
theorem q630 : (Jvm.Cond.methodLink "DredgeledgerLaw" (202 : Nat) ({ cls := "Dredgeledger", name := "paid", desc := "()I" } : Jvm.MethodName)) ∈ lw_all := lw_g (lw_at lw_m3 103 rfl) rfl
theorem q634 : (Jvm.Cond.methodLink "DredgeledgerLaw" (206 : Nat) ({ cls := "Dredgeledger", name := "paidByCells", desc := "()I" } : Jvm.MethodName)) ∈ lw_all := lw_g (lw_at lw_m3 107 rfl) rfl
theorem q1011 : (Jvm.Cond.methodLink "DredgeledgerLaw" (210 : Nat) ({ cls := "Dredgeledger", name := "money", desc := "()J" } : Jvm.MethodName)) ∈ lw_all := lw_g (lw_at lw_m5 4 rfl) rfl
theorem q1015 : (Jvm.Cond.methodLink "DredgeledgerLaw" (215 : Nat) ({ cls := "Dredgeledger", name := "dredged", desc := "()I" } : Jvm.MethodName)) ∈ lw_all := lw_g (lw_at lw_m5 8 rfl) rfl
theorem q1019 : (Jvm.Cond.methodLink "DredgeledgerLaw" (219 : Nat) ({ cls := "Dredgeledger", name := "crept", desc := "()I" } : Jvm.MethodName)) ∈ lw_all := lw_g (lw_at lw_m5 12 rfl) rfl
theorem q1023 : (Jvm.Cond.methodLink "DredgeledgerLaw" (243 : Nat) ({ cls := "Dredgeledger", name := "report", desc := "()Ljava/lang/String;" } : Jvm.MethodName)) ∈ lw_all := lw_g (lw_at lw_m5 16 rfl) rfl
theorem q1069 : (Jvm.Cond.methodLink "DredgeledgerLaw" (254 : Nat) ({ cls := "Dredgeledger", name := "isBalanced", desc := "()Z" } : Jvm.MethodName)) ∈ lw_all := lw_g (lw_at lw_m5 62 rfl) rfl
theorem q1106 : (Jvm.Cond.classLink "DredgeledgerLaw" (14 : Nat) "DredgeledgerLaw$Out") ∈ lw_all := lw_g (lw_at lw_m5 99 rfl) rfl
theorem q1108 : (Jvm.Cond.methodLinkNest "DredgeledgerLaw" (117 : Nat) ({ cls := "DredgeledgerLaw$Out", name := "<init>", desc := "()V" } : Jvm.MethodName) "DredgeledgerLaw") ∈ lw_tbl := lw_at lw_m5 101 rfl
theorem q1112 : (Jvm.Cond.fieldLinkNest "DredgeledgerLaw" (13 : Nat) "DredgeledgerLaw$Out" "n" "J" "DredgeledgerLaw") ∈ lw_tbl := lw_at lw_m5 105 rfl
theorem q1113 : (Jvm.Cond.fieldLinkNest "DredgeledgerLaw" (103 : Nat) "DredgeledgerLaw$Out" "d" "D" "DredgeledgerLaw") ∈ lw_tbl := lw_at lw_m5 106 rfl
theorem q1114 : (Jvm.Cond.fieldLinkNest "DredgeledgerLaw" (95 : Nat) "DredgeledgerLaw$Out" "theEntry" "LEntry;" "DredgeledgerLaw") ∈ lw_tbl := lw_at lw_m5 107 rfl
theorem q1122 : (Jvm.Cond.methodLink "DredgeledgerLaw" (118 : Nat) ({ cls := "DredgeledgerLaw", name := "addCells", desc := "(LDredgeledger;IILDredgeledgerLaw$Out;)I" } : Jvm.MethodName)) ∈ lw_all := lw_g (lw_at lw_m5 115 rfl) rfl
theorem q1123 : (Jvm.Cond.static ({ cls := "DredgeledgerLaw", name := "addCells", desc := "(LDredgeledger;IILDredgeledgerLaw$Out;)I" } : Jvm.MethodName)) ∈ lw_all := lw_g (lw_at lw_m5 116 rfl) rfl
theorem q1124 : (Jvm.Cond.codeWith ({ cls := "DredgeledgerLaw", name := "addCells", desc := "(LDredgeledger;IILDredgeledgerLaw$Out;)I" } : Jvm.MethodName) method_2_code (5 : Nat) (Option.some Jvm.ClassFile.FieldType.int) [((0 : Nat), (11 : Nat), (14 : Nat), (19 : Nat)), ((0 : Nat), (11 : Nat), (18 : Nat), (21 : Nat))]) ∈ lw_all := lw_g (lw_at lw_m5 117 rfl) rfl
theorem q1125 : (Jvm.Cond.classLink "DredgeledgerLaw" (19 : Nat) "java/lang/IllegalArgumentException") ∈ lw_all := lw_g (lw_at lw_m5 118 rfl) rfl
theorem q1126 : (Jvm.Cond.classLink "DredgeledgerLaw" (21 : Nat) "java/lang/IllegalStateException") ∈ lw_all := lw_g (lw_at lw_m5 119 rfl) rfl
theorem q1127 : (Jvm.Cond.methodLink "DredgeledgerLaw" (7 : Nat) ({ cls := "Dredgeledger", name := "addCells", desc := "(II)I" } : Jvm.MethodName)) ∈ lw_all := lw_g (lw_at lw_m5 120 rfl) rfl
theorem q1158 : (Jvm.Cond.methodLink "DredgeledgerLaw" (128 : Nat) ({ cls := "DredgeledgerLaw", name := "setLimit", desc := "(LDredgeledger;IILDredgeledgerLaw$Out;)I" } : Jvm.MethodName)) ∈ lw_all := lw_g (lw_at lw_m5 151 rfl) rfl
theorem q1159 : (Jvm.Cond.static ({ cls := "DredgeledgerLaw", name := "setLimit", desc := "(LDredgeledger;IILDredgeledgerLaw$Out;)I" } : Jvm.MethodName)) ∈ lw_all := lw_g (lw_at lw_m5 152 rfl) rfl
theorem q1160 : (Jvm.Cond.codeWith ({ cls := "DredgeledgerLaw", name := "setLimit", desc := "(LDredgeledger;IILDredgeledgerLaw$Out;)I" } : Jvm.MethodName) method_3_code (5 : Nat) (Option.some Jvm.ClassFile.FieldType.int) [((0 : Nat), (11 : Nat), (14 : Nat), (26 : Nat)), ((0 : Nat), (11 : Nat), (18 : Nat), (19 : Nat))]) ∈ lw_all := lw_g (lw_at lw_m5 153 rfl) rfl
theorem q1161 : (Jvm.Cond.classLink "DredgeledgerLaw" (26 : Nat) "java/lang/IndexOutOfBoundsException") ∈ lw_all := lw_g (lw_at lw_m5 154 rfl) rfl
theorem q1177 : (Jvm.Cond.methodLink "DredgeledgerLaw" (23 : Nat) ({ cls := "Dredgeledger", name := "setLimit", desc := "(II)I" } : Jvm.MethodName)) ∈ lw_all := lw_g (lw_at lw_m5 170 rfl) rfl
theorem q1227 : (Jvm.Cond.methodLink "DredgeledgerLaw" (131 : Nat) ({ cls := "DredgeledgerLaw", name := "setSlope", desc := "(LDredgeledger;ILDredgeledgerLaw$Out;)I" } : Jvm.MethodName)) ∈ lw_all := lw_g (lw_at lw_m5 220 rfl) rfl
theorem q1228 : (Jvm.Cond.static ({ cls := "DredgeledgerLaw", name := "setSlope", desc := "(LDredgeledger;ILDredgeledgerLaw$Out;)I" } : Jvm.MethodName)) ∈ lw_all := lw_g (lw_at lw_m5 221 rfl) rfl
theorem q1229 : (Jvm.Cond.codeWith ({ cls := "DredgeledgerLaw", name := "setSlope", desc := "(LDredgeledger;ILDredgeledgerLaw$Out;)I" } : Jvm.MethodName) method_4_code (4 : Nat) (Option.some Jvm.ClassFile.FieldType.int) [((0 : Nat), (10 : Nat), (13 : Nat), (19 : Nat))]) ∈ lw_all := lw_g (lw_at lw_m5 222 rfl) rfl
theorem q1230 : (Jvm.Cond.methodLink "DredgeledgerLaw" (28 : Nat) ({ cls := "Dredgeledger", name := "setSlope", desc := "(I)I" } : Jvm.MethodName)) ∈ lw_all := lw_g (lw_at lw_m5 223 rfl) rfl
theorem q1234 : (Jvm.Cond.methodLink "DredgeledgerLaw" (135 : Nat) ({ cls := "DredgeledgerLaw", name := "depth", desc := "(LDredgeledger;ILDredgeledgerLaw$Out;)I" } : Jvm.MethodName)) ∈ lw_all := lw_g (lw_at lw_m5 227 rfl) rfl
theorem q1235 : (Jvm.Cond.static ({ cls := "DredgeledgerLaw", name := "depth", desc := "(LDredgeledger;ILDredgeledgerLaw$Out;)I" } : Jvm.MethodName)) ∈ lw_all := lw_g (lw_at lw_m5 228 rfl) rfl
theorem q1236 : (Jvm.Cond.codeWith ({ cls := "DredgeledgerLaw", name := "depth", desc := "(LDredgeledger;ILDredgeledgerLaw$Out;)I" } : Jvm.MethodName) method_5_code (4 : Nat) (Option.some Jvm.ClassFile.FieldType.int) [((0 : Nat), (10 : Nat), (13 : Nat), (26 : Nat))]) ∈ lw_all := lw_g (lw_at lw_m5 229 rfl) rfl
theorem q1237 : (Jvm.Cond.methodLink "DredgeledgerLaw" (32 : Nat) ({ cls := "Dredgeledger", name := "depth", desc := "(I)I" } : Jvm.MethodName)) ∈ lw_all := lw_g (lw_at lw_m5 230 rfl) rfl
theorem q1241 : (Jvm.Cond.methodLink "DredgeledgerLaw" (138 : Nat) ({ cls := "DredgeledgerLaw", name := "dredge", desc := "(LDredgeledger;IILDredgeledgerLaw$Out;)I" } : Jvm.MethodName)) ∈ lw_all := lw_g (lw_at lw_m5 234 rfl) rfl
theorem q1242 : (Jvm.Cond.static ({ cls := "DredgeledgerLaw", name := "dredge", desc := "(LDredgeledger;IILDredgeledgerLaw$Out;)I" } : Jvm.MethodName)) ∈ lw_all := lw_g (lw_at lw_m5 235 rfl) rfl
theorem q1243 : (Jvm.Cond.codeWith ({ cls := "DredgeledgerLaw", name := "dredge", desc := "(LDredgeledger;IILDredgeledgerLaw$Out;)I" } : Jvm.MethodName) method_6_code (5 : Nat) (Option.some Jvm.ClassFile.FieldType.int) [((0 : Nat), (11 : Nat), (14 : Nat), (26 : Nat)), ((0 : Nat), (11 : Nat), (18 : Nat), (19 : Nat)), ((0 : Nat), (11 : Nat), (22 : Nat), (21 : Nat)), ((0 : Nat), (11 : Nat), (26 : Nat), (38 : Nat))]) ∈ lw_all := lw_g (lw_at lw_m5 236 rfl) rfl
theorem q1244 : (Jvm.Cond.classLink "DredgeledgerLaw" (38 : Nat) "java/lang/UnsupportedOperationException") ∈ lw_all := lw_g (lw_at lw_m5 237 rfl) rfl
theorem q1245 : (Jvm.Cond.methodLink "DredgeledgerLaw" (35 : Nat) ({ cls := "Dredgeledger", name := "dredge", desc := "(II)I" } : Jvm.MethodName)) ∈ lw_all := lw_g (lw_at lw_m5 238 rfl) rfl
theorem q1342 : (Jvm.Cond.methodLink "DredgeledgerLaw" (141 : Nat) ({ cls := "DredgeledgerLaw", name := "pass", desc := "(LDredgeledger;ILDredgeledgerLaw$Out;)I" } : Jvm.MethodName)) ∈ lw_all := lw_g (lw_at lw_m6 95 rfl) rfl
theorem q1343 : (Jvm.Cond.static ({ cls := "DredgeledgerLaw", name := "pass", desc := "(LDredgeledger;ILDredgeledgerLaw$Out;)I" } : Jvm.MethodName)) ∈ lw_all := lw_g (lw_at lw_m6 96 rfl) rfl
theorem q1344 : (Jvm.Cond.codeWith ({ cls := "DredgeledgerLaw", name := "pass", desc := "(LDredgeledger;ILDredgeledgerLaw$Out;)I" } : Jvm.MethodName) method_7_code (4 : Nat) (Option.some Jvm.ClassFile.FieldType.int) [((0 : Nat), (10 : Nat), (13 : Nat), (19 : Nat)), ((0 : Nat), (10 : Nat), (16 : Nat), (21 : Nat))]) ∈ lw_all := lw_g (lw_at lw_m6 97 rfl) rfl
theorem q1345 : (Jvm.Cond.methodLink "DredgeledgerLaw" (40 : Nat) ({ cls := "Dredgeledger", name := "pass", desc := "(I)I" } : Jvm.MethodName)) ∈ lw_all := lw_g (lw_at lw_m6 98 rfl) rfl
theorem q1549 : (Jvm.Cond.methodLink "DredgeledgerLaw" (148 : Nat) ({ cls := "DredgeledgerLaw", name := "addGround", desc := "(LDredgeledger;IILDredgeledgerLaw$Out;)I" } : Jvm.MethodName)) ∈ lw_all := lw_g (lw_at lw_m7 62 rfl) rfl
theorem q1550 : (Jvm.Cond.static ({ cls := "DredgeledgerLaw", name := "addGround", desc := "(LDredgeledger;IILDredgeledgerLaw$Out;)I" } : Jvm.MethodName)) ∈ lw_all := lw_g (lw_at lw_m7 63 rfl) rfl
theorem q1551 : (Jvm.Cond.codeWith ({ cls := "DredgeledgerLaw", name := "addGround", desc := "(LDredgeledger;IILDredgeledgerLaw$Out;)I" } : Jvm.MethodName) method_8_code (5 : Nat) (Option.some Jvm.ClassFile.FieldType.int) [((0 : Nat), (11 : Nat), (14 : Nat), (19 : Nat)), ((0 : Nat), (11 : Nat), (18 : Nat), (21 : Nat))]) ∈ lw_all := lw_g (lw_at lw_m7 64 rfl) rfl
theorem q1552 : (Jvm.Cond.methodLink "DredgeledgerLaw" (43 : Nat) ({ cls := "Dredgeledger", name := "addGround", desc := "(II)I" } : Jvm.MethodName)) ∈ lw_all := lw_g (lw_at lw_m7 65 rfl) rfl
theorem q1595 : (Jvm.Cond.methodLink "DredgeledgerLaw" (151 : Nat) ({ cls := "DredgeledgerLaw", name := "setTide", desc := "(LDredgeledger;ILDredgeledgerLaw$Out;)I" } : Jvm.MethodName)) ∈ lw_all := lw_g (lw_at lw_m7 108 rfl) rfl
theorem q1596 : (Jvm.Cond.static ({ cls := "DredgeledgerLaw", name := "setTide", desc := "(LDredgeledger;ILDredgeledgerLaw$Out;)I" } : Jvm.MethodName)) ∈ lw_all := lw_g (lw_at lw_m7 109 rfl) rfl
theorem q1597 : (Jvm.Cond.codeWith ({ cls := "DredgeledgerLaw", name := "setTide", desc := "(LDredgeledger;ILDredgeledgerLaw$Out;)I" } : Jvm.MethodName) method_9_code (4 : Nat) (Option.some Jvm.ClassFile.FieldType.int) [((0 : Nat), (10 : Nat), (13 : Nat), (19 : Nat))]) ∈ lw_all := lw_g (lw_at lw_m7 110 rfl) rfl
theorem q1598 : (Jvm.Cond.methodLink "DredgeledgerLaw" (46 : Nat) ({ cls := "Dredgeledger", name := "setTide", desc := "(I)I" } : Jvm.MethodName)) ∈ lw_all := lw_g (lw_at lw_m7 111 rfl) rfl
theorem q1602 : (Jvm.Cond.methodLink "DredgeledgerLaw" (154 : Nat) ({ cls := "DredgeledgerLaw", name := "permit", desc := "(LDredgeledger;IIIILDredgeledgerLaw$Out;)I" } : Jvm.MethodName)) ∈ lw_all := lw_g (lw_at lw_m7 115 rfl) rfl
theorem q1603 : (Jvm.Cond.static ({ cls := "DredgeledgerLaw", name := "permit", desc := "(LDredgeledger;IIIILDredgeledgerLaw$Out;)I" } : Jvm.MethodName)) ∈ lw_all := lw_g (lw_at lw_m7 116 rfl) rfl
theorem q1604 : (Jvm.Cond.codeWith ({ cls := "DredgeledgerLaw", name := "permit", desc := "(LDredgeledger;IIIILDredgeledgerLaw$Out;)I" } : Jvm.MethodName) method_10_code (7 : Nat) (Option.some Jvm.ClassFile.FieldType.int) [((0 : Nat), (15 : Nat), (18 : Nat), (26 : Nat)), ((0 : Nat), (15 : Nat), (22 : Nat), (19 : Nat)), ((0 : Nat), (15 : Nat), (26 : Nat), (21 : Nat))]) ∈ lw_all := lw_g (lw_at lw_m7 117 rfl) rfl
theorem q1605 : (Jvm.Cond.methodLink "DredgeledgerLaw" (49 : Nat) ({ cls := "Dredgeledger", name := "permit", desc := "(IIII)I" } : Jvm.MethodName)) ∈ lw_all := lw_g (lw_at lw_m7 118 rfl) rfl
theorem q1663 : (Jvm.Cond.methodLink "DredgeledgerLaw" (158 : Nat) ({ cls := "DredgeledgerLaw", name := "permitted", desc := "(LDredgeledger;ILDredgeledgerLaw$Out;)I" } : Jvm.MethodName)) ∈ lw_all := lw_g (lw_at lw_m7 176 rfl) rfl
theorem q1664 : (Jvm.Cond.static ({ cls := "DredgeledgerLaw", name := "permitted", desc := "(LDredgeledger;ILDredgeledgerLaw$Out;)I" } : Jvm.MethodName)) ∈ lw_all := lw_g (lw_at lw_m7 177 rfl) rfl
theorem q1665 : (Jvm.Cond.codeWith ({ cls := "DredgeledgerLaw", name := "permitted", desc := "(LDredgeledger;ILDredgeledgerLaw$Out;)I" } : Jvm.MethodName) method_11_code (4 : Nat) (Option.some Jvm.ClassFile.FieldType.int) [((0 : Nat), (10 : Nat), (13 : Nat), (26 : Nat))]) ∈ lw_all := lw_g (lw_at lw_m7 178 rfl) rfl
theorem q1666 : (Jvm.Cond.methodLink "DredgeledgerLaw" (53 : Nat) ({ cls := "Dredgeledger", name := "permitted", desc := "(I)I" } : Jvm.MethodName)) ∈ lw_all := lw_g (lw_at lw_m7 179 rfl) rfl
theorem q1679 : (Jvm.Cond.methodLink "DredgeledgerLaw" (161 : Nat) ({ cls := "DredgeledgerLaw", name := "dump", desc := "(LDredgeledger;IILDredgeledgerLaw$Out;)I" } : Jvm.MethodName)) ∈ lw_all := lw_g (lw_at lw_m7 192 rfl) rfl
theorem q1680 : (Jvm.Cond.static ({ cls := "DredgeledgerLaw", name := "dump", desc := "(LDredgeledger;IILDredgeledgerLaw$Out;)I" } : Jvm.MethodName)) ∈ lw_all := lw_g (lw_at lw_m7 193 rfl) rfl
theorem q1681 : (Jvm.Cond.codeWith ({ cls := "DredgeledgerLaw", name := "dump", desc := "(LDredgeledger;IILDredgeledgerLaw$Out;)I" } : Jvm.MethodName) method_12_code (5 : Nat) (Option.some Jvm.ClassFile.FieldType.int) [((0 : Nat), (11 : Nat), (14 : Nat), (26 : Nat)), ((0 : Nat), (11 : Nat), (18 : Nat), (19 : Nat)), ((0 : Nat), (11 : Nat), (22 : Nat), (21 : Nat)), ((0 : Nat), (11 : Nat), (26 : Nat), (38 : Nat))]) ∈ lw_all := lw_g (lw_at lw_m7 194 rfl) rfl
theorem q1682 : (Jvm.Cond.methodLink "DredgeledgerLaw" (56 : Nat) ({ cls := "Dredgeledger", name := "dump", desc := "(II)I" } : Jvm.MethodName)) ∈ lw_all := lw_g (lw_at lw_m7 195 rfl) rfl
theorem q1693 : (Jvm.Cond.methodLink "DredgeledgerLaw" (168 : Nat) ({ cls := "DredgeledgerLaw", name := "dumped", desc := "(LDredgeledger;ILDredgeledgerLaw$Out;)I" } : Jvm.MethodName)) ∈ lw_all := lw_g (lw_at lw_m7 206 rfl) rfl
theorem q1694 : (Jvm.Cond.static ({ cls := "DredgeledgerLaw", name := "dumped", desc := "(LDredgeledger;ILDredgeledgerLaw$Out;)I" } : Jvm.MethodName)) ∈ lw_all := lw_g (lw_at lw_m7 207 rfl) rfl
theorem q1695 : (Jvm.Cond.codeWith ({ cls := "DredgeledgerLaw", name := "dumped", desc := "(LDredgeledger;ILDredgeledgerLaw$Out;)I" } : Jvm.MethodName) method_13_code (4 : Nat) (Option.some Jvm.ClassFile.FieldType.int) [((0 : Nat), (10 : Nat), (13 : Nat), (26 : Nat))]) ∈ lw_all := lw_g (lw_at lw_m7 208 rfl) rfl
theorem q1696 : (Jvm.Cond.methodLink "DredgeledgerLaw" (59 : Nat) ({ cls := "Dredgeledger", name := "dumped", desc := "(I)I" } : Jvm.MethodName)) ∈ lw_all := lw_g (lw_at lw_m7 209 rfl) rfl
theorem q1700 : (Jvm.Cond.methodLink "DredgeledgerLaw" (175 : Nat) ({ cls := "DredgeledgerLaw", name := "survey", desc := "(LDredgeledger;IIIILDredgeledgerLaw$Out;)I" } : Jvm.MethodName)) ∈ lw_all := lw_g (lw_at lw_m7 213 rfl) rfl
theorem q1701 : (Jvm.Cond.static ({ cls := "DredgeledgerLaw", name := "survey", desc := "(LDredgeledger;IIIILDredgeledgerLaw$Out;)I" } : Jvm.MethodName)) ∈ lw_all := lw_g (lw_at lw_m7 214 rfl) rfl
theorem q1702 : (Jvm.Cond.codeWith ({ cls := "DredgeledgerLaw", name := "survey", desc := "(LDredgeledger;IIIILDredgeledgerLaw$Out;)I" } : Jvm.MethodName) method_14_code (7 : Nat) (Option.some Jvm.ClassFile.FieldType.int) [((0 : Nat), (15 : Nat), (18 : Nat), (26 : Nat)), ((0 : Nat), (15 : Nat), (22 : Nat), (19 : Nat)), ((0 : Nat), (15 : Nat), (26 : Nat), (21 : Nat))]) ∈ lw_all := lw_g (lw_at lw_m7 215 rfl) rfl
theorem q1703 : (Jvm.Cond.methodLink "DredgeledgerLaw" (62 : Nat) ({ cls := "Dredgeledger", name := "survey", desc := "(IIII)I" } : Jvm.MethodName)) ∈ lw_all := lw_g (lw_at lw_m7 216 rfl) rfl
theorem q1732 : (Jvm.Cond.methodLink "DredgeledgerLaw" (178 : Nat) ({ cls := "DredgeledgerLaw", name := "told", desc := "(LDredgeledger;IILDredgeledgerLaw$Out;)I" } : Jvm.MethodName)) ∈ lw_all := lw_g (lw_at lw_m8 5 rfl) rfl
theorem q1733 : (Jvm.Cond.static ({ cls := "DredgeledgerLaw", name := "told", desc := "(LDredgeledger;IILDredgeledgerLaw$Out;)I" } : Jvm.MethodName)) ∈ lw_all := lw_g (lw_at lw_m8 6 rfl) rfl
theorem q1734 : (Jvm.Cond.codeWith ({ cls := "DredgeledgerLaw", name := "told", desc := "(LDredgeledger;IILDredgeledgerLaw$Out;)I" } : Jvm.MethodName) method_15_code (5 : Nat) (Option.some Jvm.ClassFile.FieldType.int) [((0 : Nat), (11 : Nat), (14 : Nat), (26 : Nat)), ((0 : Nat), (11 : Nat), (18 : Nat), (68 : Nat))]) ∈ lw_all := lw_g (lw_at lw_m8 7 rfl) rfl
theorem q1735 : (Jvm.Cond.classLink "DredgeledgerLaw" (68 : Nat) "java/util/NoSuchElementException") ∈ lw_all := lw_g (lw_at lw_m8 8 rfl) rfl
theorem q1736 : (Jvm.Cond.methodLink "DredgeledgerLaw" (65 : Nat) ({ cls := "Dredgeledger", name := "told", desc := "(II)I" } : Jvm.MethodName)) ∈ lw_all := lw_g (lw_at lw_m8 9 rfl) rfl
theorem q1749 : (Jvm.Cond.methodLink "DredgeledgerLaw" (181 : Nat) ({ cls := "DredgeledgerLaw", name := "bed", desc := "(LDredgeledger;ILDredgeledgerLaw$Out;)I" } : Jvm.MethodName)) ∈ lw_all := lw_g (lw_at lw_m8 22 rfl) rfl
theorem q1750 : (Jvm.Cond.static ({ cls := "DredgeledgerLaw", name := "bed", desc := "(LDredgeledger;ILDredgeledgerLaw$Out;)I" } : Jvm.MethodName)) ∈ lw_all := lw_g (lw_at lw_m8 23 rfl) rfl
theorem q1751 : (Jvm.Cond.codeWith ({ cls := "DredgeledgerLaw", name := "bed", desc := "(LDredgeledger;ILDredgeledgerLaw$Out;)I" } : Jvm.MethodName) method_16_code (4 : Nat) (Option.some Jvm.ClassFile.FieldType.int) [((0 : Nat), (10 : Nat), (13 : Nat), (26 : Nat)), ((0 : Nat), (10 : Nat), (16 : Nat), (68 : Nat))]) ∈ lw_all := lw_g (lw_at lw_m8 24 rfl) rfl
theorem q1752 : (Jvm.Cond.methodLink "DredgeledgerLaw" (70 : Nat) ({ cls := "Dredgeledger", name := "bed", desc := "(I)I" } : Jvm.MethodName)) ∈ lw_all := lw_g (lw_at lw_m8 25 rfl) rfl
theorem q2004 : (Jvm.Cond.methodLink "DredgeledgerLaw" (184 : Nat) ({ cls := "DredgeledgerLaw", name := "between", desc := "(LDredgeledger;IILDredgeledgerLaw$Out;)I" } : Jvm.MethodName)) ∈ lw_all := lw_g (lw_at lw_m9 37 rfl) rfl
theorem q2005 : (Jvm.Cond.static ({ cls := "DredgeledgerLaw", name := "between", desc := "(LDredgeledger;IILDredgeledgerLaw$Out;)I" } : Jvm.MethodName)) ∈ lw_all := lw_g (lw_at lw_m9 38 rfl) rfl
theorem q2006 : (Jvm.Cond.codeWith ({ cls := "DredgeledgerLaw", name := "between", desc := "(LDredgeledger;IILDredgeledgerLaw$Out;)I" } : Jvm.MethodName) method_17_code (5 : Nat) (Option.some Jvm.ClassFile.FieldType.int) [((0 : Nat), (11 : Nat), (14 : Nat), (26 : Nat))]) ∈ lw_all := lw_g (lw_at lw_m9 39 rfl) rfl
theorem q2007 : (Jvm.Cond.methodLink "DredgeledgerLaw" (73 : Nat) ({ cls := "Dredgeledger", name := "between", desc := "(II)I" } : Jvm.MethodName)) ∈ lw_all := lw_g (lw_at lw_m9 40 rfl) rfl
theorem q2011 : (Jvm.Cond.methodLink "DredgeledgerLaw" (187 : Nat) ({ cls := "DredgeledgerLaw", name := "settle", desc := "(LDredgeledger;ILDredgeledgerLaw$Out;)I" } : Jvm.MethodName)) ∈ lw_all := lw_g (lw_at lw_m9 44 rfl) rfl
theorem q2012 : (Jvm.Cond.static ({ cls := "DredgeledgerLaw", name := "settle", desc := "(LDredgeledger;ILDredgeledgerLaw$Out;)I" } : Jvm.MethodName)) ∈ lw_all := lw_g (lw_at lw_m9 45 rfl) rfl
theorem q2013 : (Jvm.Cond.codeWith ({ cls := "DredgeledgerLaw", name := "settle", desc := "(LDredgeledger;ILDredgeledgerLaw$Out;)I" } : Jvm.MethodName) method_18_code (4 : Nat) (Option.some Jvm.ClassFile.FieldType.int) [((0 : Nat), (10 : Nat), (13 : Nat), (26 : Nat)), ((0 : Nat), (10 : Nat), (16 : Nat), (21 : Nat))]) ∈ lw_all := lw_g (lw_at lw_m9 46 rfl) rfl
theorem q2014 : (Jvm.Cond.methodLink "DredgeledgerLaw" (76 : Nat) ({ cls := "Dredgeledger", name := "settle", desc := "(I)I" } : Jvm.MethodName)) ∈ lw_all := lw_g (lw_at lw_m9 47 rfl) rfl
theorem q2029 : (Jvm.Cond.methodLink "DredgeledgerLaw" (190 : Nat) ({ cls := "DredgeledgerLaw", name := "setPrice", desc := "(LDredgeledger;ILDredgeledgerLaw$Out;)I" } : Jvm.MethodName)) ∈ lw_all := lw_g (lw_at lw_m9 62 rfl) rfl
theorem q2030 : (Jvm.Cond.static ({ cls := "DredgeledgerLaw", name := "setPrice", desc := "(LDredgeledger;ILDredgeledgerLaw$Out;)I" } : Jvm.MethodName)) ∈ lw_all := lw_g (lw_at lw_m9 63 rfl) rfl
theorem q2031 : (Jvm.Cond.codeWith ({ cls := "DredgeledgerLaw", name := "setPrice", desc := "(LDredgeledger;ILDredgeledgerLaw$Out;)I" } : Jvm.MethodName) method_19_code (4 : Nat) (Option.some Jvm.ClassFile.FieldType.int) [((0 : Nat), (10 : Nat), (13 : Nat), (19 : Nat))]) ∈ lw_all := lw_g (lw_at lw_m9 64 rfl) rfl
theorem q2032 : (Jvm.Cond.methodLink "DredgeledgerLaw" (79 : Nat) ({ cls := "Dredgeledger", name := "setPrice", desc := "(I)I" } : Jvm.MethodName)) ∈ lw_all := lw_g (lw_at lw_m9 65 rfl) rfl
theorem q2036 : (Jvm.Cond.methodLink "DredgeledgerLaw" (193 : Nat) ({ cls := "DredgeledgerLaw", name := "dispute", desc := "(LDredgeledger;ILDredgeledgerLaw$Out;)I" } : Jvm.MethodName)) ∈ lw_all := lw_g (lw_at lw_m9 69 rfl) rfl
theorem q2037 : (Jvm.Cond.static ({ cls := "DredgeledgerLaw", name := "dispute", desc := "(LDredgeledger;ILDredgeledgerLaw$Out;)I" } : Jvm.MethodName)) ∈ lw_all := lw_g (lw_at lw_m9 70 rfl) rfl
theorem q2038 : (Jvm.Cond.codeWith ({ cls := "DredgeledgerLaw", name := "dispute", desc := "(LDredgeledger;ILDredgeledgerLaw$Out;)I" } : Jvm.MethodName) method_20_code (4 : Nat) (Option.some Jvm.ClassFile.FieldType.int) [((0 : Nat), (10 : Nat), (13 : Nat), (26 : Nat)), ((0 : Nat), (10 : Nat), (16 : Nat), (21 : Nat))]) ∈ lw_all := lw_g (lw_at lw_m9 71 rfl) rfl
theorem q2039 : (Jvm.Cond.methodLink "DredgeledgerLaw" (82 : Nat) ({ cls := "Dredgeledger", name := "dispute", desc := "(I)I" } : Jvm.MethodName)) ∈ lw_all := lw_g (lw_at lw_m9 72 rfl) rfl
theorem q2090 : (Jvm.Cond.methodLink "DredgeledgerLaw" (196 : Nat) ({ cls := "DredgeledgerLaw", name := "resolve", desc := "(LDredgeledger;ILDredgeledgerLaw$Out;)I" } : Jvm.MethodName)) ∈ lw_all := lw_g (lw_at lw_m9 123 rfl) rfl
theorem q2091 : (Jvm.Cond.static ({ cls := "DredgeledgerLaw", name := "resolve", desc := "(LDredgeledger;ILDredgeledgerLaw$Out;)I" } : Jvm.MethodName)) ∈ lw_all := lw_g (lw_at lw_m9 124 rfl) rfl
theorem q2092 : (Jvm.Cond.codeWith ({ cls := "DredgeledgerLaw", name := "resolve", desc := "(LDredgeledger;ILDredgeledgerLaw$Out;)I" } : Jvm.MethodName) method_21_code (4 : Nat) (Option.some Jvm.ClassFile.FieldType.int) [((0 : Nat), (10 : Nat), (13 : Nat), (26 : Nat)), ((0 : Nat), (10 : Nat), (16 : Nat), (21 : Nat))]) ∈ lw_all := lw_g (lw_at lw_m9 125 rfl) rfl
theorem q2093 : (Jvm.Cond.methodLink "DredgeledgerLaw" (85 : Nat) ({ cls := "Dredgeledger", name := "resolve", desc := "(I)I" } : Jvm.MethodName)) ∈ lw_all := lw_g (lw_at lw_m9 126 rfl) rfl
theorem q2110 : (Jvm.Cond.methodLink "DredgeledgerLaw" (199 : Nat) ({ cls := "DredgeledgerLaw", name := "paidDepth", desc := "(LDredgeledger;ILDredgeledgerLaw$Out;)I" } : Jvm.MethodName)) ∈ lw_all := lw_g (lw_at lw_m9 143 rfl) rfl
theorem q2111 : (Jvm.Cond.static ({ cls := "DredgeledgerLaw", name := "paidDepth", desc := "(LDredgeledger;ILDredgeledgerLaw$Out;)I" } : Jvm.MethodName)) ∈ lw_all := lw_g (lw_at lw_m9 144 rfl) rfl
theorem q2112 : (Jvm.Cond.codeWith ({ cls := "DredgeledgerLaw", name := "paidDepth", desc := "(LDredgeledger;ILDredgeledgerLaw$Out;)I" } : Jvm.MethodName) method_22_code (4 : Nat) (Option.some Jvm.ClassFile.FieldType.int) [((0 : Nat), (10 : Nat), (13 : Nat), (26 : Nat))]) ∈ lw_all := lw_g (lw_at lw_m9 145 rfl) rfl
theorem q2113 : (Jvm.Cond.methodLink "DredgeledgerLaw" (88 : Nat) ({ cls := "Dredgeledger", name := "paidDepth", desc := "(I)I" } : Jvm.MethodName)) ∈ lw_all := lw_g (lw_at lw_m9 146 rfl) rfl
theorem q2117 : (Jvm.Cond.methodLink "DredgeledgerLaw" (223 : Nat) ({ cls := "DredgeledgerLaw", name := "entryAt", desc := "(LDredgeledger;ILDredgeledgerLaw$Out;)I" } : Jvm.MethodName)) ∈ lw_all := lw_g (lw_at lw_m9 150 rfl) rfl
theorem q2118 : (Jvm.Cond.static ({ cls := "DredgeledgerLaw", name := "entryAt", desc := "(LDredgeledger;ILDredgeledgerLaw$Out;)I" } : Jvm.MethodName)) ∈ lw_all := lw_g (lw_at lw_m9 151 rfl) rfl
theorem q2119 : (Jvm.Cond.codeWith ({ cls := "DredgeledgerLaw", name := "entryAt", desc := "(LDredgeledger;ILDredgeledgerLaw$Out;)I" } : Jvm.MethodName) method_23_code (4 : Nat) (Option.some Jvm.ClassFile.FieldType.int) [((0 : Nat), (9 : Nat), (12 : Nat), (26 : Nat))]) ∈ lw_all := lw_g (lw_at lw_m9 152 rfl) rfl
theorem q2120 : (Jvm.Cond.methodLink "DredgeledgerLaw" (91 : Nat) ({ cls := "Dredgeledger", name := "entryAt", desc := "(I)LEntry;" } : Jvm.MethodName)) ∈ lw_all := lw_g (lw_at lw_m9 153 rfl) rfl
theorem q2152 : (Jvm.Cond.methodLink "DredgeledgerLaw" (236 : Nat) ({ cls := "DredgeledgerLaw", name := "doneShare", desc := "(LDredgeledger;LDredgeledgerLaw$Out;)I" } : Jvm.MethodName)) ∈ lw_all := lw_g (lw_at lw_m9 185 rfl) rfl
theorem q2153 : (Jvm.Cond.static ({ cls := "DredgeledgerLaw", name := "doneShare", desc := "(LDredgeledger;LDredgeledgerLaw$Out;)I" } : Jvm.MethodName)) ∈ lw_all := lw_g (lw_at lw_m9 186 rfl) rfl
theorem q2154 : (Jvm.Cond.codeWith ({ cls := "DredgeledgerLaw", name := "doneShare", desc := "(LDredgeledger;LDredgeledgerLaw$Out;)I" } : Jvm.MethodName) method_24_code (3 : Nat) (Option.some Jvm.ClassFile.FieldType.int) [((0 : Nat), (9 : Nat), (12 : Nat), (107 : Nat))]) ∈ lw_all := lw_g (lw_at lw_m9 187 rfl) rfl
theorem q2155 : (Jvm.Cond.classLink "DredgeledgerLaw" (107 : Nat) "java/lang/ArithmeticException") ∈ lw_all := lw_g (lw_at lw_m9 188 rfl) rfl
theorem q2169 : (Jvm.Cond.methodLink "DredgeledgerLaw" (99 : Nat) ({ cls := "Dredgeledger", name := "doneShare", desc := "()F" } : Jvm.MethodName)) ∈ lw_all := lw_g (lw_at lw_m9 202 rfl) rfl
theorem q2181 : (Jvm.Cond.methodLink "DredgeledgerLaw" (240 : Nat) ({ cls := "DredgeledgerLaw", name := "meanDepth", desc := "(LDredgeledger;LDredgeledgerLaw$Out;)I" } : Jvm.MethodName)) ∈ lw_all := lw_g (lw_at lw_m9 214 rfl) rfl
theorem q2182 : (Jvm.Cond.static ({ cls := "DredgeledgerLaw", name := "meanDepth", desc := "(LDredgeledger;LDredgeledgerLaw$Out;)I" } : Jvm.MethodName)) ∈ lw_all := lw_g (lw_at lw_m9 215 rfl) rfl
theorem q2183 : (Jvm.Cond.codeWith ({ cls := "DredgeledgerLaw", name := "meanDepth", desc := "(LDredgeledger;LDredgeledgerLaw$Out;)I" } : Jvm.MethodName) method_25_code (3 : Nat) (Option.some Jvm.ClassFile.FieldType.int) [((0 : Nat), (8 : Nat), (11 : Nat), (107 : Nat))]) ∈ lw_all := lw_g (lw_at lw_m9 216 rfl) rfl
theorem q2184 : (Jvm.Cond.methodLink "DredgeledgerLaw" (109 : Nat) ({ cls := "Dredgeledger", name := "meanDepth", desc := "()D" } : Jvm.MethodName)) ∈ lw_all := lw_g (lw_at lw_m9 217 rfl) rfl
theorem q2188 : (Jvm.Cond.classLink "DredgeledgerLaw" (114 : Nat) "DredgeledgerModel") ∈ lw_all := lw_g (lw_at lw_m9 221 rfl) rfl
theorem q2190 : (Jvm.Cond.methodLink "DredgeledgerLaw" (116 : Nat) ({ cls := "DredgeledgerModel", name := "<init>", desc := "()V" } : Jvm.MethodName)) ∈ lw_all := lw_g (lw_at lw_m9 223 rfl) rfl
theorem q2303 : (Jvm.Cond.methodLink "DredgeledgerLaw" (124 : Nat) ({ cls := "DredgeledgerModel", name := "thrown", desc := "()I" } : Jvm.MethodName)) ∈ lw_all := lw_g (lw_at lw_m10 96 rfl) rfl
theorem q2307 : (Jvm.Cond.methodLink "DredgeledgerLaw" (123 : Nat) ({ cls := "DredgeledgerModel", name := "addCells", desc := "(II)I" } : Jvm.MethodName)) ∈ lw_all := lw_g (lw_at lw_m10 100 rfl) rfl
theorem q2318 : (Jvm.Cond.methodLink "DredgeledgerLaw" (130 : Nat) ({ cls := "DredgeledgerModel", name := "setLimit", desc := "(II)I" } : Jvm.MethodName)) ∈ lw_all := lw_g (lw_at lw_m10 111 rfl) rfl
theorem q2326 : (Jvm.Cond.methodLink "DredgeledgerLaw" (134 : Nat) ({ cls := "DredgeledgerModel", name := "setSlope", desc := "(I)I" } : Jvm.MethodName)) ∈ lw_all := lw_g (lw_at lw_m10 119 rfl) rfl
theorem q2330 : (Jvm.Cond.methodLink "DredgeledgerLaw" (137 : Nat) ({ cls := "DredgeledgerModel", name := "depth", desc := "(I)I" } : Jvm.MethodName)) ∈ lw_all := lw_g (lw_at lw_m10 123 rfl) rfl
theorem q2334 : (Jvm.Cond.methodLink "DredgeledgerLaw" (140 : Nat) ({ cls := "DredgeledgerModel", name := "dredge", desc := "(II)I" } : Jvm.MethodName)) ∈ lw_all := lw_g (lw_at lw_m10 127 rfl) rfl
theorem q2343 : (Jvm.Cond.methodLink "DredgeledgerLaw" (143 : Nat) ({ cls := "DredgeledgerModel", name := "pass", desc := "(I)I" } : Jvm.MethodName)) ∈ lw_all := lw_g (lw_at lw_m10 136 rfl) rfl
theorem q2359 : (Jvm.Cond.methodLink "DredgeledgerLaw" (147 : Nat) ({ cls := "DredgeledgerModel", name := "day", desc := "()I" } : Jvm.MethodName)) ∈ lw_all := lw_g (lw_at lw_m10 152 rfl) rfl
theorem q2363 : (Jvm.Cond.methodLink "DredgeledgerLaw" (150 : Nat) ({ cls := "DredgeledgerModel", name := "addGround", desc := "(II)I" } : Jvm.MethodName)) ∈ lw_all := lw_g (lw_at lw_m10 156 rfl) rfl
theorem q2367 : (Jvm.Cond.methodLink "DredgeledgerLaw" (153 : Nat) ({ cls := "DredgeledgerModel", name := "setTide", desc := "(I)I" } : Jvm.MethodName)) ∈ lw_all := lw_g (lw_at lw_m10 160 rfl) rfl
theorem q2371 : (Jvm.Cond.methodLink "DredgeledgerLaw" (157 : Nat) ({ cls := "DredgeledgerModel", name := "permit", desc := "(IIII)I" } : Jvm.MethodName)) ∈ lw_all := lw_g (lw_at lw_m10 164 rfl) rfl
theorem q2379 : (Jvm.Cond.methodLink "DredgeledgerLaw" (160 : Nat) ({ cls := "DredgeledgerModel", name := "permitted", desc := "(I)I" } : Jvm.MethodName)) ∈ lw_all := lw_g (lw_at lw_m10 172 rfl) rfl
theorem q2391 : (Jvm.Cond.methodLink "DredgeledgerLaw" (163 : Nat) ({ cls := "DredgeledgerModel", name := "dump", desc := "(II)I" } : Jvm.MethodName)) ∈ lw_all := lw_g (lw_at lw_m10 184 rfl) rfl
theorem q2400 : (Jvm.Cond.methodLink "DredgeledgerLaw" (167 : Nat) ({ cls := "DredgeledgerModel", name := "hopper", desc := "()I" } : Jvm.MethodName)) ∈ lw_all := lw_g (lw_at lw_m10 193 rfl) rfl
theorem q2404 : (Jvm.Cond.methodLink "DredgeledgerLaw" (170 : Nat) ({ cls := "DredgeledgerModel", name := "dumped", desc := "(I)I" } : Jvm.MethodName)) ∈ lw_all := lw_g (lw_at lw_m10 197 rfl) rfl
theorem q2408 : (Jvm.Cond.methodLink "DredgeledgerLaw" (174 : Nat) ({ cls := "DredgeledgerModel", name := "permits", desc := "()I" } : Jvm.MethodName)) ∈ lw_all := lw_g (lw_at lw_m10 201 rfl) rfl
theorem q2412 : (Jvm.Cond.methodLink "DredgeledgerLaw" (177 : Nat) ({ cls := "DredgeledgerModel", name := "survey", desc := "(IIII)I" } : Jvm.MethodName)) ∈ lw_all := lw_g (lw_at lw_m10 205 rfl) rfl
theorem q2417 : (Jvm.Cond.methodLink "DredgeledgerLaw" (180 : Nat) ({ cls := "DredgeledgerModel", name := "told", desc := "(II)I" } : Jvm.MethodName)) ∈ lw_all := lw_g (lw_at lw_m10 210 rfl) rfl
theorem q2429 : (Jvm.Cond.methodLink "DredgeledgerLaw" (183 : Nat) ({ cls := "DredgeledgerModel", name := "bed", desc := "(I)I" } : Jvm.MethodName)) ∈ lw_all := lw_g (lw_at lw_m10 222 rfl) rfl
theorem q2437 : (Jvm.Cond.methodLink "DredgeledgerLaw" (186 : Nat) ({ cls := "DredgeledgerModel", name := "between", desc := "(II)I" } : Jvm.MethodName)) ∈ lw_all := lw_g (lw_at lw_m10 230 rfl) rfl
theorem q2441 : (Jvm.Cond.methodLink "DredgeledgerLaw" (189 : Nat) ({ cls := "DredgeledgerModel", name := "settle", desc := "(I)I" } : Jvm.MethodName)) ∈ lw_all := lw_g (lw_at lw_m10 234 rfl) rfl
theorem q2446 : (Jvm.Cond.methodLink "DredgeledgerLaw" (192 : Nat) ({ cls := "DredgeledgerModel", name := "setPrice", desc := "(I)I" } : Jvm.MethodName)) ∈ lw_all := lw_g (lw_at lw_m10 239 rfl) rfl
theorem q2450 : (Jvm.Cond.methodLink "DredgeledgerLaw" (195 : Nat) ({ cls := "DredgeledgerModel", name := "dispute", desc := "(I)I" } : Jvm.MethodName)) ∈ lw_all := lw_g (lw_at lw_m11 3 rfl) rfl
theorem q2459 : (Jvm.Cond.methodLink "DredgeledgerLaw" (198 : Nat) ({ cls := "DredgeledgerModel", name := "resolve", desc := "(I)I" } : Jvm.MethodName)) ∈ lw_all := lw_g (lw_at lw_m11 12 rfl) rfl
theorem q2464 : (Jvm.Cond.methodLink "DredgeledgerLaw" (201 : Nat) ({ cls := "DredgeledgerModel", name := "paidDepth", desc := "(I)I" } : Jvm.MethodName)) ∈ lw_all := lw_g (lw_at lw_m11 17 rfl) rfl
theorem q2468 : (Jvm.Cond.methodLink "DredgeledgerLaw" (205 : Nat) ({ cls := "DredgeledgerModel", name := "paid", desc := "()I" } : Jvm.MethodName)) ∈ lw_all := lw_g (lw_at lw_m11 21 rfl) rfl
theorem q2472 : (Jvm.Cond.methodLink "DredgeledgerLaw" (209 : Nat) ({ cls := "DredgeledgerModel", name := "paidByCells", desc := "()I" } : Jvm.MethodName)) ∈ lw_all := lw_g (lw_at lw_m11 25 rfl) rfl
theorem q2476 : (Jvm.Cond.methodLink "DredgeledgerLaw" (214 : Nat) ({ cls := "DredgeledgerModel", name := "money", desc := "()J" } : Jvm.MethodName)) ∈ lw_all := lw_g (lw_at lw_m11 29 rfl) rfl
theorem q2480 : (Jvm.Cond.methodLink "DredgeledgerLaw" (218 : Nat) ({ cls := "DredgeledgerModel", name := "dredged", desc := "()I" } : Jvm.MethodName)) ∈ lw_all := lw_g (lw_at lw_m11 33 rfl) rfl
theorem q2484 : (Jvm.Cond.methodLink "DredgeledgerLaw" (222 : Nat) ({ cls := "DredgeledgerModel", name := "crept", desc := "()I" } : Jvm.MethodName)) ∈ lw_all := lw_g (lw_at lw_m11 37 rfl) rfl
theorem q2488 : (Jvm.Cond.methodLink "DredgeledgerLaw" (225 : Nat) ({ cls := "DredgeledgerModel", name := "entryAt", desc := "(I)LEntry;" } : Jvm.MethodName)) ∈ lw_all := lw_g (lw_at lw_m11 41 rfl) rfl
theorem q2494 : (Jvm.Cond.methodLink "DredgeledgerLaw" (239 : Nat) ({ cls := "DredgeledgerModel", name := "doneShare", desc := "()F" } : Jvm.MethodName)) ∈ lw_all := lw_g (lw_at lw_m11 47 rfl) rfl
theorem q2498 : (Jvm.Cond.methodLink "DredgeledgerLaw" (242 : Nat) ({ cls := "DredgeledgerModel", name := "meanDepth", desc := "()D" } : Jvm.MethodName)) ∈ lw_all := lw_g (lw_at lw_m11 51 rfl) rfl
theorem q2502 : (Jvm.Cond.methodLink "DredgeledgerLaw" (247 : Nat) ({ cls := "DredgeledgerModel", name := "report", desc := "()Ljava/lang/String;" } : Jvm.MethodName)) ∈ lw_all := lw_g (lw_at lw_m11 55 rfl) rfl
theorem q2511 : (Jvm.Cond.methodLink "DredgeledgerLaw" (258 : Nat) ({ cls := "DredgeledgerModel", name := "isBalanced", desc := "()Z" } : Jvm.MethodName)) ∈ lw_all := lw_g (lw_at lw_m11 64 rfl) rfl
theorem q2515 : (Jvm.Cond.methodLink "DredgeledgerLaw" (226 : Nat) ({ cls := "Entry", name := "deed", desc := "()LDeed;" } : Jvm.MethodName)) ∈ lw_all := lw_g (lw_at lw_m11 68 rfl) rfl
theorem q2519 : (Jvm.Cond.methodLink "DredgeledgerLaw" (232 : Nat) ({ cls := "Entry", name := "day", desc := "()I" } : Jvm.MethodName)) ∈ lw_all := lw_g (lw_at lw_m11 72 rfl) rfl
theorem q2523 : (Jvm.Cond.methodLink "DredgeledgerLaw" (233 : Nat) ({ cls := "Entry", name := "number", desc := "()I" } : Jvm.MethodName)) ∈ lw_all := lw_g (lw_at lw_m11 76 rfl) rfl
theorem q2527 : (Jvm.Cond.methodLink "DredgeledgerLaw" (248 : Nat) ({ cls := "java/lang/String", name := "equals", desc := "(Ljava/lang/Object;)Z" } : Jvm.MethodName)) ∈ lw_all := lw_g (lw_at lw_m11 80 rfl) rfl

/-! Dredgeledger -/
set_option maxRecDepth 100000
def RX1 : String := "Dredgeledger"
def TX1 : u_T := fun k => match k with
  | 0 => ("Dredgeledger", "depths", "[S", true)
  | 1 => ("Dredgeledger", "limits", "[S", true)
  | 2 => ("Dredgeledger", "paidDepths", "[S", true)
  | 3 => ("Dredgeledger", "added", "[S", true)
  | 4 => ("Dredgeledger", "disputed", "Ljava/util/BitSet;", true)
  | 5 => ("Dredgeledger", "grounds", "Ljava/util/ArrayList;", true)
  | 6 => ("Dredgeledger", "permits", "Ljava/util/LinkedList;", true)
  | 7 => ("Dredgeledger", "surveys", "Ljava/util/ArrayList;", true)
  | 8 => ("Dredgeledger", "events", "LDredgeledger$Chain;", true)
  | 9 => ("Dredgeledger", "log", "Ljava/util/ArrayDeque;", true)
  | 10 => ("Dredgeledger", "cells", "I", false)
  | 11 => ("Dredgeledger", "slope", "I", false)
  | 12 => ("Dredgeledger", "day", "I", false)
  | 13 => ("Dredgeledger", "tide", "I", false)
  | 14 => ("Dredgeledger", "hopper", "I", false)
  | 15 => ("Dredgeledger", "dredged", "I", false)
  | 16 => ("Dredgeledger", "crept", "I", false)
  | 17 => ("Dredgeledger", "paid", "I", false)
  | 18 => ("Dredgeledger", "price", "I", false)
  | 19 => ("Dredgeledger", "latestSettled", "I", false)
  | _ => ("Dredgeledger", "money", "J", false)
def tyX1 : Nat → FieldType := fun k => match k with
  | 0 => .array .short
  | 1 => .array .short
  | 2 => .array .short
  | 3 => .array .short
  | 4 => .object "java/util/BitSet"
  | 5 => .object "java/util/ArrayList"
  | 6 => .object "java/util/LinkedList"
  | 7 => .object "java/util/ArrayList"
  | 8 => .object "Dredgeledger$Chain"
  | 9 => .object "java/util/ArrayDeque"
  | 10 => .int
  | 11 => .int
  | 12 => .int
  | 13 => .int
  | 14 => .int
  | 15 => .int
  | 16 => .int
  | 17 => .int
  | 18 => .int
  | 19 => .int
  | _ => .long
abbrev wsX10 : List Cond := u_ws RX1 TX1 21
set_option maxRecDepth 100000 in
theorem nmX1 : ∀ a, a < 21 → ∀ b, b < 21 → a ≠ b → (TX1 a).2.1 ≠ (TX1 b).2.1 := by decide +kernel
set_option maxRecDepth 100000 in
theorem tyX1_ok : ∀ k, k < 21 → parseFieldDescriptor (TX1 k).2.2.1 = some (tyX1 k) := by decide +kernel
abbrev cX1_init : ByteArray := prog_2_method_1_code
def yX1_init : MethodName := ⟨RX1, "<init>", "()V"⟩
def dkwX1_init_5 : List UInt8 := [181, 0, 66, 42, 2, 181, 0, 69, 177]
abbrev dktX1_init_5 : List UInt8 := dkwX1_init_5 ++ []
def dkwX1_init_4 : List UInt8 := [181, 0, 51, 42, 187, 0, 55, 89, 183, 0, 57, 181, 0, 58, 42, 16, 10, 181, 0, 62, 42, 4]
abbrev dktX1_init_4 : List UInt8 := dkwX1_init_4 ++ dktX1_init_5
def dkwX1_init_3 : List UInt8 := [181, 0, 41, 42, 187, 0, 31, 89, 16, 12, 183, 0, 33, 181, 0, 45, 42, 187, 0, 48, 89, 183, 0, 50]
abbrev dktX1_init_3 : List UInt8 := dkwX1_init_3 ++ dktX1_init_4
def dkwX1_init_2 : List UInt8 := [181, 0, 27, 42, 187, 0, 31, 89, 6, 183, 0, 33, 181, 0, 34, 42, 187, 0, 38, 89, 183, 0, 40]
abbrev dktX1_init_2 : List UInt8 := dkwX1_init_2 ++ dktX1_init_3
def dkwX1_init_1 : List UInt8 := [188, 9, 181, 0, 16, 42, 16, 24, 188, 9, 181, 0, 19, 42, 187, 0, 22, 89, 16, 24, 183, 0, 24]
abbrev dktX1_init_1 : List UInt8 := dkwX1_init_1 ++ dktX1_init_2
def dkwX1_init_0 : List UInt8 := [42, 183, 0, 1, 42, 16, 24, 188, 9, 181, 0, 9, 42, 16, 24, 188, 9, 181, 0, 13, 42, 16, 24]
abbrev dktX1_init_0 : List UInt8 := dkwX1_init_0 ++ dktX1_init_1
theorem dksX1_init_0 : cX1_init.data.toList.drop 0 = dktX1_init_0 := by decide +kernel
theorem dksX1_init_1 : cX1_init.data.toList.drop 23 = dktX1_init_1 := dk_seg dksX1_init_0 23 rfl rfl
theorem dksX1_init_2 : cX1_init.data.toList.drop 46 = dktX1_init_2 := dk_seg dksX1_init_1 23 rfl rfl
theorem dksX1_init_3 : cX1_init.data.toList.drop 69 = dktX1_init_3 := dk_seg dksX1_init_2 23 rfl rfl
theorem dksX1_init_4 : cX1_init.data.toList.drop 93 = dktX1_init_4 := dk_seg dksX1_init_3 24 rfl rfl
theorem dksX1_init_5 : cX1_init.data.toList.drop 115 = dktX1_init_5 := dk_seg dksX1_init_4 22 rfl rfl
theorem dX1_init_0 : decode cX1_init 0 = .ok (.aload_n 0, 1) := dk_42 (dk_at dksX1_init_0 0 rfl rfl)
theorem dX1_init_1 : decode cX1_init 1 = .ok (.invokespecial 1, 3) := dk_183 0 1 (dk_at dksX1_init_0 1 rfl rfl)
theorem dX1_init_4 : decode cX1_init 4 = .ok (.aload_n 0, 1) := dk_42 (dk_at dksX1_init_0 4 rfl rfl)
theorem dX1_init_5 : decode cX1_init 5 = .ok (.bipush 24, 2) := dk_16 24 (dk_at dksX1_init_0 5 rfl rfl)
theorem dX1_init_7 : decode cX1_init 7 = .ok (.newarray .short, 2) := dk_188_9 (dk_at dksX1_init_0 7 rfl rfl)
theorem dX1_init_9 : decode cX1_init 9 = .ok (.putfield 9, 3) := dk_181 0 9 (dk_at dksX1_init_0 9 rfl rfl)
theorem dX1_init_12 : decode cX1_init 12 = .ok (.aload_n 0, 1) := dk_42 (dk_at dksX1_init_0 12 rfl rfl)
theorem dX1_init_13 : decode cX1_init 13 = .ok (.bipush 24, 2) := dk_16 24 (dk_at dksX1_init_0 13 rfl rfl)
theorem dX1_init_15 : decode cX1_init 15 = .ok (.newarray .short, 2) := dk_188_9 (dk_at dksX1_init_0 15 rfl rfl)
theorem dX1_init_17 : decode cX1_init 17 = .ok (.putfield 13, 3) := dk_181 0 13 (dk_at dksX1_init_0 17 rfl rfl)
theorem dX1_init_20 : decode cX1_init 20 = .ok (.aload_n 0, 1) := dk_42 (dk_at dksX1_init_0 20 rfl rfl)
theorem dX1_init_21 : decode cX1_init 21 = .ok (.bipush 24, 2) := dk_16 24 (dk_at dksX1_init_0 21 rfl rfl)
theorem dX1_init_23 : decode cX1_init 23 = .ok (.newarray .short, 2) := dk_188_9 (dk_at dksX1_init_1 0 rfl rfl)
theorem dX1_init_25 : decode cX1_init 25 = .ok (.putfield 16, 3) := dk_181 0 16 (dk_at dksX1_init_1 2 rfl rfl)
theorem dX1_init_28 : decode cX1_init 28 = .ok (.aload_n 0, 1) := dk_42 (dk_at dksX1_init_1 5 rfl rfl)
theorem dX1_init_29 : decode cX1_init 29 = .ok (.bipush 24, 2) := dk_16 24 (dk_at dksX1_init_1 6 rfl rfl)
theorem dX1_init_31 : decode cX1_init 31 = .ok (.newarray .short, 2) := dk_188_9 (dk_at dksX1_init_1 8 rfl rfl)
theorem dX1_init_33 : decode cX1_init 33 = .ok (.putfield 19, 3) := dk_181 0 19 (dk_at dksX1_init_1 10 rfl rfl)
theorem dX1_init_36 : decode cX1_init 36 = .ok (.aload_n 0, 1) := dk_42 (dk_at dksX1_init_1 13 rfl rfl)
theorem dX1_init_37 : decode cX1_init 37 = .ok (.new 22, 3) := dk_187 0 22 (dk_at dksX1_init_1 14 rfl rfl)
theorem dX1_init_40 : decode cX1_init 40 = .ok (.dup, 1) := dk_89 (dk_at dksX1_init_1 17 rfl rfl)
theorem dX1_init_41 : decode cX1_init 41 = .ok (.bipush 24, 2) := dk_16 24 (dk_at dksX1_init_1 18 rfl rfl)
theorem dX1_init_43 : decode cX1_init 43 = .ok (.invokespecial 24, 3) := dk_183 0 24 (dk_at dksX1_init_1 20 rfl rfl)
theorem dX1_init_46 : decode cX1_init 46 = .ok (.putfield 27, 3) := dk_181 0 27 (dk_at dksX1_init_2 0 rfl rfl)
theorem dX1_init_49 : decode cX1_init 49 = .ok (.aload_n 0, 1) := dk_42 (dk_at dksX1_init_2 3 rfl rfl)
theorem dX1_init_50 : decode cX1_init 50 = .ok (.new 31, 3) := dk_187 0 31 (dk_at dksX1_init_2 4 rfl rfl)
theorem dX1_init_53 : decode cX1_init 53 = .ok (.dup, 1) := dk_89 (dk_at dksX1_init_2 7 rfl rfl)
theorem dX1_init_54 : decode cX1_init 54 = .ok (.iconst 3, 1) := dk_6 (dk_at dksX1_init_2 8 rfl rfl)
theorem dX1_init_55 : decode cX1_init 55 = .ok (.invokespecial 33, 3) := dk_183 0 33 (dk_at dksX1_init_2 9 rfl rfl)
theorem dX1_init_58 : decode cX1_init 58 = .ok (.putfield 34, 3) := dk_181 0 34 (dk_at dksX1_init_2 12 rfl rfl)
theorem dX1_init_61 : decode cX1_init 61 = .ok (.aload_n 0, 1) := dk_42 (dk_at dksX1_init_2 15 rfl rfl)
theorem dX1_init_62 : decode cX1_init 62 = .ok (.new 38, 3) := dk_187 0 38 (dk_at dksX1_init_2 16 rfl rfl)
theorem dX1_init_65 : decode cX1_init 65 = .ok (.dup, 1) := dk_89 (dk_at dksX1_init_2 19 rfl rfl)
theorem dX1_init_66 : decode cX1_init 66 = .ok (.invokespecial 40, 3) := dk_183 0 40 (dk_at dksX1_init_2 20 rfl rfl)
theorem dX1_init_69 : decode cX1_init 69 = .ok (.putfield 41, 3) := dk_181 0 41 (dk_at dksX1_init_3 0 rfl rfl)
theorem dX1_init_72 : decode cX1_init 72 = .ok (.aload_n 0, 1) := dk_42 (dk_at dksX1_init_3 3 rfl rfl)
theorem dX1_init_73 : decode cX1_init 73 = .ok (.new 31, 3) := dk_187 0 31 (dk_at dksX1_init_3 4 rfl rfl)
theorem dX1_init_76 : decode cX1_init 76 = .ok (.dup, 1) := dk_89 (dk_at dksX1_init_3 7 rfl rfl)
theorem dX1_init_77 : decode cX1_init 77 = .ok (.bipush 12, 2) := dk_16 12 (dk_at dksX1_init_3 8 rfl rfl)
theorem dX1_init_79 : decode cX1_init 79 = .ok (.invokespecial 33, 3) := dk_183 0 33 (dk_at dksX1_init_3 10 rfl rfl)
theorem dX1_init_82 : decode cX1_init 82 = .ok (.putfield 45, 3) := dk_181 0 45 (dk_at dksX1_init_3 13 rfl rfl)
theorem dX1_init_85 : decode cX1_init 85 = .ok (.aload_n 0, 1) := dk_42 (dk_at dksX1_init_3 16 rfl rfl)
theorem dX1_init_86 : decode cX1_init 86 = .ok (.new 48, 3) := dk_187 0 48 (dk_at dksX1_init_3 17 rfl rfl)
theorem dX1_init_89 : decode cX1_init 89 = .ok (.dup, 1) := dk_89 (dk_at dksX1_init_3 20 rfl rfl)
theorem dX1_init_90 : decode cX1_init 90 = .ok (.invokespecial 50, 3) := dk_183 0 50 (dk_at dksX1_init_3 21 rfl rfl)
theorem dX1_init_93 : decode cX1_init 93 = .ok (.putfield 51, 3) := dk_181 0 51 (dk_at dksX1_init_4 0 rfl rfl)
theorem dX1_init_96 : decode cX1_init 96 = .ok (.aload_n 0, 1) := dk_42 (dk_at dksX1_init_4 3 rfl rfl)
theorem dX1_init_97 : decode cX1_init 97 = .ok (.new 55, 3) := dk_187 0 55 (dk_at dksX1_init_4 4 rfl rfl)
theorem dX1_init_100 : decode cX1_init 100 = .ok (.dup, 1) := dk_89 (dk_at dksX1_init_4 7 rfl rfl)
theorem dX1_init_101 : decode cX1_init 101 = .ok (.invokespecial 57, 3) := dk_183 0 57 (dk_at dksX1_init_4 8 rfl rfl)
theorem dX1_init_104 : decode cX1_init 104 = .ok (.putfield 58, 3) := dk_181 0 58 (dk_at dksX1_init_4 11 rfl rfl)
theorem dX1_init_107 : decode cX1_init 107 = .ok (.aload_n 0, 1) := dk_42 (dk_at dksX1_init_4 14 rfl rfl)
theorem dX1_init_108 : decode cX1_init 108 = .ok (.bipush 10, 2) := dk_16 10 (dk_at dksX1_init_4 15 rfl rfl)
theorem dX1_init_110 : decode cX1_init 110 = .ok (.putfield 62, 3) := dk_181 0 62 (dk_at dksX1_init_4 17 rfl rfl)
theorem dX1_init_113 : decode cX1_init 113 = .ok (.aload_n 0, 1) := dk_42 (dk_at dksX1_init_4 20 rfl rfl)
theorem dX1_init_114 : decode cX1_init 114 = .ok (.iconst 1, 1) := dk_4 (dk_at dksX1_init_4 21 rfl rfl)
theorem dX1_init_115 : decode cX1_init 115 = .ok (.putfield 66, 3) := dk_181 0 66 (dk_at dksX1_init_5 0 rfl rfl)
theorem dX1_init_118 : decode cX1_init 118 = .ok (.aload_n 0, 1) := dk_42 (dk_at dksX1_init_5 3 rfl rfl)
theorem dX1_init_119 : decode cX1_init 119 = .ok (.iconst (-1), 1) := dk_2 (dk_at dksX1_init_5 4 rfl rfl)
theorem dX1_init_120 : decode cX1_init 120 = .ok (.putfield 69, 3) := dk_181 0 69 (dk_at dksX1_init_5 5 rfl rfl)
theorem dX1_init_123 : decode cX1_init 123 = .ok (.return_, 1) := dk_177 (dk_at dksX1_init_5 8 rfl rfl)
abbrev cX1_day : ByteArray := prog_2_method_20_code
def yX1_day : MethodName := ⟨RX1, "day", "()I"⟩
theorem dX1_day_0 : decode cX1_day 0 = .ok (.aload_n 0, 1) := by decide +kernel
theorem dX1_day_1 : decode cX1_day 1 = .ok (.getfield 103, 3) := by decide +kernel
theorem dX1_day_4 : decode cX1_day 4 = .ok (.ireturn, 1) := by decide +kernel
abbrev cX1_hopper : ByteArray := prog_2_method_30_code
def yX1_hopper : MethodName := ⟨RX1, "hopper", "()I"⟩
theorem dX1_hopper_0 : decode cX1_hopper 0 = .ok (.aload_n 0, 1) := by decide +kernel
theorem dX1_hopper_1 : decode cX1_hopper 1 = .ok (.getfield 138, 3) := by decide +kernel
theorem dX1_hopper_4 : decode cX1_hopper 4 = .ok (.ireturn, 1) := by decide +kernel
abbrev cX1_permits : ByteArray := prog_2_method_32_code
def yX1_permits : MethodName := ⟨RX1, "permits", "()I"⟩
def dkwX1_permits_0 : List UInt8 := [42, 180, 0, 41, 182, 0, 219, 172]
abbrev dktX1_permits_0 : List UInt8 := dkwX1_permits_0 ++ []
theorem dksX1_permits_0 : cX1_permits.data.toList.drop 0 = dktX1_permits_0 := by decide +kernel
theorem dX1_permits_0 : decode cX1_permits 0 = .ok (.aload_n 0, 1) := dk_42 (dk_at dksX1_permits_0 0 rfl rfl)
theorem dX1_permits_1 : decode cX1_permits 1 = .ok (.getfield 41, 3) := dk_180 0 41 (dk_at dksX1_permits_0 1 rfl rfl)
theorem dX1_permits_4 : decode cX1_permits 4 = .ok (.invokevirtual 219, 3) := dk_182 0 219 (dk_at dksX1_permits_0 4 rfl rfl)
theorem dX1_permits_7 : decode cX1_permits 7 = .ok (.ireturn, 1) := dk_172 (dk_at dksX1_permits_0 7 rfl rfl)
abbrev cX1_paid : ByteArray := prog_2_method_45_code
def yX1_paid : MethodName := ⟨RX1, "paid", "()I"⟩
theorem dX1_paid_0 : decode cX1_paid 0 = .ok (.aload_n 0, 1) := by decide +kernel
theorem dX1_paid_1 : decode cX1_paid 1 = .ok (.getfield 312, 3) := by decide +kernel
theorem dX1_paid_4 : decode cX1_paid 4 = .ok (.ireturn, 1) := by decide +kernel
abbrev cX1_paidByCells : ByteArray := prog_2_method_47_code
def yX1_paidByCells : MethodName := ⟨RX1, "paidByCells", "()I"⟩
def dkwX1_paidByCells_1 : List UInt8 := [167, 255, 237, 27, 172]
abbrev dktX1_paidByCells_1 : List UInt8 := dkwX1_paidByCells_1 ++ []
def dkwX1_paidByCells_0 : List UInt8 := [3, 60, 3, 61, 28, 42, 180, 0, 94, 162, 0, 17, 27, 42, 28, 182, 1, 121, 96, 60, 132, 2, 1]
abbrev dktX1_paidByCells_0 : List UInt8 := dkwX1_paidByCells_0 ++ dktX1_paidByCells_1
theorem dksX1_paidByCells_0 : cX1_paidByCells.data.toList.drop 0 = dktX1_paidByCells_0 := by decide +kernel
theorem dksX1_paidByCells_1 : cX1_paidByCells.data.toList.drop 23 = dktX1_paidByCells_1 := dk_seg dksX1_paidByCells_0 23 rfl rfl
theorem dX1_paidByCells_0 : decode cX1_paidByCells 0 = .ok (.iconst 0, 1) := dk_3 (dk_at dksX1_paidByCells_0 0 rfl rfl)
theorem dX1_paidByCells_1 : decode cX1_paidByCells 1 = .ok (.istore_n 1, 1) := dk_60 (dk_at dksX1_paidByCells_0 1 rfl rfl)
theorem dX1_paidByCells_2 : decode cX1_paidByCells 2 = .ok (.iconst 0, 1) := dk_3 (dk_at dksX1_paidByCells_0 2 rfl rfl)
theorem dX1_paidByCells_3 : decode cX1_paidByCells 3 = .ok (.istore_n 2, 1) := dk_61 (dk_at dksX1_paidByCells_0 3 rfl rfl)
theorem dX1_paidByCells_4 : decode cX1_paidByCells 4 = .ok (.iload_n 2, 1) := dk_28 (dk_at dksX1_paidByCells_0 4 rfl rfl)
theorem dX1_paidByCells_5 : decode cX1_paidByCells 5 = .ok (.aload_n 0, 1) := dk_42 (dk_at dksX1_paidByCells_0 5 rfl rfl)
theorem dX1_paidByCells_6 : decode cX1_paidByCells 6 = .ok (.getfield 94, 3) := dk_180 0 94 (dk_at dksX1_paidByCells_0 6 rfl rfl)
theorem dX1_paidByCells_9 : decode cX1_paidByCells 9 = .ok (.if_icmp .ge 17, 3) := dk_162 0 17 (dk_at dksX1_paidByCells_0 9 rfl rfl)
theorem dX1_paidByCells_12 : decode cX1_paidByCells 12 = .ok (.iload_n 1, 1) := dk_27 (dk_at dksX1_paidByCells_0 12 rfl rfl)
theorem dX1_paidByCells_13 : decode cX1_paidByCells 13 = .ok (.aload_n 0, 1) := dk_42 (dk_at dksX1_paidByCells_0 13 rfl rfl)
theorem dX1_paidByCells_14 : decode cX1_paidByCells 14 = .ok (.iload_n 2, 1) := dk_28 (dk_at dksX1_paidByCells_0 14 rfl rfl)
theorem dX1_paidByCells_15 : decode cX1_paidByCells 15 = .ok (.invokevirtual 377, 3) := dk_182 1 121 (dk_at dksX1_paidByCells_0 15 rfl rfl)
theorem dX1_paidByCells_18 : decode cX1_paidByCells 18 = .ok (.iadd, 1) := dk_96 (dk_at dksX1_paidByCells_0 18 rfl rfl)
theorem dX1_paidByCells_19 : decode cX1_paidByCells 19 = .ok (.istore_n 1, 1) := dk_60 (dk_at dksX1_paidByCells_0 19 rfl rfl)
theorem dX1_paidByCells_20 : decode cX1_paidByCells 20 = .ok (.iinc 2 1, 3) := dk_132 2 1 (dk_at dksX1_paidByCells_0 20 rfl rfl)
theorem dX1_paidByCells_23 : decode cX1_paidByCells 23 = .ok (.goto (-19), 3) := dk_167 255 237 (dk_at dksX1_paidByCells_1 0 rfl rfl)
theorem dX1_paidByCells_26 : decode cX1_paidByCells 26 = .ok (.iload_n 1, 1) := dk_27 (dk_at dksX1_paidByCells_1 3 rfl rfl)
theorem dX1_paidByCells_27 : decode cX1_paidByCells 27 = .ok (.ireturn, 1) := dk_172 (dk_at dksX1_paidByCells_1 4 rfl rfl)
abbrev cX1_paidFor : ByteArray := prog_2_method_46_code
def yX1_paidFor : MethodName := ⟨RX1, "paidFor", "(I)I"⟩
def dkwX1_paidFor_7 : List UInt8 := [184, 0, 216, 62, 167, 255, 114, 29, 42, 180, 0, 19, 27, 53, 100, 172]
abbrev dktX1_paidFor_7 : List UInt8 := dkwX1_paidFor_7 ++ []
def dkwX1_paidFor_6 : List UInt8 := [153, 0, 26, 21, 4, 154, 0, 21, 29, 28, 25, 9, 182, 1, 117, 27, 182, 1, 16, 184, 0, 247]
abbrev dktX1_paidFor_6 : List UInt8 := dkwX1_paidFor_6 ++ dktX1_paidFor_7
def dkwX1_paidFor_5 : List UInt8 := [193, 1, 63, 153, 0, 45, 25, 6, 192, 1, 63, 58, 9, 25, 9, 182, 1, 117, 27, 182, 1, 9]
abbrev dktX1_paidFor_5 : List UInt8 := dkwX1_paidFor_5 ++ dktX1_paidFor_6
def dkwX1_paidFor_4 : List UInt8 := [182, 1, 109, 27, 160, 0, 16, 25, 8, 182, 1, 110, 182, 1, 114, 54, 4, 167, 0, 53, 25, 6]
abbrev dktX1_paidFor_4 : List UInt8 := dkwX1_paidFor_4 ++ dktX1_paidFor_5
def dkwX1_paidFor_3 : List UInt8 := [182, 1, 106, 61, 167, 0, 90, 25, 6, 193, 1, 74, 153, 0, 32, 25, 6, 192, 1, 74, 58, 8, 25, 8]
abbrev dktX1_paidFor_3 : List UInt8 := dkwX1_paidFor_3 ++ dktX1_paidFor_4
def dkwX1_paidFor_2 : List UInt8 := [193, 0, 131, 153, 0, 28, 25, 6, 192, 0, 131, 58, 7, 25, 7, 182, 1, 103, 27, 160, 0, 12, 25, 7]
abbrev dktX1_paidFor_2 : List UInt8 := dkwX1_paidFor_2 ++ dktX1_paidFor_3
def dkwX1_paidFor_1 : List UInt8 := [185, 0, 184, 1, 0, 153, 0, 138, 25, 5, 185, 0, 190, 1, 0, 192, 1, 101, 58, 6, 25, 6]
abbrev dktX1_paidFor_1 : List UInt8 := dkwX1_paidFor_1 ++ dktX1_paidFor_2
def dkwX1_paidFor_0 : List UInt8 := [16, 100, 61, 42, 180, 0, 19, 27, 53, 62, 3, 54, 4, 42, 180, 0, 51, 182, 1, 100, 58, 5, 25, 5]
abbrev dktX1_paidFor_0 : List UInt8 := dkwX1_paidFor_0 ++ dktX1_paidFor_1
theorem dksX1_paidFor_0 : cX1_paidFor.data.toList.drop 0 = dktX1_paidFor_0 := by decide +kernel
theorem dksX1_paidFor_1 : cX1_paidFor.data.toList.drop 24 = dktX1_paidFor_1 := dk_seg dksX1_paidFor_0 24 rfl rfl
theorem dksX1_paidFor_2 : cX1_paidFor.data.toList.drop 46 = dktX1_paidFor_2 := dk_seg dksX1_paidFor_1 22 rfl rfl
theorem dksX1_paidFor_3 : cX1_paidFor.data.toList.drop 70 = dktX1_paidFor_3 := dk_seg dksX1_paidFor_2 24 rfl rfl
theorem dksX1_paidFor_4 : cX1_paidFor.data.toList.drop 94 = dktX1_paidFor_4 := dk_seg dksX1_paidFor_3 24 rfl rfl
theorem dksX1_paidFor_5 : cX1_paidFor.data.toList.drop 116 = dktX1_paidFor_5 := dk_seg dksX1_paidFor_4 22 rfl rfl
theorem dksX1_paidFor_6 : cX1_paidFor.data.toList.drop 138 = dktX1_paidFor_6 := dk_seg dksX1_paidFor_5 22 rfl rfl
theorem dksX1_paidFor_7 : cX1_paidFor.data.toList.drop 160 = dktX1_paidFor_7 := dk_seg dksX1_paidFor_6 22 rfl rfl
theorem dX1_paidFor_0 : decode cX1_paidFor 0 = .ok (.bipush 100, 2) := dk_16 100 (dk_at dksX1_paidFor_0 0 rfl rfl)
theorem dX1_paidFor_2 : decode cX1_paidFor 2 = .ok (.istore_n 2, 1) := dk_61 (dk_at dksX1_paidFor_0 2 rfl rfl)
theorem dX1_paidFor_3 : decode cX1_paidFor 3 = .ok (.aload_n 0, 1) := dk_42 (dk_at dksX1_paidFor_0 3 rfl rfl)
theorem dX1_paidFor_4 : decode cX1_paidFor 4 = .ok (.getfield 19, 3) := dk_180 0 19 (dk_at dksX1_paidFor_0 4 rfl rfl)
theorem dX1_paidFor_7 : decode cX1_paidFor 7 = .ok (.iload_n 1, 1) := dk_27 (dk_at dksX1_paidFor_0 7 rfl rfl)
theorem dX1_paidFor_8 : decode cX1_paidFor 8 = .ok (.saload, 1) := dk_53 (dk_at dksX1_paidFor_0 8 rfl rfl)
theorem dX1_paidFor_9 : decode cX1_paidFor 9 = .ok (.istore_n 3, 1) := dk_62 (dk_at dksX1_paidFor_0 9 rfl rfl)
theorem dX1_paidFor_10 : decode cX1_paidFor 10 = .ok (.iconst 0, 1) := dk_3 (dk_at dksX1_paidFor_0 10 rfl rfl)
theorem dX1_paidFor_11 : decode cX1_paidFor 11 = .ok (.istore 4, 2) := dk_54 4 (dk_at dksX1_paidFor_0 11 rfl rfl)
theorem dX1_paidFor_13 : decode cX1_paidFor 13 = .ok (.aload_n 0, 1) := dk_42 (dk_at dksX1_paidFor_0 13 rfl rfl)
theorem dX1_paidFor_14 : decode cX1_paidFor 14 = .ok (.getfield 51, 3) := dk_180 0 51 (dk_at dksX1_paidFor_0 14 rfl rfl)
theorem dX1_paidFor_17 : decode cX1_paidFor 17 = .ok (.invokevirtual 356, 3) := dk_182 1 100 (dk_at dksX1_paidFor_0 17 rfl rfl)
theorem dX1_paidFor_20 : decode cX1_paidFor 20 = .ok (.astore 5, 2) := dk_58 5 (dk_at dksX1_paidFor_0 20 rfl rfl)
theorem dX1_paidFor_22 : decode cX1_paidFor 22 = .ok (.aload 5, 2) := dk_25 5 (dk_at dksX1_paidFor_0 22 rfl rfl)
theorem dX1_paidFor_24 : decode cX1_paidFor 24 = .ok (.invokeinterface 184 1, 5) := by decide +kernel
theorem dX1_paidFor_29 : decode cX1_paidFor 29 = .ok (.ifCond .eq 138, 3) := dk_153 0 138 (dk_at dksX1_paidFor_1 5 rfl rfl)
theorem dX1_paidFor_32 : decode cX1_paidFor 32 = .ok (.aload 5, 2) := dk_25 5 (dk_at dksX1_paidFor_1 8 rfl rfl)
theorem dX1_paidFor_34 : decode cX1_paidFor 34 = .ok (.invokeinterface 190 1, 5) := by decide +kernel
theorem dX1_paidFor_39 : decode cX1_paidFor 39 = .ok (.checkcast 357, 3) := dk_192 1 101 (dk_at dksX1_paidFor_1 15 rfl rfl)
theorem dX1_paidFor_42 : decode cX1_paidFor 42 = .ok (.astore 6, 2) := dk_58 6 (dk_at dksX1_paidFor_1 18 rfl rfl)
theorem dX1_paidFor_44 : decode cX1_paidFor 44 = .ok (.aload 6, 2) := dk_25 6 (dk_at dksX1_paidFor_1 20 rfl rfl)
theorem dX1_paidFor_46 : decode cX1_paidFor 46 = .ok (.instanceof 131, 3) := dk_193 0 131 (dk_at dksX1_paidFor_2 0 rfl rfl)
theorem dX1_paidFor_49 : decode cX1_paidFor 49 = .ok (.ifCond .eq 28, 3) := dk_153 0 28 (dk_at dksX1_paidFor_2 3 rfl rfl)
theorem dX1_paidFor_52 : decode cX1_paidFor 52 = .ok (.aload 6, 2) := dk_25 6 (dk_at dksX1_paidFor_2 6 rfl rfl)
theorem dX1_paidFor_54 : decode cX1_paidFor 54 = .ok (.checkcast 131, 3) := dk_192 0 131 (dk_at dksX1_paidFor_2 8 rfl rfl)
theorem dX1_paidFor_57 : decode cX1_paidFor 57 = .ok (.astore 7, 2) := dk_58 7 (dk_at dksX1_paidFor_2 11 rfl rfl)
theorem dX1_paidFor_59 : decode cX1_paidFor 59 = .ok (.aload 7, 2) := dk_25 7 (dk_at dksX1_paidFor_2 13 rfl rfl)
theorem dX1_paidFor_61 : decode cX1_paidFor 61 = .ok (.invokevirtual 359, 3) := dk_182 1 103 (dk_at dksX1_paidFor_2 15 rfl rfl)
theorem dX1_paidFor_64 : decode cX1_paidFor 64 = .ok (.iload_n 1, 1) := dk_27 (dk_at dksX1_paidFor_2 18 rfl rfl)
theorem dX1_paidFor_65 : decode cX1_paidFor 65 = .ok (.if_icmp .ne 12, 3) := dk_160 0 12 (dk_at dksX1_paidFor_2 19 rfl rfl)
theorem dX1_paidFor_68 : decode cX1_paidFor 68 = .ok (.aload 7, 2) := dk_25 7 (dk_at dksX1_paidFor_2 22 rfl rfl)
theorem dX1_paidFor_70 : decode cX1_paidFor 70 = .ok (.invokevirtual 362, 3) := dk_182 1 106 (dk_at dksX1_paidFor_3 0 rfl rfl)
theorem dX1_paidFor_73 : decode cX1_paidFor 73 = .ok (.istore_n 2, 1) := dk_61 (dk_at dksX1_paidFor_3 3 rfl rfl)
theorem dX1_paidFor_74 : decode cX1_paidFor 74 = .ok (.goto 90, 3) := dk_167 0 90 (dk_at dksX1_paidFor_3 4 rfl rfl)
theorem dX1_paidFor_77 : decode cX1_paidFor 77 = .ok (.aload 6, 2) := dk_25 6 (dk_at dksX1_paidFor_3 7 rfl rfl)
theorem dX1_paidFor_79 : decode cX1_paidFor 79 = .ok (.instanceof 330, 3) := dk_193 1 74 (dk_at dksX1_paidFor_3 9 rfl rfl)
theorem dX1_paidFor_82 : decode cX1_paidFor 82 = .ok (.ifCond .eq 32, 3) := dk_153 0 32 (dk_at dksX1_paidFor_3 12 rfl rfl)
theorem dX1_paidFor_85 : decode cX1_paidFor 85 = .ok (.aload 6, 2) := dk_25 6 (dk_at dksX1_paidFor_3 15 rfl rfl)
theorem dX1_paidFor_87 : decode cX1_paidFor 87 = .ok (.checkcast 330, 3) := dk_192 1 74 (dk_at dksX1_paidFor_3 17 rfl rfl)
theorem dX1_paidFor_90 : decode cX1_paidFor 90 = .ok (.astore 8, 2) := dk_58 8 (dk_at dksX1_paidFor_3 20 rfl rfl)
theorem dX1_paidFor_92 : decode cX1_paidFor 92 = .ok (.aload 8, 2) := dk_25 8 (dk_at dksX1_paidFor_3 22 rfl rfl)
theorem dX1_paidFor_94 : decode cX1_paidFor 94 = .ok (.invokevirtual 365, 3) := dk_182 1 109 (dk_at dksX1_paidFor_4 0 rfl rfl)
theorem dX1_paidFor_97 : decode cX1_paidFor 97 = .ok (.iload_n 1, 1) := dk_27 (dk_at dksX1_paidFor_4 3 rfl rfl)
theorem dX1_paidFor_98 : decode cX1_paidFor 98 = .ok (.if_icmp .ne 16, 3) := dk_160 0 16 (dk_at dksX1_paidFor_4 4 rfl rfl)
theorem dX1_paidFor_101 : decode cX1_paidFor 101 = .ok (.aload 8, 2) := dk_25 8 (dk_at dksX1_paidFor_4 7 rfl rfl)
theorem dX1_paidFor_103 : decode cX1_paidFor 103 = .ok (.invokevirtual 366, 3) := dk_182 1 110 (dk_at dksX1_paidFor_4 9 rfl rfl)
theorem dX1_paidFor_106 : decode cX1_paidFor 106 = .ok (.invokevirtual 370, 3) := dk_182 1 114 (dk_at dksX1_paidFor_4 12 rfl rfl)
theorem dX1_paidFor_109 : decode cX1_paidFor 109 = .ok (.istore 4, 2) := dk_54 4 (dk_at dksX1_paidFor_4 15 rfl rfl)
theorem dX1_paidFor_111 : decode cX1_paidFor 111 = .ok (.goto 53, 3) := dk_167 0 53 (dk_at dksX1_paidFor_4 17 rfl rfl)
theorem dX1_paidFor_114 : decode cX1_paidFor 114 = .ok (.aload 6, 2) := dk_25 6 (dk_at dksX1_paidFor_4 20 rfl rfl)
theorem dX1_paidFor_116 : decode cX1_paidFor 116 = .ok (.instanceof 319, 3) := dk_193 1 63 (dk_at dksX1_paidFor_5 0 rfl rfl)
theorem dX1_paidFor_119 : decode cX1_paidFor 119 = .ok (.ifCond .eq 45, 3) := dk_153 0 45 (dk_at dksX1_paidFor_5 3 rfl rfl)
theorem dX1_paidFor_122 : decode cX1_paidFor 122 = .ok (.aload 6, 2) := dk_25 6 (dk_at dksX1_paidFor_5 6 rfl rfl)
theorem dX1_paidFor_124 : decode cX1_paidFor 124 = .ok (.checkcast 319, 3) := dk_192 1 63 (dk_at dksX1_paidFor_5 8 rfl rfl)
theorem dX1_paidFor_127 : decode cX1_paidFor 127 = .ok (.astore 9, 2) := dk_58 9 (dk_at dksX1_paidFor_5 11 rfl rfl)
theorem dX1_paidFor_129 : decode cX1_paidFor 129 = .ok (.aload 9, 2) := dk_25 9 (dk_at dksX1_paidFor_5 13 rfl rfl)
theorem dX1_paidFor_131 : decode cX1_paidFor 131 = .ok (.invokevirtual 373, 3) := dk_182 1 117 (dk_at dksX1_paidFor_5 15 rfl rfl)
theorem dX1_paidFor_134 : decode cX1_paidFor 134 = .ok (.iload_n 1, 1) := dk_27 (dk_at dksX1_paidFor_5 18 rfl rfl)
theorem dX1_paidFor_135 : decode cX1_paidFor 135 = .ok (.invokevirtual 265, 3) := dk_182 1 9 (dk_at dksX1_paidFor_5 19 rfl rfl)
theorem dX1_paidFor_138 : decode cX1_paidFor 138 = .ok (.ifCond .eq 26, 3) := dk_153 0 26 (dk_at dksX1_paidFor_6 0 rfl rfl)
theorem dX1_paidFor_141 : decode cX1_paidFor 141 = .ok (.iload 4, 2) := dk_21 4 (dk_at dksX1_paidFor_6 3 rfl rfl)
theorem dX1_paidFor_143 : decode cX1_paidFor 143 = .ok (.ifCond .ne 21, 3) := dk_154 0 21 (dk_at dksX1_paidFor_6 5 rfl rfl)
theorem dX1_paidFor_146 : decode cX1_paidFor 146 = .ok (.iload_n 3, 1) := dk_29 (dk_at dksX1_paidFor_6 8 rfl rfl)
theorem dX1_paidFor_147 : decode cX1_paidFor 147 = .ok (.iload_n 2, 1) := dk_28 (dk_at dksX1_paidFor_6 9 rfl rfl)
theorem dX1_paidFor_148 : decode cX1_paidFor 148 = .ok (.aload 9, 2) := dk_25 9 (dk_at dksX1_paidFor_6 10 rfl rfl)
theorem dX1_paidFor_150 : decode cX1_paidFor 150 = .ok (.invokevirtual 373, 3) := dk_182 1 117 (dk_at dksX1_paidFor_6 12 rfl rfl)
theorem dX1_paidFor_153 : decode cX1_paidFor 153 = .ok (.iload_n 1, 1) := dk_27 (dk_at dksX1_paidFor_6 15 rfl rfl)
theorem dX1_paidFor_154 : decode cX1_paidFor 154 = .ok (.invokevirtual 272, 3) := dk_182 1 16 (dk_at dksX1_paidFor_6 16 rfl rfl)
theorem dX1_paidFor_157 : decode cX1_paidFor 157 = .ok (.invokestatic 247, 3) := dk_184 0 247 (dk_at dksX1_paidFor_6 19 rfl rfl)
theorem dX1_paidFor_160 : decode cX1_paidFor 160 = .ok (.invokestatic 216, 3) := dk_184 0 216 (dk_at dksX1_paidFor_7 0 rfl rfl)
theorem dX1_paidFor_163 : decode cX1_paidFor 163 = .ok (.istore_n 3, 1) := dk_62 (dk_at dksX1_paidFor_7 3 rfl rfl)
theorem dX1_paidFor_164 : decode cX1_paidFor 164 = .ok (.goto (-142), 3) := dk_167 255 114 (dk_at dksX1_paidFor_7 4 rfl rfl)
theorem dX1_paidFor_167 : decode cX1_paidFor 167 = .ok (.iload_n 3, 1) := dk_29 (dk_at dksX1_paidFor_7 7 rfl rfl)
theorem dX1_paidFor_168 : decode cX1_paidFor 168 = .ok (.aload_n 0, 1) := dk_42 (dk_at dksX1_paidFor_7 8 rfl rfl)
theorem dX1_paidFor_169 : decode cX1_paidFor 169 = .ok (.getfield 19, 3) := dk_180 0 19 (dk_at dksX1_paidFor_7 9 rfl rfl)
theorem dX1_paidFor_172 : decode cX1_paidFor 172 = .ok (.iload_n 1, 1) := dk_27 (dk_at dksX1_paidFor_7 12 rfl rfl)
theorem dX1_paidFor_173 : decode cX1_paidFor 173 = .ok (.saload, 1) := dk_53 (dk_at dksX1_paidFor_7 13 rfl rfl)
theorem dX1_paidFor_174 : decode cX1_paidFor 174 = .ok (.isub, 1) := dk_100 (dk_at dksX1_paidFor_7 14 rfl rfl)
theorem dX1_paidFor_175 : decode cX1_paidFor 175 = .ok (.ireturn, 1) := dk_172 (dk_at dksX1_paidFor_7 15 rfl rfl)
abbrev cX1_isBetween : ByteArray := prog_2_method_2_code
def yX1_isBetween : MethodName := ⟨RX1, "isBetween", "(III)Z"⟩
def dkwX1_isBetween_0 : List UInt8 := [26, 27, 161, 0, 12, 26, 28, 163, 0, 7, 4, 167, 0, 4, 3, 172]
abbrev dktX1_isBetween_0 : List UInt8 := dkwX1_isBetween_0 ++ []
theorem dksX1_isBetween_0 : cX1_isBetween.data.toList.drop 0 = dktX1_isBetween_0 := by decide +kernel
theorem dX1_isBetween_0 : decode cX1_isBetween 0 = .ok (.iload_n 0, 1) := dk_26 (dk_at dksX1_isBetween_0 0 rfl rfl)
theorem dX1_isBetween_1 : decode cX1_isBetween 1 = .ok (.iload_n 1, 1) := dk_27 (dk_at dksX1_isBetween_0 1 rfl rfl)
theorem dX1_isBetween_2 : decode cX1_isBetween 2 = .ok (.if_icmp .lt 12, 3) := dk_161 0 12 (dk_at dksX1_isBetween_0 2 rfl rfl)
theorem dX1_isBetween_5 : decode cX1_isBetween 5 = .ok (.iload_n 0, 1) := dk_26 (dk_at dksX1_isBetween_0 5 rfl rfl)
theorem dX1_isBetween_6 : decode cX1_isBetween 6 = .ok (.iload_n 2, 1) := dk_28 (dk_at dksX1_isBetween_0 6 rfl rfl)
theorem dX1_isBetween_7 : decode cX1_isBetween 7 = .ok (.if_icmp .gt 7, 3) := dk_163 0 7 (dk_at dksX1_isBetween_0 7 rfl rfl)
theorem dX1_isBetween_10 : decode cX1_isBetween 10 = .ok (.iconst 1, 1) := dk_4 (dk_at dksX1_isBetween_0 10 rfl rfl)
theorem dX1_isBetween_11 : decode cX1_isBetween 11 = .ok (.goto 4, 3) := dk_167 0 4 (dk_at dksX1_isBetween_0 11 rfl rfl)
theorem dX1_isBetween_14 : decode cX1_isBetween 14 = .ok (.iconst 0, 1) := dk_3 (dk_at dksX1_isBetween_0 14 rfl rfl)
theorem dX1_isBetween_15 : decode cX1_isBetween 15 = .ok (.ireturn, 1) := dk_172 (dk_at dksX1_isBetween_0 15 rfl rfl)
abbrev cX1_money : ByteArray := prog_2_method_48_code
def yX1_money : MethodName := ⟨RX1, "money", "()J"⟩
theorem dX1_money_0 : decode cX1_money 0 = .ok (.aload_n 0, 1) := by decide +kernel
theorem dX1_money_1 : decode cX1_money 1 = .ok (.getfield 315, 3) := by decide +kernel
theorem dX1_money_4 : decode cX1_money 4 = .ok (.lreturn, 1) := by decide +kernel
abbrev cX1_dredged : ByteArray := prog_2_method_49_code
def yX1_dredged : MethodName := ⟨RX1, "dredged", "()I"⟩
theorem dX1_dredged_0 : decode cX1_dredged 0 = .ok (.aload_n 0, 1) := by decide +kernel
theorem dX1_dredged_1 : decode cX1_dredged 1 = .ok (.getfield 144, 3) := by decide +kernel
theorem dX1_dredged_4 : decode cX1_dredged 4 = .ok (.ireturn, 1) := by decide +kernel
abbrev cX1_crept : ByteArray := prog_2_method_50_code
def yX1_crept : MethodName := ⟨RX1, "crept", "()I"⟩
theorem dX1_crept_0 : decode cX1_crept 0 = .ok (.aload_n 0, 1) := by decide +kernel
theorem dX1_crept_1 : decode cX1_crept 1 = .ok (.getfield 173, 3) := by decide +kernel
theorem dX1_crept_4 : decode cX1_crept 4 = .ok (.ireturn, 1) := by decide +kernel
abbrev cX1_report : ByteArray := prog_2_method_55_code
def yX1_report : MethodName := ⟨RX1, "report", "()Ljava/lang/String;"⟩
def dkwX1_report_2 : List UInt8 := [182, 1, 50, 153, 0, 10, 43, 16, 63, 182, 1, 138, 87, 132, 2, 1, 167, 255, 205, 43, 182, 1, 145, 176]
abbrev dktX1_report_2 : List UInt8 := dkwX1_report_2 ++ []
def dkwX1_report_1 : List UInt8 := [16, 32, 182, 1, 138, 87, 43, 42, 180, 0, 9, 28, 53, 182, 1, 142, 87, 42, 180, 0, 27, 28]
abbrev dktX1_report_1 : List UInt8 := dkwX1_report_1 ++ dktX1_report_2
def dkwX1_report_0 : List UInt8 := [187, 1, 135, 89, 183, 1, 137, 76, 3, 61, 28, 42, 180, 0, 94, 162, 0, 49, 28, 158, 0, 10, 43]
abbrev dktX1_report_0 : List UInt8 := dkwX1_report_0 ++ dktX1_report_1
theorem dksX1_report_0 : cX1_report.data.toList.drop 0 = dktX1_report_0 := by decide +kernel
theorem dksX1_report_1 : cX1_report.data.toList.drop 23 = dktX1_report_1 := dk_seg dksX1_report_0 23 rfl rfl
theorem dksX1_report_2 : cX1_report.data.toList.drop 45 = dktX1_report_2 := dk_seg dksX1_report_1 22 rfl rfl
theorem dX1_report_0 : decode cX1_report 0 = .ok (.new 391, 3) := dk_187 1 135 (dk_at dksX1_report_0 0 rfl rfl)
theorem dX1_report_3 : decode cX1_report 3 = .ok (.dup, 1) := dk_89 (dk_at dksX1_report_0 3 rfl rfl)
theorem dX1_report_4 : decode cX1_report 4 = .ok (.invokespecial 393, 3) := dk_183 1 137 (dk_at dksX1_report_0 4 rfl rfl)
theorem dX1_report_7 : decode cX1_report 7 = .ok (.astore_n 1, 1) := dk_76 (dk_at dksX1_report_0 7 rfl rfl)
theorem dX1_report_8 : decode cX1_report 8 = .ok (.iconst 0, 1) := dk_3 (dk_at dksX1_report_0 8 rfl rfl)
theorem dX1_report_9 : decode cX1_report 9 = .ok (.istore_n 2, 1) := dk_61 (dk_at dksX1_report_0 9 rfl rfl)
theorem dX1_report_10 : decode cX1_report 10 = .ok (.iload_n 2, 1) := dk_28 (dk_at dksX1_report_0 10 rfl rfl)
theorem dX1_report_11 : decode cX1_report 11 = .ok (.aload_n 0, 1) := dk_42 (dk_at dksX1_report_0 11 rfl rfl)
theorem dX1_report_12 : decode cX1_report 12 = .ok (.getfield 94, 3) := dk_180 0 94 (dk_at dksX1_report_0 12 rfl rfl)
theorem dX1_report_15 : decode cX1_report 15 = .ok (.if_icmp .ge 49, 3) := dk_162 0 49 (dk_at dksX1_report_0 15 rfl rfl)
theorem dX1_report_18 : decode cX1_report 18 = .ok (.iload_n 2, 1) := dk_28 (dk_at dksX1_report_0 18 rfl rfl)
theorem dX1_report_19 : decode cX1_report 19 = .ok (.ifCond .le 10, 3) := dk_158 0 10 (dk_at dksX1_report_0 19 rfl rfl)
theorem dX1_report_22 : decode cX1_report 22 = .ok (.aload_n 1, 1) := dk_43 (dk_at dksX1_report_0 22 rfl rfl)
theorem dX1_report_23 : decode cX1_report 23 = .ok (.bipush 32, 2) := dk_16 32 (dk_at dksX1_report_1 0 rfl rfl)
theorem dX1_report_25 : decode cX1_report 25 = .ok (.invokevirtual 394, 3) := dk_182 1 138 (dk_at dksX1_report_1 2 rfl rfl)
theorem dX1_report_28 : decode cX1_report 28 = .ok (.pop, 1) := dk_87 (dk_at dksX1_report_1 5 rfl rfl)
theorem dX1_report_29 : decode cX1_report 29 = .ok (.aload_n 1, 1) := dk_43 (dk_at dksX1_report_1 6 rfl rfl)
theorem dX1_report_30 : decode cX1_report 30 = .ok (.aload_n 0, 1) := dk_42 (dk_at dksX1_report_1 7 rfl rfl)
theorem dX1_report_31 : decode cX1_report 31 = .ok (.getfield 9, 3) := dk_180 0 9 (dk_at dksX1_report_1 8 rfl rfl)
theorem dX1_report_34 : decode cX1_report 34 = .ok (.iload_n 2, 1) := dk_28 (dk_at dksX1_report_1 11 rfl rfl)
theorem dX1_report_35 : decode cX1_report 35 = .ok (.saload, 1) := dk_53 (dk_at dksX1_report_1 12 rfl rfl)
theorem dX1_report_36 : decode cX1_report 36 = .ok (.invokevirtual 398, 3) := dk_182 1 142 (dk_at dksX1_report_1 13 rfl rfl)
theorem dX1_report_39 : decode cX1_report 39 = .ok (.pop, 1) := dk_87 (dk_at dksX1_report_1 16 rfl rfl)
theorem dX1_report_40 : decode cX1_report 40 = .ok (.aload_n 0, 1) := dk_42 (dk_at dksX1_report_1 17 rfl rfl)
theorem dX1_report_41 : decode cX1_report 41 = .ok (.getfield 27, 3) := dk_180 0 27 (dk_at dksX1_report_1 18 rfl rfl)
theorem dX1_report_44 : decode cX1_report 44 = .ok (.iload_n 2, 1) := dk_28 (dk_at dksX1_report_1 21 rfl rfl)
theorem dX1_report_45 : decode cX1_report 45 = .ok (.invokevirtual 306, 3) := dk_182 1 50 (dk_at dksX1_report_2 0 rfl rfl)
theorem dX1_report_48 : decode cX1_report 48 = .ok (.ifCond .eq 10, 3) := dk_153 0 10 (dk_at dksX1_report_2 3 rfl rfl)
theorem dX1_report_51 : decode cX1_report 51 = .ok (.aload_n 1, 1) := dk_43 (dk_at dksX1_report_2 6 rfl rfl)
theorem dX1_report_52 : decode cX1_report 52 = .ok (.bipush 63, 2) := dk_16 63 (dk_at dksX1_report_2 7 rfl rfl)
theorem dX1_report_54 : decode cX1_report 54 = .ok (.invokevirtual 394, 3) := dk_182 1 138 (dk_at dksX1_report_2 9 rfl rfl)
theorem dX1_report_57 : decode cX1_report 57 = .ok (.pop, 1) := dk_87 (dk_at dksX1_report_2 12 rfl rfl)
theorem dX1_report_58 : decode cX1_report 58 = .ok (.iinc 2 1, 3) := dk_132 2 1 (dk_at dksX1_report_2 13 rfl rfl)
theorem dX1_report_61 : decode cX1_report 61 = .ok (.goto (-51), 3) := dk_167 255 205 (dk_at dksX1_report_2 16 rfl rfl)
theorem dX1_report_64 : decode cX1_report 64 = .ok (.aload_n 1, 1) := dk_43 (dk_at dksX1_report_2 19 rfl rfl)
theorem dX1_report_65 : decode cX1_report 65 = .ok (.invokevirtual 401, 3) := dk_182 1 145 (dk_at dksX1_report_2 20 rfl rfl)
theorem dX1_report_68 : decode cX1_report 68 = .ok (.areturn, 1) := dk_176 (dk_at dksX1_report_2 23 rfl rfl)
abbrev cX1_isBalanced : ByteArray := prog_2_method_56_code
def yX1_isBalanced : MethodName := ⟨RX1, "isBalanced", "()Z"⟩
def dkwX1_isBalanced_4 : List UInt8 := [180, 1, 56, 42, 182, 1, 149, 160, 0, 7, 4, 167, 0, 4, 3, 172]
abbrev dktX1_isBalanced_4 : List UInt8 := dkwX1_isBalanced_4 ++ []
def dkwX1_isBalanced_3 : List UInt8 := [4, 167, 0, 4, 3, 61, 28, 153, 0, 31, 42, 180, 0, 144, 27, 42, 180, 0, 138, 96, 160, 0, 18, 42]
abbrev dktX1_isBalanced_3 : List UInt8 := dkwX1_isBalanced_3 ++ dktX1_isBalanced_4
def dkwX1_isBalanced_2 : List UInt8 := [182, 1, 131, 42, 42, 180, 0, 19, 182, 1, 131, 42, 180, 0, 144, 96, 42, 180, 0, 173, 100, 160, 0, 7]
abbrev dktX1_isBalanced_2 : List UInt8 := dkwX1_isBalanced_2 ++ dktX1_isBalanced_3
def dkwX1_isBalanced_1 : List UInt8 := [185, 0, 190, 1, 0, 192, 0, 204, 78, 27, 45, 180, 0, 241, 96, 60, 167, 255, 230, 42, 42, 180, 0, 9]
abbrev dktX1_isBalanced_1 : List UInt8 := dkwX1_isBalanced_1 ++ dktX1_isBalanced_2
def dkwX1_isBalanced_0 : List UInt8 := [3, 60, 42, 180, 0, 34, 182, 1, 20, 77, 44, 185, 0, 184, 1, 0, 153, 0, 23, 44]
abbrev dktX1_isBalanced_0 : List UInt8 := dkwX1_isBalanced_0 ++ dktX1_isBalanced_1
theorem dksX1_isBalanced_0 : cX1_isBalanced.data.toList.drop 0 = dktX1_isBalanced_0 := by decide +kernel
theorem dksX1_isBalanced_1 : cX1_isBalanced.data.toList.drop 20 = dktX1_isBalanced_1 := dk_seg dksX1_isBalanced_0 20 rfl rfl
theorem dksX1_isBalanced_2 : cX1_isBalanced.data.toList.drop 44 = dktX1_isBalanced_2 := dk_seg dksX1_isBalanced_1 24 rfl rfl
theorem dksX1_isBalanced_3 : cX1_isBalanced.data.toList.drop 68 = dktX1_isBalanced_3 := dk_seg dksX1_isBalanced_2 24 rfl rfl
theorem dksX1_isBalanced_4 : cX1_isBalanced.data.toList.drop 92 = dktX1_isBalanced_4 := dk_seg dksX1_isBalanced_3 24 rfl rfl
theorem dX1_isBalanced_0 : decode cX1_isBalanced 0 = .ok (.iconst 0, 1) := dk_3 (dk_at dksX1_isBalanced_0 0 rfl rfl)
theorem dX1_isBalanced_1 : decode cX1_isBalanced 1 = .ok (.istore_n 1, 1) := dk_60 (dk_at dksX1_isBalanced_0 1 rfl rfl)
theorem dX1_isBalanced_2 : decode cX1_isBalanced 2 = .ok (.aload_n 0, 1) := dk_42 (dk_at dksX1_isBalanced_0 2 rfl rfl)
theorem dX1_isBalanced_3 : decode cX1_isBalanced 3 = .ok (.getfield 34, 3) := dk_180 0 34 (dk_at dksX1_isBalanced_0 3 rfl rfl)
theorem dX1_isBalanced_6 : decode cX1_isBalanced 6 = .ok (.invokevirtual 276, 3) := dk_182 1 20 (dk_at dksX1_isBalanced_0 6 rfl rfl)
theorem dX1_isBalanced_9 : decode cX1_isBalanced 9 = .ok (.astore_n 2, 1) := dk_77 (dk_at dksX1_isBalanced_0 9 rfl rfl)
theorem dX1_isBalanced_10 : decode cX1_isBalanced 10 = .ok (.aload_n 2, 1) := dk_44 (dk_at dksX1_isBalanced_0 10 rfl rfl)
theorem dX1_isBalanced_11 : decode cX1_isBalanced 11 = .ok (.invokeinterface 184 1, 5) := by decide +kernel
theorem dX1_isBalanced_16 : decode cX1_isBalanced 16 = .ok (.ifCond .eq 23, 3) := dk_153 0 23 (dk_at dksX1_isBalanced_0 16 rfl rfl)
theorem dX1_isBalanced_19 : decode cX1_isBalanced 19 = .ok (.aload_n 2, 1) := dk_44 (dk_at dksX1_isBalanced_0 19 rfl rfl)
theorem dX1_isBalanced_20 : decode cX1_isBalanced 20 = .ok (.invokeinterface 190 1, 5) := by decide +kernel
theorem dX1_isBalanced_25 : decode cX1_isBalanced 25 = .ok (.checkcast 204, 3) := dk_192 0 204 (dk_at dksX1_isBalanced_1 5 rfl rfl)
theorem dX1_isBalanced_28 : decode cX1_isBalanced 28 = .ok (.astore_n 3, 1) := dk_78 (dk_at dksX1_isBalanced_1 8 rfl rfl)
theorem dX1_isBalanced_29 : decode cX1_isBalanced 29 = .ok (.iload_n 1, 1) := dk_27 (dk_at dksX1_isBalanced_1 9 rfl rfl)
theorem dX1_isBalanced_30 : decode cX1_isBalanced 30 = .ok (.aload_n 3, 1) := dk_45 (dk_at dksX1_isBalanced_1 10 rfl rfl)
theorem dX1_isBalanced_31 : decode cX1_isBalanced 31 = .ok (.getfield 241, 3) := dk_180 0 241 (dk_at dksX1_isBalanced_1 11 rfl rfl)
theorem dX1_isBalanced_34 : decode cX1_isBalanced 34 = .ok (.iadd, 1) := dk_96 (dk_at dksX1_isBalanced_1 14 rfl rfl)
theorem dX1_isBalanced_35 : decode cX1_isBalanced 35 = .ok (.istore_n 1, 1) := dk_60 (dk_at dksX1_isBalanced_1 15 rfl rfl)
theorem dX1_isBalanced_36 : decode cX1_isBalanced 36 = .ok (.goto (-26), 3) := dk_167 255 230 (dk_at dksX1_isBalanced_1 16 rfl rfl)
theorem dX1_isBalanced_39 : decode cX1_isBalanced 39 = .ok (.aload_n 0, 1) := dk_42 (dk_at dksX1_isBalanced_1 19 rfl rfl)
theorem dX1_isBalanced_40 : decode cX1_isBalanced 40 = .ok (.aload_n 0, 1) := dk_42 (dk_at dksX1_isBalanced_1 20 rfl rfl)
theorem dX1_isBalanced_41 : decode cX1_isBalanced 41 = .ok (.getfield 9, 3) := dk_180 0 9 (dk_at dksX1_isBalanced_1 21 rfl rfl)
theorem dX1_isBalanced_44 : decode cX1_isBalanced 44 = .ok (.invokevirtual 387, 3) := dk_182 1 131 (dk_at dksX1_isBalanced_2 0 rfl rfl)
theorem dX1_isBalanced_47 : decode cX1_isBalanced 47 = .ok (.aload_n 0, 1) := dk_42 (dk_at dksX1_isBalanced_2 3 rfl rfl)
theorem dX1_isBalanced_48 : decode cX1_isBalanced 48 = .ok (.aload_n 0, 1) := dk_42 (dk_at dksX1_isBalanced_2 4 rfl rfl)
theorem dX1_isBalanced_49 : decode cX1_isBalanced 49 = .ok (.getfield 19, 3) := dk_180 0 19 (dk_at dksX1_isBalanced_2 5 rfl rfl)
theorem dX1_isBalanced_52 : decode cX1_isBalanced 52 = .ok (.invokevirtual 387, 3) := dk_182 1 131 (dk_at dksX1_isBalanced_2 8 rfl rfl)
theorem dX1_isBalanced_55 : decode cX1_isBalanced 55 = .ok (.aload_n 0, 1) := dk_42 (dk_at dksX1_isBalanced_2 11 rfl rfl)
theorem dX1_isBalanced_56 : decode cX1_isBalanced 56 = .ok (.getfield 144, 3) := dk_180 0 144 (dk_at dksX1_isBalanced_2 12 rfl rfl)
theorem dX1_isBalanced_59 : decode cX1_isBalanced 59 = .ok (.iadd, 1) := dk_96 (dk_at dksX1_isBalanced_2 15 rfl rfl)
theorem dX1_isBalanced_60 : decode cX1_isBalanced 60 = .ok (.aload_n 0, 1) := dk_42 (dk_at dksX1_isBalanced_2 16 rfl rfl)
theorem dX1_isBalanced_61 : decode cX1_isBalanced 61 = .ok (.getfield 173, 3) := dk_180 0 173 (dk_at dksX1_isBalanced_2 17 rfl rfl)
theorem dX1_isBalanced_64 : decode cX1_isBalanced 64 = .ok (.isub, 1) := dk_100 (dk_at dksX1_isBalanced_2 20 rfl rfl)
theorem dX1_isBalanced_65 : decode cX1_isBalanced 65 = .ok (.if_icmp .ne 7, 3) := dk_160 0 7 (dk_at dksX1_isBalanced_2 21 rfl rfl)
theorem dX1_isBalanced_68 : decode cX1_isBalanced 68 = .ok (.iconst 1, 1) := dk_4 (dk_at dksX1_isBalanced_3 0 rfl rfl)
theorem dX1_isBalanced_69 : decode cX1_isBalanced 69 = .ok (.goto 4, 3) := dk_167 0 4 (dk_at dksX1_isBalanced_3 1 rfl rfl)
theorem dX1_isBalanced_72 : decode cX1_isBalanced 72 = .ok (.iconst 0, 1) := dk_3 (dk_at dksX1_isBalanced_3 4 rfl rfl)
theorem dX1_isBalanced_73 : decode cX1_isBalanced 73 = .ok (.istore_n 2, 1) := dk_61 (dk_at dksX1_isBalanced_3 5 rfl rfl)
theorem dX1_isBalanced_74 : decode cX1_isBalanced 74 = .ok (.iload_n 2, 1) := dk_28 (dk_at dksX1_isBalanced_3 6 rfl rfl)
theorem dX1_isBalanced_75 : decode cX1_isBalanced 75 = .ok (.ifCond .eq 31, 3) := dk_153 0 31 (dk_at dksX1_isBalanced_3 7 rfl rfl)
theorem dX1_isBalanced_78 : decode cX1_isBalanced 78 = .ok (.aload_n 0, 1) := dk_42 (dk_at dksX1_isBalanced_3 10 rfl rfl)
theorem dX1_isBalanced_79 : decode cX1_isBalanced 79 = .ok (.getfield 144, 3) := dk_180 0 144 (dk_at dksX1_isBalanced_3 11 rfl rfl)
theorem dX1_isBalanced_82 : decode cX1_isBalanced 82 = .ok (.iload_n 1, 1) := dk_27 (dk_at dksX1_isBalanced_3 14 rfl rfl)
theorem dX1_isBalanced_83 : decode cX1_isBalanced 83 = .ok (.aload_n 0, 1) := dk_42 (dk_at dksX1_isBalanced_3 15 rfl rfl)
theorem dX1_isBalanced_84 : decode cX1_isBalanced 84 = .ok (.getfield 138, 3) := dk_180 0 138 (dk_at dksX1_isBalanced_3 16 rfl rfl)
theorem dX1_isBalanced_87 : decode cX1_isBalanced 87 = .ok (.iadd, 1) := dk_96 (dk_at dksX1_isBalanced_3 19 rfl rfl)
theorem dX1_isBalanced_88 : decode cX1_isBalanced 88 = .ok (.if_icmp .ne 18, 3) := dk_160 0 18 (dk_at dksX1_isBalanced_3 20 rfl rfl)
theorem dX1_isBalanced_91 : decode cX1_isBalanced 91 = .ok (.aload_n 0, 1) := dk_42 (dk_at dksX1_isBalanced_3 23 rfl rfl)
theorem dX1_isBalanced_92 : decode cX1_isBalanced 92 = .ok (.getfield 312, 3) := dk_180 1 56 (dk_at dksX1_isBalanced_4 0 rfl rfl)
theorem dX1_isBalanced_95 : decode cX1_isBalanced 95 = .ok (.aload_n 0, 1) := dk_42 (dk_at dksX1_isBalanced_4 3 rfl rfl)
theorem dX1_isBalanced_96 : decode cX1_isBalanced 96 = .ok (.invokevirtual 405, 3) := dk_182 1 149 (dk_at dksX1_isBalanced_4 4 rfl rfl)
theorem dX1_isBalanced_99 : decode cX1_isBalanced 99 = .ok (.if_icmp .ne 7, 3) := dk_160 0 7 (dk_at dksX1_isBalanced_4 7 rfl rfl)
theorem dX1_isBalanced_102 : decode cX1_isBalanced 102 = .ok (.iconst 1, 1) := dk_4 (dk_at dksX1_isBalanced_4 10 rfl rfl)
theorem dX1_isBalanced_103 : decode cX1_isBalanced 103 = .ok (.goto 4, 3) := dk_167 0 4 (dk_at dksX1_isBalanced_4 11 rfl rfl)
theorem dX1_isBalanced_106 : decode cX1_isBalanced 106 = .ok (.iconst 0, 1) := dk_3 (dk_at dksX1_isBalanced_4 14 rfl rfl)
theorem dX1_isBalanced_107 : decode cX1_isBalanced 107 = .ok (.ireturn, 1) := dk_172 (dk_at dksX1_isBalanced_4 15 rfl rfl)
abbrev cX1_sum : ByteArray := prog_2_method_53_code
def yX1_sum : MethodName := ⟨RX1, "sum", "([S)I"⟩
def dkwX1_sum_1 : List UInt8 := [28, 172]
abbrev dktX1_sum_1 : List UInt8 := dkwX1_sum_1 ++ []
def dkwX1_sum_0 : List UInt8 := [3, 61, 3, 62, 29, 42, 180, 0, 94, 162, 0, 15, 28, 43, 29, 53, 96, 61, 132, 3, 1, 167, 255, 239]
abbrev dktX1_sum_0 : List UInt8 := dkwX1_sum_0 ++ dktX1_sum_1
theorem dksX1_sum_0 : cX1_sum.data.toList.drop 0 = dktX1_sum_0 := by decide +kernel
theorem dksX1_sum_1 : cX1_sum.data.toList.drop 24 = dktX1_sum_1 := dk_seg dksX1_sum_0 24 rfl rfl
theorem dX1_sum_0 : decode cX1_sum 0 = .ok (.iconst 0, 1) := dk_3 (dk_at dksX1_sum_0 0 rfl rfl)
theorem dX1_sum_1 : decode cX1_sum 1 = .ok (.istore_n 2, 1) := dk_61 (dk_at dksX1_sum_0 1 rfl rfl)
theorem dX1_sum_2 : decode cX1_sum 2 = .ok (.iconst 0, 1) := dk_3 (dk_at dksX1_sum_0 2 rfl rfl)
theorem dX1_sum_3 : decode cX1_sum 3 = .ok (.istore_n 3, 1) := dk_62 (dk_at dksX1_sum_0 3 rfl rfl)
theorem dX1_sum_4 : decode cX1_sum 4 = .ok (.iload_n 3, 1) := dk_29 (dk_at dksX1_sum_0 4 rfl rfl)
theorem dX1_sum_5 : decode cX1_sum 5 = .ok (.aload_n 0, 1) := dk_42 (dk_at dksX1_sum_0 5 rfl rfl)
theorem dX1_sum_6 : decode cX1_sum 6 = .ok (.getfield 94, 3) := dk_180 0 94 (dk_at dksX1_sum_0 6 rfl rfl)
theorem dX1_sum_9 : decode cX1_sum 9 = .ok (.if_icmp .ge 15, 3) := dk_162 0 15 (dk_at dksX1_sum_0 9 rfl rfl)
theorem dX1_sum_12 : decode cX1_sum 12 = .ok (.iload_n 2, 1) := dk_28 (dk_at dksX1_sum_0 12 rfl rfl)
theorem dX1_sum_13 : decode cX1_sum 13 = .ok (.aload_n 1, 1) := dk_43 (dk_at dksX1_sum_0 13 rfl rfl)
theorem dX1_sum_14 : decode cX1_sum 14 = .ok (.iload_n 3, 1) := dk_29 (dk_at dksX1_sum_0 14 rfl rfl)
theorem dX1_sum_15 : decode cX1_sum 15 = .ok (.saload, 1) := dk_53 (dk_at dksX1_sum_0 15 rfl rfl)
theorem dX1_sum_16 : decode cX1_sum 16 = .ok (.iadd, 1) := dk_96 (dk_at dksX1_sum_0 16 rfl rfl)
theorem dX1_sum_17 : decode cX1_sum 17 = .ok (.istore_n 2, 1) := dk_61 (dk_at dksX1_sum_0 17 rfl rfl)
theorem dX1_sum_18 : decode cX1_sum 18 = .ok (.iinc 3 1, 3) := dk_132 3 1 (dk_at dksX1_sum_0 18 rfl rfl)
theorem dX1_sum_21 : decode cX1_sum 21 = .ok (.goto (-17), 3) := dk_167 255 239 (dk_at dksX1_sum_0 21 rfl rfl)
theorem dX1_sum_24 : decode cX1_sum 24 = .ok (.iload_n 2, 1) := dk_28 (dk_at dksX1_sum_1 0 rfl rfl)
theorem dX1_sum_25 : decode cX1_sum 25 = .ok (.ireturn, 1) := dk_172 (dk_at dksX1_sum_1 1 rfl rfl)
abbrev cX1_addCells : ByteArray := prog_2_method_11_code
def yX1_addCells : MethodName := ⟨RX1, "addCells", "(II)I"⟩
def dkwX1_addCells_5 : List UInt8 := [167, 255, 194, 42, 180, 0, 94, 172]
abbrev dktX1_addCells_5 : List UInt8 := dkwX1_addCells_5 ++ []
def dkwX1_addCells_4 : List UInt8 := [180, 0, 13, 42, 180, 0, 94, 16, 100, 86, 42, 89, 180, 0, 94, 4, 96, 181, 0, 94, 132, 3, 1]
abbrev dktX1_addCells_4 : List UInt8 := dkwX1_addCells_4 ++ dktX1_addCells_5
def dkwX1_addCells_3 : List UInt8 := [180, 0, 16, 42, 180, 0, 94, 28, 147, 86, 42, 180, 0, 19, 42, 180, 0, 94, 28, 147, 86, 42]
abbrev dktX1_addCells_3 : List UInt8 := dkwX1_addCells_3 ++ dktX1_addCells_4
def dkwX1_addCells_2 : List UInt8 := [184, 0, 125, 3, 62, 29, 27, 162, 0, 63, 42, 180, 0, 9, 42, 180, 0, 94, 28, 147, 86, 42]
abbrev dktX1_addCells_2 : List UInt8 := dkwX1_addCells_2 ++ dktX1_addCells_3
def dkwX1_addCells_1 : List UInt8 := [167, 0, 4, 3, 184, 0, 121, 42, 180, 0, 94, 27, 96, 16, 24, 163, 0, 7, 4, 167, 0, 4, 3]
abbrev dktX1_addCells_1 : List UInt8 := dkwX1_addCells_1 ++ dktX1_addCells_2
def dkwX1_addCells_0 : List UInt8 := [27, 4, 16, 24, 184, 0, 84, 153, 0, 18, 28, 3, 17, 0, 200, 184, 0, 84, 153, 0, 7, 4]
abbrev dktX1_addCells_0 : List UInt8 := dkwX1_addCells_0 ++ dktX1_addCells_1
theorem dksX1_addCells_0 : cX1_addCells.data.toList.drop 0 = dktX1_addCells_0 := by decide +kernel
theorem dksX1_addCells_1 : cX1_addCells.data.toList.drop 22 = dktX1_addCells_1 := dk_seg dksX1_addCells_0 22 rfl rfl
theorem dksX1_addCells_2 : cX1_addCells.data.toList.drop 45 = dktX1_addCells_2 := dk_seg dksX1_addCells_1 23 rfl rfl
theorem dksX1_addCells_3 : cX1_addCells.data.toList.drop 67 = dktX1_addCells_3 := dk_seg dksX1_addCells_2 22 rfl rfl
theorem dksX1_addCells_4 : cX1_addCells.data.toList.drop 89 = dktX1_addCells_4 := dk_seg dksX1_addCells_3 22 rfl rfl
theorem dksX1_addCells_5 : cX1_addCells.data.toList.drop 112 = dktX1_addCells_5 := dk_seg dksX1_addCells_4 23 rfl rfl
theorem dX1_addCells_0 : decode cX1_addCells 0 = .ok (.iload_n 1, 1) := dk_27 (dk_at dksX1_addCells_0 0 rfl rfl)
theorem dX1_addCells_1 : decode cX1_addCells 1 = .ok (.iconst 1, 1) := dk_4 (dk_at dksX1_addCells_0 1 rfl rfl)
theorem dX1_addCells_2 : decode cX1_addCells 2 = .ok (.bipush 24, 2) := dk_16 24 (dk_at dksX1_addCells_0 2 rfl rfl)
theorem dX1_addCells_4 : decode cX1_addCells 4 = .ok (.invokestatic 84, 3) := dk_184 0 84 (dk_at dksX1_addCells_0 4 rfl rfl)
theorem dX1_addCells_7 : decode cX1_addCells 7 = .ok (.ifCond .eq 18, 3) := dk_153 0 18 (dk_at dksX1_addCells_0 7 rfl rfl)
theorem dX1_addCells_10 : decode cX1_addCells 10 = .ok (.iload_n 2, 1) := dk_28 (dk_at dksX1_addCells_0 10 rfl rfl)
theorem dX1_addCells_11 : decode cX1_addCells 11 = .ok (.iconst 0, 1) := dk_3 (dk_at dksX1_addCells_0 11 rfl rfl)
theorem dX1_addCells_12 : decode cX1_addCells 12 = .ok (.sipush 200, 3) := dk_17 0 200 (dk_at dksX1_addCells_0 12 rfl rfl)
theorem dX1_addCells_15 : decode cX1_addCells 15 = .ok (.invokestatic 84, 3) := dk_184 0 84 (dk_at dksX1_addCells_0 15 rfl rfl)
theorem dX1_addCells_18 : decode cX1_addCells 18 = .ok (.ifCond .eq 7, 3) := dk_153 0 7 (dk_at dksX1_addCells_0 18 rfl rfl)
theorem dX1_addCells_21 : decode cX1_addCells 21 = .ok (.iconst 1, 1) := dk_4 (dk_at dksX1_addCells_0 21 rfl rfl)
theorem dX1_addCells_22 : decode cX1_addCells 22 = .ok (.goto 4, 3) := dk_167 0 4 (dk_at dksX1_addCells_1 0 rfl rfl)
theorem dX1_addCells_25 : decode cX1_addCells 25 = .ok (.iconst 0, 1) := dk_3 (dk_at dksX1_addCells_1 3 rfl rfl)
theorem dX1_addCells_26 : decode cX1_addCells 26 = .ok (.invokestatic 121, 3) := dk_184 0 121 (dk_at dksX1_addCells_1 4 rfl rfl)
theorem dX1_addCells_29 : decode cX1_addCells 29 = .ok (.aload_n 0, 1) := dk_42 (dk_at dksX1_addCells_1 7 rfl rfl)
theorem dX1_addCells_30 : decode cX1_addCells 30 = .ok (.getfield 94, 3) := dk_180 0 94 (dk_at dksX1_addCells_1 8 rfl rfl)
theorem dX1_addCells_33 : decode cX1_addCells 33 = .ok (.iload_n 1, 1) := dk_27 (dk_at dksX1_addCells_1 11 rfl rfl)
theorem dX1_addCells_34 : decode cX1_addCells 34 = .ok (.iadd, 1) := dk_96 (dk_at dksX1_addCells_1 12 rfl rfl)
theorem dX1_addCells_35 : decode cX1_addCells 35 = .ok (.bipush 24, 2) := dk_16 24 (dk_at dksX1_addCells_1 13 rfl rfl)
theorem dX1_addCells_37 : decode cX1_addCells 37 = .ok (.if_icmp .gt 7, 3) := dk_163 0 7 (dk_at dksX1_addCells_1 15 rfl rfl)
theorem dX1_addCells_40 : decode cX1_addCells 40 = .ok (.iconst 1, 1) := dk_4 (dk_at dksX1_addCells_1 18 rfl rfl)
theorem dX1_addCells_41 : decode cX1_addCells 41 = .ok (.goto 4, 3) := dk_167 0 4 (dk_at dksX1_addCells_1 19 rfl rfl)
theorem dX1_addCells_44 : decode cX1_addCells 44 = .ok (.iconst 0, 1) := dk_3 (dk_at dksX1_addCells_1 22 rfl rfl)
theorem dX1_addCells_45 : decode cX1_addCells 45 = .ok (.invokestatic 125, 3) := dk_184 0 125 (dk_at dksX1_addCells_2 0 rfl rfl)
theorem dX1_addCells_48 : decode cX1_addCells 48 = .ok (.iconst 0, 1) := dk_3 (dk_at dksX1_addCells_2 3 rfl rfl)
theorem dX1_addCells_49 : decode cX1_addCells 49 = .ok (.istore_n 3, 1) := dk_62 (dk_at dksX1_addCells_2 4 rfl rfl)
theorem dX1_addCells_50 : decode cX1_addCells 50 = .ok (.iload_n 3, 1) := dk_29 (dk_at dksX1_addCells_2 5 rfl rfl)
theorem dX1_addCells_51 : decode cX1_addCells 51 = .ok (.iload_n 1, 1) := dk_27 (dk_at dksX1_addCells_2 6 rfl rfl)
theorem dX1_addCells_52 : decode cX1_addCells 52 = .ok (.if_icmp .ge 63, 3) := dk_162 0 63 (dk_at dksX1_addCells_2 7 rfl rfl)
theorem dX1_addCells_55 : decode cX1_addCells 55 = .ok (.aload_n 0, 1) := dk_42 (dk_at dksX1_addCells_2 10 rfl rfl)
theorem dX1_addCells_56 : decode cX1_addCells 56 = .ok (.getfield 9, 3) := dk_180 0 9 (dk_at dksX1_addCells_2 11 rfl rfl)
theorem dX1_addCells_59 : decode cX1_addCells 59 = .ok (.aload_n 0, 1) := dk_42 (dk_at dksX1_addCells_2 14 rfl rfl)
theorem dX1_addCells_60 : decode cX1_addCells 60 = .ok (.getfield 94, 3) := dk_180 0 94 (dk_at dksX1_addCells_2 15 rfl rfl)
theorem dX1_addCells_63 : decode cX1_addCells 63 = .ok (.iload_n 2, 1) := dk_28 (dk_at dksX1_addCells_2 18 rfl rfl)
theorem dX1_addCells_64 : decode cX1_addCells 64 = .ok (.i2s, 1) := dk_147 (dk_at dksX1_addCells_2 19 rfl rfl)
theorem dX1_addCells_65 : decode cX1_addCells 65 = .ok (.sastore, 1) := dk_86 (dk_at dksX1_addCells_2 20 rfl rfl)
theorem dX1_addCells_66 : decode cX1_addCells 66 = .ok (.aload_n 0, 1) := dk_42 (dk_at dksX1_addCells_2 21 rfl rfl)
theorem dX1_addCells_67 : decode cX1_addCells 67 = .ok (.getfield 16, 3) := dk_180 0 16 (dk_at dksX1_addCells_3 0 rfl rfl)
theorem dX1_addCells_70 : decode cX1_addCells 70 = .ok (.aload_n 0, 1) := dk_42 (dk_at dksX1_addCells_3 3 rfl rfl)
theorem dX1_addCells_71 : decode cX1_addCells 71 = .ok (.getfield 94, 3) := dk_180 0 94 (dk_at dksX1_addCells_3 4 rfl rfl)
theorem dX1_addCells_74 : decode cX1_addCells 74 = .ok (.iload_n 2, 1) := dk_28 (dk_at dksX1_addCells_3 7 rfl rfl)
theorem dX1_addCells_75 : decode cX1_addCells 75 = .ok (.i2s, 1) := dk_147 (dk_at dksX1_addCells_3 8 rfl rfl)
theorem dX1_addCells_76 : decode cX1_addCells 76 = .ok (.sastore, 1) := dk_86 (dk_at dksX1_addCells_3 9 rfl rfl)
theorem dX1_addCells_77 : decode cX1_addCells 77 = .ok (.aload_n 0, 1) := dk_42 (dk_at dksX1_addCells_3 10 rfl rfl)
theorem dX1_addCells_78 : decode cX1_addCells 78 = .ok (.getfield 19, 3) := dk_180 0 19 (dk_at dksX1_addCells_3 11 rfl rfl)
theorem dX1_addCells_81 : decode cX1_addCells 81 = .ok (.aload_n 0, 1) := dk_42 (dk_at dksX1_addCells_3 14 rfl rfl)
theorem dX1_addCells_82 : decode cX1_addCells 82 = .ok (.getfield 94, 3) := dk_180 0 94 (dk_at dksX1_addCells_3 15 rfl rfl)
theorem dX1_addCells_85 : decode cX1_addCells 85 = .ok (.iload_n 2, 1) := dk_28 (dk_at dksX1_addCells_3 18 rfl rfl)
theorem dX1_addCells_86 : decode cX1_addCells 86 = .ok (.i2s, 1) := dk_147 (dk_at dksX1_addCells_3 19 rfl rfl)
theorem dX1_addCells_87 : decode cX1_addCells 87 = .ok (.sastore, 1) := dk_86 (dk_at dksX1_addCells_3 20 rfl rfl)
theorem dX1_addCells_88 : decode cX1_addCells 88 = .ok (.aload_n 0, 1) := dk_42 (dk_at dksX1_addCells_3 21 rfl rfl)
theorem dX1_addCells_89 : decode cX1_addCells 89 = .ok (.getfield 13, 3) := dk_180 0 13 (dk_at dksX1_addCells_4 0 rfl rfl)
theorem dX1_addCells_92 : decode cX1_addCells 92 = .ok (.aload_n 0, 1) := dk_42 (dk_at dksX1_addCells_4 3 rfl rfl)
theorem dX1_addCells_93 : decode cX1_addCells 93 = .ok (.getfield 94, 3) := dk_180 0 94 (dk_at dksX1_addCells_4 4 rfl rfl)
theorem dX1_addCells_96 : decode cX1_addCells 96 = .ok (.bipush 100, 2) := dk_16 100 (dk_at dksX1_addCells_4 7 rfl rfl)
theorem dX1_addCells_98 : decode cX1_addCells 98 = .ok (.sastore, 1) := dk_86 (dk_at dksX1_addCells_4 9 rfl rfl)
theorem dX1_addCells_99 : decode cX1_addCells 99 = .ok (.aload_n 0, 1) := dk_42 (dk_at dksX1_addCells_4 10 rfl rfl)
theorem dX1_addCells_100 : decode cX1_addCells 100 = .ok (.dup, 1) := dk_89 (dk_at dksX1_addCells_4 11 rfl rfl)
theorem dX1_addCells_101 : decode cX1_addCells 101 = .ok (.getfield 94, 3) := dk_180 0 94 (dk_at dksX1_addCells_4 12 rfl rfl)
theorem dX1_addCells_104 : decode cX1_addCells 104 = .ok (.iconst 1, 1) := dk_4 (dk_at dksX1_addCells_4 15 rfl rfl)
theorem dX1_addCells_105 : decode cX1_addCells 105 = .ok (.iadd, 1) := dk_96 (dk_at dksX1_addCells_4 16 rfl rfl)
theorem dX1_addCells_106 : decode cX1_addCells 106 = .ok (.putfield 94, 3) := dk_181 0 94 (dk_at dksX1_addCells_4 17 rfl rfl)
theorem dX1_addCells_109 : decode cX1_addCells 109 = .ok (.iinc 3 1, 3) := dk_132 3 1 (dk_at dksX1_addCells_4 20 rfl rfl)
theorem dX1_addCells_112 : decode cX1_addCells 112 = .ok (.goto (-62), 3) := dk_167 255 194 (dk_at dksX1_addCells_5 0 rfl rfl)
theorem dX1_addCells_115 : decode cX1_addCells 115 = .ok (.aload_n 0, 1) := dk_42 (dk_at dksX1_addCells_5 3 rfl rfl)
theorem dX1_addCells_116 : decode cX1_addCells 116 = .ok (.getfield 94, 3) := dk_180 0 94 (dk_at dksX1_addCells_5 4 rfl rfl)
theorem dX1_addCells_119 : decode cX1_addCells 119 = .ok (.ireturn, 1) := dk_172 (dk_at dksX1_addCells_5 7 rfl rfl)
abbrev cX1_checkArgument : ByteArray := prog_2_method_3_code
def yX1_checkArgument : MethodName := ⟨RX1, "checkArgument", "(Z)V"⟩
def dkwX1_checkArgument_0 : List UInt8 := [26, 154, 0, 11, 187, 0, 72, 89, 183, 0, 74, 191, 177]
abbrev dktX1_checkArgument_0 : List UInt8 := dkwX1_checkArgument_0 ++ []
theorem dksX1_checkArgument_0 : cX1_checkArgument.data.toList.drop 0 = dktX1_checkArgument_0 := by decide +kernel
theorem dX1_checkArgument_0 : decode cX1_checkArgument 0 = .ok (.iload_n 0, 1) := dk_26 (dk_at dksX1_checkArgument_0 0 rfl rfl)
theorem dX1_checkArgument_1 : decode cX1_checkArgument 1 = .ok (.ifCond .ne 11, 3) := dk_154 0 11 (dk_at dksX1_checkArgument_0 1 rfl rfl)
theorem dX1_checkArgument_4 : decode cX1_checkArgument 4 = .ok (.new 72, 3) := dk_187 0 72 (dk_at dksX1_checkArgument_0 4 rfl rfl)
theorem dX1_checkArgument_7 : decode cX1_checkArgument 7 = .ok (.dup, 1) := dk_89 (dk_at dksX1_checkArgument_0 7 rfl rfl)
theorem dX1_checkArgument_8 : decode cX1_checkArgument 8 = .ok (.invokespecial 74, 3) := dk_183 0 74 (dk_at dksX1_checkArgument_0 8 rfl rfl)
theorem dX1_checkArgument_11 : decode cX1_checkArgument 11 = .ok (.athrow, 1) := dk_191 (dk_at dksX1_checkArgument_0 11 rfl rfl)
theorem dX1_checkArgument_12 : decode cX1_checkArgument 12 = .ok (.return_, 1) := dk_177 (dk_at dksX1_checkArgument_0 12 rfl rfl)
abbrev cX1_checkState : ByteArray := prog_2_method_4_code
def yX1_checkState : MethodName := ⟨RX1, "checkState", "(Z)V"⟩
def dkwX1_checkState_0 : List UInt8 := [26, 154, 0, 11, 187, 0, 75, 89, 183, 0, 77, 191, 177]
abbrev dktX1_checkState_0 : List UInt8 := dkwX1_checkState_0 ++ []
theorem dksX1_checkState_0 : cX1_checkState.data.toList.drop 0 = dktX1_checkState_0 := by decide +kernel
theorem dX1_checkState_0 : decode cX1_checkState 0 = .ok (.iload_n 0, 1) := dk_26 (dk_at dksX1_checkState_0 0 rfl rfl)
theorem dX1_checkState_1 : decode cX1_checkState 1 = .ok (.ifCond .ne 11, 3) := dk_154 0 11 (dk_at dksX1_checkState_0 1 rfl rfl)
theorem dX1_checkState_4 : decode cX1_checkState 4 = .ok (.new 75, 3) := dk_187 0 75 (dk_at dksX1_checkState_0 4 rfl rfl)
theorem dX1_checkState_7 : decode cX1_checkState 7 = .ok (.dup, 1) := dk_89 (dk_at dksX1_checkState_0 7 rfl rfl)
theorem dX1_checkState_8 : decode cX1_checkState 8 = .ok (.invokespecial 77, 3) := dk_183 0 77 (dk_at dksX1_checkState_0 8 rfl rfl)
theorem dX1_checkState_11 : decode cX1_checkState 11 = .ok (.athrow, 1) := dk_191 (dk_at dksX1_checkState_0 11 rfl rfl)
theorem dX1_checkState_12 : decode cX1_checkState 12 = .ok (.return_, 1) := dk_177 (dk_at dksX1_checkState_0 12 rfl rfl)
abbrev cX1_setLimit : ByteArray := prog_2_method_12_code
def yX1_setLimit : MethodName := ⟨RX1, "setLimit", "(II)I"⟩
def dkwX1_setLimit_2 : List UInt8 := [172]
abbrev dktX1_setLimit_2 : List UInt8 := dkwX1_setLimit_2 ++ []
def dkwX1_setLimit_1 : List UInt8 := [180, 0, 13, 27, 28, 147, 86, 42, 180, 0, 51, 187, 0, 131, 89, 27, 28, 183, 0, 133, 182, 0, 135, 29]
abbrev dktX1_setLimit_1 : List UInt8 := dkwX1_setLimit_1 ++ dktX1_setLimit_2
def dkwX1_setLimit_0 : List UInt8 := [42, 27, 182, 0, 128, 28, 3, 17, 1, 44, 184, 0, 84, 184, 0, 121, 42, 180, 0, 13, 27, 53, 62, 42]
abbrev dktX1_setLimit_0 : List UInt8 := dkwX1_setLimit_0 ++ dktX1_setLimit_1
theorem dksX1_setLimit_0 : cX1_setLimit.data.toList.drop 0 = dktX1_setLimit_0 := by decide +kernel
theorem dksX1_setLimit_1 : cX1_setLimit.data.toList.drop 24 = dktX1_setLimit_1 := dk_seg dksX1_setLimit_0 24 rfl rfl
theorem dksX1_setLimit_2 : cX1_setLimit.data.toList.drop 48 = dktX1_setLimit_2 := dk_seg dksX1_setLimit_1 24 rfl rfl
theorem dX1_setLimit_0 : decode cX1_setLimit 0 = .ok (.aload_n 0, 1) := dk_42 (dk_at dksX1_setLimit_0 0 rfl rfl)
theorem dX1_setLimit_1 : decode cX1_setLimit 1 = .ok (.iload_n 1, 1) := dk_27 (dk_at dksX1_setLimit_0 1 rfl rfl)
theorem dX1_setLimit_2 : decode cX1_setLimit 2 = .ok (.invokevirtual 128, 3) := dk_182 0 128 (dk_at dksX1_setLimit_0 2 rfl rfl)
theorem dX1_setLimit_5 : decode cX1_setLimit 5 = .ok (.iload_n 2, 1) := dk_28 (dk_at dksX1_setLimit_0 5 rfl rfl)
theorem dX1_setLimit_6 : decode cX1_setLimit 6 = .ok (.iconst 0, 1) := dk_3 (dk_at dksX1_setLimit_0 6 rfl rfl)
theorem dX1_setLimit_7 : decode cX1_setLimit 7 = .ok (.sipush 300, 3) := dk_17 1 44 (dk_at dksX1_setLimit_0 7 rfl rfl)
theorem dX1_setLimit_10 : decode cX1_setLimit 10 = .ok (.invokestatic 84, 3) := dk_184 0 84 (dk_at dksX1_setLimit_0 10 rfl rfl)
theorem dX1_setLimit_13 : decode cX1_setLimit 13 = .ok (.invokestatic 121, 3) := dk_184 0 121 (dk_at dksX1_setLimit_0 13 rfl rfl)
theorem dX1_setLimit_16 : decode cX1_setLimit 16 = .ok (.aload_n 0, 1) := dk_42 (dk_at dksX1_setLimit_0 16 rfl rfl)
theorem dX1_setLimit_17 : decode cX1_setLimit 17 = .ok (.getfield 13, 3) := dk_180 0 13 (dk_at dksX1_setLimit_0 17 rfl rfl)
theorem dX1_setLimit_20 : decode cX1_setLimit 20 = .ok (.iload_n 1, 1) := dk_27 (dk_at dksX1_setLimit_0 20 rfl rfl)
theorem dX1_setLimit_21 : decode cX1_setLimit 21 = .ok (.saload, 1) := dk_53 (dk_at dksX1_setLimit_0 21 rfl rfl)
theorem dX1_setLimit_22 : decode cX1_setLimit 22 = .ok (.istore_n 3, 1) := dk_62 (dk_at dksX1_setLimit_0 22 rfl rfl)
theorem dX1_setLimit_23 : decode cX1_setLimit 23 = .ok (.aload_n 0, 1) := dk_42 (dk_at dksX1_setLimit_0 23 rfl rfl)
theorem dX1_setLimit_24 : decode cX1_setLimit 24 = .ok (.getfield 13, 3) := dk_180 0 13 (dk_at dksX1_setLimit_1 0 rfl rfl)
theorem dX1_setLimit_27 : decode cX1_setLimit 27 = .ok (.iload_n 1, 1) := dk_27 (dk_at dksX1_setLimit_1 3 rfl rfl)
theorem dX1_setLimit_28 : decode cX1_setLimit 28 = .ok (.iload_n 2, 1) := dk_28 (dk_at dksX1_setLimit_1 4 rfl rfl)
theorem dX1_setLimit_29 : decode cX1_setLimit 29 = .ok (.i2s, 1) := dk_147 (dk_at dksX1_setLimit_1 5 rfl rfl)
theorem dX1_setLimit_30 : decode cX1_setLimit 30 = .ok (.sastore, 1) := dk_86 (dk_at dksX1_setLimit_1 6 rfl rfl)
theorem dX1_setLimit_31 : decode cX1_setLimit 31 = .ok (.aload_n 0, 1) := dk_42 (dk_at dksX1_setLimit_1 7 rfl rfl)
theorem dX1_setLimit_32 : decode cX1_setLimit 32 = .ok (.getfield 51, 3) := dk_180 0 51 (dk_at dksX1_setLimit_1 8 rfl rfl)
theorem dX1_setLimit_35 : decode cX1_setLimit 35 = .ok (.new 131, 3) := dk_187 0 131 (dk_at dksX1_setLimit_1 11 rfl rfl)
theorem dX1_setLimit_38 : decode cX1_setLimit 38 = .ok (.dup, 1) := dk_89 (dk_at dksX1_setLimit_1 14 rfl rfl)
theorem dX1_setLimit_39 : decode cX1_setLimit 39 = .ok (.iload_n 1, 1) := dk_27 (dk_at dksX1_setLimit_1 15 rfl rfl)
theorem dX1_setLimit_40 : decode cX1_setLimit 40 = .ok (.iload_n 2, 1) := dk_28 (dk_at dksX1_setLimit_1 16 rfl rfl)
theorem dX1_setLimit_41 : decode cX1_setLimit 41 = .ok (.invokespecial 133, 3) := dk_183 0 133 (dk_at dksX1_setLimit_1 17 rfl rfl)
theorem dX1_setLimit_44 : decode cX1_setLimit 44 = .ok (.invokevirtual 135, 3) := dk_182 0 135 (dk_at dksX1_setLimit_1 20 rfl rfl)
theorem dX1_setLimit_47 : decode cX1_setLimit 47 = .ok (.iload_n 3, 1) := dk_29 (dk_at dksX1_setLimit_1 23 rfl rfl)
theorem dX1_setLimit_48 : decode cX1_setLimit 48 = .ok (.ireturn, 1) := dk_172 (dk_at dksX1_setLimit_2 0 rfl rfl)
abbrev cX1_checkCell : ByteArray := prog_2_method_9_code
def yX1_checkCell : MethodName := ⟨RX1, "checkCell", "(I)V"⟩
def dkwX1_checkCell_0 : List UInt8 := [27, 42, 180, 0, 94, 184, 0, 97, 177]
abbrev dktX1_checkCell_0 : List UInt8 := dkwX1_checkCell_0 ++ []
theorem dksX1_checkCell_0 : cX1_checkCell.data.toList.drop 0 = dktX1_checkCell_0 := by decide +kernel
theorem dX1_checkCell_0 : decode cX1_checkCell 0 = .ok (.iload_n 1, 1) := dk_27 (dk_at dksX1_checkCell_0 0 rfl rfl)
theorem dX1_checkCell_1 : decode cX1_checkCell 1 = .ok (.aload_n 0, 1) := dk_42 (dk_at dksX1_checkCell_0 1 rfl rfl)
theorem dX1_checkCell_2 : decode cX1_checkCell 2 = .ok (.getfield 94, 3) := dk_180 0 94 (dk_at dksX1_checkCell_0 2 rfl rfl)
theorem dX1_checkCell_5 : decode cX1_checkCell 5 = .ok (.invokestatic 97, 3) := dk_184 0 97 (dk_at dksX1_checkCell_0 5 rfl rfl)
theorem dX1_checkCell_8 : decode cX1_checkCell 8 = .ok (.return_, 1) := dk_177 (dk_at dksX1_checkCell_0 8 rfl rfl)
abbrev cX1_checkIndex : ByteArray := prog_2_method_7_code
def yX1_checkIndex : MethodName := ⟨RX1, "checkIndex", "(II)V"⟩
def dkwX1_checkIndex_0 : List UInt8 := [26, 3, 27, 4, 100, 184, 0, 84, 154, 0, 11, 187, 0, 88, 89, 183, 0, 90, 191, 177]
abbrev dktX1_checkIndex_0 : List UInt8 := dkwX1_checkIndex_0 ++ []
theorem dksX1_checkIndex_0 : cX1_checkIndex.data.toList.drop 0 = dktX1_checkIndex_0 := by decide +kernel
theorem dX1_checkIndex_0 : decode cX1_checkIndex 0 = .ok (.iload_n 0, 1) := dk_26 (dk_at dksX1_checkIndex_0 0 rfl rfl)
theorem dX1_checkIndex_1 : decode cX1_checkIndex 1 = .ok (.iconst 0, 1) := dk_3 (dk_at dksX1_checkIndex_0 1 rfl rfl)
theorem dX1_checkIndex_2 : decode cX1_checkIndex 2 = .ok (.iload_n 1, 1) := dk_27 (dk_at dksX1_checkIndex_0 2 rfl rfl)
theorem dX1_checkIndex_3 : decode cX1_checkIndex 3 = .ok (.iconst 1, 1) := dk_4 (dk_at dksX1_checkIndex_0 3 rfl rfl)
theorem dX1_checkIndex_4 : decode cX1_checkIndex 4 = .ok (.isub, 1) := dk_100 (dk_at dksX1_checkIndex_0 4 rfl rfl)
theorem dX1_checkIndex_5 : decode cX1_checkIndex 5 = .ok (.invokestatic 84, 3) := dk_184 0 84 (dk_at dksX1_checkIndex_0 5 rfl rfl)
theorem dX1_checkIndex_8 : decode cX1_checkIndex 8 = .ok (.ifCond .ne 11, 3) := dk_154 0 11 (dk_at dksX1_checkIndex_0 8 rfl rfl)
theorem dX1_checkIndex_11 : decode cX1_checkIndex 11 = .ok (.new 88, 3) := dk_187 0 88 (dk_at dksX1_checkIndex_0 11 rfl rfl)
theorem dX1_checkIndex_14 : decode cX1_checkIndex 14 = .ok (.dup, 1) := dk_89 (dk_at dksX1_checkIndex_0 14 rfl rfl)
theorem dX1_checkIndex_15 : decode cX1_checkIndex 15 = .ok (.invokespecial 90, 3) := dk_183 0 90 (dk_at dksX1_checkIndex_0 15 rfl rfl)
theorem dX1_checkIndex_18 : decode cX1_checkIndex 18 = .ok (.athrow, 1) := dk_191 (dk_at dksX1_checkIndex_0 18 rfl rfl)
theorem dX1_checkIndex_19 : decode cX1_checkIndex 19 = .ok (.return_, 1) := dk_177 (dk_at dksX1_checkIndex_0 19 rfl rfl)
abbrev cX1_setSlope : ByteArray := prog_2_method_13_code
def yX1_setSlope : MethodName := ⟨RX1, "setSlope", "(I)I"⟩
def dkwX1_setSlope_0 : List UInt8 := [27, 4, 16, 50, 184, 0, 84, 184, 0, 121, 42, 180, 0, 62, 61, 42, 27, 181, 0, 62, 28, 172]
abbrev dktX1_setSlope_0 : List UInt8 := dkwX1_setSlope_0 ++ []
theorem dksX1_setSlope_0 : cX1_setSlope.data.toList.drop 0 = dktX1_setSlope_0 := by decide +kernel
theorem dX1_setSlope_0 : decode cX1_setSlope 0 = .ok (.iload_n 1, 1) := dk_27 (dk_at dksX1_setSlope_0 0 rfl rfl)
theorem dX1_setSlope_1 : decode cX1_setSlope 1 = .ok (.iconst 1, 1) := dk_4 (dk_at dksX1_setSlope_0 1 rfl rfl)
theorem dX1_setSlope_2 : decode cX1_setSlope 2 = .ok (.bipush 50, 2) := dk_16 50 (dk_at dksX1_setSlope_0 2 rfl rfl)
theorem dX1_setSlope_4 : decode cX1_setSlope 4 = .ok (.invokestatic 84, 3) := dk_184 0 84 (dk_at dksX1_setSlope_0 4 rfl rfl)
theorem dX1_setSlope_7 : decode cX1_setSlope 7 = .ok (.invokestatic 121, 3) := dk_184 0 121 (dk_at dksX1_setSlope_0 7 rfl rfl)
theorem dX1_setSlope_10 : decode cX1_setSlope 10 = .ok (.aload_n 0, 1) := dk_42 (dk_at dksX1_setSlope_0 10 rfl rfl)
theorem dX1_setSlope_11 : decode cX1_setSlope 11 = .ok (.getfield 62, 3) := dk_180 0 62 (dk_at dksX1_setSlope_0 11 rfl rfl)
theorem dX1_setSlope_14 : decode cX1_setSlope 14 = .ok (.istore_n 2, 1) := dk_61 (dk_at dksX1_setSlope_0 14 rfl rfl)
theorem dX1_setSlope_15 : decode cX1_setSlope 15 = .ok (.aload_n 0, 1) := dk_42 (dk_at dksX1_setSlope_0 15 rfl rfl)
theorem dX1_setSlope_16 : decode cX1_setSlope 16 = .ok (.iload_n 1, 1) := dk_27 (dk_at dksX1_setSlope_0 16 rfl rfl)
theorem dX1_setSlope_17 : decode cX1_setSlope 17 = .ok (.putfield 62, 3) := dk_181 0 62 (dk_at dksX1_setSlope_0 17 rfl rfl)
theorem dX1_setSlope_20 : decode cX1_setSlope 20 = .ok (.iload_n 2, 1) := dk_28 (dk_at dksX1_setSlope_0 20 rfl rfl)
theorem dX1_setSlope_21 : decode cX1_setSlope 21 = .ok (.ireturn, 1) := dk_172 (dk_at dksX1_setSlope_0 21 rfl rfl)
abbrev cX1_depth : ByteArray := prog_2_method_14_code
def yX1_depth : MethodName := ⟨RX1, "depth", "(I)I"⟩
def dkwX1_depth_0 : List UInt8 := [42, 27, 182, 0, 128, 42, 180, 0, 9, 27, 53, 172]
abbrev dktX1_depth_0 : List UInt8 := dkwX1_depth_0 ++ []
theorem dksX1_depth_0 : cX1_depth.data.toList.drop 0 = dktX1_depth_0 := by decide +kernel
theorem dX1_depth_0 : decode cX1_depth 0 = .ok (.aload_n 0, 1) := dk_42 (dk_at dksX1_depth_0 0 rfl rfl)
theorem dX1_depth_1 : decode cX1_depth 1 = .ok (.iload_n 1, 1) := dk_27 (dk_at dksX1_depth_0 1 rfl rfl)
theorem dX1_depth_2 : decode cX1_depth 2 = .ok (.invokevirtual 128, 3) := dk_182 0 128 (dk_at dksX1_depth_0 2 rfl rfl)
theorem dX1_depth_5 : decode cX1_depth 5 = .ok (.aload_n 0, 1) := dk_42 (dk_at dksX1_depth_0 5 rfl rfl)
theorem dX1_depth_6 : decode cX1_depth 6 = .ok (.getfield 9, 3) := dk_180 0 9 (dk_at dksX1_depth_0 6 rfl rfl)
theorem dX1_depth_9 : decode cX1_depth 9 = .ok (.iload_n 1, 1) := dk_27 (dk_at dksX1_depth_0 9 rfl rfl)
theorem dX1_depth_10 : decode cX1_depth 10 = .ok (.saload, 1) := dk_53 (dk_at dksX1_depth_0 10 rfl rfl)
theorem dX1_depth_11 : decode cX1_depth 11 = .ok (.ireturn, 1) := dk_172 (dk_at dksX1_depth_0 11 rfl rfl)
abbrev cX1_dredge : ByteArray := prog_2_method_15_code
def yX1_dredge : MethodName := ⟨RX1, "dredge", "(II)I"⟩
def dkwX1_dredge_4 : List UInt8 := [182, 0, 153, 42, 180, 0, 9, 27, 53, 172]
abbrev dktX1_dredge_4 : List UInt8 := dkwX1_dredge_4 ++ []
def dkwX1_dredge_3 : List UInt8 := [89, 180, 0, 138, 28, 96, 181, 0, 138, 42, 89, 180, 0, 144, 28, 96, 181, 0, 144, 42, 178, 0, 147, 27]
abbrev dktX1_dredge_3 : List UInt8 := dkwX1_dredge_3 ++ dktX1_dredge_4
def dkwX1_dredge_2 : List UInt8 := [163, 0, 7, 4, 167, 0, 4, 3, 184, 0, 141, 42, 180, 0, 9, 27, 92, 53, 28, 147, 96, 147, 86, 42]
abbrev dktX1_dredge_2 : List UInt8 := dkwX1_dredge_2 ++ dktX1_dredge_3
def dkwX1_dredge_1 : List UInt8 := [163, 0, 7, 4, 167, 0, 4, 3, 184, 0, 125, 42, 180, 0, 9, 27, 53, 28, 96, 17, 1, 44]
abbrev dktX1_dredge_1 : List UInt8 := dkwX1_dredge_1 ++ dktX1_dredge_2
def dkwX1_dredge_0 : List UInt8 := [42, 27, 182, 0, 128, 28, 4, 16, 50, 184, 0, 84, 184, 0, 121, 42, 180, 0, 138, 28, 96, 17, 0, 200]
abbrev dktX1_dredge_0 : List UInt8 := dkwX1_dredge_0 ++ dktX1_dredge_1
theorem dksX1_dredge_0 : cX1_dredge.data.toList.drop 0 = dktX1_dredge_0 := by decide +kernel
theorem dksX1_dredge_1 : cX1_dredge.data.toList.drop 24 = dktX1_dredge_1 := dk_seg dksX1_dredge_0 24 rfl rfl
theorem dksX1_dredge_2 : cX1_dredge.data.toList.drop 46 = dktX1_dredge_2 := dk_seg dksX1_dredge_1 22 rfl rfl
theorem dksX1_dredge_3 : cX1_dredge.data.toList.drop 70 = dktX1_dredge_3 := dk_seg dksX1_dredge_2 24 rfl rfl
theorem dksX1_dredge_4 : cX1_dredge.data.toList.drop 94 = dktX1_dredge_4 := dk_seg dksX1_dredge_3 24 rfl rfl
theorem dX1_dredge_0 : decode cX1_dredge 0 = .ok (.aload_n 0, 1) := dk_42 (dk_at dksX1_dredge_0 0 rfl rfl)
theorem dX1_dredge_1 : decode cX1_dredge 1 = .ok (.iload_n 1, 1) := dk_27 (dk_at dksX1_dredge_0 1 rfl rfl)
theorem dX1_dredge_2 : decode cX1_dredge 2 = .ok (.invokevirtual 128, 3) := dk_182 0 128 (dk_at dksX1_dredge_0 2 rfl rfl)
theorem dX1_dredge_5 : decode cX1_dredge 5 = .ok (.iload_n 2, 1) := dk_28 (dk_at dksX1_dredge_0 5 rfl rfl)
theorem dX1_dredge_6 : decode cX1_dredge 6 = .ok (.iconst 1, 1) := dk_4 (dk_at dksX1_dredge_0 6 rfl rfl)
theorem dX1_dredge_7 : decode cX1_dredge 7 = .ok (.bipush 50, 2) := dk_16 50 (dk_at dksX1_dredge_0 7 rfl rfl)
theorem dX1_dredge_9 : decode cX1_dredge 9 = .ok (.invokestatic 84, 3) := dk_184 0 84 (dk_at dksX1_dredge_0 9 rfl rfl)
theorem dX1_dredge_12 : decode cX1_dredge 12 = .ok (.invokestatic 121, 3) := dk_184 0 121 (dk_at dksX1_dredge_0 12 rfl rfl)
theorem dX1_dredge_15 : decode cX1_dredge 15 = .ok (.aload_n 0, 1) := dk_42 (dk_at dksX1_dredge_0 15 rfl rfl)
theorem dX1_dredge_16 : decode cX1_dredge 16 = .ok (.getfield 138, 3) := dk_180 0 138 (dk_at dksX1_dredge_0 16 rfl rfl)
theorem dX1_dredge_19 : decode cX1_dredge 19 = .ok (.iload_n 2, 1) := dk_28 (dk_at dksX1_dredge_0 19 rfl rfl)
theorem dX1_dredge_20 : decode cX1_dredge 20 = .ok (.iadd, 1) := dk_96 (dk_at dksX1_dredge_0 20 rfl rfl)
theorem dX1_dredge_21 : decode cX1_dredge 21 = .ok (.sipush 200, 3) := dk_17 0 200 (dk_at dksX1_dredge_0 21 rfl rfl)
theorem dX1_dredge_24 : decode cX1_dredge 24 = .ok (.if_icmp .gt 7, 3) := dk_163 0 7 (dk_at dksX1_dredge_1 0 rfl rfl)
theorem dX1_dredge_27 : decode cX1_dredge 27 = .ok (.iconst 1, 1) := dk_4 (dk_at dksX1_dredge_1 3 rfl rfl)
theorem dX1_dredge_28 : decode cX1_dredge 28 = .ok (.goto 4, 3) := dk_167 0 4 (dk_at dksX1_dredge_1 4 rfl rfl)
theorem dX1_dredge_31 : decode cX1_dredge 31 = .ok (.iconst 0, 1) := dk_3 (dk_at dksX1_dredge_1 7 rfl rfl)
theorem dX1_dredge_32 : decode cX1_dredge 32 = .ok (.invokestatic 125, 3) := dk_184 0 125 (dk_at dksX1_dredge_1 8 rfl rfl)
theorem dX1_dredge_35 : decode cX1_dredge 35 = .ok (.aload_n 0, 1) := dk_42 (dk_at dksX1_dredge_1 11 rfl rfl)
theorem dX1_dredge_36 : decode cX1_dredge 36 = .ok (.getfield 9, 3) := dk_180 0 9 (dk_at dksX1_dredge_1 12 rfl rfl)
theorem dX1_dredge_39 : decode cX1_dredge 39 = .ok (.iload_n 1, 1) := dk_27 (dk_at dksX1_dredge_1 15 rfl rfl)
theorem dX1_dredge_40 : decode cX1_dredge 40 = .ok (.saload, 1) := dk_53 (dk_at dksX1_dredge_1 16 rfl rfl)
theorem dX1_dredge_41 : decode cX1_dredge 41 = .ok (.iload_n 2, 1) := dk_28 (dk_at dksX1_dredge_1 17 rfl rfl)
theorem dX1_dredge_42 : decode cX1_dredge 42 = .ok (.iadd, 1) := dk_96 (dk_at dksX1_dredge_1 18 rfl rfl)
theorem dX1_dredge_43 : decode cX1_dredge 43 = .ok (.sipush 300, 3) := dk_17 1 44 (dk_at dksX1_dredge_1 19 rfl rfl)
theorem dX1_dredge_46 : decode cX1_dredge 46 = .ok (.if_icmp .gt 7, 3) := dk_163 0 7 (dk_at dksX1_dredge_2 0 rfl rfl)
theorem dX1_dredge_49 : decode cX1_dredge 49 = .ok (.iconst 1, 1) := dk_4 (dk_at dksX1_dredge_2 3 rfl rfl)
theorem dX1_dredge_50 : decode cX1_dredge 50 = .ok (.goto 4, 3) := dk_167 0 4 (dk_at dksX1_dredge_2 4 rfl rfl)
theorem dX1_dredge_53 : decode cX1_dredge 53 = .ok (.iconst 0, 1) := dk_3 (dk_at dksX1_dredge_2 7 rfl rfl)
theorem dX1_dredge_54 : decode cX1_dredge 54 = .ok (.invokestatic 141, 3) := dk_184 0 141 (dk_at dksX1_dredge_2 8 rfl rfl)
theorem dX1_dredge_57 : decode cX1_dredge 57 = .ok (.aload_n 0, 1) := dk_42 (dk_at dksX1_dredge_2 11 rfl rfl)
theorem dX1_dredge_58 : decode cX1_dredge 58 = .ok (.getfield 9, 3) := dk_180 0 9 (dk_at dksX1_dredge_2 12 rfl rfl)
theorem dX1_dredge_61 : decode cX1_dredge 61 = .ok (.iload_n 1, 1) := dk_27 (dk_at dksX1_dredge_2 15 rfl rfl)
theorem dX1_dredge_62 : decode cX1_dredge 62 = .ok (.dup2, 1) := dk_92 (dk_at dksX1_dredge_2 16 rfl rfl)
theorem dX1_dredge_63 : decode cX1_dredge 63 = .ok (.saload, 1) := dk_53 (dk_at dksX1_dredge_2 17 rfl rfl)
theorem dX1_dredge_64 : decode cX1_dredge 64 = .ok (.iload_n 2, 1) := dk_28 (dk_at dksX1_dredge_2 18 rfl rfl)
theorem dX1_dredge_65 : decode cX1_dredge 65 = .ok (.i2s, 1) := dk_147 (dk_at dksX1_dredge_2 19 rfl rfl)
theorem dX1_dredge_66 : decode cX1_dredge 66 = .ok (.iadd, 1) := dk_96 (dk_at dksX1_dredge_2 20 rfl rfl)
theorem dX1_dredge_67 : decode cX1_dredge 67 = .ok (.i2s, 1) := dk_147 (dk_at dksX1_dredge_2 21 rfl rfl)
theorem dX1_dredge_68 : decode cX1_dredge 68 = .ok (.sastore, 1) := dk_86 (dk_at dksX1_dredge_2 22 rfl rfl)
theorem dX1_dredge_69 : decode cX1_dredge 69 = .ok (.aload_n 0, 1) := dk_42 (dk_at dksX1_dredge_2 23 rfl rfl)
theorem dX1_dredge_70 : decode cX1_dredge 70 = .ok (.dup, 1) := dk_89 (dk_at dksX1_dredge_3 0 rfl rfl)
theorem dX1_dredge_71 : decode cX1_dredge 71 = .ok (.getfield 138, 3) := dk_180 0 138 (dk_at dksX1_dredge_3 1 rfl rfl)
theorem dX1_dredge_74 : decode cX1_dredge 74 = .ok (.iload_n 2, 1) := dk_28 (dk_at dksX1_dredge_3 4 rfl rfl)
theorem dX1_dredge_75 : decode cX1_dredge 75 = .ok (.iadd, 1) := dk_96 (dk_at dksX1_dredge_3 5 rfl rfl)
theorem dX1_dredge_76 : decode cX1_dredge 76 = .ok (.putfield 138, 3) := dk_181 0 138 (dk_at dksX1_dredge_3 6 rfl rfl)
theorem dX1_dredge_79 : decode cX1_dredge 79 = .ok (.aload_n 0, 1) := dk_42 (dk_at dksX1_dredge_3 9 rfl rfl)
theorem dX1_dredge_80 : decode cX1_dredge 80 = .ok (.dup, 1) := dk_89 (dk_at dksX1_dredge_3 10 rfl rfl)
theorem dX1_dredge_81 : decode cX1_dredge 81 = .ok (.getfield 144, 3) := dk_180 0 144 (dk_at dksX1_dredge_3 11 rfl rfl)
theorem dX1_dredge_84 : decode cX1_dredge 84 = .ok (.iload_n 2, 1) := dk_28 (dk_at dksX1_dredge_3 14 rfl rfl)
theorem dX1_dredge_85 : decode cX1_dredge 85 = .ok (.iadd, 1) := dk_96 (dk_at dksX1_dredge_3 15 rfl rfl)
theorem dX1_dredge_86 : decode cX1_dredge 86 = .ok (.putfield 144, 3) := dk_181 0 144 (dk_at dksX1_dredge_3 16 rfl rfl)
theorem dX1_dredge_89 : decode cX1_dredge 89 = .ok (.aload_n 0, 1) := dk_42 (dk_at dksX1_dredge_3 19 rfl rfl)
theorem dX1_dredge_90 : decode cX1_dredge 90 = .ok (.getstatic 147, 3) := dk_178 0 147 (dk_at dksX1_dredge_3 20 rfl rfl)
theorem dX1_dredge_93 : decode cX1_dredge 93 = .ok (.iload_n 1, 1) := dk_27 (dk_at dksX1_dredge_3 23 rfl rfl)
theorem dX1_dredge_94 : decode cX1_dredge 94 = .ok (.invokevirtual 153, 3) := dk_182 0 153 (dk_at dksX1_dredge_4 0 rfl rfl)
theorem dX1_dredge_97 : decode cX1_dredge 97 = .ok (.aload_n 0, 1) := dk_42 (dk_at dksX1_dredge_4 3 rfl rfl)
theorem dX1_dredge_98 : decode cX1_dredge 98 = .ok (.getfield 9, 3) := dk_180 0 9 (dk_at dksX1_dredge_4 4 rfl rfl)
theorem dX1_dredge_101 : decode cX1_dredge 101 = .ok (.iload_n 1, 1) := dk_27 (dk_at dksX1_dredge_4 7 rfl rfl)
theorem dX1_dredge_102 : decode cX1_dredge 102 = .ok (.saload, 1) := dk_53 (dk_at dksX1_dredge_4 8 rfl rfl)
theorem dX1_dredge_103 : decode cX1_dredge 103 = .ok (.ireturn, 1) := dk_172 (dk_at dksX1_dredge_4 9 rfl rfl)
abbrev cX1_checkAllowed : ByteArray := prog_2_method_5_code
def yX1_checkAllowed : MethodName := ⟨RX1, "checkAllowed", "(Z)V"⟩
def dkwX1_checkAllowed_0 : List UInt8 := [26, 154, 0, 11, 187, 0, 78, 89, 183, 0, 80, 191, 177]
abbrev dktX1_checkAllowed_0 : List UInt8 := dkwX1_checkAllowed_0 ++ []
theorem dksX1_checkAllowed_0 : cX1_checkAllowed.data.toList.drop 0 = dktX1_checkAllowed_0 := by decide +kernel
theorem dX1_checkAllowed_0 : decode cX1_checkAllowed 0 = .ok (.iload_n 0, 1) := dk_26 (dk_at dksX1_checkAllowed_0 0 rfl rfl)
theorem dX1_checkAllowed_1 : decode cX1_checkAllowed 1 = .ok (.ifCond .ne 11, 3) := dk_154 0 11 (dk_at dksX1_checkAllowed_0 1 rfl rfl)
theorem dX1_checkAllowed_4 : decode cX1_checkAllowed 4 = .ok (.new 78, 3) := dk_187 0 78 (dk_at dksX1_checkAllowed_0 4 rfl rfl)
theorem dX1_checkAllowed_7 : decode cX1_checkAllowed 7 = .ok (.dup, 1) := dk_89 (dk_at dksX1_checkAllowed_0 7 rfl rfl)
theorem dX1_checkAllowed_8 : decode cX1_checkAllowed 8 = .ok (.invokespecial 80, 3) := dk_183 0 80 (dk_at dksX1_checkAllowed_0 8 rfl rfl)
theorem dX1_checkAllowed_11 : decode cX1_checkAllowed 11 = .ok (.athrow, 1) := dk_191 (dk_at dksX1_checkAllowed_0 11 rfl rfl)
theorem dX1_checkAllowed_12 : decode cX1_checkAllowed 12 = .ok (.return_, 1) := dk_177 (dk_at dksX1_checkAllowed_0 12 rfl rfl)
abbrev cX1_tell : ByteArray := prog_2_method_10_code
def yX1_tell : MethodName := ⟨RX1, "tell", "(LDeed;I)V"⟩
def dkwX1_tell_1 : List UInt8 := [182, 0, 113, 16, 8, 164, 0, 14, 42, 180, 0, 58, 182, 0, 117, 192, 0, 101, 78, 177]
abbrev dktX1_tell_1 : List UInt8 := dkwX1_tell_1 ++ []
def dkwX1_tell_0 : List UInt8 := [42, 180, 0, 58, 187, 0, 101, 89, 43, 42, 180, 0, 103, 28, 183, 0, 106, 182, 0, 109, 42, 180, 0, 58]
abbrev dktX1_tell_0 : List UInt8 := dkwX1_tell_0 ++ dktX1_tell_1
theorem dksX1_tell_0 : cX1_tell.data.toList.drop 0 = dktX1_tell_0 := by decide +kernel
theorem dksX1_tell_1 : cX1_tell.data.toList.drop 24 = dktX1_tell_1 := dk_seg dksX1_tell_0 24 rfl rfl
theorem dX1_tell_0 : decode cX1_tell 0 = .ok (.aload_n 0, 1) := dk_42 (dk_at dksX1_tell_0 0 rfl rfl)
theorem dX1_tell_1 : decode cX1_tell 1 = .ok (.getfield 58, 3) := dk_180 0 58 (dk_at dksX1_tell_0 1 rfl rfl)
theorem dX1_tell_4 : decode cX1_tell 4 = .ok (.new 101, 3) := dk_187 0 101 (dk_at dksX1_tell_0 4 rfl rfl)
theorem dX1_tell_7 : decode cX1_tell 7 = .ok (.dup, 1) := dk_89 (dk_at dksX1_tell_0 7 rfl rfl)
theorem dX1_tell_8 : decode cX1_tell 8 = .ok (.aload_n 1, 1) := dk_43 (dk_at dksX1_tell_0 8 rfl rfl)
theorem dX1_tell_9 : decode cX1_tell 9 = .ok (.aload_n 0, 1) := dk_42 (dk_at dksX1_tell_0 9 rfl rfl)
theorem dX1_tell_10 : decode cX1_tell 10 = .ok (.getfield 103, 3) := dk_180 0 103 (dk_at dksX1_tell_0 10 rfl rfl)
theorem dX1_tell_13 : decode cX1_tell 13 = .ok (.iload_n 2, 1) := dk_28 (dk_at dksX1_tell_0 13 rfl rfl)
theorem dX1_tell_14 : decode cX1_tell 14 = .ok (.invokespecial 106, 3) := dk_183 0 106 (dk_at dksX1_tell_0 14 rfl rfl)
theorem dX1_tell_17 : decode cX1_tell 17 = .ok (.invokevirtual 109, 3) := dk_182 0 109 (dk_at dksX1_tell_0 17 rfl rfl)
theorem dX1_tell_20 : decode cX1_tell 20 = .ok (.aload_n 0, 1) := dk_42 (dk_at dksX1_tell_0 20 rfl rfl)
theorem dX1_tell_21 : decode cX1_tell 21 = .ok (.getfield 58, 3) := dk_180 0 58 (dk_at dksX1_tell_0 21 rfl rfl)
theorem dX1_tell_24 : decode cX1_tell 24 = .ok (.invokevirtual 113, 3) := dk_182 0 113 (dk_at dksX1_tell_1 0 rfl rfl)
theorem dX1_tell_27 : decode cX1_tell 27 = .ok (.bipush 8, 2) := dk_16 8 (dk_at dksX1_tell_1 3 rfl rfl)
theorem dX1_tell_29 : decode cX1_tell 29 = .ok (.if_icmp .le 14, 3) := dk_164 0 14 (dk_at dksX1_tell_1 5 rfl rfl)
theorem dX1_tell_32 : decode cX1_tell 32 = .ok (.aload_n 0, 1) := dk_42 (dk_at dksX1_tell_1 8 rfl rfl)
theorem dX1_tell_33 : decode cX1_tell 33 = .ok (.getfield 58, 3) := dk_180 0 58 (dk_at dksX1_tell_1 9 rfl rfl)
theorem dX1_tell_36 : decode cX1_tell 36 = .ok (.invokevirtual 117, 3) := dk_182 0 117 (dk_at dksX1_tell_1 12 rfl rfl)
theorem dX1_tell_39 : decode cX1_tell 39 = .ok (.checkcast 101, 3) := dk_192 0 101 (dk_at dksX1_tell_1 15 rfl rfl)
theorem dX1_tell_42 : decode cX1_tell 42 = .ok (.astore_n 3, 1) := dk_78 (dk_at dksX1_tell_1 18 rfl rfl)
theorem dX1_tell_43 : decode cX1_tell 43 = .ok (.return_, 1) := dk_177 (dk_at dksX1_tell_1 19 rfl rfl)
abbrev cX1_pass : ByteArray := prog_2_method_19_code
def yX1_pass : MethodName := ⟨RX1, "pass", "(I)I"⟩
def dkwX1_pass_3 : List UInt8 := [181, 0, 173, 42, 182, 0, 176, 28, 172]
abbrev dktX1_pass_3 : List UInt8 := dkwX1_pass_3 ++ []
def dkwX1_pass_2 : List UInt8 := [89, 180, 0, 103, 4, 96, 181, 0, 103, 132, 3, 1, 167, 255, 231, 42, 89, 180, 0, 173, 28, 96]
abbrev dktX1_pass_2 : List UInt8 := dkwX1_pass_2 ++ dktX1_pass_3
def dkwX1_pass_1 : List UInt8 := [167, 0, 4, 3, 184, 0, 125, 3, 61, 3, 62, 29, 27, 162, 0, 26, 28, 42, 182, 0, 170, 96, 61, 42]
abbrev dktX1_pass_1 : List UInt8 := dkwX1_pass_1 ++ dktX1_pass_2
def dkwX1_pass_0 : List UInt8 := [27, 4, 16, 30, 184, 0, 84, 184, 0, 121, 42, 180, 0, 103, 27, 96, 17, 1, 144, 163, 0, 7, 4]
abbrev dktX1_pass_0 : List UInt8 := dkwX1_pass_0 ++ dktX1_pass_1
theorem dksX1_pass_0 : cX1_pass.data.toList.drop 0 = dktX1_pass_0 := by decide +kernel
theorem dksX1_pass_1 : cX1_pass.data.toList.drop 23 = dktX1_pass_1 := dk_seg dksX1_pass_0 23 rfl rfl
theorem dksX1_pass_2 : cX1_pass.data.toList.drop 47 = dktX1_pass_2 := dk_seg dksX1_pass_1 24 rfl rfl
theorem dksX1_pass_3 : cX1_pass.data.toList.drop 69 = dktX1_pass_3 := dk_seg dksX1_pass_2 22 rfl rfl
theorem dX1_pass_0 : decode cX1_pass 0 = .ok (.iload_n 1, 1) := dk_27 (dk_at dksX1_pass_0 0 rfl rfl)
theorem dX1_pass_1 : decode cX1_pass 1 = .ok (.iconst 1, 1) := dk_4 (dk_at dksX1_pass_0 1 rfl rfl)
theorem dX1_pass_2 : decode cX1_pass 2 = .ok (.bipush 30, 2) := dk_16 30 (dk_at dksX1_pass_0 2 rfl rfl)
theorem dX1_pass_4 : decode cX1_pass 4 = .ok (.invokestatic 84, 3) := dk_184 0 84 (dk_at dksX1_pass_0 4 rfl rfl)
theorem dX1_pass_7 : decode cX1_pass 7 = .ok (.invokestatic 121, 3) := dk_184 0 121 (dk_at dksX1_pass_0 7 rfl rfl)
theorem dX1_pass_10 : decode cX1_pass 10 = .ok (.aload_n 0, 1) := dk_42 (dk_at dksX1_pass_0 10 rfl rfl)
theorem dX1_pass_11 : decode cX1_pass 11 = .ok (.getfield 103, 3) := dk_180 0 103 (dk_at dksX1_pass_0 11 rfl rfl)
theorem dX1_pass_14 : decode cX1_pass 14 = .ok (.iload_n 1, 1) := dk_27 (dk_at dksX1_pass_0 14 rfl rfl)
theorem dX1_pass_15 : decode cX1_pass 15 = .ok (.iadd, 1) := dk_96 (dk_at dksX1_pass_0 15 rfl rfl)
theorem dX1_pass_16 : decode cX1_pass 16 = .ok (.sipush 400, 3) := dk_17 1 144 (dk_at dksX1_pass_0 16 rfl rfl)
theorem dX1_pass_19 : decode cX1_pass 19 = .ok (.if_icmp .gt 7, 3) := dk_163 0 7 (dk_at dksX1_pass_0 19 rfl rfl)
theorem dX1_pass_22 : decode cX1_pass 22 = .ok (.iconst 1, 1) := dk_4 (dk_at dksX1_pass_0 22 rfl rfl)
theorem dX1_pass_23 : decode cX1_pass 23 = .ok (.goto 4, 3) := dk_167 0 4 (dk_at dksX1_pass_1 0 rfl rfl)
theorem dX1_pass_26 : decode cX1_pass 26 = .ok (.iconst 0, 1) := dk_3 (dk_at dksX1_pass_1 3 rfl rfl)
theorem dX1_pass_27 : decode cX1_pass 27 = .ok (.invokestatic 125, 3) := dk_184 0 125 (dk_at dksX1_pass_1 4 rfl rfl)
theorem dX1_pass_30 : decode cX1_pass 30 = .ok (.iconst 0, 1) := dk_3 (dk_at dksX1_pass_1 7 rfl rfl)
theorem dX1_pass_31 : decode cX1_pass 31 = .ok (.istore_n 2, 1) := dk_61 (dk_at dksX1_pass_1 8 rfl rfl)
theorem dX1_pass_32 : decode cX1_pass 32 = .ok (.iconst 0, 1) := dk_3 (dk_at dksX1_pass_1 9 rfl rfl)
theorem dX1_pass_33 : decode cX1_pass 33 = .ok (.istore_n 3, 1) := dk_62 (dk_at dksX1_pass_1 10 rfl rfl)
theorem dX1_pass_34 : decode cX1_pass 34 = .ok (.iload_n 3, 1) := dk_29 (dk_at dksX1_pass_1 11 rfl rfl)
theorem dX1_pass_35 : decode cX1_pass 35 = .ok (.iload_n 1, 1) := dk_27 (dk_at dksX1_pass_1 12 rfl rfl)
theorem dX1_pass_36 : decode cX1_pass 36 = .ok (.if_icmp .ge 26, 3) := dk_162 0 26 (dk_at dksX1_pass_1 13 rfl rfl)
theorem dX1_pass_39 : decode cX1_pass 39 = .ok (.iload_n 2, 1) := dk_28 (dk_at dksX1_pass_1 16 rfl rfl)
theorem dX1_pass_40 : decode cX1_pass 40 = .ok (.aload_n 0, 1) := dk_42 (dk_at dksX1_pass_1 17 rfl rfl)
theorem dX1_pass_41 : decode cX1_pass 41 = .ok (.invokevirtual 170, 3) := dk_182 0 170 (dk_at dksX1_pass_1 18 rfl rfl)
theorem dX1_pass_44 : decode cX1_pass 44 = .ok (.iadd, 1) := dk_96 (dk_at dksX1_pass_1 21 rfl rfl)
theorem dX1_pass_45 : decode cX1_pass 45 = .ok (.istore_n 2, 1) := dk_61 (dk_at dksX1_pass_1 22 rfl rfl)
theorem dX1_pass_46 : decode cX1_pass 46 = .ok (.aload_n 0, 1) := dk_42 (dk_at dksX1_pass_1 23 rfl rfl)
theorem dX1_pass_47 : decode cX1_pass 47 = .ok (.dup, 1) := dk_89 (dk_at dksX1_pass_2 0 rfl rfl)
theorem dX1_pass_48 : decode cX1_pass 48 = .ok (.getfield 103, 3) := dk_180 0 103 (dk_at dksX1_pass_2 1 rfl rfl)
theorem dX1_pass_51 : decode cX1_pass 51 = .ok (.iconst 1, 1) := dk_4 (dk_at dksX1_pass_2 4 rfl rfl)
theorem dX1_pass_52 : decode cX1_pass 52 = .ok (.iadd, 1) := dk_96 (dk_at dksX1_pass_2 5 rfl rfl)
theorem dX1_pass_53 : decode cX1_pass 53 = .ok (.putfield 103, 3) := dk_181 0 103 (dk_at dksX1_pass_2 6 rfl rfl)
theorem dX1_pass_56 : decode cX1_pass 56 = .ok (.iinc 3 1, 3) := dk_132 3 1 (dk_at dksX1_pass_2 9 rfl rfl)
theorem dX1_pass_59 : decode cX1_pass 59 = .ok (.goto (-25), 3) := dk_167 255 231 (dk_at dksX1_pass_2 12 rfl rfl)
theorem dX1_pass_62 : decode cX1_pass 62 = .ok (.aload_n 0, 1) := dk_42 (dk_at dksX1_pass_2 15 rfl rfl)
theorem dX1_pass_63 : decode cX1_pass 63 = .ok (.dup, 1) := dk_89 (dk_at dksX1_pass_2 16 rfl rfl)
theorem dX1_pass_64 : decode cX1_pass 64 = .ok (.getfield 173, 3) := dk_180 0 173 (dk_at dksX1_pass_2 17 rfl rfl)
theorem dX1_pass_67 : decode cX1_pass 67 = .ok (.iload_n 2, 1) := dk_28 (dk_at dksX1_pass_2 20 rfl rfl)
theorem dX1_pass_68 : decode cX1_pass 68 = .ok (.iadd, 1) := dk_96 (dk_at dksX1_pass_2 21 rfl rfl)
theorem dX1_pass_69 : decode cX1_pass 69 = .ok (.putfield 173, 3) := dk_181 0 173 (dk_at dksX1_pass_3 0 rfl rfl)
theorem dX1_pass_72 : decode cX1_pass 72 = .ok (.aload_n 0, 1) := dk_42 (dk_at dksX1_pass_3 3 rfl rfl)
theorem dX1_pass_73 : decode cX1_pass 73 = .ok (.invokevirtual 176, 3) := dk_182 0 176 (dk_at dksX1_pass_3 4 rfl rfl)
theorem dX1_pass_76 : decode cX1_pass 76 = .ok (.iload_n 2, 1) := dk_28 (dk_at dksX1_pass_3 7 rfl rfl)
theorem dX1_pass_77 : decode cX1_pass 77 = .ok (.ireturn, 1) := dk_172 (dk_at dksX1_pass_3 8 rfl rfl)
abbrev cX1_creep : ByteArray := prog_2_method_18_code
def yX1_creep : MethodName := ⟨RX1, "creep", "()I"⟩
def dkwX1_creep_5 : List UInt8 := [147, 86, 132, 3, 1, 167, 255, 225, 28, 172]
abbrev dktX1_creep_5 : List UInt8 := dkwX1_creep_5 ++ []
def dkwX1_creep_4 : List UInt8 := [180, 0, 94, 162, 0, 29, 42, 180, 0, 9, 29, 92, 53, 43, 29, 4, 96, 46, 43, 29, 46, 100, 147, 96]
abbrev dktX1_creep_4 : List UInt8 := dkwX1_creep_4 ++ dktX1_creep_5
def dkwX1_creep_3 : List UInt8 := [21, 4, 156, 0, 7, 4, 167, 0, 4, 3, 96, 61, 132, 3, 1, 167, 255, 185, 3, 62, 29, 42]
abbrev dktX1_creep_3 : List UInt8 := dkwX1_creep_3 ++ dktX1_creep_4
def dkwX1_creep_2 : List UInt8 := [43, 29, 21, 4, 79, 28, 29, 154, 0, 8, 21, 4, 157, 0, 16, 29, 42, 180, 0, 94, 160, 0, 12]
abbrev dktX1_creep_2 : List UInt8 := dkwX1_creep_2 ++ dktX1_creep_3
def dkwX1_creep_1 : List UInt8 := [180, 0, 94, 158, 0, 62, 42, 42, 29, 4, 100, 182, 0, 163, 42, 29, 182, 0, 163, 182, 0, 166, 54, 4]
abbrev dktX1_creep_1 : List UInt8 := dkwX1_creep_1 ++ dktX1_creep_2
def dkwX1_creep_0 : List UInt8 := [42, 180, 0, 94, 4, 96, 188, 10, 76, 3, 61, 3, 62, 29, 42, 180, 0, 94, 163, 0, 69, 42]
abbrev dktX1_creep_0 : List UInt8 := dkwX1_creep_0 ++ dktX1_creep_1
theorem dksX1_creep_0 : cX1_creep.data.toList.drop 0 = dktX1_creep_0 := by decide +kernel
theorem dksX1_creep_1 : cX1_creep.data.toList.drop 22 = dktX1_creep_1 := dk_seg dksX1_creep_0 22 rfl rfl
theorem dksX1_creep_2 : cX1_creep.data.toList.drop 46 = dktX1_creep_2 := dk_seg dksX1_creep_1 24 rfl rfl
theorem dksX1_creep_3 : cX1_creep.data.toList.drop 69 = dktX1_creep_3 := dk_seg dksX1_creep_2 23 rfl rfl
theorem dksX1_creep_4 : cX1_creep.data.toList.drop 91 = dktX1_creep_4 := dk_seg dksX1_creep_3 22 rfl rfl
theorem dksX1_creep_5 : cX1_creep.data.toList.drop 115 = dktX1_creep_5 := dk_seg dksX1_creep_4 24 rfl rfl
theorem dX1_creep_0 : decode cX1_creep 0 = .ok (.aload_n 0, 1) := dk_42 (dk_at dksX1_creep_0 0 rfl rfl)
theorem dX1_creep_1 : decode cX1_creep 1 = .ok (.getfield 94, 3) := dk_180 0 94 (dk_at dksX1_creep_0 1 rfl rfl)
theorem dX1_creep_4 : decode cX1_creep 4 = .ok (.iconst 1, 1) := dk_4 (dk_at dksX1_creep_0 4 rfl rfl)
theorem dX1_creep_5 : decode cX1_creep 5 = .ok (.iadd, 1) := dk_96 (dk_at dksX1_creep_0 5 rfl rfl)
theorem dX1_creep_6 : decode cX1_creep 6 = .ok (.newarray .int, 2) := dk_188_10 (dk_at dksX1_creep_0 6 rfl rfl)
theorem dX1_creep_8 : decode cX1_creep 8 = .ok (.astore_n 1, 1) := dk_76 (dk_at dksX1_creep_0 8 rfl rfl)
theorem dX1_creep_9 : decode cX1_creep 9 = .ok (.iconst 0, 1) := dk_3 (dk_at dksX1_creep_0 9 rfl rfl)
theorem dX1_creep_10 : decode cX1_creep 10 = .ok (.istore_n 2, 1) := dk_61 (dk_at dksX1_creep_0 10 rfl rfl)
theorem dX1_creep_11 : decode cX1_creep 11 = .ok (.iconst 0, 1) := dk_3 (dk_at dksX1_creep_0 11 rfl rfl)
theorem dX1_creep_12 : decode cX1_creep 12 = .ok (.istore_n 3, 1) := dk_62 (dk_at dksX1_creep_0 12 rfl rfl)
theorem dX1_creep_13 : decode cX1_creep 13 = .ok (.iload_n 3, 1) := dk_29 (dk_at dksX1_creep_0 13 rfl rfl)
theorem dX1_creep_14 : decode cX1_creep 14 = .ok (.aload_n 0, 1) := dk_42 (dk_at dksX1_creep_0 14 rfl rfl)
theorem dX1_creep_15 : decode cX1_creep 15 = .ok (.getfield 94, 3) := dk_180 0 94 (dk_at dksX1_creep_0 15 rfl rfl)
theorem dX1_creep_18 : decode cX1_creep 18 = .ok (.if_icmp .gt 69, 3) := dk_163 0 69 (dk_at dksX1_creep_0 18 rfl rfl)
theorem dX1_creep_21 : decode cX1_creep 21 = .ok (.aload_n 0, 1) := dk_42 (dk_at dksX1_creep_0 21 rfl rfl)
theorem dX1_creep_22 : decode cX1_creep 22 = .ok (.getfield 94, 3) := dk_180 0 94 (dk_at dksX1_creep_1 0 rfl rfl)
theorem dX1_creep_25 : decode cX1_creep 25 = .ok (.ifCond .le 62, 3) := dk_158 0 62 (dk_at dksX1_creep_1 3 rfl rfl)
theorem dX1_creep_28 : decode cX1_creep 28 = .ok (.aload_n 0, 1) := dk_42 (dk_at dksX1_creep_1 6 rfl rfl)
theorem dX1_creep_29 : decode cX1_creep 29 = .ok (.aload_n 0, 1) := dk_42 (dk_at dksX1_creep_1 7 rfl rfl)
theorem dX1_creep_30 : decode cX1_creep 30 = .ok (.iload_n 3, 1) := dk_29 (dk_at dksX1_creep_1 8 rfl rfl)
theorem dX1_creep_31 : decode cX1_creep 31 = .ok (.iconst 1, 1) := dk_4 (dk_at dksX1_creep_1 9 rfl rfl)
theorem dX1_creep_32 : decode cX1_creep 32 = .ok (.isub, 1) := dk_100 (dk_at dksX1_creep_1 10 rfl rfl)
theorem dX1_creep_33 : decode cX1_creep 33 = .ok (.invokevirtual 163, 3) := dk_182 0 163 (dk_at dksX1_creep_1 11 rfl rfl)
theorem dX1_creep_36 : decode cX1_creep 36 = .ok (.aload_n 0, 1) := dk_42 (dk_at dksX1_creep_1 14 rfl rfl)
theorem dX1_creep_37 : decode cX1_creep 37 = .ok (.iload_n 3, 1) := dk_29 (dk_at dksX1_creep_1 15 rfl rfl)
theorem dX1_creep_38 : decode cX1_creep 38 = .ok (.invokevirtual 163, 3) := dk_182 0 163 (dk_at dksX1_creep_1 16 rfl rfl)
theorem dX1_creep_41 : decode cX1_creep 41 = .ok (.invokevirtual 166, 3) := dk_182 0 166 (dk_at dksX1_creep_1 19 rfl rfl)
theorem dX1_creep_44 : decode cX1_creep 44 = .ok (.istore 4, 2) := dk_54 4 (dk_at dksX1_creep_1 22 rfl rfl)
theorem dX1_creep_46 : decode cX1_creep 46 = .ok (.aload_n 1, 1) := dk_43 (dk_at dksX1_creep_2 0 rfl rfl)
theorem dX1_creep_47 : decode cX1_creep 47 = .ok (.iload_n 3, 1) := dk_29 (dk_at dksX1_creep_2 1 rfl rfl)
theorem dX1_creep_48 : decode cX1_creep 48 = .ok (.iload 4, 2) := dk_21 4 (dk_at dksX1_creep_2 2 rfl rfl)
theorem dX1_creep_50 : decode cX1_creep 50 = .ok (.iastore, 1) := dk_79 (dk_at dksX1_creep_2 4 rfl rfl)
theorem dX1_creep_51 : decode cX1_creep 51 = .ok (.iload_n 2, 1) := dk_28 (dk_at dksX1_creep_2 5 rfl rfl)
theorem dX1_creep_52 : decode cX1_creep 52 = .ok (.iload_n 3, 1) := dk_29 (dk_at dksX1_creep_2 6 rfl rfl)
theorem dX1_creep_53 : decode cX1_creep 53 = .ok (.ifCond .ne 8, 3) := dk_154 0 8 (dk_at dksX1_creep_2 7 rfl rfl)
theorem dX1_creep_56 : decode cX1_creep 56 = .ok (.iload 4, 2) := dk_21 4 (dk_at dksX1_creep_2 10 rfl rfl)
theorem dX1_creep_58 : decode cX1_creep 58 = .ok (.ifCond .gt 16, 3) := dk_157 0 16 (dk_at dksX1_creep_2 12 rfl rfl)
theorem dX1_creep_61 : decode cX1_creep 61 = .ok (.iload_n 3, 1) := dk_29 (dk_at dksX1_creep_2 15 rfl rfl)
theorem dX1_creep_62 : decode cX1_creep 62 = .ok (.aload_n 0, 1) := dk_42 (dk_at dksX1_creep_2 16 rfl rfl)
theorem dX1_creep_63 : decode cX1_creep 63 = .ok (.getfield 94, 3) := dk_180 0 94 (dk_at dksX1_creep_2 17 rfl rfl)
theorem dX1_creep_66 : decode cX1_creep 66 = .ok (.if_icmp .ne 12, 3) := dk_160 0 12 (dk_at dksX1_creep_2 20 rfl rfl)
theorem dX1_creep_69 : decode cX1_creep 69 = .ok (.iload 4, 2) := dk_21 4 (dk_at dksX1_creep_3 0 rfl rfl)
theorem dX1_creep_71 : decode cX1_creep 71 = .ok (.ifCond .ge 7, 3) := dk_156 0 7 (dk_at dksX1_creep_3 2 rfl rfl)
theorem dX1_creep_74 : decode cX1_creep 74 = .ok (.iconst 1, 1) := dk_4 (dk_at dksX1_creep_3 5 rfl rfl)
theorem dX1_creep_75 : decode cX1_creep 75 = .ok (.goto 4, 3) := dk_167 0 4 (dk_at dksX1_creep_3 6 rfl rfl)
theorem dX1_creep_78 : decode cX1_creep 78 = .ok (.iconst 0, 1) := dk_3 (dk_at dksX1_creep_3 9 rfl rfl)
theorem dX1_creep_79 : decode cX1_creep 79 = .ok (.iadd, 1) := dk_96 (dk_at dksX1_creep_3 10 rfl rfl)
theorem dX1_creep_80 : decode cX1_creep 80 = .ok (.istore_n 2, 1) := dk_61 (dk_at dksX1_creep_3 11 rfl rfl)
theorem dX1_creep_81 : decode cX1_creep 81 = .ok (.iinc 3 1, 3) := dk_132 3 1 (dk_at dksX1_creep_3 12 rfl rfl)
theorem dX1_creep_84 : decode cX1_creep 84 = .ok (.goto (-71), 3) := dk_167 255 185 (dk_at dksX1_creep_3 15 rfl rfl)
theorem dX1_creep_87 : decode cX1_creep 87 = .ok (.iconst 0, 1) := dk_3 (dk_at dksX1_creep_3 18 rfl rfl)
theorem dX1_creep_88 : decode cX1_creep 88 = .ok (.istore_n 3, 1) := dk_62 (dk_at dksX1_creep_3 19 rfl rfl)
theorem dX1_creep_89 : decode cX1_creep 89 = .ok (.iload_n 3, 1) := dk_29 (dk_at dksX1_creep_3 20 rfl rfl)
theorem dX1_creep_90 : decode cX1_creep 90 = .ok (.aload_n 0, 1) := dk_42 (dk_at dksX1_creep_3 21 rfl rfl)
theorem dX1_creep_91 : decode cX1_creep 91 = .ok (.getfield 94, 3) := dk_180 0 94 (dk_at dksX1_creep_4 0 rfl rfl)
theorem dX1_creep_94 : decode cX1_creep 94 = .ok (.if_icmp .ge 29, 3) := dk_162 0 29 (dk_at dksX1_creep_4 3 rfl rfl)
theorem dX1_creep_97 : decode cX1_creep 97 = .ok (.aload_n 0, 1) := dk_42 (dk_at dksX1_creep_4 6 rfl rfl)
theorem dX1_creep_98 : decode cX1_creep 98 = .ok (.getfield 9, 3) := dk_180 0 9 (dk_at dksX1_creep_4 7 rfl rfl)
theorem dX1_creep_101 : decode cX1_creep 101 = .ok (.iload_n 3, 1) := dk_29 (dk_at dksX1_creep_4 10 rfl rfl)
theorem dX1_creep_102 : decode cX1_creep 102 = .ok (.dup2, 1) := dk_92 (dk_at dksX1_creep_4 11 rfl rfl)
theorem dX1_creep_103 : decode cX1_creep 103 = .ok (.saload, 1) := dk_53 (dk_at dksX1_creep_4 12 rfl rfl)
theorem dX1_creep_104 : decode cX1_creep 104 = .ok (.aload_n 1, 1) := dk_43 (dk_at dksX1_creep_4 13 rfl rfl)
theorem dX1_creep_105 : decode cX1_creep 105 = .ok (.iload_n 3, 1) := dk_29 (dk_at dksX1_creep_4 14 rfl rfl)
theorem dX1_creep_106 : decode cX1_creep 106 = .ok (.iconst 1, 1) := dk_4 (dk_at dksX1_creep_4 15 rfl rfl)
theorem dX1_creep_107 : decode cX1_creep 107 = .ok (.iadd, 1) := dk_96 (dk_at dksX1_creep_4 16 rfl rfl)
theorem dX1_creep_108 : decode cX1_creep 108 = .ok (.iaload, 1) := dk_46 (dk_at dksX1_creep_4 17 rfl rfl)
theorem dX1_creep_109 : decode cX1_creep 109 = .ok (.aload_n 1, 1) := dk_43 (dk_at dksX1_creep_4 18 rfl rfl)
theorem dX1_creep_110 : decode cX1_creep 110 = .ok (.iload_n 3, 1) := dk_29 (dk_at dksX1_creep_4 19 rfl rfl)
theorem dX1_creep_111 : decode cX1_creep 111 = .ok (.iaload, 1) := dk_46 (dk_at dksX1_creep_4 20 rfl rfl)
theorem dX1_creep_112 : decode cX1_creep 112 = .ok (.isub, 1) := dk_100 (dk_at dksX1_creep_4 21 rfl rfl)
theorem dX1_creep_113 : decode cX1_creep 113 = .ok (.i2s, 1) := dk_147 (dk_at dksX1_creep_4 22 rfl rfl)
theorem dX1_creep_114 : decode cX1_creep 114 = .ok (.iadd, 1) := dk_96 (dk_at dksX1_creep_4 23 rfl rfl)
theorem dX1_creep_115 : decode cX1_creep 115 = .ok (.i2s, 1) := dk_147 (dk_at dksX1_creep_5 0 rfl rfl)
theorem dX1_creep_116 : decode cX1_creep 116 = .ok (.sastore, 1) := dk_86 (dk_at dksX1_creep_5 1 rfl rfl)
theorem dX1_creep_117 : decode cX1_creep 117 = .ok (.iinc 3 1, 3) := dk_132 3 1 (dk_at dksX1_creep_5 2 rfl rfl)
theorem dX1_creep_120 : decode cX1_creep 120 = .ok (.goto (-31), 3) := dk_167 255 225 (dk_at dksX1_creep_5 5 rfl rfl)
theorem dX1_creep_123 : decode cX1_creep 123 = .ok (.iload_n 2, 1) := dk_28 (dk_at dksX1_creep_5 8 rfl rfl)
theorem dX1_creep_124 : decode cX1_creep 124 = .ok (.ireturn, 1) := dk_172 (dk_at dksX1_creep_5 9 rfl rfl)
abbrev cX1_depthOrBank : ByteArray := prog_2_method_17_code
def yX1_depthOrBank : MethodName := ⟨RX1, "depthOrBank", "(I)I"⟩
def dkwX1_depthOrBank_1 : List UInt8 := [172]
abbrev dktX1_depthOrBank_1 : List UInt8 := dkwX1_depthOrBank_1 ++ []
def dkwX1_depthOrBank_0 : List UInt8 := [27, 3, 42, 180, 0, 94, 4, 100, 184, 0, 84, 153, 0, 12, 42, 180, 0, 9, 27, 53, 167, 0, 4, 3]
abbrev dktX1_depthOrBank_0 : List UInt8 := dkwX1_depthOrBank_0 ++ dktX1_depthOrBank_1
theorem dksX1_depthOrBank_0 : cX1_depthOrBank.data.toList.drop 0 = dktX1_depthOrBank_0 := by decide +kernel
theorem dksX1_depthOrBank_1 : cX1_depthOrBank.data.toList.drop 24 = dktX1_depthOrBank_1 := dk_seg dksX1_depthOrBank_0 24 rfl rfl
theorem dX1_depthOrBank_0 : decode cX1_depthOrBank 0 = .ok (.iload_n 1, 1) := dk_27 (dk_at dksX1_depthOrBank_0 0 rfl rfl)
theorem dX1_depthOrBank_1 : decode cX1_depthOrBank 1 = .ok (.iconst 0, 1) := dk_3 (dk_at dksX1_depthOrBank_0 1 rfl rfl)
theorem dX1_depthOrBank_2 : decode cX1_depthOrBank 2 = .ok (.aload_n 0, 1) := dk_42 (dk_at dksX1_depthOrBank_0 2 rfl rfl)
theorem dX1_depthOrBank_3 : decode cX1_depthOrBank 3 = .ok (.getfield 94, 3) := dk_180 0 94 (dk_at dksX1_depthOrBank_0 3 rfl rfl)
theorem dX1_depthOrBank_6 : decode cX1_depthOrBank 6 = .ok (.iconst 1, 1) := dk_4 (dk_at dksX1_depthOrBank_0 6 rfl rfl)
theorem dX1_depthOrBank_7 : decode cX1_depthOrBank 7 = .ok (.isub, 1) := dk_100 (dk_at dksX1_depthOrBank_0 7 rfl rfl)
theorem dX1_depthOrBank_8 : decode cX1_depthOrBank 8 = .ok (.invokestatic 84, 3) := dk_184 0 84 (dk_at dksX1_depthOrBank_0 8 rfl rfl)
theorem dX1_depthOrBank_11 : decode cX1_depthOrBank 11 = .ok (.ifCond .eq 12, 3) := dk_153 0 12 (dk_at dksX1_depthOrBank_0 11 rfl rfl)
theorem dX1_depthOrBank_14 : decode cX1_depthOrBank 14 = .ok (.aload_n 0, 1) := dk_42 (dk_at dksX1_depthOrBank_0 14 rfl rfl)
theorem dX1_depthOrBank_15 : decode cX1_depthOrBank 15 = .ok (.getfield 9, 3) := dk_180 0 9 (dk_at dksX1_depthOrBank_0 15 rfl rfl)
theorem dX1_depthOrBank_18 : decode cX1_depthOrBank 18 = .ok (.iload_n 1, 1) := dk_27 (dk_at dksX1_depthOrBank_0 18 rfl rfl)
theorem dX1_depthOrBank_19 : decode cX1_depthOrBank 19 = .ok (.saload, 1) := dk_53 (dk_at dksX1_depthOrBank_0 19 rfl rfl)
theorem dX1_depthOrBank_20 : decode cX1_depthOrBank 20 = .ok (.goto 4, 3) := dk_167 0 4 (dk_at dksX1_depthOrBank_0 20 rfl rfl)
theorem dX1_depthOrBank_23 : decode cX1_depthOrBank 23 = .ok (.iconst 0, 1) := dk_3 (dk_at dksX1_depthOrBank_0 23 rfl rfl)
theorem dX1_depthOrBank_24 : decode cX1_depthOrBank 24 = .ok (.ireturn, 1) := dk_172 (dk_at dksX1_depthOrBank_1 0 rfl rfl)
abbrev cX1_creeps : ByteArray := prog_2_method_16_code
def yX1_creeps : MethodName := ⟨RX1, "creeps", "(II)I"⟩
def dkwX1_creeps_1 : List UInt8 := [167, 0, 4, 4, 172]
abbrev dktX1_creeps_1 : List UInt8 := dkwX1_creeps_1 ++ []
def dkwX1_creeps_0 : List UInt8 := [27, 28, 100, 184, 0, 157, 42, 180, 0, 62, 163, 0, 7, 3, 167, 0, 13, 27, 28, 164, 0, 7, 2]
abbrev dktX1_creeps_0 : List UInt8 := dkwX1_creeps_0 ++ dktX1_creeps_1
theorem dksX1_creeps_0 : cX1_creeps.data.toList.drop 0 = dktX1_creeps_0 := by decide +kernel
theorem dksX1_creeps_1 : cX1_creeps.data.toList.drop 23 = dktX1_creeps_1 := dk_seg dksX1_creeps_0 23 rfl rfl
theorem dX1_creeps_0 : decode cX1_creeps 0 = .ok (.iload_n 1, 1) := dk_27 (dk_at dksX1_creeps_0 0 rfl rfl)
theorem dX1_creeps_1 : decode cX1_creeps 1 = .ok (.iload_n 2, 1) := dk_28 (dk_at dksX1_creeps_0 1 rfl rfl)
theorem dX1_creeps_2 : decode cX1_creeps 2 = .ok (.isub, 1) := dk_100 (dk_at dksX1_creeps_0 2 rfl rfl)
theorem dX1_creeps_3 : decode cX1_creeps 3 = .ok (.invokestatic 157, 3) := dk_184 0 157 (dk_at dksX1_creeps_0 3 rfl rfl)
theorem dX1_creeps_6 : decode cX1_creeps 6 = .ok (.aload_n 0, 1) := dk_42 (dk_at dksX1_creeps_0 6 rfl rfl)
theorem dX1_creeps_7 : decode cX1_creeps 7 = .ok (.getfield 62, 3) := dk_180 0 62 (dk_at dksX1_creeps_0 7 rfl rfl)
theorem dX1_creeps_10 : decode cX1_creeps 10 = .ok (.if_icmp .gt 7, 3) := dk_163 0 7 (dk_at dksX1_creeps_0 10 rfl rfl)
theorem dX1_creeps_13 : decode cX1_creeps 13 = .ok (.iconst 0, 1) := dk_3 (dk_at dksX1_creeps_0 13 rfl rfl)
theorem dX1_creeps_14 : decode cX1_creeps 14 = .ok (.goto 13, 3) := dk_167 0 13 (dk_at dksX1_creeps_0 14 rfl rfl)
theorem dX1_creeps_17 : decode cX1_creeps 17 = .ok (.iload_n 1, 1) := dk_27 (dk_at dksX1_creeps_0 17 rfl rfl)
theorem dX1_creeps_18 : decode cX1_creeps 18 = .ok (.iload_n 2, 1) := dk_28 (dk_at dksX1_creeps_0 18 rfl rfl)
theorem dX1_creeps_19 : decode cX1_creeps 19 = .ok (.if_icmp .le 7, 3) := dk_164 0 7 (dk_at dksX1_creeps_0 19 rfl rfl)
theorem dX1_creeps_22 : decode cX1_creeps 22 = .ok (.iconst (-1), 1) := dk_2 (dk_at dksX1_creeps_0 22 rfl rfl)
theorem dX1_creeps_23 : decode cX1_creeps 23 = .ok (.goto 4, 3) := dk_167 0 4 (dk_at dksX1_creeps_1 0 rfl rfl)
theorem dX1_creeps_26 : decode cX1_creeps 26 = .ok (.iconst 1, 1) := dk_4 (dk_at dksX1_creeps_1 3 rfl rfl)
theorem dX1_creeps_27 : decode cX1_creeps 27 = .ok (.ireturn, 1) := dk_172 (dk_at dksX1_creeps_1 4 rfl rfl)
abbrev cX1_tidy : ByteArray := prog_2_method_22_code
def yX1_tidy : MethodName := ⟨RX1, "tidy", "()V"⟩
def dkwX1_tidy_2 : List UInt8 := [185, 0, 201, 1, 0, 167, 255, 213, 177]
abbrev dktX1_tidy_2 : List UInt8 := dkwX1_tidy_2 ++ []
def dkwX1_tidy_1 : List UInt8 := [192, 0, 193, 77, 44, 180, 0, 195, 153, 0, 14, 44, 180, 0, 198, 42, 180, 0, 103, 162, 0, 9, 43]
abbrev dktX1_tidy_1 : List UInt8 := dkwX1_tidy_1 ++ dktX1_tidy_2
def dkwX1_tidy_0 : List UInt8 := [42, 180, 0, 41, 182, 0, 180, 76, 43, 185, 0, 184, 1, 0, 153, 0, 40, 43, 185, 0, 190, 1, 0]
abbrev dktX1_tidy_0 : List UInt8 := dkwX1_tidy_0 ++ dktX1_tidy_1
theorem dksX1_tidy_0 : cX1_tidy.data.toList.drop 0 = dktX1_tidy_0 := by decide +kernel
theorem dksX1_tidy_1 : cX1_tidy.data.toList.drop 23 = dktX1_tidy_1 := dk_seg dksX1_tidy_0 23 rfl rfl
theorem dksX1_tidy_2 : cX1_tidy.data.toList.drop 46 = dktX1_tidy_2 := dk_seg dksX1_tidy_1 23 rfl rfl
theorem dX1_tidy_0 : decode cX1_tidy 0 = .ok (.aload_n 0, 1) := dk_42 (dk_at dksX1_tidy_0 0 rfl rfl)
theorem dX1_tidy_1 : decode cX1_tidy 1 = .ok (.getfield 41, 3) := dk_180 0 41 (dk_at dksX1_tidy_0 1 rfl rfl)
theorem dX1_tidy_4 : decode cX1_tidy 4 = .ok (.invokevirtual 180, 3) := dk_182 0 180 (dk_at dksX1_tidy_0 4 rfl rfl)
theorem dX1_tidy_7 : decode cX1_tidy 7 = .ok (.astore_n 1, 1) := dk_76 (dk_at dksX1_tidy_0 7 rfl rfl)
theorem dX1_tidy_8 : decode cX1_tidy 8 = .ok (.aload_n 1, 1) := dk_43 (dk_at dksX1_tidy_0 8 rfl rfl)
theorem dX1_tidy_9 : decode cX1_tidy 9 = .ok (.invokeinterface 184 1, 5) := by decide +kernel
theorem dX1_tidy_14 : decode cX1_tidy 14 = .ok (.ifCond .eq 40, 3) := dk_153 0 40 (dk_at dksX1_tidy_0 14 rfl rfl)
theorem dX1_tidy_17 : decode cX1_tidy 17 = .ok (.aload_n 1, 1) := dk_43 (dk_at dksX1_tidy_0 17 rfl rfl)
theorem dX1_tidy_18 : decode cX1_tidy 18 = .ok (.invokeinterface 190 1, 5) := by decide +kernel
theorem dX1_tidy_23 : decode cX1_tidy 23 = .ok (.checkcast 193, 3) := dk_192 0 193 (dk_at dksX1_tidy_1 0 rfl rfl)
theorem dX1_tidy_26 : decode cX1_tidy 26 = .ok (.astore_n 2, 1) := dk_77 (dk_at dksX1_tidy_1 3 rfl rfl)
theorem dX1_tidy_27 : decode cX1_tidy 27 = .ok (.aload_n 2, 1) := dk_44 (dk_at dksX1_tidy_1 4 rfl rfl)
theorem dX1_tidy_28 : decode cX1_tidy 28 = .ok (.getfield 195, 3) := dk_180 0 195 (dk_at dksX1_tidy_1 5 rfl rfl)
theorem dX1_tidy_31 : decode cX1_tidy 31 = .ok (.ifCond .eq 14, 3) := dk_153 0 14 (dk_at dksX1_tidy_1 8 rfl rfl)
theorem dX1_tidy_34 : decode cX1_tidy 34 = .ok (.aload_n 2, 1) := dk_44 (dk_at dksX1_tidy_1 11 rfl rfl)
theorem dX1_tidy_35 : decode cX1_tidy 35 = .ok (.getfield 198, 3) := dk_180 0 198 (dk_at dksX1_tidy_1 12 rfl rfl)
theorem dX1_tidy_38 : decode cX1_tidy 38 = .ok (.aload_n 0, 1) := dk_42 (dk_at dksX1_tidy_1 15 rfl rfl)
theorem dX1_tidy_39 : decode cX1_tidy 39 = .ok (.getfield 103, 3) := dk_180 0 103 (dk_at dksX1_tidy_1 16 rfl rfl)
theorem dX1_tidy_42 : decode cX1_tidy 42 = .ok (.if_icmp .ge 9, 3) := dk_162 0 9 (dk_at dksX1_tidy_1 19 rfl rfl)
theorem dX1_tidy_45 : decode cX1_tidy 45 = .ok (.aload_n 1, 1) := dk_43 (dk_at dksX1_tidy_1 22 rfl rfl)
theorem dX1_tidy_46 : decode cX1_tidy 46 = .ok (.invokeinterface 201 1, 5) := by decide +kernel
theorem dX1_tidy_51 : decode cX1_tidy 51 = .ok (.goto (-43), 3) := dk_167 255 213 (dk_at dksX1_tidy_2 5 rfl rfl)
theorem dX1_tidy_54 : decode cX1_tidy 54 = .ok (.return_, 1) := dk_177 (dk_at dksX1_tidy_2 8 rfl rfl)
abbrev cX1_addGround : ByteArray := prog_2_method_23_code
def yX1_addGround : MethodName := ⟨RX1, "addGround", "(II)I"⟩
def dkwX1_addGround_3 : List UInt8 := [182, 0, 179, 4, 100, 172]
abbrev dktX1_addGround_3 : List UInt8 := dkwX1_addGround_3 ++ []
def dkwX1_addGround_2 : List UInt8 := [184, 0, 125, 42, 180, 0, 34, 187, 0, 204, 89, 27, 28, 183, 0, 206, 182, 0, 207, 87, 42, 180, 0, 34]
abbrev dktX1_addGround_2 : List UInt8 := dkwX1_addGround_2 ++ dktX1_addGround_3
def dkwX1_addGround_1 : List UInt8 := [167, 0, 4, 3, 184, 0, 121, 42, 180, 0, 34, 182, 0, 179, 6, 162, 0, 7, 4, 167, 0, 4, 3]
abbrev dktX1_addGround_1 : List UInt8 := dkwX1_addGround_1 ++ dktX1_addGround_2
def dkwX1_addGround_0 : List UInt8 := [27, 4, 17, 19, 136, 184, 0, 84, 153, 0, 17, 28, 3, 16, 90, 184, 0, 84, 153, 0, 7, 4]
abbrev dktX1_addGround_0 : List UInt8 := dkwX1_addGround_0 ++ dktX1_addGround_1
theorem dksX1_addGround_0 : cX1_addGround.data.toList.drop 0 = dktX1_addGround_0 := by decide +kernel
theorem dksX1_addGround_1 : cX1_addGround.data.toList.drop 22 = dktX1_addGround_1 := dk_seg dksX1_addGround_0 22 rfl rfl
theorem dksX1_addGround_2 : cX1_addGround.data.toList.drop 45 = dktX1_addGround_2 := dk_seg dksX1_addGround_1 23 rfl rfl
theorem dksX1_addGround_3 : cX1_addGround.data.toList.drop 69 = dktX1_addGround_3 := dk_seg dksX1_addGround_2 24 rfl rfl
theorem dX1_addGround_0 : decode cX1_addGround 0 = .ok (.iload_n 1, 1) := dk_27 (dk_at dksX1_addGround_0 0 rfl rfl)
theorem dX1_addGround_1 : decode cX1_addGround 1 = .ok (.iconst 1, 1) := dk_4 (dk_at dksX1_addGround_0 1 rfl rfl)
theorem dX1_addGround_2 : decode cX1_addGround 2 = .ok (.sipush 5000, 3) := dk_17 19 136 (dk_at dksX1_addGround_0 2 rfl rfl)
theorem dX1_addGround_5 : decode cX1_addGround 5 = .ok (.invokestatic 84, 3) := dk_184 0 84 (dk_at dksX1_addGround_0 5 rfl rfl)
theorem dX1_addGround_8 : decode cX1_addGround 8 = .ok (.ifCond .eq 17, 3) := dk_153 0 17 (dk_at dksX1_addGround_0 8 rfl rfl)
theorem dX1_addGround_11 : decode cX1_addGround 11 = .ok (.iload_n 2, 1) := dk_28 (dk_at dksX1_addGround_0 11 rfl rfl)
theorem dX1_addGround_12 : decode cX1_addGround 12 = .ok (.iconst 0, 1) := dk_3 (dk_at dksX1_addGround_0 12 rfl rfl)
theorem dX1_addGround_13 : decode cX1_addGround 13 = .ok (.bipush 90, 2) := dk_16 90 (dk_at dksX1_addGround_0 13 rfl rfl)
theorem dX1_addGround_15 : decode cX1_addGround 15 = .ok (.invokestatic 84, 3) := dk_184 0 84 (dk_at dksX1_addGround_0 15 rfl rfl)
theorem dX1_addGround_18 : decode cX1_addGround 18 = .ok (.ifCond .eq 7, 3) := dk_153 0 7 (dk_at dksX1_addGround_0 18 rfl rfl)
theorem dX1_addGround_21 : decode cX1_addGround 21 = .ok (.iconst 1, 1) := dk_4 (dk_at dksX1_addGround_0 21 rfl rfl)
theorem dX1_addGround_22 : decode cX1_addGround 22 = .ok (.goto 4, 3) := dk_167 0 4 (dk_at dksX1_addGround_1 0 rfl rfl)
theorem dX1_addGround_25 : decode cX1_addGround 25 = .ok (.iconst 0, 1) := dk_3 (dk_at dksX1_addGround_1 3 rfl rfl)
theorem dX1_addGround_26 : decode cX1_addGround 26 = .ok (.invokestatic 121, 3) := dk_184 0 121 (dk_at dksX1_addGround_1 4 rfl rfl)
theorem dX1_addGround_29 : decode cX1_addGround 29 = .ok (.aload_n 0, 1) := dk_42 (dk_at dksX1_addGround_1 7 rfl rfl)
theorem dX1_addGround_30 : decode cX1_addGround 30 = .ok (.getfield 34, 3) := dk_180 0 34 (dk_at dksX1_addGround_1 8 rfl rfl)
theorem dX1_addGround_33 : decode cX1_addGround 33 = .ok (.invokevirtual 179, 3) := dk_182 0 179 (dk_at dksX1_addGround_1 11 rfl rfl)
theorem dX1_addGround_36 : decode cX1_addGround 36 = .ok (.iconst 3, 1) := dk_6 (dk_at dksX1_addGround_1 14 rfl rfl)
theorem dX1_addGround_37 : decode cX1_addGround 37 = .ok (.if_icmp .ge 7, 3) := dk_162 0 7 (dk_at dksX1_addGround_1 15 rfl rfl)
theorem dX1_addGround_40 : decode cX1_addGround 40 = .ok (.iconst 1, 1) := dk_4 (dk_at dksX1_addGround_1 18 rfl rfl)
theorem dX1_addGround_41 : decode cX1_addGround 41 = .ok (.goto 4, 3) := dk_167 0 4 (dk_at dksX1_addGround_1 19 rfl rfl)
theorem dX1_addGround_44 : decode cX1_addGround 44 = .ok (.iconst 0, 1) := dk_3 (dk_at dksX1_addGround_1 22 rfl rfl)
theorem dX1_addGround_45 : decode cX1_addGround 45 = .ok (.invokestatic 125, 3) := dk_184 0 125 (dk_at dksX1_addGround_2 0 rfl rfl)
theorem dX1_addGround_48 : decode cX1_addGround 48 = .ok (.aload_n 0, 1) := dk_42 (dk_at dksX1_addGround_2 3 rfl rfl)
theorem dX1_addGround_49 : decode cX1_addGround 49 = .ok (.getfield 34, 3) := dk_180 0 34 (dk_at dksX1_addGround_2 4 rfl rfl)
theorem dX1_addGround_52 : decode cX1_addGround 52 = .ok (.new 204, 3) := dk_187 0 204 (dk_at dksX1_addGround_2 7 rfl rfl)
theorem dX1_addGround_55 : decode cX1_addGround 55 = .ok (.dup, 1) := dk_89 (dk_at dksX1_addGround_2 10 rfl rfl)
theorem dX1_addGround_56 : decode cX1_addGround 56 = .ok (.iload_n 1, 1) := dk_27 (dk_at dksX1_addGround_2 11 rfl rfl)
theorem dX1_addGround_57 : decode cX1_addGround 57 = .ok (.iload_n 2, 1) := dk_28 (dk_at dksX1_addGround_2 12 rfl rfl)
theorem dX1_addGround_58 : decode cX1_addGround 58 = .ok (.invokespecial 206, 3) := dk_183 0 206 (dk_at dksX1_addGround_2 13 rfl rfl)
theorem dX1_addGround_61 : decode cX1_addGround 61 = .ok (.invokevirtual 207, 3) := dk_182 0 207 (dk_at dksX1_addGround_2 16 rfl rfl)
theorem dX1_addGround_64 : decode cX1_addGround 64 = .ok (.pop, 1) := dk_87 (dk_at dksX1_addGround_2 19 rfl rfl)
theorem dX1_addGround_65 : decode cX1_addGround 65 = .ok (.aload_n 0, 1) := dk_42 (dk_at dksX1_addGround_2 20 rfl rfl)
theorem dX1_addGround_66 : decode cX1_addGround 66 = .ok (.getfield 34, 3) := dk_180 0 34 (dk_at dksX1_addGround_2 21 rfl rfl)
theorem dX1_addGround_69 : decode cX1_addGround 69 = .ok (.invokevirtual 179, 3) := dk_182 0 179 (dk_at dksX1_addGround_3 0 rfl rfl)
theorem dX1_addGround_72 : decode cX1_addGround 72 = .ok (.iconst 1, 1) := dk_4 (dk_at dksX1_addGround_3 3 rfl rfl)
theorem dX1_addGround_73 : decode cX1_addGround 73 = .ok (.isub, 1) := dk_100 (dk_at dksX1_addGround_3 4 rfl rfl)
theorem dX1_addGround_74 : decode cX1_addGround 74 = .ok (.ireturn, 1) := dk_172 (dk_at dksX1_addGround_3 5 rfl rfl)
abbrev cX1_setTide : ByteArray := prog_2_method_24_code
def yX1_setTide : MethodName := ⟨RX1, "setTide", "(I)I"⟩
def dkwX1_setTide_0 : List UInt8 := [27, 3, 16, 90, 184, 0, 84, 184, 0, 121, 42, 180, 0, 210, 61, 42, 27, 181, 0, 210, 28, 172]
abbrev dktX1_setTide_0 : List UInt8 := dkwX1_setTide_0 ++ []
theorem dksX1_setTide_0 : cX1_setTide.data.toList.drop 0 = dktX1_setTide_0 := by decide +kernel
theorem dX1_setTide_0 : decode cX1_setTide 0 = .ok (.iload_n 1, 1) := dk_27 (dk_at dksX1_setTide_0 0 rfl rfl)
theorem dX1_setTide_1 : decode cX1_setTide 1 = .ok (.iconst 0, 1) := dk_3 (dk_at dksX1_setTide_0 1 rfl rfl)
theorem dX1_setTide_2 : decode cX1_setTide 2 = .ok (.bipush 90, 2) := dk_16 90 (dk_at dksX1_setTide_0 2 rfl rfl)
theorem dX1_setTide_4 : decode cX1_setTide 4 = .ok (.invokestatic 84, 3) := dk_184 0 84 (dk_at dksX1_setTide_0 4 rfl rfl)
theorem dX1_setTide_7 : decode cX1_setTide 7 = .ok (.invokestatic 121, 3) := dk_184 0 121 (dk_at dksX1_setTide_0 7 rfl rfl)
theorem dX1_setTide_10 : decode cX1_setTide 10 = .ok (.aload_n 0, 1) := dk_42 (dk_at dksX1_setTide_0 10 rfl rfl)
theorem dX1_setTide_11 : decode cX1_setTide 11 = .ok (.getfield 210, 3) := dk_180 0 210 (dk_at dksX1_setTide_0 11 rfl rfl)
theorem dX1_setTide_14 : decode cX1_setTide 14 = .ok (.istore_n 2, 1) := dk_61 (dk_at dksX1_setTide_0 14 rfl rfl)
theorem dX1_setTide_15 : decode cX1_setTide 15 = .ok (.aload_n 0, 1) := dk_42 (dk_at dksX1_setTide_0 15 rfl rfl)
theorem dX1_setTide_16 : decode cX1_setTide 16 = .ok (.iload_n 1, 1) := dk_27 (dk_at dksX1_setTide_0 16 rfl rfl)
theorem dX1_setTide_17 : decode cX1_setTide 17 = .ok (.putfield 210, 3) := dk_181 0 210 (dk_at dksX1_setTide_0 17 rfl rfl)
theorem dX1_setTide_20 : decode cX1_setTide 20 = .ok (.iload_n 2, 1) := dk_28 (dk_at dksX1_setTide_0 20 rfl rfl)
theorem dX1_setTide_21 : decode cX1_setTide 21 = .ok (.ireturn, 1) := dk_172 (dk_at dksX1_setTide_0 21 rfl rfl)
abbrev cX1_permit : ByteArray := prog_2_method_25_code
def yX1_permit : MethodName := ⟨RX1, "permit", "(IIII)I"⟩
def dkwX1_permit_4 : List UInt8 := [180, 0, 41, 182, 0, 219, 172]
abbrev dktX1_permit_4 : List UInt8 := dkwX1_permit_4 ++ []
def dkwX1_permit_3 : List UInt8 := [3, 184, 0, 125, 42, 180, 0, 41, 187, 0, 193, 89, 27, 28, 29, 21, 4, 183, 0, 220, 182, 0, 223, 42]
abbrev dktX1_permit_3 : List UInt8 := dkwX1_permit_3 ++ dktX1_permit_4
def dkwX1_permit_2 : List UInt8 := [4, 167, 0, 4, 3, 184, 0, 121, 42, 180, 0, 41, 182, 0, 219, 16, 8, 162, 0, 7, 4, 167, 0, 4]
abbrev dktX1_permit_2 : List UInt8 := dkwX1_permit_2 ++ dktX1_permit_3
def dkwX1_permit_1 : List UInt8 := [184, 0, 216, 17, 1, 144, 184, 0, 84, 153, 0, 19, 21, 4, 4, 17, 3, 231, 184, 0, 84, 153, 0, 7]
abbrev dktX1_permit_1 : List UInt8 := dkwX1_permit_1 ++ dktX1_permit_2
def dkwX1_permit_0 : List UInt8 := [42, 27, 182, 0, 213, 28, 3, 17, 1, 144, 184, 0, 84, 153, 0, 37, 29, 28, 42, 180, 0, 103]
abbrev dktX1_permit_0 : List UInt8 := dkwX1_permit_0 ++ dktX1_permit_1
theorem dksX1_permit_0 : cX1_permit.data.toList.drop 0 = dktX1_permit_0 := by decide +kernel
theorem dksX1_permit_1 : cX1_permit.data.toList.drop 22 = dktX1_permit_1 := dk_seg dksX1_permit_0 22 rfl rfl
theorem dksX1_permit_2 : cX1_permit.data.toList.drop 46 = dktX1_permit_2 := dk_seg dksX1_permit_1 24 rfl rfl
theorem dksX1_permit_3 : cX1_permit.data.toList.drop 70 = dktX1_permit_3 := dk_seg dksX1_permit_2 24 rfl rfl
theorem dksX1_permit_4 : cX1_permit.data.toList.drop 94 = dktX1_permit_4 := dk_seg dksX1_permit_3 24 rfl rfl
theorem dX1_permit_0 : decode cX1_permit 0 = .ok (.aload_n 0, 1) := dk_42 (dk_at dksX1_permit_0 0 rfl rfl)
theorem dX1_permit_1 : decode cX1_permit 1 = .ok (.iload_n 1, 1) := dk_27 (dk_at dksX1_permit_0 1 rfl rfl)
theorem dX1_permit_2 : decode cX1_permit 2 = .ok (.invokevirtual 213, 3) := dk_182 0 213 (dk_at dksX1_permit_0 2 rfl rfl)
theorem dX1_permit_5 : decode cX1_permit 5 = .ok (.iload_n 2, 1) := dk_28 (dk_at dksX1_permit_0 5 rfl rfl)
theorem dX1_permit_6 : decode cX1_permit 6 = .ok (.iconst 0, 1) := dk_3 (dk_at dksX1_permit_0 6 rfl rfl)
theorem dX1_permit_7 : decode cX1_permit 7 = .ok (.sipush 400, 3) := dk_17 1 144 (dk_at dksX1_permit_0 7 rfl rfl)
theorem dX1_permit_10 : decode cX1_permit 10 = .ok (.invokestatic 84, 3) := dk_184 0 84 (dk_at dksX1_permit_0 10 rfl rfl)
theorem dX1_permit_13 : decode cX1_permit 13 = .ok (.ifCond .eq 37, 3) := dk_153 0 37 (dk_at dksX1_permit_0 13 rfl rfl)
theorem dX1_permit_16 : decode cX1_permit 16 = .ok (.iload_n 3, 1) := dk_29 (dk_at dksX1_permit_0 16 rfl rfl)
theorem dX1_permit_17 : decode cX1_permit 17 = .ok (.iload_n 2, 1) := dk_28 (dk_at dksX1_permit_0 17 rfl rfl)
theorem dX1_permit_18 : decode cX1_permit 18 = .ok (.aload_n 0, 1) := dk_42 (dk_at dksX1_permit_0 18 rfl rfl)
theorem dX1_permit_19 : decode cX1_permit 19 = .ok (.getfield 103, 3) := dk_180 0 103 (dk_at dksX1_permit_0 19 rfl rfl)
theorem dX1_permit_22 : decode cX1_permit 22 = .ok (.invokestatic 216, 3) := dk_184 0 216 (dk_at dksX1_permit_1 0 rfl rfl)
theorem dX1_permit_25 : decode cX1_permit 25 = .ok (.sipush 400, 3) := dk_17 1 144 (dk_at dksX1_permit_1 3 rfl rfl)
theorem dX1_permit_28 : decode cX1_permit 28 = .ok (.invokestatic 84, 3) := dk_184 0 84 (dk_at dksX1_permit_1 6 rfl rfl)
theorem dX1_permit_31 : decode cX1_permit 31 = .ok (.ifCond .eq 19, 3) := dk_153 0 19 (dk_at dksX1_permit_1 9 rfl rfl)
theorem dX1_permit_34 : decode cX1_permit 34 = .ok (.iload 4, 2) := dk_21 4 (dk_at dksX1_permit_1 12 rfl rfl)
theorem dX1_permit_36 : decode cX1_permit 36 = .ok (.iconst 1, 1) := dk_4 (dk_at dksX1_permit_1 14 rfl rfl)
theorem dX1_permit_37 : decode cX1_permit 37 = .ok (.sipush 999, 3) := dk_17 3 231 (dk_at dksX1_permit_1 15 rfl rfl)
theorem dX1_permit_40 : decode cX1_permit 40 = .ok (.invokestatic 84, 3) := dk_184 0 84 (dk_at dksX1_permit_1 18 rfl rfl)
theorem dX1_permit_43 : decode cX1_permit 43 = .ok (.ifCond .eq 7, 3) := dk_153 0 7 (dk_at dksX1_permit_1 21 rfl rfl)
theorem dX1_permit_46 : decode cX1_permit 46 = .ok (.iconst 1, 1) := dk_4 (dk_at dksX1_permit_2 0 rfl rfl)
theorem dX1_permit_47 : decode cX1_permit 47 = .ok (.goto 4, 3) := dk_167 0 4 (dk_at dksX1_permit_2 1 rfl rfl)
theorem dX1_permit_50 : decode cX1_permit 50 = .ok (.iconst 0, 1) := dk_3 (dk_at dksX1_permit_2 4 rfl rfl)
theorem dX1_permit_51 : decode cX1_permit 51 = .ok (.invokestatic 121, 3) := dk_184 0 121 (dk_at dksX1_permit_2 5 rfl rfl)
theorem dX1_permit_54 : decode cX1_permit 54 = .ok (.aload_n 0, 1) := dk_42 (dk_at dksX1_permit_2 8 rfl rfl)
theorem dX1_permit_55 : decode cX1_permit 55 = .ok (.getfield 41, 3) := dk_180 0 41 (dk_at dksX1_permit_2 9 rfl rfl)
theorem dX1_permit_58 : decode cX1_permit 58 = .ok (.invokevirtual 219, 3) := dk_182 0 219 (dk_at dksX1_permit_2 12 rfl rfl)
theorem dX1_permit_61 : decode cX1_permit 61 = .ok (.bipush 8, 2) := dk_16 8 (dk_at dksX1_permit_2 15 rfl rfl)
theorem dX1_permit_63 : decode cX1_permit 63 = .ok (.if_icmp .ge 7, 3) := dk_162 0 7 (dk_at dksX1_permit_2 17 rfl rfl)
theorem dX1_permit_66 : decode cX1_permit 66 = .ok (.iconst 1, 1) := dk_4 (dk_at dksX1_permit_2 20 rfl rfl)
theorem dX1_permit_67 : decode cX1_permit 67 = .ok (.goto 4, 3) := dk_167 0 4 (dk_at dksX1_permit_2 21 rfl rfl)
theorem dX1_permit_70 : decode cX1_permit 70 = .ok (.iconst 0, 1) := dk_3 (dk_at dksX1_permit_3 0 rfl rfl)
theorem dX1_permit_71 : decode cX1_permit 71 = .ok (.invokestatic 125, 3) := dk_184 0 125 (dk_at dksX1_permit_3 1 rfl rfl)
theorem dX1_permit_74 : decode cX1_permit 74 = .ok (.aload_n 0, 1) := dk_42 (dk_at dksX1_permit_3 4 rfl rfl)
theorem dX1_permit_75 : decode cX1_permit 75 = .ok (.getfield 41, 3) := dk_180 0 41 (dk_at dksX1_permit_3 5 rfl rfl)
theorem dX1_permit_78 : decode cX1_permit 78 = .ok (.new 193, 3) := dk_187 0 193 (dk_at dksX1_permit_3 8 rfl rfl)
theorem dX1_permit_81 : decode cX1_permit 81 = .ok (.dup, 1) := dk_89 (dk_at dksX1_permit_3 11 rfl rfl)
theorem dX1_permit_82 : decode cX1_permit 82 = .ok (.iload_n 1, 1) := dk_27 (dk_at dksX1_permit_3 12 rfl rfl)
theorem dX1_permit_83 : decode cX1_permit 83 = .ok (.iload_n 2, 1) := dk_28 (dk_at dksX1_permit_3 13 rfl rfl)
theorem dX1_permit_84 : decode cX1_permit 84 = .ok (.iload_n 3, 1) := dk_29 (dk_at dksX1_permit_3 14 rfl rfl)
theorem dX1_permit_85 : decode cX1_permit 85 = .ok (.iload 4, 2) := dk_21 4 (dk_at dksX1_permit_3 15 rfl rfl)
theorem dX1_permit_87 : decode cX1_permit 87 = .ok (.invokespecial 220, 3) := dk_183 0 220 (dk_at dksX1_permit_3 17 rfl rfl)
theorem dX1_permit_90 : decode cX1_permit 90 = .ok (.invokevirtual 223, 3) := dk_182 0 223 (dk_at dksX1_permit_3 20 rfl rfl)
theorem dX1_permit_93 : decode cX1_permit 93 = .ok (.aload_n 0, 1) := dk_42 (dk_at dksX1_permit_3 23 rfl rfl)
theorem dX1_permit_94 : decode cX1_permit 94 = .ok (.getfield 41, 3) := dk_180 0 41 (dk_at dksX1_permit_4 0 rfl rfl)
theorem dX1_permit_97 : decode cX1_permit 97 = .ok (.invokevirtual 219, 3) := dk_182 0 219 (dk_at dksX1_permit_4 3 rfl rfl)
theorem dX1_permit_100 : decode cX1_permit 100 = .ok (.ireturn, 1) := dk_172 (dk_at dksX1_permit_4 6 rfl rfl)
abbrev cX1_checkGround : ByteArray := prog_2_method_21_code
def yX1_checkGround : MethodName := ⟨RX1, "checkGround", "(I)V"⟩
def dkwX1_checkGround_0 : List UInt8 := [27, 42, 180, 0, 34, 182, 0, 179, 184, 0, 97, 177]
abbrev dktX1_checkGround_0 : List UInt8 := dkwX1_checkGround_0 ++ []
theorem dksX1_checkGround_0 : cX1_checkGround.data.toList.drop 0 = dktX1_checkGround_0 := by decide +kernel
theorem dX1_checkGround_0 : decode cX1_checkGround 0 = .ok (.iload_n 1, 1) := dk_27 (dk_at dksX1_checkGround_0 0 rfl rfl)
theorem dX1_checkGround_1 : decode cX1_checkGround 1 = .ok (.aload_n 0, 1) := dk_42 (dk_at dksX1_checkGround_0 1 rfl rfl)
theorem dX1_checkGround_2 : decode cX1_checkGround 2 = .ok (.getfield 34, 3) := dk_180 0 34 (dk_at dksX1_checkGround_0 2 rfl rfl)
theorem dX1_checkGround_5 : decode cX1_checkGround 5 = .ok (.invokevirtual 179, 3) := dk_182 0 179 (dk_at dksX1_checkGround_0 5 rfl rfl)
theorem dX1_checkGround_8 : decode cX1_checkGround 8 = .ok (.invokestatic 97, 3) := dk_184 0 97 (dk_at dksX1_checkGround_0 8 rfl rfl)
theorem dX1_checkGround_11 : decode cX1_checkGround 11 = .ok (.return_, 1) := dk_177 (dk_at dksX1_checkGround_0 11 rfl rfl)
abbrev cX1_permitted : ByteArray := prog_2_method_28_code
def yX1_permitted : MethodName := ⟨RX1, "permitted", "(I)I"⟩
def dkwX1_permitted_0 : List UInt8 := [42, 27, 182, 0, 213, 42, 27, 182, 0, 230, 172]
abbrev dktX1_permitted_0 : List UInt8 := dkwX1_permitted_0 ++ []
theorem dksX1_permitted_0 : cX1_permitted.data.toList.drop 0 = dktX1_permitted_0 := by decide +kernel
theorem dX1_permitted_0 : decode cX1_permitted 0 = .ok (.aload_n 0, 1) := dk_42 (dk_at dksX1_permitted_0 0 rfl rfl)
theorem dX1_permitted_1 : decode cX1_permitted 1 = .ok (.iload_n 1, 1) := dk_27 (dk_at dksX1_permitted_0 1 rfl rfl)
theorem dX1_permitted_2 : decode cX1_permitted 2 = .ok (.invokevirtual 213, 3) := dk_182 0 213 (dk_at dksX1_permitted_0 2 rfl rfl)
theorem dX1_permitted_5 : decode cX1_permitted 5 = .ok (.aload_n 0, 1) := dk_42 (dk_at dksX1_permitted_0 5 rfl rfl)
theorem dX1_permitted_6 : decode cX1_permitted 6 = .ok (.iload_n 1, 1) := dk_27 (dk_at dksX1_permitted_0 6 rfl rfl)
theorem dX1_permitted_7 : decode cX1_permitted 7 = .ok (.invokevirtual 230, 3) := dk_182 0 230 (dk_at dksX1_permitted_0 7 rfl rfl)
theorem dX1_permitted_10 : decode cX1_permitted 10 = .ok (.ireturn, 1) := dk_172 (dk_at dksX1_permitted_0 10 rfl rfl)
abbrev cX1_volumeFor : ByteArray := prog_2_method_27_code
def yX1_volumeFor : MethodName := ⟨RX1, "volumeFor", "(I)I"⟩
def dkwX1_volumeFor_2 : List UInt8 := [25, 4, 180, 0, 195, 167, 0, 4, 3, 96, 61, 167, 255, 211, 28, 172]
abbrev dktX1_volumeFor_2 : List UInt8 := dkwX1_volumeFor_2 ++ []
def dkwX1_volumeFor_1 : List UInt8 := [185, 0, 190, 1, 0, 192, 0, 193, 58, 4, 28, 25, 4, 27, 42, 180, 0, 103, 182, 0, 226, 153, 0, 11]
abbrev dktX1_volumeFor_1 : List UInt8 := dkwX1_volumeFor_1 ++ dktX1_volumeFor_2
def dkwX1_volumeFor_0 : List UInt8 := [3, 61, 42, 180, 0, 41, 182, 0, 180, 78, 45, 185, 0, 184, 1, 0, 153, 0, 42, 45]
abbrev dktX1_volumeFor_0 : List UInt8 := dkwX1_volumeFor_0 ++ dktX1_volumeFor_1
theorem dksX1_volumeFor_0 : cX1_volumeFor.data.toList.drop 0 = dktX1_volumeFor_0 := by decide +kernel
theorem dksX1_volumeFor_1 : cX1_volumeFor.data.toList.drop 20 = dktX1_volumeFor_1 := dk_seg dksX1_volumeFor_0 20 rfl rfl
theorem dksX1_volumeFor_2 : cX1_volumeFor.data.toList.drop 44 = dktX1_volumeFor_2 := dk_seg dksX1_volumeFor_1 24 rfl rfl
theorem dX1_volumeFor_0 : decode cX1_volumeFor 0 = .ok (.iconst 0, 1) := dk_3 (dk_at dksX1_volumeFor_0 0 rfl rfl)
theorem dX1_volumeFor_1 : decode cX1_volumeFor 1 = .ok (.istore_n 2, 1) := dk_61 (dk_at dksX1_volumeFor_0 1 rfl rfl)
theorem dX1_volumeFor_2 : decode cX1_volumeFor 2 = .ok (.aload_n 0, 1) := dk_42 (dk_at dksX1_volumeFor_0 2 rfl rfl)
theorem dX1_volumeFor_3 : decode cX1_volumeFor 3 = .ok (.getfield 41, 3) := dk_180 0 41 (dk_at dksX1_volumeFor_0 3 rfl rfl)
theorem dX1_volumeFor_6 : decode cX1_volumeFor 6 = .ok (.invokevirtual 180, 3) := dk_182 0 180 (dk_at dksX1_volumeFor_0 6 rfl rfl)
theorem dX1_volumeFor_9 : decode cX1_volumeFor 9 = .ok (.astore_n 3, 1) := dk_78 (dk_at dksX1_volumeFor_0 9 rfl rfl)
theorem dX1_volumeFor_10 : decode cX1_volumeFor 10 = .ok (.aload_n 3, 1) := dk_45 (dk_at dksX1_volumeFor_0 10 rfl rfl)
theorem dX1_volumeFor_11 : decode cX1_volumeFor 11 = .ok (.invokeinterface 184 1, 5) := by decide +kernel
theorem dX1_volumeFor_16 : decode cX1_volumeFor 16 = .ok (.ifCond .eq 42, 3) := dk_153 0 42 (dk_at dksX1_volumeFor_0 16 rfl rfl)
theorem dX1_volumeFor_19 : decode cX1_volumeFor 19 = .ok (.aload_n 3, 1) := dk_45 (dk_at dksX1_volumeFor_0 19 rfl rfl)
theorem dX1_volumeFor_20 : decode cX1_volumeFor 20 = .ok (.invokeinterface 190 1, 5) := by decide +kernel
theorem dX1_volumeFor_25 : decode cX1_volumeFor 25 = .ok (.checkcast 193, 3) := dk_192 0 193 (dk_at dksX1_volumeFor_1 5 rfl rfl)
theorem dX1_volumeFor_28 : decode cX1_volumeFor 28 = .ok (.astore 4, 2) := dk_58 4 (dk_at dksX1_volumeFor_1 8 rfl rfl)
theorem dX1_volumeFor_30 : decode cX1_volumeFor 30 = .ok (.iload_n 2, 1) := dk_28 (dk_at dksX1_volumeFor_1 10 rfl rfl)
theorem dX1_volumeFor_31 : decode cX1_volumeFor 31 = .ok (.aload 4, 2) := dk_25 4 (dk_at dksX1_volumeFor_1 11 rfl rfl)
theorem dX1_volumeFor_33 : decode cX1_volumeFor 33 = .ok (.iload_n 1, 1) := dk_27 (dk_at dksX1_volumeFor_1 13 rfl rfl)
theorem dX1_volumeFor_34 : decode cX1_volumeFor 34 = .ok (.aload_n 0, 1) := dk_42 (dk_at dksX1_volumeFor_1 14 rfl rfl)
theorem dX1_volumeFor_35 : decode cX1_volumeFor 35 = .ok (.getfield 103, 3) := dk_180 0 103 (dk_at dksX1_volumeFor_1 15 rfl rfl)
theorem dX1_volumeFor_38 : decode cX1_volumeFor 38 = .ok (.invokevirtual 226, 3) := dk_182 0 226 (dk_at dksX1_volumeFor_1 18 rfl rfl)
theorem dX1_volumeFor_41 : decode cX1_volumeFor 41 = .ok (.ifCond .eq 11, 3) := dk_153 0 11 (dk_at dksX1_volumeFor_1 21 rfl rfl)
theorem dX1_volumeFor_44 : decode cX1_volumeFor 44 = .ok (.aload 4, 2) := dk_25 4 (dk_at dksX1_volumeFor_2 0 rfl rfl)
theorem dX1_volumeFor_46 : decode cX1_volumeFor 46 = .ok (.getfield 195, 3) := dk_180 0 195 (dk_at dksX1_volumeFor_2 2 rfl rfl)
theorem dX1_volumeFor_49 : decode cX1_volumeFor 49 = .ok (.goto 4, 3) := dk_167 0 4 (dk_at dksX1_volumeFor_2 5 rfl rfl)
theorem dX1_volumeFor_52 : decode cX1_volumeFor 52 = .ok (.iconst 0, 1) := dk_3 (dk_at dksX1_volumeFor_2 8 rfl rfl)
theorem dX1_volumeFor_53 : decode cX1_volumeFor 53 = .ok (.iadd, 1) := dk_96 (dk_at dksX1_volumeFor_2 9 rfl rfl)
theorem dX1_volumeFor_54 : decode cX1_volumeFor 54 = .ok (.istore_n 2, 1) := dk_61 (dk_at dksX1_volumeFor_2 10 rfl rfl)
theorem dX1_volumeFor_55 : decode cX1_volumeFor 55 = .ok (.goto (-45), 3) := dk_167 255 211 (dk_at dksX1_volumeFor_2 11 rfl rfl)
theorem dX1_volumeFor_58 : decode cX1_volumeFor 58 = .ok (.iload_n 2, 1) := dk_28 (dk_at dksX1_volumeFor_2 14 rfl rfl)
theorem dX1_volumeFor_59 : decode cX1_volumeFor 59 = .ok (.ireturn, 1) := dk_172 (dk_at dksX1_volumeFor_2 15 rfl rfl)
abbrev cX1_dump : ByteArray := prog_2_method_29_code
def yX1_dump : MethodName := ⟨RX1, "dump", "(II)I"⟩
def dkwX1_dump_7 : List UInt8 := [182, 0, 153, 42, 180, 0, 138, 172]
abbrev dktX1_dump_7 : List UInt8 := dkwX1_dump_7 ++ []
def dkwX1_dump_6 : List UInt8 := [181, 0, 241, 42, 89, 180, 0, 138, 28, 100, 181, 0, 138, 42, 182, 0, 176, 42, 178, 0, 250, 27]
abbrev dktX1_dump_6 : List UInt8 := dkwX1_dump_6 ++ dktX1_dump_7
def dkwX1_dump_5 : List UInt8 := [21, 6, 100, 181, 0, 195, 21, 4, 21, 6, 100, 54, 4, 167, 255, 213, 45, 89, 180, 0, 241, 28, 96]
abbrev dktX1_dump_5 : List UInt8 := dkwX1_dump_5 ++ dktX1_dump_6
def dkwX1_dump_4 : List UInt8 := [27, 182, 0, 244, 58, 5, 21, 4, 25, 5, 180, 0, 195, 184, 0, 247, 54, 6, 25, 5, 89, 180, 0, 195]
abbrev dktX1_dump_4 : List UInt8 := dkwX1_dump_4 ++ dktX1_dump_5
def dkwX1_dump_3 : List UInt8 := [182, 0, 230, 28, 161, 0, 7, 4, 167, 0, 4, 3, 184, 0, 141, 28, 54, 4, 21, 4, 158, 0, 44, 42]
abbrev dktX1_dump_3 : List UInt8 := dkwX1_dump_3 ++ dktX1_dump_4
def dkwX1_dump_2 : List UInt8 := [45, 180, 0, 237, 161, 0, 29, 45, 180, 0, 238, 45, 180, 0, 241, 100, 28, 161, 0, 16, 42, 27]
abbrev dktX1_dump_2 : List UInt8 := dkwX1_dump_2 ++ dktX1_dump_3
def dkwX1_dump_1 : List UInt8 := [4, 167, 0, 4, 3, 184, 0, 125, 42, 180, 0, 34, 27, 182, 0, 233, 192, 0, 204, 78, 42, 180, 0, 210]
abbrev dktX1_dump_1 : List UInt8 := dkwX1_dump_1 ++ dktX1_dump_2
def dkwX1_dump_0 : List UInt8 := [42, 27, 182, 0, 213, 28, 4, 17, 0, 200, 184, 0, 84, 184, 0, 121, 42, 180, 0, 138, 28, 161, 0, 7]
abbrev dktX1_dump_0 : List UInt8 := dkwX1_dump_0 ++ dktX1_dump_1
theorem dksX1_dump_0 : cX1_dump.data.toList.drop 0 = dktX1_dump_0 := by decide +kernel
theorem dksX1_dump_1 : cX1_dump.data.toList.drop 24 = dktX1_dump_1 := dk_seg dksX1_dump_0 24 rfl rfl
theorem dksX1_dump_2 : cX1_dump.data.toList.drop 48 = dktX1_dump_2 := dk_seg dksX1_dump_1 24 rfl rfl
theorem dksX1_dump_3 : cX1_dump.data.toList.drop 70 = dktX1_dump_3 := dk_seg dksX1_dump_2 22 rfl rfl
theorem dksX1_dump_4 : cX1_dump.data.toList.drop 94 = dktX1_dump_4 := dk_seg dksX1_dump_3 24 rfl rfl
theorem dksX1_dump_5 : cX1_dump.data.toList.drop 118 = dktX1_dump_5 := dk_seg dksX1_dump_4 24 rfl rfl
theorem dksX1_dump_6 : cX1_dump.data.toList.drop 141 = dktX1_dump_6 := dk_seg dksX1_dump_5 23 rfl rfl
theorem dksX1_dump_7 : cX1_dump.data.toList.drop 163 = dktX1_dump_7 := dk_seg dksX1_dump_6 22 rfl rfl
theorem dX1_dump_0 : decode cX1_dump 0 = .ok (.aload_n 0, 1) := dk_42 (dk_at dksX1_dump_0 0 rfl rfl)
theorem dX1_dump_1 : decode cX1_dump 1 = .ok (.iload_n 1, 1) := dk_27 (dk_at dksX1_dump_0 1 rfl rfl)
theorem dX1_dump_2 : decode cX1_dump 2 = .ok (.invokevirtual 213, 3) := dk_182 0 213 (dk_at dksX1_dump_0 2 rfl rfl)
theorem dX1_dump_5 : decode cX1_dump 5 = .ok (.iload_n 2, 1) := dk_28 (dk_at dksX1_dump_0 5 rfl rfl)
theorem dX1_dump_6 : decode cX1_dump 6 = .ok (.iconst 1, 1) := dk_4 (dk_at dksX1_dump_0 6 rfl rfl)
theorem dX1_dump_7 : decode cX1_dump 7 = .ok (.sipush 200, 3) := dk_17 0 200 (dk_at dksX1_dump_0 7 rfl rfl)
theorem dX1_dump_10 : decode cX1_dump 10 = .ok (.invokestatic 84, 3) := dk_184 0 84 (dk_at dksX1_dump_0 10 rfl rfl)
theorem dX1_dump_13 : decode cX1_dump 13 = .ok (.invokestatic 121, 3) := dk_184 0 121 (dk_at dksX1_dump_0 13 rfl rfl)
theorem dX1_dump_16 : decode cX1_dump 16 = .ok (.aload_n 0, 1) := dk_42 (dk_at dksX1_dump_0 16 rfl rfl)
theorem dX1_dump_17 : decode cX1_dump 17 = .ok (.getfield 138, 3) := dk_180 0 138 (dk_at dksX1_dump_0 17 rfl rfl)
theorem dX1_dump_20 : decode cX1_dump 20 = .ok (.iload_n 2, 1) := dk_28 (dk_at dksX1_dump_0 20 rfl rfl)
theorem dX1_dump_21 : decode cX1_dump 21 = .ok (.if_icmp .lt 7, 3) := dk_161 0 7 (dk_at dksX1_dump_0 21 rfl rfl)
theorem dX1_dump_24 : decode cX1_dump 24 = .ok (.iconst 1, 1) := dk_4 (dk_at dksX1_dump_1 0 rfl rfl)
theorem dX1_dump_25 : decode cX1_dump 25 = .ok (.goto 4, 3) := dk_167 0 4 (dk_at dksX1_dump_1 1 rfl rfl)
theorem dX1_dump_28 : decode cX1_dump 28 = .ok (.iconst 0, 1) := dk_3 (dk_at dksX1_dump_1 4 rfl rfl)
theorem dX1_dump_29 : decode cX1_dump 29 = .ok (.invokestatic 125, 3) := dk_184 0 125 (dk_at dksX1_dump_1 5 rfl rfl)
theorem dX1_dump_32 : decode cX1_dump 32 = .ok (.aload_n 0, 1) := dk_42 (dk_at dksX1_dump_1 8 rfl rfl)
theorem dX1_dump_33 : decode cX1_dump 33 = .ok (.getfield 34, 3) := dk_180 0 34 (dk_at dksX1_dump_1 9 rfl rfl)
theorem dX1_dump_36 : decode cX1_dump 36 = .ok (.iload_n 1, 1) := dk_27 (dk_at dksX1_dump_1 12 rfl rfl)
theorem dX1_dump_37 : decode cX1_dump 37 = .ok (.invokevirtual 233, 3) := dk_182 0 233 (dk_at dksX1_dump_1 13 rfl rfl)
theorem dX1_dump_40 : decode cX1_dump 40 = .ok (.checkcast 204, 3) := dk_192 0 204 (dk_at dksX1_dump_1 16 rfl rfl)
theorem dX1_dump_43 : decode cX1_dump 43 = .ok (.astore_n 3, 1) := dk_78 (dk_at dksX1_dump_1 19 rfl rfl)
theorem dX1_dump_44 : decode cX1_dump 44 = .ok (.aload_n 0, 1) := dk_42 (dk_at dksX1_dump_1 20 rfl rfl)
theorem dX1_dump_45 : decode cX1_dump 45 = .ok (.getfield 210, 3) := dk_180 0 210 (dk_at dksX1_dump_1 21 rfl rfl)
theorem dX1_dump_48 : decode cX1_dump 48 = .ok (.aload_n 3, 1) := dk_45 (dk_at dksX1_dump_2 0 rfl rfl)
theorem dX1_dump_49 : decode cX1_dump 49 = .ok (.getfield 237, 3) := dk_180 0 237 (dk_at dksX1_dump_2 1 rfl rfl)
theorem dX1_dump_52 : decode cX1_dump 52 = .ok (.if_icmp .lt 29, 3) := dk_161 0 29 (dk_at dksX1_dump_2 4 rfl rfl)
theorem dX1_dump_55 : decode cX1_dump 55 = .ok (.aload_n 3, 1) := dk_45 (dk_at dksX1_dump_2 7 rfl rfl)
theorem dX1_dump_56 : decode cX1_dump 56 = .ok (.getfield 238, 3) := dk_180 0 238 (dk_at dksX1_dump_2 8 rfl rfl)
theorem dX1_dump_59 : decode cX1_dump 59 = .ok (.aload_n 3, 1) := dk_45 (dk_at dksX1_dump_2 11 rfl rfl)
theorem dX1_dump_60 : decode cX1_dump 60 = .ok (.getfield 241, 3) := dk_180 0 241 (dk_at dksX1_dump_2 12 rfl rfl)
theorem dX1_dump_63 : decode cX1_dump 63 = .ok (.isub, 1) := dk_100 (dk_at dksX1_dump_2 15 rfl rfl)
theorem dX1_dump_64 : decode cX1_dump 64 = .ok (.iload_n 2, 1) := dk_28 (dk_at dksX1_dump_2 16 rfl rfl)
theorem dX1_dump_65 : decode cX1_dump 65 = .ok (.if_icmp .lt 16, 3) := dk_161 0 16 (dk_at dksX1_dump_2 17 rfl rfl)
theorem dX1_dump_68 : decode cX1_dump 68 = .ok (.aload_n 0, 1) := dk_42 (dk_at dksX1_dump_2 20 rfl rfl)
theorem dX1_dump_69 : decode cX1_dump 69 = .ok (.iload_n 1, 1) := dk_27 (dk_at dksX1_dump_2 21 rfl rfl)
theorem dX1_dump_70 : decode cX1_dump 70 = .ok (.invokevirtual 230, 3) := dk_182 0 230 (dk_at dksX1_dump_3 0 rfl rfl)
theorem dX1_dump_73 : decode cX1_dump 73 = .ok (.iload_n 2, 1) := dk_28 (dk_at dksX1_dump_3 3 rfl rfl)
theorem dX1_dump_74 : decode cX1_dump 74 = .ok (.if_icmp .lt 7, 3) := dk_161 0 7 (dk_at dksX1_dump_3 4 rfl rfl)
theorem dX1_dump_77 : decode cX1_dump 77 = .ok (.iconst 1, 1) := dk_4 (dk_at dksX1_dump_3 7 rfl rfl)
theorem dX1_dump_78 : decode cX1_dump 78 = .ok (.goto 4, 3) := dk_167 0 4 (dk_at dksX1_dump_3 8 rfl rfl)
theorem dX1_dump_81 : decode cX1_dump 81 = .ok (.iconst 0, 1) := dk_3 (dk_at dksX1_dump_3 11 rfl rfl)
theorem dX1_dump_82 : decode cX1_dump 82 = .ok (.invokestatic 141, 3) := dk_184 0 141 (dk_at dksX1_dump_3 12 rfl rfl)
theorem dX1_dump_85 : decode cX1_dump 85 = .ok (.iload_n 2, 1) := dk_28 (dk_at dksX1_dump_3 15 rfl rfl)
theorem dX1_dump_86 : decode cX1_dump 86 = .ok (.istore 4, 2) := dk_54 4 (dk_at dksX1_dump_3 16 rfl rfl)
theorem dX1_dump_88 : decode cX1_dump 88 = .ok (.iload 4, 2) := dk_21 4 (dk_at dksX1_dump_3 18 rfl rfl)
theorem dX1_dump_90 : decode cX1_dump 90 = .ok (.ifCond .le 44, 3) := dk_158 0 44 (dk_at dksX1_dump_3 20 rfl rfl)
theorem dX1_dump_93 : decode cX1_dump 93 = .ok (.aload_n 0, 1) := dk_42 (dk_at dksX1_dump_3 23 rfl rfl)
theorem dX1_dump_94 : decode cX1_dump 94 = .ok (.iload_n 1, 1) := dk_27 (dk_at dksX1_dump_4 0 rfl rfl)
theorem dX1_dump_95 : decode cX1_dump 95 = .ok (.invokevirtual 244, 3) := dk_182 0 244 (dk_at dksX1_dump_4 1 rfl rfl)
theorem dX1_dump_98 : decode cX1_dump 98 = .ok (.astore 5, 2) := dk_58 5 (dk_at dksX1_dump_4 4 rfl rfl)
theorem dX1_dump_100 : decode cX1_dump 100 = .ok (.iload 4, 2) := dk_21 4 (dk_at dksX1_dump_4 6 rfl rfl)
theorem dX1_dump_102 : decode cX1_dump 102 = .ok (.aload 5, 2) := dk_25 5 (dk_at dksX1_dump_4 8 rfl rfl)
theorem dX1_dump_104 : decode cX1_dump 104 = .ok (.getfield 195, 3) := dk_180 0 195 (dk_at dksX1_dump_4 10 rfl rfl)
theorem dX1_dump_107 : decode cX1_dump 107 = .ok (.invokestatic 247, 3) := dk_184 0 247 (dk_at dksX1_dump_4 13 rfl rfl)
theorem dX1_dump_110 : decode cX1_dump 110 = .ok (.istore 6, 2) := dk_54 6 (dk_at dksX1_dump_4 16 rfl rfl)
theorem dX1_dump_112 : decode cX1_dump 112 = .ok (.aload 5, 2) := dk_25 5 (dk_at dksX1_dump_4 18 rfl rfl)
theorem dX1_dump_114 : decode cX1_dump 114 = .ok (.dup, 1) := dk_89 (dk_at dksX1_dump_4 20 rfl rfl)
theorem dX1_dump_115 : decode cX1_dump 115 = .ok (.getfield 195, 3) := dk_180 0 195 (dk_at dksX1_dump_4 21 rfl rfl)
theorem dX1_dump_118 : decode cX1_dump 118 = .ok (.iload 6, 2) := dk_21 6 (dk_at dksX1_dump_5 0 rfl rfl)
theorem dX1_dump_120 : decode cX1_dump 120 = .ok (.isub, 1) := dk_100 (dk_at dksX1_dump_5 2 rfl rfl)
theorem dX1_dump_121 : decode cX1_dump 121 = .ok (.putfield 195, 3) := dk_181 0 195 (dk_at dksX1_dump_5 3 rfl rfl)
theorem dX1_dump_124 : decode cX1_dump 124 = .ok (.iload 4, 2) := dk_21 4 (dk_at dksX1_dump_5 6 rfl rfl)
theorem dX1_dump_126 : decode cX1_dump 126 = .ok (.iload 6, 2) := dk_21 6 (dk_at dksX1_dump_5 8 rfl rfl)
theorem dX1_dump_128 : decode cX1_dump 128 = .ok (.isub, 1) := dk_100 (dk_at dksX1_dump_5 10 rfl rfl)
theorem dX1_dump_129 : decode cX1_dump 129 = .ok (.istore 4, 2) := dk_54 4 (dk_at dksX1_dump_5 11 rfl rfl)
theorem dX1_dump_131 : decode cX1_dump 131 = .ok (.goto (-43), 3) := dk_167 255 213 (dk_at dksX1_dump_5 13 rfl rfl)
theorem dX1_dump_134 : decode cX1_dump 134 = .ok (.aload_n 3, 1) := dk_45 (dk_at dksX1_dump_5 16 rfl rfl)
theorem dX1_dump_135 : decode cX1_dump 135 = .ok (.dup, 1) := dk_89 (dk_at dksX1_dump_5 17 rfl rfl)
theorem dX1_dump_136 : decode cX1_dump 136 = .ok (.getfield 241, 3) := dk_180 0 241 (dk_at dksX1_dump_5 18 rfl rfl)
theorem dX1_dump_139 : decode cX1_dump 139 = .ok (.iload_n 2, 1) := dk_28 (dk_at dksX1_dump_5 21 rfl rfl)
theorem dX1_dump_140 : decode cX1_dump 140 = .ok (.iadd, 1) := dk_96 (dk_at dksX1_dump_5 22 rfl rfl)
theorem dX1_dump_141 : decode cX1_dump 141 = .ok (.putfield 241, 3) := dk_181 0 241 (dk_at dksX1_dump_6 0 rfl rfl)
theorem dX1_dump_144 : decode cX1_dump 144 = .ok (.aload_n 0, 1) := dk_42 (dk_at dksX1_dump_6 3 rfl rfl)
theorem dX1_dump_145 : decode cX1_dump 145 = .ok (.dup, 1) := dk_89 (dk_at dksX1_dump_6 4 rfl rfl)
theorem dX1_dump_146 : decode cX1_dump 146 = .ok (.getfield 138, 3) := dk_180 0 138 (dk_at dksX1_dump_6 5 rfl rfl)
theorem dX1_dump_149 : decode cX1_dump 149 = .ok (.iload_n 2, 1) := dk_28 (dk_at dksX1_dump_6 8 rfl rfl)
theorem dX1_dump_150 : decode cX1_dump 150 = .ok (.isub, 1) := dk_100 (dk_at dksX1_dump_6 9 rfl rfl)
theorem dX1_dump_151 : decode cX1_dump 151 = .ok (.putfield 138, 3) := dk_181 0 138 (dk_at dksX1_dump_6 10 rfl rfl)
theorem dX1_dump_154 : decode cX1_dump 154 = .ok (.aload_n 0, 1) := dk_42 (dk_at dksX1_dump_6 13 rfl rfl)
theorem dX1_dump_155 : decode cX1_dump 155 = .ok (.invokevirtual 176, 3) := dk_182 0 176 (dk_at dksX1_dump_6 14 rfl rfl)
theorem dX1_dump_158 : decode cX1_dump 158 = .ok (.aload_n 0, 1) := dk_42 (dk_at dksX1_dump_6 17 rfl rfl)
theorem dX1_dump_159 : decode cX1_dump 159 = .ok (.getstatic 250, 3) := dk_178 0 250 (dk_at dksX1_dump_6 18 rfl rfl)
theorem dX1_dump_162 : decode cX1_dump 162 = .ok (.iload_n 1, 1) := dk_27 (dk_at dksX1_dump_6 21 rfl rfl)
theorem dX1_dump_163 : decode cX1_dump 163 = .ok (.invokevirtual 153, 3) := dk_182 0 153 (dk_at dksX1_dump_7 0 rfl rfl)
theorem dX1_dump_166 : decode cX1_dump 166 = .ok (.aload_n 0, 1) := dk_42 (dk_at dksX1_dump_7 3 rfl rfl)
theorem dX1_dump_167 : decode cX1_dump 167 = .ok (.getfield 138, 3) := dk_180 0 138 (dk_at dksX1_dump_7 4 rfl rfl)
theorem dX1_dump_170 : decode cX1_dump 170 = .ok (.ireturn, 1) := dk_172 (dk_at dksX1_dump_7 7 rfl rfl)
abbrev cX1_next : ByteArray := prog_2_method_26_code
def yX1_next : MethodName := ⟨RX1, "next", "(I)LDredgeledger$Permit;"⟩
def dkwX1_next_3 : List UInt8 := [25, 4, 180, 0, 198, 44, 180, 0, 198, 162, 0, 8, 25, 4, 167, 0, 4, 44, 77, 167, 255, 180, 44, 176]
abbrev dktX1_next_3 : List UInt8 := dkwX1_next_3 ++ []
def dkwX1_next_2 : List UInt8 := [25, 4, 180, 0, 195, 158, 0, 7, 4, 167, 0, 4, 3, 54, 5, 21, 5, 153, 0, 24, 44, 198, 0, 15]
abbrev dktX1_next_2 : List UInt8 := dkwX1_next_2 ++ dktX1_next_3
def dkwX1_next_1 : List UInt8 := [185, 0, 190, 1, 0, 192, 0, 193, 58, 4, 25, 4, 27, 42, 180, 0, 103, 182, 0, 226, 153, 0, 15]
abbrev dktX1_next_1 : List UInt8 := dkwX1_next_1 ++ dktX1_next_2
def dkwX1_next_0 : List UInt8 := [1, 77, 42, 180, 0, 41, 182, 0, 180, 78, 45, 185, 0, 184, 1, 0, 153, 0, 73, 45]
abbrev dktX1_next_0 : List UInt8 := dkwX1_next_0 ++ dktX1_next_1
theorem dksX1_next_0 : cX1_next.data.toList.drop 0 = dktX1_next_0 := by decide +kernel
theorem dksX1_next_1 : cX1_next.data.toList.drop 20 = dktX1_next_1 := dk_seg dksX1_next_0 20 rfl rfl
theorem dksX1_next_2 : cX1_next.data.toList.drop 43 = dktX1_next_2 := dk_seg dksX1_next_1 23 rfl rfl
theorem dksX1_next_3 : cX1_next.data.toList.drop 67 = dktX1_next_3 := dk_seg dksX1_next_2 24 rfl rfl
theorem dX1_next_0 : decode cX1_next 0 = .ok (.aconst_null, 1) := dk_1 (dk_at dksX1_next_0 0 rfl rfl)
theorem dX1_next_1 : decode cX1_next 1 = .ok (.astore_n 2, 1) := dk_77 (dk_at dksX1_next_0 1 rfl rfl)
theorem dX1_next_2 : decode cX1_next 2 = .ok (.aload_n 0, 1) := dk_42 (dk_at dksX1_next_0 2 rfl rfl)
theorem dX1_next_3 : decode cX1_next 3 = .ok (.getfield 41, 3) := dk_180 0 41 (dk_at dksX1_next_0 3 rfl rfl)
theorem dX1_next_6 : decode cX1_next 6 = .ok (.invokevirtual 180, 3) := dk_182 0 180 (dk_at dksX1_next_0 6 rfl rfl)
theorem dX1_next_9 : decode cX1_next 9 = .ok (.astore_n 3, 1) := dk_78 (dk_at dksX1_next_0 9 rfl rfl)
theorem dX1_next_10 : decode cX1_next 10 = .ok (.aload_n 3, 1) := dk_45 (dk_at dksX1_next_0 10 rfl rfl)
theorem dX1_next_11 : decode cX1_next 11 = .ok (.invokeinterface 184 1, 5) := by decide +kernel
theorem dX1_next_16 : decode cX1_next 16 = .ok (.ifCond .eq 73, 3) := dk_153 0 73 (dk_at dksX1_next_0 16 rfl rfl)
theorem dX1_next_19 : decode cX1_next 19 = .ok (.aload_n 3, 1) := dk_45 (dk_at dksX1_next_0 19 rfl rfl)
theorem dX1_next_20 : decode cX1_next 20 = .ok (.invokeinterface 190 1, 5) := by decide +kernel
theorem dX1_next_25 : decode cX1_next 25 = .ok (.checkcast 193, 3) := dk_192 0 193 (dk_at dksX1_next_1 5 rfl rfl)
theorem dX1_next_28 : decode cX1_next 28 = .ok (.astore 4, 2) := dk_58 4 (dk_at dksX1_next_1 8 rfl rfl)
theorem dX1_next_30 : decode cX1_next 30 = .ok (.aload 4, 2) := dk_25 4 (dk_at dksX1_next_1 10 rfl rfl)
theorem dX1_next_32 : decode cX1_next 32 = .ok (.iload_n 1, 1) := dk_27 (dk_at dksX1_next_1 12 rfl rfl)
theorem dX1_next_33 : decode cX1_next 33 = .ok (.aload_n 0, 1) := dk_42 (dk_at dksX1_next_1 13 rfl rfl)
theorem dX1_next_34 : decode cX1_next 34 = .ok (.getfield 103, 3) := dk_180 0 103 (dk_at dksX1_next_1 14 rfl rfl)
theorem dX1_next_37 : decode cX1_next 37 = .ok (.invokevirtual 226, 3) := dk_182 0 226 (dk_at dksX1_next_1 17 rfl rfl)
theorem dX1_next_40 : decode cX1_next 40 = .ok (.ifCond .eq 15, 3) := dk_153 0 15 (dk_at dksX1_next_1 20 rfl rfl)
theorem dX1_next_43 : decode cX1_next 43 = .ok (.aload 4, 2) := dk_25 4 (dk_at dksX1_next_2 0 rfl rfl)
theorem dX1_next_45 : decode cX1_next 45 = .ok (.getfield 195, 3) := dk_180 0 195 (dk_at dksX1_next_2 2 rfl rfl)
theorem dX1_next_48 : decode cX1_next 48 = .ok (.ifCond .le 7, 3) := dk_158 0 7 (dk_at dksX1_next_2 5 rfl rfl)
theorem dX1_next_51 : decode cX1_next 51 = .ok (.iconst 1, 1) := dk_4 (dk_at dksX1_next_2 8 rfl rfl)
theorem dX1_next_52 : decode cX1_next 52 = .ok (.goto 4, 3) := dk_167 0 4 (dk_at dksX1_next_2 9 rfl rfl)
theorem dX1_next_55 : decode cX1_next 55 = .ok (.iconst 0, 1) := dk_3 (dk_at dksX1_next_2 12 rfl rfl)
theorem dX1_next_56 : decode cX1_next 56 = .ok (.istore 5, 2) := dk_54 5 (dk_at dksX1_next_2 13 rfl rfl)
theorem dX1_next_58 : decode cX1_next 58 = .ok (.iload 5, 2) := dk_21 5 (dk_at dksX1_next_2 15 rfl rfl)
theorem dX1_next_60 : decode cX1_next 60 = .ok (.ifCond .eq 24, 3) := dk_153 0 24 (dk_at dksX1_next_2 17 rfl rfl)
theorem dX1_next_63 : decode cX1_next 63 = .ok (.aload_n 2, 1) := dk_44 (dk_at dksX1_next_2 20 rfl rfl)
theorem dX1_next_64 : decode cX1_next 64 = .ok (.ifnull 15, 3) := dk_198 0 15 (dk_at dksX1_next_2 21 rfl rfl)
theorem dX1_next_67 : decode cX1_next 67 = .ok (.aload 4, 2) := dk_25 4 (dk_at dksX1_next_3 0 rfl rfl)
theorem dX1_next_69 : decode cX1_next 69 = .ok (.getfield 198, 3) := dk_180 0 198 (dk_at dksX1_next_3 2 rfl rfl)
theorem dX1_next_72 : decode cX1_next 72 = .ok (.aload_n 2, 1) := dk_44 (dk_at dksX1_next_3 5 rfl rfl)
theorem dX1_next_73 : decode cX1_next 73 = .ok (.getfield 198, 3) := dk_180 0 198 (dk_at dksX1_next_3 6 rfl rfl)
theorem dX1_next_76 : decode cX1_next 76 = .ok (.if_icmp .ge 8, 3) := dk_162 0 8 (dk_at dksX1_next_3 9 rfl rfl)
theorem dX1_next_79 : decode cX1_next 79 = .ok (.aload 4, 2) := dk_25 4 (dk_at dksX1_next_3 12 rfl rfl)
theorem dX1_next_81 : decode cX1_next 81 = .ok (.goto 4, 3) := dk_167 0 4 (dk_at dksX1_next_3 14 rfl rfl)
theorem dX1_next_84 : decode cX1_next 84 = .ok (.aload_n 2, 1) := dk_44 (dk_at dksX1_next_3 17 rfl rfl)
theorem dX1_next_85 : decode cX1_next 85 = .ok (.astore_n 2, 1) := dk_77 (dk_at dksX1_next_3 18 rfl rfl)
theorem dX1_next_86 : decode cX1_next 86 = .ok (.goto (-76), 3) := dk_167 255 180 (dk_at dksX1_next_3 19 rfl rfl)
theorem dX1_next_89 : decode cX1_next 89 = .ok (.aload_n 2, 1) := dk_44 (dk_at dksX1_next_3 22 rfl rfl)
theorem dX1_next_90 : decode cX1_next 90 = .ok (.areturn, 1) := dk_176 (dk_at dksX1_next_3 23 rfl rfl)
abbrev cX1_dumped : ByteArray := prog_2_method_31_code
def yX1_dumped : MethodName := ⟨RX1, "dumped", "(I)I"⟩
def dkwX1_dumped_0 : List UInt8 := [42, 27, 182, 0, 213, 42, 180, 0, 34, 27, 182, 0, 233, 192, 0, 204, 180, 0, 241, 172]
abbrev dktX1_dumped_0 : List UInt8 := dkwX1_dumped_0 ++ []
theorem dksX1_dumped_0 : cX1_dumped.data.toList.drop 0 = dktX1_dumped_0 := by decide +kernel
theorem dX1_dumped_0 : decode cX1_dumped 0 = .ok (.aload_n 0, 1) := dk_42 (dk_at dksX1_dumped_0 0 rfl rfl)
theorem dX1_dumped_1 : decode cX1_dumped 1 = .ok (.iload_n 1, 1) := dk_27 (dk_at dksX1_dumped_0 1 rfl rfl)
theorem dX1_dumped_2 : decode cX1_dumped 2 = .ok (.invokevirtual 213, 3) := dk_182 0 213 (dk_at dksX1_dumped_0 2 rfl rfl)
theorem dX1_dumped_5 : decode cX1_dumped 5 = .ok (.aload_n 0, 1) := dk_42 (dk_at dksX1_dumped_0 5 rfl rfl)
theorem dX1_dumped_6 : decode cX1_dumped 6 = .ok (.getfield 34, 3) := dk_180 0 34 (dk_at dksX1_dumped_0 6 rfl rfl)
theorem dX1_dumped_9 : decode cX1_dumped 9 = .ok (.iload_n 1, 1) := dk_27 (dk_at dksX1_dumped_0 9 rfl rfl)
theorem dX1_dumped_10 : decode cX1_dumped 10 = .ok (.invokevirtual 233, 3) := dk_182 0 233 (dk_at dksX1_dumped_0 10 rfl rfl)
theorem dX1_dumped_13 : decode cX1_dumped 13 = .ok (.checkcast 204, 3) := dk_192 0 204 (dk_at dksX1_dumped_0 13 rfl rfl)
theorem dX1_dumped_16 : decode cX1_dumped 16 = .ok (.getfield 241, 3) := dk_180 0 241 (dk_at dksX1_dumped_0 16 rfl rfl)
theorem dX1_dumped_19 : decode cX1_dumped 19 = .ok (.ireturn, 1) := dk_172 (dk_at dksX1_dumped_0 19 rfl rfl)
abbrev cX1_survey : ByteArray := prog_2_method_33_code
def yX1_survey : MethodName := ⟨RX1, "survey", "(IIII)I"⟩
def dkwX1_survey_7 : List UInt8 := [172]
abbrev dktX1_survey_7 : List UInt8 := dkwX1_survey_7 ++ []
def dkwX1_survey_6 : List UInt8 := [178, 1, 2, 42, 180, 0, 45, 182, 0, 179, 4, 100, 182, 0, 153, 42, 180, 0, 45, 182, 0, 179, 4, 100]
abbrev dktX1_survey_6 : List UInt8 := dkwX1_survey_6 ++ dktX1_survey_7
def dkwX1_survey_5 : List UInt8 := [187, 0, 253, 89, 42, 180, 0, 45, 182, 0, 179, 27, 29, 25, 5, 183, 0, 255, 182, 0, 207, 87, 42]
abbrev dktX1_survey_5 : List UInt8 := dkwX1_survey_5 ++ dktX1_survey_6
def dkwX1_survey_4 : List UInt8 := [27, 21, 6, 96, 53, 21, 4, 96, 184, 0, 216, 147, 86, 132, 6, 1, 167, 255, 223, 42, 180, 0, 45]
abbrev dktX1_survey_4 : List UInt8 := dkwX1_survey_4 ++ dktX1_survey_5
def dkwX1_survey_3 : List UInt8 := [188, 9, 58, 5, 3, 54, 6, 21, 6, 25, 5, 190, 162, 0, 31, 25, 5, 21, 6, 3, 42, 180, 0, 9]
abbrev dktX1_survey_3 : List UInt8 := dkwX1_survey_3 ++ dktX1_survey_4
def dkwX1_survey_2 : List UInt8 := [180, 0, 45, 182, 0, 179, 16, 12, 162, 0, 7, 4, 167, 0, 4, 3, 184, 0, 125, 28, 27, 100, 4, 96]
abbrev dktX1_survey_2 : List UInt8 := dkwX1_survey_2 ++ dktX1_survey_3
def dkwX1_survey_1 : List UInt8 := [153, 0, 19, 21, 4, 16, 247, 16, 9, 184, 0, 84, 153, 0, 7, 4, 167, 0, 4, 3, 184, 0, 121, 42]
abbrev dktX1_survey_1 : List UInt8 := dkwX1_survey_1 ++ dktX1_survey_2
def dkwX1_survey_0 : List UInt8 := [42, 27, 182, 0, 128, 42, 28, 182, 0, 128, 27, 28, 163, 0, 29, 29, 4, 16, 9, 184, 0, 84]
abbrev dktX1_survey_0 : List UInt8 := dkwX1_survey_0 ++ dktX1_survey_1
theorem dksX1_survey_0 : cX1_survey.data.toList.drop 0 = dktX1_survey_0 := by decide +kernel
theorem dksX1_survey_1 : cX1_survey.data.toList.drop 22 = dktX1_survey_1 := dk_seg dksX1_survey_0 22 rfl rfl
theorem dksX1_survey_2 : cX1_survey.data.toList.drop 46 = dktX1_survey_2 := dk_seg dksX1_survey_1 24 rfl rfl
theorem dksX1_survey_3 : cX1_survey.data.toList.drop 70 = dktX1_survey_3 := dk_seg dksX1_survey_2 24 rfl rfl
theorem dksX1_survey_4 : cX1_survey.data.toList.drop 94 = dktX1_survey_4 := dk_seg dksX1_survey_3 24 rfl rfl
theorem dksX1_survey_5 : cX1_survey.data.toList.drop 117 = dktX1_survey_5 := dk_seg dksX1_survey_4 23 rfl rfl
theorem dksX1_survey_6 : cX1_survey.data.toList.drop 140 = dktX1_survey_6 := dk_seg dksX1_survey_5 23 rfl rfl
theorem dksX1_survey_7 : cX1_survey.data.toList.drop 164 = dktX1_survey_7 := dk_seg dksX1_survey_6 24 rfl rfl
theorem dX1_survey_0 : decode cX1_survey 0 = .ok (.aload_n 0, 1) := dk_42 (dk_at dksX1_survey_0 0 rfl rfl)
theorem dX1_survey_1 : decode cX1_survey 1 = .ok (.iload_n 1, 1) := dk_27 (dk_at dksX1_survey_0 1 rfl rfl)
theorem dX1_survey_2 : decode cX1_survey 2 = .ok (.invokevirtual 128, 3) := dk_182 0 128 (dk_at dksX1_survey_0 2 rfl rfl)
theorem dX1_survey_5 : decode cX1_survey 5 = .ok (.aload_n 0, 1) := dk_42 (dk_at dksX1_survey_0 5 rfl rfl)
theorem dX1_survey_6 : decode cX1_survey 6 = .ok (.iload_n 2, 1) := dk_28 (dk_at dksX1_survey_0 6 rfl rfl)
theorem dX1_survey_7 : decode cX1_survey 7 = .ok (.invokevirtual 128, 3) := dk_182 0 128 (dk_at dksX1_survey_0 7 rfl rfl)
theorem dX1_survey_10 : decode cX1_survey 10 = .ok (.iload_n 1, 1) := dk_27 (dk_at dksX1_survey_0 10 rfl rfl)
theorem dX1_survey_11 : decode cX1_survey 11 = .ok (.iload_n 2, 1) := dk_28 (dk_at dksX1_survey_0 11 rfl rfl)
theorem dX1_survey_12 : decode cX1_survey 12 = .ok (.if_icmp .gt 29, 3) := dk_163 0 29 (dk_at dksX1_survey_0 12 rfl rfl)
theorem dX1_survey_15 : decode cX1_survey 15 = .ok (.iload_n 3, 1) := dk_29 (dk_at dksX1_survey_0 15 rfl rfl)
theorem dX1_survey_16 : decode cX1_survey 16 = .ok (.iconst 1, 1) := dk_4 (dk_at dksX1_survey_0 16 rfl rfl)
theorem dX1_survey_17 : decode cX1_survey 17 = .ok (.bipush 9, 2) := dk_16 9 (dk_at dksX1_survey_0 17 rfl rfl)
theorem dX1_survey_19 : decode cX1_survey 19 = .ok (.invokestatic 84, 3) := dk_184 0 84 (dk_at dksX1_survey_0 19 rfl rfl)
theorem dX1_survey_22 : decode cX1_survey 22 = .ok (.ifCond .eq 19, 3) := dk_153 0 19 (dk_at dksX1_survey_1 0 rfl rfl)
theorem dX1_survey_25 : decode cX1_survey 25 = .ok (.iload 4, 2) := dk_21 4 (dk_at dksX1_survey_1 3 rfl rfl)
theorem dX1_survey_27 : decode cX1_survey 27 = .ok (.bipush (-9), 2) := dk_16 247 (dk_at dksX1_survey_1 5 rfl rfl)
theorem dX1_survey_29 : decode cX1_survey 29 = .ok (.bipush 9, 2) := dk_16 9 (dk_at dksX1_survey_1 7 rfl rfl)
theorem dX1_survey_31 : decode cX1_survey 31 = .ok (.invokestatic 84, 3) := dk_184 0 84 (dk_at dksX1_survey_1 9 rfl rfl)
theorem dX1_survey_34 : decode cX1_survey 34 = .ok (.ifCond .eq 7, 3) := dk_153 0 7 (dk_at dksX1_survey_1 12 rfl rfl)
theorem dX1_survey_37 : decode cX1_survey 37 = .ok (.iconst 1, 1) := dk_4 (dk_at dksX1_survey_1 15 rfl rfl)
theorem dX1_survey_38 : decode cX1_survey 38 = .ok (.goto 4, 3) := dk_167 0 4 (dk_at dksX1_survey_1 16 rfl rfl)
theorem dX1_survey_41 : decode cX1_survey 41 = .ok (.iconst 0, 1) := dk_3 (dk_at dksX1_survey_1 19 rfl rfl)
theorem dX1_survey_42 : decode cX1_survey 42 = .ok (.invokestatic 121, 3) := dk_184 0 121 (dk_at dksX1_survey_1 20 rfl rfl)
theorem dX1_survey_45 : decode cX1_survey 45 = .ok (.aload_n 0, 1) := dk_42 (dk_at dksX1_survey_1 23 rfl rfl)
theorem dX1_survey_46 : decode cX1_survey 46 = .ok (.getfield 45, 3) := dk_180 0 45 (dk_at dksX1_survey_2 0 rfl rfl)
theorem dX1_survey_49 : decode cX1_survey 49 = .ok (.invokevirtual 179, 3) := dk_182 0 179 (dk_at dksX1_survey_2 3 rfl rfl)
theorem dX1_survey_52 : decode cX1_survey 52 = .ok (.bipush 12, 2) := dk_16 12 (dk_at dksX1_survey_2 6 rfl rfl)
theorem dX1_survey_54 : decode cX1_survey 54 = .ok (.if_icmp .ge 7, 3) := dk_162 0 7 (dk_at dksX1_survey_2 8 rfl rfl)
theorem dX1_survey_57 : decode cX1_survey 57 = .ok (.iconst 1, 1) := dk_4 (dk_at dksX1_survey_2 11 rfl rfl)
theorem dX1_survey_58 : decode cX1_survey 58 = .ok (.goto 4, 3) := dk_167 0 4 (dk_at dksX1_survey_2 12 rfl rfl)
theorem dX1_survey_61 : decode cX1_survey 61 = .ok (.iconst 0, 1) := dk_3 (dk_at dksX1_survey_2 15 rfl rfl)
theorem dX1_survey_62 : decode cX1_survey 62 = .ok (.invokestatic 125, 3) := dk_184 0 125 (dk_at dksX1_survey_2 16 rfl rfl)
theorem dX1_survey_65 : decode cX1_survey 65 = .ok (.iload_n 2, 1) := dk_28 (dk_at dksX1_survey_2 19 rfl rfl)
theorem dX1_survey_66 : decode cX1_survey 66 = .ok (.iload_n 1, 1) := dk_27 (dk_at dksX1_survey_2 20 rfl rfl)
theorem dX1_survey_67 : decode cX1_survey 67 = .ok (.isub, 1) := dk_100 (dk_at dksX1_survey_2 21 rfl rfl)
theorem dX1_survey_68 : decode cX1_survey 68 = .ok (.iconst 1, 1) := dk_4 (dk_at dksX1_survey_2 22 rfl rfl)
theorem dX1_survey_69 : decode cX1_survey 69 = .ok (.iadd, 1) := dk_96 (dk_at dksX1_survey_2 23 rfl rfl)
theorem dX1_survey_70 : decode cX1_survey 70 = .ok (.newarray .short, 2) := dk_188_9 (dk_at dksX1_survey_3 0 rfl rfl)
theorem dX1_survey_72 : decode cX1_survey 72 = .ok (.astore 5, 2) := dk_58 5 (dk_at dksX1_survey_3 2 rfl rfl)
theorem dX1_survey_74 : decode cX1_survey 74 = .ok (.iconst 0, 1) := dk_3 (dk_at dksX1_survey_3 4 rfl rfl)
theorem dX1_survey_75 : decode cX1_survey 75 = .ok (.istore 6, 2) := dk_54 6 (dk_at dksX1_survey_3 5 rfl rfl)
theorem dX1_survey_77 : decode cX1_survey 77 = .ok (.iload 6, 2) := dk_21 6 (dk_at dksX1_survey_3 7 rfl rfl)
theorem dX1_survey_79 : decode cX1_survey 79 = .ok (.aload 5, 2) := dk_25 5 (dk_at dksX1_survey_3 9 rfl rfl)
theorem dX1_survey_81 : decode cX1_survey 81 = .ok (.arraylength, 1) := dk_190 (dk_at dksX1_survey_3 11 rfl rfl)
theorem dX1_survey_82 : decode cX1_survey 82 = .ok (.if_icmp .ge 31, 3) := dk_162 0 31 (dk_at dksX1_survey_3 12 rfl rfl)
theorem dX1_survey_85 : decode cX1_survey 85 = .ok (.aload 5, 2) := dk_25 5 (dk_at dksX1_survey_3 15 rfl rfl)
theorem dX1_survey_87 : decode cX1_survey 87 = .ok (.iload 6, 2) := dk_21 6 (dk_at dksX1_survey_3 17 rfl rfl)
theorem dX1_survey_89 : decode cX1_survey 89 = .ok (.iconst 0, 1) := dk_3 (dk_at dksX1_survey_3 19 rfl rfl)
theorem dX1_survey_90 : decode cX1_survey 90 = .ok (.aload_n 0, 1) := dk_42 (dk_at dksX1_survey_3 20 rfl rfl)
theorem dX1_survey_91 : decode cX1_survey 91 = .ok (.getfield 9, 3) := dk_180 0 9 (dk_at dksX1_survey_3 21 rfl rfl)
theorem dX1_survey_94 : decode cX1_survey 94 = .ok (.iload_n 1, 1) := dk_27 (dk_at dksX1_survey_4 0 rfl rfl)
theorem dX1_survey_95 : decode cX1_survey 95 = .ok (.iload 6, 2) := dk_21 6 (dk_at dksX1_survey_4 1 rfl rfl)
theorem dX1_survey_97 : decode cX1_survey 97 = .ok (.iadd, 1) := dk_96 (dk_at dksX1_survey_4 3 rfl rfl)
theorem dX1_survey_98 : decode cX1_survey 98 = .ok (.saload, 1) := dk_53 (dk_at dksX1_survey_4 4 rfl rfl)
theorem dX1_survey_99 : decode cX1_survey 99 = .ok (.iload 4, 2) := dk_21 4 (dk_at dksX1_survey_4 5 rfl rfl)
theorem dX1_survey_101 : decode cX1_survey 101 = .ok (.iadd, 1) := dk_96 (dk_at dksX1_survey_4 7 rfl rfl)
theorem dX1_survey_102 : decode cX1_survey 102 = .ok (.invokestatic 216, 3) := dk_184 0 216 (dk_at dksX1_survey_4 8 rfl rfl)
theorem dX1_survey_105 : decode cX1_survey 105 = .ok (.i2s, 1) := dk_147 (dk_at dksX1_survey_4 11 rfl rfl)
theorem dX1_survey_106 : decode cX1_survey 106 = .ok (.sastore, 1) := dk_86 (dk_at dksX1_survey_4 12 rfl rfl)
theorem dX1_survey_107 : decode cX1_survey 107 = .ok (.iinc 6 1, 3) := dk_132 6 1 (dk_at dksX1_survey_4 13 rfl rfl)
theorem dX1_survey_110 : decode cX1_survey 110 = .ok (.goto (-33), 3) := dk_167 255 223 (dk_at dksX1_survey_4 16 rfl rfl)
theorem dX1_survey_113 : decode cX1_survey 113 = .ok (.aload_n 0, 1) := dk_42 (dk_at dksX1_survey_4 19 rfl rfl)
theorem dX1_survey_114 : decode cX1_survey 114 = .ok (.getfield 45, 3) := dk_180 0 45 (dk_at dksX1_survey_4 20 rfl rfl)
theorem dX1_survey_117 : decode cX1_survey 117 = .ok (.new 253, 3) := dk_187 0 253 (dk_at dksX1_survey_5 0 rfl rfl)
theorem dX1_survey_120 : decode cX1_survey 120 = .ok (.dup, 1) := dk_89 (dk_at dksX1_survey_5 3 rfl rfl)
theorem dX1_survey_121 : decode cX1_survey 121 = .ok (.aload_n 0, 1) := dk_42 (dk_at dksX1_survey_5 4 rfl rfl)
theorem dX1_survey_122 : decode cX1_survey 122 = .ok (.getfield 45, 3) := dk_180 0 45 (dk_at dksX1_survey_5 5 rfl rfl)
theorem dX1_survey_125 : decode cX1_survey 125 = .ok (.invokevirtual 179, 3) := dk_182 0 179 (dk_at dksX1_survey_5 8 rfl rfl)
theorem dX1_survey_128 : decode cX1_survey 128 = .ok (.iload_n 1, 1) := dk_27 (dk_at dksX1_survey_5 11 rfl rfl)
theorem dX1_survey_129 : decode cX1_survey 129 = .ok (.iload_n 3, 1) := dk_29 (dk_at dksX1_survey_5 12 rfl rfl)
theorem dX1_survey_130 : decode cX1_survey 130 = .ok (.aload 5, 2) := dk_25 5 (dk_at dksX1_survey_5 13 rfl rfl)
theorem dX1_survey_132 : decode cX1_survey 132 = .ok (.invokespecial 255, 3) := dk_183 0 255 (dk_at dksX1_survey_5 15 rfl rfl)
theorem dX1_survey_135 : decode cX1_survey 135 = .ok (.invokevirtual 207, 3) := dk_182 0 207 (dk_at dksX1_survey_5 18 rfl rfl)
theorem dX1_survey_138 : decode cX1_survey 138 = .ok (.pop, 1) := dk_87 (dk_at dksX1_survey_5 21 rfl rfl)
theorem dX1_survey_139 : decode cX1_survey 139 = .ok (.aload_n 0, 1) := dk_42 (dk_at dksX1_survey_5 22 rfl rfl)
theorem dX1_survey_140 : decode cX1_survey 140 = .ok (.getstatic 258, 3) := dk_178 1 2 (dk_at dksX1_survey_6 0 rfl rfl)
theorem dX1_survey_143 : decode cX1_survey 143 = .ok (.aload_n 0, 1) := dk_42 (dk_at dksX1_survey_6 3 rfl rfl)
theorem dX1_survey_144 : decode cX1_survey 144 = .ok (.getfield 45, 3) := dk_180 0 45 (dk_at dksX1_survey_6 4 rfl rfl)
theorem dX1_survey_147 : decode cX1_survey 147 = .ok (.invokevirtual 179, 3) := dk_182 0 179 (dk_at dksX1_survey_6 7 rfl rfl)
theorem dX1_survey_150 : decode cX1_survey 150 = .ok (.iconst 1, 1) := dk_4 (dk_at dksX1_survey_6 10 rfl rfl)
theorem dX1_survey_151 : decode cX1_survey 151 = .ok (.isub, 1) := dk_100 (dk_at dksX1_survey_6 11 rfl rfl)
theorem dX1_survey_152 : decode cX1_survey 152 = .ok (.invokevirtual 153, 3) := dk_182 0 153 (dk_at dksX1_survey_6 12 rfl rfl)
theorem dX1_survey_155 : decode cX1_survey 155 = .ok (.aload_n 0, 1) := dk_42 (dk_at dksX1_survey_6 15 rfl rfl)
theorem dX1_survey_156 : decode cX1_survey 156 = .ok (.getfield 45, 3) := dk_180 0 45 (dk_at dksX1_survey_6 16 rfl rfl)
theorem dX1_survey_159 : decode cX1_survey 159 = .ok (.invokevirtual 179, 3) := dk_182 0 179 (dk_at dksX1_survey_6 19 rfl rfl)
theorem dX1_survey_162 : decode cX1_survey 162 = .ok (.iconst 1, 1) := dk_4 (dk_at dksX1_survey_6 22 rfl rfl)
theorem dX1_survey_163 : decode cX1_survey 163 = .ok (.isub, 1) := dk_100 (dk_at dksX1_survey_6 23 rfl rfl)
theorem dX1_survey_164 : decode cX1_survey 164 = .ok (.ireturn, 1) := dk_172 (dk_at dksX1_survey_7 0 rfl rfl)
abbrev cX1_told : ByteArray := prog_2_method_35_code
def yX1_told : MethodName := ⟨RX1, "told", "(II)I"⟩
def dkwX1_told_1 : List UInt8 := [172]
abbrev dktX1_told_1 : List UInt8 := dkwX1_told_1 ++ []
def dkwX1_told_0 : List UInt8 := [42, 27, 182, 1, 5, 78, 42, 28, 182, 0, 128, 45, 28, 182, 1, 9, 184, 1, 13, 45, 28, 182, 1, 16]
abbrev dktX1_told_0 : List UInt8 := dkwX1_told_0 ++ dktX1_told_1
theorem dksX1_told_0 : cX1_told.data.toList.drop 0 = dktX1_told_0 := by decide +kernel
theorem dksX1_told_1 : cX1_told.data.toList.drop 24 = dktX1_told_1 := dk_seg dksX1_told_0 24 rfl rfl
theorem dX1_told_0 : decode cX1_told 0 = .ok (.aload_n 0, 1) := dk_42 (dk_at dksX1_told_0 0 rfl rfl)
theorem dX1_told_1 : decode cX1_told 1 = .ok (.iload_n 1, 1) := dk_27 (dk_at dksX1_told_0 1 rfl rfl)
theorem dX1_told_2 : decode cX1_told 2 = .ok (.invokevirtual 261, 3) := dk_182 1 5 (dk_at dksX1_told_0 2 rfl rfl)
theorem dX1_told_5 : decode cX1_told 5 = .ok (.astore_n 3, 1) := dk_78 (dk_at dksX1_told_0 5 rfl rfl)
theorem dX1_told_6 : decode cX1_told 6 = .ok (.aload_n 0, 1) := dk_42 (dk_at dksX1_told_0 6 rfl rfl)
theorem dX1_told_7 : decode cX1_told 7 = .ok (.iload_n 2, 1) := dk_28 (dk_at dksX1_told_0 7 rfl rfl)
theorem dX1_told_8 : decode cX1_told 8 = .ok (.invokevirtual 128, 3) := dk_182 0 128 (dk_at dksX1_told_0 8 rfl rfl)
theorem dX1_told_11 : decode cX1_told 11 = .ok (.aload_n 3, 1) := dk_45 (dk_at dksX1_told_0 11 rfl rfl)
theorem dX1_told_12 : decode cX1_told 12 = .ok (.iload_n 2, 1) := dk_28 (dk_at dksX1_told_0 12 rfl rfl)
theorem dX1_told_13 : decode cX1_told 13 = .ok (.invokevirtual 265, 3) := dk_182 1 9 (dk_at dksX1_told_0 13 rfl rfl)
theorem dX1_told_16 : decode cX1_told 16 = .ok (.invokestatic 269, 3) := dk_184 1 13 (dk_at dksX1_told_0 16 rfl rfl)
theorem dX1_told_19 : decode cX1_told 19 = .ok (.aload_n 3, 1) := dk_45 (dk_at dksX1_told_0 19 rfl rfl)
theorem dX1_told_20 : decode cX1_told 20 = .ok (.iload_n 2, 1) := dk_28 (dk_at dksX1_told_0 20 rfl rfl)
theorem dX1_told_21 : decode cX1_told 21 = .ok (.invokevirtual 272, 3) := dk_182 1 16 (dk_at dksX1_told_0 21 rfl rfl)
theorem dX1_told_24 : decode cX1_told 24 = .ok (.ireturn, 1) := dk_172 (dk_at dksX1_told_1 0 rfl rfl)
abbrev cX1_surveyAt : ByteArray := prog_2_method_34_code
def yX1_surveyAt : MethodName := ⟨RX1, "surveyAt", "(I)LDredgeledger$Survey;"⟩
def dkwX1_surveyAt_0 : List UInt8 := [27, 42, 180, 0, 45, 182, 0, 179, 184, 0, 97, 42, 180, 0, 45, 27, 182, 0, 233, 192, 0, 253, 176]
abbrev dktX1_surveyAt_0 : List UInt8 := dkwX1_surveyAt_0 ++ []
theorem dksX1_surveyAt_0 : cX1_surveyAt.data.toList.drop 0 = dktX1_surveyAt_0 := by decide +kernel
theorem dX1_surveyAt_0 : decode cX1_surveyAt 0 = .ok (.iload_n 1, 1) := dk_27 (dk_at dksX1_surveyAt_0 0 rfl rfl)
theorem dX1_surveyAt_1 : decode cX1_surveyAt 1 = .ok (.aload_n 0, 1) := dk_42 (dk_at dksX1_surveyAt_0 1 rfl rfl)
theorem dX1_surveyAt_2 : decode cX1_surveyAt 2 = .ok (.getfield 45, 3) := dk_180 0 45 (dk_at dksX1_surveyAt_0 2 rfl rfl)
theorem dX1_surveyAt_5 : decode cX1_surveyAt 5 = .ok (.invokevirtual 179, 3) := dk_182 0 179 (dk_at dksX1_surveyAt_0 5 rfl rfl)
theorem dX1_surveyAt_8 : decode cX1_surveyAt 8 = .ok (.invokestatic 97, 3) := dk_184 0 97 (dk_at dksX1_surveyAt_0 8 rfl rfl)
theorem dX1_surveyAt_11 : decode cX1_surveyAt 11 = .ok (.aload_n 0, 1) := dk_42 (dk_at dksX1_surveyAt_0 11 rfl rfl)
theorem dX1_surveyAt_12 : decode cX1_surveyAt 12 = .ok (.getfield 45, 3) := dk_180 0 45 (dk_at dksX1_surveyAt_0 12 rfl rfl)
theorem dX1_surveyAt_15 : decode cX1_surveyAt 15 = .ok (.iload_n 1, 1) := dk_27 (dk_at dksX1_surveyAt_0 15 rfl rfl)
theorem dX1_surveyAt_16 : decode cX1_surveyAt 16 = .ok (.invokevirtual 233, 3) := dk_182 0 233 (dk_at dksX1_surveyAt_0 16 rfl rfl)
theorem dX1_surveyAt_19 : decode cX1_surveyAt 19 = .ok (.checkcast 253, 3) := dk_192 0 253 (dk_at dksX1_surveyAt_0 19 rfl rfl)
theorem dX1_surveyAt_22 : decode cX1_surveyAt 22 = .ok (.areturn, 1) := dk_176 (dk_at dksX1_surveyAt_0 22 rfl rfl)
abbrev cX1_checkElement : ByteArray := prog_2_method_6_code
def yX1_checkElement : MethodName := ⟨RX1, "checkElement", "(Z)V"⟩
def dkwX1_checkElement_0 : List UInt8 := [26, 154, 0, 11, 187, 0, 81, 89, 183, 0, 83, 191, 177]
abbrev dktX1_checkElement_0 : List UInt8 := dkwX1_checkElement_0 ++ []
theorem dksX1_checkElement_0 : cX1_checkElement.data.toList.drop 0 = dktX1_checkElement_0 := by decide +kernel
theorem dX1_checkElement_0 : decode cX1_checkElement 0 = .ok (.iload_n 0, 1) := dk_26 (dk_at dksX1_checkElement_0 0 rfl rfl)
theorem dX1_checkElement_1 : decode cX1_checkElement 1 = .ok (.ifCond .ne 11, 3) := dk_154 0 11 (dk_at dksX1_checkElement_0 1 rfl rfl)
theorem dX1_checkElement_4 : decode cX1_checkElement 4 = .ok (.new 81, 3) := dk_187 0 81 (dk_at dksX1_checkElement_0 4 rfl rfl)
theorem dX1_checkElement_7 : decode cX1_checkElement 7 = .ok (.dup, 1) := dk_89 (dk_at dksX1_checkElement_0 7 rfl rfl)
theorem dX1_checkElement_8 : decode cX1_checkElement 8 = .ok (.invokespecial 83, 3) := dk_183 0 83 (dk_at dksX1_checkElement_0 8 rfl rfl)
theorem dX1_checkElement_11 : decode cX1_checkElement 11 = .ok (.athrow, 1) := dk_191 (dk_at dksX1_checkElement_0 11 rfl rfl)
theorem dX1_checkElement_12 : decode cX1_checkElement 12 = .ok (.return_, 1) := dk_177 (dk_at dksX1_checkElement_0 12 rfl rfl)
abbrev cX1_bed : ByteArray := prog_2_method_38_code
def yX1_bed : MethodName := ⟨RX1, "bed", "(I)I"⟩
def dkwX1_bed_1 : List UInt8 := [3, 184, 1, 13, 42, 44, 27, 182, 1, 46, 172]
abbrev dktX1_bed_1 : List UInt8 := dkwX1_bed_1 ++ []
def dkwX1_bed_0 : List UInt8 := [42, 27, 182, 0, 128, 42, 27, 182, 1, 41, 77, 44, 185, 1, 45, 1, 0, 158, 0, 7, 4, 167, 0, 4]
abbrev dktX1_bed_0 : List UInt8 := dkwX1_bed_0 ++ dktX1_bed_1
theorem dksX1_bed_0 : cX1_bed.data.toList.drop 0 = dktX1_bed_0 := by decide +kernel
theorem dksX1_bed_1 : cX1_bed.data.toList.drop 24 = dktX1_bed_1 := dk_seg dksX1_bed_0 24 rfl rfl
theorem dX1_bed_0 : decode cX1_bed 0 = .ok (.aload_n 0, 1) := dk_42 (dk_at dksX1_bed_0 0 rfl rfl)
theorem dX1_bed_1 : decode cX1_bed 1 = .ok (.iload_n 1, 1) := dk_27 (dk_at dksX1_bed_0 1 rfl rfl)
theorem dX1_bed_2 : decode cX1_bed 2 = .ok (.invokevirtual 128, 3) := dk_182 0 128 (dk_at dksX1_bed_0 2 rfl rfl)
theorem dX1_bed_5 : decode cX1_bed 5 = .ok (.aload_n 0, 1) := dk_42 (dk_at dksX1_bed_0 5 rfl rfl)
theorem dX1_bed_6 : decode cX1_bed 6 = .ok (.iload_n 1, 1) := dk_27 (dk_at dksX1_bed_0 6 rfl rfl)
theorem dX1_bed_7 : decode cX1_bed 7 = .ok (.invokevirtual 297, 3) := dk_182 1 41 (dk_at dksX1_bed_0 7 rfl rfl)
theorem dX1_bed_10 : decode cX1_bed 10 = .ok (.astore_n 2, 1) := dk_77 (dk_at dksX1_bed_0 10 rfl rfl)
theorem dX1_bed_11 : decode cX1_bed 11 = .ok (.aload_n 2, 1) := dk_44 (dk_at dksX1_bed_0 11 rfl rfl)
theorem dX1_bed_12 : decode cX1_bed 12 = .ok (.invokeinterface 301 1, 5) := by decide +kernel
theorem dX1_bed_17 : decode cX1_bed 17 = .ok (.ifCond .le 7, 3) := dk_158 0 7 (dk_at dksX1_bed_0 17 rfl rfl)
theorem dX1_bed_20 : decode cX1_bed 20 = .ok (.iconst 1, 1) := dk_4 (dk_at dksX1_bed_0 20 rfl rfl)
theorem dX1_bed_21 : decode cX1_bed 21 = .ok (.goto 4, 3) := dk_167 0 4 (dk_at dksX1_bed_0 21 rfl rfl)
theorem dX1_bed_24 : decode cX1_bed 24 = .ok (.iconst 0, 1) := dk_3 (dk_at dksX1_bed_1 0 rfl rfl)
theorem dX1_bed_25 : decode cX1_bed 25 = .ok (.invokestatic 269, 3) := dk_184 1 13 (dk_at dksX1_bed_1 1 rfl rfl)
theorem dX1_bed_28 : decode cX1_bed 28 = .ok (.aload_n 0, 1) := dk_42 (dk_at dksX1_bed_1 4 rfl rfl)
theorem dX1_bed_29 : decode cX1_bed 29 = .ok (.aload_n 2, 1) := dk_44 (dk_at dksX1_bed_1 5 rfl rfl)
theorem dX1_bed_30 : decode cX1_bed 30 = .ok (.iload_n 1, 1) := dk_27 (dk_at dksX1_bed_1 6 rfl rfl)
theorem dX1_bed_31 : decode cX1_bed 31 = .ok (.invokevirtual 302, 3) := dk_182 1 46 (dk_at dksX1_bed_1 7 rfl rfl)
theorem dX1_bed_34 : decode cX1_bed 34 = .ok (.ireturn, 1) := dk_172 (dk_at dksX1_bed_1 10 rfl rfl)
abbrev cX1_latest : ByteArray := prog_2_method_36_code
def yX1_latest : MethodName := ⟨RX1, "latest", "(I)Ljava/util/List;"⟩
def dkwX1_latest_4 : List UInt8 := [167, 255, 234, 44, 176]
abbrev dktX1_latest_4 : List UInt8 := dkwX1_latest_4 ++ []
def dkwX1_latest_3 : List UInt8 := [44, 182, 0, 179, 6, 164, 0, 20, 44, 44, 182, 0, 179, 4, 100, 182, 1, 35, 192, 0, 253, 78]
abbrev dktX1_latest_3 : List UInt8 := dkwX1_latest_3 ++ dktX1_latest_4
def dkwX1_latest_2 : List UInt8 := [25, 4, 182, 0, 207, 87, 167, 255, 220, 44, 182, 1, 21, 153, 0, 7, 184, 1, 24, 176, 44, 184, 1, 29]
abbrev dktX1_latest_2 : List UInt8 := dkwX1_latest_2 ++ dktX1_latest_3
def dkwX1_latest_1 : List UInt8 := [153, 0, 33, 45, 185, 0, 190, 1, 0, 192, 0, 253, 58, 4, 25, 4, 27, 182, 1, 9, 153, 0, 10, 44]
abbrev dktX1_latest_1 : List UInt8 := dkwX1_latest_1 ++ dktX1_latest_2
def dkwX1_latest_0 : List UInt8 := [187, 0, 31, 89, 183, 1, 19, 77, 42, 180, 0, 45, 182, 1, 20, 78, 45, 185, 0, 184, 1, 0]
abbrev dktX1_latest_0 : List UInt8 := dkwX1_latest_0 ++ dktX1_latest_1
theorem dksX1_latest_0 : cX1_latest.data.toList.drop 0 = dktX1_latest_0 := by decide +kernel
theorem dksX1_latest_1 : cX1_latest.data.toList.drop 22 = dktX1_latest_1 := dk_seg dksX1_latest_0 22 rfl rfl
theorem dksX1_latest_2 : cX1_latest.data.toList.drop 46 = dktX1_latest_2 := dk_seg dksX1_latest_1 24 rfl rfl
theorem dksX1_latest_3 : cX1_latest.data.toList.drop 70 = dktX1_latest_3 := dk_seg dksX1_latest_2 24 rfl rfl
theorem dksX1_latest_4 : cX1_latest.data.toList.drop 92 = dktX1_latest_4 := dk_seg dksX1_latest_3 22 rfl rfl
theorem dX1_latest_0 : decode cX1_latest 0 = .ok (.new 31, 3) := dk_187 0 31 (dk_at dksX1_latest_0 0 rfl rfl)
theorem dX1_latest_3 : decode cX1_latest 3 = .ok (.dup, 1) := dk_89 (dk_at dksX1_latest_0 3 rfl rfl)
theorem dX1_latest_4 : decode cX1_latest 4 = .ok (.invokespecial 275, 3) := dk_183 1 19 (dk_at dksX1_latest_0 4 rfl rfl)
theorem dX1_latest_7 : decode cX1_latest 7 = .ok (.astore_n 2, 1) := dk_77 (dk_at dksX1_latest_0 7 rfl rfl)
theorem dX1_latest_8 : decode cX1_latest 8 = .ok (.aload_n 0, 1) := dk_42 (dk_at dksX1_latest_0 8 rfl rfl)
theorem dX1_latest_9 : decode cX1_latest 9 = .ok (.getfield 45, 3) := dk_180 0 45 (dk_at dksX1_latest_0 9 rfl rfl)
theorem dX1_latest_12 : decode cX1_latest 12 = .ok (.invokevirtual 276, 3) := dk_182 1 20 (dk_at dksX1_latest_0 12 rfl rfl)
theorem dX1_latest_15 : decode cX1_latest 15 = .ok (.astore_n 3, 1) := dk_78 (dk_at dksX1_latest_0 15 rfl rfl)
theorem dX1_latest_16 : decode cX1_latest 16 = .ok (.aload_n 3, 1) := dk_45 (dk_at dksX1_latest_0 16 rfl rfl)
theorem dX1_latest_17 : decode cX1_latest 17 = .ok (.invokeinterface 184 1, 5) := by decide +kernel
theorem dX1_latest_22 : decode cX1_latest 22 = .ok (.ifCond .eq 33, 3) := dk_153 0 33 (dk_at dksX1_latest_1 0 rfl rfl)
theorem dX1_latest_25 : decode cX1_latest 25 = .ok (.aload_n 3, 1) := dk_45 (dk_at dksX1_latest_1 3 rfl rfl)
theorem dX1_latest_26 : decode cX1_latest 26 = .ok (.invokeinterface 190 1, 5) := by decide +kernel
theorem dX1_latest_31 : decode cX1_latest 31 = .ok (.checkcast 253, 3) := dk_192 0 253 (dk_at dksX1_latest_1 9 rfl rfl)
theorem dX1_latest_34 : decode cX1_latest 34 = .ok (.astore 4, 2) := dk_58 4 (dk_at dksX1_latest_1 12 rfl rfl)
theorem dX1_latest_36 : decode cX1_latest 36 = .ok (.aload 4, 2) := dk_25 4 (dk_at dksX1_latest_1 14 rfl rfl)
theorem dX1_latest_38 : decode cX1_latest 38 = .ok (.iload_n 1, 1) := dk_27 (dk_at dksX1_latest_1 16 rfl rfl)
theorem dX1_latest_39 : decode cX1_latest 39 = .ok (.invokevirtual 265, 3) := dk_182 1 9 (dk_at dksX1_latest_1 17 rfl rfl)
theorem dX1_latest_42 : decode cX1_latest 42 = .ok (.ifCond .eq 10, 3) := dk_153 0 10 (dk_at dksX1_latest_1 20 rfl rfl)
theorem dX1_latest_45 : decode cX1_latest 45 = .ok (.aload_n 2, 1) := dk_44 (dk_at dksX1_latest_1 23 rfl rfl)
theorem dX1_latest_46 : decode cX1_latest 46 = .ok (.aload 4, 2) := dk_25 4 (dk_at dksX1_latest_2 0 rfl rfl)
theorem dX1_latest_48 : decode cX1_latest 48 = .ok (.invokevirtual 207, 3) := dk_182 0 207 (dk_at dksX1_latest_2 2 rfl rfl)
theorem dX1_latest_51 : decode cX1_latest 51 = .ok (.pop, 1) := dk_87 (dk_at dksX1_latest_2 5 rfl rfl)
theorem dX1_latest_52 : decode cX1_latest 52 = .ok (.goto (-36), 3) := dk_167 255 220 (dk_at dksX1_latest_2 6 rfl rfl)
theorem dX1_latest_55 : decode cX1_latest 55 = .ok (.aload_n 2, 1) := dk_44 (dk_at dksX1_latest_2 9 rfl rfl)
theorem dX1_latest_56 : decode cX1_latest 56 = .ok (.invokevirtual 277, 3) := dk_182 1 21 (dk_at dksX1_latest_2 10 rfl rfl)
theorem dX1_latest_59 : decode cX1_latest 59 = .ok (.ifCond .eq 7, 3) := dk_153 0 7 (dk_at dksX1_latest_2 13 rfl rfl)
theorem dX1_latest_62 : decode cX1_latest 62 = .ok (.invokestatic 280, 3) := dk_184 1 24 (dk_at dksX1_latest_2 16 rfl rfl)
theorem dX1_latest_65 : decode cX1_latest 65 = .ok (.areturn, 1) := dk_176 (dk_at dksX1_latest_2 19 rfl rfl)
theorem dX1_latest_66 : decode cX1_latest 66 = .ok (.aload_n 2, 1) := dk_44 (dk_at dksX1_latest_2 20 rfl rfl)
theorem dX1_latest_67 : decode cX1_latest 67 = .ok (.invokestatic 285, 3) := dk_184 1 29 (dk_at dksX1_latest_2 21 rfl rfl)
theorem dX1_latest_70 : decode cX1_latest 70 = .ok (.aload_n 2, 1) := dk_44 (dk_at dksX1_latest_3 0 rfl rfl)
theorem dX1_latest_71 : decode cX1_latest 71 = .ok (.invokevirtual 179, 3) := dk_182 0 179 (dk_at dksX1_latest_3 1 rfl rfl)
theorem dX1_latest_74 : decode cX1_latest 74 = .ok (.iconst 3, 1) := dk_6 (dk_at dksX1_latest_3 4 rfl rfl)
theorem dX1_latest_75 : decode cX1_latest 75 = .ok (.if_icmp .le 20, 3) := dk_164 0 20 (dk_at dksX1_latest_3 5 rfl rfl)
theorem dX1_latest_78 : decode cX1_latest 78 = .ok (.aload_n 2, 1) := dk_44 (dk_at dksX1_latest_3 8 rfl rfl)
theorem dX1_latest_79 : decode cX1_latest 79 = .ok (.aload_n 2, 1) := dk_44 (dk_at dksX1_latest_3 9 rfl rfl)
theorem dX1_latest_80 : decode cX1_latest 80 = .ok (.invokevirtual 179, 3) := dk_182 0 179 (dk_at dksX1_latest_3 10 rfl rfl)
theorem dX1_latest_83 : decode cX1_latest 83 = .ok (.iconst 1, 1) := dk_4 (dk_at dksX1_latest_3 13 rfl rfl)
theorem dX1_latest_84 : decode cX1_latest 84 = .ok (.isub, 1) := dk_100 (dk_at dksX1_latest_3 14 rfl rfl)
theorem dX1_latest_85 : decode cX1_latest 85 = .ok (.invokevirtual 291, 3) := dk_182 1 35 (dk_at dksX1_latest_3 15 rfl rfl)
theorem dX1_latest_88 : decode cX1_latest 88 = .ok (.checkcast 253, 3) := dk_192 0 253 (dk_at dksX1_latest_3 18 rfl rfl)
theorem dX1_latest_91 : decode cX1_latest 91 = .ok (.astore_n 3, 1) := dk_78 (dk_at dksX1_latest_3 21 rfl rfl)
theorem dX1_latest_92 : decode cX1_latest 92 = .ok (.goto (-22), 3) := dk_167 255 234 (dk_at dksX1_latest_4 0 rfl rfl)
theorem dX1_latest_95 : decode cX1_latest 95 = .ok (.aload_n 2, 1) := dk_44 (dk_at dksX1_latest_4 3 rfl rfl)
theorem dX1_latest_96 : decode cX1_latest 96 = .ok (.areturn, 1) := dk_176 (dk_at dksX1_latest_4 4 rfl rfl)
abbrev cX1_bedBy : ByteArray := prog_2_method_37_code
def yX1_bedBy : MethodName := ⟨RX1, "bedBy", "(Ljava/util/List;I)I"⟩
def dkwX1_bedBy_2 : List UInt8 := [104, 96, 62, 21, 4, 25, 6, 180, 1, 38, 96, 54, 4, 167, 255, 209, 29, 21, 4, 108, 172]
abbrev dktX1_bedBy_2 : List UInt8 := dkwX1_bedBy_2 ++ []
def dkwX1_bedBy_1 : List UInt8 := [25, 5, 185, 0, 190, 1, 0, 192, 0, 253, 58, 6, 29, 25, 6, 28, 182, 1, 16, 25, 6, 180, 1, 38]
abbrev dktX1_bedBy_1 : List UInt8 := dkwX1_bedBy_1 ++ dktX1_bedBy_2
def dkwX1_bedBy_0 : List UInt8 := [3, 62, 3, 54, 4, 43, 185, 1, 37, 1, 0, 58, 5, 25, 5, 185, 0, 184, 1, 0, 153, 0, 43]
abbrev dktX1_bedBy_0 : List UInt8 := dkwX1_bedBy_0 ++ dktX1_bedBy_1
theorem dksX1_bedBy_0 : cX1_bedBy.data.toList.drop 0 = dktX1_bedBy_0 := by decide +kernel
theorem dksX1_bedBy_1 : cX1_bedBy.data.toList.drop 23 = dktX1_bedBy_1 := dk_seg dksX1_bedBy_0 23 rfl rfl
theorem dksX1_bedBy_2 : cX1_bedBy.data.toList.drop 47 = dktX1_bedBy_2 := dk_seg dksX1_bedBy_1 24 rfl rfl
theorem dX1_bedBy_0 : decode cX1_bedBy 0 = .ok (.iconst 0, 1) := dk_3 (dk_at dksX1_bedBy_0 0 rfl rfl)
theorem dX1_bedBy_1 : decode cX1_bedBy 1 = .ok (.istore_n 3, 1) := dk_62 (dk_at dksX1_bedBy_0 1 rfl rfl)
theorem dX1_bedBy_2 : decode cX1_bedBy 2 = .ok (.iconst 0, 1) := dk_3 (dk_at dksX1_bedBy_0 2 rfl rfl)
theorem dX1_bedBy_3 : decode cX1_bedBy 3 = .ok (.istore 4, 2) := dk_54 4 (dk_at dksX1_bedBy_0 3 rfl rfl)
theorem dX1_bedBy_5 : decode cX1_bedBy 5 = .ok (.aload_n 1, 1) := dk_43 (dk_at dksX1_bedBy_0 5 rfl rfl)
theorem dX1_bedBy_6 : decode cX1_bedBy 6 = .ok (.invokeinterface 293 1, 5) := by decide +kernel
theorem dX1_bedBy_11 : decode cX1_bedBy 11 = .ok (.astore 5, 2) := dk_58 5 (dk_at dksX1_bedBy_0 11 rfl rfl)
theorem dX1_bedBy_13 : decode cX1_bedBy 13 = .ok (.aload 5, 2) := dk_25 5 (dk_at dksX1_bedBy_0 13 rfl rfl)
theorem dX1_bedBy_15 : decode cX1_bedBy 15 = .ok (.invokeinterface 184 1, 5) := by decide +kernel
theorem dX1_bedBy_20 : decode cX1_bedBy 20 = .ok (.ifCond .eq 43, 3) := dk_153 0 43 (dk_at dksX1_bedBy_0 20 rfl rfl)
theorem dX1_bedBy_23 : decode cX1_bedBy 23 = .ok (.aload 5, 2) := dk_25 5 (dk_at dksX1_bedBy_1 0 rfl rfl)
theorem dX1_bedBy_25 : decode cX1_bedBy 25 = .ok (.invokeinterface 190 1, 5) := by decide +kernel
theorem dX1_bedBy_30 : decode cX1_bedBy 30 = .ok (.checkcast 253, 3) := dk_192 0 253 (dk_at dksX1_bedBy_1 7 rfl rfl)
theorem dX1_bedBy_33 : decode cX1_bedBy 33 = .ok (.astore 6, 2) := dk_58 6 (dk_at dksX1_bedBy_1 10 rfl rfl)
theorem dX1_bedBy_35 : decode cX1_bedBy 35 = .ok (.iload_n 3, 1) := dk_29 (dk_at dksX1_bedBy_1 12 rfl rfl)
theorem dX1_bedBy_36 : decode cX1_bedBy 36 = .ok (.aload 6, 2) := dk_25 6 (dk_at dksX1_bedBy_1 13 rfl rfl)
theorem dX1_bedBy_38 : decode cX1_bedBy 38 = .ok (.iload_n 2, 1) := dk_28 (dk_at dksX1_bedBy_1 15 rfl rfl)
theorem dX1_bedBy_39 : decode cX1_bedBy 39 = .ok (.invokevirtual 272, 3) := dk_182 1 16 (dk_at dksX1_bedBy_1 16 rfl rfl)
theorem dX1_bedBy_42 : decode cX1_bedBy 42 = .ok (.aload 6, 2) := dk_25 6 (dk_at dksX1_bedBy_1 19 rfl rfl)
theorem dX1_bedBy_44 : decode cX1_bedBy 44 = .ok (.getfield 294, 3) := dk_180 1 38 (dk_at dksX1_bedBy_1 21 rfl rfl)
theorem dX1_bedBy_47 : decode cX1_bedBy 47 = .ok (.imul, 1) := dk_104 (dk_at dksX1_bedBy_2 0 rfl rfl)
theorem dX1_bedBy_48 : decode cX1_bedBy 48 = .ok (.iadd, 1) := dk_96 (dk_at dksX1_bedBy_2 1 rfl rfl)
theorem dX1_bedBy_49 : decode cX1_bedBy 49 = .ok (.istore_n 3, 1) := dk_62 (dk_at dksX1_bedBy_2 2 rfl rfl)
theorem dX1_bedBy_50 : decode cX1_bedBy 50 = .ok (.iload 4, 2) := dk_21 4 (dk_at dksX1_bedBy_2 3 rfl rfl)
theorem dX1_bedBy_52 : decode cX1_bedBy 52 = .ok (.aload 6, 2) := dk_25 6 (dk_at dksX1_bedBy_2 5 rfl rfl)
theorem dX1_bedBy_54 : decode cX1_bedBy 54 = .ok (.getfield 294, 3) := dk_180 1 38 (dk_at dksX1_bedBy_2 7 rfl rfl)
theorem dX1_bedBy_57 : decode cX1_bedBy 57 = .ok (.iadd, 1) := dk_96 (dk_at dksX1_bedBy_2 10 rfl rfl)
theorem dX1_bedBy_58 : decode cX1_bedBy 58 = .ok (.istore 4, 2) := dk_54 4 (dk_at dksX1_bedBy_2 11 rfl rfl)
theorem dX1_bedBy_60 : decode cX1_bedBy 60 = .ok (.goto (-47), 3) := dk_167 255 209 (dk_at dksX1_bedBy_2 13 rfl rfl)
theorem dX1_bedBy_63 : decode cX1_bedBy 63 = .ok (.iload_n 3, 1) := dk_29 (dk_at dksX1_bedBy_2 16 rfl rfl)
theorem dX1_bedBy_64 : decode cX1_bedBy 64 = .ok (.iload 4, 2) := dk_21 4 (dk_at dksX1_bedBy_2 17 rfl rfl)
theorem dX1_bedBy_66 : decode cX1_bedBy 66 = .ok (.idiv, 1) := dk_108 (dk_at dksX1_bedBy_2 19 rfl rfl)
theorem dX1_bedBy_67 : decode cX1_bedBy 67 = .ok (.ireturn, 1) := dk_172 (dk_at dksX1_bedBy_2 20 rfl rfl)
abbrev cX1_between : ByteArray := prog_2_method_39_code
def yX1_between : MethodName := ⟨RX1, "between", "(II)I"⟩
def dkwX1_between_3 : List UInt8 := [132, 6, 1, 167, 255, 202, 21, 5, 172]
abbrev dktX1_between_3 : List UInt8 := dkwX1_between_3 ++ []
def dkwX1_between_2 : List UInt8 := [153, 0, 20, 25, 4, 21, 6, 182, 1, 16, 45, 21, 6, 182, 1, 16, 100, 167, 0, 4, 3, 96, 54, 5]
abbrev dktX1_between_2 : List UInt8 := dkwX1_between_2 ++ dktX1_between_3
def dkwX1_between_1 : List UInt8 := [180, 0, 94, 162, 0, 51, 21, 5, 45, 21, 6, 182, 1, 9, 153, 0, 30, 25, 4, 21, 6, 182, 1, 9]
abbrev dktX1_between_1 : List UInt8 := dkwX1_between_1 ++ dktX1_between_2
def dkwX1_between_0 : List UInt8 := [42, 27, 182, 1, 5, 78, 42, 28, 182, 1, 5, 58, 4, 3, 54, 5, 3, 54, 6, 21, 6, 42]
abbrev dktX1_between_0 : List UInt8 := dkwX1_between_0 ++ dktX1_between_1
theorem dksX1_between_0 : cX1_between.data.toList.drop 0 = dktX1_between_0 := by decide +kernel
theorem dksX1_between_1 : cX1_between.data.toList.drop 22 = dktX1_between_1 := dk_seg dksX1_between_0 22 rfl rfl
theorem dksX1_between_2 : cX1_between.data.toList.drop 46 = dktX1_between_2 := dk_seg dksX1_between_1 24 rfl rfl
theorem dksX1_between_3 : cX1_between.data.toList.drop 70 = dktX1_between_3 := dk_seg dksX1_between_2 24 rfl rfl
theorem dX1_between_0 : decode cX1_between 0 = .ok (.aload_n 0, 1) := dk_42 (dk_at dksX1_between_0 0 rfl rfl)
theorem dX1_between_1 : decode cX1_between 1 = .ok (.iload_n 1, 1) := dk_27 (dk_at dksX1_between_0 1 rfl rfl)
theorem dX1_between_2 : decode cX1_between 2 = .ok (.invokevirtual 261, 3) := dk_182 1 5 (dk_at dksX1_between_0 2 rfl rfl)
theorem dX1_between_5 : decode cX1_between 5 = .ok (.astore_n 3, 1) := dk_78 (dk_at dksX1_between_0 5 rfl rfl)
theorem dX1_between_6 : decode cX1_between 6 = .ok (.aload_n 0, 1) := dk_42 (dk_at dksX1_between_0 6 rfl rfl)
theorem dX1_between_7 : decode cX1_between 7 = .ok (.iload_n 2, 1) := dk_28 (dk_at dksX1_between_0 7 rfl rfl)
theorem dX1_between_8 : decode cX1_between 8 = .ok (.invokevirtual 261, 3) := dk_182 1 5 (dk_at dksX1_between_0 8 rfl rfl)
theorem dX1_between_11 : decode cX1_between 11 = .ok (.astore 4, 2) := dk_58 4 (dk_at dksX1_between_0 11 rfl rfl)
theorem dX1_between_13 : decode cX1_between 13 = .ok (.iconst 0, 1) := dk_3 (dk_at dksX1_between_0 13 rfl rfl)
theorem dX1_between_14 : decode cX1_between 14 = .ok (.istore 5, 2) := dk_54 5 (dk_at dksX1_between_0 14 rfl rfl)
theorem dX1_between_16 : decode cX1_between 16 = .ok (.iconst 0, 1) := dk_3 (dk_at dksX1_between_0 16 rfl rfl)
theorem dX1_between_17 : decode cX1_between 17 = .ok (.istore 6, 2) := dk_54 6 (dk_at dksX1_between_0 17 rfl rfl)
theorem dX1_between_19 : decode cX1_between 19 = .ok (.iload 6, 2) := dk_21 6 (dk_at dksX1_between_0 19 rfl rfl)
theorem dX1_between_21 : decode cX1_between 21 = .ok (.aload_n 0, 1) := dk_42 (dk_at dksX1_between_0 21 rfl rfl)
theorem dX1_between_22 : decode cX1_between 22 = .ok (.getfield 94, 3) := dk_180 0 94 (dk_at dksX1_between_1 0 rfl rfl)
theorem dX1_between_25 : decode cX1_between 25 = .ok (.if_icmp .ge 51, 3) := dk_162 0 51 (dk_at dksX1_between_1 3 rfl rfl)
theorem dX1_between_28 : decode cX1_between 28 = .ok (.iload 5, 2) := dk_21 5 (dk_at dksX1_between_1 6 rfl rfl)
theorem dX1_between_30 : decode cX1_between 30 = .ok (.aload_n 3, 1) := dk_45 (dk_at dksX1_between_1 8 rfl rfl)
theorem dX1_between_31 : decode cX1_between 31 = .ok (.iload 6, 2) := dk_21 6 (dk_at dksX1_between_1 9 rfl rfl)
theorem dX1_between_33 : decode cX1_between 33 = .ok (.invokevirtual 265, 3) := dk_182 1 9 (dk_at dksX1_between_1 11 rfl rfl)
theorem dX1_between_36 : decode cX1_between 36 = .ok (.ifCond .eq 30, 3) := dk_153 0 30 (dk_at dksX1_between_1 14 rfl rfl)
theorem dX1_between_39 : decode cX1_between 39 = .ok (.aload 4, 2) := dk_25 4 (dk_at dksX1_between_1 17 rfl rfl)
theorem dX1_between_41 : decode cX1_between 41 = .ok (.iload 6, 2) := dk_21 6 (dk_at dksX1_between_1 19 rfl rfl)
theorem dX1_between_43 : decode cX1_between 43 = .ok (.invokevirtual 265, 3) := dk_182 1 9 (dk_at dksX1_between_1 21 rfl rfl)
theorem dX1_between_46 : decode cX1_between 46 = .ok (.ifCond .eq 20, 3) := dk_153 0 20 (dk_at dksX1_between_2 0 rfl rfl)
theorem dX1_between_49 : decode cX1_between 49 = .ok (.aload 4, 2) := dk_25 4 (dk_at dksX1_between_2 3 rfl rfl)
theorem dX1_between_51 : decode cX1_between 51 = .ok (.iload 6, 2) := dk_21 6 (dk_at dksX1_between_2 5 rfl rfl)
theorem dX1_between_53 : decode cX1_between 53 = .ok (.invokevirtual 272, 3) := dk_182 1 16 (dk_at dksX1_between_2 7 rfl rfl)
theorem dX1_between_56 : decode cX1_between 56 = .ok (.aload_n 3, 1) := dk_45 (dk_at dksX1_between_2 10 rfl rfl)
theorem dX1_between_57 : decode cX1_between 57 = .ok (.iload 6, 2) := dk_21 6 (dk_at dksX1_between_2 11 rfl rfl)
theorem dX1_between_59 : decode cX1_between 59 = .ok (.invokevirtual 272, 3) := dk_182 1 16 (dk_at dksX1_between_2 13 rfl rfl)
theorem dX1_between_62 : decode cX1_between 62 = .ok (.isub, 1) := dk_100 (dk_at dksX1_between_2 16 rfl rfl)
theorem dX1_between_63 : decode cX1_between 63 = .ok (.goto 4, 3) := dk_167 0 4 (dk_at dksX1_between_2 17 rfl rfl)
theorem dX1_between_66 : decode cX1_between 66 = .ok (.iconst 0, 1) := dk_3 (dk_at dksX1_between_2 20 rfl rfl)
theorem dX1_between_67 : decode cX1_between 67 = .ok (.iadd, 1) := dk_96 (dk_at dksX1_between_2 21 rfl rfl)
theorem dX1_between_68 : decode cX1_between 68 = .ok (.istore 5, 2) := dk_54 5 (dk_at dksX1_between_2 22 rfl rfl)
theorem dX1_between_70 : decode cX1_between 70 = .ok (.iinc 6 1, 3) := dk_132 6 1 (dk_at dksX1_between_3 0 rfl rfl)
theorem dX1_between_73 : decode cX1_between 73 = .ok (.goto (-54), 3) := dk_167 255 202 (dk_at dksX1_between_3 3 rfl rfl)
theorem dX1_between_76 : decode cX1_between 76 = .ok (.iload 5, 2) := dk_21 5 (dk_at dksX1_between_3 6 rfl rfl)
theorem dX1_between_78 : decode cX1_between 78 = .ok (.ireturn, 1) := dk_172 (dk_at dksX1_between_3 8 rfl rfl)
abbrev cX1_settle : ByteArray := prog_2_method_40_code
def yX1_settle : MethodName := ⟨RX1, "settle", "(I)I"⟩
def dkwX1_settle_7 : List UInt8 := [42, 178, 1, 68, 27, 182, 0, 153, 29, 172]
abbrev dktX1_settle_7 : List UInt8 := dkwX1_settle_7 ++ []
def dkwX1_settle_6 : List UInt8 := [180, 0, 66, 133, 105, 97, 181, 1, 59, 42, 180, 0, 51, 187, 1, 63, 89, 44, 183, 1, 65, 182, 0, 135]
abbrev dktX1_settle_6 : List UInt8 := dkwX1_settle_6 ++ dktX1_settle_7
def dkwX1_settle_5 : List UInt8 := [27, 181, 0, 69, 42, 89, 180, 1, 56, 29, 96, 181, 1, 56, 42, 89, 180, 1, 59, 29, 133, 42]
abbrev dktX1_settle_5 : List UInt8 := dkwX1_settle_5 ++ dktX1_settle_6
def dkwX1_settle_4 : List UInt8 := [53, 21, 5, 147, 96, 147, 86, 29, 21, 5, 96, 62, 132, 4, 1, 167, 255, 174, 44, 4, 181, 1, 52, 42]
abbrev dktX1_settle_4 : List UInt8 := dkwX1_settle_4 ++ dktX1_settle_5
def dkwX1_settle_3 : List UInt8 := [53, 184, 0, 247, 42, 180, 0, 16, 21, 4, 53, 100, 184, 0, 216, 54, 5, 42, 180, 0, 16, 21, 4, 92]
abbrev dktX1_settle_3 : List UInt8 := dkwX1_settle_3 ++ dktX1_settle_4
def dkwX1_settle_2 : List UInt8 := [180, 0, 27, 21, 4, 182, 1, 50, 154, 0, 52, 3, 44, 21, 4, 182, 1, 16, 42, 180, 0, 13, 21, 4]
abbrev dktX1_settle_2 : List UInt8 := dkwX1_settle_2 ++ dktX1_settle_3
def dkwX1_settle_1 : List UInt8 := [3, 54, 4, 21, 4, 42, 180, 0, 94, 162, 0, 79, 44, 21, 4, 182, 1, 9, 153, 0, 64, 42]
abbrev dktX1_settle_1 : List UInt8 := dkwX1_settle_1 ++ dktX1_settle_2
def dkwX1_settle_0 : List UInt8 := [42, 27, 182, 1, 5, 77, 27, 42, 180, 0, 69, 164, 0, 7, 4, 167, 0, 4, 3, 184, 0, 125, 3, 62]
abbrev dktX1_settle_0 : List UInt8 := dkwX1_settle_0 ++ dktX1_settle_1
theorem dksX1_settle_0 : cX1_settle.data.toList.drop 0 = dktX1_settle_0 := by decide +kernel
theorem dksX1_settle_1 : cX1_settle.data.toList.drop 24 = dktX1_settle_1 := dk_seg dksX1_settle_0 24 rfl rfl
theorem dksX1_settle_2 : cX1_settle.data.toList.drop 46 = dktX1_settle_2 := dk_seg dksX1_settle_1 22 rfl rfl
theorem dksX1_settle_3 : cX1_settle.data.toList.drop 70 = dktX1_settle_3 := dk_seg dksX1_settle_2 24 rfl rfl
theorem dksX1_settle_4 : cX1_settle.data.toList.drop 94 = dktX1_settle_4 := dk_seg dksX1_settle_3 24 rfl rfl
theorem dksX1_settle_5 : cX1_settle.data.toList.drop 118 = dktX1_settle_5 := dk_seg dksX1_settle_4 24 rfl rfl
theorem dksX1_settle_6 : cX1_settle.data.toList.drop 140 = dktX1_settle_6 := dk_seg dksX1_settle_5 22 rfl rfl
theorem dksX1_settle_7 : cX1_settle.data.toList.drop 164 = dktX1_settle_7 := dk_seg dksX1_settle_6 24 rfl rfl
theorem dX1_settle_0 : decode cX1_settle 0 = .ok (.aload_n 0, 1) := dk_42 (dk_at dksX1_settle_0 0 rfl rfl)
theorem dX1_settle_1 : decode cX1_settle 1 = .ok (.iload_n 1, 1) := dk_27 (dk_at dksX1_settle_0 1 rfl rfl)
theorem dX1_settle_2 : decode cX1_settle 2 = .ok (.invokevirtual 261, 3) := dk_182 1 5 (dk_at dksX1_settle_0 2 rfl rfl)
theorem dX1_settle_5 : decode cX1_settle 5 = .ok (.astore_n 2, 1) := dk_77 (dk_at dksX1_settle_0 5 rfl rfl)
theorem dX1_settle_6 : decode cX1_settle 6 = .ok (.iload_n 1, 1) := dk_27 (dk_at dksX1_settle_0 6 rfl rfl)
theorem dX1_settle_7 : decode cX1_settle 7 = .ok (.aload_n 0, 1) := dk_42 (dk_at dksX1_settle_0 7 rfl rfl)
theorem dX1_settle_8 : decode cX1_settle 8 = .ok (.getfield 69, 3) := dk_180 0 69 (dk_at dksX1_settle_0 8 rfl rfl)
theorem dX1_settle_11 : decode cX1_settle 11 = .ok (.if_icmp .le 7, 3) := dk_164 0 7 (dk_at dksX1_settle_0 11 rfl rfl)
theorem dX1_settle_14 : decode cX1_settle 14 = .ok (.iconst 1, 1) := dk_4 (dk_at dksX1_settle_0 14 rfl rfl)
theorem dX1_settle_15 : decode cX1_settle 15 = .ok (.goto 4, 3) := dk_167 0 4 (dk_at dksX1_settle_0 15 rfl rfl)
theorem dX1_settle_18 : decode cX1_settle 18 = .ok (.iconst 0, 1) := dk_3 (dk_at dksX1_settle_0 18 rfl rfl)
theorem dX1_settle_19 : decode cX1_settle 19 = .ok (.invokestatic 125, 3) := dk_184 0 125 (dk_at dksX1_settle_0 19 rfl rfl)
theorem dX1_settle_22 : decode cX1_settle 22 = .ok (.iconst 0, 1) := dk_3 (dk_at dksX1_settle_0 22 rfl rfl)
theorem dX1_settle_23 : decode cX1_settle 23 = .ok (.istore_n 3, 1) := dk_62 (dk_at dksX1_settle_0 23 rfl rfl)
theorem dX1_settle_24 : decode cX1_settle 24 = .ok (.iconst 0, 1) := dk_3 (dk_at dksX1_settle_1 0 rfl rfl)
theorem dX1_settle_25 : decode cX1_settle 25 = .ok (.istore 4, 2) := dk_54 4 (dk_at dksX1_settle_1 1 rfl rfl)
theorem dX1_settle_27 : decode cX1_settle 27 = .ok (.iload 4, 2) := dk_21 4 (dk_at dksX1_settle_1 3 rfl rfl)
theorem dX1_settle_29 : decode cX1_settle 29 = .ok (.aload_n 0, 1) := dk_42 (dk_at dksX1_settle_1 5 rfl rfl)
theorem dX1_settle_30 : decode cX1_settle 30 = .ok (.getfield 94, 3) := dk_180 0 94 (dk_at dksX1_settle_1 6 rfl rfl)
theorem dX1_settle_33 : decode cX1_settle 33 = .ok (.if_icmp .ge 79, 3) := dk_162 0 79 (dk_at dksX1_settle_1 9 rfl rfl)
theorem dX1_settle_36 : decode cX1_settle 36 = .ok (.aload_n 2, 1) := dk_44 (dk_at dksX1_settle_1 12 rfl rfl)
theorem dX1_settle_37 : decode cX1_settle 37 = .ok (.iload 4, 2) := dk_21 4 (dk_at dksX1_settle_1 13 rfl rfl)
theorem dX1_settle_39 : decode cX1_settle 39 = .ok (.invokevirtual 265, 3) := dk_182 1 9 (dk_at dksX1_settle_1 15 rfl rfl)
theorem dX1_settle_42 : decode cX1_settle 42 = .ok (.ifCond .eq 64, 3) := dk_153 0 64 (dk_at dksX1_settle_1 18 rfl rfl)
theorem dX1_settle_45 : decode cX1_settle 45 = .ok (.aload_n 0, 1) := dk_42 (dk_at dksX1_settle_1 21 rfl rfl)
theorem dX1_settle_46 : decode cX1_settle 46 = .ok (.getfield 27, 3) := dk_180 0 27 (dk_at dksX1_settle_2 0 rfl rfl)
theorem dX1_settle_49 : decode cX1_settle 49 = .ok (.iload 4, 2) := dk_21 4 (dk_at dksX1_settle_2 3 rfl rfl)
theorem dX1_settle_51 : decode cX1_settle 51 = .ok (.invokevirtual 306, 3) := dk_182 1 50 (dk_at dksX1_settle_2 5 rfl rfl)
theorem dX1_settle_54 : decode cX1_settle 54 = .ok (.ifCond .ne 52, 3) := dk_154 0 52 (dk_at dksX1_settle_2 8 rfl rfl)
theorem dX1_settle_57 : decode cX1_settle 57 = .ok (.iconst 0, 1) := dk_3 (dk_at dksX1_settle_2 11 rfl rfl)
theorem dX1_settle_58 : decode cX1_settle 58 = .ok (.aload_n 2, 1) := dk_44 (dk_at dksX1_settle_2 12 rfl rfl)
theorem dX1_settle_59 : decode cX1_settle 59 = .ok (.iload 4, 2) := dk_21 4 (dk_at dksX1_settle_2 13 rfl rfl)
theorem dX1_settle_61 : decode cX1_settle 61 = .ok (.invokevirtual 272, 3) := dk_182 1 16 (dk_at dksX1_settle_2 15 rfl rfl)
theorem dX1_settle_64 : decode cX1_settle 64 = .ok (.aload_n 0, 1) := dk_42 (dk_at dksX1_settle_2 18 rfl rfl)
theorem dX1_settle_65 : decode cX1_settle 65 = .ok (.getfield 13, 3) := dk_180 0 13 (dk_at dksX1_settle_2 19 rfl rfl)
theorem dX1_settle_68 : decode cX1_settle 68 = .ok (.iload 4, 2) := dk_21 4 (dk_at dksX1_settle_2 22 rfl rfl)
theorem dX1_settle_70 : decode cX1_settle 70 = .ok (.saload, 1) := dk_53 (dk_at dksX1_settle_3 0 rfl rfl)
theorem dX1_settle_71 : decode cX1_settle 71 = .ok (.invokestatic 247, 3) := dk_184 0 247 (dk_at dksX1_settle_3 1 rfl rfl)
theorem dX1_settle_74 : decode cX1_settle 74 = .ok (.aload_n 0, 1) := dk_42 (dk_at dksX1_settle_3 4 rfl rfl)
theorem dX1_settle_75 : decode cX1_settle 75 = .ok (.getfield 16, 3) := dk_180 0 16 (dk_at dksX1_settle_3 5 rfl rfl)
theorem dX1_settle_78 : decode cX1_settle 78 = .ok (.iload 4, 2) := dk_21 4 (dk_at dksX1_settle_3 8 rfl rfl)
theorem dX1_settle_80 : decode cX1_settle 80 = .ok (.saload, 1) := dk_53 (dk_at dksX1_settle_3 10 rfl rfl)
theorem dX1_settle_81 : decode cX1_settle 81 = .ok (.isub, 1) := dk_100 (dk_at dksX1_settle_3 11 rfl rfl)
theorem dX1_settle_82 : decode cX1_settle 82 = .ok (.invokestatic 216, 3) := dk_184 0 216 (dk_at dksX1_settle_3 12 rfl rfl)
theorem dX1_settle_85 : decode cX1_settle 85 = .ok (.istore 5, 2) := dk_54 5 (dk_at dksX1_settle_3 15 rfl rfl)
theorem dX1_settle_87 : decode cX1_settle 87 = .ok (.aload_n 0, 1) := dk_42 (dk_at dksX1_settle_3 17 rfl rfl)
theorem dX1_settle_88 : decode cX1_settle 88 = .ok (.getfield 16, 3) := dk_180 0 16 (dk_at dksX1_settle_3 18 rfl rfl)
theorem dX1_settle_91 : decode cX1_settle 91 = .ok (.iload 4, 2) := dk_21 4 (dk_at dksX1_settle_3 21 rfl rfl)
theorem dX1_settle_93 : decode cX1_settle 93 = .ok (.dup2, 1) := dk_92 (dk_at dksX1_settle_3 23 rfl rfl)
theorem dX1_settle_94 : decode cX1_settle 94 = .ok (.saload, 1) := dk_53 (dk_at dksX1_settle_4 0 rfl rfl)
theorem dX1_settle_95 : decode cX1_settle 95 = .ok (.iload 5, 2) := dk_21 5 (dk_at dksX1_settle_4 1 rfl rfl)
theorem dX1_settle_97 : decode cX1_settle 97 = .ok (.i2s, 1) := dk_147 (dk_at dksX1_settle_4 3 rfl rfl)
theorem dX1_settle_98 : decode cX1_settle 98 = .ok (.iadd, 1) := dk_96 (dk_at dksX1_settle_4 4 rfl rfl)
theorem dX1_settle_99 : decode cX1_settle 99 = .ok (.i2s, 1) := dk_147 (dk_at dksX1_settle_4 5 rfl rfl)
theorem dX1_settle_100 : decode cX1_settle 100 = .ok (.sastore, 1) := dk_86 (dk_at dksX1_settle_4 6 rfl rfl)
theorem dX1_settle_101 : decode cX1_settle 101 = .ok (.iload_n 3, 1) := dk_29 (dk_at dksX1_settle_4 7 rfl rfl)
theorem dX1_settle_102 : decode cX1_settle 102 = .ok (.iload 5, 2) := dk_21 5 (dk_at dksX1_settle_4 8 rfl rfl)
theorem dX1_settle_104 : decode cX1_settle 104 = .ok (.iadd, 1) := dk_96 (dk_at dksX1_settle_4 10 rfl rfl)
theorem dX1_settle_105 : decode cX1_settle 105 = .ok (.istore_n 3, 1) := dk_62 (dk_at dksX1_settle_4 11 rfl rfl)
theorem dX1_settle_106 : decode cX1_settle 106 = .ok (.iinc 4 1, 3) := dk_132 4 1 (dk_at dksX1_settle_4 12 rfl rfl)
theorem dX1_settle_109 : decode cX1_settle 109 = .ok (.goto (-82), 3) := dk_167 255 174 (dk_at dksX1_settle_4 15 rfl rfl)
theorem dX1_settle_112 : decode cX1_settle 112 = .ok (.aload_n 2, 1) := dk_44 (dk_at dksX1_settle_4 18 rfl rfl)
theorem dX1_settle_113 : decode cX1_settle 113 = .ok (.iconst 1, 1) := dk_4 (dk_at dksX1_settle_4 19 rfl rfl)
theorem dX1_settle_114 : decode cX1_settle 114 = .ok (.putfield 308, 3) := dk_181 1 52 (dk_at dksX1_settle_4 20 rfl rfl)
theorem dX1_settle_117 : decode cX1_settle 117 = .ok (.aload_n 0, 1) := dk_42 (dk_at dksX1_settle_4 23 rfl rfl)
theorem dX1_settle_118 : decode cX1_settle 118 = .ok (.iload_n 1, 1) := dk_27 (dk_at dksX1_settle_5 0 rfl rfl)
theorem dX1_settle_119 : decode cX1_settle 119 = .ok (.putfield 69, 3) := dk_181 0 69 (dk_at dksX1_settle_5 1 rfl rfl)
theorem dX1_settle_122 : decode cX1_settle 122 = .ok (.aload_n 0, 1) := dk_42 (dk_at dksX1_settle_5 4 rfl rfl)
theorem dX1_settle_123 : decode cX1_settle 123 = .ok (.dup, 1) := dk_89 (dk_at dksX1_settle_5 5 rfl rfl)
theorem dX1_settle_124 : decode cX1_settle 124 = .ok (.getfield 312, 3) := dk_180 1 56 (dk_at dksX1_settle_5 6 rfl rfl)
theorem dX1_settle_127 : decode cX1_settle 127 = .ok (.iload_n 3, 1) := dk_29 (dk_at dksX1_settle_5 9 rfl rfl)
theorem dX1_settle_128 : decode cX1_settle 128 = .ok (.iadd, 1) := dk_96 (dk_at dksX1_settle_5 10 rfl rfl)
theorem dX1_settle_129 : decode cX1_settle 129 = .ok (.putfield 312, 3) := dk_181 1 56 (dk_at dksX1_settle_5 11 rfl rfl)
theorem dX1_settle_132 : decode cX1_settle 132 = .ok (.aload_n 0, 1) := dk_42 (dk_at dksX1_settle_5 14 rfl rfl)
theorem dX1_settle_133 : decode cX1_settle 133 = .ok (.dup, 1) := dk_89 (dk_at dksX1_settle_5 15 rfl rfl)
theorem dX1_settle_134 : decode cX1_settle 134 = .ok (.getfield 315, 3) := dk_180 1 59 (dk_at dksX1_settle_5 16 rfl rfl)
theorem dX1_settle_137 : decode cX1_settle 137 = .ok (.iload_n 3, 1) := dk_29 (dk_at dksX1_settle_5 19 rfl rfl)
theorem dX1_settle_138 : decode cX1_settle 138 = .ok (.i2l, 1) := dk_133 (dk_at dksX1_settle_5 20 rfl rfl)
theorem dX1_settle_139 : decode cX1_settle 139 = .ok (.aload_n 0, 1) := dk_42 (dk_at dksX1_settle_5 21 rfl rfl)
theorem dX1_settle_140 : decode cX1_settle 140 = .ok (.getfield 66, 3) := dk_180 0 66 (dk_at dksX1_settle_6 0 rfl rfl)
theorem dX1_settle_143 : decode cX1_settle 143 = .ok (.i2l, 1) := dk_133 (dk_at dksX1_settle_6 3 rfl rfl)
theorem dX1_settle_144 : decode cX1_settle 144 = .ok (.lmul, 1) := dk_105 (dk_at dksX1_settle_6 4 rfl rfl)
theorem dX1_settle_145 : decode cX1_settle 145 = .ok (.ladd, 1) := dk_97 (dk_at dksX1_settle_6 5 rfl rfl)
theorem dX1_settle_146 : decode cX1_settle 146 = .ok (.putfield 315, 3) := dk_181 1 59 (dk_at dksX1_settle_6 6 rfl rfl)
theorem dX1_settle_149 : decode cX1_settle 149 = .ok (.aload_n 0, 1) := dk_42 (dk_at dksX1_settle_6 9 rfl rfl)
theorem dX1_settle_150 : decode cX1_settle 150 = .ok (.getfield 51, 3) := dk_180 0 51 (dk_at dksX1_settle_6 10 rfl rfl)
theorem dX1_settle_153 : decode cX1_settle 153 = .ok (.new 319, 3) := dk_187 1 63 (dk_at dksX1_settle_6 13 rfl rfl)
theorem dX1_settle_156 : decode cX1_settle 156 = .ok (.dup, 1) := dk_89 (dk_at dksX1_settle_6 16 rfl rfl)
theorem dX1_settle_157 : decode cX1_settle 157 = .ok (.aload_n 2, 1) := dk_44 (dk_at dksX1_settle_6 17 rfl rfl)
theorem dX1_settle_158 : decode cX1_settle 158 = .ok (.invokespecial 321, 3) := dk_183 1 65 (dk_at dksX1_settle_6 18 rfl rfl)
theorem dX1_settle_161 : decode cX1_settle 161 = .ok (.invokevirtual 135, 3) := dk_182 0 135 (dk_at dksX1_settle_6 21 rfl rfl)
theorem dX1_settle_164 : decode cX1_settle 164 = .ok (.aload_n 0, 1) := dk_42 (dk_at dksX1_settle_7 0 rfl rfl)
theorem dX1_settle_165 : decode cX1_settle 165 = .ok (.getstatic 324, 3) := dk_178 1 68 (dk_at dksX1_settle_7 1 rfl rfl)
theorem dX1_settle_168 : decode cX1_settle 168 = .ok (.iload_n 1, 1) := dk_27 (dk_at dksX1_settle_7 4 rfl rfl)
theorem dX1_settle_169 : decode cX1_settle 169 = .ok (.invokevirtual 153, 3) := dk_182 0 153 (dk_at dksX1_settle_7 5 rfl rfl)
theorem dX1_settle_172 : decode cX1_settle 172 = .ok (.iload_n 3, 1) := dk_29 (dk_at dksX1_settle_7 8 rfl rfl)
theorem dX1_settle_173 : decode cX1_settle 173 = .ok (.ireturn, 1) := dk_172 (dk_at dksX1_settle_7 9 rfl rfl)
abbrev cX1_setPrice : ByteArray := prog_2_method_41_code
def yX1_setPrice : MethodName := ⟨RX1, "setPrice", "(I)I"⟩
def dkwX1_setPrice_0 : List UInt8 := [27, 3, 17, 3, 231, 184, 0, 84, 184, 0, 121, 42, 180, 0, 66, 61, 42, 27, 181, 0, 66, 28, 172]
abbrev dktX1_setPrice_0 : List UInt8 := dkwX1_setPrice_0 ++ []
theorem dksX1_setPrice_0 : cX1_setPrice.data.toList.drop 0 = dktX1_setPrice_0 := by decide +kernel
theorem dX1_setPrice_0 : decode cX1_setPrice 0 = .ok (.iload_n 1, 1) := dk_27 (dk_at dksX1_setPrice_0 0 rfl rfl)
theorem dX1_setPrice_1 : decode cX1_setPrice 1 = .ok (.iconst 0, 1) := dk_3 (dk_at dksX1_setPrice_0 1 rfl rfl)
theorem dX1_setPrice_2 : decode cX1_setPrice 2 = .ok (.sipush 999, 3) := dk_17 3 231 (dk_at dksX1_setPrice_0 2 rfl rfl)
theorem dX1_setPrice_5 : decode cX1_setPrice 5 = .ok (.invokestatic 84, 3) := dk_184 0 84 (dk_at dksX1_setPrice_0 5 rfl rfl)
theorem dX1_setPrice_8 : decode cX1_setPrice 8 = .ok (.invokestatic 121, 3) := dk_184 0 121 (dk_at dksX1_setPrice_0 8 rfl rfl)
theorem dX1_setPrice_11 : decode cX1_setPrice 11 = .ok (.aload_n 0, 1) := dk_42 (dk_at dksX1_setPrice_0 11 rfl rfl)
theorem dX1_setPrice_12 : decode cX1_setPrice 12 = .ok (.getfield 66, 3) := dk_180 0 66 (dk_at dksX1_setPrice_0 12 rfl rfl)
theorem dX1_setPrice_15 : decode cX1_setPrice 15 = .ok (.istore_n 2, 1) := dk_61 (dk_at dksX1_setPrice_0 15 rfl rfl)
theorem dX1_setPrice_16 : decode cX1_setPrice 16 = .ok (.aload_n 0, 1) := dk_42 (dk_at dksX1_setPrice_0 16 rfl rfl)
theorem dX1_setPrice_17 : decode cX1_setPrice 17 = .ok (.iload_n 1, 1) := dk_27 (dk_at dksX1_setPrice_0 17 rfl rfl)
theorem dX1_setPrice_18 : decode cX1_setPrice 18 = .ok (.putfield 66, 3) := dk_181 0 66 (dk_at dksX1_setPrice_0 18 rfl rfl)
theorem dX1_setPrice_21 : decode cX1_setPrice 21 = .ok (.iload_n 2, 1) := dk_28 (dk_at dksX1_setPrice_0 21 rfl rfl)
theorem dX1_setPrice_22 : decode cX1_setPrice 22 = .ok (.ireturn, 1) := dk_172 (dk_at dksX1_setPrice_0 22 rfl rfl)
abbrev cX1_dispute : ByteArray := prog_2_method_42_code
def yX1_dispute : MethodName := ⟨RX1, "dispute", "(I)I"⟩
def dkwX1_dispute_2 : List UInt8 := [182, 0, 135, 42, 178, 1, 85, 27, 182, 0, 153, 42, 180, 0, 27, 182, 1, 88, 172]
abbrev dktX1_dispute_2 : List UInt8 := dkwX1_dispute_2 ++ []
def dkwX1_dispute_1 : List UInt8 := [42, 180, 0, 27, 27, 182, 1, 71, 42, 180, 0, 51, 187, 1, 74, 89, 27, 178, 1, 76, 183, 1, 82]
abbrev dktX1_dispute_1 : List UInt8 := dkwX1_dispute_1 ++ dktX1_dispute_2
def dkwX1_dispute_0 : List UInt8 := [42, 27, 182, 0, 128, 42, 180, 0, 27, 27, 182, 1, 50, 154, 0, 7, 4, 167, 0, 4, 3, 184, 0, 125]
abbrev dktX1_dispute_0 : List UInt8 := dkwX1_dispute_0 ++ dktX1_dispute_1
theorem dksX1_dispute_0 : cX1_dispute.data.toList.drop 0 = dktX1_dispute_0 := by decide +kernel
theorem dksX1_dispute_1 : cX1_dispute.data.toList.drop 24 = dktX1_dispute_1 := dk_seg dksX1_dispute_0 24 rfl rfl
theorem dksX1_dispute_2 : cX1_dispute.data.toList.drop 47 = dktX1_dispute_2 := dk_seg dksX1_dispute_1 23 rfl rfl
theorem dX1_dispute_0 : decode cX1_dispute 0 = .ok (.aload_n 0, 1) := dk_42 (dk_at dksX1_dispute_0 0 rfl rfl)
theorem dX1_dispute_1 : decode cX1_dispute 1 = .ok (.iload_n 1, 1) := dk_27 (dk_at dksX1_dispute_0 1 rfl rfl)
theorem dX1_dispute_2 : decode cX1_dispute 2 = .ok (.invokevirtual 128, 3) := dk_182 0 128 (dk_at dksX1_dispute_0 2 rfl rfl)
theorem dX1_dispute_5 : decode cX1_dispute 5 = .ok (.aload_n 0, 1) := dk_42 (dk_at dksX1_dispute_0 5 rfl rfl)
theorem dX1_dispute_6 : decode cX1_dispute 6 = .ok (.getfield 27, 3) := dk_180 0 27 (dk_at dksX1_dispute_0 6 rfl rfl)
theorem dX1_dispute_9 : decode cX1_dispute 9 = .ok (.iload_n 1, 1) := dk_27 (dk_at dksX1_dispute_0 9 rfl rfl)
theorem dX1_dispute_10 : decode cX1_dispute 10 = .ok (.invokevirtual 306, 3) := dk_182 1 50 (dk_at dksX1_dispute_0 10 rfl rfl)
theorem dX1_dispute_13 : decode cX1_dispute 13 = .ok (.ifCond .ne 7, 3) := dk_154 0 7 (dk_at dksX1_dispute_0 13 rfl rfl)
theorem dX1_dispute_16 : decode cX1_dispute 16 = .ok (.iconst 1, 1) := dk_4 (dk_at dksX1_dispute_0 16 rfl rfl)
theorem dX1_dispute_17 : decode cX1_dispute 17 = .ok (.goto 4, 3) := dk_167 0 4 (dk_at dksX1_dispute_0 17 rfl rfl)
theorem dX1_dispute_20 : decode cX1_dispute 20 = .ok (.iconst 0, 1) := dk_3 (dk_at dksX1_dispute_0 20 rfl rfl)
theorem dX1_dispute_21 : decode cX1_dispute 21 = .ok (.invokestatic 125, 3) := dk_184 0 125 (dk_at dksX1_dispute_0 21 rfl rfl)
theorem dX1_dispute_24 : decode cX1_dispute 24 = .ok (.aload_n 0, 1) := dk_42 (dk_at dksX1_dispute_1 0 rfl rfl)
theorem dX1_dispute_25 : decode cX1_dispute 25 = .ok (.getfield 27, 3) := dk_180 0 27 (dk_at dksX1_dispute_1 1 rfl rfl)
theorem dX1_dispute_28 : decode cX1_dispute 28 = .ok (.iload_n 1, 1) := dk_27 (dk_at dksX1_dispute_1 4 rfl rfl)
theorem dX1_dispute_29 : decode cX1_dispute 29 = .ok (.invokevirtual 327, 3) := dk_182 1 71 (dk_at dksX1_dispute_1 5 rfl rfl)
theorem dX1_dispute_32 : decode cX1_dispute 32 = .ok (.aload_n 0, 1) := dk_42 (dk_at dksX1_dispute_1 8 rfl rfl)
theorem dX1_dispute_33 : decode cX1_dispute 33 = .ok (.getfield 51, 3) := dk_180 0 51 (dk_at dksX1_dispute_1 9 rfl rfl)
theorem dX1_dispute_36 : decode cX1_dispute 36 = .ok (.new 330, 3) := dk_187 1 74 (dk_at dksX1_dispute_1 12 rfl rfl)
theorem dX1_dispute_39 : decode cX1_dispute 39 = .ok (.dup, 1) := dk_89 (dk_at dksX1_dispute_1 15 rfl rfl)
theorem dX1_dispute_40 : decode cX1_dispute 40 = .ok (.iload_n 1, 1) := dk_27 (dk_at dksX1_dispute_1 16 rfl rfl)
theorem dX1_dispute_41 : decode cX1_dispute 41 = .ok (.getstatic 332, 3) := dk_178 1 76 (dk_at dksX1_dispute_1 17 rfl rfl)
theorem dX1_dispute_44 : decode cX1_dispute 44 = .ok (.invokespecial 338, 3) := dk_183 1 82 (dk_at dksX1_dispute_1 20 rfl rfl)
theorem dX1_dispute_47 : decode cX1_dispute 47 = .ok (.invokevirtual 135, 3) := dk_182 0 135 (dk_at dksX1_dispute_2 0 rfl rfl)
theorem dX1_dispute_50 : decode cX1_dispute 50 = .ok (.aload_n 0, 1) := dk_42 (dk_at dksX1_dispute_2 3 rfl rfl)
theorem dX1_dispute_51 : decode cX1_dispute 51 = .ok (.getstatic 341, 3) := dk_178 1 85 (dk_at dksX1_dispute_2 4 rfl rfl)
theorem dX1_dispute_54 : decode cX1_dispute 54 = .ok (.iload_n 1, 1) := dk_27 (dk_at dksX1_dispute_2 7 rfl rfl)
theorem dX1_dispute_55 : decode cX1_dispute 55 = .ok (.invokevirtual 153, 3) := dk_182 0 153 (dk_at dksX1_dispute_2 8 rfl rfl)
theorem dX1_dispute_58 : decode cX1_dispute 58 = .ok (.aload_n 0, 1) := dk_42 (dk_at dksX1_dispute_2 11 rfl rfl)
theorem dX1_dispute_59 : decode cX1_dispute 59 = .ok (.getfield 27, 3) := dk_180 0 27 (dk_at dksX1_dispute_2 12 rfl rfl)
theorem dX1_dispute_62 : decode cX1_dispute 62 = .ok (.invokevirtual 344, 3) := dk_182 1 88 (dk_at dksX1_dispute_2 15 rfl rfl)
theorem dX1_dispute_65 : decode cX1_dispute 65 = .ok (.ireturn, 1) := dk_172 (dk_at dksX1_dispute_2 18 rfl rfl)
abbrev cX1_resolve : ByteArray := prog_2_method_43_code
def yX1_resolve : MethodName := ⟨RX1, "resolve", "(I)I"⟩
def dkwX1_resolve_2 : List UInt8 := [182, 0, 153, 42, 180, 0, 27, 182, 1, 88, 172]
abbrev dktX1_resolve_2 : List UInt8 := dkwX1_resolve_2 ++ []
def dkwX1_resolve_1 : List UInt8 := [42, 180, 0, 51, 187, 1, 74, 89, 27, 178, 1, 94, 183, 1, 82, 182, 0, 135, 42, 178, 1, 97, 27]
abbrev dktX1_resolve_1 : List UInt8 := dkwX1_resolve_1 ++ dktX1_resolve_2
def dkwX1_resolve_0 : List UInt8 := [42, 27, 182, 0, 128, 42, 180, 0, 27, 27, 182, 1, 50, 184, 0, 125, 42, 180, 0, 27, 27, 182, 1, 91]
abbrev dktX1_resolve_0 : List UInt8 := dkwX1_resolve_0 ++ dktX1_resolve_1
theorem dksX1_resolve_0 : cX1_resolve.data.toList.drop 0 = dktX1_resolve_0 := by decide +kernel
theorem dksX1_resolve_1 : cX1_resolve.data.toList.drop 24 = dktX1_resolve_1 := dk_seg dksX1_resolve_0 24 rfl rfl
theorem dksX1_resolve_2 : cX1_resolve.data.toList.drop 47 = dktX1_resolve_2 := dk_seg dksX1_resolve_1 23 rfl rfl
theorem dX1_resolve_0 : decode cX1_resolve 0 = .ok (.aload_n 0, 1) := dk_42 (dk_at dksX1_resolve_0 0 rfl rfl)
theorem dX1_resolve_1 : decode cX1_resolve 1 = .ok (.iload_n 1, 1) := dk_27 (dk_at dksX1_resolve_0 1 rfl rfl)
theorem dX1_resolve_2 : decode cX1_resolve 2 = .ok (.invokevirtual 128, 3) := dk_182 0 128 (dk_at dksX1_resolve_0 2 rfl rfl)
theorem dX1_resolve_5 : decode cX1_resolve 5 = .ok (.aload_n 0, 1) := dk_42 (dk_at dksX1_resolve_0 5 rfl rfl)
theorem dX1_resolve_6 : decode cX1_resolve 6 = .ok (.getfield 27, 3) := dk_180 0 27 (dk_at dksX1_resolve_0 6 rfl rfl)
theorem dX1_resolve_9 : decode cX1_resolve 9 = .ok (.iload_n 1, 1) := dk_27 (dk_at dksX1_resolve_0 9 rfl rfl)
theorem dX1_resolve_10 : decode cX1_resolve 10 = .ok (.invokevirtual 306, 3) := dk_182 1 50 (dk_at dksX1_resolve_0 10 rfl rfl)
theorem dX1_resolve_13 : decode cX1_resolve 13 = .ok (.invokestatic 125, 3) := dk_184 0 125 (dk_at dksX1_resolve_0 13 rfl rfl)
theorem dX1_resolve_16 : decode cX1_resolve 16 = .ok (.aload_n 0, 1) := dk_42 (dk_at dksX1_resolve_0 16 rfl rfl)
theorem dX1_resolve_17 : decode cX1_resolve 17 = .ok (.getfield 27, 3) := dk_180 0 27 (dk_at dksX1_resolve_0 17 rfl rfl)
theorem dX1_resolve_20 : decode cX1_resolve 20 = .ok (.iload_n 1, 1) := dk_27 (dk_at dksX1_resolve_0 20 rfl rfl)
theorem dX1_resolve_21 : decode cX1_resolve 21 = .ok (.invokevirtual 347, 3) := dk_182 1 91 (dk_at dksX1_resolve_0 21 rfl rfl)
theorem dX1_resolve_24 : decode cX1_resolve 24 = .ok (.aload_n 0, 1) := dk_42 (dk_at dksX1_resolve_1 0 rfl rfl)
theorem dX1_resolve_25 : decode cX1_resolve 25 = .ok (.getfield 51, 3) := dk_180 0 51 (dk_at dksX1_resolve_1 1 rfl rfl)
theorem dX1_resolve_28 : decode cX1_resolve 28 = .ok (.new 330, 3) := dk_187 1 74 (dk_at dksX1_resolve_1 4 rfl rfl)
theorem dX1_resolve_31 : decode cX1_resolve 31 = .ok (.dup, 1) := dk_89 (dk_at dksX1_resolve_1 7 rfl rfl)
theorem dX1_resolve_32 : decode cX1_resolve 32 = .ok (.iload_n 1, 1) := dk_27 (dk_at dksX1_resolve_1 8 rfl rfl)
theorem dX1_resolve_33 : decode cX1_resolve 33 = .ok (.getstatic 350, 3) := dk_178 1 94 (dk_at dksX1_resolve_1 9 rfl rfl)
theorem dX1_resolve_36 : decode cX1_resolve 36 = .ok (.invokespecial 338, 3) := dk_183 1 82 (dk_at dksX1_resolve_1 12 rfl rfl)
theorem dX1_resolve_39 : decode cX1_resolve 39 = .ok (.invokevirtual 135, 3) := dk_182 0 135 (dk_at dksX1_resolve_1 15 rfl rfl)
theorem dX1_resolve_42 : decode cX1_resolve 42 = .ok (.aload_n 0, 1) := dk_42 (dk_at dksX1_resolve_1 18 rfl rfl)
theorem dX1_resolve_43 : decode cX1_resolve 43 = .ok (.getstatic 353, 3) := dk_178 1 97 (dk_at dksX1_resolve_1 19 rfl rfl)
theorem dX1_resolve_46 : decode cX1_resolve 46 = .ok (.iload_n 1, 1) := dk_27 (dk_at dksX1_resolve_1 22 rfl rfl)
theorem dX1_resolve_47 : decode cX1_resolve 47 = .ok (.invokevirtual 153, 3) := dk_182 0 153 (dk_at dksX1_resolve_2 0 rfl rfl)
theorem dX1_resolve_50 : decode cX1_resolve 50 = .ok (.aload_n 0, 1) := dk_42 (dk_at dksX1_resolve_2 3 rfl rfl)
theorem dX1_resolve_51 : decode cX1_resolve 51 = .ok (.getfield 27, 3) := dk_180 0 27 (dk_at dksX1_resolve_2 4 rfl rfl)
theorem dX1_resolve_54 : decode cX1_resolve 54 = .ok (.invokevirtual 344, 3) := dk_182 1 88 (dk_at dksX1_resolve_2 7 rfl rfl)
theorem dX1_resolve_57 : decode cX1_resolve 57 = .ok (.ireturn, 1) := dk_172 (dk_at dksX1_resolve_2 10 rfl rfl)
abbrev cX1_paidDepth : ByteArray := prog_2_method_44_code
def yX1_paidDepth : MethodName := ⟨RX1, "paidDepth", "(I)I"⟩
def dkwX1_paidDepth_0 : List UInt8 := [42, 27, 182, 0, 128, 42, 180, 0, 16, 27, 53, 172]
abbrev dktX1_paidDepth_0 : List UInt8 := dkwX1_paidDepth_0 ++ []
theorem dksX1_paidDepth_0 : cX1_paidDepth.data.toList.drop 0 = dktX1_paidDepth_0 := by decide +kernel
theorem dX1_paidDepth_0 : decode cX1_paidDepth 0 = .ok (.aload_n 0, 1) := dk_42 (dk_at dksX1_paidDepth_0 0 rfl rfl)
theorem dX1_paidDepth_1 : decode cX1_paidDepth 1 = .ok (.iload_n 1, 1) := dk_27 (dk_at dksX1_paidDepth_0 1 rfl rfl)
theorem dX1_paidDepth_2 : decode cX1_paidDepth 2 = .ok (.invokevirtual 128, 3) := dk_182 0 128 (dk_at dksX1_paidDepth_0 2 rfl rfl)
theorem dX1_paidDepth_5 : decode cX1_paidDepth 5 = .ok (.aload_n 0, 1) := dk_42 (dk_at dksX1_paidDepth_0 5 rfl rfl)
theorem dX1_paidDepth_6 : decode cX1_paidDepth 6 = .ok (.getfield 16, 3) := dk_180 0 16 (dk_at dksX1_paidDepth_0 6 rfl rfl)
theorem dX1_paidDepth_9 : decode cX1_paidDepth 9 = .ok (.iload_n 1, 1) := dk_27 (dk_at dksX1_paidDepth_0 9 rfl rfl)
theorem dX1_paidDepth_10 : decode cX1_paidDepth 10 = .ok (.saload, 1) := dk_53 (dk_at dksX1_paidDepth_0 10 rfl rfl)
theorem dX1_paidDepth_11 : decode cX1_paidDepth 11 = .ok (.ireturn, 1) := dk_172 (dk_at dksX1_paidDepth_0 11 rfl rfl)
abbrev cX1_entryAt : ByteArray := prog_2_method_51_code
def yX1_entryAt : MethodName := ⟨RX1, "entryAt", "(I)LEntry;"⟩
def dkwX1_entryAt_3 : List UInt8 := [132, 3, 1, 167, 255, 219, 44, 176]
abbrev dktX1_entryAt_3 : List UInt8 := dkwX1_entryAt_3 ++ []
def dkwX1_entryAt_2 : List UInt8 := [185, 0, 190, 1, 0, 192, 0, 101, 58, 5, 29, 27, 160, 0, 8, 25, 5, 167, 0, 4, 44, 77]
abbrev dktX1_entryAt_2 : List UInt8 := dkwX1_entryAt_2 ++ dktX1_entryAt_3
def dkwX1_entryAt_1 : List UInt8 := [42, 180, 0, 58, 182, 1, 127, 58, 4, 25, 4, 185, 0, 184, 1, 0, 153, 0, 33, 25, 4]
abbrev dktX1_entryAt_1 : List UInt8 := dkwX1_entryAt_1 ++ dktX1_entryAt_2
def dkwX1_entryAt_0 : List UInt8 := [27, 42, 180, 0, 58, 182, 0, 113, 184, 0, 97, 42, 180, 0, 58, 182, 1, 124, 192, 0, 101, 77, 3, 62]
abbrev dktX1_entryAt_0 : List UInt8 := dkwX1_entryAt_0 ++ dktX1_entryAt_1
theorem dksX1_entryAt_0 : cX1_entryAt.data.toList.drop 0 = dktX1_entryAt_0 := by decide +kernel
theorem dksX1_entryAt_1 : cX1_entryAt.data.toList.drop 24 = dktX1_entryAt_1 := dk_seg dksX1_entryAt_0 24 rfl rfl
theorem dksX1_entryAt_2 : cX1_entryAt.data.toList.drop 45 = dktX1_entryAt_2 := dk_seg dksX1_entryAt_1 21 rfl rfl
theorem dksX1_entryAt_3 : cX1_entryAt.data.toList.drop 67 = dktX1_entryAt_3 := dk_seg dksX1_entryAt_2 22 rfl rfl
theorem dX1_entryAt_0 : decode cX1_entryAt 0 = .ok (.iload_n 1, 1) := dk_27 (dk_at dksX1_entryAt_0 0 rfl rfl)
theorem dX1_entryAt_1 : decode cX1_entryAt 1 = .ok (.aload_n 0, 1) := dk_42 (dk_at dksX1_entryAt_0 1 rfl rfl)
theorem dX1_entryAt_2 : decode cX1_entryAt 2 = .ok (.getfield 58, 3) := dk_180 0 58 (dk_at dksX1_entryAt_0 2 rfl rfl)
theorem dX1_entryAt_5 : decode cX1_entryAt 5 = .ok (.invokevirtual 113, 3) := dk_182 0 113 (dk_at dksX1_entryAt_0 5 rfl rfl)
theorem dX1_entryAt_8 : decode cX1_entryAt 8 = .ok (.invokestatic 97, 3) := dk_184 0 97 (dk_at dksX1_entryAt_0 8 rfl rfl)
theorem dX1_entryAt_11 : decode cX1_entryAt 11 = .ok (.aload_n 0, 1) := dk_42 (dk_at dksX1_entryAt_0 11 rfl rfl)
theorem dX1_entryAt_12 : decode cX1_entryAt 12 = .ok (.getfield 58, 3) := dk_180 0 58 (dk_at dksX1_entryAt_0 12 rfl rfl)
theorem dX1_entryAt_15 : decode cX1_entryAt 15 = .ok (.invokevirtual 380, 3) := dk_182 1 124 (dk_at dksX1_entryAt_0 15 rfl rfl)
theorem dX1_entryAt_18 : decode cX1_entryAt 18 = .ok (.checkcast 101, 3) := dk_192 0 101 (dk_at dksX1_entryAt_0 18 rfl rfl)
theorem dX1_entryAt_21 : decode cX1_entryAt 21 = .ok (.astore_n 2, 1) := dk_77 (dk_at dksX1_entryAt_0 21 rfl rfl)
theorem dX1_entryAt_22 : decode cX1_entryAt 22 = .ok (.iconst 0, 1) := dk_3 (dk_at dksX1_entryAt_0 22 rfl rfl)
theorem dX1_entryAt_23 : decode cX1_entryAt 23 = .ok (.istore_n 3, 1) := dk_62 (dk_at dksX1_entryAt_0 23 rfl rfl)
theorem dX1_entryAt_24 : decode cX1_entryAt 24 = .ok (.aload_n 0, 1) := dk_42 (dk_at dksX1_entryAt_1 0 rfl rfl)
theorem dX1_entryAt_25 : decode cX1_entryAt 25 = .ok (.getfield 58, 3) := dk_180 0 58 (dk_at dksX1_entryAt_1 1 rfl rfl)
theorem dX1_entryAt_28 : decode cX1_entryAt 28 = .ok (.invokevirtual 383, 3) := dk_182 1 127 (dk_at dksX1_entryAt_1 4 rfl rfl)
theorem dX1_entryAt_31 : decode cX1_entryAt 31 = .ok (.astore 4, 2) := dk_58 4 (dk_at dksX1_entryAt_1 7 rfl rfl)
theorem dX1_entryAt_33 : decode cX1_entryAt 33 = .ok (.aload 4, 2) := dk_25 4 (dk_at dksX1_entryAt_1 9 rfl rfl)
theorem dX1_entryAt_35 : decode cX1_entryAt 35 = .ok (.invokeinterface 184 1, 5) := by decide +kernel
theorem dX1_entryAt_40 : decode cX1_entryAt 40 = .ok (.ifCond .eq 33, 3) := dk_153 0 33 (dk_at dksX1_entryAt_1 16 rfl rfl)
theorem dX1_entryAt_43 : decode cX1_entryAt 43 = .ok (.aload 4, 2) := dk_25 4 (dk_at dksX1_entryAt_1 19 rfl rfl)
theorem dX1_entryAt_45 : decode cX1_entryAt 45 = .ok (.invokeinterface 190 1, 5) := by decide +kernel
theorem dX1_entryAt_50 : decode cX1_entryAt 50 = .ok (.checkcast 101, 3) := dk_192 0 101 (dk_at dksX1_entryAt_2 5 rfl rfl)
theorem dX1_entryAt_53 : decode cX1_entryAt 53 = .ok (.astore 5, 2) := dk_58 5 (dk_at dksX1_entryAt_2 8 rfl rfl)
theorem dX1_entryAt_55 : decode cX1_entryAt 55 = .ok (.iload_n 3, 1) := dk_29 (dk_at dksX1_entryAt_2 10 rfl rfl)
theorem dX1_entryAt_56 : decode cX1_entryAt 56 = .ok (.iload_n 1, 1) := dk_27 (dk_at dksX1_entryAt_2 11 rfl rfl)
theorem dX1_entryAt_57 : decode cX1_entryAt 57 = .ok (.if_icmp .ne 8, 3) := dk_160 0 8 (dk_at dksX1_entryAt_2 12 rfl rfl)
theorem dX1_entryAt_60 : decode cX1_entryAt 60 = .ok (.aload 5, 2) := dk_25 5 (dk_at dksX1_entryAt_2 15 rfl rfl)
theorem dX1_entryAt_62 : decode cX1_entryAt 62 = .ok (.goto 4, 3) := dk_167 0 4 (dk_at dksX1_entryAt_2 17 rfl rfl)
theorem dX1_entryAt_65 : decode cX1_entryAt 65 = .ok (.aload_n 2, 1) := dk_44 (dk_at dksX1_entryAt_2 20 rfl rfl)
theorem dX1_entryAt_66 : decode cX1_entryAt 66 = .ok (.astore_n 2, 1) := dk_77 (dk_at dksX1_entryAt_2 21 rfl rfl)
theorem dX1_entryAt_67 : decode cX1_entryAt 67 = .ok (.iinc 3 1, 3) := dk_132 3 1 (dk_at dksX1_entryAt_3 0 rfl rfl)
theorem dX1_entryAt_70 : decode cX1_entryAt 70 = .ok (.goto (-37), 3) := dk_167 255 219 (dk_at dksX1_entryAt_3 3 rfl rfl)
theorem dX1_entryAt_73 : decode cX1_entryAt 73 = .ok (.aload_n 2, 1) := dk_44 (dk_at dksX1_entryAt_3 6 rfl rfl)
theorem dX1_entryAt_74 : decode cX1_entryAt 74 = .ok (.areturn, 1) := dk_176 (dk_at dksX1_entryAt_3 7 rfl rfl)
abbrev cX1_doneShare : ByteArray := prog_2_method_52_code
def yX1_doneShare : MethodName := ⟨RX1, "doneShare", "()F"⟩
def dkwX1_doneShare_4 : List UInt8 := [134, 110, 174]
abbrev dktX1_doneShare_4 : List UInt8 := dkwX1_doneShare_4 ++ []
def dkwX1_doneShare_3 : List UInt8 := [53, 161, 0, 7, 4, 167, 0, 4, 3, 96, 61, 132, 3, 1, 167, 255, 179, 27, 184, 1, 128, 28, 134, 27]
abbrev dktX1_doneShare_3 : List UInt8 := dkwX1_doneShare_3 ++ dktX1_doneShare_4
def dkwX1_doneShare_2 : List UInt8 := [167, 0, 4, 3, 96, 60, 28, 21, 5, 153, 0, 23, 42, 25, 4, 29, 182, 1, 46, 42, 180, 0, 13, 29]
abbrev dktX1_doneShare_2 : List UInt8 := dkwX1_doneShare_2 ++ dktX1_doneShare_3
def dkwX1_doneShare_1 : List UInt8 := [185, 1, 45, 1, 0, 158, 0, 7, 4, 167, 0, 4, 3, 54, 5, 27, 21, 5, 153, 0, 7, 4]
abbrev dktX1_doneShare_1 : List UInt8 := dkwX1_doneShare_1 ++ dktX1_doneShare_2
def dkwX1_doneShare_0 : List UInt8 := [3, 60, 3, 61, 3, 62, 29, 42, 180, 0, 94, 162, 0, 75, 42, 29, 182, 1, 41, 58, 4, 25, 4]
abbrev dktX1_doneShare_0 : List UInt8 := dkwX1_doneShare_0 ++ dktX1_doneShare_1
theorem dksX1_doneShare_0 : cX1_doneShare.data.toList.drop 0 = dktX1_doneShare_0 := by decide +kernel
theorem dksX1_doneShare_1 : cX1_doneShare.data.toList.drop 23 = dktX1_doneShare_1 := dk_seg dksX1_doneShare_0 23 rfl rfl
theorem dksX1_doneShare_2 : cX1_doneShare.data.toList.drop 45 = dktX1_doneShare_2 := dk_seg dksX1_doneShare_1 22 rfl rfl
theorem dksX1_doneShare_3 : cX1_doneShare.data.toList.drop 69 = dktX1_doneShare_3 := dk_seg dksX1_doneShare_2 24 rfl rfl
theorem dksX1_doneShare_4 : cX1_doneShare.data.toList.drop 93 = dktX1_doneShare_4 := dk_seg dksX1_doneShare_3 24 rfl rfl
theorem dX1_doneShare_0 : decode cX1_doneShare 0 = .ok (.iconst 0, 1) := dk_3 (dk_at dksX1_doneShare_0 0 rfl rfl)
theorem dX1_doneShare_1 : decode cX1_doneShare 1 = .ok (.istore_n 1, 1) := dk_60 (dk_at dksX1_doneShare_0 1 rfl rfl)
theorem dX1_doneShare_2 : decode cX1_doneShare 2 = .ok (.iconst 0, 1) := dk_3 (dk_at dksX1_doneShare_0 2 rfl rfl)
theorem dX1_doneShare_3 : decode cX1_doneShare 3 = .ok (.istore_n 2, 1) := dk_61 (dk_at dksX1_doneShare_0 3 rfl rfl)
theorem dX1_doneShare_4 : decode cX1_doneShare 4 = .ok (.iconst 0, 1) := dk_3 (dk_at dksX1_doneShare_0 4 rfl rfl)
theorem dX1_doneShare_5 : decode cX1_doneShare 5 = .ok (.istore_n 3, 1) := dk_62 (dk_at dksX1_doneShare_0 5 rfl rfl)
theorem dX1_doneShare_6 : decode cX1_doneShare 6 = .ok (.iload_n 3, 1) := dk_29 (dk_at dksX1_doneShare_0 6 rfl rfl)
theorem dX1_doneShare_7 : decode cX1_doneShare 7 = .ok (.aload_n 0, 1) := dk_42 (dk_at dksX1_doneShare_0 7 rfl rfl)
theorem dX1_doneShare_8 : decode cX1_doneShare 8 = .ok (.getfield 94, 3) := dk_180 0 94 (dk_at dksX1_doneShare_0 8 rfl rfl)
theorem dX1_doneShare_11 : decode cX1_doneShare 11 = .ok (.if_icmp .ge 75, 3) := dk_162 0 75 (dk_at dksX1_doneShare_0 11 rfl rfl)
theorem dX1_doneShare_14 : decode cX1_doneShare 14 = .ok (.aload_n 0, 1) := dk_42 (dk_at dksX1_doneShare_0 14 rfl rfl)
theorem dX1_doneShare_15 : decode cX1_doneShare 15 = .ok (.iload_n 3, 1) := dk_29 (dk_at dksX1_doneShare_0 15 rfl rfl)
theorem dX1_doneShare_16 : decode cX1_doneShare 16 = .ok (.invokevirtual 297, 3) := dk_182 1 41 (dk_at dksX1_doneShare_0 16 rfl rfl)
theorem dX1_doneShare_19 : decode cX1_doneShare 19 = .ok (.astore 4, 2) := dk_58 4 (dk_at dksX1_doneShare_0 19 rfl rfl)
theorem dX1_doneShare_21 : decode cX1_doneShare 21 = .ok (.aload 4, 2) := dk_25 4 (dk_at dksX1_doneShare_0 21 rfl rfl)
theorem dX1_doneShare_23 : decode cX1_doneShare 23 = .ok (.invokeinterface 301 1, 5) := by decide +kernel
theorem dX1_doneShare_28 : decode cX1_doneShare 28 = .ok (.ifCond .le 7, 3) := dk_158 0 7 (dk_at dksX1_doneShare_1 5 rfl rfl)
theorem dX1_doneShare_31 : decode cX1_doneShare 31 = .ok (.iconst 1, 1) := dk_4 (dk_at dksX1_doneShare_1 8 rfl rfl)
theorem dX1_doneShare_32 : decode cX1_doneShare 32 = .ok (.goto 4, 3) := dk_167 0 4 (dk_at dksX1_doneShare_1 9 rfl rfl)
theorem dX1_doneShare_35 : decode cX1_doneShare 35 = .ok (.iconst 0, 1) := dk_3 (dk_at dksX1_doneShare_1 12 rfl rfl)
theorem dX1_doneShare_36 : decode cX1_doneShare 36 = .ok (.istore 5, 2) := dk_54 5 (dk_at dksX1_doneShare_1 13 rfl rfl)
theorem dX1_doneShare_38 : decode cX1_doneShare 38 = .ok (.iload_n 1, 1) := dk_27 (dk_at dksX1_doneShare_1 15 rfl rfl)
theorem dX1_doneShare_39 : decode cX1_doneShare 39 = .ok (.iload 5, 2) := dk_21 5 (dk_at dksX1_doneShare_1 16 rfl rfl)
theorem dX1_doneShare_41 : decode cX1_doneShare 41 = .ok (.ifCond .eq 7, 3) := dk_153 0 7 (dk_at dksX1_doneShare_1 18 rfl rfl)
theorem dX1_doneShare_44 : decode cX1_doneShare 44 = .ok (.iconst 1, 1) := dk_4 (dk_at dksX1_doneShare_1 21 rfl rfl)
theorem dX1_doneShare_45 : decode cX1_doneShare 45 = .ok (.goto 4, 3) := dk_167 0 4 (dk_at dksX1_doneShare_2 0 rfl rfl)
theorem dX1_doneShare_48 : decode cX1_doneShare 48 = .ok (.iconst 0, 1) := dk_3 (dk_at dksX1_doneShare_2 3 rfl rfl)
theorem dX1_doneShare_49 : decode cX1_doneShare 49 = .ok (.iadd, 1) := dk_96 (dk_at dksX1_doneShare_2 4 rfl rfl)
theorem dX1_doneShare_50 : decode cX1_doneShare 50 = .ok (.istore_n 1, 1) := dk_60 (dk_at dksX1_doneShare_2 5 rfl rfl)
theorem dX1_doneShare_51 : decode cX1_doneShare 51 = .ok (.iload_n 2, 1) := dk_28 (dk_at dksX1_doneShare_2 6 rfl rfl)
theorem dX1_doneShare_52 : decode cX1_doneShare 52 = .ok (.iload 5, 2) := dk_21 5 (dk_at dksX1_doneShare_2 7 rfl rfl)
theorem dX1_doneShare_54 : decode cX1_doneShare 54 = .ok (.ifCond .eq 23, 3) := dk_153 0 23 (dk_at dksX1_doneShare_2 9 rfl rfl)
theorem dX1_doneShare_57 : decode cX1_doneShare 57 = .ok (.aload_n 0, 1) := dk_42 (dk_at dksX1_doneShare_2 12 rfl rfl)
theorem dX1_doneShare_58 : decode cX1_doneShare 58 = .ok (.aload 4, 2) := dk_25 4 (dk_at dksX1_doneShare_2 13 rfl rfl)
theorem dX1_doneShare_60 : decode cX1_doneShare 60 = .ok (.iload_n 3, 1) := dk_29 (dk_at dksX1_doneShare_2 15 rfl rfl)
theorem dX1_doneShare_61 : decode cX1_doneShare 61 = .ok (.invokevirtual 302, 3) := dk_182 1 46 (dk_at dksX1_doneShare_2 16 rfl rfl)
theorem dX1_doneShare_64 : decode cX1_doneShare 64 = .ok (.aload_n 0, 1) := dk_42 (dk_at dksX1_doneShare_2 19 rfl rfl)
theorem dX1_doneShare_65 : decode cX1_doneShare 65 = .ok (.getfield 13, 3) := dk_180 0 13 (dk_at dksX1_doneShare_2 20 rfl rfl)
theorem dX1_doneShare_68 : decode cX1_doneShare 68 = .ok (.iload_n 3, 1) := dk_29 (dk_at dksX1_doneShare_2 23 rfl rfl)
theorem dX1_doneShare_69 : decode cX1_doneShare 69 = .ok (.saload, 1) := dk_53 (dk_at dksX1_doneShare_3 0 rfl rfl)
theorem dX1_doneShare_70 : decode cX1_doneShare 70 = .ok (.if_icmp .lt 7, 3) := dk_161 0 7 (dk_at dksX1_doneShare_3 1 rfl rfl)
theorem dX1_doneShare_73 : decode cX1_doneShare 73 = .ok (.iconst 1, 1) := dk_4 (dk_at dksX1_doneShare_3 4 rfl rfl)
theorem dX1_doneShare_74 : decode cX1_doneShare 74 = .ok (.goto 4, 3) := dk_167 0 4 (dk_at dksX1_doneShare_3 5 rfl rfl)
theorem dX1_doneShare_77 : decode cX1_doneShare 77 = .ok (.iconst 0, 1) := dk_3 (dk_at dksX1_doneShare_3 8 rfl rfl)
theorem dX1_doneShare_78 : decode cX1_doneShare 78 = .ok (.iadd, 1) := dk_96 (dk_at dksX1_doneShare_3 9 rfl rfl)
theorem dX1_doneShare_79 : decode cX1_doneShare 79 = .ok (.istore_n 2, 1) := dk_61 (dk_at dksX1_doneShare_3 10 rfl rfl)
theorem dX1_doneShare_80 : decode cX1_doneShare 80 = .ok (.iinc 3 1, 3) := dk_132 3 1 (dk_at dksX1_doneShare_3 11 rfl rfl)
theorem dX1_doneShare_83 : decode cX1_doneShare 83 = .ok (.goto (-77), 3) := dk_167 255 179 (dk_at dksX1_doneShare_3 14 rfl rfl)
theorem dX1_doneShare_86 : decode cX1_doneShare 86 = .ok (.iload_n 1, 1) := dk_27 (dk_at dksX1_doneShare_3 17 rfl rfl)
theorem dX1_doneShare_87 : decode cX1_doneShare 87 = .ok (.invokestatic 384, 3) := dk_184 1 128 (dk_at dksX1_doneShare_3 18 rfl rfl)
theorem dX1_doneShare_90 : decode cX1_doneShare 90 = .ok (.iload_n 2, 1) := dk_28 (dk_at dksX1_doneShare_3 21 rfl rfl)
theorem dX1_doneShare_91 : decode cX1_doneShare 91 = .ok (.i2f, 1) := dk_134 (dk_at dksX1_doneShare_3 22 rfl rfl)
theorem dX1_doneShare_92 : decode cX1_doneShare 92 = .ok (.iload_n 1, 1) := dk_27 (dk_at dksX1_doneShare_3 23 rfl rfl)
theorem dX1_doneShare_93 : decode cX1_doneShare 93 = .ok (.i2f, 1) := dk_134 (dk_at dksX1_doneShare_4 0 rfl rfl)
theorem dX1_doneShare_94 : decode cX1_doneShare 94 = .ok (.fdiv, 1) := dk_110 (dk_at dksX1_doneShare_4 1 rfl rfl)
theorem dX1_doneShare_95 : decode cX1_doneShare 95 = .ok (.freturn, 1) := dk_174 (dk_at dksX1_doneShare_4 2 rfl rfl)
abbrev cX1_checkDivisor : ByteArray := prog_2_method_8_code
def yX1_checkDivisor : MethodName := ⟨RX1, "checkDivisor", "(I)V"⟩
def dkwX1_checkDivisor_0 : List UInt8 := [26, 154, 0, 11, 187, 0, 91, 89, 183, 0, 93, 191, 177]
abbrev dktX1_checkDivisor_0 : List UInt8 := dkwX1_checkDivisor_0 ++ []
theorem dksX1_checkDivisor_0 : cX1_checkDivisor.data.toList.drop 0 = dktX1_checkDivisor_0 := by decide +kernel
theorem dX1_checkDivisor_0 : decode cX1_checkDivisor 0 = .ok (.iload_n 0, 1) := dk_26 (dk_at dksX1_checkDivisor_0 0 rfl rfl)
theorem dX1_checkDivisor_1 : decode cX1_checkDivisor 1 = .ok (.ifCond .ne 11, 3) := dk_154 0 11 (dk_at dksX1_checkDivisor_0 1 rfl rfl)
theorem dX1_checkDivisor_4 : decode cX1_checkDivisor 4 = .ok (.new 91, 3) := dk_187 0 91 (dk_at dksX1_checkDivisor_0 4 rfl rfl)
theorem dX1_checkDivisor_7 : decode cX1_checkDivisor 7 = .ok (.dup, 1) := dk_89 (dk_at dksX1_checkDivisor_0 7 rfl rfl)
theorem dX1_checkDivisor_8 : decode cX1_checkDivisor 8 = .ok (.invokespecial 93, 3) := dk_183 0 93 (dk_at dksX1_checkDivisor_0 8 rfl rfl)
theorem dX1_checkDivisor_11 : decode cX1_checkDivisor 11 = .ok (.athrow, 1) := dk_191 (dk_at dksX1_checkDivisor_0 11 rfl rfl)
theorem dX1_checkDivisor_12 : decode cX1_checkDivisor 12 = .ok (.return_, 1) := dk_177 (dk_at dksX1_checkDivisor_0 12 rfl rfl)
abbrev cX1_meanDepth : ByteArray := prog_2_method_54_code
def yX1_meanDepth : MethodName := ⟨RX1, "meanDepth", "()D"⟩
def dkwX1_meanDepth_0 : List UInt8 := [42, 180, 0, 94, 184, 1, 128, 42, 42, 180, 0, 9, 182, 1, 131, 135, 42, 180, 0, 94, 135, 111, 175]
abbrev dktX1_meanDepth_0 : List UInt8 := dkwX1_meanDepth_0 ++ []
theorem dksX1_meanDepth_0 : cX1_meanDepth.data.toList.drop 0 = dktX1_meanDepth_0 := by decide +kernel
theorem dX1_meanDepth_0 : decode cX1_meanDepth 0 = .ok (.aload_n 0, 1) := dk_42 (dk_at dksX1_meanDepth_0 0 rfl rfl)
theorem dX1_meanDepth_1 : decode cX1_meanDepth 1 = .ok (.getfield 94, 3) := dk_180 0 94 (dk_at dksX1_meanDepth_0 1 rfl rfl)
theorem dX1_meanDepth_4 : decode cX1_meanDepth 4 = .ok (.invokestatic 384, 3) := dk_184 1 128 (dk_at dksX1_meanDepth_0 4 rfl rfl)
theorem dX1_meanDepth_7 : decode cX1_meanDepth 7 = .ok (.aload_n 0, 1) := dk_42 (dk_at dksX1_meanDepth_0 7 rfl rfl)
theorem dX1_meanDepth_8 : decode cX1_meanDepth 8 = .ok (.aload_n 0, 1) := dk_42 (dk_at dksX1_meanDepth_0 8 rfl rfl)
theorem dX1_meanDepth_9 : decode cX1_meanDepth 9 = .ok (.getfield 9, 3) := dk_180 0 9 (dk_at dksX1_meanDepth_0 9 rfl rfl)
theorem dX1_meanDepth_12 : decode cX1_meanDepth 12 = .ok (.invokevirtual 387, 3) := dk_182 1 131 (dk_at dksX1_meanDepth_0 12 rfl rfl)
theorem dX1_meanDepth_15 : decode cX1_meanDepth 15 = .ok (.i2d, 1) := dk_135 (dk_at dksX1_meanDepth_0 15 rfl rfl)
theorem dX1_meanDepth_16 : decode cX1_meanDepth 16 = .ok (.aload_n 0, 1) := dk_42 (dk_at dksX1_meanDepth_0 16 rfl rfl)
theorem dX1_meanDepth_17 : decode cX1_meanDepth 17 = .ok (.getfield 94, 3) := dk_180 0 94 (dk_at dksX1_meanDepth_0 17 rfl rfl)
theorem dX1_meanDepth_20 : decode cX1_meanDepth 20 = .ok (.i2d, 1) := dk_135 (dk_at dksX1_meanDepth_0 20 rfl rfl)
theorem dX1_meanDepth_21 : decode cX1_meanDepth 21 = .ok (.ddiv, 1) := dk_111 (dk_at dksX1_meanDepth_0 21 rfl rfl)
theorem dX1_meanDepth_22 : decode cX1_meanDepth 22 = .ok (.dreturn, 1) := dk_175 (dk_at dksX1_meanDepth_0 22 rfl rfl)
theorem q48 : (Jvm.Cond.initialized "Dredgeledger") ∈ lw_all := lw_g (lw_at lw_m1 1 rfl) rfl
theorem q109 : (Jvm.Cond.instantiable "Dredgeledger" (21 : Nat)) ∈ lw_all := lw_g (lw_at lw_m1 62 rfl) rfl
theorem q111 : (Jvm.Cond.instanceMethod ({ cls := "Dredgeledger", name := "<init>", desc := "()V" } : Jvm.MethodName)) ∈ lw_all := lw_g (lw_at lw_m1 64 rfl) rfl
theorem q112 : (Jvm.Cond.code ({ cls := "Dredgeledger", name := "<init>", desc := "()V" } : Jvm.MethodName) prog_2_method_1_code (1 : Nat) (Option.none : Option Jvm.ClassFile.FieldType)) ∈ lw_all := lw_g (lw_at lw_m1 65 rfl) rfl
theorem q113 : (Jvm.Cond.methodLink "Dredgeledger" (1 : Nat) ({ cls := "java/lang/Object", name := "<init>", desc := "()V" } : Jvm.MethodName)) ∈ lw_all := lw_g (lw_at lw_m1 66 rfl) rfl
theorem q116 : (Jvm.Cond.classLink "Dredgeledger" (22 : Nat) "java/util/BitSet") ∈ lw_all := lw_g (lw_at lw_m1 69 rfl) rfl
theorem q118 : (Jvm.Cond.methodLink "Dredgeledger" (24 : Nat) ({ cls := "java/util/BitSet", name := "<init>", desc := "(I)V" } : Jvm.MethodName)) ∈ lw_all := lw_g (lw_at lw_m1 71 rfl) rfl
theorem q141 : (Jvm.Cond.classLink "Dredgeledger" (31 : Nat) "java/util/ArrayList") ∈ lw_all := lw_g (lw_at lw_m1 94 rfl) rfl
theorem q143 : (Jvm.Cond.methodLink "Dredgeledger" (33 : Nat) ({ cls := "java/util/ArrayList", name := "<init>", desc := "(I)V" } : Jvm.MethodName)) ∈ lw_all := lw_g (lw_at lw_m1 96 rfl) rfl
theorem q495 : (Jvm.Cond.classLink "Dredgeledger" (38 : Nat) "java/util/LinkedList") ∈ lw_all := lw_g (lw_at lw_m2 208 rfl) rfl
theorem q497 : (Jvm.Cond.methodLink "Dredgeledger" (40 : Nat) ({ cls := "java/util/LinkedList", name := "<init>", desc := "()V" } : Jvm.MethodName)) ∈ lw_all := lw_g (lw_at lw_m2 210 rfl) rfl
theorem q517 : (Jvm.Cond.classLink "Dredgeledger" (48 : Nat) "Dredgeledger$Chain") ∈ lw_all := lw_g (lw_at lw_m2 230 rfl) rfl
theorem q519 : (Jvm.Cond.methodLinkNest "Dredgeledger" (50 : Nat) ({ cls := "Dredgeledger$Chain", name := "<init>", desc := "()V" } : Jvm.MethodName) "Dredgeledger") ∈ lw_tbl := lw_at lw_m2 232 rfl
theorem q531 : (Jvm.Cond.classLink "Dredgeledger" (55 : Nat) "java/util/ArrayDeque") ∈ lw_all := lw_g (lw_at lw_m3 4 rfl) rfl
theorem q533 : (Jvm.Cond.methodLink "Dredgeledger" (57 : Nat) ({ cls := "java/util/ArrayDeque", name := "<init>", desc := "()V" } : Jvm.MethodName)) ∈ lw_all := lw_g (lw_at lw_m3 6 rfl) rfl
theorem q550 : (Jvm.Cond.fieldLink "Dredgeledger" (9 : Nat) "Dredgeledger" "depths" "[S") ∈ lw_all := lw_g (lw_at lw_m3 23 rfl) rfl
theorem q551 : (Jvm.Cond.fieldLink "Dredgeledger" (13 : Nat) "Dredgeledger" "limits" "[S") ∈ lw_all := lw_g (lw_at lw_m3 24 rfl) rfl
theorem q552 : (Jvm.Cond.fieldLink "Dredgeledger" (16 : Nat) "Dredgeledger" "paidDepths" "[S") ∈ lw_all := lw_g (lw_at lw_m3 25 rfl) rfl
theorem q553 : (Jvm.Cond.fieldLink "Dredgeledger" (19 : Nat) "Dredgeledger" "added" "[S") ∈ lw_all := lw_g (lw_at lw_m3 26 rfl) rfl
theorem q554 : (Jvm.Cond.fieldLink "Dredgeledger" (27 : Nat) "Dredgeledger" "disputed" "Ljava/util/BitSet;") ∈ lw_all := lw_g (lw_at lw_m3 27 rfl) rfl
theorem q555 : (Jvm.Cond.fieldLink "Dredgeledger" (34 : Nat) "Dredgeledger" "grounds" "Ljava/util/ArrayList;") ∈ lw_all := lw_g (lw_at lw_m3 28 rfl) rfl
theorem q556 : (Jvm.Cond.fieldLink "Dredgeledger" (41 : Nat) "Dredgeledger" "permits" "Ljava/util/LinkedList;") ∈ lw_all := lw_g (lw_at lw_m3 29 rfl) rfl
theorem q557 : (Jvm.Cond.fieldLink "Dredgeledger" (45 : Nat) "Dredgeledger" "surveys" "Ljava/util/ArrayList;") ∈ lw_all := lw_g (lw_at lw_m3 30 rfl) rfl
theorem q558 : (Jvm.Cond.fieldLink "Dredgeledger" (51 : Nat) "Dredgeledger" "events" "LDredgeledger$Chain;") ∈ lw_all := lw_g (lw_at lw_m3 31 rfl) rfl
theorem q559 : (Jvm.Cond.fieldLink "Dredgeledger" (58 : Nat) "Dredgeledger" "log" "Ljava/util/ArrayDeque;") ∈ lw_all := lw_g (lw_at lw_m3 32 rfl) rfl
theorem q560 : (Jvm.Cond.fieldLink "Dredgeledger" (94 : Nat) "Dredgeledger" "cells" "I") ∈ lw_all := lw_g (lw_at lw_m3 33 rfl) rfl
theorem q561 : (Jvm.Cond.fieldLink "Dredgeledger" (62 : Nat) "Dredgeledger" "slope" "I") ∈ lw_all := lw_g (lw_at lw_m3 34 rfl) rfl
theorem q562 : (Jvm.Cond.fieldLink "Dredgeledger" (103 : Nat) "Dredgeledger" "day" "I") ∈ lw_all := lw_g (lw_at lw_m3 35 rfl) rfl
theorem q563 : (Jvm.Cond.fieldLink "Dredgeledger" (210 : Nat) "Dredgeledger" "tide" "I") ∈ lw_all := lw_g (lw_at lw_m3 36 rfl) rfl
theorem q564 : (Jvm.Cond.fieldLink "Dredgeledger" (138 : Nat) "Dredgeledger" "hopper" "I") ∈ lw_all := lw_g (lw_at lw_m3 37 rfl) rfl
theorem q565 : (Jvm.Cond.fieldLink "Dredgeledger" (144 : Nat) "Dredgeledger" "dredged" "I") ∈ lw_all := lw_g (lw_at lw_m3 38 rfl) rfl
theorem q566 : (Jvm.Cond.fieldLink "Dredgeledger" (173 : Nat) "Dredgeledger" "crept" "I") ∈ lw_all := lw_g (lw_at lw_m3 39 rfl) rfl
theorem q567 : (Jvm.Cond.fieldLink "Dredgeledger" (312 : Nat) "Dredgeledger" "paid" "I") ∈ lw_all := lw_g (lw_at lw_m3 40 rfl) rfl
theorem q568 : (Jvm.Cond.fieldLink "Dredgeledger" (66 : Nat) "Dredgeledger" "price" "I") ∈ lw_all := lw_g (lw_at lw_m3 41 rfl) rfl
theorem q569 : (Jvm.Cond.fieldLink "Dredgeledger" (69 : Nat) "Dredgeledger" "latestSettled" "I") ∈ lw_all := lw_g (lw_at lw_m3 42 rfl) rfl
theorem q570 : (Jvm.Cond.fieldLink "Dredgeledger" (315 : Nat) "Dredgeledger" "money" "J") ∈ lw_all := lw_g (lw_at lw_m3 43 rfl) rfl
theorem q571 : (Jvm.Cond.laysFinal "Dredgeledger" "Dredgeledger" "depths" "[S") ∈ lw_all := lw_g (lw_at lw_m3 44 rfl) rfl
theorem q572 : (Jvm.Cond.soleField "Dredgeledger" "depths") ∈ lw_all := lw_g (lw_at lw_m3 45 rfl) rfl
theorem q573 : (Jvm.Cond.laysFinal "Dredgeledger" "Dredgeledger" "limits" "[S") ∈ lw_all := lw_g (lw_at lw_m3 46 rfl) rfl
theorem q574 : (Jvm.Cond.soleField "Dredgeledger" "limits") ∈ lw_all := lw_g (lw_at lw_m3 47 rfl) rfl
theorem q575 : (Jvm.Cond.laysFinal "Dredgeledger" "Dredgeledger" "paidDepths" "[S") ∈ lw_all := lw_g (lw_at lw_m3 48 rfl) rfl
theorem q576 : (Jvm.Cond.soleField "Dredgeledger" "paidDepths") ∈ lw_all := lw_g (lw_at lw_m3 49 rfl) rfl
theorem q577 : (Jvm.Cond.laysFinal "Dredgeledger" "Dredgeledger" "added" "[S") ∈ lw_all := lw_g (lw_at lw_m3 50 rfl) rfl
theorem q578 : (Jvm.Cond.soleField "Dredgeledger" "added") ∈ lw_all := lw_g (lw_at lw_m3 51 rfl) rfl
theorem q579 : (Jvm.Cond.laysFinal "Dredgeledger" "Dredgeledger" "disputed" "Ljava/util/BitSet;") ∈ lw_all := lw_g (lw_at lw_m3 52 rfl) rfl
theorem q580 : (Jvm.Cond.soleField "Dredgeledger" "disputed") ∈ lw_all := lw_g (lw_at lw_m3 53 rfl) rfl
theorem q581 : (Jvm.Cond.laysFinal "Dredgeledger" "Dredgeledger" "grounds" "Ljava/util/ArrayList;") ∈ lw_all := lw_g (lw_at lw_m3 54 rfl) rfl
theorem q582 : (Jvm.Cond.soleField "Dredgeledger" "grounds") ∈ lw_all := lw_g (lw_at lw_m3 55 rfl) rfl
theorem q583 : (Jvm.Cond.laysFinal "Dredgeledger" "Dredgeledger" "permits" "Ljava/util/LinkedList;") ∈ lw_all := lw_g (lw_at lw_m3 56 rfl) rfl
theorem q584 : (Jvm.Cond.soleField "Dredgeledger" "permits") ∈ lw_all := lw_g (lw_at lw_m3 57 rfl) rfl
theorem q585 : (Jvm.Cond.laysFinal "Dredgeledger" "Dredgeledger" "surveys" "Ljava/util/ArrayList;") ∈ lw_all := lw_g (lw_at lw_m3 58 rfl) rfl
theorem q586 : (Jvm.Cond.soleField "Dredgeledger" "surveys") ∈ lw_all := lw_g (lw_at lw_m3 59 rfl) rfl
theorem q587 : (Jvm.Cond.laysFinal "Dredgeledger" "Dredgeledger" "events" "LDredgeledger$Chain;") ∈ lw_all := lw_g (lw_at lw_m3 60 rfl) rfl
theorem q588 : (Jvm.Cond.soleField "Dredgeledger" "events") ∈ lw_all := lw_g (lw_at lw_m3 61 rfl) rfl
theorem q589 : (Jvm.Cond.laysFinal "Dredgeledger" "Dredgeledger" "log" "Ljava/util/ArrayDeque;") ∈ lw_all := lw_g (lw_at lw_m3 62 rfl) rfl
theorem q590 : (Jvm.Cond.soleField "Dredgeledger" "log") ∈ lw_all := lw_g (lw_at lw_m3 63 rfl) rfl
theorem q591 : (Jvm.Cond.lays "Dredgeledger" "Dredgeledger" "cells" "I") ∈ lw_all := lw_g (lw_at lw_m3 64 rfl) rfl
theorem q592 : (Jvm.Cond.soleField "Dredgeledger" "cells") ∈ lw_all := lw_g (lw_at lw_m3 65 rfl) rfl
theorem q593 : (Jvm.Cond.lays "Dredgeledger" "Dredgeledger" "slope" "I") ∈ lw_all := lw_g (lw_at lw_m3 66 rfl) rfl
theorem q594 : (Jvm.Cond.soleField "Dredgeledger" "slope") ∈ lw_all := lw_g (lw_at lw_m3 67 rfl) rfl
theorem q595 : (Jvm.Cond.lays "Dredgeledger" "Dredgeledger" "day" "I") ∈ lw_all := lw_g (lw_at lw_m3 68 rfl) rfl
theorem q596 : (Jvm.Cond.soleField "Dredgeledger" "day") ∈ lw_all := lw_g (lw_at lw_m3 69 rfl) rfl
theorem q597 : (Jvm.Cond.lays "Dredgeledger" "Dredgeledger" "tide" "I") ∈ lw_all := lw_g (lw_at lw_m3 70 rfl) rfl
theorem q598 : (Jvm.Cond.soleField "Dredgeledger" "tide") ∈ lw_all := lw_g (lw_at lw_m3 71 rfl) rfl
theorem q599 : (Jvm.Cond.lays "Dredgeledger" "Dredgeledger" "hopper" "I") ∈ lw_all := lw_g (lw_at lw_m3 72 rfl) rfl
theorem q600 : (Jvm.Cond.soleField "Dredgeledger" "hopper") ∈ lw_all := lw_g (lw_at lw_m3 73 rfl) rfl
theorem q601 : (Jvm.Cond.lays "Dredgeledger" "Dredgeledger" "dredged" "I") ∈ lw_all := lw_g (lw_at lw_m3 74 rfl) rfl
theorem q602 : (Jvm.Cond.soleField "Dredgeledger" "dredged") ∈ lw_all := lw_g (lw_at lw_m3 75 rfl) rfl
theorem q603 : (Jvm.Cond.lays "Dredgeledger" "Dredgeledger" "crept" "I") ∈ lw_all := lw_g (lw_at lw_m3 76 rfl) rfl
theorem q604 : (Jvm.Cond.soleField "Dredgeledger" "crept") ∈ lw_all := lw_g (lw_at lw_m3 77 rfl) rfl
theorem q605 : (Jvm.Cond.lays "Dredgeledger" "Dredgeledger" "paid" "I") ∈ lw_all := lw_g (lw_at lw_m3 78 rfl) rfl
theorem q606 : (Jvm.Cond.soleField "Dredgeledger" "paid") ∈ lw_all := lw_g (lw_at lw_m3 79 rfl) rfl
theorem q607 : (Jvm.Cond.lays "Dredgeledger" "Dredgeledger" "price" "I") ∈ lw_all := lw_g (lw_at lw_m3 80 rfl) rfl
theorem q608 : (Jvm.Cond.soleField "Dredgeledger" "price") ∈ lw_all := lw_g (lw_at lw_m3 81 rfl) rfl
theorem q609 : (Jvm.Cond.lays "Dredgeledger" "Dredgeledger" "latestSettled" "I") ∈ lw_all := lw_g (lw_at lw_m3 82 rfl) rfl
theorem q610 : (Jvm.Cond.soleField "Dredgeledger" "latestSettled") ∈ lw_all := lw_g (lw_at lw_m3 83 rfl) rfl
theorem q611 : (Jvm.Cond.lays "Dredgeledger" "Dredgeledger" "money" "J") ∈ lw_all := lw_g (lw_at lw_m3 84 rfl) rfl
theorem q612 : (Jvm.Cond.soleField "Dredgeledger" "money") ∈ lw_all := lw_g (lw_at lw_m3 85 rfl) rfl
theorem q613 : (Jvm.Cond.superclass "Dredgeledger" "java/lang/Object") ∈ lw_all := lw_g (lw_at lw_m3 86 rfl) rfl
theorem q615 : (Jvm.Cond.instanceMethod ({ cls := "Dredgeledger", name := "day", desc := "()I" } : Jvm.MethodName)) ∈ lw_all := lw_g (lw_at lw_m3 88 rfl) rfl
theorem q616 : (Jvm.Cond.selects "Dredgeledger" ({ cls := "Dredgeledger", name := "day", desc := "()I" } : Jvm.MethodName) ({ cls := "Dredgeledger", name := "day", desc := "()I" } : Jvm.MethodName)) ∈ lw_all := lw_g (lw_at lw_m3 89 rfl) rfl
theorem q617 : (Jvm.Cond.code ({ cls := "Dredgeledger", name := "day", desc := "()I" } : Jvm.MethodName) prog_2_method_20_code (1 : Nat) (Option.some Jvm.ClassFile.FieldType.int)) ∈ lw_all := lw_g (lw_at lw_m3 90 rfl) rfl
theorem q619 : (Jvm.Cond.instanceMethod ({ cls := "Dredgeledger", name := "hopper", desc := "()I" } : Jvm.MethodName)) ∈ lw_all := lw_g (lw_at lw_m3 92 rfl) rfl
theorem q620 : (Jvm.Cond.selects "Dredgeledger" ({ cls := "Dredgeledger", name := "hopper", desc := "()I" } : Jvm.MethodName) ({ cls := "Dredgeledger", name := "hopper", desc := "()I" } : Jvm.MethodName)) ∈ lw_all := lw_g (lw_at lw_m3 93 rfl) rfl
theorem q621 : (Jvm.Cond.code ({ cls := "Dredgeledger", name := "hopper", desc := "()I" } : Jvm.MethodName) prog_2_method_30_code (1 : Nat) (Option.some Jvm.ClassFile.FieldType.int)) ∈ lw_all := lw_g (lw_at lw_m3 94 rfl) rfl
theorem q623 : (Jvm.Cond.instanceMethod ({ cls := "Dredgeledger", name := "permits", desc := "()I" } : Jvm.MethodName)) ∈ lw_all := lw_g (lw_at lw_m3 96 rfl) rfl
theorem q624 : (Jvm.Cond.selects "Dredgeledger" ({ cls := "Dredgeledger", name := "permits", desc := "()I" } : Jvm.MethodName) ({ cls := "Dredgeledger", name := "permits", desc := "()I" } : Jvm.MethodName)) ∈ lw_all := lw_g (lw_at lw_m3 97 rfl) rfl
theorem q625 : (Jvm.Cond.code ({ cls := "Dredgeledger", name := "permits", desc := "()I" } : Jvm.MethodName) prog_2_method_32_code (1 : Nat) (Option.some Jvm.ClassFile.FieldType.int)) ∈ lw_all := lw_g (lw_at lw_m3 98 rfl) rfl
theorem q626 : (Jvm.Cond.methodLink "Dredgeledger" (219 : Nat) ({ cls := "java/util/LinkedList", name := "size", desc := "()I" } : Jvm.MethodName)) ∈ lw_all := lw_g (lw_at lw_m3 99 rfl) rfl
theorem q631 : (Jvm.Cond.instanceMethod ({ cls := "Dredgeledger", name := "paid", desc := "()I" } : Jvm.MethodName)) ∈ lw_all := lw_g (lw_at lw_m3 104 rfl) rfl
theorem q632 : (Jvm.Cond.selects "Dredgeledger" ({ cls := "Dredgeledger", name := "paid", desc := "()I" } : Jvm.MethodName) ({ cls := "Dredgeledger", name := "paid", desc := "()I" } : Jvm.MethodName)) ∈ lw_all := lw_g (lw_at lw_m3 105 rfl) rfl
theorem q633 : (Jvm.Cond.code ({ cls := "Dredgeledger", name := "paid", desc := "()I" } : Jvm.MethodName) prog_2_method_45_code (1 : Nat) (Option.some Jvm.ClassFile.FieldType.int)) ∈ lw_all := lw_g (lw_at lw_m3 106 rfl) rfl
theorem q635 : (Jvm.Cond.instanceMethod ({ cls := "Dredgeledger", name := "paidByCells", desc := "()I" } : Jvm.MethodName)) ∈ lw_all := lw_g (lw_at lw_m3 108 rfl) rfl
theorem q636 : (Jvm.Cond.selects "Dredgeledger" ({ cls := "Dredgeledger", name := "paidByCells", desc := "()I" } : Jvm.MethodName) ({ cls := "Dredgeledger", name := "paidByCells", desc := "()I" } : Jvm.MethodName)) ∈ lw_all := lw_g (lw_at lw_m3 109 rfl) rfl
theorem q637 : (Jvm.Cond.code ({ cls := "Dredgeledger", name := "paidByCells", desc := "()I" } : Jvm.MethodName) prog_2_method_47_code (3 : Nat) (Option.some Jvm.ClassFile.FieldType.int)) ∈ lw_all := lw_g (lw_at lw_m3 110 rfl) rfl
theorem q638 : (Jvm.Cond.methodLink "Dredgeledger" (377 : Nat) ({ cls := "Dredgeledger", name := "paidFor", desc := "(I)I" } : Jvm.MethodName)) ∈ lw_all := lw_g (lw_at lw_m3 111 rfl) rfl
theorem q639 : (Jvm.Cond.privateMethod ({ cls := "Dredgeledger", name := "paidFor", desc := "(I)I" } : Jvm.MethodName)) ∈ lw_tbl := lw_at lw_m3 112 rfl
theorem q640 : (Jvm.Cond.instanceMethod ({ cls := "Dredgeledger", name := "paidFor", desc := "(I)I" } : Jvm.MethodName)) ∈ lw_all := lw_g (lw_at lw_m3 113 rfl) rfl
theorem q641 : (Jvm.Cond.code ({ cls := "Dredgeledger", name := "paidFor", desc := "(I)I" } : Jvm.MethodName) prog_2_method_46_code (10 : Nat) (Option.some Jvm.ClassFile.FieldType.int)) ∈ lw_all := lw_g (lw_at lw_m3 114 rfl) rfl
theorem q642 : (Jvm.Cond.methodLink "Dredgeledger" (356 : Nat) ({ cls := "Dredgeledger$Chain", name := "iterator", desc := "()Ljava/util/Iterator;" } : Jvm.MethodName)) ∈ lw_all := lw_g (lw_at lw_m3 115 rfl) rfl
theorem q659 : (Jvm.Cond.interfaceEntry "Dredgeledger" (184 : Nat)) ∈ lw_tbl := lw_at lw_m3 132 rfl
theorem q660 : (Jvm.Cond.methodLink "Dredgeledger" (184 : Nat) ({ cls := "java/util/Iterator", name := "hasNext", desc := "()Z" } : Jvm.MethodName)) ∈ lw_all := lw_g (lw_at lw_m3 133 rfl) rfl
theorem q709 : (Jvm.Cond.interfaceEntry "Dredgeledger" (190 : Nat)) ∈ lw_tbl := lw_at lw_m3 182 rfl
theorem q710 : (Jvm.Cond.methodLink "Dredgeledger" (190 : Nat) ({ cls := "java/util/Iterator", name := "next", desc := "()Ljava/lang/Object;" } : Jvm.MethodName)) ∈ lw_all := lw_g (lw_at lw_m3 183 rfl) rfl
theorem q822 : (Jvm.Cond.selects "Dredgeledger" ({ cls := "java/lang/Object", name := "getClass", desc := "()Ljava/lang/Class;" } : Jvm.MethodName) ({ cls := "java/lang/Object", name := "getClass", desc := "()Ljava/lang/Class;" } : Jvm.MethodName)) ∈ lw_all := lw_g (lw_at lw_m4 55 rfl) rfl
theorem q965 : (Jvm.Cond.classLink "Dredgeledger" (357 : Nat) "Dredgeledger$Event") ∈ lw_all := lw_g (lw_at lw_m4 198 rfl) rfl
theorem q966 : (Jvm.Cond.classLink "Dredgeledger" (131 : Nat) "Dredgeledger$Limited") ∈ lw_all := lw_g (lw_at lw_m4 199 rfl) rfl
theorem q967 : (Jvm.Cond.methodLink "Dredgeledger" (359 : Nat) ({ cls := "Dredgeledger$Limited", name := "cell", desc := "()I" } : Jvm.MethodName)) ∈ lw_all := lw_g (lw_at lw_m4 200 rfl) rfl
theorem q971 : (Jvm.Cond.methodLink "Dredgeledger" (362 : Nat) ({ cls := "Dredgeledger$Limited", name := "limit", desc := "()I" } : Jvm.MethodName)) ∈ lw_all := lw_g (lw_at lw_m4 204 rfl) rfl
theorem q975 : (Jvm.Cond.classLink "Dredgeledger" (330 : Nat) "Dredgeledger$Dispute") ∈ lw_all := lw_g (lw_at lw_m4 208 rfl) rfl
theorem q976 : (Jvm.Cond.methodLink "Dredgeledger" (365 : Nat) ({ cls := "Dredgeledger$Dispute", name := "cell", desc := "()I" } : Jvm.MethodName)) ∈ lw_all := lw_g (lw_at lw_m4 209 rfl) rfl
theorem q980 : (Jvm.Cond.methodLink "Dredgeledger" (366 : Nat) ({ cls := "Dredgeledger$Dispute", name := "side", desc := "()LDredgeledger$Side;" } : Jvm.MethodName)) ∈ lw_all := lw_g (lw_at lw_m4 213 rfl) rfl
theorem q984 : (Jvm.Cond.methodLink "Dredgeledger" (370 : Nat) ({ cls := "Dredgeledger$Side", name := "bars", desc := "()Z" } : Jvm.MethodName)) ∈ lw_all := lw_g (lw_at lw_m4 217 rfl) rfl
theorem q993 : (Jvm.Cond.classLink "Dredgeledger" (319 : Nat) "Dredgeledger$Settled") ∈ lw_all := lw_g (lw_at lw_m4 226 rfl) rfl
theorem q994 : (Jvm.Cond.methodLink "Dredgeledger" (373 : Nat) ({ cls := "Dredgeledger$Settled", name := "survey", desc := "()LDredgeledger$Survey;" } : Jvm.MethodName)) ∈ lw_all := lw_g (lw_at lw_m4 227 rfl) rfl
theorem q998 : (Jvm.Cond.methodLink "Dredgeledger" (265 : Nat) ({ cls := "Dredgeledger$Survey", name := "tells", desc := "(I)Z" } : Jvm.MethodName)) ∈ lw_all := lw_g (lw_at lw_m4 231 rfl) rfl
theorem q1003 : (Jvm.Cond.static ({ cls := "Dredgeledger", name := "isBetween", desc := "(III)Z" } : Jvm.MethodName)) ∈ lw_all := lw_g (lw_at lw_m4 236 rfl) rfl
theorem q1004 : (Jvm.Cond.code ({ cls := "Dredgeledger", name := "isBetween", desc := "(III)Z" } : Jvm.MethodName) prog_2_method_2_code (3 : Nat) (Option.some Jvm.ClassFile.FieldType.boolean)) ∈ lw_all := lw_g (lw_at lw_m4 237 rfl) rfl
theorem q1005 : (Jvm.Cond.methodLink "Dredgeledger" (272 : Nat) ({ cls := "Dredgeledger$Survey", name := "of", desc := "(I)I" } : Jvm.MethodName)) ∈ lw_all := lw_g (lw_at lw_m4 238 rfl) rfl
theorem q1009 : (Jvm.Cond.methodLink "Dredgeledger" (247 : Nat) ({ cls := "java/lang/Math", name := "min", desc := "(II)I" } : Jvm.MethodName)) ∈ lw_all := lw_g (lw_at lw_m5 2 rfl) rfl
theorem q1010 : (Jvm.Cond.methodLink "Dredgeledger" (216 : Nat) ({ cls := "java/lang/Math", name := "max", desc := "(II)I" } : Jvm.MethodName)) ∈ lw_all := lw_g (lw_at lw_m5 3 rfl) rfl
theorem q1012 : (Jvm.Cond.instanceMethod ({ cls := "Dredgeledger", name := "money", desc := "()J" } : Jvm.MethodName)) ∈ lw_all := lw_g (lw_at lw_m5 5 rfl) rfl
theorem q1013 : (Jvm.Cond.selects "Dredgeledger" ({ cls := "Dredgeledger", name := "money", desc := "()J" } : Jvm.MethodName) ({ cls := "Dredgeledger", name := "money", desc := "()J" } : Jvm.MethodName)) ∈ lw_all := lw_g (lw_at lw_m5 6 rfl) rfl
theorem q1014 : (Jvm.Cond.code ({ cls := "Dredgeledger", name := "money", desc := "()J" } : Jvm.MethodName) prog_2_method_48_code (1 : Nat) (Option.some Jvm.ClassFile.FieldType.long)) ∈ lw_all := lw_g (lw_at lw_m5 7 rfl) rfl
theorem q1016 : (Jvm.Cond.instanceMethod ({ cls := "Dredgeledger", name := "dredged", desc := "()I" } : Jvm.MethodName)) ∈ lw_all := lw_g (lw_at lw_m5 9 rfl) rfl
theorem q1017 : (Jvm.Cond.selects "Dredgeledger" ({ cls := "Dredgeledger", name := "dredged", desc := "()I" } : Jvm.MethodName) ({ cls := "Dredgeledger", name := "dredged", desc := "()I" } : Jvm.MethodName)) ∈ lw_all := lw_g (lw_at lw_m5 10 rfl) rfl
theorem q1018 : (Jvm.Cond.code ({ cls := "Dredgeledger", name := "dredged", desc := "()I" } : Jvm.MethodName) prog_2_method_49_code (1 : Nat) (Option.some Jvm.ClassFile.FieldType.int)) ∈ lw_all := lw_g (lw_at lw_m5 11 rfl) rfl
theorem q1020 : (Jvm.Cond.instanceMethod ({ cls := "Dredgeledger", name := "crept", desc := "()I" } : Jvm.MethodName)) ∈ lw_all := lw_g (lw_at lw_m5 13 rfl) rfl
theorem q1021 : (Jvm.Cond.selects "Dredgeledger" ({ cls := "Dredgeledger", name := "crept", desc := "()I" } : Jvm.MethodName) ({ cls := "Dredgeledger", name := "crept", desc := "()I" } : Jvm.MethodName)) ∈ lw_all := lw_g (lw_at lw_m5 14 rfl) rfl
theorem q1022 : (Jvm.Cond.code ({ cls := "Dredgeledger", name := "crept", desc := "()I" } : Jvm.MethodName) prog_2_method_50_code (1 : Nat) (Option.some Jvm.ClassFile.FieldType.int)) ∈ lw_all := lw_g (lw_at lw_m5 15 rfl) rfl
theorem q1024 : (Jvm.Cond.instanceMethod ({ cls := "Dredgeledger", name := "report", desc := "()Ljava/lang/String;" } : Jvm.MethodName)) ∈ lw_all := lw_g (lw_at lw_m5 17 rfl) rfl
theorem q1025 : (Jvm.Cond.selects "Dredgeledger" ({ cls := "Dredgeledger", name := "report", desc := "()Ljava/lang/String;" } : Jvm.MethodName) ({ cls := "Dredgeledger", name := "report", desc := "()Ljava/lang/String;" } : Jvm.MethodName)) ∈ lw_all := lw_g (lw_at lw_m5 18 rfl) rfl
theorem q1026 : (Jvm.Cond.code ({ cls := "Dredgeledger", name := "report", desc := "()Ljava/lang/String;" } : Jvm.MethodName) prog_2_method_55_code (3 : Nat) (Option.some (Jvm.ClassFile.FieldType.object "java/lang/String"))) ∈ lw_all := lw_g (lw_at lw_m5 19 rfl) rfl
theorem q1027 : (Jvm.Cond.classLink "Dredgeledger" (391 : Nat) "java/lang/StringBuilder") ∈ lw_all := lw_g (lw_at lw_m5 20 rfl) rfl
theorem q1028 : (Jvm.Cond.methodLink "Dredgeledger" (393 : Nat) ({ cls := "java/lang/StringBuilder", name := "<init>", desc := "()V" } : Jvm.MethodName)) ∈ lw_all := lw_g (lw_at lw_m5 21 rfl) rfl
theorem q1029 : (Jvm.Cond.methodLink "Dredgeledger" (394 : Nat) ({ cls := "java/lang/StringBuilder", name := "append", desc := "(C)Ljava/lang/StringBuilder;" } : Jvm.MethodName)) ∈ lw_all := lw_g (lw_at lw_m5 22 rfl) rfl
theorem q1049 : (Jvm.Cond.methodLink "Dredgeledger" (398 : Nat) ({ cls := "java/lang/StringBuilder", name := "append", desc := "(I)Ljava/lang/StringBuilder;" } : Jvm.MethodName)) ∈ lw_all := lw_g (lw_at lw_m5 42 rfl) rfl
theorem q1050 : (Jvm.Cond.methodLink "Dredgeledger" (306 : Nat) ({ cls := "java/util/BitSet", name := "get", desc := "(I)Z" } : Jvm.MethodName)) ∈ lw_all := lw_g (lw_at lw_m5 43 rfl) rfl
theorem q1068 : (Jvm.Cond.methodLink "Dredgeledger" (401 : Nat) ({ cls := "java/lang/StringBuilder", name := "toString", desc := "()Ljava/lang/String;" } : Jvm.MethodName)) ∈ lw_all := lw_g (lw_at lw_m5 61 rfl) rfl
theorem q1070 : (Jvm.Cond.instanceMethod ({ cls := "Dredgeledger", name := "isBalanced", desc := "()Z" } : Jvm.MethodName)) ∈ lw_all := lw_g (lw_at lw_m5 63 rfl) rfl
theorem q1071 : (Jvm.Cond.selects "Dredgeledger" ({ cls := "Dredgeledger", name := "isBalanced", desc := "()Z" } : Jvm.MethodName) ({ cls := "Dredgeledger", name := "isBalanced", desc := "()Z" } : Jvm.MethodName)) ∈ lw_all := lw_g (lw_at lw_m5 64 rfl) rfl
theorem q1072 : (Jvm.Cond.code ({ cls := "Dredgeledger", name := "isBalanced", desc := "()Z" } : Jvm.MethodName) prog_2_method_56_code (4 : Nat) (Option.some Jvm.ClassFile.FieldType.boolean)) ∈ lw_all := lw_g (lw_at lw_m5 65 rfl) rfl
theorem q1073 : (Jvm.Cond.methodLink "Dredgeledger" (276 : Nat) ({ cls := "java/util/ArrayList", name := "iterator", desc := "()Ljava/util/Iterator;" } : Jvm.MethodName)) ∈ lw_all := lw_g (lw_at lw_m5 66 rfl) rfl
theorem q1100 : (Jvm.Cond.classLink "Dredgeledger" (204 : Nat) "Dredgeledger$Ground") ∈ lw_all := lw_g (lw_at lw_m5 93 rfl) rfl
theorem q1101 : (Jvm.Cond.methodLink "Dredgeledger" (387 : Nat) ({ cls := "Dredgeledger", name := "sum", desc := "([S)I" } : Jvm.MethodName)) ∈ lw_all := lw_g (lw_at lw_m5 94 rfl) rfl
theorem q1102 : (Jvm.Cond.privateMethod ({ cls := "Dredgeledger", name := "sum", desc := "([S)I" } : Jvm.MethodName)) ∈ lw_tbl := lw_at lw_m5 95 rfl
theorem q1103 : (Jvm.Cond.instanceMethod ({ cls := "Dredgeledger", name := "sum", desc := "([S)I" } : Jvm.MethodName)) ∈ lw_all := lw_g (lw_at lw_m5 96 rfl) rfl
theorem q1104 : (Jvm.Cond.code ({ cls := "Dredgeledger", name := "sum", desc := "([S)I" } : Jvm.MethodName) prog_2_method_53_code (4 : Nat) (Option.some Jvm.ClassFile.FieldType.int)) ∈ lw_all := lw_g (lw_at lw_m5 97 rfl) rfl
theorem q1105 : (Jvm.Cond.methodLink "Dredgeledger" (405 : Nat) ({ cls := "Dredgeledger", name := "paidByCells", desc := "()I" } : Jvm.MethodName)) ∈ lw_all := lw_g (lw_at lw_m5 98 rfl) rfl
theorem q1128 : (Jvm.Cond.instanceMethod ({ cls := "Dredgeledger", name := "addCells", desc := "(II)I" } : Jvm.MethodName)) ∈ lw_all := lw_g (lw_at lw_m5 121 rfl) rfl
theorem q1129 : (Jvm.Cond.selects "Dredgeledger" ({ cls := "Dredgeledger", name := "addCells", desc := "(II)I" } : Jvm.MethodName) ({ cls := "Dredgeledger", name := "addCells", desc := "(II)I" } : Jvm.MethodName)) ∈ lw_all := lw_g (lw_at lw_m5 122 rfl) rfl
theorem q1130 : (Jvm.Cond.code ({ cls := "Dredgeledger", name := "addCells", desc := "(II)I" } : Jvm.MethodName) prog_2_method_11_code (4 : Nat) (Option.some Jvm.ClassFile.FieldType.int)) ∈ lw_all := lw_g (lw_at lw_m5 123 rfl) rfl
theorem q1131 : (Jvm.Cond.methodLink "Dredgeledger" (84 : Nat) ({ cls := "Dredgeledger", name := "isBetween", desc := "(III)Z" } : Jvm.MethodName)) ∈ lw_all := lw_g (lw_at lw_m5 124 rfl) rfl
theorem q1132 : (Jvm.Cond.methodLink "Dredgeledger" (121 : Nat) ({ cls := "Dredgeledger", name := "checkArgument", desc := "(Z)V" } : Jvm.MethodName)) ∈ lw_all := lw_g (lw_at lw_m5 125 rfl) rfl
theorem q1133 : (Jvm.Cond.static ({ cls := "Dredgeledger", name := "checkArgument", desc := "(Z)V" } : Jvm.MethodName)) ∈ lw_all := lw_g (lw_at lw_m5 126 rfl) rfl
theorem q1134 : (Jvm.Cond.code ({ cls := "Dredgeledger", name := "checkArgument", desc := "(Z)V" } : Jvm.MethodName) prog_2_method_3_code (1 : Nat) (Option.none : Option Jvm.ClassFile.FieldType)) ∈ lw_all := lw_g (lw_at lw_m5 127 rfl) rfl
theorem q1135 : (Jvm.Cond.classLink "Dredgeledger" (72 : Nat) "java/lang/IllegalArgumentException") ∈ lw_all := lw_g (lw_at lw_m5 128 rfl) rfl
theorem q1136 : (Jvm.Cond.methodLink "Dredgeledger" (74 : Nat) ({ cls := "java/lang/IllegalArgumentException", name := "<init>", desc := "()V" } : Jvm.MethodName)) ∈ lw_all := lw_g (lw_at lw_m5 129 rfl) rfl
theorem q1140 : (Jvm.Cond.methodLink "Dredgeledger" (125 : Nat) ({ cls := "Dredgeledger", name := "checkState", desc := "(Z)V" } : Jvm.MethodName)) ∈ lw_all := lw_g (lw_at lw_m5 133 rfl) rfl
theorem q1141 : (Jvm.Cond.static ({ cls := "Dredgeledger", name := "checkState", desc := "(Z)V" } : Jvm.MethodName)) ∈ lw_all := lw_g (lw_at lw_m5 134 rfl) rfl
theorem q1142 : (Jvm.Cond.code ({ cls := "Dredgeledger", name := "checkState", desc := "(Z)V" } : Jvm.MethodName) prog_2_method_4_code (1 : Nat) (Option.none : Option Jvm.ClassFile.FieldType)) ∈ lw_all := lw_g (lw_at lw_m5 135 rfl) rfl
theorem q1143 : (Jvm.Cond.classLink "Dredgeledger" (75 : Nat) "java/lang/IllegalStateException") ∈ lw_all := lw_g (lw_at lw_m5 136 rfl) rfl
theorem q1152 : (Jvm.Cond.methodLink "Dredgeledger" (77 : Nat) ({ cls := "java/lang/IllegalStateException", name := "<init>", desc := "()V" } : Jvm.MethodName)) ∈ lw_all := lw_g (lw_at lw_m5 145 rfl) rfl
theorem q1178 : (Jvm.Cond.instanceMethod ({ cls := "Dredgeledger", name := "setLimit", desc := "(II)I" } : Jvm.MethodName)) ∈ lw_all := lw_g (lw_at lw_m5 171 rfl) rfl
theorem q1179 : (Jvm.Cond.selects "Dredgeledger" ({ cls := "Dredgeledger", name := "setLimit", desc := "(II)I" } : Jvm.MethodName) ({ cls := "Dredgeledger", name := "setLimit", desc := "(II)I" } : Jvm.MethodName)) ∈ lw_all := lw_g (lw_at lw_m5 172 rfl) rfl
theorem q1180 : (Jvm.Cond.code ({ cls := "Dredgeledger", name := "setLimit", desc := "(II)I" } : Jvm.MethodName) prog_2_method_12_code (4 : Nat) (Option.some Jvm.ClassFile.FieldType.int)) ∈ lw_all := lw_g (lw_at lw_m5 173 rfl) rfl
theorem q1181 : (Jvm.Cond.methodLink "Dredgeledger" (128 : Nat) ({ cls := "Dredgeledger", name := "checkCell", desc := "(I)V" } : Jvm.MethodName)) ∈ lw_all := lw_g (lw_at lw_m5 174 rfl) rfl
theorem q1182 : (Jvm.Cond.privateMethod ({ cls := "Dredgeledger", name := "checkCell", desc := "(I)V" } : Jvm.MethodName)) ∈ lw_tbl := lw_at lw_m5 175 rfl
theorem q1183 : (Jvm.Cond.instanceMethod ({ cls := "Dredgeledger", name := "checkCell", desc := "(I)V" } : Jvm.MethodName)) ∈ lw_all := lw_g (lw_at lw_m5 176 rfl) rfl
theorem q1184 : (Jvm.Cond.code ({ cls := "Dredgeledger", name := "checkCell", desc := "(I)V" } : Jvm.MethodName) prog_2_method_9_code (2 : Nat) (Option.none : Option Jvm.ClassFile.FieldType)) ∈ lw_all := lw_g (lw_at lw_m5 177 rfl) rfl
theorem q1185 : (Jvm.Cond.methodLink "Dredgeledger" (97 : Nat) ({ cls := "Dredgeledger", name := "checkIndex", desc := "(II)V" } : Jvm.MethodName)) ∈ lw_all := lw_g (lw_at lw_m5 178 rfl) rfl
theorem q1186 : (Jvm.Cond.static ({ cls := "Dredgeledger", name := "checkIndex", desc := "(II)V" } : Jvm.MethodName)) ∈ lw_all := lw_g (lw_at lw_m5 179 rfl) rfl
theorem q1187 : (Jvm.Cond.code ({ cls := "Dredgeledger", name := "checkIndex", desc := "(II)V" } : Jvm.MethodName) prog_2_method_7_code (2 : Nat) (Option.none : Option Jvm.ClassFile.FieldType)) ∈ lw_all := lw_g (lw_at lw_m5 180 rfl) rfl
theorem q1188 : (Jvm.Cond.classLink "Dredgeledger" (88 : Nat) "java/lang/IndexOutOfBoundsException") ∈ lw_all := lw_g (lw_at lw_m5 181 rfl) rfl
theorem q1189 : (Jvm.Cond.methodLink "Dredgeledger" (90 : Nat) ({ cls := "java/lang/IndexOutOfBoundsException", name := "<init>", desc := "()V" } : Jvm.MethodName)) ∈ lw_all := lw_g (lw_at lw_m5 182 rfl) rfl
theorem q1194 : (Jvm.Cond.methodLinkNest "Dredgeledger" (133 : Nat) ({ cls := "Dredgeledger$Limited", name := "<init>", desc := "(II)V" } : Jvm.MethodName) "Dredgeledger") ∈ lw_tbl := lw_at lw_m5 187 rfl
theorem q1208 : (Jvm.Cond.methodLink "Dredgeledger" (135 : Nat) ({ cls := "Dredgeledger$Chain", name := "add", desc := "(Ljava/lang/Object;)V" } : Jvm.MethodName)) ∈ lw_all := lw_g (lw_at lw_m5 201 rfl) rfl
theorem q1231 : (Jvm.Cond.instanceMethod ({ cls := "Dredgeledger", name := "setSlope", desc := "(I)I" } : Jvm.MethodName)) ∈ lw_all := lw_g (lw_at lw_m5 224 rfl) rfl
theorem q1232 : (Jvm.Cond.selects "Dredgeledger" ({ cls := "Dredgeledger", name := "setSlope", desc := "(I)I" } : Jvm.MethodName) ({ cls := "Dredgeledger", name := "setSlope", desc := "(I)I" } : Jvm.MethodName)) ∈ lw_all := lw_g (lw_at lw_m5 225 rfl) rfl
theorem q1233 : (Jvm.Cond.code ({ cls := "Dredgeledger", name := "setSlope", desc := "(I)I" } : Jvm.MethodName) prog_2_method_13_code (3 : Nat) (Option.some Jvm.ClassFile.FieldType.int)) ∈ lw_all := lw_g (lw_at lw_m5 226 rfl) rfl
theorem q1238 : (Jvm.Cond.instanceMethod ({ cls := "Dredgeledger", name := "depth", desc := "(I)I" } : Jvm.MethodName)) ∈ lw_all := lw_g (lw_at lw_m5 231 rfl) rfl
theorem q1239 : (Jvm.Cond.selects "Dredgeledger" ({ cls := "Dredgeledger", name := "depth", desc := "(I)I" } : Jvm.MethodName) ({ cls := "Dredgeledger", name := "depth", desc := "(I)I" } : Jvm.MethodName)) ∈ lw_all := lw_g (lw_at lw_m5 232 rfl) rfl
theorem q1240 : (Jvm.Cond.code ({ cls := "Dredgeledger", name := "depth", desc := "(I)I" } : Jvm.MethodName) prog_2_method_14_code (2 : Nat) (Option.some Jvm.ClassFile.FieldType.int)) ∈ lw_all := lw_g (lw_at lw_m5 233 rfl) rfl
theorem q1246 : (Jvm.Cond.instanceMethod ({ cls := "Dredgeledger", name := "dredge", desc := "(II)I" } : Jvm.MethodName)) ∈ lw_all := lw_g (lw_at lw_m5 239 rfl) rfl
theorem q1247 : (Jvm.Cond.selects "Dredgeledger" ({ cls := "Dredgeledger", name := "dredge", desc := "(II)I" } : Jvm.MethodName) ({ cls := "Dredgeledger", name := "dredge", desc := "(II)I" } : Jvm.MethodName)) ∈ lw_all := lw_g (lw_at lw_m6 0 rfl) rfl
theorem q1248 : (Jvm.Cond.code ({ cls := "Dredgeledger", name := "dredge", desc := "(II)I" } : Jvm.MethodName) prog_2_method_15_code (3 : Nat) (Option.some Jvm.ClassFile.FieldType.int)) ∈ lw_all := lw_g (lw_at lw_m6 1 rfl) rfl
theorem q1249 : (Jvm.Cond.methodLink "Dredgeledger" (141 : Nat) ({ cls := "Dredgeledger", name := "checkAllowed", desc := "(Z)V" } : Jvm.MethodName)) ∈ lw_all := lw_g (lw_at lw_m6 2 rfl) rfl
theorem q1250 : (Jvm.Cond.static ({ cls := "Dredgeledger", name := "checkAllowed", desc := "(Z)V" } : Jvm.MethodName)) ∈ lw_all := lw_g (lw_at lw_m6 3 rfl) rfl
theorem q1251 : (Jvm.Cond.code ({ cls := "Dredgeledger", name := "checkAllowed", desc := "(Z)V" } : Jvm.MethodName) prog_2_method_5_code (1 : Nat) (Option.none : Option Jvm.ClassFile.FieldType)) ∈ lw_all := lw_g (lw_at lw_m6 4 rfl) rfl
theorem q1252 : (Jvm.Cond.classLink "Dredgeledger" (78 : Nat) "java/lang/UnsupportedOperationException") ∈ lw_all := lw_g (lw_at lw_m6 5 rfl) rfl
theorem q1261 : (Jvm.Cond.methodLink "Dredgeledger" (80 : Nat) ({ cls := "java/lang/UnsupportedOperationException", name := "<init>", desc := "()V" } : Jvm.MethodName)) ∈ lw_all := lw_g (lw_at lw_m6 14 rfl) rfl
theorem q1267 : (Jvm.Cond.fieldLink "Dredgeledger" (147 : Nat) "Deed" "DREDGE" "LDeed;") ∈ lw_all := lw_g (lw_at lw_m6 20 rfl) rfl
theorem q1269 : (Jvm.Cond.methodLink "Dredgeledger" (153 : Nat) ({ cls := "Dredgeledger", name := "tell", desc := "(LDeed;I)V" } : Jvm.MethodName)) ∈ lw_all := lw_g (lw_at lw_m6 22 rfl) rfl
theorem q1270 : (Jvm.Cond.privateMethod ({ cls := "Dredgeledger", name := "tell", desc := "(LDeed;I)V" } : Jvm.MethodName)) ∈ lw_tbl := lw_at lw_m6 23 rfl
theorem q1271 : (Jvm.Cond.instanceMethod ({ cls := "Dredgeledger", name := "tell", desc := "(LDeed;I)V" } : Jvm.MethodName)) ∈ lw_all := lw_g (lw_at lw_m6 24 rfl) rfl
theorem q1272 : (Jvm.Cond.code ({ cls := "Dredgeledger", name := "tell", desc := "(LDeed;I)V" } : Jvm.MethodName) prog_2_method_10_code (4 : Nat) (Option.none : Option Jvm.ClassFile.FieldType)) ∈ lw_all := lw_g (lw_at lw_m6 25 rfl) rfl
theorem q1273 : (Jvm.Cond.classLink "Dredgeledger" (101 : Nat) "Entry") ∈ lw_all := lw_g (lw_at lw_m6 26 rfl) rfl
theorem q1275 : (Jvm.Cond.methodLink "Dredgeledger" (106 : Nat) ({ cls := "Entry", name := "<init>", desc := "(LDeed;II)V" } : Jvm.MethodName)) ∈ lw_all := lw_g (lw_at lw_m6 28 rfl) rfl
theorem q1289 : (Jvm.Cond.methodLink "Dredgeledger" (109 : Nat) ({ cls := "java/util/ArrayDeque", name := "addFirst", desc := "(Ljava/lang/Object;)V" } : Jvm.MethodName)) ∈ lw_all := lw_g (lw_at lw_m6 42 rfl) rfl
theorem q1322 : (Jvm.Cond.methodLink "Dredgeledger" (113 : Nat) ({ cls := "java/util/ArrayDeque", name := "size", desc := "()I" } : Jvm.MethodName)) ∈ lw_all := lw_g (lw_at lw_m6 75 rfl) rfl
theorem q1329 : (Jvm.Cond.methodLink "Dredgeledger" (117 : Nat) ({ cls := "java/util/ArrayDeque", name := "removeLast", desc := "()Ljava/lang/Object;" } : Jvm.MethodName)) ∈ lw_all := lw_g (lw_at lw_m6 82 rfl) rfl
theorem q1346 : (Jvm.Cond.instanceMethod ({ cls := "Dredgeledger", name := "pass", desc := "(I)I" } : Jvm.MethodName)) ∈ lw_all := lw_g (lw_at lw_m6 99 rfl) rfl
theorem q1347 : (Jvm.Cond.selects "Dredgeledger" ({ cls := "Dredgeledger", name := "pass", desc := "(I)I" } : Jvm.MethodName) ({ cls := "Dredgeledger", name := "pass", desc := "(I)I" } : Jvm.MethodName)) ∈ lw_all := lw_g (lw_at lw_m6 100 rfl) rfl
theorem q1348 : (Jvm.Cond.code ({ cls := "Dredgeledger", name := "pass", desc := "(I)I" } : Jvm.MethodName) prog_2_method_19_code (4 : Nat) (Option.some Jvm.ClassFile.FieldType.int)) ∈ lw_all := lw_g (lw_at lw_m6 101 rfl) rfl
theorem q1349 : (Jvm.Cond.methodLink "Dredgeledger" (170 : Nat) ({ cls := "Dredgeledger", name := "creep", desc := "()I" } : Jvm.MethodName)) ∈ lw_all := lw_g (lw_at lw_m6 102 rfl) rfl
theorem q1350 : (Jvm.Cond.privateMethod ({ cls := "Dredgeledger", name := "creep", desc := "()I" } : Jvm.MethodName)) ∈ lw_tbl := lw_at lw_m6 103 rfl
theorem q1351 : (Jvm.Cond.instanceMethod ({ cls := "Dredgeledger", name := "creep", desc := "()I" } : Jvm.MethodName)) ∈ lw_all := lw_g (lw_at lw_m6 104 rfl) rfl
theorem q1352 : (Jvm.Cond.code ({ cls := "Dredgeledger", name := "creep", desc := "()I" } : Jvm.MethodName) prog_2_method_18_code (5 : Nat) (Option.some Jvm.ClassFile.FieldType.int)) ∈ lw_all := lw_g (lw_at lw_m6 105 rfl) rfl
theorem q1353 : (Jvm.Cond.methodLink "Dredgeledger" (163 : Nat) ({ cls := "Dredgeledger", name := "depthOrBank", desc := "(I)I" } : Jvm.MethodName)) ∈ lw_all := lw_g (lw_at lw_m6 106 rfl) rfl
theorem q1354 : (Jvm.Cond.privateMethod ({ cls := "Dredgeledger", name := "depthOrBank", desc := "(I)I" } : Jvm.MethodName)) ∈ lw_tbl := lw_at lw_m6 107 rfl
theorem q1355 : (Jvm.Cond.instanceMethod ({ cls := "Dredgeledger", name := "depthOrBank", desc := "(I)I" } : Jvm.MethodName)) ∈ lw_all := lw_g (lw_at lw_m6 108 rfl) rfl
theorem q1356 : (Jvm.Cond.code ({ cls := "Dredgeledger", name := "depthOrBank", desc := "(I)I" } : Jvm.MethodName) prog_2_method_17_code (2 : Nat) (Option.some Jvm.ClassFile.FieldType.int)) ∈ lw_all := lw_g (lw_at lw_m6 109 rfl) rfl
theorem q1357 : (Jvm.Cond.methodLink "Dredgeledger" (166 : Nat) ({ cls := "Dredgeledger", name := "creeps", desc := "(II)I" } : Jvm.MethodName)) ∈ lw_all := lw_g (lw_at lw_m6 110 rfl) rfl
theorem q1358 : (Jvm.Cond.privateMethod ({ cls := "Dredgeledger", name := "creeps", desc := "(II)I" } : Jvm.MethodName)) ∈ lw_tbl := lw_at lw_m6 111 rfl
theorem q1359 : (Jvm.Cond.instanceMethod ({ cls := "Dredgeledger", name := "creeps", desc := "(II)I" } : Jvm.MethodName)) ∈ lw_all := lw_g (lw_at lw_m6 112 rfl) rfl
theorem q1360 : (Jvm.Cond.code ({ cls := "Dredgeledger", name := "creeps", desc := "(II)I" } : Jvm.MethodName) prog_2_method_16_code (3 : Nat) (Option.some Jvm.ClassFile.FieldType.int)) ∈ lw_all := lw_g (lw_at lw_m6 113 rfl) rfl
theorem q1361 : (Jvm.Cond.methodLink "Dredgeledger" (157 : Nat) ({ cls := "java/lang/Math", name := "abs", desc := "(I)I" } : Jvm.MethodName)) ∈ lw_all := lw_g (lw_at lw_m6 114 rfl) rfl
theorem q1364 : (Jvm.Cond.methodLink "Dredgeledger" (176 : Nat) ({ cls := "Dredgeledger", name := "tidy", desc := "()V" } : Jvm.MethodName)) ∈ lw_all := lw_g (lw_at lw_m6 117 rfl) rfl
theorem q1365 : (Jvm.Cond.privateMethod ({ cls := "Dredgeledger", name := "tidy", desc := "()V" } : Jvm.MethodName)) ∈ lw_tbl := lw_at lw_m6 118 rfl
theorem q1366 : (Jvm.Cond.instanceMethod ({ cls := "Dredgeledger", name := "tidy", desc := "()V" } : Jvm.MethodName)) ∈ lw_all := lw_g (lw_at lw_m6 119 rfl) rfl
theorem q1367 : (Jvm.Cond.code ({ cls := "Dredgeledger", name := "tidy", desc := "()V" } : Jvm.MethodName) prog_2_method_22_code (3 : Nat) (Option.none : Option Jvm.ClassFile.FieldType)) ∈ lw_all := lw_g (lw_at lw_m6 120 rfl) rfl
theorem q1368 : (Jvm.Cond.methodLink "Dredgeledger" (180 : Nat) ({ cls := "java/util/LinkedList", name := "iterator", desc := "()Ljava/util/Iterator;" } : Jvm.MethodName)) ∈ lw_all := lw_g (lw_at lw_m6 121 rfl) rfl
theorem q1448 : (Jvm.Cond.classLink "Dredgeledger" (193 : Nat) "Dredgeledger$Permit") ∈ lw_all := lw_g (lw_at lw_m6 201 rfl) rfl
theorem q1449 : (Jvm.Cond.interfaceEntry "Dredgeledger" (201 : Nat)) ∈ lw_tbl := lw_at lw_m6 202 rfl
theorem q1450 : (Jvm.Cond.methodLink "Dredgeledger" (201 : Nat) ({ cls := "java/util/Iterator", name := "remove", desc := "()V" } : Jvm.MethodName)) ∈ lw_all := lw_g (lw_at lw_m6 203 rfl) rfl
theorem q1553 : (Jvm.Cond.instanceMethod ({ cls := "Dredgeledger", name := "addGround", desc := "(II)I" } : Jvm.MethodName)) ∈ lw_all := lw_g (lw_at lw_m7 66 rfl) rfl
theorem q1554 : (Jvm.Cond.selects "Dredgeledger" ({ cls := "Dredgeledger", name := "addGround", desc := "(II)I" } : Jvm.MethodName) ({ cls := "Dredgeledger", name := "addGround", desc := "(II)I" } : Jvm.MethodName)) ∈ lw_all := lw_g (lw_at lw_m7 67 rfl) rfl
theorem q1555 : (Jvm.Cond.code ({ cls := "Dredgeledger", name := "addGround", desc := "(II)I" } : Jvm.MethodName) prog_2_method_23_code (3 : Nat) (Option.some Jvm.ClassFile.FieldType.int)) ∈ lw_all := lw_g (lw_at lw_m7 68 rfl) rfl
theorem q1556 : (Jvm.Cond.methodLink "Dredgeledger" (179 : Nat) ({ cls := "java/util/ArrayList", name := "size", desc := "()I" } : Jvm.MethodName)) ∈ lw_all := lw_g (lw_at lw_m7 69 rfl) rfl
theorem q1558 : (Jvm.Cond.methodLink "Dredgeledger" (206 : Nat) ({ cls := "Dredgeledger$Ground", name := "<init>", desc := "(II)V" } : Jvm.MethodName)) ∈ lw_all := lw_g (lw_at lw_m7 71 rfl) rfl
theorem q1563 : (Jvm.Cond.fieldLinkNest "Dredgeledger" (238 : Nat) "Dredgeledger$Ground" "space" "I" "Dredgeledger") ∈ lw_tbl := lw_at lw_m7 76 rfl
theorem q1565 : (Jvm.Cond.fieldLinkNest "Dredgeledger" (237 : Nat) "Dredgeledger$Ground" "tide" "I" "Dredgeledger") ∈ lw_tbl := lw_at lw_m7 78 rfl
theorem q1566 : (Jvm.Cond.fieldLinkNest "Dredgeledger" (241 : Nat) "Dredgeledger$Ground" "dumped" "I" "Dredgeledger") ∈ lw_tbl := lw_at lw_m7 79 rfl
theorem q1574 : (Jvm.Cond.methodLink "Dredgeledger" (207 : Nat) ({ cls := "java/util/ArrayList", name := "add", desc := "(Ljava/lang/Object;)Z" } : Jvm.MethodName)) ∈ lw_all := lw_g (lw_at lw_m7 87 rfl) rfl
theorem q1599 : (Jvm.Cond.instanceMethod ({ cls := "Dredgeledger", name := "setTide", desc := "(I)I" } : Jvm.MethodName)) ∈ lw_all := lw_g (lw_at lw_m7 112 rfl) rfl
theorem q1600 : (Jvm.Cond.selects "Dredgeledger" ({ cls := "Dredgeledger", name := "setTide", desc := "(I)I" } : Jvm.MethodName) ({ cls := "Dredgeledger", name := "setTide", desc := "(I)I" } : Jvm.MethodName)) ∈ lw_all := lw_g (lw_at lw_m7 113 rfl) rfl
theorem q1601 : (Jvm.Cond.code ({ cls := "Dredgeledger", name := "setTide", desc := "(I)I" } : Jvm.MethodName) prog_2_method_24_code (3 : Nat) (Option.some Jvm.ClassFile.FieldType.int)) ∈ lw_all := lw_g (lw_at lw_m7 114 rfl) rfl
theorem q1606 : (Jvm.Cond.instanceMethod ({ cls := "Dredgeledger", name := "permit", desc := "(IIII)I" } : Jvm.MethodName)) ∈ lw_all := lw_g (lw_at lw_m7 119 rfl) rfl
theorem q1607 : (Jvm.Cond.selects "Dredgeledger" ({ cls := "Dredgeledger", name := "permit", desc := "(IIII)I" } : Jvm.MethodName) ({ cls := "Dredgeledger", name := "permit", desc := "(IIII)I" } : Jvm.MethodName)) ∈ lw_all := lw_g (lw_at lw_m7 120 rfl) rfl
theorem q1608 : (Jvm.Cond.code ({ cls := "Dredgeledger", name := "permit", desc := "(IIII)I" } : Jvm.MethodName) prog_2_method_25_code (5 : Nat) (Option.some Jvm.ClassFile.FieldType.int)) ∈ lw_all := lw_g (lw_at lw_m7 121 rfl) rfl
theorem q1609 : (Jvm.Cond.methodLink "Dredgeledger" (213 : Nat) ({ cls := "Dredgeledger", name := "checkGround", desc := "(I)V" } : Jvm.MethodName)) ∈ lw_all := lw_g (lw_at lw_m7 122 rfl) rfl
theorem q1610 : (Jvm.Cond.privateMethod ({ cls := "Dredgeledger", name := "checkGround", desc := "(I)V" } : Jvm.MethodName)) ∈ lw_tbl := lw_at lw_m7 123 rfl
theorem q1611 : (Jvm.Cond.instanceMethod ({ cls := "Dredgeledger", name := "checkGround", desc := "(I)V" } : Jvm.MethodName)) ∈ lw_all := lw_g (lw_at lw_m7 124 rfl) rfl
theorem q1612 : (Jvm.Cond.code ({ cls := "Dredgeledger", name := "checkGround", desc := "(I)V" } : Jvm.MethodName) prog_2_method_21_code (2 : Nat) (Option.none : Option Jvm.ClassFile.FieldType)) ∈ lw_all := lw_g (lw_at lw_m7 125 rfl) rfl
theorem q1614 : (Jvm.Cond.methodLink "Dredgeledger" (220 : Nat) ({ cls := "Dredgeledger$Permit", name := "<init>", desc := "(IIII)V" } : Jvm.MethodName)) ∈ lw_all := lw_g (lw_at lw_m7 127 rfl) rfl
theorem q1621 : (Jvm.Cond.fieldLinkNest "Dredgeledger" (198 : Nat) "Dredgeledger$Permit" "last" "I" "Dredgeledger") ∈ lw_tbl := lw_at lw_m7 134 rfl
theorem q1623 : (Jvm.Cond.fieldLinkNest "Dredgeledger" (195 : Nat) "Dredgeledger$Permit" "volume" "I" "Dredgeledger") ∈ lw_tbl := lw_at lw_m7 136 rfl
theorem q1633 : (Jvm.Cond.methodLink "Dredgeledger" (223 : Nat) ({ cls := "java/util/LinkedList", name := "addLast", desc := "(Ljava/lang/Object;)V" } : Jvm.MethodName)) ∈ lw_all := lw_g (lw_at lw_m7 146 rfl) rfl
theorem q1667 : (Jvm.Cond.instanceMethod ({ cls := "Dredgeledger", name := "permitted", desc := "(I)I" } : Jvm.MethodName)) ∈ lw_all := lw_g (lw_at lw_m7 180 rfl) rfl
theorem q1668 : (Jvm.Cond.selects "Dredgeledger" ({ cls := "Dredgeledger", name := "permitted", desc := "(I)I" } : Jvm.MethodName) ({ cls := "Dredgeledger", name := "permitted", desc := "(I)I" } : Jvm.MethodName)) ∈ lw_all := lw_g (lw_at lw_m7 181 rfl) rfl
theorem q1669 : (Jvm.Cond.code ({ cls := "Dredgeledger", name := "permitted", desc := "(I)I" } : Jvm.MethodName) prog_2_method_28_code (2 : Nat) (Option.some Jvm.ClassFile.FieldType.int)) ∈ lw_all := lw_g (lw_at lw_m7 182 rfl) rfl
theorem q1670 : (Jvm.Cond.methodLink "Dredgeledger" (230 : Nat) ({ cls := "Dredgeledger", name := "volumeFor", desc := "(I)I" } : Jvm.MethodName)) ∈ lw_all := lw_g (lw_at lw_m7 183 rfl) rfl
theorem q1671 : (Jvm.Cond.privateMethod ({ cls := "Dredgeledger", name := "volumeFor", desc := "(I)I" } : Jvm.MethodName)) ∈ lw_tbl := lw_at lw_m7 184 rfl
theorem q1672 : (Jvm.Cond.instanceMethod ({ cls := "Dredgeledger", name := "volumeFor", desc := "(I)I" } : Jvm.MethodName)) ∈ lw_all := lw_g (lw_at lw_m7 185 rfl) rfl
theorem q1673 : (Jvm.Cond.code ({ cls := "Dredgeledger", name := "volumeFor", desc := "(I)I" } : Jvm.MethodName) prog_2_method_27_code (5 : Nat) (Option.some Jvm.ClassFile.FieldType.int)) ∈ lw_all := lw_g (lw_at lw_m7 186 rfl) rfl
theorem q1674 : (Jvm.Cond.methodLink "Dredgeledger" (226 : Nat) ({ cls := "Dredgeledger$Permit", name := "holds", desc := "(II)Z" } : Jvm.MethodName)) ∈ lw_all := lw_g (lw_at lw_m7 187 rfl) rfl
theorem q1683 : (Jvm.Cond.instanceMethod ({ cls := "Dredgeledger", name := "dump", desc := "(II)I" } : Jvm.MethodName)) ∈ lw_all := lw_g (lw_at lw_m7 196 rfl) rfl
theorem q1684 : (Jvm.Cond.selects "Dredgeledger" ({ cls := "Dredgeledger", name := "dump", desc := "(II)I" } : Jvm.MethodName) ({ cls := "Dredgeledger", name := "dump", desc := "(II)I" } : Jvm.MethodName)) ∈ lw_all := lw_g (lw_at lw_m7 197 rfl) rfl
theorem q1685 : (Jvm.Cond.code ({ cls := "Dredgeledger", name := "dump", desc := "(II)I" } : Jvm.MethodName) prog_2_method_29_code (7 : Nat) (Option.some Jvm.ClassFile.FieldType.int)) ∈ lw_all := lw_g (lw_at lw_m7 198 rfl) rfl
theorem q1686 : (Jvm.Cond.methodLink "Dredgeledger" (233 : Nat) ({ cls := "java/util/ArrayList", name := "get", desc := "(I)Ljava/lang/Object;" } : Jvm.MethodName)) ∈ lw_all := lw_g (lw_at lw_m7 199 rfl) rfl
theorem q1687 : (Jvm.Cond.methodLink "Dredgeledger" (244 : Nat) ({ cls := "Dredgeledger", name := "next", desc := "(I)LDredgeledger$Permit;" } : Jvm.MethodName)) ∈ lw_all := lw_g (lw_at lw_m7 200 rfl) rfl
theorem q1688 : (Jvm.Cond.privateMethod ({ cls := "Dredgeledger", name := "next", desc := "(I)LDredgeledger$Permit;" } : Jvm.MethodName)) ∈ lw_tbl := lw_at lw_m7 201 rfl
theorem q1689 : (Jvm.Cond.instanceMethod ({ cls := "Dredgeledger", name := "next", desc := "(I)LDredgeledger$Permit;" } : Jvm.MethodName)) ∈ lw_all := lw_g (lw_at lw_m7 202 rfl) rfl
theorem q1690 : (Jvm.Cond.code ({ cls := "Dredgeledger", name := "next", desc := "(I)LDredgeledger$Permit;" } : Jvm.MethodName) prog_2_method_26_code (6 : Nat) (Option.some (Jvm.ClassFile.FieldType.object "Dredgeledger$Permit"))) ∈ lw_all := lw_g (lw_at lw_m7 203 rfl) rfl
theorem q1691 : (Jvm.Cond.fieldLink "Dredgeledger" (250 : Nat) "Deed" "DUMP" "LDeed;") ∈ lw_all := lw_g (lw_at lw_m7 204 rfl) rfl
theorem q1697 : (Jvm.Cond.instanceMethod ({ cls := "Dredgeledger", name := "dumped", desc := "(I)I" } : Jvm.MethodName)) ∈ lw_all := lw_g (lw_at lw_m7 210 rfl) rfl
theorem q1698 : (Jvm.Cond.selects "Dredgeledger" ({ cls := "Dredgeledger", name := "dumped", desc := "(I)I" } : Jvm.MethodName) ({ cls := "Dredgeledger", name := "dumped", desc := "(I)I" } : Jvm.MethodName)) ∈ lw_all := lw_g (lw_at lw_m7 211 rfl) rfl
theorem q1699 : (Jvm.Cond.code ({ cls := "Dredgeledger", name := "dumped", desc := "(I)I" } : Jvm.MethodName) prog_2_method_31_code (2 : Nat) (Option.some Jvm.ClassFile.FieldType.int)) ∈ lw_all := lw_g (lw_at lw_m7 212 rfl) rfl
theorem q1704 : (Jvm.Cond.instanceMethod ({ cls := "Dredgeledger", name := "survey", desc := "(IIII)I" } : Jvm.MethodName)) ∈ lw_all := lw_g (lw_at lw_m7 217 rfl) rfl
theorem q1705 : (Jvm.Cond.selects "Dredgeledger" ({ cls := "Dredgeledger", name := "survey", desc := "(IIII)I" } : Jvm.MethodName) ({ cls := "Dredgeledger", name := "survey", desc := "(IIII)I" } : Jvm.MethodName)) ∈ lw_all := lw_g (lw_at lw_m7 218 rfl) rfl
theorem q1706 : (Jvm.Cond.code ({ cls := "Dredgeledger", name := "survey", desc := "(IIII)I" } : Jvm.MethodName) prog_2_method_33_code (7 : Nat) (Option.some Jvm.ClassFile.FieldType.int)) ∈ lw_all := lw_g (lw_at lw_m7 219 rfl) rfl
theorem q1707 : (Jvm.Cond.classLink "Dredgeledger" (253 : Nat) "Dredgeledger$Survey") ∈ lw_all := lw_g (lw_at lw_m7 220 rfl) rfl
theorem q1709 : (Jvm.Cond.methodLink "Dredgeledger" (255 : Nat) ({ cls := "Dredgeledger$Survey", name := "<init>", desc := "(III[S)V" } : Jvm.MethodName)) ∈ lw_all := lw_g (lw_at lw_m7 222 rfl) rfl
theorem q1716 : (Jvm.Cond.fieldLinkNest "Dredgeledger" (294 : Nat) "Dredgeledger$Survey" "trust" "I" "Dredgeledger") ∈ lw_tbl := lw_at lw_m7 229 rfl
theorem q1718 : (Jvm.Cond.fieldLinkNest "Dredgeledger" (308 : Nat) "Dredgeledger$Survey" "isSettled" "Z" "Dredgeledger") ∈ lw_tbl := lw_at lw_m7 231 rfl
theorem q1730 : (Jvm.Cond.fieldLink "Dredgeledger" (258 : Nat) "Deed" "SURVEY" "LDeed;") ∈ lw_all := lw_g (lw_at lw_m8 3 rfl) rfl
theorem q1737 : (Jvm.Cond.instanceMethod ({ cls := "Dredgeledger", name := "told", desc := "(II)I" } : Jvm.MethodName)) ∈ lw_all := lw_g (lw_at lw_m8 10 rfl) rfl
theorem q1738 : (Jvm.Cond.selects "Dredgeledger" ({ cls := "Dredgeledger", name := "told", desc := "(II)I" } : Jvm.MethodName) ({ cls := "Dredgeledger", name := "told", desc := "(II)I" } : Jvm.MethodName)) ∈ lw_all := lw_g (lw_at lw_m8 11 rfl) rfl
theorem q1739 : (Jvm.Cond.code ({ cls := "Dredgeledger", name := "told", desc := "(II)I" } : Jvm.MethodName) prog_2_method_35_code (4 : Nat) (Option.some Jvm.ClassFile.FieldType.int)) ∈ lw_all := lw_g (lw_at lw_m8 12 rfl) rfl
theorem q1740 : (Jvm.Cond.methodLink "Dredgeledger" (261 : Nat) ({ cls := "Dredgeledger", name := "surveyAt", desc := "(I)LDredgeledger$Survey;" } : Jvm.MethodName)) ∈ lw_all := lw_g (lw_at lw_m8 13 rfl) rfl
theorem q1741 : (Jvm.Cond.privateMethod ({ cls := "Dredgeledger", name := "surveyAt", desc := "(I)LDredgeledger$Survey;" } : Jvm.MethodName)) ∈ lw_tbl := lw_at lw_m8 14 rfl
theorem q1742 : (Jvm.Cond.instanceMethod ({ cls := "Dredgeledger", name := "surveyAt", desc := "(I)LDredgeledger$Survey;" } : Jvm.MethodName)) ∈ lw_all := lw_g (lw_at lw_m8 15 rfl) rfl
theorem q1743 : (Jvm.Cond.code ({ cls := "Dredgeledger", name := "surveyAt", desc := "(I)LDredgeledger$Survey;" } : Jvm.MethodName) prog_2_method_34_code (2 : Nat) (Option.some (Jvm.ClassFile.FieldType.object "Dredgeledger$Survey"))) ∈ lw_all := lw_g (lw_at lw_m8 16 rfl) rfl
theorem q1744 : (Jvm.Cond.methodLink "Dredgeledger" (269 : Nat) ({ cls := "Dredgeledger", name := "checkElement", desc := "(Z)V" } : Jvm.MethodName)) ∈ lw_all := lw_g (lw_at lw_m8 17 rfl) rfl
theorem q1745 : (Jvm.Cond.static ({ cls := "Dredgeledger", name := "checkElement", desc := "(Z)V" } : Jvm.MethodName)) ∈ lw_all := lw_g (lw_at lw_m8 18 rfl) rfl
theorem q1746 : (Jvm.Cond.code ({ cls := "Dredgeledger", name := "checkElement", desc := "(Z)V" } : Jvm.MethodName) prog_2_method_6_code (1 : Nat) (Option.none : Option Jvm.ClassFile.FieldType)) ∈ lw_all := lw_g (lw_at lw_m8 19 rfl) rfl
theorem q1747 : (Jvm.Cond.classLink "Dredgeledger" (81 : Nat) "java/util/NoSuchElementException") ∈ lw_all := lw_g (lw_at lw_m8 20 rfl) rfl
theorem q1748 : (Jvm.Cond.methodLink "Dredgeledger" (83 : Nat) ({ cls := "java/util/NoSuchElementException", name := "<init>", desc := "()V" } : Jvm.MethodName)) ∈ lw_all := lw_g (lw_at lw_m8 21 rfl) rfl
theorem q1753 : (Jvm.Cond.instanceMethod ({ cls := "Dredgeledger", name := "bed", desc := "(I)I" } : Jvm.MethodName)) ∈ lw_all := lw_g (lw_at lw_m8 26 rfl) rfl
theorem q1754 : (Jvm.Cond.selects "Dredgeledger" ({ cls := "Dredgeledger", name := "bed", desc := "(I)I" } : Jvm.MethodName) ({ cls := "Dredgeledger", name := "bed", desc := "(I)I" } : Jvm.MethodName)) ∈ lw_all := lw_g (lw_at lw_m8 27 rfl) rfl
theorem q1755 : (Jvm.Cond.code ({ cls := "Dredgeledger", name := "bed", desc := "(I)I" } : Jvm.MethodName) prog_2_method_38_code (3 : Nat) (Option.some Jvm.ClassFile.FieldType.int)) ∈ lw_all := lw_g (lw_at lw_m8 28 rfl) rfl
theorem q1756 : (Jvm.Cond.methodLink "Dredgeledger" (297 : Nat) ({ cls := "Dredgeledger", name := "latest", desc := "(I)Ljava/util/List;" } : Jvm.MethodName)) ∈ lw_all := lw_g (lw_at lw_m8 29 rfl) rfl
theorem q1757 : (Jvm.Cond.privateMethod ({ cls := "Dredgeledger", name := "latest", desc := "(I)Ljava/util/List;" } : Jvm.MethodName)) ∈ lw_tbl := lw_at lw_m8 30 rfl
theorem q1758 : (Jvm.Cond.instanceMethod ({ cls := "Dredgeledger", name := "latest", desc := "(I)Ljava/util/List;" } : Jvm.MethodName)) ∈ lw_all := lw_g (lw_at lw_m8 31 rfl) rfl
theorem q1759 : (Jvm.Cond.code ({ cls := "Dredgeledger", name := "latest", desc := "(I)Ljava/util/List;" } : Jvm.MethodName) prog_2_method_36_code (5 : Nat) (Option.some (Jvm.ClassFile.FieldType.object "java/util/List"))) ∈ lw_all := lw_g (lw_at lw_m8 32 rfl) rfl
theorem q1760 : (Jvm.Cond.methodLink "Dredgeledger" (275 : Nat) ({ cls := "java/util/ArrayList", name := "<init>", desc := "()V" } : Jvm.MethodName)) ∈ lw_all := lw_g (lw_at lw_m8 33 rfl) rfl
theorem q1763 : (Jvm.Cond.methodLink "Dredgeledger" (277 : Nat) ({ cls := "java/util/ArrayList", name := "isEmpty", desc := "()Z" } : Jvm.MethodName)) ∈ lw_all := lw_g (lw_at lw_m8 36 rfl) rfl
theorem q1767 : (Jvm.Cond.methodLink "Dredgeledger" (280 : Nat) ({ cls := "java/util/List", name := "of", desc := "()Ljava/util/List;" } : Jvm.MethodName)) ∈ lw_all := lw_g (lw_at lw_m8 40 rfl) rfl
theorem q1772 : (Jvm.Cond.methodLink "Dredgeledger" (285 : Nat) ({ cls := "java/util/Collections", name := "reverse", desc := "(Ljava/util/List;)V" } : Jvm.MethodName)) ∈ lw_all := lw_g (lw_at lw_m8 45 rfl) rfl
theorem q1979 : (Jvm.Cond.methodLink "Dredgeledger" (291 : Nat) ({ cls := "java/util/ArrayList", name := "remove", desc := "(I)Ljava/lang/Object;" } : Jvm.MethodName)) ∈ lw_all := lw_g (lw_at lw_m9 12 rfl) rfl
theorem q1980 : (Jvm.Cond.interfaceEntry "Dredgeledger" (301 : Nat)) ∈ lw_tbl := lw_at lw_m9 13 rfl
theorem q1981 : (Jvm.Cond.methodLink "Dredgeledger" (301 : Nat) ({ cls := "java/util/List", name := "size", desc := "()I" } : Jvm.MethodName)) ∈ lw_all := lw_g (lw_at lw_m9 14 rfl) rfl
theorem q1982 : (Jvm.Cond.methodLink "Dredgeledger" (302 : Nat) ({ cls := "Dredgeledger", name := "bedBy", desc := "(Ljava/util/List;I)I" } : Jvm.MethodName)) ∈ lw_all := lw_g (lw_at lw_m9 15 rfl) rfl
theorem q1983 : (Jvm.Cond.privateMethod ({ cls := "Dredgeledger", name := "bedBy", desc := "(Ljava/util/List;I)I" } : Jvm.MethodName)) ∈ lw_tbl := lw_at lw_m9 16 rfl
theorem q1984 : (Jvm.Cond.instanceMethod ({ cls := "Dredgeledger", name := "bedBy", desc := "(Ljava/util/List;I)I" } : Jvm.MethodName)) ∈ lw_all := lw_g (lw_at lw_m9 17 rfl) rfl
theorem q1985 : (Jvm.Cond.code ({ cls := "Dredgeledger", name := "bedBy", desc := "(Ljava/util/List;I)I" } : Jvm.MethodName) prog_2_method_37_code (7 : Nat) (Option.some Jvm.ClassFile.FieldType.int)) ∈ lw_all := lw_g (lw_at lw_m9 18 rfl) rfl
theorem q1986 : (Jvm.Cond.interfaceEntry "Dredgeledger" (293 : Nat)) ∈ lw_tbl := lw_at lw_m9 19 rfl
theorem q1987 : (Jvm.Cond.methodLink "Dredgeledger" (293 : Nat) ({ cls := "java/util/List", name := "iterator", desc := "()Ljava/util/Iterator;" } : Jvm.MethodName)) ∈ lw_all := lw_g (lw_at lw_m9 20 rfl) rfl
theorem q2008 : (Jvm.Cond.instanceMethod ({ cls := "Dredgeledger", name := "between", desc := "(II)I" } : Jvm.MethodName)) ∈ lw_all := lw_g (lw_at lw_m9 41 rfl) rfl
theorem q2009 : (Jvm.Cond.selects "Dredgeledger" ({ cls := "Dredgeledger", name := "between", desc := "(II)I" } : Jvm.MethodName) ({ cls := "Dredgeledger", name := "between", desc := "(II)I" } : Jvm.MethodName)) ∈ lw_all := lw_g (lw_at lw_m9 42 rfl) rfl
theorem q2010 : (Jvm.Cond.code ({ cls := "Dredgeledger", name := "between", desc := "(II)I" } : Jvm.MethodName) prog_2_method_39_code (7 : Nat) (Option.some Jvm.ClassFile.FieldType.int)) ∈ lw_all := lw_g (lw_at lw_m9 43 rfl) rfl
theorem q2015 : (Jvm.Cond.instanceMethod ({ cls := "Dredgeledger", name := "settle", desc := "(I)I" } : Jvm.MethodName)) ∈ lw_all := lw_g (lw_at lw_m9 48 rfl) rfl
theorem q2016 : (Jvm.Cond.selects "Dredgeledger" ({ cls := "Dredgeledger", name := "settle", desc := "(I)I" } : Jvm.MethodName) ({ cls := "Dredgeledger", name := "settle", desc := "(I)I" } : Jvm.MethodName)) ∈ lw_all := lw_g (lw_at lw_m9 49 rfl) rfl
theorem q2017 : (Jvm.Cond.code ({ cls := "Dredgeledger", name := "settle", desc := "(I)I" } : Jvm.MethodName) prog_2_method_40_code (6 : Nat) (Option.some Jvm.ClassFile.FieldType.int)) ∈ lw_all := lw_g (lw_at lw_m9 50 rfl) rfl
theorem q2019 : (Jvm.Cond.methodLinkNest "Dredgeledger" (321 : Nat) ({ cls := "Dredgeledger$Settled", name := "<init>", desc := "(LDredgeledger$Survey;)V" } : Jvm.MethodName) "Dredgeledger") ∈ lw_tbl := lw_at lw_m9 52 rfl
theorem q2027 : (Jvm.Cond.fieldLink "Dredgeledger" (324 : Nat) "Deed" "SETTLE" "LDeed;") ∈ lw_all := lw_g (lw_at lw_m9 60 rfl) rfl
theorem q2033 : (Jvm.Cond.instanceMethod ({ cls := "Dredgeledger", name := "setPrice", desc := "(I)I" } : Jvm.MethodName)) ∈ lw_all := lw_g (lw_at lw_m9 66 rfl) rfl
theorem q2034 : (Jvm.Cond.selects "Dredgeledger" ({ cls := "Dredgeledger", name := "setPrice", desc := "(I)I" } : Jvm.MethodName) ({ cls := "Dredgeledger", name := "setPrice", desc := "(I)I" } : Jvm.MethodName)) ∈ lw_all := lw_g (lw_at lw_m9 67 rfl) rfl
theorem q2035 : (Jvm.Cond.code ({ cls := "Dredgeledger", name := "setPrice", desc := "(I)I" } : Jvm.MethodName) prog_2_method_41_code (3 : Nat) (Option.some Jvm.ClassFile.FieldType.int)) ∈ lw_all := lw_g (lw_at lw_m9 68 rfl) rfl
theorem q2040 : (Jvm.Cond.instanceMethod ({ cls := "Dredgeledger", name := "dispute", desc := "(I)I" } : Jvm.MethodName)) ∈ lw_all := lw_g (lw_at lw_m9 73 rfl) rfl
theorem q2041 : (Jvm.Cond.selects "Dredgeledger" ({ cls := "Dredgeledger", name := "dispute", desc := "(I)I" } : Jvm.MethodName) ({ cls := "Dredgeledger", name := "dispute", desc := "(I)I" } : Jvm.MethodName)) ∈ lw_all := lw_g (lw_at lw_m9 74 rfl) rfl
theorem q2042 : (Jvm.Cond.code ({ cls := "Dredgeledger", name := "dispute", desc := "(I)I" } : Jvm.MethodName) prog_2_method_42_code (2 : Nat) (Option.some Jvm.ClassFile.FieldType.int)) ∈ lw_all := lw_g (lw_at lw_m9 75 rfl) rfl
theorem q2043 : (Jvm.Cond.methodLink "Dredgeledger" (327 : Nat) ({ cls := "java/util/BitSet", name := "set", desc := "(I)V" } : Jvm.MethodName)) ∈ lw_all := lw_g (lw_at lw_m9 76 rfl) rfl
theorem q2065 : (Jvm.Cond.fieldLink "Dredgeledger" (332 : Nat) "Dredgeledger$Side" "BEGIN" "LDredgeledger$Side;") ∈ lw_all := lw_g (lw_at lw_m9 98 rfl) rfl
theorem q2067 : (Jvm.Cond.methodLinkNest "Dredgeledger" (338 : Nat) ({ cls := "Dredgeledger$Dispute", name := "<init>", desc := "(ILDredgeledger$Side;)V" } : Jvm.MethodName) "Dredgeledger") ∈ lw_tbl := lw_at lw_m9 100 rfl
theorem q2078 : (Jvm.Cond.fieldLink "Dredgeledger" (341 : Nat) "Deed" "DISPUTE" "LDeed;") ∈ lw_all := lw_g (lw_at lw_m9 111 rfl) rfl
theorem q2080 : (Jvm.Cond.methodLink "Dredgeledger" (344 : Nat) ({ cls := "java/util/BitSet", name := "cardinality", desc := "()I" } : Jvm.MethodName)) ∈ lw_all := lw_g (lw_at lw_m9 113 rfl) rfl
theorem q2094 : (Jvm.Cond.instanceMethod ({ cls := "Dredgeledger", name := "resolve", desc := "(I)I" } : Jvm.MethodName)) ∈ lw_all := lw_g (lw_at lw_m9 127 rfl) rfl
theorem q2095 : (Jvm.Cond.selects "Dredgeledger" ({ cls := "Dredgeledger", name := "resolve", desc := "(I)I" } : Jvm.MethodName) ({ cls := "Dredgeledger", name := "resolve", desc := "(I)I" } : Jvm.MethodName)) ∈ lw_all := lw_g (lw_at lw_m9 128 rfl) rfl
theorem q2096 : (Jvm.Cond.code ({ cls := "Dredgeledger", name := "resolve", desc := "(I)I" } : Jvm.MethodName) prog_2_method_43_code (2 : Nat) (Option.some Jvm.ClassFile.FieldType.int)) ∈ lw_all := lw_g (lw_at lw_m9 129 rfl) rfl
theorem q2097 : (Jvm.Cond.methodLink "Dredgeledger" (347 : Nat) ({ cls := "java/util/BitSet", name := "clear", desc := "(I)V" } : Jvm.MethodName)) ∈ lw_all := lw_g (lw_at lw_m9 130 rfl) rfl
theorem q2106 : (Jvm.Cond.fieldLink "Dredgeledger" (350 : Nat) "Dredgeledger$Side" "END" "LDredgeledger$Side;") ∈ lw_all := lw_g (lw_at lw_m9 139 rfl) rfl
theorem q2108 : (Jvm.Cond.fieldLink "Dredgeledger" (353 : Nat) "Deed" "RESOLVE" "LDeed;") ∈ lw_all := lw_g (lw_at lw_m9 141 rfl) rfl
theorem q2114 : (Jvm.Cond.instanceMethod ({ cls := "Dredgeledger", name := "paidDepth", desc := "(I)I" } : Jvm.MethodName)) ∈ lw_all := lw_g (lw_at lw_m9 147 rfl) rfl
theorem q2115 : (Jvm.Cond.selects "Dredgeledger" ({ cls := "Dredgeledger", name := "paidDepth", desc := "(I)I" } : Jvm.MethodName) ({ cls := "Dredgeledger", name := "paidDepth", desc := "(I)I" } : Jvm.MethodName)) ∈ lw_all := lw_g (lw_at lw_m9 148 rfl) rfl
theorem q2116 : (Jvm.Cond.code ({ cls := "Dredgeledger", name := "paidDepth", desc := "(I)I" } : Jvm.MethodName) prog_2_method_44_code (2 : Nat) (Option.some Jvm.ClassFile.FieldType.int)) ∈ lw_all := lw_g (lw_at lw_m9 149 rfl) rfl
theorem q2121 : (Jvm.Cond.instanceMethod ({ cls := "Dredgeledger", name := "entryAt", desc := "(I)LEntry;" } : Jvm.MethodName)) ∈ lw_all := lw_g (lw_at lw_m9 154 rfl) rfl
theorem q2122 : (Jvm.Cond.selects "Dredgeledger" ({ cls := "Dredgeledger", name := "entryAt", desc := "(I)LEntry;" } : Jvm.MethodName) ({ cls := "Dredgeledger", name := "entryAt", desc := "(I)LEntry;" } : Jvm.MethodName)) ∈ lw_all := lw_g (lw_at lw_m9 155 rfl) rfl
theorem q2123 : (Jvm.Cond.code ({ cls := "Dredgeledger", name := "entryAt", desc := "(I)LEntry;" } : Jvm.MethodName) prog_2_method_51_code (6 : Nat) (Option.some (Jvm.ClassFile.FieldType.object "Entry"))) ∈ lw_all := lw_g (lw_at lw_m9 156 rfl) rfl
theorem q2124 : (Jvm.Cond.methodLink "Dredgeledger" (380 : Nat) ({ cls := "java/util/ArrayDeque", name := "peekFirst", desc := "()Ljava/lang/Object;" } : Jvm.MethodName)) ∈ lw_all := lw_g (lw_at lw_m9 157 rfl) rfl
theorem q2128 : (Jvm.Cond.methodLink "Dredgeledger" (383 : Nat) ({ cls := "java/util/ArrayDeque", name := "iterator", desc := "()Ljava/util/Iterator;" } : Jvm.MethodName)) ∈ lw_all := lw_g (lw_at lw_m9 161 rfl) rfl
theorem q2170 : (Jvm.Cond.instanceMethod ({ cls := "Dredgeledger", name := "doneShare", desc := "()F" } : Jvm.MethodName)) ∈ lw_all := lw_g (lw_at lw_m9 203 rfl) rfl
theorem q2171 : (Jvm.Cond.selects "Dredgeledger" ({ cls := "Dredgeledger", name := "doneShare", desc := "()F" } : Jvm.MethodName) ({ cls := "Dredgeledger", name := "doneShare", desc := "()F" } : Jvm.MethodName)) ∈ lw_all := lw_g (lw_at lw_m9 204 rfl) rfl
theorem q2172 : (Jvm.Cond.code ({ cls := "Dredgeledger", name := "doneShare", desc := "()F" } : Jvm.MethodName) prog_2_method_52_code (6 : Nat) (Option.some Jvm.ClassFile.FieldType.float)) ∈ lw_all := lw_g (lw_at lw_m9 205 rfl) rfl
theorem q2173 : (Jvm.Cond.methodLink "Dredgeledger" (384 : Nat) ({ cls := "Dredgeledger", name := "checkDivisor", desc := "(I)V" } : Jvm.MethodName)) ∈ lw_all := lw_g (lw_at lw_m9 206 rfl) rfl
theorem q2174 : (Jvm.Cond.static ({ cls := "Dredgeledger", name := "checkDivisor", desc := "(I)V" } : Jvm.MethodName)) ∈ lw_all := lw_g (lw_at lw_m9 207 rfl) rfl
theorem q2175 : (Jvm.Cond.code ({ cls := "Dredgeledger", name := "checkDivisor", desc := "(I)V" } : Jvm.MethodName) prog_2_method_8_code (1 : Nat) (Option.none : Option Jvm.ClassFile.FieldType)) ∈ lw_all := lw_g (lw_at lw_m9 208 rfl) rfl
theorem q2176 : (Jvm.Cond.classLink "Dredgeledger" (91 : Nat) "java/lang/ArithmeticException") ∈ lw_all := lw_g (lw_at lw_m9 209 rfl) rfl
theorem q2177 : (Jvm.Cond.methodLink "Dredgeledger" (93 : Nat) ({ cls := "java/lang/ArithmeticException", name := "<init>", desc := "()V" } : Jvm.MethodName)) ∈ lw_all := lw_g (lw_at lw_m9 210 rfl) rfl
theorem q2185 : (Jvm.Cond.instanceMethod ({ cls := "Dredgeledger", name := "meanDepth", desc := "()D" } : Jvm.MethodName)) ∈ lw_all := lw_g (lw_at lw_m9 218 rfl) rfl
theorem q2186 : (Jvm.Cond.selects "Dredgeledger" ({ cls := "Dredgeledger", name := "meanDepth", desc := "()D" } : Jvm.MethodName) ({ cls := "Dredgeledger", name := "meanDepth", desc := "()D" } : Jvm.MethodName)) ∈ lw_all := lw_g (lw_at lw_m9 219 rfl) rfl
theorem q2187 : (Jvm.Cond.code ({ cls := "Dredgeledger", name := "meanDepth", desc := "()D" } : Jvm.MethodName) prog_2_method_54_code (1 : Nat) (Option.some Jvm.ClassFile.FieldType.double)) ∈ lw_all := lw_g (lw_at lw_m9 220 rfl) rfl
theorem q2558 : (Jvm.Cond.castable "Dredgeledger" "java/lang/Object") ∈ lw_tbl := lw_at lw_m11 111 rfl
theorem in_X1 : ∀ w ∈ wsX10, w ∈ lw_all := lw_in wsX10 [571, 573, 575, 577, 579, 581, 583, 585, 587, 589, 591, 593, 595, 597, 599, 601, 603, 605, 607, 609, 611] (by decide +kernel) (by decide +kernel)

/-! Dredgeledger$Chain -/
set_option maxRecDepth 100000
def RX2 : String := "Dredgeledger$Chain"
def TX2 : u_T := fun k => match k with
  | 0 => ("Dredgeledger$Chain", "first", "LDredgeledger$Link;", false)
  | _ => ("Dredgeledger$Chain", "last", "LDredgeledger$Link;", false)
def tyX2 : Nat → FieldType := fun k => match k with
  | 0 => .object "Dredgeledger$Link"
  | _ => .object "Dredgeledger$Link"
abbrev wsX20 : List Cond := u_ws RX2 TX2 2
theorem nmX2 : ∀ a, a < 2 → ∀ b, b < 2 → a ≠ b → (TX2 a).2.1 ≠ (TX2 b).2.1 := by decide +kernel
theorem tyX2_ok : ∀ k, k < 2 → parseFieldDescriptor (TX2 k).2.2.1 = some (tyX2 k) := by decide +kernel
abbrev cX2_init : ByteArray := prog_3_method_1_code
def yX2_init : MethodName := ⟨RX2, "<init>", "()V"⟩
theorem dX2_init_0 : decode cX2_init 0 = .ok (.aload_n 0, 1) := by decide +kernel
theorem dX2_init_1 : decode cX2_init 1 = .ok (.invokespecial 1, 3) := by decide +kernel
theorem dX2_init_4 : decode cX2_init 4 = .ok (.return_, 1) := by decide +kernel
abbrev cX2_iterator : ByteArray := prog_3_method_3_code
def yX2_iterator : MethodName := ⟨RX2, "iterator", "()Ljava/util/Iterator;"⟩
def dkwX2_iterator_0 : List UInt8 := [187, 0, 24, 89, 42, 183, 0, 26, 176]
abbrev dktX2_iterator_0 : List UInt8 := dkwX2_iterator_0 ++ []
theorem dksX2_iterator_0 : cX2_iterator.data.toList.drop 0 = dktX2_iterator_0 := by decide +kernel
theorem dX2_iterator_0 : decode cX2_iterator 0 = .ok (.new 24, 3) := dk_187 0 24 (dk_at dksX2_iterator_0 0 rfl rfl)
theorem dX2_iterator_3 : decode cX2_iterator 3 = .ok (.dup, 1) := dk_89 (dk_at dksX2_iterator_0 3 rfl rfl)
theorem dX2_iterator_4 : decode cX2_iterator 4 = .ok (.aload_n 0, 1) := dk_42 (dk_at dksX2_iterator_0 4 rfl rfl)
theorem dX2_iterator_5 : decode cX2_iterator 5 = .ok (.invokespecial 26, 3) := dk_183 0 26 (dk_at dksX2_iterator_0 5 rfl rfl)
theorem dX2_iterator_8 : decode cX2_iterator 8 = .ok (.areturn, 1) := dk_176 (dk_at dksX2_iterator_0 8 rfl rfl)
abbrev cX2_add : ByteArray := prog_3_method_2_code
def yX2_add : MethodName := ⟨RX2, "add", "(Ljava/lang/Object;)V"⟩
def dkwX2_add_1 : List UInt8 := [42, 180, 0, 18, 44, 181, 0, 21, 42, 44, 181, 0, 18, 177]
abbrev dktX2_add_1 : List UInt8 := dkwX2_add_1 ++ []
def dkwX2_add_0 : List UInt8 := [187, 0, 7, 89, 43, 183, 0, 9, 77, 42, 180, 0, 12, 199, 0, 11, 42, 44, 181, 0, 12, 167, 0, 11]
abbrev dktX2_add_0 : List UInt8 := dkwX2_add_0 ++ dktX2_add_1
theorem dksX2_add_0 : cX2_add.data.toList.drop 0 = dktX2_add_0 := by decide +kernel
theorem dksX2_add_1 : cX2_add.data.toList.drop 24 = dktX2_add_1 := dk_seg dksX2_add_0 24 rfl rfl
theorem dX2_add_0 : decode cX2_add 0 = .ok (.new 7, 3) := dk_187 0 7 (dk_at dksX2_add_0 0 rfl rfl)
theorem dX2_add_3 : decode cX2_add 3 = .ok (.dup, 1) := dk_89 (dk_at dksX2_add_0 3 rfl rfl)
theorem dX2_add_4 : decode cX2_add 4 = .ok (.aload_n 1, 1) := dk_43 (dk_at dksX2_add_0 4 rfl rfl)
theorem dX2_add_5 : decode cX2_add 5 = .ok (.invokespecial 9, 3) := dk_183 0 9 (dk_at dksX2_add_0 5 rfl rfl)
theorem dX2_add_8 : decode cX2_add 8 = .ok (.astore_n 2, 1) := dk_77 (dk_at dksX2_add_0 8 rfl rfl)
theorem dX2_add_9 : decode cX2_add 9 = .ok (.aload_n 0, 1) := dk_42 (dk_at dksX2_add_0 9 rfl rfl)
theorem dX2_add_10 : decode cX2_add 10 = .ok (.getfield 12, 3) := dk_180 0 12 (dk_at dksX2_add_0 10 rfl rfl)
theorem dX2_add_13 : decode cX2_add 13 = .ok (.ifnonnull 11, 3) := dk_199 0 11 (dk_at dksX2_add_0 13 rfl rfl)
theorem dX2_add_16 : decode cX2_add 16 = .ok (.aload_n 0, 1) := dk_42 (dk_at dksX2_add_0 16 rfl rfl)
theorem dX2_add_17 : decode cX2_add 17 = .ok (.aload_n 2, 1) := dk_44 (dk_at dksX2_add_0 17 rfl rfl)
theorem dX2_add_18 : decode cX2_add 18 = .ok (.putfield 12, 3) := dk_181 0 12 (dk_at dksX2_add_0 18 rfl rfl)
theorem dX2_add_21 : decode cX2_add 21 = .ok (.goto 11, 3) := dk_167 0 11 (dk_at dksX2_add_0 21 rfl rfl)
theorem dX2_add_24 : decode cX2_add 24 = .ok (.aload_n 0, 1) := dk_42 (dk_at dksX2_add_1 0 rfl rfl)
theorem dX2_add_25 : decode cX2_add 25 = .ok (.getfield 18, 3) := dk_180 0 18 (dk_at dksX2_add_1 1 rfl rfl)
theorem dX2_add_28 : decode cX2_add 28 = .ok (.aload_n 2, 1) := dk_44 (dk_at dksX2_add_1 4 rfl rfl)
theorem dX2_add_29 : decode cX2_add 29 = .ok (.putfield 21, 3) := dk_181 0 21 (dk_at dksX2_add_1 5 rfl rfl)
theorem dX2_add_32 : decode cX2_add 32 = .ok (.aload_n 0, 1) := dk_42 (dk_at dksX2_add_1 8 rfl rfl)
theorem dX2_add_33 : decode cX2_add 33 = .ok (.aload_n 2, 1) := dk_44 (dk_at dksX2_add_1 9 rfl rfl)
theorem dX2_add_34 : decode cX2_add 34 = .ok (.putfield 18, 3) := dk_181 0 18 (dk_at dksX2_add_1 10 rfl rfl)
theorem dX2_add_37 : decode cX2_add 37 = .ok (.return_, 1) := dk_177 (dk_at dksX2_add_1 13 rfl rfl)
theorem q71 : (Jvm.Cond.initialized "Dredgeledger$Chain") ∈ lw_all := lw_g (lw_at lw_m1 24 rfl) rfl
theorem q518 : (Jvm.Cond.instantiable "Dredgeledger$Chain" (2 : Nat)) ∈ lw_all := lw_g (lw_at lw_m2 231 rfl) rfl
theorem q520 : (Jvm.Cond.instanceMethod ({ cls := "Dredgeledger$Chain", name := "<init>", desc := "()V" } : Jvm.MethodName)) ∈ lw_all := lw_g (lw_at lw_m2 233 rfl) rfl
theorem q521 : (Jvm.Cond.code ({ cls := "Dredgeledger$Chain", name := "<init>", desc := "()V" } : Jvm.MethodName) prog_3_method_1_code (1 : Nat) (Option.none : Option Jvm.ClassFile.FieldType)) ∈ lw_all := lw_g (lw_at lw_m2 234 rfl) rfl
theorem q522 : (Jvm.Cond.methodLink "Dredgeledger$Chain" (1 : Nat) ({ cls := "java/lang/Object", name := "<init>", desc := "()V" } : Jvm.MethodName)) ∈ lw_all := lw_g (lw_at lw_m2 235 rfl) rfl
theorem q524 : (Jvm.Cond.fieldLink "Dredgeledger$Chain" (12 : Nat) "Dredgeledger$Chain" "first" "LDredgeledger$Link;") ∈ lw_all := lw_g (lw_at lw_m2 237 rfl) rfl
theorem q525 : (Jvm.Cond.fieldLink "Dredgeledger$Chain" (18 : Nat) "Dredgeledger$Chain" "last" "LDredgeledger$Link;") ∈ lw_all := lw_g (lw_at lw_m2 238 rfl) rfl
theorem q526 : (Jvm.Cond.lays "Dredgeledger$Chain" "Dredgeledger$Chain" "first" "LDredgeledger$Link;") ∈ lw_all := lw_g (lw_at lw_m2 239 rfl) rfl
theorem q527 : (Jvm.Cond.soleField "Dredgeledger$Chain" "first") ∈ lw_all := lw_g (lw_at lw_m3 0 rfl) rfl
theorem q528 : (Jvm.Cond.lays "Dredgeledger$Chain" "Dredgeledger$Chain" "last" "LDredgeledger$Link;") ∈ lw_all := lw_g (lw_at lw_m3 1 rfl) rfl
theorem q529 : (Jvm.Cond.soleField "Dredgeledger$Chain" "last") ∈ lw_all := lw_g (lw_at lw_m3 2 rfl) rfl
theorem q530 : (Jvm.Cond.superclass "Dredgeledger$Chain" "java/lang/Object") ∈ lw_all := lw_g (lw_at lw_m3 3 rfl) rfl
theorem q643 : (Jvm.Cond.instanceMethod ({ cls := "Dredgeledger$Chain", name := "iterator", desc := "()Ljava/util/Iterator;" } : Jvm.MethodName)) ∈ lw_all := lw_g (lw_at lw_m3 116 rfl) rfl
theorem q644 : (Jvm.Cond.selects "Dredgeledger$Chain" ({ cls := "Dredgeledger$Chain", name := "iterator", desc := "()Ljava/util/Iterator;" } : Jvm.MethodName) ({ cls := "Dredgeledger$Chain", name := "iterator", desc := "()Ljava/util/Iterator;" } : Jvm.MethodName)) ∈ lw_all := lw_g (lw_at lw_m3 117 rfl) rfl
theorem q645 : (Jvm.Cond.code ({ cls := "Dredgeledger$Chain", name := "iterator", desc := "()Ljava/util/Iterator;" } : Jvm.MethodName) prog_3_method_3_code (1 : Nat) (Option.some (Jvm.ClassFile.FieldType.object "java/util/Iterator"))) ∈ lw_all := lw_g (lw_at lw_m3 118 rfl) rfl
theorem q646 : (Jvm.Cond.classLink "Dredgeledger$Chain" (24 : Nat) "Dredgeledger$Chain$1") ∈ lw_all := lw_g (lw_at lw_m3 119 rfl) rfl
theorem q648 : (Jvm.Cond.methodLink "Dredgeledger$Chain" (26 : Nat) ({ cls := "Dredgeledger$Chain$1", name := "<init>", desc := "(LDredgeledger$Chain;)V" } : Jvm.MethodName)) ∈ lw_all := lw_g (lw_at lw_m3 121 rfl) rfl
theorem q823 : (Jvm.Cond.selects "Dredgeledger$Chain" ({ cls := "java/lang/Object", name := "getClass", desc := "()Ljava/lang/Class;" } : Jvm.MethodName) ({ cls := "java/lang/Object", name := "getClass", desc := "()Ljava/lang/Class;" } : Jvm.MethodName)) ∈ lw_all := lw_g (lw_at lw_m4 56 rfl) rfl
theorem q1209 : (Jvm.Cond.instanceMethod ({ cls := "Dredgeledger$Chain", name := "add", desc := "(Ljava/lang/Object;)V" } : Jvm.MethodName)) ∈ lw_all := lw_g (lw_at lw_m5 202 rfl) rfl
theorem q1210 : (Jvm.Cond.selects "Dredgeledger$Chain" ({ cls := "Dredgeledger$Chain", name := "add", desc := "(Ljava/lang/Object;)V" } : Jvm.MethodName) ({ cls := "Dredgeledger$Chain", name := "add", desc := "(Ljava/lang/Object;)V" } : Jvm.MethodName)) ∈ lw_all := lw_g (lw_at lw_m5 203 rfl) rfl
theorem q1211 : (Jvm.Cond.code ({ cls := "Dredgeledger$Chain", name := "add", desc := "(Ljava/lang/Object;)V" } : Jvm.MethodName) prog_3_method_2_code (3 : Nat) (Option.none : Option Jvm.ClassFile.FieldType)) ∈ lw_all := lw_g (lw_at lw_m5 204 rfl) rfl
theorem q1212 : (Jvm.Cond.classLink "Dredgeledger$Chain" (7 : Nat) "Dredgeledger$Link") ∈ lw_all := lw_g (lw_at lw_m5 205 rfl) rfl
theorem q1214 : (Jvm.Cond.methodLink "Dredgeledger$Chain" (9 : Nat) ({ cls := "Dredgeledger$Link", name := "<init>", desc := "(Ljava/lang/Object;)V" } : Jvm.MethodName)) ∈ lw_all := lw_g (lw_at lw_m5 207 rfl) rfl
theorem q1220 : (Jvm.Cond.fieldLinkNest "Dredgeledger$Chain" (21 : Nat) "Dredgeledger$Link" "next" "LDredgeledger$Link;" "Dredgeledger") ∈ lw_tbl := lw_at lw_m5 213 rfl
theorem q2565 : (Jvm.Cond.castable "Dredgeledger$Chain" "java/lang/Object") ∈ lw_tbl := lw_at lw_m11 118 rfl
theorem in_X2 : ∀ w ∈ wsX20, w ∈ lw_all := lw_in wsX20 [526, 528] (by decide +kernel) (by decide +kernel)

/-! DredgeledgerModel -/
set_option maxRecDepth 100000
def RX3 : String := "DredgeledgerModel"
def TX3 : u_T := fun k => match k with
  | 0 => ("DredgeledgerModel", "thrown", "I", false)
  | 1 => ("DredgeledgerModel", "cells", "I", false)
  | 2 => ("DredgeledgerModel", "depth", "[I", true)
  | 3 => ("DredgeledgerModel", "next", "[I", true)
  | 4 => ("DredgeledgerModel", "limit", "[I", true)
  | 5 => ("DredgeledgerModel", "paidDepth", "[I", true)
  | 6 => ("DredgeledgerModel", "disputed", "[Z", true)
  | 7 => ("DredgeledgerModel", "slope", "I", false)
  | 8 => ("DredgeledgerModel", "day", "I", false)
  | 9 => ("DredgeledgerModel", "hopper", "I", false)
  | 10 => ("DredgeledgerModel", "dredged", "I", false)
  | 11 => ("DredgeledgerModel", "crept", "I", false)
  | 12 => ("DredgeledgerModel", "tide", "I", false)
  | 13 => ("DredgeledgerModel", "grounds", "I", false)
  | 14 => ("DredgeledgerModel", "space", "[I", true)
  | 15 => ("DredgeledgerModel", "least", "[I", true)
  | 16 => ("DredgeledgerModel", "dumped", "[I", true)
  | 17 => ("DredgeledgerModel", "permits", "I", false)
  | 18 => ("DredgeledgerModel", "ground", "[I", true)
  | 19 => ("DredgeledgerModel", "firstDay", "[I", true)
  | 20 => ("DredgeledgerModel", "lastDay", "[I", true)
  | 21 => ("DredgeledgerModel", "left", "[I", true)
  | 22 => ("DredgeledgerModel", "surveys", "I", false)
  | 23 => ("DredgeledgerModel", "from", "[I", true)
  | 24 => ("DredgeledgerModel", "to", "[I", true)
  | 25 => ("DredgeledgerModel", "trust", "[I", true)
  | 26 => ("DredgeledgerModel", "told", "[I", true)
  | 27 => ("DredgeledgerModel", "settled", "I", false)
  | 28 => ("DredgeledgerModel", "price", "I", false)
  | 29 => ("DredgeledgerModel", "paid", "I", false)
  | 30 => ("DredgeledgerModel", "money", "J", false)
  | 31 => ("DredgeledgerModel", "entries", "I", false)
  | 32 => ("DredgeledgerModel", "deed", "[LDeed;", true)
  | 33 => ("DredgeledgerModel", "entryDay", "[I", true)
  | _ => ("DredgeledgerModel", "entryNumber", "[I", true)
def tyX3 : Nat → FieldType := fun k => match k with
  | 0 => .int
  | 1 => .int
  | 2 => .array .int
  | 3 => .array .int
  | 4 => .array .int
  | 5 => .array .int
  | 6 => .array .boolean
  | 7 => .int
  | 8 => .int
  | 9 => .int
  | 10 => .int
  | 11 => .int
  | 12 => .int
  | 13 => .int
  | 14 => .array .int
  | 15 => .array .int
  | 16 => .array .int
  | 17 => .int
  | 18 => .array .int
  | 19 => .array .int
  | 20 => .array .int
  | 21 => .array .int
  | 22 => .int
  | 23 => .array .int
  | 24 => .array .int
  | 25 => .array .int
  | 26 => .array .int
  | 27 => .int
  | 28 => .int
  | 29 => .int
  | 30 => .long
  | 31 => .int
  | 32 => .array (.object "Deed")
  | 33 => .array .int
  | _ => .array .int
abbrev wsX30 : List Cond := u_ws RX3 TX3 35
set_option maxRecDepth 100000 in
theorem nmX3 : ∀ a, a < 35 → ∀ b, b < 35 → a ≠ b → (TX3 a).2.1 ≠ (TX3 b).2.1 := by decide +kernel
set_option maxRecDepth 100000 in
theorem tyX3_ok : ∀ k, k < 35 → parseFieldDescriptor (TX3 k).2.2.1 = some (tyX3 k) := by decide +kernel
abbrev cX3_init : ByteArray := prog_18_method_1_code
def yX3_init : MethodName := ⟨RX3, "<init>", "()V"⟩
def dkwX3_init_7 : List UInt8 := [188, 10, 181, 0, 78, 177]
abbrev dktX3_init_7 : List UInt8 := dkwX3_init_7 ++ []
def dkwX3_init_6 : List UInt8 := [181, 0, 66, 42, 16, 8, 189, 0, 69, 181, 0, 71, 42, 16, 8, 188, 10, 181, 0, 75, 42, 16, 8]
abbrev dktX3_init_6 : List UInt8 := dkwX3_init_6 ++ dktX3_init_7
def dkwX3_init_5 : List UInt8 := [42, 16, 12, 188, 10, 181, 0, 57, 42, 17, 1, 32, 188, 10, 181, 0, 60, 42, 2, 181, 0, 63, 42, 4]
abbrev dktX3_init_5 : List UInt8 := dkwX3_init_5 ++ dktX3_init_6
def dkwX3_init_4 : List UInt8 := [42, 16, 8, 188, 10, 181, 0, 48, 42, 16, 12, 188, 10, 181, 0, 51, 42, 16, 12, 188, 10, 181, 0, 54]
abbrev dktX3_init_4 : List UInt8 := dkwX3_init_4 ++ dktX3_init_5
def dkwX3_init_3 : List UInt8 := [42, 16, 8, 188, 10, 181, 0, 39, 42, 16, 8, 188, 10, 181, 0, 42, 42, 16, 8, 188, 10, 181, 0, 45]
abbrev dktX3_init_3 : List UInt8 := dkwX3_init_3 ++ dktX3_init_4
def dkwX3_init_2 : List UInt8 := [181, 0, 26, 42, 6, 188, 10, 181, 0, 30, 42, 6, 188, 10, 181, 0, 33, 42, 6, 188, 10, 181, 0, 36]
abbrev dktX3_init_2 : List UInt8 := dkwX3_init_2 ++ dktX3_init_3
def dkwX3_init_1 : List UInt8 := [188, 10, 181, 0, 16, 42, 16, 24, 188, 10, 181, 0, 19, 42, 16, 24, 188, 4, 181, 0, 22, 42, 16, 10]
abbrev dktX3_init_1 : List UInt8 := dkwX3_init_1 ++ dktX3_init_2
def dkwX3_init_0 : List UInt8 := [42, 183, 0, 1, 42, 16, 24, 188, 10, 181, 0, 9, 42, 16, 24, 188, 10, 181, 0, 13, 42, 16, 24]
abbrev dktX3_init_0 : List UInt8 := dkwX3_init_0 ++ dktX3_init_1
theorem dksX3_init_0 : cX3_init.data.toList.drop 0 = dktX3_init_0 := by decide +kernel
theorem dksX3_init_1 : cX3_init.data.toList.drop 23 = dktX3_init_1 := dk_seg dksX3_init_0 23 rfl rfl
theorem dksX3_init_2 : cX3_init.data.toList.drop 47 = dktX3_init_2 := dk_seg dksX3_init_1 24 rfl rfl
theorem dksX3_init_3 : cX3_init.data.toList.drop 71 = dktX3_init_3 := dk_seg dksX3_init_2 24 rfl rfl
theorem dksX3_init_4 : cX3_init.data.toList.drop 95 = dktX3_init_4 := dk_seg dksX3_init_3 24 rfl rfl
theorem dksX3_init_5 : cX3_init.data.toList.drop 119 = dktX3_init_5 := dk_seg dksX3_init_4 24 rfl rfl
theorem dksX3_init_6 : cX3_init.data.toList.drop 143 = dktX3_init_6 := dk_seg dksX3_init_5 24 rfl rfl
theorem dksX3_init_7 : cX3_init.data.toList.drop 166 = dktX3_init_7 := dk_seg dksX3_init_6 23 rfl rfl
theorem dX3_init_0 : decode cX3_init 0 = .ok (.aload_n 0, 1) := dk_42 (dk_at dksX3_init_0 0 rfl rfl)
theorem dX3_init_1 : decode cX3_init 1 = .ok (.invokespecial 1, 3) := dk_183 0 1 (dk_at dksX3_init_0 1 rfl rfl)
theorem dX3_init_4 : decode cX3_init 4 = .ok (.aload_n 0, 1) := dk_42 (dk_at dksX3_init_0 4 rfl rfl)
theorem dX3_init_5 : decode cX3_init 5 = .ok (.bipush 24, 2) := dk_16 24 (dk_at dksX3_init_0 5 rfl rfl)
theorem dX3_init_7 : decode cX3_init 7 = .ok (.newarray .int, 2) := dk_188_10 (dk_at dksX3_init_0 7 rfl rfl)
theorem dX3_init_9 : decode cX3_init 9 = .ok (.putfield 9, 3) := dk_181 0 9 (dk_at dksX3_init_0 9 rfl rfl)
theorem dX3_init_12 : decode cX3_init 12 = .ok (.aload_n 0, 1) := dk_42 (dk_at dksX3_init_0 12 rfl rfl)
theorem dX3_init_13 : decode cX3_init 13 = .ok (.bipush 24, 2) := dk_16 24 (dk_at dksX3_init_0 13 rfl rfl)
theorem dX3_init_15 : decode cX3_init 15 = .ok (.newarray .int, 2) := dk_188_10 (dk_at dksX3_init_0 15 rfl rfl)
theorem dX3_init_17 : decode cX3_init 17 = .ok (.putfield 13, 3) := dk_181 0 13 (dk_at dksX3_init_0 17 rfl rfl)
theorem dX3_init_20 : decode cX3_init 20 = .ok (.aload_n 0, 1) := dk_42 (dk_at dksX3_init_0 20 rfl rfl)
theorem dX3_init_21 : decode cX3_init 21 = .ok (.bipush 24, 2) := dk_16 24 (dk_at dksX3_init_0 21 rfl rfl)
theorem dX3_init_23 : decode cX3_init 23 = .ok (.newarray .int, 2) := dk_188_10 (dk_at dksX3_init_1 0 rfl rfl)
theorem dX3_init_25 : decode cX3_init 25 = .ok (.putfield 16, 3) := dk_181 0 16 (dk_at dksX3_init_1 2 rfl rfl)
theorem dX3_init_28 : decode cX3_init 28 = .ok (.aload_n 0, 1) := dk_42 (dk_at dksX3_init_1 5 rfl rfl)
theorem dX3_init_29 : decode cX3_init 29 = .ok (.bipush 24, 2) := dk_16 24 (dk_at dksX3_init_1 6 rfl rfl)
theorem dX3_init_31 : decode cX3_init 31 = .ok (.newarray .int, 2) := dk_188_10 (dk_at dksX3_init_1 8 rfl rfl)
theorem dX3_init_33 : decode cX3_init 33 = .ok (.putfield 19, 3) := dk_181 0 19 (dk_at dksX3_init_1 10 rfl rfl)
theorem dX3_init_36 : decode cX3_init 36 = .ok (.aload_n 0, 1) := dk_42 (dk_at dksX3_init_1 13 rfl rfl)
theorem dX3_init_37 : decode cX3_init 37 = .ok (.bipush 24, 2) := dk_16 24 (dk_at dksX3_init_1 14 rfl rfl)
theorem dX3_init_39 : decode cX3_init 39 = .ok (.newarray .boolean, 2) := dk_188_4 (dk_at dksX3_init_1 16 rfl rfl)
theorem dX3_init_41 : decode cX3_init 41 = .ok (.putfield 22, 3) := dk_181 0 22 (dk_at dksX3_init_1 18 rfl rfl)
theorem dX3_init_44 : decode cX3_init 44 = .ok (.aload_n 0, 1) := dk_42 (dk_at dksX3_init_1 21 rfl rfl)
theorem dX3_init_45 : decode cX3_init 45 = .ok (.bipush 10, 2) := dk_16 10 (dk_at dksX3_init_1 22 rfl rfl)
theorem dX3_init_47 : decode cX3_init 47 = .ok (.putfield 26, 3) := dk_181 0 26 (dk_at dksX3_init_2 0 rfl rfl)
theorem dX3_init_50 : decode cX3_init 50 = .ok (.aload_n 0, 1) := dk_42 (dk_at dksX3_init_2 3 rfl rfl)
theorem dX3_init_51 : decode cX3_init 51 = .ok (.iconst 3, 1) := dk_6 (dk_at dksX3_init_2 4 rfl rfl)
theorem dX3_init_52 : decode cX3_init 52 = .ok (.newarray .int, 2) := dk_188_10 (dk_at dksX3_init_2 5 rfl rfl)
theorem dX3_init_54 : decode cX3_init 54 = .ok (.putfield 30, 3) := dk_181 0 30 (dk_at dksX3_init_2 7 rfl rfl)
theorem dX3_init_57 : decode cX3_init 57 = .ok (.aload_n 0, 1) := dk_42 (dk_at dksX3_init_2 10 rfl rfl)
theorem dX3_init_58 : decode cX3_init 58 = .ok (.iconst 3, 1) := dk_6 (dk_at dksX3_init_2 11 rfl rfl)
theorem dX3_init_59 : decode cX3_init 59 = .ok (.newarray .int, 2) := dk_188_10 (dk_at dksX3_init_2 12 rfl rfl)
theorem dX3_init_61 : decode cX3_init 61 = .ok (.putfield 33, 3) := dk_181 0 33 (dk_at dksX3_init_2 14 rfl rfl)
theorem dX3_init_64 : decode cX3_init 64 = .ok (.aload_n 0, 1) := dk_42 (dk_at dksX3_init_2 17 rfl rfl)
theorem dX3_init_65 : decode cX3_init 65 = .ok (.iconst 3, 1) := dk_6 (dk_at dksX3_init_2 18 rfl rfl)
theorem dX3_init_66 : decode cX3_init 66 = .ok (.newarray .int, 2) := dk_188_10 (dk_at dksX3_init_2 19 rfl rfl)
theorem dX3_init_68 : decode cX3_init 68 = .ok (.putfield 36, 3) := dk_181 0 36 (dk_at dksX3_init_2 21 rfl rfl)
theorem dX3_init_71 : decode cX3_init 71 = .ok (.aload_n 0, 1) := dk_42 (dk_at dksX3_init_3 0 rfl rfl)
theorem dX3_init_72 : decode cX3_init 72 = .ok (.bipush 8, 2) := dk_16 8 (dk_at dksX3_init_3 1 rfl rfl)
theorem dX3_init_74 : decode cX3_init 74 = .ok (.newarray .int, 2) := dk_188_10 (dk_at dksX3_init_3 3 rfl rfl)
theorem dX3_init_76 : decode cX3_init 76 = .ok (.putfield 39, 3) := dk_181 0 39 (dk_at dksX3_init_3 5 rfl rfl)
theorem dX3_init_79 : decode cX3_init 79 = .ok (.aload_n 0, 1) := dk_42 (dk_at dksX3_init_3 8 rfl rfl)
theorem dX3_init_80 : decode cX3_init 80 = .ok (.bipush 8, 2) := dk_16 8 (dk_at dksX3_init_3 9 rfl rfl)
theorem dX3_init_82 : decode cX3_init 82 = .ok (.newarray .int, 2) := dk_188_10 (dk_at dksX3_init_3 11 rfl rfl)
theorem dX3_init_84 : decode cX3_init 84 = .ok (.putfield 42, 3) := dk_181 0 42 (dk_at dksX3_init_3 13 rfl rfl)
theorem dX3_init_87 : decode cX3_init 87 = .ok (.aload_n 0, 1) := dk_42 (dk_at dksX3_init_3 16 rfl rfl)
theorem dX3_init_88 : decode cX3_init 88 = .ok (.bipush 8, 2) := dk_16 8 (dk_at dksX3_init_3 17 rfl rfl)
theorem dX3_init_90 : decode cX3_init 90 = .ok (.newarray .int, 2) := dk_188_10 (dk_at dksX3_init_3 19 rfl rfl)
theorem dX3_init_92 : decode cX3_init 92 = .ok (.putfield 45, 3) := dk_181 0 45 (dk_at dksX3_init_3 21 rfl rfl)
theorem dX3_init_95 : decode cX3_init 95 = .ok (.aload_n 0, 1) := dk_42 (dk_at dksX3_init_4 0 rfl rfl)
theorem dX3_init_96 : decode cX3_init 96 = .ok (.bipush 8, 2) := dk_16 8 (dk_at dksX3_init_4 1 rfl rfl)
theorem dX3_init_98 : decode cX3_init 98 = .ok (.newarray .int, 2) := dk_188_10 (dk_at dksX3_init_4 3 rfl rfl)
theorem dX3_init_100 : decode cX3_init 100 = .ok (.putfield 48, 3) := dk_181 0 48 (dk_at dksX3_init_4 5 rfl rfl)
theorem dX3_init_103 : decode cX3_init 103 = .ok (.aload_n 0, 1) := dk_42 (dk_at dksX3_init_4 8 rfl rfl)
theorem dX3_init_104 : decode cX3_init 104 = .ok (.bipush 12, 2) := dk_16 12 (dk_at dksX3_init_4 9 rfl rfl)
theorem dX3_init_106 : decode cX3_init 106 = .ok (.newarray .int, 2) := dk_188_10 (dk_at dksX3_init_4 11 rfl rfl)
theorem dX3_init_108 : decode cX3_init 108 = .ok (.putfield 51, 3) := dk_181 0 51 (dk_at dksX3_init_4 13 rfl rfl)
theorem dX3_init_111 : decode cX3_init 111 = .ok (.aload_n 0, 1) := dk_42 (dk_at dksX3_init_4 16 rfl rfl)
theorem dX3_init_112 : decode cX3_init 112 = .ok (.bipush 12, 2) := dk_16 12 (dk_at dksX3_init_4 17 rfl rfl)
theorem dX3_init_114 : decode cX3_init 114 = .ok (.newarray .int, 2) := dk_188_10 (dk_at dksX3_init_4 19 rfl rfl)
theorem dX3_init_116 : decode cX3_init 116 = .ok (.putfield 54, 3) := dk_181 0 54 (dk_at dksX3_init_4 21 rfl rfl)
theorem dX3_init_119 : decode cX3_init 119 = .ok (.aload_n 0, 1) := dk_42 (dk_at dksX3_init_5 0 rfl rfl)
theorem dX3_init_120 : decode cX3_init 120 = .ok (.bipush 12, 2) := dk_16 12 (dk_at dksX3_init_5 1 rfl rfl)
theorem dX3_init_122 : decode cX3_init 122 = .ok (.newarray .int, 2) := dk_188_10 (dk_at dksX3_init_5 3 rfl rfl)
theorem dX3_init_124 : decode cX3_init 124 = .ok (.putfield 57, 3) := dk_181 0 57 (dk_at dksX3_init_5 5 rfl rfl)
theorem dX3_init_127 : decode cX3_init 127 = .ok (.aload_n 0, 1) := dk_42 (dk_at dksX3_init_5 8 rfl rfl)
theorem dX3_init_128 : decode cX3_init 128 = .ok (.sipush 288, 3) := dk_17 1 32 (dk_at dksX3_init_5 9 rfl rfl)
theorem dX3_init_131 : decode cX3_init 131 = .ok (.newarray .int, 2) := dk_188_10 (dk_at dksX3_init_5 12 rfl rfl)
theorem dX3_init_133 : decode cX3_init 133 = .ok (.putfield 60, 3) := dk_181 0 60 (dk_at dksX3_init_5 14 rfl rfl)
theorem dX3_init_136 : decode cX3_init 136 = .ok (.aload_n 0, 1) := dk_42 (dk_at dksX3_init_5 17 rfl rfl)
theorem dX3_init_137 : decode cX3_init 137 = .ok (.iconst (-1), 1) := dk_2 (dk_at dksX3_init_5 18 rfl rfl)
theorem dX3_init_138 : decode cX3_init 138 = .ok (.putfield 63, 3) := dk_181 0 63 (dk_at dksX3_init_5 19 rfl rfl)
theorem dX3_init_141 : decode cX3_init 141 = .ok (.aload_n 0, 1) := dk_42 (dk_at dksX3_init_5 22 rfl rfl)
theorem dX3_init_142 : decode cX3_init 142 = .ok (.iconst 1, 1) := dk_4 (dk_at dksX3_init_5 23 rfl rfl)
theorem dX3_init_143 : decode cX3_init 143 = .ok (.putfield 66, 3) := dk_181 0 66 (dk_at dksX3_init_6 0 rfl rfl)
theorem dX3_init_146 : decode cX3_init 146 = .ok (.aload_n 0, 1) := dk_42 (dk_at dksX3_init_6 3 rfl rfl)
theorem dX3_init_147 : decode cX3_init 147 = .ok (.bipush 8, 2) := dk_16 8 (dk_at dksX3_init_6 4 rfl rfl)
theorem dX3_init_149 : decode cX3_init 149 = .ok (.anewarray 69, 3) := dk_189 0 69 (dk_at dksX3_init_6 6 rfl rfl)
theorem dX3_init_152 : decode cX3_init 152 = .ok (.putfield 71, 3) := dk_181 0 71 (dk_at dksX3_init_6 9 rfl rfl)
theorem dX3_init_155 : decode cX3_init 155 = .ok (.aload_n 0, 1) := dk_42 (dk_at dksX3_init_6 12 rfl rfl)
theorem dX3_init_156 : decode cX3_init 156 = .ok (.bipush 8, 2) := dk_16 8 (dk_at dksX3_init_6 13 rfl rfl)
theorem dX3_init_158 : decode cX3_init 158 = .ok (.newarray .int, 2) := dk_188_10 (dk_at dksX3_init_6 15 rfl rfl)
theorem dX3_init_160 : decode cX3_init 160 = .ok (.putfield 75, 3) := dk_181 0 75 (dk_at dksX3_init_6 17 rfl rfl)
theorem dX3_init_163 : decode cX3_init 163 = .ok (.aload_n 0, 1) := dk_42 (dk_at dksX3_init_6 20 rfl rfl)
theorem dX3_init_164 : decode cX3_init 164 = .ok (.bipush 8, 2) := dk_16 8 (dk_at dksX3_init_6 21 rfl rfl)
theorem dX3_init_166 : decode cX3_init 166 = .ok (.newarray .int, 2) := dk_188_10 (dk_at dksX3_init_7 0 rfl rfl)
theorem dX3_init_168 : decode cX3_init 168 = .ok (.putfield 78, 3) := dk_181 0 78 (dk_at dksX3_init_7 2 rfl rfl)
theorem dX3_init_171 : decode cX3_init 171 = .ok (.return_, 1) := dk_177 (dk_at dksX3_init_7 5 rfl rfl)
abbrev cX3_thrown : ByteArray := prog_18_method_2_code
def yX3_thrown : MethodName := ⟨RX3, "thrown", "()I"⟩
theorem dX3_thrown_0 : decode cX3_thrown 0 = .ok (.aload_n 0, 1) := by decide +kernel
theorem dX3_thrown_1 : decode cX3_thrown 1 = .ok (.getfield 81, 3) := by decide +kernel
theorem dX3_thrown_4 : decode cX3_thrown 4 = .ok (.ireturn, 1) := by decide +kernel
abbrev cX3_addCells : ByteArray := prog_18_method_9_code
def yX3_addCells : MethodName := ⟨RX3, "addCells", "(II)I"⟩
def dkwX3_addCells_4 : List UInt8 := [180, 0, 84, 4, 96, 181, 0, 84, 132, 3, 1, 167, 255, 207, 42, 180, 0, 84, 172]
abbrev dktX3_addCells_4 : List UInt8 := dkwX3_addCells_4 ++ []
def dkwX3_addCells_3 : List UInt8 := [180, 0, 19, 42, 180, 0, 84, 28, 79, 42, 180, 0, 16, 42, 180, 0, 84, 16, 100, 79, 42, 89]
abbrev dktX3_addCells_3 : List UInt8 := dkwX3_addCells_3 ++ dktX3_addCells_4
def dkwX3_addCells_2 : List UInt8 := [154, 0, 5, 3, 172, 3, 62, 29, 27, 162, 0, 50, 42, 180, 0, 9, 42, 180, 0, 84, 28, 79, 42]
abbrev dktX3_addCells_2 : List UInt8 := dkwX3_addCells_2 ++ dktX3_addCells_3
def dkwX3_addCells_1 : List UInt8 := [167, 0, 19, 42, 180, 0, 84, 27, 96, 16, 24, 164, 0, 7, 5, 167, 0, 4, 3, 182, 0, 103]
abbrev dktX3_addCells_1 : List UInt8 := dkwX3_addCells_1 ++ dktX3_addCells_2
def dkwX3_addCells_0 : List UInt8 := [42, 27, 4, 16, 24, 184, 0, 87, 153, 0, 14, 28, 3, 17, 0, 200, 184, 0, 87, 154, 0, 7, 4]
abbrev dktX3_addCells_0 : List UInt8 := dkwX3_addCells_0 ++ dktX3_addCells_1
theorem dksX3_addCells_0 : cX3_addCells.data.toList.drop 0 = dktX3_addCells_0 := by decide +kernel
theorem dksX3_addCells_1 : cX3_addCells.data.toList.drop 23 = dktX3_addCells_1 := dk_seg dksX3_addCells_0 23 rfl rfl
theorem dksX3_addCells_2 : cX3_addCells.data.toList.drop 45 = dktX3_addCells_2 := dk_seg dksX3_addCells_1 22 rfl rfl
theorem dksX3_addCells_3 : cX3_addCells.data.toList.drop 68 = dktX3_addCells_3 := dk_seg dksX3_addCells_2 23 rfl rfl
theorem dksX3_addCells_4 : cX3_addCells.data.toList.drop 90 = dktX3_addCells_4 := dk_seg dksX3_addCells_3 22 rfl rfl
theorem dX3_addCells_0 : decode cX3_addCells 0 = .ok (.aload_n 0, 1) := dk_42 (dk_at dksX3_addCells_0 0 rfl rfl)
theorem dX3_addCells_1 : decode cX3_addCells 1 = .ok (.iload_n 1, 1) := dk_27 (dk_at dksX3_addCells_0 1 rfl rfl)
theorem dX3_addCells_2 : decode cX3_addCells 2 = .ok (.iconst 1, 1) := dk_4 (dk_at dksX3_addCells_0 2 rfl rfl)
theorem dX3_addCells_3 : decode cX3_addCells 3 = .ok (.bipush 24, 2) := dk_16 24 (dk_at dksX3_addCells_0 3 rfl rfl)
theorem dX3_addCells_5 : decode cX3_addCells 5 = .ok (.invokestatic 87, 3) := dk_184 0 87 (dk_at dksX3_addCells_0 5 rfl rfl)
theorem dX3_addCells_8 : decode cX3_addCells 8 = .ok (.ifCond .eq 14, 3) := dk_153 0 14 (dk_at dksX3_addCells_0 8 rfl rfl)
theorem dX3_addCells_11 : decode cX3_addCells 11 = .ok (.iload_n 2, 1) := dk_28 (dk_at dksX3_addCells_0 11 rfl rfl)
theorem dX3_addCells_12 : decode cX3_addCells 12 = .ok (.iconst 0, 1) := dk_3 (dk_at dksX3_addCells_0 12 rfl rfl)
theorem dX3_addCells_13 : decode cX3_addCells 13 = .ok (.sipush 200, 3) := dk_17 0 200 (dk_at dksX3_addCells_0 13 rfl rfl)
theorem dX3_addCells_16 : decode cX3_addCells 16 = .ok (.invokestatic 87, 3) := dk_184 0 87 (dk_at dksX3_addCells_0 16 rfl rfl)
theorem dX3_addCells_19 : decode cX3_addCells 19 = .ok (.ifCond .ne 7, 3) := dk_154 0 7 (dk_at dksX3_addCells_0 19 rfl rfl)
theorem dX3_addCells_22 : decode cX3_addCells 22 = .ok (.iconst 1, 1) := dk_4 (dk_at dksX3_addCells_0 22 rfl rfl)
theorem dX3_addCells_23 : decode cX3_addCells 23 = .ok (.goto 19, 3) := dk_167 0 19 (dk_at dksX3_addCells_1 0 rfl rfl)
theorem dX3_addCells_26 : decode cX3_addCells 26 = .ok (.aload_n 0, 1) := dk_42 (dk_at dksX3_addCells_1 3 rfl rfl)
theorem dX3_addCells_27 : decode cX3_addCells 27 = .ok (.getfield 84, 3) := dk_180 0 84 (dk_at dksX3_addCells_1 4 rfl rfl)
theorem dX3_addCells_30 : decode cX3_addCells 30 = .ok (.iload_n 1, 1) := dk_27 (dk_at dksX3_addCells_1 7 rfl rfl)
theorem dX3_addCells_31 : decode cX3_addCells 31 = .ok (.iadd, 1) := dk_96 (dk_at dksX3_addCells_1 8 rfl rfl)
theorem dX3_addCells_32 : decode cX3_addCells 32 = .ok (.bipush 24, 2) := dk_16 24 (dk_at dksX3_addCells_1 9 rfl rfl)
theorem dX3_addCells_34 : decode cX3_addCells 34 = .ok (.if_icmp .le 7, 3) := dk_164 0 7 (dk_at dksX3_addCells_1 11 rfl rfl)
theorem dX3_addCells_37 : decode cX3_addCells 37 = .ok (.iconst 2, 1) := dk_5 (dk_at dksX3_addCells_1 14 rfl rfl)
theorem dX3_addCells_38 : decode cX3_addCells 38 = .ok (.goto 4, 3) := dk_167 0 4 (dk_at dksX3_addCells_1 15 rfl rfl)
theorem dX3_addCells_41 : decode cX3_addCells 41 = .ok (.iconst 0, 1) := dk_3 (dk_at dksX3_addCells_1 18 rfl rfl)
theorem dX3_addCells_42 : decode cX3_addCells 42 = .ok (.invokevirtual 103, 3) := dk_182 0 103 (dk_at dksX3_addCells_1 19 rfl rfl)
theorem dX3_addCells_45 : decode cX3_addCells 45 = .ok (.ifCond .ne 5, 3) := dk_154 0 5 (dk_at dksX3_addCells_2 0 rfl rfl)
theorem dX3_addCells_48 : decode cX3_addCells 48 = .ok (.iconst 0, 1) := dk_3 (dk_at dksX3_addCells_2 3 rfl rfl)
theorem dX3_addCells_49 : decode cX3_addCells 49 = .ok (.ireturn, 1) := dk_172 (dk_at dksX3_addCells_2 4 rfl rfl)
theorem dX3_addCells_50 : decode cX3_addCells 50 = .ok (.iconst 0, 1) := dk_3 (dk_at dksX3_addCells_2 5 rfl rfl)
theorem dX3_addCells_51 : decode cX3_addCells 51 = .ok (.istore_n 3, 1) := dk_62 (dk_at dksX3_addCells_2 6 rfl rfl)
theorem dX3_addCells_52 : decode cX3_addCells 52 = .ok (.iload_n 3, 1) := dk_29 (dk_at dksX3_addCells_2 7 rfl rfl)
theorem dX3_addCells_53 : decode cX3_addCells 53 = .ok (.iload_n 1, 1) := dk_27 (dk_at dksX3_addCells_2 8 rfl rfl)
theorem dX3_addCells_54 : decode cX3_addCells 54 = .ok (.if_icmp .ge 50, 3) := dk_162 0 50 (dk_at dksX3_addCells_2 9 rfl rfl)
theorem dX3_addCells_57 : decode cX3_addCells 57 = .ok (.aload_n 0, 1) := dk_42 (dk_at dksX3_addCells_2 12 rfl rfl)
theorem dX3_addCells_58 : decode cX3_addCells 58 = .ok (.getfield 9, 3) := dk_180 0 9 (dk_at dksX3_addCells_2 13 rfl rfl)
theorem dX3_addCells_61 : decode cX3_addCells 61 = .ok (.aload_n 0, 1) := dk_42 (dk_at dksX3_addCells_2 16 rfl rfl)
theorem dX3_addCells_62 : decode cX3_addCells 62 = .ok (.getfield 84, 3) := dk_180 0 84 (dk_at dksX3_addCells_2 17 rfl rfl)
theorem dX3_addCells_65 : decode cX3_addCells 65 = .ok (.iload_n 2, 1) := dk_28 (dk_at dksX3_addCells_2 20 rfl rfl)
theorem dX3_addCells_66 : decode cX3_addCells 66 = .ok (.iastore, 1) := dk_79 (dk_at dksX3_addCells_2 21 rfl rfl)
theorem dX3_addCells_67 : decode cX3_addCells 67 = .ok (.aload_n 0, 1) := dk_42 (dk_at dksX3_addCells_2 22 rfl rfl)
theorem dX3_addCells_68 : decode cX3_addCells 68 = .ok (.getfield 19, 3) := dk_180 0 19 (dk_at dksX3_addCells_3 0 rfl rfl)
theorem dX3_addCells_71 : decode cX3_addCells 71 = .ok (.aload_n 0, 1) := dk_42 (dk_at dksX3_addCells_3 3 rfl rfl)
theorem dX3_addCells_72 : decode cX3_addCells 72 = .ok (.getfield 84, 3) := dk_180 0 84 (dk_at dksX3_addCells_3 4 rfl rfl)
theorem dX3_addCells_75 : decode cX3_addCells 75 = .ok (.iload_n 2, 1) := dk_28 (dk_at dksX3_addCells_3 7 rfl rfl)
theorem dX3_addCells_76 : decode cX3_addCells 76 = .ok (.iastore, 1) := dk_79 (dk_at dksX3_addCells_3 8 rfl rfl)
theorem dX3_addCells_77 : decode cX3_addCells 77 = .ok (.aload_n 0, 1) := dk_42 (dk_at dksX3_addCells_3 9 rfl rfl)
theorem dX3_addCells_78 : decode cX3_addCells 78 = .ok (.getfield 16, 3) := dk_180 0 16 (dk_at dksX3_addCells_3 10 rfl rfl)
theorem dX3_addCells_81 : decode cX3_addCells 81 = .ok (.aload_n 0, 1) := dk_42 (dk_at dksX3_addCells_3 13 rfl rfl)
theorem dX3_addCells_82 : decode cX3_addCells 82 = .ok (.getfield 84, 3) := dk_180 0 84 (dk_at dksX3_addCells_3 14 rfl rfl)
theorem dX3_addCells_85 : decode cX3_addCells 85 = .ok (.bipush 100, 2) := dk_16 100 (dk_at dksX3_addCells_3 17 rfl rfl)
theorem dX3_addCells_87 : decode cX3_addCells 87 = .ok (.iastore, 1) := dk_79 (dk_at dksX3_addCells_3 19 rfl rfl)
theorem dX3_addCells_88 : decode cX3_addCells 88 = .ok (.aload_n 0, 1) := dk_42 (dk_at dksX3_addCells_3 20 rfl rfl)
theorem dX3_addCells_89 : decode cX3_addCells 89 = .ok (.dup, 1) := dk_89 (dk_at dksX3_addCells_3 21 rfl rfl)
theorem dX3_addCells_90 : decode cX3_addCells 90 = .ok (.getfield 84, 3) := dk_180 0 84 (dk_at dksX3_addCells_4 0 rfl rfl)
theorem dX3_addCells_93 : decode cX3_addCells 93 = .ok (.iconst 1, 1) := dk_4 (dk_at dksX3_addCells_4 3 rfl rfl)
theorem dX3_addCells_94 : decode cX3_addCells 94 = .ok (.iadd, 1) := dk_96 (dk_at dksX3_addCells_4 4 rfl rfl)
theorem dX3_addCells_95 : decode cX3_addCells 95 = .ok (.putfield 84, 3) := dk_181 0 84 (dk_at dksX3_addCells_4 5 rfl rfl)
theorem dX3_addCells_98 : decode cX3_addCells 98 = .ok (.iinc 3 1, 3) := dk_132 3 1 (dk_at dksX3_addCells_4 8 rfl rfl)
theorem dX3_addCells_101 : decode cX3_addCells 101 = .ok (.goto (-49), 3) := dk_167 255 207 (dk_at dksX3_addCells_4 11 rfl rfl)
theorem dX3_addCells_104 : decode cX3_addCells 104 = .ok (.aload_n 0, 1) := dk_42 (dk_at dksX3_addCells_4 14 rfl rfl)
theorem dX3_addCells_105 : decode cX3_addCells 105 = .ok (.getfield 84, 3) := dk_180 0 84 (dk_at dksX3_addCells_4 15 rfl rfl)
theorem dX3_addCells_108 : decode cX3_addCells 108 = .ok (.ireturn, 1) := dk_172 (dk_at dksX3_addCells_4 18 rfl rfl)
abbrev cX3_in : ByteArray := prog_18_method_3_code
def yX3_in : MethodName := ⟨RX3, "in", "(III)Z"⟩
def dkwX3_in_0 : List UInt8 := [26, 27, 161, 0, 12, 26, 28, 163, 0, 7, 4, 167, 0, 4, 3, 172]
abbrev dktX3_in_0 : List UInt8 := dkwX3_in_0 ++ []
theorem dksX3_in_0 : cX3_in.data.toList.drop 0 = dktX3_in_0 := by decide +kernel
theorem dX3_in_0 : decode cX3_in 0 = .ok (.iload_n 0, 1) := dk_26 (dk_at dksX3_in_0 0 rfl rfl)
theorem dX3_in_1 : decode cX3_in 1 = .ok (.iload_n 1, 1) := dk_27 (dk_at dksX3_in_0 1 rfl rfl)
theorem dX3_in_2 : decode cX3_in 2 = .ok (.if_icmp .lt 12, 3) := dk_161 0 12 (dk_at dksX3_in_0 2 rfl rfl)
theorem dX3_in_5 : decode cX3_in 5 = .ok (.iload_n 0, 1) := dk_26 (dk_at dksX3_in_0 5 rfl rfl)
theorem dX3_in_6 : decode cX3_in 6 = .ok (.iload_n 2, 1) := dk_28 (dk_at dksX3_in_0 6 rfl rfl)
theorem dX3_in_7 : decode cX3_in 7 = .ok (.if_icmp .gt 7, 3) := dk_163 0 7 (dk_at dksX3_in_0 7 rfl rfl)
theorem dX3_in_10 : decode cX3_in 10 = .ok (.iconst 1, 1) := dk_4 (dk_at dksX3_in_0 10 rfl rfl)
theorem dX3_in_11 : decode cX3_in 11 = .ok (.goto 4, 3) := dk_167 0 4 (dk_at dksX3_in_0 11 rfl rfl)
theorem dX3_in_14 : decode cX3_in 14 = .ok (.iconst 0, 1) := dk_3 (dk_at dksX3_in_0 14 rfl rfl)
theorem dX3_in_15 : decode cX3_in 15 = .ok (.ireturn, 1) := dk_172 (dk_at dksX3_in_0 15 rfl rfl)
abbrev cX3_goesOn : ByteArray := prog_18_method_4_code
def yX3_goesOn : MethodName := ⟨RX3, "goesOn", "(I)Z"⟩
def dkwX3_goesOn_0 : List UInt8 := [42, 27, 181, 0, 81, 27, 154, 0, 7, 4, 167, 0, 4, 3, 172]
abbrev dktX3_goesOn_0 : List UInt8 := dkwX3_goesOn_0 ++ []
theorem dksX3_goesOn_0 : cX3_goesOn.data.toList.drop 0 = dktX3_goesOn_0 := by decide +kernel
theorem dX3_goesOn_0 : decode cX3_goesOn 0 = .ok (.aload_n 0, 1) := dk_42 (dk_at dksX3_goesOn_0 0 rfl rfl)
theorem dX3_goesOn_1 : decode cX3_goesOn 1 = .ok (.iload_n 1, 1) := dk_27 (dk_at dksX3_goesOn_0 1 rfl rfl)
theorem dX3_goesOn_2 : decode cX3_goesOn 2 = .ok (.putfield 81, 3) := dk_181 0 81 (dk_at dksX3_goesOn_0 2 rfl rfl)
theorem dX3_goesOn_5 : decode cX3_goesOn 5 = .ok (.iload_n 1, 1) := dk_27 (dk_at dksX3_goesOn_0 5 rfl rfl)
theorem dX3_goesOn_6 : decode cX3_goesOn 6 = .ok (.ifCond .ne 7, 3) := dk_154 0 7 (dk_at dksX3_goesOn_0 6 rfl rfl)
theorem dX3_goesOn_9 : decode cX3_goesOn 9 = .ok (.iconst 1, 1) := dk_4 (dk_at dksX3_goesOn_0 9 rfl rfl)
theorem dX3_goesOn_10 : decode cX3_goesOn 10 = .ok (.goto 4, 3) := dk_167 0 4 (dk_at dksX3_goesOn_0 10 rfl rfl)
theorem dX3_goesOn_13 : decode cX3_goesOn 13 = .ok (.iconst 0, 1) := dk_3 (dk_at dksX3_goesOn_0 13 rfl rfl)
theorem dX3_goesOn_14 : decode cX3_goesOn 14 = .ok (.ireturn, 1) := dk_172 (dk_at dksX3_goesOn_0 14 rfl rfl)
abbrev cX3_setLimit : ByteArray := prog_18_method_10_code
def yX3_setLimit : MethodName := ⟨RX3, "setLimit", "(II)I"⟩
def dkwX3_setLimit_2 : List UInt8 := [27, 28, 79, 29, 172]
abbrev dktX3_setLimit_2 : List UInt8 := dkwX3_setLimit_2 ++ []
def dkwX3_setLimit_1 : List UInt8 := [5, 167, 0, 4, 3, 182, 0, 103, 154, 0, 5, 3, 172, 42, 180, 0, 16, 27, 46, 62, 42, 180, 0, 16]
abbrev dktX3_setLimit_1 : List UInt8 := dkwX3_setLimit_1 ++ dktX3_setLimit_2
def dkwX3_setLimit_0 : List UInt8 := [42, 42, 27, 182, 0, 107, 154, 0, 7, 4, 167, 0, 19, 28, 3, 17, 1, 44, 184, 0, 87, 154, 0, 7]
abbrev dktX3_setLimit_0 : List UInt8 := dkwX3_setLimit_0 ++ dktX3_setLimit_1
theorem dksX3_setLimit_0 : cX3_setLimit.data.toList.drop 0 = dktX3_setLimit_0 := by decide +kernel
theorem dksX3_setLimit_1 : cX3_setLimit.data.toList.drop 24 = dktX3_setLimit_1 := dk_seg dksX3_setLimit_0 24 rfl rfl
theorem dksX3_setLimit_2 : cX3_setLimit.data.toList.drop 48 = dktX3_setLimit_2 := dk_seg dksX3_setLimit_1 24 rfl rfl
theorem dX3_setLimit_0 : decode cX3_setLimit 0 = .ok (.aload_n 0, 1) := dk_42 (dk_at dksX3_setLimit_0 0 rfl rfl)
theorem dX3_setLimit_1 : decode cX3_setLimit 1 = .ok (.aload_n 0, 1) := dk_42 (dk_at dksX3_setLimit_0 1 rfl rfl)
theorem dX3_setLimit_2 : decode cX3_setLimit 2 = .ok (.iload_n 1, 1) := dk_27 (dk_at dksX3_setLimit_0 2 rfl rfl)
theorem dX3_setLimit_3 : decode cX3_setLimit 3 = .ok (.invokevirtual 107, 3) := dk_182 0 107 (dk_at dksX3_setLimit_0 3 rfl rfl)
theorem dX3_setLimit_6 : decode cX3_setLimit 6 = .ok (.ifCond .ne 7, 3) := dk_154 0 7 (dk_at dksX3_setLimit_0 6 rfl rfl)
theorem dX3_setLimit_9 : decode cX3_setLimit 9 = .ok (.iconst 1, 1) := dk_4 (dk_at dksX3_setLimit_0 9 rfl rfl)
theorem dX3_setLimit_10 : decode cX3_setLimit 10 = .ok (.goto 19, 3) := dk_167 0 19 (dk_at dksX3_setLimit_0 10 rfl rfl)
theorem dX3_setLimit_13 : decode cX3_setLimit 13 = .ok (.iload_n 2, 1) := dk_28 (dk_at dksX3_setLimit_0 13 rfl rfl)
theorem dX3_setLimit_14 : decode cX3_setLimit 14 = .ok (.iconst 0, 1) := dk_3 (dk_at dksX3_setLimit_0 14 rfl rfl)
theorem dX3_setLimit_15 : decode cX3_setLimit 15 = .ok (.sipush 300, 3) := dk_17 1 44 (dk_at dksX3_setLimit_0 15 rfl rfl)
theorem dX3_setLimit_18 : decode cX3_setLimit 18 = .ok (.invokestatic 87, 3) := dk_184 0 87 (dk_at dksX3_setLimit_0 18 rfl rfl)
theorem dX3_setLimit_21 : decode cX3_setLimit 21 = .ok (.ifCond .ne 7, 3) := dk_154 0 7 (dk_at dksX3_setLimit_0 21 rfl rfl)
theorem dX3_setLimit_24 : decode cX3_setLimit 24 = .ok (.iconst 2, 1) := dk_5 (dk_at dksX3_setLimit_1 0 rfl rfl)
theorem dX3_setLimit_25 : decode cX3_setLimit 25 = .ok (.goto 4, 3) := dk_167 0 4 (dk_at dksX3_setLimit_1 1 rfl rfl)
theorem dX3_setLimit_28 : decode cX3_setLimit 28 = .ok (.iconst 0, 1) := dk_3 (dk_at dksX3_setLimit_1 4 rfl rfl)
theorem dX3_setLimit_29 : decode cX3_setLimit 29 = .ok (.invokevirtual 103, 3) := dk_182 0 103 (dk_at dksX3_setLimit_1 5 rfl rfl)
theorem dX3_setLimit_32 : decode cX3_setLimit 32 = .ok (.ifCond .ne 5, 3) := dk_154 0 5 (dk_at dksX3_setLimit_1 8 rfl rfl)
theorem dX3_setLimit_35 : decode cX3_setLimit 35 = .ok (.iconst 0, 1) := dk_3 (dk_at dksX3_setLimit_1 11 rfl rfl)
theorem dX3_setLimit_36 : decode cX3_setLimit 36 = .ok (.ireturn, 1) := dk_172 (dk_at dksX3_setLimit_1 12 rfl rfl)
theorem dX3_setLimit_37 : decode cX3_setLimit 37 = .ok (.aload_n 0, 1) := dk_42 (dk_at dksX3_setLimit_1 13 rfl rfl)
theorem dX3_setLimit_38 : decode cX3_setLimit 38 = .ok (.getfield 16, 3) := dk_180 0 16 (dk_at dksX3_setLimit_1 14 rfl rfl)
theorem dX3_setLimit_41 : decode cX3_setLimit 41 = .ok (.iload_n 1, 1) := dk_27 (dk_at dksX3_setLimit_1 17 rfl rfl)
theorem dX3_setLimit_42 : decode cX3_setLimit 42 = .ok (.iaload, 1) := dk_46 (dk_at dksX3_setLimit_1 18 rfl rfl)
theorem dX3_setLimit_43 : decode cX3_setLimit 43 = .ok (.istore_n 3, 1) := dk_62 (dk_at dksX3_setLimit_1 19 rfl rfl)
theorem dX3_setLimit_44 : decode cX3_setLimit 44 = .ok (.aload_n 0, 1) := dk_42 (dk_at dksX3_setLimit_1 20 rfl rfl)
theorem dX3_setLimit_45 : decode cX3_setLimit 45 = .ok (.getfield 16, 3) := dk_180 0 16 (dk_at dksX3_setLimit_1 21 rfl rfl)
theorem dX3_setLimit_48 : decode cX3_setLimit 48 = .ok (.iload_n 1, 1) := dk_27 (dk_at dksX3_setLimit_2 0 rfl rfl)
theorem dX3_setLimit_49 : decode cX3_setLimit 49 = .ok (.iload_n 2, 1) := dk_28 (dk_at dksX3_setLimit_2 1 rfl rfl)
theorem dX3_setLimit_50 : decode cX3_setLimit 50 = .ok (.iastore, 1) := dk_79 (dk_at dksX3_setLimit_2 2 rfl rfl)
theorem dX3_setLimit_51 : decode cX3_setLimit 51 = .ok (.iload_n 3, 1) := dk_29 (dk_at dksX3_setLimit_2 3 rfl rfl)
theorem dX3_setLimit_52 : decode cX3_setLimit 52 = .ok (.ireturn, 1) := dk_172 (dk_at dksX3_setLimit_2 4 rfl rfl)
abbrev cX3_isCell : ByteArray := prog_18_method_5_code
def yX3_isCell : MethodName := ⟨RX3, "isCell", "(I)Z"⟩
def dkwX3_isCell_0 : List UInt8 := [27, 3, 42, 180, 0, 84, 4, 100, 184, 0, 87, 172]
abbrev dktX3_isCell_0 : List UInt8 := dkwX3_isCell_0 ++ []
theorem dksX3_isCell_0 : cX3_isCell.data.toList.drop 0 = dktX3_isCell_0 := by decide +kernel
theorem dX3_isCell_0 : decode cX3_isCell 0 = .ok (.iload_n 1, 1) := dk_27 (dk_at dksX3_isCell_0 0 rfl rfl)
theorem dX3_isCell_1 : decode cX3_isCell 1 = .ok (.iconst 0, 1) := dk_3 (dk_at dksX3_isCell_0 1 rfl rfl)
theorem dX3_isCell_2 : decode cX3_isCell 2 = .ok (.aload_n 0, 1) := dk_42 (dk_at dksX3_isCell_0 2 rfl rfl)
theorem dX3_isCell_3 : decode cX3_isCell 3 = .ok (.getfield 84, 3) := dk_180 0 84 (dk_at dksX3_isCell_0 3 rfl rfl)
theorem dX3_isCell_6 : decode cX3_isCell 6 = .ok (.iconst 1, 1) := dk_4 (dk_at dksX3_isCell_0 6 rfl rfl)
theorem dX3_isCell_7 : decode cX3_isCell 7 = .ok (.isub, 1) := dk_100 (dk_at dksX3_isCell_0 7 rfl rfl)
theorem dX3_isCell_8 : decode cX3_isCell 8 = .ok (.invokestatic 87, 3) := dk_184 0 87 (dk_at dksX3_isCell_0 8 rfl rfl)
theorem dX3_isCell_11 : decode cX3_isCell 11 = .ok (.ireturn, 1) := dk_172 (dk_at dksX3_isCell_0 11 rfl rfl)
abbrev cX3_setSlope : ByteArray := prog_18_method_11_code
def yX3_setSlope : MethodName := ⟨RX3, "setSlope", "(I)I"⟩
def dkwX3_setSlope_1 : List UInt8 := [182, 0, 103, 153, 0, 7, 27, 167, 0, 7, 42, 180, 0, 26, 181, 0, 26, 28, 172]
abbrev dktX3_setSlope_1 : List UInt8 := dkwX3_setSlope_1 ++ []
def dkwX3_setSlope_0 : List UInt8 := [42, 180, 0, 26, 61, 42, 42, 27, 4, 16, 50, 184, 0, 87, 153, 0, 7, 3, 167, 0, 4, 4]
abbrev dktX3_setSlope_0 : List UInt8 := dkwX3_setSlope_0 ++ dktX3_setSlope_1
theorem dksX3_setSlope_0 : cX3_setSlope.data.toList.drop 0 = dktX3_setSlope_0 := by decide +kernel
theorem dksX3_setSlope_1 : cX3_setSlope.data.toList.drop 22 = dktX3_setSlope_1 := dk_seg dksX3_setSlope_0 22 rfl rfl
theorem dX3_setSlope_0 : decode cX3_setSlope 0 = .ok (.aload_n 0, 1) := dk_42 (dk_at dksX3_setSlope_0 0 rfl rfl)
theorem dX3_setSlope_1 : decode cX3_setSlope 1 = .ok (.getfield 26, 3) := dk_180 0 26 (dk_at dksX3_setSlope_0 1 rfl rfl)
theorem dX3_setSlope_4 : decode cX3_setSlope 4 = .ok (.istore_n 2, 1) := dk_61 (dk_at dksX3_setSlope_0 4 rfl rfl)
theorem dX3_setSlope_5 : decode cX3_setSlope 5 = .ok (.aload_n 0, 1) := dk_42 (dk_at dksX3_setSlope_0 5 rfl rfl)
theorem dX3_setSlope_6 : decode cX3_setSlope 6 = .ok (.aload_n 0, 1) := dk_42 (dk_at dksX3_setSlope_0 6 rfl rfl)
theorem dX3_setSlope_7 : decode cX3_setSlope 7 = .ok (.iload_n 1, 1) := dk_27 (dk_at dksX3_setSlope_0 7 rfl rfl)
theorem dX3_setSlope_8 : decode cX3_setSlope 8 = .ok (.iconst 1, 1) := dk_4 (dk_at dksX3_setSlope_0 8 rfl rfl)
theorem dX3_setSlope_9 : decode cX3_setSlope 9 = .ok (.bipush 50, 2) := dk_16 50 (dk_at dksX3_setSlope_0 9 rfl rfl)
theorem dX3_setSlope_11 : decode cX3_setSlope 11 = .ok (.invokestatic 87, 3) := dk_184 0 87 (dk_at dksX3_setSlope_0 11 rfl rfl)
theorem dX3_setSlope_14 : decode cX3_setSlope 14 = .ok (.ifCond .eq 7, 3) := dk_153 0 7 (dk_at dksX3_setSlope_0 14 rfl rfl)
theorem dX3_setSlope_17 : decode cX3_setSlope 17 = .ok (.iconst 0, 1) := dk_3 (dk_at dksX3_setSlope_0 17 rfl rfl)
theorem dX3_setSlope_18 : decode cX3_setSlope 18 = .ok (.goto 4, 3) := dk_167 0 4 (dk_at dksX3_setSlope_0 18 rfl rfl)
theorem dX3_setSlope_21 : decode cX3_setSlope 21 = .ok (.iconst 1, 1) := dk_4 (dk_at dksX3_setSlope_0 21 rfl rfl)
theorem dX3_setSlope_22 : decode cX3_setSlope 22 = .ok (.invokevirtual 103, 3) := dk_182 0 103 (dk_at dksX3_setSlope_1 0 rfl rfl)
theorem dX3_setSlope_25 : decode cX3_setSlope 25 = .ok (.ifCond .eq 7, 3) := dk_153 0 7 (dk_at dksX3_setSlope_1 3 rfl rfl)
theorem dX3_setSlope_28 : decode cX3_setSlope 28 = .ok (.iload_n 1, 1) := dk_27 (dk_at dksX3_setSlope_1 6 rfl rfl)
theorem dX3_setSlope_29 : decode cX3_setSlope 29 = .ok (.goto 7, 3) := dk_167 0 7 (dk_at dksX3_setSlope_1 7 rfl rfl)
theorem dX3_setSlope_32 : decode cX3_setSlope 32 = .ok (.aload_n 0, 1) := dk_42 (dk_at dksX3_setSlope_1 10 rfl rfl)
theorem dX3_setSlope_33 : decode cX3_setSlope 33 = .ok (.getfield 26, 3) := dk_180 0 26 (dk_at dksX3_setSlope_1 11 rfl rfl)
theorem dX3_setSlope_36 : decode cX3_setSlope 36 = .ok (.putfield 26, 3) := dk_181 0 26 (dk_at dksX3_setSlope_1 14 rfl rfl)
theorem dX3_setSlope_39 : decode cX3_setSlope 39 = .ok (.iload_n 2, 1) := dk_28 (dk_at dksX3_setSlope_1 17 rfl rfl)
theorem dX3_setSlope_40 : decode cX3_setSlope 40 = .ok (.ireturn, 1) := dk_172 (dk_at dksX3_setSlope_1 18 rfl rfl)
abbrev cX3_depth : ByteArray := prog_18_method_12_code
def yX3_depth : MethodName := ⟨RX3, "depth", "(I)I"⟩
def dkwX3_depth_1 : List UInt8 := [27, 46, 167, 0, 4, 3, 172]
abbrev dktX3_depth_1 : List UInt8 := dkwX3_depth_1 ++ []
def dkwX3_depth_0 : List UInt8 := [42, 42, 27, 182, 0, 107, 153, 0, 7, 3, 167, 0, 4, 4, 182, 0, 103, 153, 0, 12, 42, 180, 0, 9]
abbrev dktX3_depth_0 : List UInt8 := dkwX3_depth_0 ++ dktX3_depth_1
theorem dksX3_depth_0 : cX3_depth.data.toList.drop 0 = dktX3_depth_0 := by decide +kernel
theorem dksX3_depth_1 : cX3_depth.data.toList.drop 24 = dktX3_depth_1 := dk_seg dksX3_depth_0 24 rfl rfl
theorem dX3_depth_0 : decode cX3_depth 0 = .ok (.aload_n 0, 1) := dk_42 (dk_at dksX3_depth_0 0 rfl rfl)
theorem dX3_depth_1 : decode cX3_depth 1 = .ok (.aload_n 0, 1) := dk_42 (dk_at dksX3_depth_0 1 rfl rfl)
theorem dX3_depth_2 : decode cX3_depth 2 = .ok (.iload_n 1, 1) := dk_27 (dk_at dksX3_depth_0 2 rfl rfl)
theorem dX3_depth_3 : decode cX3_depth 3 = .ok (.invokevirtual 107, 3) := dk_182 0 107 (dk_at dksX3_depth_0 3 rfl rfl)
theorem dX3_depth_6 : decode cX3_depth 6 = .ok (.ifCond .eq 7, 3) := dk_153 0 7 (dk_at dksX3_depth_0 6 rfl rfl)
theorem dX3_depth_9 : decode cX3_depth 9 = .ok (.iconst 0, 1) := dk_3 (dk_at dksX3_depth_0 9 rfl rfl)
theorem dX3_depth_10 : decode cX3_depth 10 = .ok (.goto 4, 3) := dk_167 0 4 (dk_at dksX3_depth_0 10 rfl rfl)
theorem dX3_depth_13 : decode cX3_depth 13 = .ok (.iconst 1, 1) := dk_4 (dk_at dksX3_depth_0 13 rfl rfl)
theorem dX3_depth_14 : decode cX3_depth 14 = .ok (.invokevirtual 103, 3) := dk_182 0 103 (dk_at dksX3_depth_0 14 rfl rfl)
theorem dX3_depth_17 : decode cX3_depth 17 = .ok (.ifCond .eq 12, 3) := dk_153 0 12 (dk_at dksX3_depth_0 17 rfl rfl)
theorem dX3_depth_20 : decode cX3_depth 20 = .ok (.aload_n 0, 1) := dk_42 (dk_at dksX3_depth_0 20 rfl rfl)
theorem dX3_depth_21 : decode cX3_depth 21 = .ok (.getfield 9, 3) := dk_180 0 9 (dk_at dksX3_depth_0 21 rfl rfl)
theorem dX3_depth_24 : decode cX3_depth 24 = .ok (.iload_n 1, 1) := dk_27 (dk_at dksX3_depth_1 0 rfl rfl)
theorem dX3_depth_25 : decode cX3_depth 25 = .ok (.iaload, 1) := dk_46 (dk_at dksX3_depth_1 1 rfl rfl)
theorem dX3_depth_26 : decode cX3_depth 26 = .ok (.goto 4, 3) := dk_167 0 4 (dk_at dksX3_depth_1 2 rfl rfl)
theorem dX3_depth_29 : decode cX3_depth 29 = .ok (.iconst 0, 1) := dk_3 (dk_at dksX3_depth_1 5 rfl rfl)
theorem dX3_depth_30 : decode cX3_depth 30 = .ok (.ireturn, 1) := dk_172 (dk_at dksX3_depth_1 6 rfl rfl)
abbrev cX3_dredge : ByteArray := prog_18_method_13_code
def yX3_dredge : MethodName := ⟨RX3, "dredge", "(II)I"⟩
def dkwX3_dredge_4 : List UInt8 := [180, 0, 113, 28, 96, 181, 0, 113, 42, 178, 0, 116, 27, 182, 0, 120, 42, 180, 0, 9, 27, 46, 172]
abbrev dktX3_dredge_4 : List UInt8 := dkwX3_dredge_4 ++ []
def dkwX3_dredge_3 : List UInt8 := [172, 42, 180, 0, 9, 27, 92, 46, 28, 96, 79, 42, 89, 180, 0, 110, 28, 96, 181, 0, 110, 42, 89]
abbrev dktX3_dredge_3 : List UInt8 := dkwX3_dredge_3 ++ dktX3_dredge_4
def dkwX3_dredge_2 : List UInt8 := [46, 28, 96, 17, 1, 44, 164, 0, 7, 7, 167, 0, 4, 3, 62, 42, 29, 182, 0, 103, 154, 0, 5, 3]
abbrev dktX3_dredge_2 : List UInt8 := dkwX3_dredge_2 ++ dktX3_dredge_3
def dkwX3_dredge_1 : List UInt8 := [167, 0, 38, 42, 180, 0, 110, 28, 96, 17, 0, 200, 164, 0, 7, 6, 167, 0, 22, 42, 180, 0, 9, 27]
abbrev dktX3_dredge_1 : List UInt8 := dkwX3_dredge_1 ++ dktX3_dredge_2
def dkwX3_dredge_0 : List UInt8 := [42, 27, 182, 0, 107, 154, 0, 7, 4, 167, 0, 52, 28, 4, 16, 50, 184, 0, 87, 154, 0, 7, 5]
abbrev dktX3_dredge_0 : List UInt8 := dkwX3_dredge_0 ++ dktX3_dredge_1
theorem dksX3_dredge_0 : cX3_dredge.data.toList.drop 0 = dktX3_dredge_0 := by decide +kernel
theorem dksX3_dredge_1 : cX3_dredge.data.toList.drop 23 = dktX3_dredge_1 := dk_seg dksX3_dredge_0 23 rfl rfl
theorem dksX3_dredge_2 : cX3_dredge.data.toList.drop 47 = dktX3_dredge_2 := dk_seg dksX3_dredge_1 24 rfl rfl
theorem dksX3_dredge_3 : cX3_dredge.data.toList.drop 71 = dktX3_dredge_3 := dk_seg dksX3_dredge_2 24 rfl rfl
theorem dksX3_dredge_4 : cX3_dredge.data.toList.drop 94 = dktX3_dredge_4 := dk_seg dksX3_dredge_3 23 rfl rfl
theorem dX3_dredge_0 : decode cX3_dredge 0 = .ok (.aload_n 0, 1) := dk_42 (dk_at dksX3_dredge_0 0 rfl rfl)
theorem dX3_dredge_1 : decode cX3_dredge 1 = .ok (.iload_n 1, 1) := dk_27 (dk_at dksX3_dredge_0 1 rfl rfl)
theorem dX3_dredge_2 : decode cX3_dredge 2 = .ok (.invokevirtual 107, 3) := dk_182 0 107 (dk_at dksX3_dredge_0 2 rfl rfl)
theorem dX3_dredge_5 : decode cX3_dredge 5 = .ok (.ifCond .ne 7, 3) := dk_154 0 7 (dk_at dksX3_dredge_0 5 rfl rfl)
theorem dX3_dredge_8 : decode cX3_dredge 8 = .ok (.iconst 1, 1) := dk_4 (dk_at dksX3_dredge_0 8 rfl rfl)
theorem dX3_dredge_9 : decode cX3_dredge 9 = .ok (.goto 52, 3) := dk_167 0 52 (dk_at dksX3_dredge_0 9 rfl rfl)
theorem dX3_dredge_12 : decode cX3_dredge 12 = .ok (.iload_n 2, 1) := dk_28 (dk_at dksX3_dredge_0 12 rfl rfl)
theorem dX3_dredge_13 : decode cX3_dredge 13 = .ok (.iconst 1, 1) := dk_4 (dk_at dksX3_dredge_0 13 rfl rfl)
theorem dX3_dredge_14 : decode cX3_dredge 14 = .ok (.bipush 50, 2) := dk_16 50 (dk_at dksX3_dredge_0 14 rfl rfl)
theorem dX3_dredge_16 : decode cX3_dredge 16 = .ok (.invokestatic 87, 3) := dk_184 0 87 (dk_at dksX3_dredge_0 16 rfl rfl)
theorem dX3_dredge_19 : decode cX3_dredge 19 = .ok (.ifCond .ne 7, 3) := dk_154 0 7 (dk_at dksX3_dredge_0 19 rfl rfl)
theorem dX3_dredge_22 : decode cX3_dredge 22 = .ok (.iconst 2, 1) := dk_5 (dk_at dksX3_dredge_0 22 rfl rfl)
theorem dX3_dredge_23 : decode cX3_dredge 23 = .ok (.goto 38, 3) := dk_167 0 38 (dk_at dksX3_dredge_1 0 rfl rfl)
theorem dX3_dredge_26 : decode cX3_dredge 26 = .ok (.aload_n 0, 1) := dk_42 (dk_at dksX3_dredge_1 3 rfl rfl)
theorem dX3_dredge_27 : decode cX3_dredge 27 = .ok (.getfield 110, 3) := dk_180 0 110 (dk_at dksX3_dredge_1 4 rfl rfl)
theorem dX3_dredge_30 : decode cX3_dredge 30 = .ok (.iload_n 2, 1) := dk_28 (dk_at dksX3_dredge_1 7 rfl rfl)
theorem dX3_dredge_31 : decode cX3_dredge 31 = .ok (.iadd, 1) := dk_96 (dk_at dksX3_dredge_1 8 rfl rfl)
theorem dX3_dredge_32 : decode cX3_dredge 32 = .ok (.sipush 200, 3) := dk_17 0 200 (dk_at dksX3_dredge_1 9 rfl rfl)
theorem dX3_dredge_35 : decode cX3_dredge 35 = .ok (.if_icmp .le 7, 3) := dk_164 0 7 (dk_at dksX3_dredge_1 12 rfl rfl)
theorem dX3_dredge_38 : decode cX3_dredge 38 = .ok (.iconst 3, 1) := dk_6 (dk_at dksX3_dredge_1 15 rfl rfl)
theorem dX3_dredge_39 : decode cX3_dredge 39 = .ok (.goto 22, 3) := dk_167 0 22 (dk_at dksX3_dredge_1 16 rfl rfl)
theorem dX3_dredge_42 : decode cX3_dredge 42 = .ok (.aload_n 0, 1) := dk_42 (dk_at dksX3_dredge_1 19 rfl rfl)
theorem dX3_dredge_43 : decode cX3_dredge 43 = .ok (.getfield 9, 3) := dk_180 0 9 (dk_at dksX3_dredge_1 20 rfl rfl)
theorem dX3_dredge_46 : decode cX3_dredge 46 = .ok (.iload_n 1, 1) := dk_27 (dk_at dksX3_dredge_1 23 rfl rfl)
theorem dX3_dredge_47 : decode cX3_dredge 47 = .ok (.iaload, 1) := dk_46 (dk_at dksX3_dredge_2 0 rfl rfl)
theorem dX3_dredge_48 : decode cX3_dredge 48 = .ok (.iload_n 2, 1) := dk_28 (dk_at dksX3_dredge_2 1 rfl rfl)
theorem dX3_dredge_49 : decode cX3_dredge 49 = .ok (.iadd, 1) := dk_96 (dk_at dksX3_dredge_2 2 rfl rfl)
theorem dX3_dredge_50 : decode cX3_dredge 50 = .ok (.sipush 300, 3) := dk_17 1 44 (dk_at dksX3_dredge_2 3 rfl rfl)
theorem dX3_dredge_53 : decode cX3_dredge 53 = .ok (.if_icmp .le 7, 3) := dk_164 0 7 (dk_at dksX3_dredge_2 6 rfl rfl)
theorem dX3_dredge_56 : decode cX3_dredge 56 = .ok (.iconst 4, 1) := dk_7 (dk_at dksX3_dredge_2 9 rfl rfl)
theorem dX3_dredge_57 : decode cX3_dredge 57 = .ok (.goto 4, 3) := dk_167 0 4 (dk_at dksX3_dredge_2 10 rfl rfl)
theorem dX3_dredge_60 : decode cX3_dredge 60 = .ok (.iconst 0, 1) := dk_3 (dk_at dksX3_dredge_2 13 rfl rfl)
theorem dX3_dredge_61 : decode cX3_dredge 61 = .ok (.istore_n 3, 1) := dk_62 (dk_at dksX3_dredge_2 14 rfl rfl)
theorem dX3_dredge_62 : decode cX3_dredge 62 = .ok (.aload_n 0, 1) := dk_42 (dk_at dksX3_dredge_2 15 rfl rfl)
theorem dX3_dredge_63 : decode cX3_dredge 63 = .ok (.iload_n 3, 1) := dk_29 (dk_at dksX3_dredge_2 16 rfl rfl)
theorem dX3_dredge_64 : decode cX3_dredge 64 = .ok (.invokevirtual 103, 3) := dk_182 0 103 (dk_at dksX3_dredge_2 17 rfl rfl)
theorem dX3_dredge_67 : decode cX3_dredge 67 = .ok (.ifCond .ne 5, 3) := dk_154 0 5 (dk_at dksX3_dredge_2 20 rfl rfl)
theorem dX3_dredge_70 : decode cX3_dredge 70 = .ok (.iconst 0, 1) := dk_3 (dk_at dksX3_dredge_2 23 rfl rfl)
theorem dX3_dredge_71 : decode cX3_dredge 71 = .ok (.ireturn, 1) := dk_172 (dk_at dksX3_dredge_3 0 rfl rfl)
theorem dX3_dredge_72 : decode cX3_dredge 72 = .ok (.aload_n 0, 1) := dk_42 (dk_at dksX3_dredge_3 1 rfl rfl)
theorem dX3_dredge_73 : decode cX3_dredge 73 = .ok (.getfield 9, 3) := dk_180 0 9 (dk_at dksX3_dredge_3 2 rfl rfl)
theorem dX3_dredge_76 : decode cX3_dredge 76 = .ok (.iload_n 1, 1) := dk_27 (dk_at dksX3_dredge_3 5 rfl rfl)
theorem dX3_dredge_77 : decode cX3_dredge 77 = .ok (.dup2, 1) := dk_92 (dk_at dksX3_dredge_3 6 rfl rfl)
theorem dX3_dredge_78 : decode cX3_dredge 78 = .ok (.iaload, 1) := dk_46 (dk_at dksX3_dredge_3 7 rfl rfl)
theorem dX3_dredge_79 : decode cX3_dredge 79 = .ok (.iload_n 2, 1) := dk_28 (dk_at dksX3_dredge_3 8 rfl rfl)
theorem dX3_dredge_80 : decode cX3_dredge 80 = .ok (.iadd, 1) := dk_96 (dk_at dksX3_dredge_3 9 rfl rfl)
theorem dX3_dredge_81 : decode cX3_dredge 81 = .ok (.iastore, 1) := dk_79 (dk_at dksX3_dredge_3 10 rfl rfl)
theorem dX3_dredge_82 : decode cX3_dredge 82 = .ok (.aload_n 0, 1) := dk_42 (dk_at dksX3_dredge_3 11 rfl rfl)
theorem dX3_dredge_83 : decode cX3_dredge 83 = .ok (.dup, 1) := dk_89 (dk_at dksX3_dredge_3 12 rfl rfl)
theorem dX3_dredge_84 : decode cX3_dredge 84 = .ok (.getfield 110, 3) := dk_180 0 110 (dk_at dksX3_dredge_3 13 rfl rfl)
theorem dX3_dredge_87 : decode cX3_dredge 87 = .ok (.iload_n 2, 1) := dk_28 (dk_at dksX3_dredge_3 16 rfl rfl)
theorem dX3_dredge_88 : decode cX3_dredge 88 = .ok (.iadd, 1) := dk_96 (dk_at dksX3_dredge_3 17 rfl rfl)
theorem dX3_dredge_89 : decode cX3_dredge 89 = .ok (.putfield 110, 3) := dk_181 0 110 (dk_at dksX3_dredge_3 18 rfl rfl)
theorem dX3_dredge_92 : decode cX3_dredge 92 = .ok (.aload_n 0, 1) := dk_42 (dk_at dksX3_dredge_3 21 rfl rfl)
theorem dX3_dredge_93 : decode cX3_dredge 93 = .ok (.dup, 1) := dk_89 (dk_at dksX3_dredge_3 22 rfl rfl)
theorem dX3_dredge_94 : decode cX3_dredge 94 = .ok (.getfield 113, 3) := dk_180 0 113 (dk_at dksX3_dredge_4 0 rfl rfl)
theorem dX3_dredge_97 : decode cX3_dredge 97 = .ok (.iload_n 2, 1) := dk_28 (dk_at dksX3_dredge_4 3 rfl rfl)
theorem dX3_dredge_98 : decode cX3_dredge 98 = .ok (.iadd, 1) := dk_96 (dk_at dksX3_dredge_4 4 rfl rfl)
theorem dX3_dredge_99 : decode cX3_dredge 99 = .ok (.putfield 113, 3) := dk_181 0 113 (dk_at dksX3_dredge_4 5 rfl rfl)
theorem dX3_dredge_102 : decode cX3_dredge 102 = .ok (.aload_n 0, 1) := dk_42 (dk_at dksX3_dredge_4 8 rfl rfl)
theorem dX3_dredge_103 : decode cX3_dredge 103 = .ok (.getstatic 116, 3) := dk_178 0 116 (dk_at dksX3_dredge_4 9 rfl rfl)
theorem dX3_dredge_106 : decode cX3_dredge 106 = .ok (.iload_n 1, 1) := dk_27 (dk_at dksX3_dredge_4 12 rfl rfl)
theorem dX3_dredge_107 : decode cX3_dredge 107 = .ok (.invokevirtual 120, 3) := dk_182 0 120 (dk_at dksX3_dredge_4 13 rfl rfl)
theorem dX3_dredge_110 : decode cX3_dredge 110 = .ok (.aload_n 0, 1) := dk_42 (dk_at dksX3_dredge_4 16 rfl rfl)
theorem dX3_dredge_111 : decode cX3_dredge 111 = .ok (.getfield 9, 3) := dk_180 0 9 (dk_at dksX3_dredge_4 17 rfl rfl)
theorem dX3_dredge_114 : decode cX3_dredge 114 = .ok (.iload_n 1, 1) := dk_27 (dk_at dksX3_dredge_4 20 rfl rfl)
theorem dX3_dredge_115 : decode cX3_dredge 115 = .ok (.iaload, 1) := dk_46 (dk_at dksX3_dredge_4 21 rfl rfl)
theorem dX3_dredge_116 : decode cX3_dredge 116 = .ok (.ireturn, 1) := dk_172 (dk_at dksX3_dredge_4 22 rfl rfl)
abbrev cX3_notes : ByteArray := prog_18_method_8_code
def yX3_notes : MethodName := ⟨RX3, "notes", "(LDeed;I)V"⟩
def dkwX3_notes_4 : List UInt8 := [162, 0, 7, 4, 167, 0, 4, 3, 96, 181, 0, 100, 177]
abbrev dktX3_notes_4 : List UInt8 := dkwX3_notes_4 ++ []
def dkwX3_notes_3 : List UInt8 := [180, 0, 97, 79, 42, 180, 0, 78, 3, 28, 79, 42, 89, 180, 0, 100, 42, 180, 0, 100, 16, 8]
abbrev dktX3_notes_3 : List UInt8 := dkwX3_notes_3 ++ dktX3_notes_4
def dkwX3_notes_2 : List UInt8 := [100, 46, 79, 132, 3, 255, 167, 255, 207, 42, 180, 0, 71, 3, 43, 83, 42, 180, 0, 75, 3, 42]
abbrev dktX3_notes_2 : List UInt8 := dkwX3_notes_2 ++ dktX3_notes_3
def dkwX3_notes_1 : List UInt8 := [180, 0, 75, 29, 42, 180, 0, 75, 29, 4, 100, 46, 79, 42, 180, 0, 78, 29, 42, 180, 0, 78, 29, 4]
abbrev dktX3_notes_1 : List UInt8 := dkwX3_notes_1 ++ dktX3_notes_2
def dkwX3_notes_0 : List UInt8 := [16, 7, 62, 29, 158, 0, 51, 42, 180, 0, 71, 29, 42, 180, 0, 71, 29, 4, 100, 50, 83, 42]
abbrev dktX3_notes_0 : List UInt8 := dkwX3_notes_0 ++ dktX3_notes_1
theorem dksX3_notes_0 : cX3_notes.data.toList.drop 0 = dktX3_notes_0 := by decide +kernel
theorem dksX3_notes_1 : cX3_notes.data.toList.drop 22 = dktX3_notes_1 := dk_seg dksX3_notes_0 22 rfl rfl
theorem dksX3_notes_2 : cX3_notes.data.toList.drop 46 = dktX3_notes_2 := dk_seg dksX3_notes_1 24 rfl rfl
theorem dksX3_notes_3 : cX3_notes.data.toList.drop 68 = dktX3_notes_3 := dk_seg dksX3_notes_2 22 rfl rfl
theorem dksX3_notes_4 : cX3_notes.data.toList.drop 90 = dktX3_notes_4 := dk_seg dksX3_notes_3 22 rfl rfl
theorem dX3_notes_0 : decode cX3_notes 0 = .ok (.bipush 7, 2) := dk_16 7 (dk_at dksX3_notes_0 0 rfl rfl)
theorem dX3_notes_2 : decode cX3_notes 2 = .ok (.istore_n 3, 1) := dk_62 (dk_at dksX3_notes_0 2 rfl rfl)
theorem dX3_notes_3 : decode cX3_notes 3 = .ok (.iload_n 3, 1) := dk_29 (dk_at dksX3_notes_0 3 rfl rfl)
theorem dX3_notes_4 : decode cX3_notes 4 = .ok (.ifCond .le 51, 3) := dk_158 0 51 (dk_at dksX3_notes_0 4 rfl rfl)
theorem dX3_notes_7 : decode cX3_notes 7 = .ok (.aload_n 0, 1) := dk_42 (dk_at dksX3_notes_0 7 rfl rfl)
theorem dX3_notes_8 : decode cX3_notes 8 = .ok (.getfield 71, 3) := dk_180 0 71 (dk_at dksX3_notes_0 8 rfl rfl)
theorem dX3_notes_11 : decode cX3_notes 11 = .ok (.iload_n 3, 1) := dk_29 (dk_at dksX3_notes_0 11 rfl rfl)
theorem dX3_notes_12 : decode cX3_notes 12 = .ok (.aload_n 0, 1) := dk_42 (dk_at dksX3_notes_0 12 rfl rfl)
theorem dX3_notes_13 : decode cX3_notes 13 = .ok (.getfield 71, 3) := dk_180 0 71 (dk_at dksX3_notes_0 13 rfl rfl)
theorem dX3_notes_16 : decode cX3_notes 16 = .ok (.iload_n 3, 1) := dk_29 (dk_at dksX3_notes_0 16 rfl rfl)
theorem dX3_notes_17 : decode cX3_notes 17 = .ok (.iconst 1, 1) := dk_4 (dk_at dksX3_notes_0 17 rfl rfl)
theorem dX3_notes_18 : decode cX3_notes 18 = .ok (.isub, 1) := dk_100 (dk_at dksX3_notes_0 18 rfl rfl)
theorem dX3_notes_19 : decode cX3_notes 19 = .ok (.aaload, 1) := dk_50 (dk_at dksX3_notes_0 19 rfl rfl)
theorem dX3_notes_20 : decode cX3_notes 20 = .ok (.aastore, 1) := dk_83 (dk_at dksX3_notes_0 20 rfl rfl)
theorem dX3_notes_21 : decode cX3_notes 21 = .ok (.aload_n 0, 1) := dk_42 (dk_at dksX3_notes_0 21 rfl rfl)
theorem dX3_notes_22 : decode cX3_notes 22 = .ok (.getfield 75, 3) := dk_180 0 75 (dk_at dksX3_notes_1 0 rfl rfl)
theorem dX3_notes_25 : decode cX3_notes 25 = .ok (.iload_n 3, 1) := dk_29 (dk_at dksX3_notes_1 3 rfl rfl)
theorem dX3_notes_26 : decode cX3_notes 26 = .ok (.aload_n 0, 1) := dk_42 (dk_at dksX3_notes_1 4 rfl rfl)
theorem dX3_notes_27 : decode cX3_notes 27 = .ok (.getfield 75, 3) := dk_180 0 75 (dk_at dksX3_notes_1 5 rfl rfl)
theorem dX3_notes_30 : decode cX3_notes 30 = .ok (.iload_n 3, 1) := dk_29 (dk_at dksX3_notes_1 8 rfl rfl)
theorem dX3_notes_31 : decode cX3_notes 31 = .ok (.iconst 1, 1) := dk_4 (dk_at dksX3_notes_1 9 rfl rfl)
theorem dX3_notes_32 : decode cX3_notes 32 = .ok (.isub, 1) := dk_100 (dk_at dksX3_notes_1 10 rfl rfl)
theorem dX3_notes_33 : decode cX3_notes 33 = .ok (.iaload, 1) := dk_46 (dk_at dksX3_notes_1 11 rfl rfl)
theorem dX3_notes_34 : decode cX3_notes 34 = .ok (.iastore, 1) := dk_79 (dk_at dksX3_notes_1 12 rfl rfl)
theorem dX3_notes_35 : decode cX3_notes 35 = .ok (.aload_n 0, 1) := dk_42 (dk_at dksX3_notes_1 13 rfl rfl)
theorem dX3_notes_36 : decode cX3_notes 36 = .ok (.getfield 78, 3) := dk_180 0 78 (dk_at dksX3_notes_1 14 rfl rfl)
theorem dX3_notes_39 : decode cX3_notes 39 = .ok (.iload_n 3, 1) := dk_29 (dk_at dksX3_notes_1 17 rfl rfl)
theorem dX3_notes_40 : decode cX3_notes 40 = .ok (.aload_n 0, 1) := dk_42 (dk_at dksX3_notes_1 18 rfl rfl)
theorem dX3_notes_41 : decode cX3_notes 41 = .ok (.getfield 78, 3) := dk_180 0 78 (dk_at dksX3_notes_1 19 rfl rfl)
theorem dX3_notes_44 : decode cX3_notes 44 = .ok (.iload_n 3, 1) := dk_29 (dk_at dksX3_notes_1 22 rfl rfl)
theorem dX3_notes_45 : decode cX3_notes 45 = .ok (.iconst 1, 1) := dk_4 (dk_at dksX3_notes_1 23 rfl rfl)
theorem dX3_notes_46 : decode cX3_notes 46 = .ok (.isub, 1) := dk_100 (dk_at dksX3_notes_2 0 rfl rfl)
theorem dX3_notes_47 : decode cX3_notes 47 = .ok (.iaload, 1) := dk_46 (dk_at dksX3_notes_2 1 rfl rfl)
theorem dX3_notes_48 : decode cX3_notes 48 = .ok (.iastore, 1) := dk_79 (dk_at dksX3_notes_2 2 rfl rfl)
theorem dX3_notes_49 : decode cX3_notes 49 = .ok (.iinc 3 (-1), 3) := dk_132 3 255 (dk_at dksX3_notes_2 3 rfl rfl)
theorem dX3_notes_52 : decode cX3_notes 52 = .ok (.goto (-49), 3) := dk_167 255 207 (dk_at dksX3_notes_2 6 rfl rfl)
theorem dX3_notes_55 : decode cX3_notes 55 = .ok (.aload_n 0, 1) := dk_42 (dk_at dksX3_notes_2 9 rfl rfl)
theorem dX3_notes_56 : decode cX3_notes 56 = .ok (.getfield 71, 3) := dk_180 0 71 (dk_at dksX3_notes_2 10 rfl rfl)
theorem dX3_notes_59 : decode cX3_notes 59 = .ok (.iconst 0, 1) := dk_3 (dk_at dksX3_notes_2 13 rfl rfl)
theorem dX3_notes_60 : decode cX3_notes 60 = .ok (.aload_n 1, 1) := dk_43 (dk_at dksX3_notes_2 14 rfl rfl)
theorem dX3_notes_61 : decode cX3_notes 61 = .ok (.aastore, 1) := dk_83 (dk_at dksX3_notes_2 15 rfl rfl)
theorem dX3_notes_62 : decode cX3_notes 62 = .ok (.aload_n 0, 1) := dk_42 (dk_at dksX3_notes_2 16 rfl rfl)
theorem dX3_notes_63 : decode cX3_notes 63 = .ok (.getfield 75, 3) := dk_180 0 75 (dk_at dksX3_notes_2 17 rfl rfl)
theorem dX3_notes_66 : decode cX3_notes 66 = .ok (.iconst 0, 1) := dk_3 (dk_at dksX3_notes_2 20 rfl rfl)
theorem dX3_notes_67 : decode cX3_notes 67 = .ok (.aload_n 0, 1) := dk_42 (dk_at dksX3_notes_2 21 rfl rfl)
theorem dX3_notes_68 : decode cX3_notes 68 = .ok (.getfield 97, 3) := dk_180 0 97 (dk_at dksX3_notes_3 0 rfl rfl)
theorem dX3_notes_71 : decode cX3_notes 71 = .ok (.iastore, 1) := dk_79 (dk_at dksX3_notes_3 3 rfl rfl)
theorem dX3_notes_72 : decode cX3_notes 72 = .ok (.aload_n 0, 1) := dk_42 (dk_at dksX3_notes_3 4 rfl rfl)
theorem dX3_notes_73 : decode cX3_notes 73 = .ok (.getfield 78, 3) := dk_180 0 78 (dk_at dksX3_notes_3 5 rfl rfl)
theorem dX3_notes_76 : decode cX3_notes 76 = .ok (.iconst 0, 1) := dk_3 (dk_at dksX3_notes_3 8 rfl rfl)
theorem dX3_notes_77 : decode cX3_notes 77 = .ok (.iload_n 2, 1) := dk_28 (dk_at dksX3_notes_3 9 rfl rfl)
theorem dX3_notes_78 : decode cX3_notes 78 = .ok (.iastore, 1) := dk_79 (dk_at dksX3_notes_3 10 rfl rfl)
theorem dX3_notes_79 : decode cX3_notes 79 = .ok (.aload_n 0, 1) := dk_42 (dk_at dksX3_notes_3 11 rfl rfl)
theorem dX3_notes_80 : decode cX3_notes 80 = .ok (.dup, 1) := dk_89 (dk_at dksX3_notes_3 12 rfl rfl)
theorem dX3_notes_81 : decode cX3_notes 81 = .ok (.getfield 100, 3) := dk_180 0 100 (dk_at dksX3_notes_3 13 rfl rfl)
theorem dX3_notes_84 : decode cX3_notes 84 = .ok (.aload_n 0, 1) := dk_42 (dk_at dksX3_notes_3 16 rfl rfl)
theorem dX3_notes_85 : decode cX3_notes 85 = .ok (.getfield 100, 3) := dk_180 0 100 (dk_at dksX3_notes_3 17 rfl rfl)
theorem dX3_notes_88 : decode cX3_notes 88 = .ok (.bipush 8, 2) := dk_16 8 (dk_at dksX3_notes_3 20 rfl rfl)
theorem dX3_notes_90 : decode cX3_notes 90 = .ok (.if_icmp .ge 7, 3) := dk_162 0 7 (dk_at dksX3_notes_4 0 rfl rfl)
theorem dX3_notes_93 : decode cX3_notes 93 = .ok (.iconst 1, 1) := dk_4 (dk_at dksX3_notes_4 3 rfl rfl)
theorem dX3_notes_94 : decode cX3_notes 94 = .ok (.goto 4, 3) := dk_167 0 4 (dk_at dksX3_notes_4 4 rfl rfl)
theorem dX3_notes_97 : decode cX3_notes 97 = .ok (.iconst 0, 1) := dk_3 (dk_at dksX3_notes_4 7 rfl rfl)
theorem dX3_notes_98 : decode cX3_notes 98 = .ok (.iadd, 1) := dk_96 (dk_at dksX3_notes_4 8 rfl rfl)
theorem dX3_notes_99 : decode cX3_notes 99 = .ok (.putfield 100, 3) := dk_181 0 100 (dk_at dksX3_notes_4 9 rfl rfl)
theorem dX3_notes_102 : decode cX3_notes 102 = .ok (.return_, 1) := dk_177 (dk_at dksX3_notes_4 12 rfl rfl)
abbrev cX3_pass : ByteArray := prog_18_method_16_code
def yX3_pass : MethodName := ⟨RX3, "pass", "(I)I"⟩
def dkwX3_pass_3 : List UInt8 := [167, 255, 231, 42, 89, 180, 0, 132, 28, 96, 181, 0, 132, 42, 182, 0, 135, 28, 172]
abbrev dktX3_pass_3 : List UInt8 := dkwX3_pass_3 ++ []
def dkwX3_pass_2 : List UInt8 := [162, 0, 26, 28, 42, 182, 0, 128, 96, 61, 42, 89, 180, 0, 97, 4, 96, 181, 0, 97, 132, 3, 1]
abbrev dktX3_pass_2 : List UInt8 := dkwX3_pass_2 ++ dktX3_pass_3
def dkwX3_pass_1 : List UInt8 := [164, 0, 7, 5, 167, 0, 4, 3, 182, 0, 103, 154, 0, 5, 3, 172, 3, 61, 3, 62, 29, 27]
abbrev dktX3_pass_1 : List UInt8 := dkwX3_pass_1 ++ dktX3_pass_2
def dkwX3_pass_0 : List UInt8 := [42, 27, 4, 16, 30, 184, 0, 87, 154, 0, 7, 4, 167, 0, 20, 42, 180, 0, 97, 27, 96, 17, 1, 144]
abbrev dktX3_pass_0 : List UInt8 := dkwX3_pass_0 ++ dktX3_pass_1
theorem dksX3_pass_0 : cX3_pass.data.toList.drop 0 = dktX3_pass_0 := by decide +kernel
theorem dksX3_pass_1 : cX3_pass.data.toList.drop 24 = dktX3_pass_1 := dk_seg dksX3_pass_0 24 rfl rfl
theorem dksX3_pass_2 : cX3_pass.data.toList.drop 46 = dktX3_pass_2 := dk_seg dksX3_pass_1 22 rfl rfl
theorem dksX3_pass_3 : cX3_pass.data.toList.drop 69 = dktX3_pass_3 := dk_seg dksX3_pass_2 23 rfl rfl
theorem dX3_pass_0 : decode cX3_pass 0 = .ok (.aload_n 0, 1) := dk_42 (dk_at dksX3_pass_0 0 rfl rfl)
theorem dX3_pass_1 : decode cX3_pass 1 = .ok (.iload_n 1, 1) := dk_27 (dk_at dksX3_pass_0 1 rfl rfl)
theorem dX3_pass_2 : decode cX3_pass 2 = .ok (.iconst 1, 1) := dk_4 (dk_at dksX3_pass_0 2 rfl rfl)
theorem dX3_pass_3 : decode cX3_pass 3 = .ok (.bipush 30, 2) := dk_16 30 (dk_at dksX3_pass_0 3 rfl rfl)
theorem dX3_pass_5 : decode cX3_pass 5 = .ok (.invokestatic 87, 3) := dk_184 0 87 (dk_at dksX3_pass_0 5 rfl rfl)
theorem dX3_pass_8 : decode cX3_pass 8 = .ok (.ifCond .ne 7, 3) := dk_154 0 7 (dk_at dksX3_pass_0 8 rfl rfl)
theorem dX3_pass_11 : decode cX3_pass 11 = .ok (.iconst 1, 1) := dk_4 (dk_at dksX3_pass_0 11 rfl rfl)
theorem dX3_pass_12 : decode cX3_pass 12 = .ok (.goto 20, 3) := dk_167 0 20 (dk_at dksX3_pass_0 12 rfl rfl)
theorem dX3_pass_15 : decode cX3_pass 15 = .ok (.aload_n 0, 1) := dk_42 (dk_at dksX3_pass_0 15 rfl rfl)
theorem dX3_pass_16 : decode cX3_pass 16 = .ok (.getfield 97, 3) := dk_180 0 97 (dk_at dksX3_pass_0 16 rfl rfl)
theorem dX3_pass_19 : decode cX3_pass 19 = .ok (.iload_n 1, 1) := dk_27 (dk_at dksX3_pass_0 19 rfl rfl)
theorem dX3_pass_20 : decode cX3_pass 20 = .ok (.iadd, 1) := dk_96 (dk_at dksX3_pass_0 20 rfl rfl)
theorem dX3_pass_21 : decode cX3_pass 21 = .ok (.sipush 400, 3) := dk_17 1 144 (dk_at dksX3_pass_0 21 rfl rfl)
theorem dX3_pass_24 : decode cX3_pass 24 = .ok (.if_icmp .le 7, 3) := dk_164 0 7 (dk_at dksX3_pass_1 0 rfl rfl)
theorem dX3_pass_27 : decode cX3_pass 27 = .ok (.iconst 2, 1) := dk_5 (dk_at dksX3_pass_1 3 rfl rfl)
theorem dX3_pass_28 : decode cX3_pass 28 = .ok (.goto 4, 3) := dk_167 0 4 (dk_at dksX3_pass_1 4 rfl rfl)
theorem dX3_pass_31 : decode cX3_pass 31 = .ok (.iconst 0, 1) := dk_3 (dk_at dksX3_pass_1 7 rfl rfl)
theorem dX3_pass_32 : decode cX3_pass 32 = .ok (.invokevirtual 103, 3) := dk_182 0 103 (dk_at dksX3_pass_1 8 rfl rfl)
theorem dX3_pass_35 : decode cX3_pass 35 = .ok (.ifCond .ne 5, 3) := dk_154 0 5 (dk_at dksX3_pass_1 11 rfl rfl)
theorem dX3_pass_38 : decode cX3_pass 38 = .ok (.iconst 0, 1) := dk_3 (dk_at dksX3_pass_1 14 rfl rfl)
theorem dX3_pass_39 : decode cX3_pass 39 = .ok (.ireturn, 1) := dk_172 (dk_at dksX3_pass_1 15 rfl rfl)
theorem dX3_pass_40 : decode cX3_pass 40 = .ok (.iconst 0, 1) := dk_3 (dk_at dksX3_pass_1 16 rfl rfl)
theorem dX3_pass_41 : decode cX3_pass 41 = .ok (.istore_n 2, 1) := dk_61 (dk_at dksX3_pass_1 17 rfl rfl)
theorem dX3_pass_42 : decode cX3_pass 42 = .ok (.iconst 0, 1) := dk_3 (dk_at dksX3_pass_1 18 rfl rfl)
theorem dX3_pass_43 : decode cX3_pass 43 = .ok (.istore_n 3, 1) := dk_62 (dk_at dksX3_pass_1 19 rfl rfl)
theorem dX3_pass_44 : decode cX3_pass 44 = .ok (.iload_n 3, 1) := dk_29 (dk_at dksX3_pass_1 20 rfl rfl)
theorem dX3_pass_45 : decode cX3_pass 45 = .ok (.iload_n 1, 1) := dk_27 (dk_at dksX3_pass_1 21 rfl rfl)
theorem dX3_pass_46 : decode cX3_pass 46 = .ok (.if_icmp .ge 26, 3) := dk_162 0 26 (dk_at dksX3_pass_2 0 rfl rfl)
theorem dX3_pass_49 : decode cX3_pass 49 = .ok (.iload_n 2, 1) := dk_28 (dk_at dksX3_pass_2 3 rfl rfl)
theorem dX3_pass_50 : decode cX3_pass 50 = .ok (.aload_n 0, 1) := dk_42 (dk_at dksX3_pass_2 4 rfl rfl)
theorem dX3_pass_51 : decode cX3_pass 51 = .ok (.invokevirtual 128, 3) := dk_182 0 128 (dk_at dksX3_pass_2 5 rfl rfl)
theorem dX3_pass_54 : decode cX3_pass 54 = .ok (.iadd, 1) := dk_96 (dk_at dksX3_pass_2 8 rfl rfl)
theorem dX3_pass_55 : decode cX3_pass 55 = .ok (.istore_n 2, 1) := dk_61 (dk_at dksX3_pass_2 9 rfl rfl)
theorem dX3_pass_56 : decode cX3_pass 56 = .ok (.aload_n 0, 1) := dk_42 (dk_at dksX3_pass_2 10 rfl rfl)
theorem dX3_pass_57 : decode cX3_pass 57 = .ok (.dup, 1) := dk_89 (dk_at dksX3_pass_2 11 rfl rfl)
theorem dX3_pass_58 : decode cX3_pass 58 = .ok (.getfield 97, 3) := dk_180 0 97 (dk_at dksX3_pass_2 12 rfl rfl)
theorem dX3_pass_61 : decode cX3_pass 61 = .ok (.iconst 1, 1) := dk_4 (dk_at dksX3_pass_2 15 rfl rfl)
theorem dX3_pass_62 : decode cX3_pass 62 = .ok (.iadd, 1) := dk_96 (dk_at dksX3_pass_2 16 rfl rfl)
theorem dX3_pass_63 : decode cX3_pass 63 = .ok (.putfield 97, 3) := dk_181 0 97 (dk_at dksX3_pass_2 17 rfl rfl)
theorem dX3_pass_66 : decode cX3_pass 66 = .ok (.iinc 3 1, 3) := dk_132 3 1 (dk_at dksX3_pass_2 20 rfl rfl)
theorem dX3_pass_69 : decode cX3_pass 69 = .ok (.goto (-25), 3) := dk_167 255 231 (dk_at dksX3_pass_3 0 rfl rfl)
theorem dX3_pass_72 : decode cX3_pass 72 = .ok (.aload_n 0, 1) := dk_42 (dk_at dksX3_pass_3 3 rfl rfl)
theorem dX3_pass_73 : decode cX3_pass 73 = .ok (.dup, 1) := dk_89 (dk_at dksX3_pass_3 4 rfl rfl)
theorem dX3_pass_74 : decode cX3_pass 74 = .ok (.getfield 132, 3) := dk_180 0 132 (dk_at dksX3_pass_3 5 rfl rfl)
theorem dX3_pass_77 : decode cX3_pass 77 = .ok (.iload_n 2, 1) := dk_28 (dk_at dksX3_pass_3 8 rfl rfl)
theorem dX3_pass_78 : decode cX3_pass 78 = .ok (.iadd, 1) := dk_96 (dk_at dksX3_pass_3 9 rfl rfl)
theorem dX3_pass_79 : decode cX3_pass 79 = .ok (.putfield 132, 3) := dk_181 0 132 (dk_at dksX3_pass_3 10 rfl rfl)
theorem dX3_pass_82 : decode cX3_pass 82 = .ok (.aload_n 0, 1) := dk_42 (dk_at dksX3_pass_3 13 rfl rfl)
theorem dX3_pass_83 : decode cX3_pass 83 = .ok (.invokevirtual 135, 3) := dk_182 0 135 (dk_at dksX3_pass_3 14 rfl rfl)
theorem dX3_pass_86 : decode cX3_pass 86 = .ok (.iload_n 2, 1) := dk_28 (dk_at dksX3_pass_3 17 rfl rfl)
theorem dX3_pass_87 : decode cX3_pass 87 = .ok (.ireturn, 1) := dk_172 (dk_at dksX3_pass_3 18 rfl rfl)
abbrev cX3_creeps : ByteArray := prog_18_method_15_code
def yX3_creeps : MethodName := ⟨RX3, "creeps", "()I"⟩
def dkwX3_creeps_8 : List UInt8 := [79, 132, 2, 1, 167, 255, 233, 27, 172]
abbrev dktX3_creeps_8 : List UInt8 := dkwX3_creeps_8 ++ []
def dkwX3_creeps_7 : List UInt8 := [167, 255, 122, 3, 61, 28, 42, 180, 0, 84, 162, 0, 21, 42, 180, 0, 9, 28, 42, 180, 0, 13, 28, 46]
abbrev dktX3_creeps_7 : List UInt8 := dkwX3_creeps_7 ++ dktX3_creeps_8
def dkwX3_creeps_6 : List UInt8 := [46, 21, 4, 96, 79, 167, 0, 16, 27, 21, 4, 154, 0, 7, 3, 167, 0, 4, 4, 96, 60, 132, 2, 1]
abbrev dktX3_creeps_6 : List UInt8 := dkwX3_creeps_6 ++ dktX3_creeps_7
def dkwX3_creeps_5 : List UInt8 := [167, 0, 4, 4, 96, 60, 42, 28, 4, 96, 182, 0, 107, 153, 0, 19, 42, 180, 0, 13, 28, 4, 96, 92]
abbrev dktX3_creeps_5 : List UInt8 := dkwX3_creeps_5 ++ dktX3_creeps_6
def dkwX3_creeps_4 : List UInt8 := [153, 0, 17, 42, 180, 0, 13, 28, 92, 46, 21, 4, 100, 79, 167, 0, 16, 27, 21, 4, 154, 0, 7, 3]
abbrev dktX3_creeps_4 : List UInt8 := dkwX3_creeps_4 ++ dktX3_creeps_5
def dkwX3_creeps_3 : List UInt8 := [167, 0, 17, 29, 116, 42, 180, 0, 26, 164, 0, 7, 2, 167, 0, 4, 3, 54, 4, 42, 28, 182, 0, 107]
abbrev dktX3_creeps_3 : List UInt8 := dkwX3_creeps_3 ++ dktX3_creeps_4
def dkwX3_creeps_2 : List UInt8 := [28, 182, 0, 124, 42, 28, 4, 96, 182, 0, 124, 100, 62, 29, 42, 180, 0, 26, 164, 0, 7, 4]
abbrev dktX3_creeps_2 : List UInt8 := dkwX3_creeps_2 ++ dktX3_creeps_3
def dkwX3_creeps_1 : List UInt8 := [132, 2, 1, 167, 255, 233, 2, 61, 28, 42, 180, 0, 84, 162, 0, 132, 42, 180, 0, 84, 158, 0, 125, 42]
abbrev dktX3_creeps_1 : List UInt8 := dkwX3_creeps_1 ++ dktX3_creeps_2
def dkwX3_creeps_0 : List UInt8 := [3, 60, 3, 61, 28, 42, 180, 0, 84, 162, 0, 21, 42, 180, 0, 13, 28, 42, 180, 0, 9, 28, 46, 79]
abbrev dktX3_creeps_0 : List UInt8 := dkwX3_creeps_0 ++ dktX3_creeps_1
theorem dksX3_creeps_0 : cX3_creeps.data.toList.drop 0 = dktX3_creeps_0 := by decide +kernel
theorem dksX3_creeps_1 : cX3_creeps.data.toList.drop 24 = dktX3_creeps_1 := dk_seg dksX3_creeps_0 24 rfl rfl
theorem dksX3_creeps_2 : cX3_creeps.data.toList.drop 48 = dktX3_creeps_2 := dk_seg dksX3_creeps_1 24 rfl rfl
theorem dksX3_creeps_3 : cX3_creeps.data.toList.drop 70 = dktX3_creeps_3 := dk_seg dksX3_creeps_2 22 rfl rfl
theorem dksX3_creeps_4 : cX3_creeps.data.toList.drop 94 = dktX3_creeps_4 := dk_seg dksX3_creeps_3 24 rfl rfl
theorem dksX3_creeps_5 : cX3_creeps.data.toList.drop 118 = dktX3_creeps_5 := dk_seg dksX3_creeps_4 24 rfl rfl
theorem dksX3_creeps_6 : cX3_creeps.data.toList.drop 142 = dktX3_creeps_6 := dk_seg dksX3_creeps_5 24 rfl rfl
theorem dksX3_creeps_7 : cX3_creeps.data.toList.drop 166 = dktX3_creeps_7 := dk_seg dksX3_creeps_6 24 rfl rfl
theorem dksX3_creeps_8 : cX3_creeps.data.toList.drop 190 = dktX3_creeps_8 := dk_seg dksX3_creeps_7 24 rfl rfl
theorem dX3_creeps_0 : decode cX3_creeps 0 = .ok (.iconst 0, 1) := dk_3 (dk_at dksX3_creeps_0 0 rfl rfl)
theorem dX3_creeps_1 : decode cX3_creeps 1 = .ok (.istore_n 1, 1) := dk_60 (dk_at dksX3_creeps_0 1 rfl rfl)
theorem dX3_creeps_2 : decode cX3_creeps 2 = .ok (.iconst 0, 1) := dk_3 (dk_at dksX3_creeps_0 2 rfl rfl)
theorem dX3_creeps_3 : decode cX3_creeps 3 = .ok (.istore_n 2, 1) := dk_61 (dk_at dksX3_creeps_0 3 rfl rfl)
theorem dX3_creeps_4 : decode cX3_creeps 4 = .ok (.iload_n 2, 1) := dk_28 (dk_at dksX3_creeps_0 4 rfl rfl)
theorem dX3_creeps_5 : decode cX3_creeps 5 = .ok (.aload_n 0, 1) := dk_42 (dk_at dksX3_creeps_0 5 rfl rfl)
theorem dX3_creeps_6 : decode cX3_creeps 6 = .ok (.getfield 84, 3) := dk_180 0 84 (dk_at dksX3_creeps_0 6 rfl rfl)
theorem dX3_creeps_9 : decode cX3_creeps 9 = .ok (.if_icmp .ge 21, 3) := dk_162 0 21 (dk_at dksX3_creeps_0 9 rfl rfl)
theorem dX3_creeps_12 : decode cX3_creeps 12 = .ok (.aload_n 0, 1) := dk_42 (dk_at dksX3_creeps_0 12 rfl rfl)
theorem dX3_creeps_13 : decode cX3_creeps 13 = .ok (.getfield 13, 3) := dk_180 0 13 (dk_at dksX3_creeps_0 13 rfl rfl)
theorem dX3_creeps_16 : decode cX3_creeps 16 = .ok (.iload_n 2, 1) := dk_28 (dk_at dksX3_creeps_0 16 rfl rfl)
theorem dX3_creeps_17 : decode cX3_creeps 17 = .ok (.aload_n 0, 1) := dk_42 (dk_at dksX3_creeps_0 17 rfl rfl)
theorem dX3_creeps_18 : decode cX3_creeps 18 = .ok (.getfield 9, 3) := dk_180 0 9 (dk_at dksX3_creeps_0 18 rfl rfl)
theorem dX3_creeps_21 : decode cX3_creeps 21 = .ok (.iload_n 2, 1) := dk_28 (dk_at dksX3_creeps_0 21 rfl rfl)
theorem dX3_creeps_22 : decode cX3_creeps 22 = .ok (.iaload, 1) := dk_46 (dk_at dksX3_creeps_0 22 rfl rfl)
theorem dX3_creeps_23 : decode cX3_creeps 23 = .ok (.iastore, 1) := dk_79 (dk_at dksX3_creeps_0 23 rfl rfl)
theorem dX3_creeps_24 : decode cX3_creeps 24 = .ok (.iinc 2 1, 3) := dk_132 2 1 (dk_at dksX3_creeps_1 0 rfl rfl)
theorem dX3_creeps_27 : decode cX3_creeps 27 = .ok (.goto (-23), 3) := dk_167 255 233 (dk_at dksX3_creeps_1 3 rfl rfl)
theorem dX3_creeps_30 : decode cX3_creeps 30 = .ok (.iconst (-1), 1) := dk_2 (dk_at dksX3_creeps_1 6 rfl rfl)
theorem dX3_creeps_31 : decode cX3_creeps 31 = .ok (.istore_n 2, 1) := dk_61 (dk_at dksX3_creeps_1 7 rfl rfl)
theorem dX3_creeps_32 : decode cX3_creeps 32 = .ok (.iload_n 2, 1) := dk_28 (dk_at dksX3_creeps_1 8 rfl rfl)
theorem dX3_creeps_33 : decode cX3_creeps 33 = .ok (.aload_n 0, 1) := dk_42 (dk_at dksX3_creeps_1 9 rfl rfl)
theorem dX3_creeps_34 : decode cX3_creeps 34 = .ok (.getfield 84, 3) := dk_180 0 84 (dk_at dksX3_creeps_1 10 rfl rfl)
theorem dX3_creeps_37 : decode cX3_creeps 37 = .ok (.if_icmp .ge 132, 3) := dk_162 0 132 (dk_at dksX3_creeps_1 13 rfl rfl)
theorem dX3_creeps_40 : decode cX3_creeps 40 = .ok (.aload_n 0, 1) := dk_42 (dk_at dksX3_creeps_1 16 rfl rfl)
theorem dX3_creeps_41 : decode cX3_creeps 41 = .ok (.getfield 84, 3) := dk_180 0 84 (dk_at dksX3_creeps_1 17 rfl rfl)
theorem dX3_creeps_44 : decode cX3_creeps 44 = .ok (.ifCond .le 125, 3) := dk_158 0 125 (dk_at dksX3_creeps_1 20 rfl rfl)
theorem dX3_creeps_47 : decode cX3_creeps 47 = .ok (.aload_n 0, 1) := dk_42 (dk_at dksX3_creeps_1 23 rfl rfl)
theorem dX3_creeps_48 : decode cX3_creeps 48 = .ok (.iload_n 2, 1) := dk_28 (dk_at dksX3_creeps_2 0 rfl rfl)
theorem dX3_creeps_49 : decode cX3_creeps 49 = .ok (.invokevirtual 124, 3) := dk_182 0 124 (dk_at dksX3_creeps_2 1 rfl rfl)
theorem dX3_creeps_52 : decode cX3_creeps 52 = .ok (.aload_n 0, 1) := dk_42 (dk_at dksX3_creeps_2 4 rfl rfl)
theorem dX3_creeps_53 : decode cX3_creeps 53 = .ok (.iload_n 2, 1) := dk_28 (dk_at dksX3_creeps_2 5 rfl rfl)
theorem dX3_creeps_54 : decode cX3_creeps 54 = .ok (.iconst 1, 1) := dk_4 (dk_at dksX3_creeps_2 6 rfl rfl)
theorem dX3_creeps_55 : decode cX3_creeps 55 = .ok (.iadd, 1) := dk_96 (dk_at dksX3_creeps_2 7 rfl rfl)
theorem dX3_creeps_56 : decode cX3_creeps 56 = .ok (.invokevirtual 124, 3) := dk_182 0 124 (dk_at dksX3_creeps_2 8 rfl rfl)
theorem dX3_creeps_59 : decode cX3_creeps 59 = .ok (.isub, 1) := dk_100 (dk_at dksX3_creeps_2 11 rfl rfl)
theorem dX3_creeps_60 : decode cX3_creeps 60 = .ok (.istore_n 3, 1) := dk_62 (dk_at dksX3_creeps_2 12 rfl rfl)
theorem dX3_creeps_61 : decode cX3_creeps 61 = .ok (.iload_n 3, 1) := dk_29 (dk_at dksX3_creeps_2 13 rfl rfl)
theorem dX3_creeps_62 : decode cX3_creeps 62 = .ok (.aload_n 0, 1) := dk_42 (dk_at dksX3_creeps_2 14 rfl rfl)
theorem dX3_creeps_63 : decode cX3_creeps 63 = .ok (.getfield 26, 3) := dk_180 0 26 (dk_at dksX3_creeps_2 15 rfl rfl)
theorem dX3_creeps_66 : decode cX3_creeps 66 = .ok (.if_icmp .le 7, 3) := dk_164 0 7 (dk_at dksX3_creeps_2 18 rfl rfl)
theorem dX3_creeps_69 : decode cX3_creeps 69 = .ok (.iconst 1, 1) := dk_4 (dk_at dksX3_creeps_2 21 rfl rfl)
theorem dX3_creeps_70 : decode cX3_creeps 70 = .ok (.goto 17, 3) := dk_167 0 17 (dk_at dksX3_creeps_3 0 rfl rfl)
theorem dX3_creeps_73 : decode cX3_creeps 73 = .ok (.iload_n 3, 1) := dk_29 (dk_at dksX3_creeps_3 3 rfl rfl)
theorem dX3_creeps_74 : decode cX3_creeps 74 = .ok (.ineg, 1) := dk_116 (dk_at dksX3_creeps_3 4 rfl rfl)
theorem dX3_creeps_75 : decode cX3_creeps 75 = .ok (.aload_n 0, 1) := dk_42 (dk_at dksX3_creeps_3 5 rfl rfl)
theorem dX3_creeps_76 : decode cX3_creeps 76 = .ok (.getfield 26, 3) := dk_180 0 26 (dk_at dksX3_creeps_3 6 rfl rfl)
theorem dX3_creeps_79 : decode cX3_creeps 79 = .ok (.if_icmp .le 7, 3) := dk_164 0 7 (dk_at dksX3_creeps_3 9 rfl rfl)
theorem dX3_creeps_82 : decode cX3_creeps 82 = .ok (.iconst (-1), 1) := dk_2 (dk_at dksX3_creeps_3 12 rfl rfl)
theorem dX3_creeps_83 : decode cX3_creeps 83 = .ok (.goto 4, 3) := dk_167 0 4 (dk_at dksX3_creeps_3 13 rfl rfl)
theorem dX3_creeps_86 : decode cX3_creeps 86 = .ok (.iconst 0, 1) := dk_3 (dk_at dksX3_creeps_3 16 rfl rfl)
theorem dX3_creeps_87 : decode cX3_creeps 87 = .ok (.istore 4, 2) := dk_54 4 (dk_at dksX3_creeps_3 17 rfl rfl)
theorem dX3_creeps_89 : decode cX3_creeps 89 = .ok (.aload_n 0, 1) := dk_42 (dk_at dksX3_creeps_3 19 rfl rfl)
theorem dX3_creeps_90 : decode cX3_creeps 90 = .ok (.iload_n 2, 1) := dk_28 (dk_at dksX3_creeps_3 20 rfl rfl)
theorem dX3_creeps_91 : decode cX3_creeps 91 = .ok (.invokevirtual 107, 3) := dk_182 0 107 (dk_at dksX3_creeps_3 21 rfl rfl)
theorem dX3_creeps_94 : decode cX3_creeps 94 = .ok (.ifCond .eq 17, 3) := dk_153 0 17 (dk_at dksX3_creeps_4 0 rfl rfl)
theorem dX3_creeps_97 : decode cX3_creeps 97 = .ok (.aload_n 0, 1) := dk_42 (dk_at dksX3_creeps_4 3 rfl rfl)
theorem dX3_creeps_98 : decode cX3_creeps 98 = .ok (.getfield 13, 3) := dk_180 0 13 (dk_at dksX3_creeps_4 4 rfl rfl)
theorem dX3_creeps_101 : decode cX3_creeps 101 = .ok (.iload_n 2, 1) := dk_28 (dk_at dksX3_creeps_4 7 rfl rfl)
theorem dX3_creeps_102 : decode cX3_creeps 102 = .ok (.dup2, 1) := dk_92 (dk_at dksX3_creeps_4 8 rfl rfl)
theorem dX3_creeps_103 : decode cX3_creeps 103 = .ok (.iaload, 1) := dk_46 (dk_at dksX3_creeps_4 9 rfl rfl)
theorem dX3_creeps_104 : decode cX3_creeps 104 = .ok (.iload 4, 2) := dk_21 4 (dk_at dksX3_creeps_4 10 rfl rfl)
theorem dX3_creeps_106 : decode cX3_creeps 106 = .ok (.isub, 1) := dk_100 (dk_at dksX3_creeps_4 12 rfl rfl)
theorem dX3_creeps_107 : decode cX3_creeps 107 = .ok (.iastore, 1) := dk_79 (dk_at dksX3_creeps_4 13 rfl rfl)
theorem dX3_creeps_108 : decode cX3_creeps 108 = .ok (.goto 16, 3) := dk_167 0 16 (dk_at dksX3_creeps_4 14 rfl rfl)
theorem dX3_creeps_111 : decode cX3_creeps 111 = .ok (.iload_n 1, 1) := dk_27 (dk_at dksX3_creeps_4 17 rfl rfl)
theorem dX3_creeps_112 : decode cX3_creeps 112 = .ok (.iload 4, 2) := dk_21 4 (dk_at dksX3_creeps_4 18 rfl rfl)
theorem dX3_creeps_114 : decode cX3_creeps 114 = .ok (.ifCond .ne 7, 3) := dk_154 0 7 (dk_at dksX3_creeps_4 20 rfl rfl)
theorem dX3_creeps_117 : decode cX3_creeps 117 = .ok (.iconst 0, 1) := dk_3 (dk_at dksX3_creeps_4 23 rfl rfl)
theorem dX3_creeps_118 : decode cX3_creeps 118 = .ok (.goto 4, 3) := dk_167 0 4 (dk_at dksX3_creeps_5 0 rfl rfl)
theorem dX3_creeps_121 : decode cX3_creeps 121 = .ok (.iconst 1, 1) := dk_4 (dk_at dksX3_creeps_5 3 rfl rfl)
theorem dX3_creeps_122 : decode cX3_creeps 122 = .ok (.iadd, 1) := dk_96 (dk_at dksX3_creeps_5 4 rfl rfl)
theorem dX3_creeps_123 : decode cX3_creeps 123 = .ok (.istore_n 1, 1) := dk_60 (dk_at dksX3_creeps_5 5 rfl rfl)
theorem dX3_creeps_124 : decode cX3_creeps 124 = .ok (.aload_n 0, 1) := dk_42 (dk_at dksX3_creeps_5 6 rfl rfl)
theorem dX3_creeps_125 : decode cX3_creeps 125 = .ok (.iload_n 2, 1) := dk_28 (dk_at dksX3_creeps_5 7 rfl rfl)
theorem dX3_creeps_126 : decode cX3_creeps 126 = .ok (.iconst 1, 1) := dk_4 (dk_at dksX3_creeps_5 8 rfl rfl)
theorem dX3_creeps_127 : decode cX3_creeps 127 = .ok (.iadd, 1) := dk_96 (dk_at dksX3_creeps_5 9 rfl rfl)
theorem dX3_creeps_128 : decode cX3_creeps 128 = .ok (.invokevirtual 107, 3) := dk_182 0 107 (dk_at dksX3_creeps_5 10 rfl rfl)
theorem dX3_creeps_131 : decode cX3_creeps 131 = .ok (.ifCond .eq 19, 3) := dk_153 0 19 (dk_at dksX3_creeps_5 13 rfl rfl)
theorem dX3_creeps_134 : decode cX3_creeps 134 = .ok (.aload_n 0, 1) := dk_42 (dk_at dksX3_creeps_5 16 rfl rfl)
theorem dX3_creeps_135 : decode cX3_creeps 135 = .ok (.getfield 13, 3) := dk_180 0 13 (dk_at dksX3_creeps_5 17 rfl rfl)
theorem dX3_creeps_138 : decode cX3_creeps 138 = .ok (.iload_n 2, 1) := dk_28 (dk_at dksX3_creeps_5 20 rfl rfl)
theorem dX3_creeps_139 : decode cX3_creeps 139 = .ok (.iconst 1, 1) := dk_4 (dk_at dksX3_creeps_5 21 rfl rfl)
theorem dX3_creeps_140 : decode cX3_creeps 140 = .ok (.iadd, 1) := dk_96 (dk_at dksX3_creeps_5 22 rfl rfl)
theorem dX3_creeps_141 : decode cX3_creeps 141 = .ok (.dup2, 1) := dk_92 (dk_at dksX3_creeps_5 23 rfl rfl)
theorem dX3_creeps_142 : decode cX3_creeps 142 = .ok (.iaload, 1) := dk_46 (dk_at dksX3_creeps_6 0 rfl rfl)
theorem dX3_creeps_143 : decode cX3_creeps 143 = .ok (.iload 4, 2) := dk_21 4 (dk_at dksX3_creeps_6 1 rfl rfl)
theorem dX3_creeps_145 : decode cX3_creeps 145 = .ok (.iadd, 1) := dk_96 (dk_at dksX3_creeps_6 3 rfl rfl)
theorem dX3_creeps_146 : decode cX3_creeps 146 = .ok (.iastore, 1) := dk_79 (dk_at dksX3_creeps_6 4 rfl rfl)
theorem dX3_creeps_147 : decode cX3_creeps 147 = .ok (.goto 16, 3) := dk_167 0 16 (dk_at dksX3_creeps_6 5 rfl rfl)
theorem dX3_creeps_150 : decode cX3_creeps 150 = .ok (.iload_n 1, 1) := dk_27 (dk_at dksX3_creeps_6 8 rfl rfl)
theorem dX3_creeps_151 : decode cX3_creeps 151 = .ok (.iload 4, 2) := dk_21 4 (dk_at dksX3_creeps_6 9 rfl rfl)
theorem dX3_creeps_153 : decode cX3_creeps 153 = .ok (.ifCond .ne 7, 3) := dk_154 0 7 (dk_at dksX3_creeps_6 11 rfl rfl)
theorem dX3_creeps_156 : decode cX3_creeps 156 = .ok (.iconst 0, 1) := dk_3 (dk_at dksX3_creeps_6 14 rfl rfl)
theorem dX3_creeps_157 : decode cX3_creeps 157 = .ok (.goto 4, 3) := dk_167 0 4 (dk_at dksX3_creeps_6 15 rfl rfl)
theorem dX3_creeps_160 : decode cX3_creeps 160 = .ok (.iconst 1, 1) := dk_4 (dk_at dksX3_creeps_6 18 rfl rfl)
theorem dX3_creeps_161 : decode cX3_creeps 161 = .ok (.iadd, 1) := dk_96 (dk_at dksX3_creeps_6 19 rfl rfl)
theorem dX3_creeps_162 : decode cX3_creeps 162 = .ok (.istore_n 1, 1) := dk_60 (dk_at dksX3_creeps_6 20 rfl rfl)
theorem dX3_creeps_163 : decode cX3_creeps 163 = .ok (.iinc 2 1, 3) := dk_132 2 1 (dk_at dksX3_creeps_6 21 rfl rfl)
theorem dX3_creeps_166 : decode cX3_creeps 166 = .ok (.goto (-134), 3) := dk_167 255 122 (dk_at dksX3_creeps_7 0 rfl rfl)
theorem dX3_creeps_169 : decode cX3_creeps 169 = .ok (.iconst 0, 1) := dk_3 (dk_at dksX3_creeps_7 3 rfl rfl)
theorem dX3_creeps_170 : decode cX3_creeps 170 = .ok (.istore_n 2, 1) := dk_61 (dk_at dksX3_creeps_7 4 rfl rfl)
theorem dX3_creeps_171 : decode cX3_creeps 171 = .ok (.iload_n 2, 1) := dk_28 (dk_at dksX3_creeps_7 5 rfl rfl)
theorem dX3_creeps_172 : decode cX3_creeps 172 = .ok (.aload_n 0, 1) := dk_42 (dk_at dksX3_creeps_7 6 rfl rfl)
theorem dX3_creeps_173 : decode cX3_creeps 173 = .ok (.getfield 84, 3) := dk_180 0 84 (dk_at dksX3_creeps_7 7 rfl rfl)
theorem dX3_creeps_176 : decode cX3_creeps 176 = .ok (.if_icmp .ge 21, 3) := dk_162 0 21 (dk_at dksX3_creeps_7 10 rfl rfl)
theorem dX3_creeps_179 : decode cX3_creeps 179 = .ok (.aload_n 0, 1) := dk_42 (dk_at dksX3_creeps_7 13 rfl rfl)
theorem dX3_creeps_180 : decode cX3_creeps 180 = .ok (.getfield 9, 3) := dk_180 0 9 (dk_at dksX3_creeps_7 14 rfl rfl)
theorem dX3_creeps_183 : decode cX3_creeps 183 = .ok (.iload_n 2, 1) := dk_28 (dk_at dksX3_creeps_7 17 rfl rfl)
theorem dX3_creeps_184 : decode cX3_creeps 184 = .ok (.aload_n 0, 1) := dk_42 (dk_at dksX3_creeps_7 18 rfl rfl)
theorem dX3_creeps_185 : decode cX3_creeps 185 = .ok (.getfield 13, 3) := dk_180 0 13 (dk_at dksX3_creeps_7 19 rfl rfl)
theorem dX3_creeps_188 : decode cX3_creeps 188 = .ok (.iload_n 2, 1) := dk_28 (dk_at dksX3_creeps_7 22 rfl rfl)
theorem dX3_creeps_189 : decode cX3_creeps 189 = .ok (.iaload, 1) := dk_46 (dk_at dksX3_creeps_7 23 rfl rfl)
theorem dX3_creeps_190 : decode cX3_creeps 190 = .ok (.iastore, 1) := dk_79 (dk_at dksX3_creeps_8 0 rfl rfl)
theorem dX3_creeps_191 : decode cX3_creeps 191 = .ok (.iinc 2 1, 3) := dk_132 2 1 (dk_at dksX3_creeps_8 1 rfl rfl)
theorem dX3_creeps_194 : decode cX3_creeps 194 = .ok (.goto (-23), 3) := dk_167 255 233 (dk_at dksX3_creeps_8 4 rfl rfl)
theorem dX3_creeps_197 : decode cX3_creeps 197 = .ok (.iload_n 1, 1) := dk_27 (dk_at dksX3_creeps_8 7 rfl rfl)
theorem dX3_creeps_198 : decode cX3_creeps 198 = .ok (.ireturn, 1) := dk_172 (dk_at dksX3_creeps_8 8 rfl rfl)
abbrev cX3_depthAt : ByteArray := prog_18_method_14_code
def yX3_depthAt : MethodName := ⟨RX3, "depthAt", "(I)I"⟩
def dkwX3_depthAt_0 : List UInt8 := [42, 27, 182, 0, 107, 153, 0, 12, 42, 180, 0, 9, 27, 46, 167, 0, 4, 3, 172]
abbrev dktX3_depthAt_0 : List UInt8 := dkwX3_depthAt_0 ++ []
theorem dksX3_depthAt_0 : cX3_depthAt.data.toList.drop 0 = dktX3_depthAt_0 := by decide +kernel
theorem dX3_depthAt_0 : decode cX3_depthAt 0 = .ok (.aload_n 0, 1) := dk_42 (dk_at dksX3_depthAt_0 0 rfl rfl)
theorem dX3_depthAt_1 : decode cX3_depthAt 1 = .ok (.iload_n 1, 1) := dk_27 (dk_at dksX3_depthAt_0 1 rfl rfl)
theorem dX3_depthAt_2 : decode cX3_depthAt 2 = .ok (.invokevirtual 107, 3) := dk_182 0 107 (dk_at dksX3_depthAt_0 2 rfl rfl)
theorem dX3_depthAt_5 : decode cX3_depthAt 5 = .ok (.ifCond .eq 12, 3) := dk_153 0 12 (dk_at dksX3_depthAt_0 5 rfl rfl)
theorem dX3_depthAt_8 : decode cX3_depthAt 8 = .ok (.aload_n 0, 1) := dk_42 (dk_at dksX3_depthAt_0 8 rfl rfl)
theorem dX3_depthAt_9 : decode cX3_depthAt 9 = .ok (.getfield 9, 3) := dk_180 0 9 (dk_at dksX3_depthAt_0 9 rfl rfl)
theorem dX3_depthAt_12 : decode cX3_depthAt 12 = .ok (.iload_n 1, 1) := dk_27 (dk_at dksX3_depthAt_0 12 rfl rfl)
theorem dX3_depthAt_13 : decode cX3_depthAt 13 = .ok (.iaload, 1) := dk_46 (dk_at dksX3_depthAt_0 13 rfl rfl)
theorem dX3_depthAt_14 : decode cX3_depthAt 14 = .ok (.goto 4, 3) := dk_167 0 4 (dk_at dksX3_depthAt_0 14 rfl rfl)
theorem dX3_depthAt_17 : decode cX3_depthAt 17 = .ok (.iconst 0, 1) := dk_3 (dk_at dksX3_depthAt_0 17 rfl rfl)
theorem dX3_depthAt_18 : decode cX3_depthAt 18 = .ok (.ireturn, 1) := dk_172 (dk_at dksX3_depthAt_0 18 rfl rfl)
abbrev cX3_tidies : ByteArray := prog_18_method_20_code
def yX3_tidies : MethodName := ⟨RX3, "tidies", "()V"⟩
def dkwX3_tidies_4 : List UInt8 := [181, 0, 141, 177]
abbrev dktX3_tidies_4 : List UInt8 := dkwX3_tidies_4 ++ []
def dkwX3_tidies_3 : List UInt8 := [42, 180, 0, 48, 27, 42, 180, 0, 48, 28, 46, 79, 132, 1, 1, 132, 2, 1, 167, 255, 172, 42, 27]
abbrev dktX3_tidies_3 : List UInt8 := dkwX3_tidies_3 ++ dktX3_tidies_4
def dkwX3_tidies_2 : List UInt8 := [42, 180, 0, 42, 27, 42, 180, 0, 42, 28, 46, 79, 42, 180, 0, 45, 27, 42, 180, 0, 45, 28, 46, 79]
abbrev dktX3_tidies_2 : List UInt8 := dkwX3_tidies_2 ++ dktX3_tidies_3
def dkwX3_tidies_1 : List UInt8 := [180, 0, 45, 28, 46, 42, 180, 0, 97, 161, 0, 54, 42, 180, 0, 39, 27, 42, 180, 0, 39, 28, 46, 79]
abbrev dktX3_tidies_1 : List UInt8 := dkwX3_tidies_1 ++ dktX3_tidies_2
def dkwX3_tidies_0 : List UInt8 := [3, 60, 3, 61, 28, 42, 180, 0, 141, 162, 0, 82, 42, 180, 0, 48, 28, 46, 158, 0, 67, 42]
abbrev dktX3_tidies_0 : List UInt8 := dkwX3_tidies_0 ++ dktX3_tidies_1
theorem dksX3_tidies_0 : cX3_tidies.data.toList.drop 0 = dktX3_tidies_0 := by decide +kernel
theorem dksX3_tidies_1 : cX3_tidies.data.toList.drop 22 = dktX3_tidies_1 := dk_seg dksX3_tidies_0 22 rfl rfl
theorem dksX3_tidies_2 : cX3_tidies.data.toList.drop 46 = dktX3_tidies_2 := dk_seg dksX3_tidies_1 24 rfl rfl
theorem dksX3_tidies_3 : cX3_tidies.data.toList.drop 70 = dktX3_tidies_3 := dk_seg dksX3_tidies_2 24 rfl rfl
theorem dksX3_tidies_4 : cX3_tidies.data.toList.drop 93 = dktX3_tidies_4 := dk_seg dksX3_tidies_3 23 rfl rfl
theorem dX3_tidies_0 : decode cX3_tidies 0 = .ok (.iconst 0, 1) := dk_3 (dk_at dksX3_tidies_0 0 rfl rfl)
theorem dX3_tidies_1 : decode cX3_tidies 1 = .ok (.istore_n 1, 1) := dk_60 (dk_at dksX3_tidies_0 1 rfl rfl)
theorem dX3_tidies_2 : decode cX3_tidies 2 = .ok (.iconst 0, 1) := dk_3 (dk_at dksX3_tidies_0 2 rfl rfl)
theorem dX3_tidies_3 : decode cX3_tidies 3 = .ok (.istore_n 2, 1) := dk_61 (dk_at dksX3_tidies_0 3 rfl rfl)
theorem dX3_tidies_4 : decode cX3_tidies 4 = .ok (.iload_n 2, 1) := dk_28 (dk_at dksX3_tidies_0 4 rfl rfl)
theorem dX3_tidies_5 : decode cX3_tidies 5 = .ok (.aload_n 0, 1) := dk_42 (dk_at dksX3_tidies_0 5 rfl rfl)
theorem dX3_tidies_6 : decode cX3_tidies 6 = .ok (.getfield 141, 3) := dk_180 0 141 (dk_at dksX3_tidies_0 6 rfl rfl)
theorem dX3_tidies_9 : decode cX3_tidies 9 = .ok (.if_icmp .ge 82, 3) := dk_162 0 82 (dk_at dksX3_tidies_0 9 rfl rfl)
theorem dX3_tidies_12 : decode cX3_tidies 12 = .ok (.aload_n 0, 1) := dk_42 (dk_at dksX3_tidies_0 12 rfl rfl)
theorem dX3_tidies_13 : decode cX3_tidies 13 = .ok (.getfield 48, 3) := dk_180 0 48 (dk_at dksX3_tidies_0 13 rfl rfl)
theorem dX3_tidies_16 : decode cX3_tidies 16 = .ok (.iload_n 2, 1) := dk_28 (dk_at dksX3_tidies_0 16 rfl rfl)
theorem dX3_tidies_17 : decode cX3_tidies 17 = .ok (.iaload, 1) := dk_46 (dk_at dksX3_tidies_0 17 rfl rfl)
theorem dX3_tidies_18 : decode cX3_tidies 18 = .ok (.ifCond .le 67, 3) := dk_158 0 67 (dk_at dksX3_tidies_0 18 rfl rfl)
theorem dX3_tidies_21 : decode cX3_tidies 21 = .ok (.aload_n 0, 1) := dk_42 (dk_at dksX3_tidies_0 21 rfl rfl)
theorem dX3_tidies_22 : decode cX3_tidies 22 = .ok (.getfield 45, 3) := dk_180 0 45 (dk_at dksX3_tidies_1 0 rfl rfl)
theorem dX3_tidies_25 : decode cX3_tidies 25 = .ok (.iload_n 2, 1) := dk_28 (dk_at dksX3_tidies_1 3 rfl rfl)
theorem dX3_tidies_26 : decode cX3_tidies 26 = .ok (.iaload, 1) := dk_46 (dk_at dksX3_tidies_1 4 rfl rfl)
theorem dX3_tidies_27 : decode cX3_tidies 27 = .ok (.aload_n 0, 1) := dk_42 (dk_at dksX3_tidies_1 5 rfl rfl)
theorem dX3_tidies_28 : decode cX3_tidies 28 = .ok (.getfield 97, 3) := dk_180 0 97 (dk_at dksX3_tidies_1 6 rfl rfl)
theorem dX3_tidies_31 : decode cX3_tidies 31 = .ok (.if_icmp .lt 54, 3) := dk_161 0 54 (dk_at dksX3_tidies_1 9 rfl rfl)
theorem dX3_tidies_34 : decode cX3_tidies 34 = .ok (.aload_n 0, 1) := dk_42 (dk_at dksX3_tidies_1 12 rfl rfl)
theorem dX3_tidies_35 : decode cX3_tidies 35 = .ok (.getfield 39, 3) := dk_180 0 39 (dk_at dksX3_tidies_1 13 rfl rfl)
theorem dX3_tidies_38 : decode cX3_tidies 38 = .ok (.iload_n 1, 1) := dk_27 (dk_at dksX3_tidies_1 16 rfl rfl)
theorem dX3_tidies_39 : decode cX3_tidies 39 = .ok (.aload_n 0, 1) := dk_42 (dk_at dksX3_tidies_1 17 rfl rfl)
theorem dX3_tidies_40 : decode cX3_tidies 40 = .ok (.getfield 39, 3) := dk_180 0 39 (dk_at dksX3_tidies_1 18 rfl rfl)
theorem dX3_tidies_43 : decode cX3_tidies 43 = .ok (.iload_n 2, 1) := dk_28 (dk_at dksX3_tidies_1 21 rfl rfl)
theorem dX3_tidies_44 : decode cX3_tidies 44 = .ok (.iaload, 1) := dk_46 (dk_at dksX3_tidies_1 22 rfl rfl)
theorem dX3_tidies_45 : decode cX3_tidies 45 = .ok (.iastore, 1) := dk_79 (dk_at dksX3_tidies_1 23 rfl rfl)
theorem dX3_tidies_46 : decode cX3_tidies 46 = .ok (.aload_n 0, 1) := dk_42 (dk_at dksX3_tidies_2 0 rfl rfl)
theorem dX3_tidies_47 : decode cX3_tidies 47 = .ok (.getfield 42, 3) := dk_180 0 42 (dk_at dksX3_tidies_2 1 rfl rfl)
theorem dX3_tidies_50 : decode cX3_tidies 50 = .ok (.iload_n 1, 1) := dk_27 (dk_at dksX3_tidies_2 4 rfl rfl)
theorem dX3_tidies_51 : decode cX3_tidies 51 = .ok (.aload_n 0, 1) := dk_42 (dk_at dksX3_tidies_2 5 rfl rfl)
theorem dX3_tidies_52 : decode cX3_tidies 52 = .ok (.getfield 42, 3) := dk_180 0 42 (dk_at dksX3_tidies_2 6 rfl rfl)
theorem dX3_tidies_55 : decode cX3_tidies 55 = .ok (.iload_n 2, 1) := dk_28 (dk_at dksX3_tidies_2 9 rfl rfl)
theorem dX3_tidies_56 : decode cX3_tidies 56 = .ok (.iaload, 1) := dk_46 (dk_at dksX3_tidies_2 10 rfl rfl)
theorem dX3_tidies_57 : decode cX3_tidies 57 = .ok (.iastore, 1) := dk_79 (dk_at dksX3_tidies_2 11 rfl rfl)
theorem dX3_tidies_58 : decode cX3_tidies 58 = .ok (.aload_n 0, 1) := dk_42 (dk_at dksX3_tidies_2 12 rfl rfl)
theorem dX3_tidies_59 : decode cX3_tidies 59 = .ok (.getfield 45, 3) := dk_180 0 45 (dk_at dksX3_tidies_2 13 rfl rfl)
theorem dX3_tidies_62 : decode cX3_tidies 62 = .ok (.iload_n 1, 1) := dk_27 (dk_at dksX3_tidies_2 16 rfl rfl)
theorem dX3_tidies_63 : decode cX3_tidies 63 = .ok (.aload_n 0, 1) := dk_42 (dk_at dksX3_tidies_2 17 rfl rfl)
theorem dX3_tidies_64 : decode cX3_tidies 64 = .ok (.getfield 45, 3) := dk_180 0 45 (dk_at dksX3_tidies_2 18 rfl rfl)
theorem dX3_tidies_67 : decode cX3_tidies 67 = .ok (.iload_n 2, 1) := dk_28 (dk_at dksX3_tidies_2 21 rfl rfl)
theorem dX3_tidies_68 : decode cX3_tidies 68 = .ok (.iaload, 1) := dk_46 (dk_at dksX3_tidies_2 22 rfl rfl)
theorem dX3_tidies_69 : decode cX3_tidies 69 = .ok (.iastore, 1) := dk_79 (dk_at dksX3_tidies_2 23 rfl rfl)
theorem dX3_tidies_70 : decode cX3_tidies 70 = .ok (.aload_n 0, 1) := dk_42 (dk_at dksX3_tidies_3 0 rfl rfl)
theorem dX3_tidies_71 : decode cX3_tidies 71 = .ok (.getfield 48, 3) := dk_180 0 48 (dk_at dksX3_tidies_3 1 rfl rfl)
theorem dX3_tidies_74 : decode cX3_tidies 74 = .ok (.iload_n 1, 1) := dk_27 (dk_at dksX3_tidies_3 4 rfl rfl)
theorem dX3_tidies_75 : decode cX3_tidies 75 = .ok (.aload_n 0, 1) := dk_42 (dk_at dksX3_tidies_3 5 rfl rfl)
theorem dX3_tidies_76 : decode cX3_tidies 76 = .ok (.getfield 48, 3) := dk_180 0 48 (dk_at dksX3_tidies_3 6 rfl rfl)
theorem dX3_tidies_79 : decode cX3_tidies 79 = .ok (.iload_n 2, 1) := dk_28 (dk_at dksX3_tidies_3 9 rfl rfl)
theorem dX3_tidies_80 : decode cX3_tidies 80 = .ok (.iaload, 1) := dk_46 (dk_at dksX3_tidies_3 10 rfl rfl)
theorem dX3_tidies_81 : decode cX3_tidies 81 = .ok (.iastore, 1) := dk_79 (dk_at dksX3_tidies_3 11 rfl rfl)
theorem dX3_tidies_82 : decode cX3_tidies 82 = .ok (.iinc 1 1, 3) := dk_132 1 1 (dk_at dksX3_tidies_3 12 rfl rfl)
theorem dX3_tidies_85 : decode cX3_tidies 85 = .ok (.iinc 2 1, 3) := dk_132 2 1 (dk_at dksX3_tidies_3 15 rfl rfl)
theorem dX3_tidies_88 : decode cX3_tidies 88 = .ok (.goto (-84), 3) := dk_167 255 172 (dk_at dksX3_tidies_3 18 rfl rfl)
theorem dX3_tidies_91 : decode cX3_tidies 91 = .ok (.aload_n 0, 1) := dk_42 (dk_at dksX3_tidies_3 21 rfl rfl)
theorem dX3_tidies_92 : decode cX3_tidies 92 = .ok (.iload_n 1, 1) := dk_27 (dk_at dksX3_tidies_3 22 rfl rfl)
theorem dX3_tidies_93 : decode cX3_tidies 93 = .ok (.putfield 141, 3) := dk_181 0 141 (dk_at dksX3_tidies_4 0 rfl rfl)
theorem dX3_tidies_96 : decode cX3_tidies 96 = .ok (.return_, 1) := dk_177 (dk_at dksX3_tidies_4 3 rfl rfl)
abbrev cX3_day : ByteArray := prog_18_method_17_code
def yX3_day : MethodName := ⟨RX3, "day", "()I"⟩
def dkwX3_day_0 : List UInt8 := [42, 3, 181, 0, 81, 42, 180, 0, 97, 172]
abbrev dktX3_day_0 : List UInt8 := dkwX3_day_0 ++ []
theorem dksX3_day_0 : cX3_day.data.toList.drop 0 = dktX3_day_0 := by decide +kernel
theorem dX3_day_0 : decode cX3_day 0 = .ok (.aload_n 0, 1) := dk_42 (dk_at dksX3_day_0 0 rfl rfl)
theorem dX3_day_1 : decode cX3_day 1 = .ok (.iconst 0, 1) := dk_3 (dk_at dksX3_day_0 1 rfl rfl)
theorem dX3_day_2 : decode cX3_day 2 = .ok (.putfield 81, 3) := dk_181 0 81 (dk_at dksX3_day_0 2 rfl rfl)
theorem dX3_day_5 : decode cX3_day 5 = .ok (.aload_n 0, 1) := dk_42 (dk_at dksX3_day_0 5 rfl rfl)
theorem dX3_day_6 : decode cX3_day 6 = .ok (.getfield 97, 3) := dk_180 0 97 (dk_at dksX3_day_0 6 rfl rfl)
theorem dX3_day_9 : decode cX3_day 9 = .ok (.ireturn, 1) := dk_172 (dk_at dksX3_day_0 9 rfl rfl)
abbrev cX3_addGround : ByteArray := prog_18_method_18_code
def yX3_addGround : MethodName := ⟨RX3, "addGround", "(II)I"⟩
def dkwX3_addGround_3 : List UInt8 := [180, 0, 91, 4, 96, 181, 0, 91, 42, 180, 0, 91, 4, 100, 172]
abbrev dktX3_addGround_3 : List UInt8 := dkwX3_addGround_3 ++ []
def dkwX3_addGround_2 : List UInt8 := [42, 180, 0, 30, 42, 180, 0, 91, 27, 79, 42, 180, 0, 33, 42, 180, 0, 91, 28, 79, 42, 89]
abbrev dktX3_addGround_2 : List UInt8 := dkwX3_addGround_2 ++ dktX3_addGround_3
def dkwX3_addGround_1 : List UInt8 := [167, 0, 16, 42, 180, 0, 91, 6, 160, 0, 7, 5, 167, 0, 4, 3, 182, 0, 103, 154, 0, 5, 3, 172]
abbrev dktX3_addGround_1 : List UInt8 := dkwX3_addGround_1 ++ dktX3_addGround_2
def dkwX3_addGround_0 : List UInt8 := [42, 27, 4, 17, 19, 136, 184, 0, 87, 153, 0, 13, 28, 3, 16, 90, 184, 0, 87, 154, 0, 7, 4]
abbrev dktX3_addGround_0 : List UInt8 := dkwX3_addGround_0 ++ dktX3_addGround_1
theorem dksX3_addGround_0 : cX3_addGround.data.toList.drop 0 = dktX3_addGround_0 := by decide +kernel
theorem dksX3_addGround_1 : cX3_addGround.data.toList.drop 23 = dktX3_addGround_1 := dk_seg dksX3_addGround_0 23 rfl rfl
theorem dksX3_addGround_2 : cX3_addGround.data.toList.drop 47 = dktX3_addGround_2 := dk_seg dksX3_addGround_1 24 rfl rfl
theorem dksX3_addGround_3 : cX3_addGround.data.toList.drop 69 = dktX3_addGround_3 := dk_seg dksX3_addGround_2 22 rfl rfl
theorem dX3_addGround_0 : decode cX3_addGround 0 = .ok (.aload_n 0, 1) := dk_42 (dk_at dksX3_addGround_0 0 rfl rfl)
theorem dX3_addGround_1 : decode cX3_addGround 1 = .ok (.iload_n 1, 1) := dk_27 (dk_at dksX3_addGround_0 1 rfl rfl)
theorem dX3_addGround_2 : decode cX3_addGround 2 = .ok (.iconst 1, 1) := dk_4 (dk_at dksX3_addGround_0 2 rfl rfl)
theorem dX3_addGround_3 : decode cX3_addGround 3 = .ok (.sipush 5000, 3) := dk_17 19 136 (dk_at dksX3_addGround_0 3 rfl rfl)
theorem dX3_addGround_6 : decode cX3_addGround 6 = .ok (.invokestatic 87, 3) := dk_184 0 87 (dk_at dksX3_addGround_0 6 rfl rfl)
theorem dX3_addGround_9 : decode cX3_addGround 9 = .ok (.ifCond .eq 13, 3) := dk_153 0 13 (dk_at dksX3_addGround_0 9 rfl rfl)
theorem dX3_addGround_12 : decode cX3_addGround 12 = .ok (.iload_n 2, 1) := dk_28 (dk_at dksX3_addGround_0 12 rfl rfl)
theorem dX3_addGround_13 : decode cX3_addGround 13 = .ok (.iconst 0, 1) := dk_3 (dk_at dksX3_addGround_0 13 rfl rfl)
theorem dX3_addGround_14 : decode cX3_addGround 14 = .ok (.bipush 90, 2) := dk_16 90 (dk_at dksX3_addGround_0 14 rfl rfl)
theorem dX3_addGround_16 : decode cX3_addGround 16 = .ok (.invokestatic 87, 3) := dk_184 0 87 (dk_at dksX3_addGround_0 16 rfl rfl)
theorem dX3_addGround_19 : decode cX3_addGround 19 = .ok (.ifCond .ne 7, 3) := dk_154 0 7 (dk_at dksX3_addGround_0 19 rfl rfl)
theorem dX3_addGround_22 : decode cX3_addGround 22 = .ok (.iconst 1, 1) := dk_4 (dk_at dksX3_addGround_0 22 rfl rfl)
theorem dX3_addGround_23 : decode cX3_addGround 23 = .ok (.goto 16, 3) := dk_167 0 16 (dk_at dksX3_addGround_1 0 rfl rfl)
theorem dX3_addGround_26 : decode cX3_addGround 26 = .ok (.aload_n 0, 1) := dk_42 (dk_at dksX3_addGround_1 3 rfl rfl)
theorem dX3_addGround_27 : decode cX3_addGround 27 = .ok (.getfield 91, 3) := dk_180 0 91 (dk_at dksX3_addGround_1 4 rfl rfl)
theorem dX3_addGround_30 : decode cX3_addGround 30 = .ok (.iconst 3, 1) := dk_6 (dk_at dksX3_addGround_1 7 rfl rfl)
theorem dX3_addGround_31 : decode cX3_addGround 31 = .ok (.if_icmp .ne 7, 3) := dk_160 0 7 (dk_at dksX3_addGround_1 8 rfl rfl)
theorem dX3_addGround_34 : decode cX3_addGround 34 = .ok (.iconst 2, 1) := dk_5 (dk_at dksX3_addGround_1 11 rfl rfl)
theorem dX3_addGround_35 : decode cX3_addGround 35 = .ok (.goto 4, 3) := dk_167 0 4 (dk_at dksX3_addGround_1 12 rfl rfl)
theorem dX3_addGround_38 : decode cX3_addGround 38 = .ok (.iconst 0, 1) := dk_3 (dk_at dksX3_addGround_1 15 rfl rfl)
theorem dX3_addGround_39 : decode cX3_addGround 39 = .ok (.invokevirtual 103, 3) := dk_182 0 103 (dk_at dksX3_addGround_1 16 rfl rfl)
theorem dX3_addGround_42 : decode cX3_addGround 42 = .ok (.ifCond .ne 5, 3) := dk_154 0 5 (dk_at dksX3_addGround_1 19 rfl rfl)
theorem dX3_addGround_45 : decode cX3_addGround 45 = .ok (.iconst 0, 1) := dk_3 (dk_at dksX3_addGround_1 22 rfl rfl)
theorem dX3_addGround_46 : decode cX3_addGround 46 = .ok (.ireturn, 1) := dk_172 (dk_at dksX3_addGround_1 23 rfl rfl)
theorem dX3_addGround_47 : decode cX3_addGround 47 = .ok (.aload_n 0, 1) := dk_42 (dk_at dksX3_addGround_2 0 rfl rfl)
theorem dX3_addGround_48 : decode cX3_addGround 48 = .ok (.getfield 30, 3) := dk_180 0 30 (dk_at dksX3_addGround_2 1 rfl rfl)
theorem dX3_addGround_51 : decode cX3_addGround 51 = .ok (.aload_n 0, 1) := dk_42 (dk_at dksX3_addGround_2 4 rfl rfl)
theorem dX3_addGround_52 : decode cX3_addGround 52 = .ok (.getfield 91, 3) := dk_180 0 91 (dk_at dksX3_addGround_2 5 rfl rfl)
theorem dX3_addGround_55 : decode cX3_addGround 55 = .ok (.iload_n 1, 1) := dk_27 (dk_at dksX3_addGround_2 8 rfl rfl)
theorem dX3_addGround_56 : decode cX3_addGround 56 = .ok (.iastore, 1) := dk_79 (dk_at dksX3_addGround_2 9 rfl rfl)
theorem dX3_addGround_57 : decode cX3_addGround 57 = .ok (.aload_n 0, 1) := dk_42 (dk_at dksX3_addGround_2 10 rfl rfl)
theorem dX3_addGround_58 : decode cX3_addGround 58 = .ok (.getfield 33, 3) := dk_180 0 33 (dk_at dksX3_addGround_2 11 rfl rfl)
theorem dX3_addGround_61 : decode cX3_addGround 61 = .ok (.aload_n 0, 1) := dk_42 (dk_at dksX3_addGround_2 14 rfl rfl)
theorem dX3_addGround_62 : decode cX3_addGround 62 = .ok (.getfield 91, 3) := dk_180 0 91 (dk_at dksX3_addGround_2 15 rfl rfl)
theorem dX3_addGround_65 : decode cX3_addGround 65 = .ok (.iload_n 2, 1) := dk_28 (dk_at dksX3_addGround_2 18 rfl rfl)
theorem dX3_addGround_66 : decode cX3_addGround 66 = .ok (.iastore, 1) := dk_79 (dk_at dksX3_addGround_2 19 rfl rfl)
theorem dX3_addGround_67 : decode cX3_addGround 67 = .ok (.aload_n 0, 1) := dk_42 (dk_at dksX3_addGround_2 20 rfl rfl)
theorem dX3_addGround_68 : decode cX3_addGround 68 = .ok (.dup, 1) := dk_89 (dk_at dksX3_addGround_2 21 rfl rfl)
theorem dX3_addGround_69 : decode cX3_addGround 69 = .ok (.getfield 91, 3) := dk_180 0 91 (dk_at dksX3_addGround_3 0 rfl rfl)
theorem dX3_addGround_72 : decode cX3_addGround 72 = .ok (.iconst 1, 1) := dk_4 (dk_at dksX3_addGround_3 3 rfl rfl)
theorem dX3_addGround_73 : decode cX3_addGround 73 = .ok (.iadd, 1) := dk_96 (dk_at dksX3_addGround_3 4 rfl rfl)
theorem dX3_addGround_74 : decode cX3_addGround 74 = .ok (.putfield 91, 3) := dk_181 0 91 (dk_at dksX3_addGround_3 5 rfl rfl)
theorem dX3_addGround_77 : decode cX3_addGround 77 = .ok (.aload_n 0, 1) := dk_42 (dk_at dksX3_addGround_3 8 rfl rfl)
theorem dX3_addGround_78 : decode cX3_addGround 78 = .ok (.getfield 91, 3) := dk_180 0 91 (dk_at dksX3_addGround_3 9 rfl rfl)
theorem dX3_addGround_81 : decode cX3_addGround 81 = .ok (.iconst 1, 1) := dk_4 (dk_at dksX3_addGround_3 12 rfl rfl)
theorem dX3_addGround_82 : decode cX3_addGround 82 = .ok (.isub, 1) := dk_100 (dk_at dksX3_addGround_3 13 rfl rfl)
theorem dX3_addGround_83 : decode cX3_addGround 83 = .ok (.ireturn, 1) := dk_172 (dk_at dksX3_addGround_3 14 rfl rfl)
abbrev cX3_setTide : ByteArray := prog_18_method_19_code
def yX3_setTide : MethodName := ⟨RX3, "setTide", "(I)I"⟩
def dkwX3_setTide_1 : List UInt8 := [182, 0, 103, 153, 0, 7, 27, 167, 0, 7, 42, 180, 0, 138, 181, 0, 138, 28, 172]
abbrev dktX3_setTide_1 : List UInt8 := dkwX3_setTide_1 ++ []
def dkwX3_setTide_0 : List UInt8 := [42, 180, 0, 138, 61, 42, 42, 27, 3, 16, 90, 184, 0, 87, 153, 0, 7, 3, 167, 0, 4, 4]
abbrev dktX3_setTide_0 : List UInt8 := dkwX3_setTide_0 ++ dktX3_setTide_1
theorem dksX3_setTide_0 : cX3_setTide.data.toList.drop 0 = dktX3_setTide_0 := by decide +kernel
theorem dksX3_setTide_1 : cX3_setTide.data.toList.drop 22 = dktX3_setTide_1 := dk_seg dksX3_setTide_0 22 rfl rfl
theorem dX3_setTide_0 : decode cX3_setTide 0 = .ok (.aload_n 0, 1) := dk_42 (dk_at dksX3_setTide_0 0 rfl rfl)
theorem dX3_setTide_1 : decode cX3_setTide 1 = .ok (.getfield 138, 3) := dk_180 0 138 (dk_at dksX3_setTide_0 1 rfl rfl)
theorem dX3_setTide_4 : decode cX3_setTide 4 = .ok (.istore_n 2, 1) := dk_61 (dk_at dksX3_setTide_0 4 rfl rfl)
theorem dX3_setTide_5 : decode cX3_setTide 5 = .ok (.aload_n 0, 1) := dk_42 (dk_at dksX3_setTide_0 5 rfl rfl)
theorem dX3_setTide_6 : decode cX3_setTide 6 = .ok (.aload_n 0, 1) := dk_42 (dk_at dksX3_setTide_0 6 rfl rfl)
theorem dX3_setTide_7 : decode cX3_setTide 7 = .ok (.iload_n 1, 1) := dk_27 (dk_at dksX3_setTide_0 7 rfl rfl)
theorem dX3_setTide_8 : decode cX3_setTide 8 = .ok (.iconst 0, 1) := dk_3 (dk_at dksX3_setTide_0 8 rfl rfl)
theorem dX3_setTide_9 : decode cX3_setTide 9 = .ok (.bipush 90, 2) := dk_16 90 (dk_at dksX3_setTide_0 9 rfl rfl)
theorem dX3_setTide_11 : decode cX3_setTide 11 = .ok (.invokestatic 87, 3) := dk_184 0 87 (dk_at dksX3_setTide_0 11 rfl rfl)
theorem dX3_setTide_14 : decode cX3_setTide 14 = .ok (.ifCond .eq 7, 3) := dk_153 0 7 (dk_at dksX3_setTide_0 14 rfl rfl)
theorem dX3_setTide_17 : decode cX3_setTide 17 = .ok (.iconst 0, 1) := dk_3 (dk_at dksX3_setTide_0 17 rfl rfl)
theorem dX3_setTide_18 : decode cX3_setTide 18 = .ok (.goto 4, 3) := dk_167 0 4 (dk_at dksX3_setTide_0 18 rfl rfl)
theorem dX3_setTide_21 : decode cX3_setTide 21 = .ok (.iconst 1, 1) := dk_4 (dk_at dksX3_setTide_0 21 rfl rfl)
theorem dX3_setTide_22 : decode cX3_setTide 22 = .ok (.invokevirtual 103, 3) := dk_182 0 103 (dk_at dksX3_setTide_1 0 rfl rfl)
theorem dX3_setTide_25 : decode cX3_setTide 25 = .ok (.ifCond .eq 7, 3) := dk_153 0 7 (dk_at dksX3_setTide_1 3 rfl rfl)
theorem dX3_setTide_28 : decode cX3_setTide 28 = .ok (.iload_n 1, 1) := dk_27 (dk_at dksX3_setTide_1 6 rfl rfl)
theorem dX3_setTide_29 : decode cX3_setTide 29 = .ok (.goto 7, 3) := dk_167 0 7 (dk_at dksX3_setTide_1 7 rfl rfl)
theorem dX3_setTide_32 : decode cX3_setTide 32 = .ok (.aload_n 0, 1) := dk_42 (dk_at dksX3_setTide_1 10 rfl rfl)
theorem dX3_setTide_33 : decode cX3_setTide 33 = .ok (.getfield 138, 3) := dk_180 0 138 (dk_at dksX3_setTide_1 11 rfl rfl)
theorem dX3_setTide_36 : decode cX3_setTide 36 = .ok (.putfield 138, 3) := dk_181 0 138 (dk_at dksX3_setTide_1 14 rfl rfl)
theorem dX3_setTide_39 : decode cX3_setTide 39 = .ok (.iload_n 2, 1) := dk_28 (dk_at dksX3_setTide_1 17 rfl rfl)
theorem dX3_setTide_40 : decode cX3_setTide 40 = .ok (.ireturn, 1) := dk_172 (dk_at dksX3_setTide_1 18 rfl rfl)
abbrev cX3_permit : ByteArray := prog_18_method_21_code
def yX3_permit : MethodName := ⟨RX3, "permit", "(IIII)I"⟩
def dkwX3_permit_6 : List UInt8 := [181, 0, 141, 42, 180, 0, 141, 172]
abbrev dktX3_permit_6 : List UInt8 := dkwX3_permit_6 ++ []
def dkwX3_permit_5 : List UInt8 := [180, 0, 141, 29, 79, 42, 180, 0, 48, 42, 180, 0, 141, 21, 4, 79, 42, 89, 180, 0, 141, 4, 96]
abbrev dktX3_permit_5 : List UInt8 := dkwX3_permit_5 ++ dktX3_permit_6
def dkwX3_permit_4 : List UInt8 := [180, 0, 39, 42, 180, 0, 141, 27, 79, 42, 180, 0, 42, 42, 180, 0, 141, 28, 79, 42, 180, 0, 45, 42]
abbrev dktX3_permit_4 : List UInt8 := dkwX3_permit_4 ++ dktX3_permit_5
def dkwX3_permit_3 : List UInt8 := [42, 180, 0, 141, 16, 8, 160, 0, 7, 6, 167, 0, 4, 3, 182, 0, 103, 154, 0, 5, 3, 172, 42]
abbrev dktX3_permit_3 : List UInt8 := dkwX3_permit_3 ++ dktX3_permit_4
def dkwX3_permit_2 : List UInt8 := [54, 5, 42, 42, 27, 182, 0, 144, 154, 0, 7, 4, 167, 0, 26, 21, 5, 153, 0, 7, 5, 167, 0, 17]
abbrev dktX3_permit_2 : List UInt8 := dkwX3_permit_2 ++ dktX3_permit_3
def dkwX3_permit_1 : List UInt8 := [184, 0, 87, 153, 0, 15, 21, 4, 4, 17, 3, 231, 184, 0, 87, 154, 0, 7, 4, 167, 0, 4, 3]
abbrev dktX3_permit_1 : List UInt8 := dkwX3_permit_1 ++ dktX3_permit_2
def dkwX3_permit_0 : List UInt8 := [28, 3, 17, 1, 144, 184, 0, 87, 153, 0, 34, 29, 28, 161, 0, 29, 29, 42, 180, 0, 97, 17, 1, 144]
abbrev dktX3_permit_0 : List UInt8 := dkwX3_permit_0 ++ dktX3_permit_1
theorem dksX3_permit_0 : cX3_permit.data.toList.drop 0 = dktX3_permit_0 := by decide +kernel
theorem dksX3_permit_1 : cX3_permit.data.toList.drop 24 = dktX3_permit_1 := dk_seg dksX3_permit_0 24 rfl rfl
theorem dksX3_permit_2 : cX3_permit.data.toList.drop 47 = dktX3_permit_2 := dk_seg dksX3_permit_1 23 rfl rfl
theorem dksX3_permit_3 : cX3_permit.data.toList.drop 71 = dktX3_permit_3 := dk_seg dksX3_permit_2 24 rfl rfl
theorem dksX3_permit_4 : cX3_permit.data.toList.drop 94 = dktX3_permit_4 := dk_seg dksX3_permit_3 23 rfl rfl
theorem dksX3_permit_5 : cX3_permit.data.toList.drop 118 = dktX3_permit_5 := dk_seg dksX3_permit_4 24 rfl rfl
theorem dksX3_permit_6 : cX3_permit.data.toList.drop 141 = dktX3_permit_6 := dk_seg dksX3_permit_5 23 rfl rfl
theorem dX3_permit_0 : decode cX3_permit 0 = .ok (.iload_n 2, 1) := dk_28 (dk_at dksX3_permit_0 0 rfl rfl)
theorem dX3_permit_1 : decode cX3_permit 1 = .ok (.iconst 0, 1) := dk_3 (dk_at dksX3_permit_0 1 rfl rfl)
theorem dX3_permit_2 : decode cX3_permit 2 = .ok (.sipush 400, 3) := dk_17 1 144 (dk_at dksX3_permit_0 2 rfl rfl)
theorem dX3_permit_5 : decode cX3_permit 5 = .ok (.invokestatic 87, 3) := dk_184 0 87 (dk_at dksX3_permit_0 5 rfl rfl)
theorem dX3_permit_8 : decode cX3_permit 8 = .ok (.ifCond .eq 34, 3) := dk_153 0 34 (dk_at dksX3_permit_0 8 rfl rfl)
theorem dX3_permit_11 : decode cX3_permit 11 = .ok (.iload_n 3, 1) := dk_29 (dk_at dksX3_permit_0 11 rfl rfl)
theorem dX3_permit_12 : decode cX3_permit 12 = .ok (.iload_n 2, 1) := dk_28 (dk_at dksX3_permit_0 12 rfl rfl)
theorem dX3_permit_13 : decode cX3_permit 13 = .ok (.if_icmp .lt 29, 3) := dk_161 0 29 (dk_at dksX3_permit_0 13 rfl rfl)
theorem dX3_permit_16 : decode cX3_permit 16 = .ok (.iload_n 3, 1) := dk_29 (dk_at dksX3_permit_0 16 rfl rfl)
theorem dX3_permit_17 : decode cX3_permit 17 = .ok (.aload_n 0, 1) := dk_42 (dk_at dksX3_permit_0 17 rfl rfl)
theorem dX3_permit_18 : decode cX3_permit 18 = .ok (.getfield 97, 3) := dk_180 0 97 (dk_at dksX3_permit_0 18 rfl rfl)
theorem dX3_permit_21 : decode cX3_permit 21 = .ok (.sipush 400, 3) := dk_17 1 144 (dk_at dksX3_permit_0 21 rfl rfl)
theorem dX3_permit_24 : decode cX3_permit 24 = .ok (.invokestatic 87, 3) := dk_184 0 87 (dk_at dksX3_permit_1 0 rfl rfl)
theorem dX3_permit_27 : decode cX3_permit 27 = .ok (.ifCond .eq 15, 3) := dk_153 0 15 (dk_at dksX3_permit_1 3 rfl rfl)
theorem dX3_permit_30 : decode cX3_permit 30 = .ok (.iload 4, 2) := dk_21 4 (dk_at dksX3_permit_1 6 rfl rfl)
theorem dX3_permit_32 : decode cX3_permit 32 = .ok (.iconst 1, 1) := dk_4 (dk_at dksX3_permit_1 8 rfl rfl)
theorem dX3_permit_33 : decode cX3_permit 33 = .ok (.sipush 999, 3) := dk_17 3 231 (dk_at dksX3_permit_1 9 rfl rfl)
theorem dX3_permit_36 : decode cX3_permit 36 = .ok (.invokestatic 87, 3) := dk_184 0 87 (dk_at dksX3_permit_1 12 rfl rfl)
theorem dX3_permit_39 : decode cX3_permit 39 = .ok (.ifCond .ne 7, 3) := dk_154 0 7 (dk_at dksX3_permit_1 15 rfl rfl)
theorem dX3_permit_42 : decode cX3_permit 42 = .ok (.iconst 1, 1) := dk_4 (dk_at dksX3_permit_1 18 rfl rfl)
theorem dX3_permit_43 : decode cX3_permit 43 = .ok (.goto 4, 3) := dk_167 0 4 (dk_at dksX3_permit_1 19 rfl rfl)
theorem dX3_permit_46 : decode cX3_permit 46 = .ok (.iconst 0, 1) := dk_3 (dk_at dksX3_permit_1 22 rfl rfl)
theorem dX3_permit_47 : decode cX3_permit 47 = .ok (.istore 5, 2) := dk_54 5 (dk_at dksX3_permit_2 0 rfl rfl)
theorem dX3_permit_49 : decode cX3_permit 49 = .ok (.aload_n 0, 1) := dk_42 (dk_at dksX3_permit_2 2 rfl rfl)
theorem dX3_permit_50 : decode cX3_permit 50 = .ok (.aload_n 0, 1) := dk_42 (dk_at dksX3_permit_2 3 rfl rfl)
theorem dX3_permit_51 : decode cX3_permit 51 = .ok (.iload_n 1, 1) := dk_27 (dk_at dksX3_permit_2 4 rfl rfl)
theorem dX3_permit_52 : decode cX3_permit 52 = .ok (.invokevirtual 144, 3) := dk_182 0 144 (dk_at dksX3_permit_2 5 rfl rfl)
theorem dX3_permit_55 : decode cX3_permit 55 = .ok (.ifCond .ne 7, 3) := dk_154 0 7 (dk_at dksX3_permit_2 8 rfl rfl)
theorem dX3_permit_58 : decode cX3_permit 58 = .ok (.iconst 1, 1) := dk_4 (dk_at dksX3_permit_2 11 rfl rfl)
theorem dX3_permit_59 : decode cX3_permit 59 = .ok (.goto 26, 3) := dk_167 0 26 (dk_at dksX3_permit_2 12 rfl rfl)
theorem dX3_permit_62 : decode cX3_permit 62 = .ok (.iload 5, 2) := dk_21 5 (dk_at dksX3_permit_2 15 rfl rfl)
theorem dX3_permit_64 : decode cX3_permit 64 = .ok (.ifCond .eq 7, 3) := dk_153 0 7 (dk_at dksX3_permit_2 17 rfl rfl)
theorem dX3_permit_67 : decode cX3_permit 67 = .ok (.iconst 2, 1) := dk_5 (dk_at dksX3_permit_2 20 rfl rfl)
theorem dX3_permit_68 : decode cX3_permit 68 = .ok (.goto 17, 3) := dk_167 0 17 (dk_at dksX3_permit_2 21 rfl rfl)
theorem dX3_permit_71 : decode cX3_permit 71 = .ok (.aload_n 0, 1) := dk_42 (dk_at dksX3_permit_3 0 rfl rfl)
theorem dX3_permit_72 : decode cX3_permit 72 = .ok (.getfield 141, 3) := dk_180 0 141 (dk_at dksX3_permit_3 1 rfl rfl)
theorem dX3_permit_75 : decode cX3_permit 75 = .ok (.bipush 8, 2) := dk_16 8 (dk_at dksX3_permit_3 4 rfl rfl)
theorem dX3_permit_77 : decode cX3_permit 77 = .ok (.if_icmp .ne 7, 3) := dk_160 0 7 (dk_at dksX3_permit_3 6 rfl rfl)
theorem dX3_permit_80 : decode cX3_permit 80 = .ok (.iconst 3, 1) := dk_6 (dk_at dksX3_permit_3 9 rfl rfl)
theorem dX3_permit_81 : decode cX3_permit 81 = .ok (.goto 4, 3) := dk_167 0 4 (dk_at dksX3_permit_3 10 rfl rfl)
theorem dX3_permit_84 : decode cX3_permit 84 = .ok (.iconst 0, 1) := dk_3 (dk_at dksX3_permit_3 13 rfl rfl)
theorem dX3_permit_85 : decode cX3_permit 85 = .ok (.invokevirtual 103, 3) := dk_182 0 103 (dk_at dksX3_permit_3 14 rfl rfl)
theorem dX3_permit_88 : decode cX3_permit 88 = .ok (.ifCond .ne 5, 3) := dk_154 0 5 (dk_at dksX3_permit_3 17 rfl rfl)
theorem dX3_permit_91 : decode cX3_permit 91 = .ok (.iconst 0, 1) := dk_3 (dk_at dksX3_permit_3 20 rfl rfl)
theorem dX3_permit_92 : decode cX3_permit 92 = .ok (.ireturn, 1) := dk_172 (dk_at dksX3_permit_3 21 rfl rfl)
theorem dX3_permit_93 : decode cX3_permit 93 = .ok (.aload_n 0, 1) := dk_42 (dk_at dksX3_permit_3 22 rfl rfl)
theorem dX3_permit_94 : decode cX3_permit 94 = .ok (.getfield 39, 3) := dk_180 0 39 (dk_at dksX3_permit_4 0 rfl rfl)
theorem dX3_permit_97 : decode cX3_permit 97 = .ok (.aload_n 0, 1) := dk_42 (dk_at dksX3_permit_4 3 rfl rfl)
theorem dX3_permit_98 : decode cX3_permit 98 = .ok (.getfield 141, 3) := dk_180 0 141 (dk_at dksX3_permit_4 4 rfl rfl)
theorem dX3_permit_101 : decode cX3_permit 101 = .ok (.iload_n 1, 1) := dk_27 (dk_at dksX3_permit_4 7 rfl rfl)
theorem dX3_permit_102 : decode cX3_permit 102 = .ok (.iastore, 1) := dk_79 (dk_at dksX3_permit_4 8 rfl rfl)
theorem dX3_permit_103 : decode cX3_permit 103 = .ok (.aload_n 0, 1) := dk_42 (dk_at dksX3_permit_4 9 rfl rfl)
theorem dX3_permit_104 : decode cX3_permit 104 = .ok (.getfield 42, 3) := dk_180 0 42 (dk_at dksX3_permit_4 10 rfl rfl)
theorem dX3_permit_107 : decode cX3_permit 107 = .ok (.aload_n 0, 1) := dk_42 (dk_at dksX3_permit_4 13 rfl rfl)
theorem dX3_permit_108 : decode cX3_permit 108 = .ok (.getfield 141, 3) := dk_180 0 141 (dk_at dksX3_permit_4 14 rfl rfl)
theorem dX3_permit_111 : decode cX3_permit 111 = .ok (.iload_n 2, 1) := dk_28 (dk_at dksX3_permit_4 17 rfl rfl)
theorem dX3_permit_112 : decode cX3_permit 112 = .ok (.iastore, 1) := dk_79 (dk_at dksX3_permit_4 18 rfl rfl)
theorem dX3_permit_113 : decode cX3_permit 113 = .ok (.aload_n 0, 1) := dk_42 (dk_at dksX3_permit_4 19 rfl rfl)
theorem dX3_permit_114 : decode cX3_permit 114 = .ok (.getfield 45, 3) := dk_180 0 45 (dk_at dksX3_permit_4 20 rfl rfl)
theorem dX3_permit_117 : decode cX3_permit 117 = .ok (.aload_n 0, 1) := dk_42 (dk_at dksX3_permit_4 23 rfl rfl)
theorem dX3_permit_118 : decode cX3_permit 118 = .ok (.getfield 141, 3) := dk_180 0 141 (dk_at dksX3_permit_5 0 rfl rfl)
theorem dX3_permit_121 : decode cX3_permit 121 = .ok (.iload_n 3, 1) := dk_29 (dk_at dksX3_permit_5 3 rfl rfl)
theorem dX3_permit_122 : decode cX3_permit 122 = .ok (.iastore, 1) := dk_79 (dk_at dksX3_permit_5 4 rfl rfl)
theorem dX3_permit_123 : decode cX3_permit 123 = .ok (.aload_n 0, 1) := dk_42 (dk_at dksX3_permit_5 5 rfl rfl)
theorem dX3_permit_124 : decode cX3_permit 124 = .ok (.getfield 48, 3) := dk_180 0 48 (dk_at dksX3_permit_5 6 rfl rfl)
theorem dX3_permit_127 : decode cX3_permit 127 = .ok (.aload_n 0, 1) := dk_42 (dk_at dksX3_permit_5 9 rfl rfl)
theorem dX3_permit_128 : decode cX3_permit 128 = .ok (.getfield 141, 3) := dk_180 0 141 (dk_at dksX3_permit_5 10 rfl rfl)
theorem dX3_permit_131 : decode cX3_permit 131 = .ok (.iload 4, 2) := dk_21 4 (dk_at dksX3_permit_5 13 rfl rfl)
theorem dX3_permit_133 : decode cX3_permit 133 = .ok (.iastore, 1) := dk_79 (dk_at dksX3_permit_5 15 rfl rfl)
theorem dX3_permit_134 : decode cX3_permit 134 = .ok (.aload_n 0, 1) := dk_42 (dk_at dksX3_permit_5 16 rfl rfl)
theorem dX3_permit_135 : decode cX3_permit 135 = .ok (.dup, 1) := dk_89 (dk_at dksX3_permit_5 17 rfl rfl)
theorem dX3_permit_136 : decode cX3_permit 136 = .ok (.getfield 141, 3) := dk_180 0 141 (dk_at dksX3_permit_5 18 rfl rfl)
theorem dX3_permit_139 : decode cX3_permit 139 = .ok (.iconst 1, 1) := dk_4 (dk_at dksX3_permit_5 21 rfl rfl)
theorem dX3_permit_140 : decode cX3_permit 140 = .ok (.iadd, 1) := dk_96 (dk_at dksX3_permit_5 22 rfl rfl)
theorem dX3_permit_141 : decode cX3_permit 141 = .ok (.putfield 141, 3) := dk_181 0 141 (dk_at dksX3_permit_6 0 rfl rfl)
theorem dX3_permit_144 : decode cX3_permit 144 = .ok (.aload_n 0, 1) := dk_42 (dk_at dksX3_permit_6 3 rfl rfl)
theorem dX3_permit_145 : decode cX3_permit 145 = .ok (.getfield 141, 3) := dk_180 0 141 (dk_at dksX3_permit_6 4 rfl rfl)
theorem dX3_permit_148 : decode cX3_permit 148 = .ok (.ireturn, 1) := dk_172 (dk_at dksX3_permit_6 7 rfl rfl)
abbrev cX3_isGround : ByteArray := prog_18_method_6_code
def yX3_isGround : MethodName := ⟨RX3, "isGround", "(I)Z"⟩
def dkwX3_isGround_0 : List UInt8 := [27, 3, 42, 180, 0, 91, 4, 100, 184, 0, 87, 172]
abbrev dktX3_isGround_0 : List UInt8 := dkwX3_isGround_0 ++ []
theorem dksX3_isGround_0 : cX3_isGround.data.toList.drop 0 = dktX3_isGround_0 := by decide +kernel
theorem dX3_isGround_0 : decode cX3_isGround 0 = .ok (.iload_n 1, 1) := dk_27 (dk_at dksX3_isGround_0 0 rfl rfl)
theorem dX3_isGround_1 : decode cX3_isGround 1 = .ok (.iconst 0, 1) := dk_3 (dk_at dksX3_isGround_0 1 rfl rfl)
theorem dX3_isGround_2 : decode cX3_isGround 2 = .ok (.aload_n 0, 1) := dk_42 (dk_at dksX3_isGround_0 2 rfl rfl)
theorem dX3_isGround_3 : decode cX3_isGround 3 = .ok (.getfield 91, 3) := dk_180 0 91 (dk_at dksX3_isGround_0 3 rfl rfl)
theorem dX3_isGround_6 : decode cX3_isGround 6 = .ok (.iconst 1, 1) := dk_4 (dk_at dksX3_isGround_0 6 rfl rfl)
theorem dX3_isGround_7 : decode cX3_isGround 7 = .ok (.isub, 1) := dk_100 (dk_at dksX3_isGround_0 7 rfl rfl)
theorem dX3_isGround_8 : decode cX3_isGround 8 = .ok (.invokestatic 87, 3) := dk_184 0 87 (dk_at dksX3_isGround_0 8 rfl rfl)
theorem dX3_isGround_11 : decode cX3_isGround 11 = .ok (.ireturn, 1) := dk_172 (dk_at dksX3_isGround_0 11 rfl rfl)
abbrev cX3_permitted : ByteArray := prog_18_method_24_code
def yX3_permitted : MethodName := ⟨RX3, "permitted", "(I)I"⟩
def dkwX3_permitted_1 : List UInt8 := [182, 0, 151, 167, 0, 4, 3, 172]
abbrev dktX3_permitted_1 : List UInt8 := dkwX3_permitted_1 ++ []
def dkwX3_permitted_0 : List UInt8 := [42, 42, 27, 182, 0, 144, 153, 0, 7, 3, 167, 0, 4, 4, 182, 0, 103, 153, 0, 11, 42, 27]
abbrev dktX3_permitted_0 : List UInt8 := dkwX3_permitted_0 ++ dktX3_permitted_1
theorem dksX3_permitted_0 : cX3_permitted.data.toList.drop 0 = dktX3_permitted_0 := by decide +kernel
theorem dksX3_permitted_1 : cX3_permitted.data.toList.drop 22 = dktX3_permitted_1 := dk_seg dksX3_permitted_0 22 rfl rfl
theorem dX3_permitted_0 : decode cX3_permitted 0 = .ok (.aload_n 0, 1) := dk_42 (dk_at dksX3_permitted_0 0 rfl rfl)
theorem dX3_permitted_1 : decode cX3_permitted 1 = .ok (.aload_n 0, 1) := dk_42 (dk_at dksX3_permitted_0 1 rfl rfl)
theorem dX3_permitted_2 : decode cX3_permitted 2 = .ok (.iload_n 1, 1) := dk_27 (dk_at dksX3_permitted_0 2 rfl rfl)
theorem dX3_permitted_3 : decode cX3_permitted 3 = .ok (.invokevirtual 144, 3) := dk_182 0 144 (dk_at dksX3_permitted_0 3 rfl rfl)
theorem dX3_permitted_6 : decode cX3_permitted 6 = .ok (.ifCond .eq 7, 3) := dk_153 0 7 (dk_at dksX3_permitted_0 6 rfl rfl)
theorem dX3_permitted_9 : decode cX3_permitted 9 = .ok (.iconst 0, 1) := dk_3 (dk_at dksX3_permitted_0 9 rfl rfl)
theorem dX3_permitted_10 : decode cX3_permitted 10 = .ok (.goto 4, 3) := dk_167 0 4 (dk_at dksX3_permitted_0 10 rfl rfl)
theorem dX3_permitted_13 : decode cX3_permitted 13 = .ok (.iconst 1, 1) := dk_4 (dk_at dksX3_permitted_0 13 rfl rfl)
theorem dX3_permitted_14 : decode cX3_permitted 14 = .ok (.invokevirtual 103, 3) := dk_182 0 103 (dk_at dksX3_permitted_0 14 rfl rfl)
theorem dX3_permitted_17 : decode cX3_permitted 17 = .ok (.ifCond .eq 11, 3) := dk_153 0 11 (dk_at dksX3_permitted_0 17 rfl rfl)
theorem dX3_permitted_20 : decode cX3_permitted 20 = .ok (.aload_n 0, 1) := dk_42 (dk_at dksX3_permitted_0 20 rfl rfl)
theorem dX3_permitted_21 : decode cX3_permitted 21 = .ok (.iload_n 1, 1) := dk_27 (dk_at dksX3_permitted_0 21 rfl rfl)
theorem dX3_permitted_22 : decode cX3_permitted 22 = .ok (.invokevirtual 151, 3) := dk_182 0 151 (dk_at dksX3_permitted_1 0 rfl rfl)
theorem dX3_permitted_25 : decode cX3_permitted 25 = .ok (.goto 4, 3) := dk_167 0 4 (dk_at dksX3_permitted_1 3 rfl rfl)
theorem dX3_permitted_28 : decode cX3_permitted 28 = .ok (.iconst 0, 1) := dk_3 (dk_at dksX3_permitted_1 6 rfl rfl)
theorem dX3_permitted_29 : decode cX3_permitted 29 = .ok (.ireturn, 1) := dk_172 (dk_at dksX3_permitted_1 7 rfl rfl)
abbrev cX3_permittedFor : ByteArray := prog_18_method_23_code
def yX3_permittedFor : MethodName := ⟨RX3, "permittedFor", "(I)I"⟩
def dkwX3_permittedFor_1 : List UInt8 := [180, 0, 48, 29, 46, 167, 0, 4, 3, 96, 61, 132, 3, 1, 167, 255, 223, 28, 172]
abbrev dktX3_permittedFor_1 : List UInt8 := dkwX3_permittedFor_1 ++ []
def dkwX3_permittedFor_0 : List UInt8 := [3, 61, 3, 62, 29, 42, 180, 0, 141, 162, 0, 31, 28, 42, 29, 27, 182, 0, 147, 153, 0, 12, 42]
abbrev dktX3_permittedFor_0 : List UInt8 := dkwX3_permittedFor_0 ++ dktX3_permittedFor_1
theorem dksX3_permittedFor_0 : cX3_permittedFor.data.toList.drop 0 = dktX3_permittedFor_0 := by decide +kernel
theorem dksX3_permittedFor_1 : cX3_permittedFor.data.toList.drop 23 = dktX3_permittedFor_1 := dk_seg dksX3_permittedFor_0 23 rfl rfl
theorem dX3_permittedFor_0 : decode cX3_permittedFor 0 = .ok (.iconst 0, 1) := dk_3 (dk_at dksX3_permittedFor_0 0 rfl rfl)
theorem dX3_permittedFor_1 : decode cX3_permittedFor 1 = .ok (.istore_n 2, 1) := dk_61 (dk_at dksX3_permittedFor_0 1 rfl rfl)
theorem dX3_permittedFor_2 : decode cX3_permittedFor 2 = .ok (.iconst 0, 1) := dk_3 (dk_at dksX3_permittedFor_0 2 rfl rfl)
theorem dX3_permittedFor_3 : decode cX3_permittedFor 3 = .ok (.istore_n 3, 1) := dk_62 (dk_at dksX3_permittedFor_0 3 rfl rfl)
theorem dX3_permittedFor_4 : decode cX3_permittedFor 4 = .ok (.iload_n 3, 1) := dk_29 (dk_at dksX3_permittedFor_0 4 rfl rfl)
theorem dX3_permittedFor_5 : decode cX3_permittedFor 5 = .ok (.aload_n 0, 1) := dk_42 (dk_at dksX3_permittedFor_0 5 rfl rfl)
theorem dX3_permittedFor_6 : decode cX3_permittedFor 6 = .ok (.getfield 141, 3) := dk_180 0 141 (dk_at dksX3_permittedFor_0 6 rfl rfl)
theorem dX3_permittedFor_9 : decode cX3_permittedFor 9 = .ok (.if_icmp .ge 31, 3) := dk_162 0 31 (dk_at dksX3_permittedFor_0 9 rfl rfl)
theorem dX3_permittedFor_12 : decode cX3_permittedFor 12 = .ok (.iload_n 2, 1) := dk_28 (dk_at dksX3_permittedFor_0 12 rfl rfl)
theorem dX3_permittedFor_13 : decode cX3_permittedFor 13 = .ok (.aload_n 0, 1) := dk_42 (dk_at dksX3_permittedFor_0 13 rfl rfl)
theorem dX3_permittedFor_14 : decode cX3_permittedFor 14 = .ok (.iload_n 3, 1) := dk_29 (dk_at dksX3_permittedFor_0 14 rfl rfl)
theorem dX3_permittedFor_15 : decode cX3_permittedFor 15 = .ok (.iload_n 1, 1) := dk_27 (dk_at dksX3_permittedFor_0 15 rfl rfl)
theorem dX3_permittedFor_16 : decode cX3_permittedFor 16 = .ok (.invokevirtual 147, 3) := dk_182 0 147 (dk_at dksX3_permittedFor_0 16 rfl rfl)
theorem dX3_permittedFor_19 : decode cX3_permittedFor 19 = .ok (.ifCond .eq 12, 3) := dk_153 0 12 (dk_at dksX3_permittedFor_0 19 rfl rfl)
theorem dX3_permittedFor_22 : decode cX3_permittedFor 22 = .ok (.aload_n 0, 1) := dk_42 (dk_at dksX3_permittedFor_0 22 rfl rfl)
theorem dX3_permittedFor_23 : decode cX3_permittedFor 23 = .ok (.getfield 48, 3) := dk_180 0 48 (dk_at dksX3_permittedFor_1 0 rfl rfl)
theorem dX3_permittedFor_26 : decode cX3_permittedFor 26 = .ok (.iload_n 3, 1) := dk_29 (dk_at dksX3_permittedFor_1 3 rfl rfl)
theorem dX3_permittedFor_27 : decode cX3_permittedFor 27 = .ok (.iaload, 1) := dk_46 (dk_at dksX3_permittedFor_1 4 rfl rfl)
theorem dX3_permittedFor_28 : decode cX3_permittedFor 28 = .ok (.goto 4, 3) := dk_167 0 4 (dk_at dksX3_permittedFor_1 5 rfl rfl)
theorem dX3_permittedFor_31 : decode cX3_permittedFor 31 = .ok (.iconst 0, 1) := dk_3 (dk_at dksX3_permittedFor_1 8 rfl rfl)
theorem dX3_permittedFor_32 : decode cX3_permittedFor 32 = .ok (.iadd, 1) := dk_96 (dk_at dksX3_permittedFor_1 9 rfl rfl)
theorem dX3_permittedFor_33 : decode cX3_permittedFor 33 = .ok (.istore_n 2, 1) := dk_61 (dk_at dksX3_permittedFor_1 10 rfl rfl)
theorem dX3_permittedFor_34 : decode cX3_permittedFor 34 = .ok (.iinc 3 1, 3) := dk_132 3 1 (dk_at dksX3_permittedFor_1 11 rfl rfl)
theorem dX3_permittedFor_37 : decode cX3_permittedFor 37 = .ok (.goto (-33), 3) := dk_167 255 223 (dk_at dksX3_permittedFor_1 14 rfl rfl)
theorem dX3_permittedFor_40 : decode cX3_permittedFor 40 = .ok (.iload_n 2, 1) := dk_28 (dk_at dksX3_permittedFor_1 17 rfl rfl)
theorem dX3_permittedFor_41 : decode cX3_permittedFor 41 = .ok (.ireturn, 1) := dk_172 (dk_at dksX3_permittedFor_1 18 rfl rfl)
abbrev cX3_holds : ByteArray := prog_18_method_22_code
def yX3_holds : MethodName := ⟨RX3, "holds", "(II)Z"⟩
def dkwX3_holds_1 : List UInt8 := [27, 46, 184, 0, 87, 153, 0, 7, 4, 167, 0, 4, 3, 172]
abbrev dktX3_holds_1 : List UInt8 := dkwX3_holds_1 ++ []
def dkwX3_holds_0 : List UInt8 := [42, 180, 0, 39, 27, 46, 28, 160, 0, 29, 42, 180, 0, 97, 42, 180, 0, 42, 27, 46, 42, 180, 0, 45]
abbrev dktX3_holds_0 : List UInt8 := dkwX3_holds_0 ++ dktX3_holds_1
theorem dksX3_holds_0 : cX3_holds.data.toList.drop 0 = dktX3_holds_0 := by decide +kernel
theorem dksX3_holds_1 : cX3_holds.data.toList.drop 24 = dktX3_holds_1 := dk_seg dksX3_holds_0 24 rfl rfl
theorem dX3_holds_0 : decode cX3_holds 0 = .ok (.aload_n 0, 1) := dk_42 (dk_at dksX3_holds_0 0 rfl rfl)
theorem dX3_holds_1 : decode cX3_holds 1 = .ok (.getfield 39, 3) := dk_180 0 39 (dk_at dksX3_holds_0 1 rfl rfl)
theorem dX3_holds_4 : decode cX3_holds 4 = .ok (.iload_n 1, 1) := dk_27 (dk_at dksX3_holds_0 4 rfl rfl)
theorem dX3_holds_5 : decode cX3_holds 5 = .ok (.iaload, 1) := dk_46 (dk_at dksX3_holds_0 5 rfl rfl)
theorem dX3_holds_6 : decode cX3_holds 6 = .ok (.iload_n 2, 1) := dk_28 (dk_at dksX3_holds_0 6 rfl rfl)
theorem dX3_holds_7 : decode cX3_holds 7 = .ok (.if_icmp .ne 29, 3) := dk_160 0 29 (dk_at dksX3_holds_0 7 rfl rfl)
theorem dX3_holds_10 : decode cX3_holds 10 = .ok (.aload_n 0, 1) := dk_42 (dk_at dksX3_holds_0 10 rfl rfl)
theorem dX3_holds_11 : decode cX3_holds 11 = .ok (.getfield 97, 3) := dk_180 0 97 (dk_at dksX3_holds_0 11 rfl rfl)
theorem dX3_holds_14 : decode cX3_holds 14 = .ok (.aload_n 0, 1) := dk_42 (dk_at dksX3_holds_0 14 rfl rfl)
theorem dX3_holds_15 : decode cX3_holds 15 = .ok (.getfield 42, 3) := dk_180 0 42 (dk_at dksX3_holds_0 15 rfl rfl)
theorem dX3_holds_18 : decode cX3_holds 18 = .ok (.iload_n 1, 1) := dk_27 (dk_at dksX3_holds_0 18 rfl rfl)
theorem dX3_holds_19 : decode cX3_holds 19 = .ok (.iaload, 1) := dk_46 (dk_at dksX3_holds_0 19 rfl rfl)
theorem dX3_holds_20 : decode cX3_holds 20 = .ok (.aload_n 0, 1) := dk_42 (dk_at dksX3_holds_0 20 rfl rfl)
theorem dX3_holds_21 : decode cX3_holds 21 = .ok (.getfield 45, 3) := dk_180 0 45 (dk_at dksX3_holds_0 21 rfl rfl)
theorem dX3_holds_24 : decode cX3_holds 24 = .ok (.iload_n 1, 1) := dk_27 (dk_at dksX3_holds_1 0 rfl rfl)
theorem dX3_holds_25 : decode cX3_holds 25 = .ok (.iaload, 1) := dk_46 (dk_at dksX3_holds_1 1 rfl rfl)
theorem dX3_holds_26 : decode cX3_holds 26 = .ok (.invokestatic 87, 3) := dk_184 0 87 (dk_at dksX3_holds_1 2 rfl rfl)
theorem dX3_holds_29 : decode cX3_holds 29 = .ok (.ifCond .eq 7, 3) := dk_153 0 7 (dk_at dksX3_holds_1 5 rfl rfl)
theorem dX3_holds_32 : decode cX3_holds 32 = .ok (.iconst 1, 1) := dk_4 (dk_at dksX3_holds_1 8 rfl rfl)
theorem dX3_holds_33 : decode cX3_holds 33 = .ok (.goto 4, 3) := dk_167 0 4 (dk_at dksX3_holds_1 9 rfl rfl)
theorem dX3_holds_36 : decode cX3_holds 36 = .ok (.iconst 0, 1) := dk_3 (dk_at dksX3_holds_1 12 rfl rfl)
theorem dX3_holds_37 : decode cX3_holds 37 = .ok (.ireturn, 1) := dk_172 (dk_at dksX3_holds_1 13 rfl rfl)
abbrev cX3_dump : ByteArray := prog_18_method_26_code
def yX3_dump : MethodName := ⟨RX3, "dump", "(II)I"⟩
def dkwX3_dump_8 : List UInt8 := [42, 178, 0, 157, 27, 182, 0, 120, 42, 180, 0, 110, 172]
abbrev dktX3_dump_8 : List UInt8 := dkwX3_dump_8 ++ []
def dkwX3_dump_7 : List UInt8 := [42, 182, 0, 135, 42, 89, 180, 0, 110, 28, 100, 181, 0, 110, 42, 180, 0, 36, 27, 92, 46, 28, 96, 79]
abbrev dktX3_dump_7 : List UInt8 := dkwX3_dump_7 ++ dktX3_dump_8
def dkwX3_dump_6 : List UInt8 := [54, 6, 42, 180, 0, 48, 21, 5, 92, 46, 21, 6, 100, 79, 21, 4, 21, 6, 100, 54, 4, 167, 255, 199]
abbrev dktX3_dump_6 : List UInt8 := dkwX3_dump_6 ++ dktX3_dump_7
def dkwX3_dump_5 : List UInt8 := [21, 4, 42, 180, 0, 48, 21, 5, 46, 162, 0, 8, 21, 4, 167, 0, 10, 42, 180, 0, 48, 21, 5, 46]
abbrev dktX3_dump_5 : List UInt8 := dkwX3_dump_5 ++ dktX3_dump_6
def dkwX3_dump_4 : List UInt8 := [182, 0, 103, 154, 0, 5, 3, 172, 28, 54, 4, 21, 4, 158, 0, 58, 42, 27, 182, 0, 154, 54, 5]
abbrev dktX3_dump_4 : List UInt8 := dkwX3_dump_4 ++ dktX3_dump_5
def dkwX3_dump_3 : List UInt8 := [100, 28, 161, 0, 12, 42, 27, 182, 0, 151, 28, 162, 0, 7, 7, 167, 0, 4, 29, 62, 42, 29]
abbrev dktX3_dump_3 : List UInt8 := dkwX3_dump_3 ++ dktX3_dump_4
def dkwX3_dump_2 : List UInt8 := [180, 0, 138, 42, 180, 0, 33, 27, 46, 161, 0, 29, 42, 180, 0, 30, 27, 46, 42, 180, 0, 36, 27, 46]
abbrev dktX3_dump_2 : List UInt8 := dkwX3_dump_2 ++ dktX3_dump_3
def dkwX3_dump_1 : List UInt8 := [167, 0, 16, 42, 180, 0, 110, 28, 162, 0, 7, 6, 167, 0, 4, 3, 62, 29, 154, 0, 46, 42]
abbrev dktX3_dump_1 : List UInt8 := dkwX3_dump_1 ++ dktX3_dump_2
def dkwX3_dump_0 : List UInt8 := [42, 27, 182, 0, 144, 154, 0, 7, 4, 167, 0, 31, 28, 4, 17, 0, 200, 184, 0, 87, 154, 0, 7, 5]
abbrev dktX3_dump_0 : List UInt8 := dkwX3_dump_0 ++ dktX3_dump_1
theorem dksX3_dump_0 : cX3_dump.data.toList.drop 0 = dktX3_dump_0 := by decide +kernel
theorem dksX3_dump_1 : cX3_dump.data.toList.drop 24 = dktX3_dump_1 := dk_seg dksX3_dump_0 24 rfl rfl
theorem dksX3_dump_2 : cX3_dump.data.toList.drop 46 = dktX3_dump_2 := dk_seg dksX3_dump_1 22 rfl rfl
theorem dksX3_dump_3 : cX3_dump.data.toList.drop 70 = dktX3_dump_3 := dk_seg dksX3_dump_2 24 rfl rfl
theorem dksX3_dump_4 : cX3_dump.data.toList.drop 92 = dktX3_dump_4 := dk_seg dksX3_dump_3 22 rfl rfl
theorem dksX3_dump_5 : cX3_dump.data.toList.drop 115 = dktX3_dump_5 := dk_seg dksX3_dump_4 23 rfl rfl
theorem dksX3_dump_6 : cX3_dump.data.toList.drop 139 = dktX3_dump_6 := dk_seg dksX3_dump_5 24 rfl rfl
theorem dksX3_dump_7 : cX3_dump.data.toList.drop 163 = dktX3_dump_7 := dk_seg dksX3_dump_6 24 rfl rfl
theorem dksX3_dump_8 : cX3_dump.data.toList.drop 187 = dktX3_dump_8 := dk_seg dksX3_dump_7 24 rfl rfl
theorem dX3_dump_0 : decode cX3_dump 0 = .ok (.aload_n 0, 1) := dk_42 (dk_at dksX3_dump_0 0 rfl rfl)
theorem dX3_dump_1 : decode cX3_dump 1 = .ok (.iload_n 1, 1) := dk_27 (dk_at dksX3_dump_0 1 rfl rfl)
theorem dX3_dump_2 : decode cX3_dump 2 = .ok (.invokevirtual 144, 3) := dk_182 0 144 (dk_at dksX3_dump_0 2 rfl rfl)
theorem dX3_dump_5 : decode cX3_dump 5 = .ok (.ifCond .ne 7, 3) := dk_154 0 7 (dk_at dksX3_dump_0 5 rfl rfl)
theorem dX3_dump_8 : decode cX3_dump 8 = .ok (.iconst 1, 1) := dk_4 (dk_at dksX3_dump_0 8 rfl rfl)
theorem dX3_dump_9 : decode cX3_dump 9 = .ok (.goto 31, 3) := dk_167 0 31 (dk_at dksX3_dump_0 9 rfl rfl)
theorem dX3_dump_12 : decode cX3_dump 12 = .ok (.iload_n 2, 1) := dk_28 (dk_at dksX3_dump_0 12 rfl rfl)
theorem dX3_dump_13 : decode cX3_dump 13 = .ok (.iconst 1, 1) := dk_4 (dk_at dksX3_dump_0 13 rfl rfl)
theorem dX3_dump_14 : decode cX3_dump 14 = .ok (.sipush 200, 3) := dk_17 0 200 (dk_at dksX3_dump_0 14 rfl rfl)
theorem dX3_dump_17 : decode cX3_dump 17 = .ok (.invokestatic 87, 3) := dk_184 0 87 (dk_at dksX3_dump_0 17 rfl rfl)
theorem dX3_dump_20 : decode cX3_dump 20 = .ok (.ifCond .ne 7, 3) := dk_154 0 7 (dk_at dksX3_dump_0 20 rfl rfl)
theorem dX3_dump_23 : decode cX3_dump 23 = .ok (.iconst 2, 1) := dk_5 (dk_at dksX3_dump_0 23 rfl rfl)
theorem dX3_dump_24 : decode cX3_dump 24 = .ok (.goto 16, 3) := dk_167 0 16 (dk_at dksX3_dump_1 0 rfl rfl)
theorem dX3_dump_27 : decode cX3_dump 27 = .ok (.aload_n 0, 1) := dk_42 (dk_at dksX3_dump_1 3 rfl rfl)
theorem dX3_dump_28 : decode cX3_dump 28 = .ok (.getfield 110, 3) := dk_180 0 110 (dk_at dksX3_dump_1 4 rfl rfl)
theorem dX3_dump_31 : decode cX3_dump 31 = .ok (.iload_n 2, 1) := dk_28 (dk_at dksX3_dump_1 7 rfl rfl)
theorem dX3_dump_32 : decode cX3_dump 32 = .ok (.if_icmp .ge 7, 3) := dk_162 0 7 (dk_at dksX3_dump_1 8 rfl rfl)
theorem dX3_dump_35 : decode cX3_dump 35 = .ok (.iconst 3, 1) := dk_6 (dk_at dksX3_dump_1 11 rfl rfl)
theorem dX3_dump_36 : decode cX3_dump 36 = .ok (.goto 4, 3) := dk_167 0 4 (dk_at dksX3_dump_1 12 rfl rfl)
theorem dX3_dump_39 : decode cX3_dump 39 = .ok (.iconst 0, 1) := dk_3 (dk_at dksX3_dump_1 15 rfl rfl)
theorem dX3_dump_40 : decode cX3_dump 40 = .ok (.istore_n 3, 1) := dk_62 (dk_at dksX3_dump_1 16 rfl rfl)
theorem dX3_dump_41 : decode cX3_dump 41 = .ok (.iload_n 3, 1) := dk_29 (dk_at dksX3_dump_1 17 rfl rfl)
theorem dX3_dump_42 : decode cX3_dump 42 = .ok (.ifCond .ne 46, 3) := dk_154 0 46 (dk_at dksX3_dump_1 18 rfl rfl)
theorem dX3_dump_45 : decode cX3_dump 45 = .ok (.aload_n 0, 1) := dk_42 (dk_at dksX3_dump_1 21 rfl rfl)
theorem dX3_dump_46 : decode cX3_dump 46 = .ok (.getfield 138, 3) := dk_180 0 138 (dk_at dksX3_dump_2 0 rfl rfl)
theorem dX3_dump_49 : decode cX3_dump 49 = .ok (.aload_n 0, 1) := dk_42 (dk_at dksX3_dump_2 3 rfl rfl)
theorem dX3_dump_50 : decode cX3_dump 50 = .ok (.getfield 33, 3) := dk_180 0 33 (dk_at dksX3_dump_2 4 rfl rfl)
theorem dX3_dump_53 : decode cX3_dump 53 = .ok (.iload_n 1, 1) := dk_27 (dk_at dksX3_dump_2 7 rfl rfl)
theorem dX3_dump_54 : decode cX3_dump 54 = .ok (.iaload, 1) := dk_46 (dk_at dksX3_dump_2 8 rfl rfl)
theorem dX3_dump_55 : decode cX3_dump 55 = .ok (.if_icmp .lt 29, 3) := dk_161 0 29 (dk_at dksX3_dump_2 9 rfl rfl)
theorem dX3_dump_58 : decode cX3_dump 58 = .ok (.aload_n 0, 1) := dk_42 (dk_at dksX3_dump_2 12 rfl rfl)
theorem dX3_dump_59 : decode cX3_dump 59 = .ok (.getfield 30, 3) := dk_180 0 30 (dk_at dksX3_dump_2 13 rfl rfl)
theorem dX3_dump_62 : decode cX3_dump 62 = .ok (.iload_n 1, 1) := dk_27 (dk_at dksX3_dump_2 16 rfl rfl)
theorem dX3_dump_63 : decode cX3_dump 63 = .ok (.iaload, 1) := dk_46 (dk_at dksX3_dump_2 17 rfl rfl)
theorem dX3_dump_64 : decode cX3_dump 64 = .ok (.aload_n 0, 1) := dk_42 (dk_at dksX3_dump_2 18 rfl rfl)
theorem dX3_dump_65 : decode cX3_dump 65 = .ok (.getfield 36, 3) := dk_180 0 36 (dk_at dksX3_dump_2 19 rfl rfl)
theorem dX3_dump_68 : decode cX3_dump 68 = .ok (.iload_n 1, 1) := dk_27 (dk_at dksX3_dump_2 22 rfl rfl)
theorem dX3_dump_69 : decode cX3_dump 69 = .ok (.iaload, 1) := dk_46 (dk_at dksX3_dump_2 23 rfl rfl)
theorem dX3_dump_70 : decode cX3_dump 70 = .ok (.isub, 1) := dk_100 (dk_at dksX3_dump_3 0 rfl rfl)
theorem dX3_dump_71 : decode cX3_dump 71 = .ok (.iload_n 2, 1) := dk_28 (dk_at dksX3_dump_3 1 rfl rfl)
theorem dX3_dump_72 : decode cX3_dump 72 = .ok (.if_icmp .lt 12, 3) := dk_161 0 12 (dk_at dksX3_dump_3 2 rfl rfl)
theorem dX3_dump_75 : decode cX3_dump 75 = .ok (.aload_n 0, 1) := dk_42 (dk_at dksX3_dump_3 5 rfl rfl)
theorem dX3_dump_76 : decode cX3_dump 76 = .ok (.iload_n 1, 1) := dk_27 (dk_at dksX3_dump_3 6 rfl rfl)
theorem dX3_dump_77 : decode cX3_dump 77 = .ok (.invokevirtual 151, 3) := dk_182 0 151 (dk_at dksX3_dump_3 7 rfl rfl)
theorem dX3_dump_80 : decode cX3_dump 80 = .ok (.iload_n 2, 1) := dk_28 (dk_at dksX3_dump_3 10 rfl rfl)
theorem dX3_dump_81 : decode cX3_dump 81 = .ok (.if_icmp .ge 7, 3) := dk_162 0 7 (dk_at dksX3_dump_3 11 rfl rfl)
theorem dX3_dump_84 : decode cX3_dump 84 = .ok (.iconst 4, 1) := dk_7 (dk_at dksX3_dump_3 14 rfl rfl)
theorem dX3_dump_85 : decode cX3_dump 85 = .ok (.goto 4, 3) := dk_167 0 4 (dk_at dksX3_dump_3 15 rfl rfl)
theorem dX3_dump_88 : decode cX3_dump 88 = .ok (.iload_n 3, 1) := dk_29 (dk_at dksX3_dump_3 18 rfl rfl)
theorem dX3_dump_89 : decode cX3_dump 89 = .ok (.istore_n 3, 1) := dk_62 (dk_at dksX3_dump_3 19 rfl rfl)
theorem dX3_dump_90 : decode cX3_dump 90 = .ok (.aload_n 0, 1) := dk_42 (dk_at dksX3_dump_3 20 rfl rfl)
theorem dX3_dump_91 : decode cX3_dump 91 = .ok (.iload_n 3, 1) := dk_29 (dk_at dksX3_dump_3 21 rfl rfl)
theorem dX3_dump_92 : decode cX3_dump 92 = .ok (.invokevirtual 103, 3) := dk_182 0 103 (dk_at dksX3_dump_4 0 rfl rfl)
theorem dX3_dump_95 : decode cX3_dump 95 = .ok (.ifCond .ne 5, 3) := dk_154 0 5 (dk_at dksX3_dump_4 3 rfl rfl)
theorem dX3_dump_98 : decode cX3_dump 98 = .ok (.iconst 0, 1) := dk_3 (dk_at dksX3_dump_4 6 rfl rfl)
theorem dX3_dump_99 : decode cX3_dump 99 = .ok (.ireturn, 1) := dk_172 (dk_at dksX3_dump_4 7 rfl rfl)
theorem dX3_dump_100 : decode cX3_dump 100 = .ok (.iload_n 2, 1) := dk_28 (dk_at dksX3_dump_4 8 rfl rfl)
theorem dX3_dump_101 : decode cX3_dump 101 = .ok (.istore 4, 2) := dk_54 4 (dk_at dksX3_dump_4 9 rfl rfl)
theorem dX3_dump_103 : decode cX3_dump 103 = .ok (.iload 4, 2) := dk_21 4 (dk_at dksX3_dump_4 11 rfl rfl)
theorem dX3_dump_105 : decode cX3_dump 105 = .ok (.ifCond .le 58, 3) := dk_158 0 58 (dk_at dksX3_dump_4 13 rfl rfl)
theorem dX3_dump_108 : decode cX3_dump 108 = .ok (.aload_n 0, 1) := dk_42 (dk_at dksX3_dump_4 16 rfl rfl)
theorem dX3_dump_109 : decode cX3_dump 109 = .ok (.iload_n 1, 1) := dk_27 (dk_at dksX3_dump_4 17 rfl rfl)
theorem dX3_dump_110 : decode cX3_dump 110 = .ok (.invokevirtual 154, 3) := dk_182 0 154 (dk_at dksX3_dump_4 18 rfl rfl)
theorem dX3_dump_113 : decode cX3_dump 113 = .ok (.istore 5, 2) := dk_54 5 (dk_at dksX3_dump_4 21 rfl rfl)
theorem dX3_dump_115 : decode cX3_dump 115 = .ok (.iload 4, 2) := dk_21 4 (dk_at dksX3_dump_5 0 rfl rfl)
theorem dX3_dump_117 : decode cX3_dump 117 = .ok (.aload_n 0, 1) := dk_42 (dk_at dksX3_dump_5 2 rfl rfl)
theorem dX3_dump_118 : decode cX3_dump 118 = .ok (.getfield 48, 3) := dk_180 0 48 (dk_at dksX3_dump_5 3 rfl rfl)
theorem dX3_dump_121 : decode cX3_dump 121 = .ok (.iload 5, 2) := dk_21 5 (dk_at dksX3_dump_5 6 rfl rfl)
theorem dX3_dump_123 : decode cX3_dump 123 = .ok (.iaload, 1) := dk_46 (dk_at dksX3_dump_5 8 rfl rfl)
theorem dX3_dump_124 : decode cX3_dump 124 = .ok (.if_icmp .ge 8, 3) := dk_162 0 8 (dk_at dksX3_dump_5 9 rfl rfl)
theorem dX3_dump_127 : decode cX3_dump 127 = .ok (.iload 4, 2) := dk_21 4 (dk_at dksX3_dump_5 12 rfl rfl)
theorem dX3_dump_129 : decode cX3_dump 129 = .ok (.goto 10, 3) := dk_167 0 10 (dk_at dksX3_dump_5 14 rfl rfl)
theorem dX3_dump_132 : decode cX3_dump 132 = .ok (.aload_n 0, 1) := dk_42 (dk_at dksX3_dump_5 17 rfl rfl)
theorem dX3_dump_133 : decode cX3_dump 133 = .ok (.getfield 48, 3) := dk_180 0 48 (dk_at dksX3_dump_5 18 rfl rfl)
theorem dX3_dump_136 : decode cX3_dump 136 = .ok (.iload 5, 2) := dk_21 5 (dk_at dksX3_dump_5 21 rfl rfl)
theorem dX3_dump_138 : decode cX3_dump 138 = .ok (.iaload, 1) := dk_46 (dk_at dksX3_dump_5 23 rfl rfl)
theorem dX3_dump_139 : decode cX3_dump 139 = .ok (.istore 6, 2) := dk_54 6 (dk_at dksX3_dump_6 0 rfl rfl)
theorem dX3_dump_141 : decode cX3_dump 141 = .ok (.aload_n 0, 1) := dk_42 (dk_at dksX3_dump_6 2 rfl rfl)
theorem dX3_dump_142 : decode cX3_dump 142 = .ok (.getfield 48, 3) := dk_180 0 48 (dk_at dksX3_dump_6 3 rfl rfl)
theorem dX3_dump_145 : decode cX3_dump 145 = .ok (.iload 5, 2) := dk_21 5 (dk_at dksX3_dump_6 6 rfl rfl)
theorem dX3_dump_147 : decode cX3_dump 147 = .ok (.dup2, 1) := dk_92 (dk_at dksX3_dump_6 8 rfl rfl)
theorem dX3_dump_148 : decode cX3_dump 148 = .ok (.iaload, 1) := dk_46 (dk_at dksX3_dump_6 9 rfl rfl)
theorem dX3_dump_149 : decode cX3_dump 149 = .ok (.iload 6, 2) := dk_21 6 (dk_at dksX3_dump_6 10 rfl rfl)
theorem dX3_dump_151 : decode cX3_dump 151 = .ok (.isub, 1) := dk_100 (dk_at dksX3_dump_6 12 rfl rfl)
theorem dX3_dump_152 : decode cX3_dump 152 = .ok (.iastore, 1) := dk_79 (dk_at dksX3_dump_6 13 rfl rfl)
theorem dX3_dump_153 : decode cX3_dump 153 = .ok (.iload 4, 2) := dk_21 4 (dk_at dksX3_dump_6 14 rfl rfl)
theorem dX3_dump_155 : decode cX3_dump 155 = .ok (.iload 6, 2) := dk_21 6 (dk_at dksX3_dump_6 16 rfl rfl)
theorem dX3_dump_157 : decode cX3_dump 157 = .ok (.isub, 1) := dk_100 (dk_at dksX3_dump_6 18 rfl rfl)
theorem dX3_dump_158 : decode cX3_dump 158 = .ok (.istore 4, 2) := dk_54 4 (dk_at dksX3_dump_6 19 rfl rfl)
theorem dX3_dump_160 : decode cX3_dump 160 = .ok (.goto (-57), 3) := dk_167 255 199 (dk_at dksX3_dump_6 21 rfl rfl)
theorem dX3_dump_163 : decode cX3_dump 163 = .ok (.aload_n 0, 1) := dk_42 (dk_at dksX3_dump_7 0 rfl rfl)
theorem dX3_dump_164 : decode cX3_dump 164 = .ok (.invokevirtual 135, 3) := dk_182 0 135 (dk_at dksX3_dump_7 1 rfl rfl)
theorem dX3_dump_167 : decode cX3_dump 167 = .ok (.aload_n 0, 1) := dk_42 (dk_at dksX3_dump_7 4 rfl rfl)
theorem dX3_dump_168 : decode cX3_dump 168 = .ok (.dup, 1) := dk_89 (dk_at dksX3_dump_7 5 rfl rfl)
theorem dX3_dump_169 : decode cX3_dump 169 = .ok (.getfield 110, 3) := dk_180 0 110 (dk_at dksX3_dump_7 6 rfl rfl)
theorem dX3_dump_172 : decode cX3_dump 172 = .ok (.iload_n 2, 1) := dk_28 (dk_at dksX3_dump_7 9 rfl rfl)
theorem dX3_dump_173 : decode cX3_dump 173 = .ok (.isub, 1) := dk_100 (dk_at dksX3_dump_7 10 rfl rfl)
theorem dX3_dump_174 : decode cX3_dump 174 = .ok (.putfield 110, 3) := dk_181 0 110 (dk_at dksX3_dump_7 11 rfl rfl)
theorem dX3_dump_177 : decode cX3_dump 177 = .ok (.aload_n 0, 1) := dk_42 (dk_at dksX3_dump_7 14 rfl rfl)
theorem dX3_dump_178 : decode cX3_dump 178 = .ok (.getfield 36, 3) := dk_180 0 36 (dk_at dksX3_dump_7 15 rfl rfl)
theorem dX3_dump_181 : decode cX3_dump 181 = .ok (.iload_n 1, 1) := dk_27 (dk_at dksX3_dump_7 18 rfl rfl)
theorem dX3_dump_182 : decode cX3_dump 182 = .ok (.dup2, 1) := dk_92 (dk_at dksX3_dump_7 19 rfl rfl)
theorem dX3_dump_183 : decode cX3_dump 183 = .ok (.iaload, 1) := dk_46 (dk_at dksX3_dump_7 20 rfl rfl)
theorem dX3_dump_184 : decode cX3_dump 184 = .ok (.iload_n 2, 1) := dk_28 (dk_at dksX3_dump_7 21 rfl rfl)
theorem dX3_dump_185 : decode cX3_dump 185 = .ok (.iadd, 1) := dk_96 (dk_at dksX3_dump_7 22 rfl rfl)
theorem dX3_dump_186 : decode cX3_dump 186 = .ok (.iastore, 1) := dk_79 (dk_at dksX3_dump_7 23 rfl rfl)
theorem dX3_dump_187 : decode cX3_dump 187 = .ok (.aload_n 0, 1) := dk_42 (dk_at dksX3_dump_8 0 rfl rfl)
theorem dX3_dump_188 : decode cX3_dump 188 = .ok (.getstatic 157, 3) := dk_178 0 157 (dk_at dksX3_dump_8 1 rfl rfl)
theorem dX3_dump_191 : decode cX3_dump 191 = .ok (.iload_n 1, 1) := dk_27 (dk_at dksX3_dump_8 4 rfl rfl)
theorem dX3_dump_192 : decode cX3_dump 192 = .ok (.invokevirtual 120, 3) := dk_182 0 120 (dk_at dksX3_dump_8 5 rfl rfl)
theorem dX3_dump_195 : decode cX3_dump 195 = .ok (.aload_n 0, 1) := dk_42 (dk_at dksX3_dump_8 8 rfl rfl)
theorem dX3_dump_196 : decode cX3_dump 196 = .ok (.getfield 110, 3) := dk_180 0 110 (dk_at dksX3_dump_8 9 rfl rfl)
theorem dX3_dump_199 : decode cX3_dump 199 = .ok (.ireturn, 1) := dk_172 (dk_at dksX3_dump_8 12 rfl rfl)
abbrev cX3_firstToEnd : ByteArray := prog_18_method_25_code
def yX3_firstToEnd : MethodName := ⟨RX3, "firstToEnd", "(I)I"⟩
def dkwX3_firstToEnd_2 : List UInt8 := [46, 162, 0, 7, 29, 167, 0, 4, 28, 61, 132, 3, 1, 167, 255, 201, 28, 172]
abbrev dktX3_firstToEnd_2 : List UInt8 := dkwX3_firstToEnd_2 ++ []
def dkwX3_firstToEnd_1 : List UInt8 := [180, 0, 48, 29, 46, 158, 0, 27, 28, 2, 159, 0, 18, 42, 180, 0, 45, 29, 46, 42, 180, 0, 45, 28]
abbrev dktX3_firstToEnd_1 : List UInt8 := dkwX3_firstToEnd_1 ++ dktX3_firstToEnd_2
def dkwX3_firstToEnd_0 : List UInt8 := [2, 61, 3, 62, 29, 42, 180, 0, 141, 162, 0, 53, 42, 29, 27, 182, 0, 147, 153, 0, 36, 42]
abbrev dktX3_firstToEnd_0 : List UInt8 := dkwX3_firstToEnd_0 ++ dktX3_firstToEnd_1
theorem dksX3_firstToEnd_0 : cX3_firstToEnd.data.toList.drop 0 = dktX3_firstToEnd_0 := by decide +kernel
theorem dksX3_firstToEnd_1 : cX3_firstToEnd.data.toList.drop 22 = dktX3_firstToEnd_1 := dk_seg dksX3_firstToEnd_0 22 rfl rfl
theorem dksX3_firstToEnd_2 : cX3_firstToEnd.data.toList.drop 46 = dktX3_firstToEnd_2 := dk_seg dksX3_firstToEnd_1 24 rfl rfl
theorem dX3_firstToEnd_0 : decode cX3_firstToEnd 0 = .ok (.iconst (-1), 1) := dk_2 (dk_at dksX3_firstToEnd_0 0 rfl rfl)
theorem dX3_firstToEnd_1 : decode cX3_firstToEnd 1 = .ok (.istore_n 2, 1) := dk_61 (dk_at dksX3_firstToEnd_0 1 rfl rfl)
theorem dX3_firstToEnd_2 : decode cX3_firstToEnd 2 = .ok (.iconst 0, 1) := dk_3 (dk_at dksX3_firstToEnd_0 2 rfl rfl)
theorem dX3_firstToEnd_3 : decode cX3_firstToEnd 3 = .ok (.istore_n 3, 1) := dk_62 (dk_at dksX3_firstToEnd_0 3 rfl rfl)
theorem dX3_firstToEnd_4 : decode cX3_firstToEnd 4 = .ok (.iload_n 3, 1) := dk_29 (dk_at dksX3_firstToEnd_0 4 rfl rfl)
theorem dX3_firstToEnd_5 : decode cX3_firstToEnd 5 = .ok (.aload_n 0, 1) := dk_42 (dk_at dksX3_firstToEnd_0 5 rfl rfl)
theorem dX3_firstToEnd_6 : decode cX3_firstToEnd 6 = .ok (.getfield 141, 3) := dk_180 0 141 (dk_at dksX3_firstToEnd_0 6 rfl rfl)
theorem dX3_firstToEnd_9 : decode cX3_firstToEnd 9 = .ok (.if_icmp .ge 53, 3) := dk_162 0 53 (dk_at dksX3_firstToEnd_0 9 rfl rfl)
theorem dX3_firstToEnd_12 : decode cX3_firstToEnd 12 = .ok (.aload_n 0, 1) := dk_42 (dk_at dksX3_firstToEnd_0 12 rfl rfl)
theorem dX3_firstToEnd_13 : decode cX3_firstToEnd 13 = .ok (.iload_n 3, 1) := dk_29 (dk_at dksX3_firstToEnd_0 13 rfl rfl)
theorem dX3_firstToEnd_14 : decode cX3_firstToEnd 14 = .ok (.iload_n 1, 1) := dk_27 (dk_at dksX3_firstToEnd_0 14 rfl rfl)
theorem dX3_firstToEnd_15 : decode cX3_firstToEnd 15 = .ok (.invokevirtual 147, 3) := dk_182 0 147 (dk_at dksX3_firstToEnd_0 15 rfl rfl)
theorem dX3_firstToEnd_18 : decode cX3_firstToEnd 18 = .ok (.ifCond .eq 36, 3) := dk_153 0 36 (dk_at dksX3_firstToEnd_0 18 rfl rfl)
theorem dX3_firstToEnd_21 : decode cX3_firstToEnd 21 = .ok (.aload_n 0, 1) := dk_42 (dk_at dksX3_firstToEnd_0 21 rfl rfl)
theorem dX3_firstToEnd_22 : decode cX3_firstToEnd 22 = .ok (.getfield 48, 3) := dk_180 0 48 (dk_at dksX3_firstToEnd_1 0 rfl rfl)
theorem dX3_firstToEnd_25 : decode cX3_firstToEnd 25 = .ok (.iload_n 3, 1) := dk_29 (dk_at dksX3_firstToEnd_1 3 rfl rfl)
theorem dX3_firstToEnd_26 : decode cX3_firstToEnd 26 = .ok (.iaload, 1) := dk_46 (dk_at dksX3_firstToEnd_1 4 rfl rfl)
theorem dX3_firstToEnd_27 : decode cX3_firstToEnd 27 = .ok (.ifCond .le 27, 3) := dk_158 0 27 (dk_at dksX3_firstToEnd_1 5 rfl rfl)
theorem dX3_firstToEnd_30 : decode cX3_firstToEnd 30 = .ok (.iload_n 2, 1) := dk_28 (dk_at dksX3_firstToEnd_1 8 rfl rfl)
theorem dX3_firstToEnd_31 : decode cX3_firstToEnd 31 = .ok (.iconst (-1), 1) := dk_2 (dk_at dksX3_firstToEnd_1 9 rfl rfl)
theorem dX3_firstToEnd_32 : decode cX3_firstToEnd 32 = .ok (.if_icmp .eq 18, 3) := dk_159 0 18 (dk_at dksX3_firstToEnd_1 10 rfl rfl)
theorem dX3_firstToEnd_35 : decode cX3_firstToEnd 35 = .ok (.aload_n 0, 1) := dk_42 (dk_at dksX3_firstToEnd_1 13 rfl rfl)
theorem dX3_firstToEnd_36 : decode cX3_firstToEnd 36 = .ok (.getfield 45, 3) := dk_180 0 45 (dk_at dksX3_firstToEnd_1 14 rfl rfl)
theorem dX3_firstToEnd_39 : decode cX3_firstToEnd 39 = .ok (.iload_n 3, 1) := dk_29 (dk_at dksX3_firstToEnd_1 17 rfl rfl)
theorem dX3_firstToEnd_40 : decode cX3_firstToEnd 40 = .ok (.iaload, 1) := dk_46 (dk_at dksX3_firstToEnd_1 18 rfl rfl)
theorem dX3_firstToEnd_41 : decode cX3_firstToEnd 41 = .ok (.aload_n 0, 1) := dk_42 (dk_at dksX3_firstToEnd_1 19 rfl rfl)
theorem dX3_firstToEnd_42 : decode cX3_firstToEnd 42 = .ok (.getfield 45, 3) := dk_180 0 45 (dk_at dksX3_firstToEnd_1 20 rfl rfl)
theorem dX3_firstToEnd_45 : decode cX3_firstToEnd 45 = .ok (.iload_n 2, 1) := dk_28 (dk_at dksX3_firstToEnd_1 23 rfl rfl)
theorem dX3_firstToEnd_46 : decode cX3_firstToEnd 46 = .ok (.iaload, 1) := dk_46 (dk_at dksX3_firstToEnd_2 0 rfl rfl)
theorem dX3_firstToEnd_47 : decode cX3_firstToEnd 47 = .ok (.if_icmp .ge 7, 3) := dk_162 0 7 (dk_at dksX3_firstToEnd_2 1 rfl rfl)
theorem dX3_firstToEnd_50 : decode cX3_firstToEnd 50 = .ok (.iload_n 3, 1) := dk_29 (dk_at dksX3_firstToEnd_2 4 rfl rfl)
theorem dX3_firstToEnd_51 : decode cX3_firstToEnd 51 = .ok (.goto 4, 3) := dk_167 0 4 (dk_at dksX3_firstToEnd_2 5 rfl rfl)
theorem dX3_firstToEnd_54 : decode cX3_firstToEnd 54 = .ok (.iload_n 2, 1) := dk_28 (dk_at dksX3_firstToEnd_2 8 rfl rfl)
theorem dX3_firstToEnd_55 : decode cX3_firstToEnd 55 = .ok (.istore_n 2, 1) := dk_61 (dk_at dksX3_firstToEnd_2 9 rfl rfl)
theorem dX3_firstToEnd_56 : decode cX3_firstToEnd 56 = .ok (.iinc 3 1, 3) := dk_132 3 1 (dk_at dksX3_firstToEnd_2 10 rfl rfl)
theorem dX3_firstToEnd_59 : decode cX3_firstToEnd 59 = .ok (.goto (-55), 3) := dk_167 255 201 (dk_at dksX3_firstToEnd_2 13 rfl rfl)
theorem dX3_firstToEnd_62 : decode cX3_firstToEnd 62 = .ok (.iload_n 2, 1) := dk_28 (dk_at dksX3_firstToEnd_2 16 rfl rfl)
theorem dX3_firstToEnd_63 : decode cX3_firstToEnd 63 = .ok (.ireturn, 1) := dk_172 (dk_at dksX3_firstToEnd_2 17 rfl rfl)
abbrev cX3_hopper : ByteArray := prog_18_method_27_code
def yX3_hopper : MethodName := ⟨RX3, "hopper", "()I"⟩
def dkwX3_hopper_0 : List UInt8 := [42, 3, 181, 0, 81, 42, 180, 0, 110, 172]
abbrev dktX3_hopper_0 : List UInt8 := dkwX3_hopper_0 ++ []
theorem dksX3_hopper_0 : cX3_hopper.data.toList.drop 0 = dktX3_hopper_0 := by decide +kernel
theorem dX3_hopper_0 : decode cX3_hopper 0 = .ok (.aload_n 0, 1) := dk_42 (dk_at dksX3_hopper_0 0 rfl rfl)
theorem dX3_hopper_1 : decode cX3_hopper 1 = .ok (.iconst 0, 1) := dk_3 (dk_at dksX3_hopper_0 1 rfl rfl)
theorem dX3_hopper_2 : decode cX3_hopper 2 = .ok (.putfield 81, 3) := dk_181 0 81 (dk_at dksX3_hopper_0 2 rfl rfl)
theorem dX3_hopper_5 : decode cX3_hopper 5 = .ok (.aload_n 0, 1) := dk_42 (dk_at dksX3_hopper_0 5 rfl rfl)
theorem dX3_hopper_6 : decode cX3_hopper 6 = .ok (.getfield 110, 3) := dk_180 0 110 (dk_at dksX3_hopper_0 6 rfl rfl)
theorem dX3_hopper_9 : decode cX3_hopper 9 = .ok (.ireturn, 1) := dk_172 (dk_at dksX3_hopper_0 9 rfl rfl)
abbrev cX3_dumped : ByteArray := prog_18_method_28_code
def yX3_dumped : MethodName := ⟨RX3, "dumped", "(I)I"⟩
def dkwX3_dumped_1 : List UInt8 := [27, 46, 167, 0, 4, 3, 172]
abbrev dktX3_dumped_1 : List UInt8 := dkwX3_dumped_1 ++ []
def dkwX3_dumped_0 : List UInt8 := [42, 42, 27, 182, 0, 144, 153, 0, 7, 3, 167, 0, 4, 4, 182, 0, 103, 153, 0, 12, 42, 180, 0, 36]
abbrev dktX3_dumped_0 : List UInt8 := dkwX3_dumped_0 ++ dktX3_dumped_1
theorem dksX3_dumped_0 : cX3_dumped.data.toList.drop 0 = dktX3_dumped_0 := by decide +kernel
theorem dksX3_dumped_1 : cX3_dumped.data.toList.drop 24 = dktX3_dumped_1 := dk_seg dksX3_dumped_0 24 rfl rfl
theorem dX3_dumped_0 : decode cX3_dumped 0 = .ok (.aload_n 0, 1) := dk_42 (dk_at dksX3_dumped_0 0 rfl rfl)
theorem dX3_dumped_1 : decode cX3_dumped 1 = .ok (.aload_n 0, 1) := dk_42 (dk_at dksX3_dumped_0 1 rfl rfl)
theorem dX3_dumped_2 : decode cX3_dumped 2 = .ok (.iload_n 1, 1) := dk_27 (dk_at dksX3_dumped_0 2 rfl rfl)
theorem dX3_dumped_3 : decode cX3_dumped 3 = .ok (.invokevirtual 144, 3) := dk_182 0 144 (dk_at dksX3_dumped_0 3 rfl rfl)
theorem dX3_dumped_6 : decode cX3_dumped 6 = .ok (.ifCond .eq 7, 3) := dk_153 0 7 (dk_at dksX3_dumped_0 6 rfl rfl)
theorem dX3_dumped_9 : decode cX3_dumped 9 = .ok (.iconst 0, 1) := dk_3 (dk_at dksX3_dumped_0 9 rfl rfl)
theorem dX3_dumped_10 : decode cX3_dumped 10 = .ok (.goto 4, 3) := dk_167 0 4 (dk_at dksX3_dumped_0 10 rfl rfl)
theorem dX3_dumped_13 : decode cX3_dumped 13 = .ok (.iconst 1, 1) := dk_4 (dk_at dksX3_dumped_0 13 rfl rfl)
theorem dX3_dumped_14 : decode cX3_dumped 14 = .ok (.invokevirtual 103, 3) := dk_182 0 103 (dk_at dksX3_dumped_0 14 rfl rfl)
theorem dX3_dumped_17 : decode cX3_dumped 17 = .ok (.ifCond .eq 12, 3) := dk_153 0 12 (dk_at dksX3_dumped_0 17 rfl rfl)
theorem dX3_dumped_20 : decode cX3_dumped 20 = .ok (.aload_n 0, 1) := dk_42 (dk_at dksX3_dumped_0 20 rfl rfl)
theorem dX3_dumped_21 : decode cX3_dumped 21 = .ok (.getfield 36, 3) := dk_180 0 36 (dk_at dksX3_dumped_0 21 rfl rfl)
theorem dX3_dumped_24 : decode cX3_dumped 24 = .ok (.iload_n 1, 1) := dk_27 (dk_at dksX3_dumped_1 0 rfl rfl)
theorem dX3_dumped_25 : decode cX3_dumped 25 = .ok (.iaload, 1) := dk_46 (dk_at dksX3_dumped_1 1 rfl rfl)
theorem dX3_dumped_26 : decode cX3_dumped 26 = .ok (.goto 4, 3) := dk_167 0 4 (dk_at dksX3_dumped_1 2 rfl rfl)
theorem dX3_dumped_29 : decode cX3_dumped 29 = .ok (.iconst 0, 1) := dk_3 (dk_at dksX3_dumped_1 5 rfl rfl)
theorem dX3_dumped_30 : decode cX3_dumped 30 = .ok (.ireturn, 1) := dk_172 (dk_at dksX3_dumped_1 6 rfl rfl)
abbrev cX3_permits : ByteArray := prog_18_method_29_code
def yX3_permits : MethodName := ⟨RX3, "permits", "()I"⟩
def dkwX3_permits_0 : List UInt8 := [42, 3, 181, 0, 81, 42, 180, 0, 141, 172]
abbrev dktX3_permits_0 : List UInt8 := dkwX3_permits_0 ++ []
theorem dksX3_permits_0 : cX3_permits.data.toList.drop 0 = dktX3_permits_0 := by decide +kernel
theorem dX3_permits_0 : decode cX3_permits 0 = .ok (.aload_n 0, 1) := dk_42 (dk_at dksX3_permits_0 0 rfl rfl)
theorem dX3_permits_1 : decode cX3_permits 1 = .ok (.iconst 0, 1) := dk_3 (dk_at dksX3_permits_0 1 rfl rfl)
theorem dX3_permits_2 : decode cX3_permits 2 = .ok (.putfield 81, 3) := dk_181 0 81 (dk_at dksX3_permits_0 2 rfl rfl)
theorem dX3_permits_5 : decode cX3_permits 5 = .ok (.aload_n 0, 1) := dk_42 (dk_at dksX3_permits_0 5 rfl rfl)
theorem dX3_permits_6 : decode cX3_permits 6 = .ok (.getfield 141, 3) := dk_180 0 141 (dk_at dksX3_permits_0 6 rfl rfl)
theorem dX3_permits_9 : decode cX3_permits 9 = .ok (.ireturn, 1) := dk_172 (dk_at dksX3_permits_0 9 rfl rfl)
abbrev cX3_survey : ByteArray := prog_18_method_30_code
def yX3_survey : MethodName := ⟨RX3, "survey", "(IIII)I"⟩
def dkwX3_survey_8 : List UInt8 := [180, 0, 94, 4, 96, 181, 0, 94, 42, 180, 0, 94, 4, 100, 172]
abbrev dktX3_survey_8 : List UInt8 := dkwX3_survey_8 ++ []
def dkwX3_survey_7 : List UInt8 := [21, 4, 96, 79, 132, 6, 1, 167, 255, 205, 42, 178, 0, 160, 42, 180, 0, 94, 182, 0, 120, 42, 89]
abbrev dktX3_survey_7 : List UInt8 := dkwX3_survey_7 ++ dktX3_survey_8
def dkwX3_survey_6 : List UInt8 := [180, 0, 9, 21, 6, 46, 21, 4, 96, 156, 0, 7, 3, 167, 0, 13, 42, 180, 0, 9, 21, 6, 46]
abbrev dktX3_survey_6 : List UInt8 := dkwX3_survey_6 ++ dktX3_survey_7
def dkwX3_survey_5 : List UInt8 := [54, 6, 21, 6, 28, 163, 0, 51, 42, 180, 0, 60, 16, 24, 42, 180, 0, 94, 104, 21, 6, 96, 42]
abbrev dktX3_survey_5 : List UInt8 := dkwX3_survey_5 ++ dktX3_survey_6
def dkwX3_survey_4 : List UInt8 := [27, 79, 42, 180, 0, 54, 42, 180, 0, 94, 28, 79, 42, 180, 0, 57, 42, 180, 0, 94, 29, 79, 27]
abbrev dktX3_survey_4 : List UInt8 := dkwX3_survey_4 ++ dktX3_survey_5
def dkwX3_survey_3 : List UInt8 := [160, 0, 7, 6, 167, 0, 4, 3, 182, 0, 103, 154, 0, 5, 3, 172, 42, 180, 0, 51, 42, 180, 0, 94]
abbrev dktX3_survey_3 : List UInt8 := dkwX3_survey_3 ++ dktX3_survey_4
def dkwX3_survey_2 : List UInt8 := [154, 0, 7, 4, 167, 0, 26, 21, 5, 153, 0, 7, 5, 167, 0, 17, 42, 180, 0, 94, 16, 12]
abbrev dktX3_survey_2 : List UInt8 := dkwX3_survey_2 ++ dktX3_survey_3
def dkwX3_survey_1 : List UInt8 := [154, 0, 7, 4, 167, 0, 4, 3, 54, 5, 42, 42, 27, 182, 0, 107, 153, 0, 11, 42, 28, 182, 0, 107]
abbrev dktX3_survey_1 : List UInt8 := dkwX3_survey_1 ++ dktX3_survey_2
def dkwX3_survey_0 : List UInt8 := [28, 27, 161, 0, 25, 29, 4, 16, 9, 184, 0, 87, 153, 0, 15, 21, 4, 16, 247, 16, 9, 184, 0, 87]
abbrev dktX3_survey_0 : List UInt8 := dkwX3_survey_0 ++ dktX3_survey_1
theorem dksX3_survey_0 : cX3_survey.data.toList.drop 0 = dktX3_survey_0 := by decide +kernel
theorem dksX3_survey_1 : cX3_survey.data.toList.drop 24 = dktX3_survey_1 := dk_seg dksX3_survey_0 24 rfl rfl
theorem dksX3_survey_2 : cX3_survey.data.toList.drop 48 = dktX3_survey_2 := dk_seg dksX3_survey_1 24 rfl rfl
theorem dksX3_survey_3 : cX3_survey.data.toList.drop 70 = dktX3_survey_3 := dk_seg dksX3_survey_2 22 rfl rfl
theorem dksX3_survey_4 : cX3_survey.data.toList.drop 94 = dktX3_survey_4 := dk_seg dksX3_survey_3 24 rfl rfl
theorem dksX3_survey_5 : cX3_survey.data.toList.drop 117 = dktX3_survey_5 := dk_seg dksX3_survey_4 23 rfl rfl
theorem dksX3_survey_6 : cX3_survey.data.toList.drop 140 = dktX3_survey_6 := dk_seg dksX3_survey_5 23 rfl rfl
theorem dksX3_survey_7 : cX3_survey.data.toList.drop 163 = dktX3_survey_7 := dk_seg dksX3_survey_6 23 rfl rfl
theorem dksX3_survey_8 : cX3_survey.data.toList.drop 186 = dktX3_survey_8 := dk_seg dksX3_survey_7 23 rfl rfl
theorem dX3_survey_0 : decode cX3_survey 0 = .ok (.iload_n 2, 1) := dk_28 (dk_at dksX3_survey_0 0 rfl rfl)
theorem dX3_survey_1 : decode cX3_survey 1 = .ok (.iload_n 1, 1) := dk_27 (dk_at dksX3_survey_0 1 rfl rfl)
theorem dX3_survey_2 : decode cX3_survey 2 = .ok (.if_icmp .lt 25, 3) := dk_161 0 25 (dk_at dksX3_survey_0 2 rfl rfl)
theorem dX3_survey_5 : decode cX3_survey 5 = .ok (.iload_n 3, 1) := dk_29 (dk_at dksX3_survey_0 5 rfl rfl)
theorem dX3_survey_6 : decode cX3_survey 6 = .ok (.iconst 1, 1) := dk_4 (dk_at dksX3_survey_0 6 rfl rfl)
theorem dX3_survey_7 : decode cX3_survey 7 = .ok (.bipush 9, 2) := dk_16 9 (dk_at dksX3_survey_0 7 rfl rfl)
theorem dX3_survey_9 : decode cX3_survey 9 = .ok (.invokestatic 87, 3) := dk_184 0 87 (dk_at dksX3_survey_0 9 rfl rfl)
theorem dX3_survey_12 : decode cX3_survey 12 = .ok (.ifCond .eq 15, 3) := dk_153 0 15 (dk_at dksX3_survey_0 12 rfl rfl)
theorem dX3_survey_15 : decode cX3_survey 15 = .ok (.iload 4, 2) := dk_21 4 (dk_at dksX3_survey_0 15 rfl rfl)
theorem dX3_survey_17 : decode cX3_survey 17 = .ok (.bipush (-9), 2) := dk_16 247 (dk_at dksX3_survey_0 17 rfl rfl)
theorem dX3_survey_19 : decode cX3_survey 19 = .ok (.bipush 9, 2) := dk_16 9 (dk_at dksX3_survey_0 19 rfl rfl)
theorem dX3_survey_21 : decode cX3_survey 21 = .ok (.invokestatic 87, 3) := dk_184 0 87 (dk_at dksX3_survey_0 21 rfl rfl)
theorem dX3_survey_24 : decode cX3_survey 24 = .ok (.ifCond .ne 7, 3) := dk_154 0 7 (dk_at dksX3_survey_1 0 rfl rfl)
theorem dX3_survey_27 : decode cX3_survey 27 = .ok (.iconst 1, 1) := dk_4 (dk_at dksX3_survey_1 3 rfl rfl)
theorem dX3_survey_28 : decode cX3_survey 28 = .ok (.goto 4, 3) := dk_167 0 4 (dk_at dksX3_survey_1 4 rfl rfl)
theorem dX3_survey_31 : decode cX3_survey 31 = .ok (.iconst 0, 1) := dk_3 (dk_at dksX3_survey_1 7 rfl rfl)
theorem dX3_survey_32 : decode cX3_survey 32 = .ok (.istore 5, 2) := dk_54 5 (dk_at dksX3_survey_1 8 rfl rfl)
theorem dX3_survey_34 : decode cX3_survey 34 = .ok (.aload_n 0, 1) := dk_42 (dk_at dksX3_survey_1 10 rfl rfl)
theorem dX3_survey_35 : decode cX3_survey 35 = .ok (.aload_n 0, 1) := dk_42 (dk_at dksX3_survey_1 11 rfl rfl)
theorem dX3_survey_36 : decode cX3_survey 36 = .ok (.iload_n 1, 1) := dk_27 (dk_at dksX3_survey_1 12 rfl rfl)
theorem dX3_survey_37 : decode cX3_survey 37 = .ok (.invokevirtual 107, 3) := dk_182 0 107 (dk_at dksX3_survey_1 13 rfl rfl)
theorem dX3_survey_40 : decode cX3_survey 40 = .ok (.ifCond .eq 11, 3) := dk_153 0 11 (dk_at dksX3_survey_1 16 rfl rfl)
theorem dX3_survey_43 : decode cX3_survey 43 = .ok (.aload_n 0, 1) := dk_42 (dk_at dksX3_survey_1 19 rfl rfl)
theorem dX3_survey_44 : decode cX3_survey 44 = .ok (.iload_n 2, 1) := dk_28 (dk_at dksX3_survey_1 20 rfl rfl)
theorem dX3_survey_45 : decode cX3_survey 45 = .ok (.invokevirtual 107, 3) := dk_182 0 107 (dk_at dksX3_survey_1 21 rfl rfl)
theorem dX3_survey_48 : decode cX3_survey 48 = .ok (.ifCond .ne 7, 3) := dk_154 0 7 (dk_at dksX3_survey_2 0 rfl rfl)
theorem dX3_survey_51 : decode cX3_survey 51 = .ok (.iconst 1, 1) := dk_4 (dk_at dksX3_survey_2 3 rfl rfl)
theorem dX3_survey_52 : decode cX3_survey 52 = .ok (.goto 26, 3) := dk_167 0 26 (dk_at dksX3_survey_2 4 rfl rfl)
theorem dX3_survey_55 : decode cX3_survey 55 = .ok (.iload 5, 2) := dk_21 5 (dk_at dksX3_survey_2 7 rfl rfl)
theorem dX3_survey_57 : decode cX3_survey 57 = .ok (.ifCond .eq 7, 3) := dk_153 0 7 (dk_at dksX3_survey_2 9 rfl rfl)
theorem dX3_survey_60 : decode cX3_survey 60 = .ok (.iconst 2, 1) := dk_5 (dk_at dksX3_survey_2 12 rfl rfl)
theorem dX3_survey_61 : decode cX3_survey 61 = .ok (.goto 17, 3) := dk_167 0 17 (dk_at dksX3_survey_2 13 rfl rfl)
theorem dX3_survey_64 : decode cX3_survey 64 = .ok (.aload_n 0, 1) := dk_42 (dk_at dksX3_survey_2 16 rfl rfl)
theorem dX3_survey_65 : decode cX3_survey 65 = .ok (.getfield 94, 3) := dk_180 0 94 (dk_at dksX3_survey_2 17 rfl rfl)
theorem dX3_survey_68 : decode cX3_survey 68 = .ok (.bipush 12, 2) := dk_16 12 (dk_at dksX3_survey_2 20 rfl rfl)
theorem dX3_survey_70 : decode cX3_survey 70 = .ok (.if_icmp .ne 7, 3) := dk_160 0 7 (dk_at dksX3_survey_3 0 rfl rfl)
theorem dX3_survey_73 : decode cX3_survey 73 = .ok (.iconst 3, 1) := dk_6 (dk_at dksX3_survey_3 3 rfl rfl)
theorem dX3_survey_74 : decode cX3_survey 74 = .ok (.goto 4, 3) := dk_167 0 4 (dk_at dksX3_survey_3 4 rfl rfl)
theorem dX3_survey_77 : decode cX3_survey 77 = .ok (.iconst 0, 1) := dk_3 (dk_at dksX3_survey_3 7 rfl rfl)
theorem dX3_survey_78 : decode cX3_survey 78 = .ok (.invokevirtual 103, 3) := dk_182 0 103 (dk_at dksX3_survey_3 8 rfl rfl)
theorem dX3_survey_81 : decode cX3_survey 81 = .ok (.ifCond .ne 5, 3) := dk_154 0 5 (dk_at dksX3_survey_3 11 rfl rfl)
theorem dX3_survey_84 : decode cX3_survey 84 = .ok (.iconst 0, 1) := dk_3 (dk_at dksX3_survey_3 14 rfl rfl)
theorem dX3_survey_85 : decode cX3_survey 85 = .ok (.ireturn, 1) := dk_172 (dk_at dksX3_survey_3 15 rfl rfl)
theorem dX3_survey_86 : decode cX3_survey 86 = .ok (.aload_n 0, 1) := dk_42 (dk_at dksX3_survey_3 16 rfl rfl)
theorem dX3_survey_87 : decode cX3_survey 87 = .ok (.getfield 51, 3) := dk_180 0 51 (dk_at dksX3_survey_3 17 rfl rfl)
theorem dX3_survey_90 : decode cX3_survey 90 = .ok (.aload_n 0, 1) := dk_42 (dk_at dksX3_survey_3 20 rfl rfl)
theorem dX3_survey_91 : decode cX3_survey 91 = .ok (.getfield 94, 3) := dk_180 0 94 (dk_at dksX3_survey_3 21 rfl rfl)
theorem dX3_survey_94 : decode cX3_survey 94 = .ok (.iload_n 1, 1) := dk_27 (dk_at dksX3_survey_4 0 rfl rfl)
theorem dX3_survey_95 : decode cX3_survey 95 = .ok (.iastore, 1) := dk_79 (dk_at dksX3_survey_4 1 rfl rfl)
theorem dX3_survey_96 : decode cX3_survey 96 = .ok (.aload_n 0, 1) := dk_42 (dk_at dksX3_survey_4 2 rfl rfl)
theorem dX3_survey_97 : decode cX3_survey 97 = .ok (.getfield 54, 3) := dk_180 0 54 (dk_at dksX3_survey_4 3 rfl rfl)
theorem dX3_survey_100 : decode cX3_survey 100 = .ok (.aload_n 0, 1) := dk_42 (dk_at dksX3_survey_4 6 rfl rfl)
theorem dX3_survey_101 : decode cX3_survey 101 = .ok (.getfield 94, 3) := dk_180 0 94 (dk_at dksX3_survey_4 7 rfl rfl)
theorem dX3_survey_104 : decode cX3_survey 104 = .ok (.iload_n 2, 1) := dk_28 (dk_at dksX3_survey_4 10 rfl rfl)
theorem dX3_survey_105 : decode cX3_survey 105 = .ok (.iastore, 1) := dk_79 (dk_at dksX3_survey_4 11 rfl rfl)
theorem dX3_survey_106 : decode cX3_survey 106 = .ok (.aload_n 0, 1) := dk_42 (dk_at dksX3_survey_4 12 rfl rfl)
theorem dX3_survey_107 : decode cX3_survey 107 = .ok (.getfield 57, 3) := dk_180 0 57 (dk_at dksX3_survey_4 13 rfl rfl)
theorem dX3_survey_110 : decode cX3_survey 110 = .ok (.aload_n 0, 1) := dk_42 (dk_at dksX3_survey_4 16 rfl rfl)
theorem dX3_survey_111 : decode cX3_survey 111 = .ok (.getfield 94, 3) := dk_180 0 94 (dk_at dksX3_survey_4 17 rfl rfl)
theorem dX3_survey_114 : decode cX3_survey 114 = .ok (.iload_n 3, 1) := dk_29 (dk_at dksX3_survey_4 20 rfl rfl)
theorem dX3_survey_115 : decode cX3_survey 115 = .ok (.iastore, 1) := dk_79 (dk_at dksX3_survey_4 21 rfl rfl)
theorem dX3_survey_116 : decode cX3_survey 116 = .ok (.iload_n 1, 1) := dk_27 (dk_at dksX3_survey_4 22 rfl rfl)
theorem dX3_survey_117 : decode cX3_survey 117 = .ok (.istore 6, 2) := dk_54 6 (dk_at dksX3_survey_5 0 rfl rfl)
theorem dX3_survey_119 : decode cX3_survey 119 = .ok (.iload 6, 2) := dk_21 6 (dk_at dksX3_survey_5 2 rfl rfl)
theorem dX3_survey_121 : decode cX3_survey 121 = .ok (.iload_n 2, 1) := dk_28 (dk_at dksX3_survey_5 4 rfl rfl)
theorem dX3_survey_122 : decode cX3_survey 122 = .ok (.if_icmp .gt 51, 3) := dk_163 0 51 (dk_at dksX3_survey_5 5 rfl rfl)
theorem dX3_survey_125 : decode cX3_survey 125 = .ok (.aload_n 0, 1) := dk_42 (dk_at dksX3_survey_5 8 rfl rfl)
theorem dX3_survey_126 : decode cX3_survey 126 = .ok (.getfield 60, 3) := dk_180 0 60 (dk_at dksX3_survey_5 9 rfl rfl)
theorem dX3_survey_129 : decode cX3_survey 129 = .ok (.bipush 24, 2) := dk_16 24 (dk_at dksX3_survey_5 12 rfl rfl)
theorem dX3_survey_131 : decode cX3_survey 131 = .ok (.aload_n 0, 1) := dk_42 (dk_at dksX3_survey_5 14 rfl rfl)
theorem dX3_survey_132 : decode cX3_survey 132 = .ok (.getfield 94, 3) := dk_180 0 94 (dk_at dksX3_survey_5 15 rfl rfl)
theorem dX3_survey_135 : decode cX3_survey 135 = .ok (.imul, 1) := dk_104 (dk_at dksX3_survey_5 18 rfl rfl)
theorem dX3_survey_136 : decode cX3_survey 136 = .ok (.iload 6, 2) := dk_21 6 (dk_at dksX3_survey_5 19 rfl rfl)
theorem dX3_survey_138 : decode cX3_survey 138 = .ok (.iadd, 1) := dk_96 (dk_at dksX3_survey_5 21 rfl rfl)
theorem dX3_survey_139 : decode cX3_survey 139 = .ok (.aload_n 0, 1) := dk_42 (dk_at dksX3_survey_5 22 rfl rfl)
theorem dX3_survey_140 : decode cX3_survey 140 = .ok (.getfield 9, 3) := dk_180 0 9 (dk_at dksX3_survey_6 0 rfl rfl)
theorem dX3_survey_143 : decode cX3_survey 143 = .ok (.iload 6, 2) := dk_21 6 (dk_at dksX3_survey_6 3 rfl rfl)
theorem dX3_survey_145 : decode cX3_survey 145 = .ok (.iaload, 1) := dk_46 (dk_at dksX3_survey_6 5 rfl rfl)
theorem dX3_survey_146 : decode cX3_survey 146 = .ok (.iload 4, 2) := dk_21 4 (dk_at dksX3_survey_6 6 rfl rfl)
theorem dX3_survey_148 : decode cX3_survey 148 = .ok (.iadd, 1) := dk_96 (dk_at dksX3_survey_6 8 rfl rfl)
theorem dX3_survey_149 : decode cX3_survey 149 = .ok (.ifCond .ge 7, 3) := dk_156 0 7 (dk_at dksX3_survey_6 9 rfl rfl)
theorem dX3_survey_152 : decode cX3_survey 152 = .ok (.iconst 0, 1) := dk_3 (dk_at dksX3_survey_6 12 rfl rfl)
theorem dX3_survey_153 : decode cX3_survey 153 = .ok (.goto 13, 3) := dk_167 0 13 (dk_at dksX3_survey_6 13 rfl rfl)
theorem dX3_survey_156 : decode cX3_survey 156 = .ok (.aload_n 0, 1) := dk_42 (dk_at dksX3_survey_6 16 rfl rfl)
theorem dX3_survey_157 : decode cX3_survey 157 = .ok (.getfield 9, 3) := dk_180 0 9 (dk_at dksX3_survey_6 17 rfl rfl)
theorem dX3_survey_160 : decode cX3_survey 160 = .ok (.iload 6, 2) := dk_21 6 (dk_at dksX3_survey_6 20 rfl rfl)
theorem dX3_survey_162 : decode cX3_survey 162 = .ok (.iaload, 1) := dk_46 (dk_at dksX3_survey_6 22 rfl rfl)
theorem dX3_survey_163 : decode cX3_survey 163 = .ok (.iload 4, 2) := dk_21 4 (dk_at dksX3_survey_7 0 rfl rfl)
theorem dX3_survey_165 : decode cX3_survey 165 = .ok (.iadd, 1) := dk_96 (dk_at dksX3_survey_7 2 rfl rfl)
theorem dX3_survey_166 : decode cX3_survey 166 = .ok (.iastore, 1) := dk_79 (dk_at dksX3_survey_7 3 rfl rfl)
theorem dX3_survey_167 : decode cX3_survey 167 = .ok (.iinc 6 1, 3) := dk_132 6 1 (dk_at dksX3_survey_7 4 rfl rfl)
theorem dX3_survey_170 : decode cX3_survey 170 = .ok (.goto (-51), 3) := dk_167 255 205 (dk_at dksX3_survey_7 7 rfl rfl)
theorem dX3_survey_173 : decode cX3_survey 173 = .ok (.aload_n 0, 1) := dk_42 (dk_at dksX3_survey_7 10 rfl rfl)
theorem dX3_survey_174 : decode cX3_survey 174 = .ok (.getstatic 160, 3) := dk_178 0 160 (dk_at dksX3_survey_7 11 rfl rfl)
theorem dX3_survey_177 : decode cX3_survey 177 = .ok (.aload_n 0, 1) := dk_42 (dk_at dksX3_survey_7 14 rfl rfl)
theorem dX3_survey_178 : decode cX3_survey 178 = .ok (.getfield 94, 3) := dk_180 0 94 (dk_at dksX3_survey_7 15 rfl rfl)
theorem dX3_survey_181 : decode cX3_survey 181 = .ok (.invokevirtual 120, 3) := dk_182 0 120 (dk_at dksX3_survey_7 18 rfl rfl)
theorem dX3_survey_184 : decode cX3_survey 184 = .ok (.aload_n 0, 1) := dk_42 (dk_at dksX3_survey_7 21 rfl rfl)
theorem dX3_survey_185 : decode cX3_survey 185 = .ok (.dup, 1) := dk_89 (dk_at dksX3_survey_7 22 rfl rfl)
theorem dX3_survey_186 : decode cX3_survey 186 = .ok (.getfield 94, 3) := dk_180 0 94 (dk_at dksX3_survey_8 0 rfl rfl)
theorem dX3_survey_189 : decode cX3_survey 189 = .ok (.iconst 1, 1) := dk_4 (dk_at dksX3_survey_8 3 rfl rfl)
theorem dX3_survey_190 : decode cX3_survey 190 = .ok (.iadd, 1) := dk_96 (dk_at dksX3_survey_8 4 rfl rfl)
theorem dX3_survey_191 : decode cX3_survey 191 = .ok (.putfield 94, 3) := dk_181 0 94 (dk_at dksX3_survey_8 5 rfl rfl)
theorem dX3_survey_194 : decode cX3_survey 194 = .ok (.aload_n 0, 1) := dk_42 (dk_at dksX3_survey_8 8 rfl rfl)
theorem dX3_survey_195 : decode cX3_survey 195 = .ok (.getfield 94, 3) := dk_180 0 94 (dk_at dksX3_survey_8 9 rfl rfl)
theorem dX3_survey_198 : decode cX3_survey 198 = .ok (.iconst 1, 1) := dk_4 (dk_at dksX3_survey_8 12 rfl rfl)
theorem dX3_survey_199 : decode cX3_survey 199 = .ok (.isub, 1) := dk_100 (dk_at dksX3_survey_8 13 rfl rfl)
theorem dX3_survey_200 : decode cX3_survey 200 = .ok (.ireturn, 1) := dk_172 (dk_at dksX3_survey_8 14 rfl rfl)
abbrev cX3_told : ByteArray := prog_18_method_32_code
def yX3_told : MethodName := ⟨RX3, "told", "(II)I"⟩
def dkwX3_told_2 : List UInt8 := [16, 24, 27, 104, 28, 96, 46, 167, 0, 4, 3, 172]
abbrev dktX3_told_2 : List UInt8 := dkwX3_told_2 ++ []
def dkwX3_told_1 : List UInt8 := [182, 0, 166, 154, 0, 7, 5, 167, 0, 4, 3, 62, 42, 29, 182, 0, 103, 153, 0, 17, 42, 180, 0, 60]
abbrev dktX3_told_1 : List UInt8 := dkwX3_told_1 ++ dktX3_told_2
def dkwX3_told_0 : List UInt8 := [42, 27, 182, 0, 163, 153, 0, 11, 42, 28, 182, 0, 107, 154, 0, 7, 4, 167, 0, 17, 42, 27, 28]
abbrev dktX3_told_0 : List UInt8 := dkwX3_told_0 ++ dktX3_told_1
theorem dksX3_told_0 : cX3_told.data.toList.drop 0 = dktX3_told_0 := by decide +kernel
theorem dksX3_told_1 : cX3_told.data.toList.drop 23 = dktX3_told_1 := dk_seg dksX3_told_0 23 rfl rfl
theorem dksX3_told_2 : cX3_told.data.toList.drop 47 = dktX3_told_2 := dk_seg dksX3_told_1 24 rfl rfl
theorem dX3_told_0 : decode cX3_told 0 = .ok (.aload_n 0, 1) := dk_42 (dk_at dksX3_told_0 0 rfl rfl)
theorem dX3_told_1 : decode cX3_told 1 = .ok (.iload_n 1, 1) := dk_27 (dk_at dksX3_told_0 1 rfl rfl)
theorem dX3_told_2 : decode cX3_told 2 = .ok (.invokevirtual 163, 3) := dk_182 0 163 (dk_at dksX3_told_0 2 rfl rfl)
theorem dX3_told_5 : decode cX3_told 5 = .ok (.ifCond .eq 11, 3) := dk_153 0 11 (dk_at dksX3_told_0 5 rfl rfl)
theorem dX3_told_8 : decode cX3_told 8 = .ok (.aload_n 0, 1) := dk_42 (dk_at dksX3_told_0 8 rfl rfl)
theorem dX3_told_9 : decode cX3_told 9 = .ok (.iload_n 2, 1) := dk_28 (dk_at dksX3_told_0 9 rfl rfl)
theorem dX3_told_10 : decode cX3_told 10 = .ok (.invokevirtual 107, 3) := dk_182 0 107 (dk_at dksX3_told_0 10 rfl rfl)
theorem dX3_told_13 : decode cX3_told 13 = .ok (.ifCond .ne 7, 3) := dk_154 0 7 (dk_at dksX3_told_0 13 rfl rfl)
theorem dX3_told_16 : decode cX3_told 16 = .ok (.iconst 1, 1) := dk_4 (dk_at dksX3_told_0 16 rfl rfl)
theorem dX3_told_17 : decode cX3_told 17 = .ok (.goto 17, 3) := dk_167 0 17 (dk_at dksX3_told_0 17 rfl rfl)
theorem dX3_told_20 : decode cX3_told 20 = .ok (.aload_n 0, 1) := dk_42 (dk_at dksX3_told_0 20 rfl rfl)
theorem dX3_told_21 : decode cX3_told 21 = .ok (.iload_n 1, 1) := dk_27 (dk_at dksX3_told_0 21 rfl rfl)
theorem dX3_told_22 : decode cX3_told 22 = .ok (.iload_n 2, 1) := dk_28 (dk_at dksX3_told_0 22 rfl rfl)
theorem dX3_told_23 : decode cX3_told 23 = .ok (.invokevirtual 166, 3) := dk_182 0 166 (dk_at dksX3_told_1 0 rfl rfl)
theorem dX3_told_26 : decode cX3_told 26 = .ok (.ifCond .ne 7, 3) := dk_154 0 7 (dk_at dksX3_told_1 3 rfl rfl)
theorem dX3_told_29 : decode cX3_told 29 = .ok (.iconst 2, 1) := dk_5 (dk_at dksX3_told_1 6 rfl rfl)
theorem dX3_told_30 : decode cX3_told 30 = .ok (.goto 4, 3) := dk_167 0 4 (dk_at dksX3_told_1 7 rfl rfl)
theorem dX3_told_33 : decode cX3_told 33 = .ok (.iconst 0, 1) := dk_3 (dk_at dksX3_told_1 10 rfl rfl)
theorem dX3_told_34 : decode cX3_told 34 = .ok (.istore_n 3, 1) := dk_62 (dk_at dksX3_told_1 11 rfl rfl)
theorem dX3_told_35 : decode cX3_told 35 = .ok (.aload_n 0, 1) := dk_42 (dk_at dksX3_told_1 12 rfl rfl)
theorem dX3_told_36 : decode cX3_told 36 = .ok (.iload_n 3, 1) := dk_29 (dk_at dksX3_told_1 13 rfl rfl)
theorem dX3_told_37 : decode cX3_told 37 = .ok (.invokevirtual 103, 3) := dk_182 0 103 (dk_at dksX3_told_1 14 rfl rfl)
theorem dX3_told_40 : decode cX3_told 40 = .ok (.ifCond .eq 17, 3) := dk_153 0 17 (dk_at dksX3_told_1 17 rfl rfl)
theorem dX3_told_43 : decode cX3_told 43 = .ok (.aload_n 0, 1) := dk_42 (dk_at dksX3_told_1 20 rfl rfl)
theorem dX3_told_44 : decode cX3_told 44 = .ok (.getfield 60, 3) := dk_180 0 60 (dk_at dksX3_told_1 21 rfl rfl)
theorem dX3_told_47 : decode cX3_told 47 = .ok (.bipush 24, 2) := dk_16 24 (dk_at dksX3_told_2 0 rfl rfl)
theorem dX3_told_49 : decode cX3_told 49 = .ok (.iload_n 1, 1) := dk_27 (dk_at dksX3_told_2 2 rfl rfl)
theorem dX3_told_50 : decode cX3_told 50 = .ok (.imul, 1) := dk_104 (dk_at dksX3_told_2 3 rfl rfl)
theorem dX3_told_51 : decode cX3_told 51 = .ok (.iload_n 2, 1) := dk_28 (dk_at dksX3_told_2 4 rfl rfl)
theorem dX3_told_52 : decode cX3_told 52 = .ok (.iadd, 1) := dk_96 (dk_at dksX3_told_2 5 rfl rfl)
theorem dX3_told_53 : decode cX3_told 53 = .ok (.iaload, 1) := dk_46 (dk_at dksX3_told_2 6 rfl rfl)
theorem dX3_told_54 : decode cX3_told 54 = .ok (.goto 4, 3) := dk_167 0 4 (dk_at dksX3_told_2 7 rfl rfl)
theorem dX3_told_57 : decode cX3_told 57 = .ok (.iconst 0, 1) := dk_3 (dk_at dksX3_told_2 10 rfl rfl)
theorem dX3_told_58 : decode cX3_told 58 = .ok (.ireturn, 1) := dk_172 (dk_at dksX3_told_2 11 rfl rfl)
abbrev cX3_isSurvey : ByteArray := prog_18_method_7_code
def yX3_isSurvey : MethodName := ⟨RX3, "isSurvey", "(I)Z"⟩
def dkwX3_isSurvey_0 : List UInt8 := [27, 3, 42, 180, 0, 94, 4, 100, 184, 0, 87, 172]
abbrev dktX3_isSurvey_0 : List UInt8 := dkwX3_isSurvey_0 ++ []
theorem dksX3_isSurvey_0 : cX3_isSurvey.data.toList.drop 0 = dktX3_isSurvey_0 := by decide +kernel
theorem dX3_isSurvey_0 : decode cX3_isSurvey 0 = .ok (.iload_n 1, 1) := dk_27 (dk_at dksX3_isSurvey_0 0 rfl rfl)
theorem dX3_isSurvey_1 : decode cX3_isSurvey 1 = .ok (.iconst 0, 1) := dk_3 (dk_at dksX3_isSurvey_0 1 rfl rfl)
theorem dX3_isSurvey_2 : decode cX3_isSurvey 2 = .ok (.aload_n 0, 1) := dk_42 (dk_at dksX3_isSurvey_0 2 rfl rfl)
theorem dX3_isSurvey_3 : decode cX3_isSurvey 3 = .ok (.getfield 94, 3) := dk_180 0 94 (dk_at dksX3_isSurvey_0 3 rfl rfl)
theorem dX3_isSurvey_6 : decode cX3_isSurvey 6 = .ok (.iconst 1, 1) := dk_4 (dk_at dksX3_isSurvey_0 6 rfl rfl)
theorem dX3_isSurvey_7 : decode cX3_isSurvey 7 = .ok (.isub, 1) := dk_100 (dk_at dksX3_isSurvey_0 7 rfl rfl)
theorem dX3_isSurvey_8 : decode cX3_isSurvey 8 = .ok (.invokestatic 87, 3) := dk_184 0 87 (dk_at dksX3_isSurvey_0 8 rfl rfl)
theorem dX3_isSurvey_11 : decode cX3_isSurvey 11 = .ok (.ireturn, 1) := dk_172 (dk_at dksX3_isSurvey_0 11 rfl rfl)
abbrev cX3_tells : ByteArray := prog_18_method_31_code
def yX3_tells : MethodName := ⟨RX3, "tells", "(II)Z"⟩
def dkwX3_tells_0 : List UInt8 := [28, 42, 180, 0, 51, 27, 46, 42, 180, 0, 54, 27, 46, 184, 0, 87, 172]
abbrev dktX3_tells_0 : List UInt8 := dkwX3_tells_0 ++ []
theorem dksX3_tells_0 : cX3_tells.data.toList.drop 0 = dktX3_tells_0 := by decide +kernel
theorem dX3_tells_0 : decode cX3_tells 0 = .ok (.iload_n 2, 1) := dk_28 (dk_at dksX3_tells_0 0 rfl rfl)
theorem dX3_tells_1 : decode cX3_tells 1 = .ok (.aload_n 0, 1) := dk_42 (dk_at dksX3_tells_0 1 rfl rfl)
theorem dX3_tells_2 : decode cX3_tells 2 = .ok (.getfield 51, 3) := dk_180 0 51 (dk_at dksX3_tells_0 2 rfl rfl)
theorem dX3_tells_5 : decode cX3_tells 5 = .ok (.iload_n 1, 1) := dk_27 (dk_at dksX3_tells_0 5 rfl rfl)
theorem dX3_tells_6 : decode cX3_tells 6 = .ok (.iaload, 1) := dk_46 (dk_at dksX3_tells_0 6 rfl rfl)
theorem dX3_tells_7 : decode cX3_tells 7 = .ok (.aload_n 0, 1) := dk_42 (dk_at dksX3_tells_0 7 rfl rfl)
theorem dX3_tells_8 : decode cX3_tells 8 = .ok (.getfield 54, 3) := dk_180 0 54 (dk_at dksX3_tells_0 8 rfl rfl)
theorem dX3_tells_11 : decode cX3_tells 11 = .ok (.iload_n 1, 1) := dk_27 (dk_at dksX3_tells_0 11 rfl rfl)
theorem dX3_tells_12 : decode cX3_tells 12 = .ok (.iaload, 1) := dk_46 (dk_at dksX3_tells_0 12 rfl rfl)
theorem dX3_tells_13 : decode cX3_tells 13 = .ok (.invokestatic 87, 3) := dk_184 0 87 (dk_at dksX3_tells_0 13 rfl rfl)
theorem dX3_tells_16 : decode cX3_tells 16 = .ok (.ireturn, 1) := dk_172 (dk_at dksX3_tells_0 16 rfl rfl)
abbrev cX3_bed : ByteArray := prog_18_method_34_code
def yX3_bed : MethodName := ⟨RX3, "bed", "(I)I"⟩
def dkwX3_bed_1 : List UInt8 := [167, 0, 4, 3, 61, 42, 28, 182, 0, 103, 153, 0, 11, 42, 27, 182, 0, 169, 167, 0, 4, 3, 172]
abbrev dktX3_bed_1 : List UInt8 := dkwX3_bed_1 ++ []
def dkwX3_bed_0 : List UInt8 := [42, 27, 182, 0, 107, 154, 0, 7, 4, 167, 0, 17, 42, 27, 182, 0, 169, 2, 160, 0, 7, 5]
abbrev dktX3_bed_0 : List UInt8 := dkwX3_bed_0 ++ dktX3_bed_1
theorem dksX3_bed_0 : cX3_bed.data.toList.drop 0 = dktX3_bed_0 := by decide +kernel
theorem dksX3_bed_1 : cX3_bed.data.toList.drop 22 = dktX3_bed_1 := dk_seg dksX3_bed_0 22 rfl rfl
theorem dX3_bed_0 : decode cX3_bed 0 = .ok (.aload_n 0, 1) := dk_42 (dk_at dksX3_bed_0 0 rfl rfl)
theorem dX3_bed_1 : decode cX3_bed 1 = .ok (.iload_n 1, 1) := dk_27 (dk_at dksX3_bed_0 1 rfl rfl)
theorem dX3_bed_2 : decode cX3_bed 2 = .ok (.invokevirtual 107, 3) := dk_182 0 107 (dk_at dksX3_bed_0 2 rfl rfl)
theorem dX3_bed_5 : decode cX3_bed 5 = .ok (.ifCond .ne 7, 3) := dk_154 0 7 (dk_at dksX3_bed_0 5 rfl rfl)
theorem dX3_bed_8 : decode cX3_bed 8 = .ok (.iconst 1, 1) := dk_4 (dk_at dksX3_bed_0 8 rfl rfl)
theorem dX3_bed_9 : decode cX3_bed 9 = .ok (.goto 17, 3) := dk_167 0 17 (dk_at dksX3_bed_0 9 rfl rfl)
theorem dX3_bed_12 : decode cX3_bed 12 = .ok (.aload_n 0, 1) := dk_42 (dk_at dksX3_bed_0 12 rfl rfl)
theorem dX3_bed_13 : decode cX3_bed 13 = .ok (.iload_n 1, 1) := dk_27 (dk_at dksX3_bed_0 13 rfl rfl)
theorem dX3_bed_14 : decode cX3_bed 14 = .ok (.invokevirtual 169, 3) := dk_182 0 169 (dk_at dksX3_bed_0 14 rfl rfl)
theorem dX3_bed_17 : decode cX3_bed 17 = .ok (.iconst (-1), 1) := dk_2 (dk_at dksX3_bed_0 17 rfl rfl)
theorem dX3_bed_18 : decode cX3_bed 18 = .ok (.if_icmp .ne 7, 3) := dk_160 0 7 (dk_at dksX3_bed_0 18 rfl rfl)
theorem dX3_bed_21 : decode cX3_bed 21 = .ok (.iconst 2, 1) := dk_5 (dk_at dksX3_bed_0 21 rfl rfl)
theorem dX3_bed_22 : decode cX3_bed 22 = .ok (.goto 4, 3) := dk_167 0 4 (dk_at dksX3_bed_1 0 rfl rfl)
theorem dX3_bed_25 : decode cX3_bed 25 = .ok (.iconst 0, 1) := dk_3 (dk_at dksX3_bed_1 3 rfl rfl)
theorem dX3_bed_26 : decode cX3_bed 26 = .ok (.istore_n 2, 1) := dk_61 (dk_at dksX3_bed_1 4 rfl rfl)
theorem dX3_bed_27 : decode cX3_bed 27 = .ok (.aload_n 0, 1) := dk_42 (dk_at dksX3_bed_1 5 rfl rfl)
theorem dX3_bed_28 : decode cX3_bed 28 = .ok (.iload_n 2, 1) := dk_28 (dk_at dksX3_bed_1 6 rfl rfl)
theorem dX3_bed_29 : decode cX3_bed 29 = .ok (.invokevirtual 103, 3) := dk_182 0 103 (dk_at dksX3_bed_1 7 rfl rfl)
theorem dX3_bed_32 : decode cX3_bed 32 = .ok (.ifCond .eq 11, 3) := dk_153 0 11 (dk_at dksX3_bed_1 10 rfl rfl)
theorem dX3_bed_35 : decode cX3_bed 35 = .ok (.aload_n 0, 1) := dk_42 (dk_at dksX3_bed_1 13 rfl rfl)
theorem dX3_bed_36 : decode cX3_bed 36 = .ok (.iload_n 1, 1) := dk_27 (dk_at dksX3_bed_1 14 rfl rfl)
theorem dX3_bed_37 : decode cX3_bed 37 = .ok (.invokevirtual 169, 3) := dk_182 0 169 (dk_at dksX3_bed_1 15 rfl rfl)
theorem dX3_bed_40 : decode cX3_bed 40 = .ok (.goto 4, 3) := dk_167 0 4 (dk_at dksX3_bed_1 18 rfl rfl)
theorem dX3_bed_43 : decode cX3_bed 43 = .ok (.iconst 0, 1) := dk_3 (dk_at dksX3_bed_1 21 rfl rfl)
theorem dX3_bed_44 : decode cX3_bed 44 = .ok (.ireturn, 1) := dk_172 (dk_at dksX3_bed_1 22 rfl rfl)
abbrev cX3_bedOf : ByteArray := prog_18_method_33_code
def yX3_bedOf : MethodName := ⟨RX3, "bedOf", "(I)I"⟩
def dkwX3_bedOf_3 : List UInt8 := [132, 4, 1, 132, 5, 255, 167, 255, 196, 21, 4, 154, 0, 7, 2, 167, 0, 6, 28, 29, 108, 172]
abbrev dktX3_bedOf_3 : List UInt8 := dkwX3_bedOf_3 ++ []
def dkwX3_bedOf_2 : List UInt8 := [96, 46, 42, 180, 0, 57, 21, 5, 46, 104, 96, 61, 29, 42, 180, 0, 57, 21, 5, 46, 96, 62]
abbrev dktX3_bedOf_2 : List UInt8 := dkwX3_bedOf_2 ++ dktX3_bedOf_3
def dkwX3_bedOf_1 : List UInt8 := [162, 0, 55, 42, 21, 5, 27, 182, 0, 166, 153, 0, 39, 28, 42, 180, 0, 60, 16, 24, 21, 5, 104, 27]
abbrev dktX3_bedOf_1 : List UInt8 := dkwX3_bedOf_1 ++ dktX3_bedOf_2
def dkwX3_bedOf_0 : List UInt8 := [3, 61, 3, 62, 3, 54, 4, 42, 180, 0, 94, 4, 100, 54, 5, 21, 5, 155, 0, 61, 21, 4, 6]
abbrev dktX3_bedOf_0 : List UInt8 := dkwX3_bedOf_0 ++ dktX3_bedOf_1
theorem dksX3_bedOf_0 : cX3_bedOf.data.toList.drop 0 = dktX3_bedOf_0 := by decide +kernel
theorem dksX3_bedOf_1 : cX3_bedOf.data.toList.drop 23 = dktX3_bedOf_1 := dk_seg dksX3_bedOf_0 23 rfl rfl
theorem dksX3_bedOf_2 : cX3_bedOf.data.toList.drop 47 = dktX3_bedOf_2 := dk_seg dksX3_bedOf_1 24 rfl rfl
theorem dksX3_bedOf_3 : cX3_bedOf.data.toList.drop 69 = dktX3_bedOf_3 := dk_seg dksX3_bedOf_2 22 rfl rfl
theorem dX3_bedOf_0 : decode cX3_bedOf 0 = .ok (.iconst 0, 1) := dk_3 (dk_at dksX3_bedOf_0 0 rfl rfl)
theorem dX3_bedOf_1 : decode cX3_bedOf 1 = .ok (.istore_n 2, 1) := dk_61 (dk_at dksX3_bedOf_0 1 rfl rfl)
theorem dX3_bedOf_2 : decode cX3_bedOf 2 = .ok (.iconst 0, 1) := dk_3 (dk_at dksX3_bedOf_0 2 rfl rfl)
theorem dX3_bedOf_3 : decode cX3_bedOf 3 = .ok (.istore_n 3, 1) := dk_62 (dk_at dksX3_bedOf_0 3 rfl rfl)
theorem dX3_bedOf_4 : decode cX3_bedOf 4 = .ok (.iconst 0, 1) := dk_3 (dk_at dksX3_bedOf_0 4 rfl rfl)
theorem dX3_bedOf_5 : decode cX3_bedOf 5 = .ok (.istore 4, 2) := dk_54 4 (dk_at dksX3_bedOf_0 5 rfl rfl)
theorem dX3_bedOf_7 : decode cX3_bedOf 7 = .ok (.aload_n 0, 1) := dk_42 (dk_at dksX3_bedOf_0 7 rfl rfl)
theorem dX3_bedOf_8 : decode cX3_bedOf 8 = .ok (.getfield 94, 3) := dk_180 0 94 (dk_at dksX3_bedOf_0 8 rfl rfl)
theorem dX3_bedOf_11 : decode cX3_bedOf 11 = .ok (.iconst 1, 1) := dk_4 (dk_at dksX3_bedOf_0 11 rfl rfl)
theorem dX3_bedOf_12 : decode cX3_bedOf 12 = .ok (.isub, 1) := dk_100 (dk_at dksX3_bedOf_0 12 rfl rfl)
theorem dX3_bedOf_13 : decode cX3_bedOf 13 = .ok (.istore 5, 2) := dk_54 5 (dk_at dksX3_bedOf_0 13 rfl rfl)
theorem dX3_bedOf_15 : decode cX3_bedOf 15 = .ok (.iload 5, 2) := dk_21 5 (dk_at dksX3_bedOf_0 15 rfl rfl)
theorem dX3_bedOf_17 : decode cX3_bedOf 17 = .ok (.ifCond .lt 61, 3) := dk_155 0 61 (dk_at dksX3_bedOf_0 17 rfl rfl)
theorem dX3_bedOf_20 : decode cX3_bedOf 20 = .ok (.iload 4, 2) := dk_21 4 (dk_at dksX3_bedOf_0 20 rfl rfl)
theorem dX3_bedOf_22 : decode cX3_bedOf 22 = .ok (.iconst 3, 1) := dk_6 (dk_at dksX3_bedOf_0 22 rfl rfl)
theorem dX3_bedOf_23 : decode cX3_bedOf 23 = .ok (.if_icmp .ge 55, 3) := dk_162 0 55 (dk_at dksX3_bedOf_1 0 rfl rfl)
theorem dX3_bedOf_26 : decode cX3_bedOf 26 = .ok (.aload_n 0, 1) := dk_42 (dk_at dksX3_bedOf_1 3 rfl rfl)
theorem dX3_bedOf_27 : decode cX3_bedOf 27 = .ok (.iload 5, 2) := dk_21 5 (dk_at dksX3_bedOf_1 4 rfl rfl)
theorem dX3_bedOf_29 : decode cX3_bedOf 29 = .ok (.iload_n 1, 1) := dk_27 (dk_at dksX3_bedOf_1 6 rfl rfl)
theorem dX3_bedOf_30 : decode cX3_bedOf 30 = .ok (.invokevirtual 166, 3) := dk_182 0 166 (dk_at dksX3_bedOf_1 7 rfl rfl)
theorem dX3_bedOf_33 : decode cX3_bedOf 33 = .ok (.ifCond .eq 39, 3) := dk_153 0 39 (dk_at dksX3_bedOf_1 10 rfl rfl)
theorem dX3_bedOf_36 : decode cX3_bedOf 36 = .ok (.iload_n 2, 1) := dk_28 (dk_at dksX3_bedOf_1 13 rfl rfl)
theorem dX3_bedOf_37 : decode cX3_bedOf 37 = .ok (.aload_n 0, 1) := dk_42 (dk_at dksX3_bedOf_1 14 rfl rfl)
theorem dX3_bedOf_38 : decode cX3_bedOf 38 = .ok (.getfield 60, 3) := dk_180 0 60 (dk_at dksX3_bedOf_1 15 rfl rfl)
theorem dX3_bedOf_41 : decode cX3_bedOf 41 = .ok (.bipush 24, 2) := dk_16 24 (dk_at dksX3_bedOf_1 18 rfl rfl)
theorem dX3_bedOf_43 : decode cX3_bedOf 43 = .ok (.iload 5, 2) := dk_21 5 (dk_at dksX3_bedOf_1 20 rfl rfl)
theorem dX3_bedOf_45 : decode cX3_bedOf 45 = .ok (.imul, 1) := dk_104 (dk_at dksX3_bedOf_1 22 rfl rfl)
theorem dX3_bedOf_46 : decode cX3_bedOf 46 = .ok (.iload_n 1, 1) := dk_27 (dk_at dksX3_bedOf_1 23 rfl rfl)
theorem dX3_bedOf_47 : decode cX3_bedOf 47 = .ok (.iadd, 1) := dk_96 (dk_at dksX3_bedOf_2 0 rfl rfl)
theorem dX3_bedOf_48 : decode cX3_bedOf 48 = .ok (.iaload, 1) := dk_46 (dk_at dksX3_bedOf_2 1 rfl rfl)
theorem dX3_bedOf_49 : decode cX3_bedOf 49 = .ok (.aload_n 0, 1) := dk_42 (dk_at dksX3_bedOf_2 2 rfl rfl)
theorem dX3_bedOf_50 : decode cX3_bedOf 50 = .ok (.getfield 57, 3) := dk_180 0 57 (dk_at dksX3_bedOf_2 3 rfl rfl)
theorem dX3_bedOf_53 : decode cX3_bedOf 53 = .ok (.iload 5, 2) := dk_21 5 (dk_at dksX3_bedOf_2 6 rfl rfl)
theorem dX3_bedOf_55 : decode cX3_bedOf 55 = .ok (.iaload, 1) := dk_46 (dk_at dksX3_bedOf_2 8 rfl rfl)
theorem dX3_bedOf_56 : decode cX3_bedOf 56 = .ok (.imul, 1) := dk_104 (dk_at dksX3_bedOf_2 9 rfl rfl)
theorem dX3_bedOf_57 : decode cX3_bedOf 57 = .ok (.iadd, 1) := dk_96 (dk_at dksX3_bedOf_2 10 rfl rfl)
theorem dX3_bedOf_58 : decode cX3_bedOf 58 = .ok (.istore_n 2, 1) := dk_61 (dk_at dksX3_bedOf_2 11 rfl rfl)
theorem dX3_bedOf_59 : decode cX3_bedOf 59 = .ok (.iload_n 3, 1) := dk_29 (dk_at dksX3_bedOf_2 12 rfl rfl)
theorem dX3_bedOf_60 : decode cX3_bedOf 60 = .ok (.aload_n 0, 1) := dk_42 (dk_at dksX3_bedOf_2 13 rfl rfl)
theorem dX3_bedOf_61 : decode cX3_bedOf 61 = .ok (.getfield 57, 3) := dk_180 0 57 (dk_at dksX3_bedOf_2 14 rfl rfl)
theorem dX3_bedOf_64 : decode cX3_bedOf 64 = .ok (.iload 5, 2) := dk_21 5 (dk_at dksX3_bedOf_2 17 rfl rfl)
theorem dX3_bedOf_66 : decode cX3_bedOf 66 = .ok (.iaload, 1) := dk_46 (dk_at dksX3_bedOf_2 19 rfl rfl)
theorem dX3_bedOf_67 : decode cX3_bedOf 67 = .ok (.iadd, 1) := dk_96 (dk_at dksX3_bedOf_2 20 rfl rfl)
theorem dX3_bedOf_68 : decode cX3_bedOf 68 = .ok (.istore_n 3, 1) := dk_62 (dk_at dksX3_bedOf_2 21 rfl rfl)
theorem dX3_bedOf_69 : decode cX3_bedOf 69 = .ok (.iinc 4 1, 3) := dk_132 4 1 (dk_at dksX3_bedOf_3 0 rfl rfl)
theorem dX3_bedOf_72 : decode cX3_bedOf 72 = .ok (.iinc 5 (-1), 3) := dk_132 5 255 (dk_at dksX3_bedOf_3 3 rfl rfl)
theorem dX3_bedOf_75 : decode cX3_bedOf 75 = .ok (.goto (-60), 3) := dk_167 255 196 (dk_at dksX3_bedOf_3 6 rfl rfl)
theorem dX3_bedOf_78 : decode cX3_bedOf 78 = .ok (.iload 4, 2) := dk_21 4 (dk_at dksX3_bedOf_3 9 rfl rfl)
theorem dX3_bedOf_80 : decode cX3_bedOf 80 = .ok (.ifCond .ne 7, 3) := dk_154 0 7 (dk_at dksX3_bedOf_3 11 rfl rfl)
theorem dX3_bedOf_83 : decode cX3_bedOf 83 = .ok (.iconst (-1), 1) := dk_2 (dk_at dksX3_bedOf_3 14 rfl rfl)
theorem dX3_bedOf_84 : decode cX3_bedOf 84 = .ok (.goto 6, 3) := dk_167 0 6 (dk_at dksX3_bedOf_3 15 rfl rfl)
theorem dX3_bedOf_87 : decode cX3_bedOf 87 = .ok (.iload_n 2, 1) := dk_28 (dk_at dksX3_bedOf_3 18 rfl rfl)
theorem dX3_bedOf_88 : decode cX3_bedOf 88 = .ok (.iload_n 3, 1) := dk_29 (dk_at dksX3_bedOf_3 19 rfl rfl)
theorem dX3_bedOf_89 : decode cX3_bedOf 89 = .ok (.idiv, 1) := dk_108 (dk_at dksX3_bedOf_3 20 rfl rfl)
theorem dX3_bedOf_90 : decode cX3_bedOf 90 = .ok (.ireturn, 1) := dk_172 (dk_at dksX3_bedOf_3 21 rfl rfl)
abbrev cX3_between : ByteArray := prog_18_method_35_code
def yX3_between : MethodName := ⟨RX3, "between", "(II)I"⟩
def dkwX3_between_4 : List UInt8 := [3, 96, 62, 132, 4, 1, 167, 255, 192, 29, 172]
abbrev dktX3_between_4 : List UInt8 := dkwX3_between_4 ++ []
def dkwX3_between_3 : List UInt8 := [16, 24, 28, 104, 21, 4, 96, 46, 42, 180, 0, 60, 16, 24, 27, 104, 21, 4, 96, 46, 100, 167, 0, 4]
abbrev dktX3_between_3 : List UInt8 := dkwX3_between_3 ++ dktX3_between_4
def dkwX3_between_2 : List UInt8 := [27, 21, 4, 182, 0, 166, 153, 0, 41, 42, 28, 21, 4, 182, 0, 166, 153, 0, 31, 42, 180, 0, 60]
abbrev dktX3_between_2 : List UInt8 := dkwX3_between_2 ++ dktX3_between_3
def dkwX3_between_1 : List UInt8 := [182, 0, 103, 154, 0, 5, 3, 172, 3, 62, 3, 54, 4, 21, 4, 42, 180, 0, 84, 162, 0, 61, 29, 42]
abbrev dktX3_between_1 : List UInt8 := dkwX3_between_1 ++ dktX3_between_2
def dkwX3_between_0 : List UInt8 := [42, 42, 27, 182, 0, 163, 153, 0, 15, 42, 28, 182, 0, 163, 153, 0, 7, 3, 167, 0, 4, 4]
abbrev dktX3_between_0 : List UInt8 := dkwX3_between_0 ++ dktX3_between_1
theorem dksX3_between_0 : cX3_between.data.toList.drop 0 = dktX3_between_0 := by decide +kernel
theorem dksX3_between_1 : cX3_between.data.toList.drop 22 = dktX3_between_1 := dk_seg dksX3_between_0 22 rfl rfl
theorem dksX3_between_2 : cX3_between.data.toList.drop 46 = dktX3_between_2 := dk_seg dksX3_between_1 24 rfl rfl
theorem dksX3_between_3 : cX3_between.data.toList.drop 69 = dktX3_between_3 := dk_seg dksX3_between_2 23 rfl rfl
theorem dksX3_between_4 : cX3_between.data.toList.drop 93 = dktX3_between_4 := dk_seg dksX3_between_3 24 rfl rfl
theorem dX3_between_0 : decode cX3_between 0 = .ok (.aload_n 0, 1) := dk_42 (dk_at dksX3_between_0 0 rfl rfl)
theorem dX3_between_1 : decode cX3_between 1 = .ok (.aload_n 0, 1) := dk_42 (dk_at dksX3_between_0 1 rfl rfl)
theorem dX3_between_2 : decode cX3_between 2 = .ok (.iload_n 1, 1) := dk_27 (dk_at dksX3_between_0 2 rfl rfl)
theorem dX3_between_3 : decode cX3_between 3 = .ok (.invokevirtual 163, 3) := dk_182 0 163 (dk_at dksX3_between_0 3 rfl rfl)
theorem dX3_between_6 : decode cX3_between 6 = .ok (.ifCond .eq 15, 3) := dk_153 0 15 (dk_at dksX3_between_0 6 rfl rfl)
theorem dX3_between_9 : decode cX3_between 9 = .ok (.aload_n 0, 1) := dk_42 (dk_at dksX3_between_0 9 rfl rfl)
theorem dX3_between_10 : decode cX3_between 10 = .ok (.iload_n 2, 1) := dk_28 (dk_at dksX3_between_0 10 rfl rfl)
theorem dX3_between_11 : decode cX3_between 11 = .ok (.invokevirtual 163, 3) := dk_182 0 163 (dk_at dksX3_between_0 11 rfl rfl)
theorem dX3_between_14 : decode cX3_between 14 = .ok (.ifCond .eq 7, 3) := dk_153 0 7 (dk_at dksX3_between_0 14 rfl rfl)
theorem dX3_between_17 : decode cX3_between 17 = .ok (.iconst 0, 1) := dk_3 (dk_at dksX3_between_0 17 rfl rfl)
theorem dX3_between_18 : decode cX3_between 18 = .ok (.goto 4, 3) := dk_167 0 4 (dk_at dksX3_between_0 18 rfl rfl)
theorem dX3_between_21 : decode cX3_between 21 = .ok (.iconst 1, 1) := dk_4 (dk_at dksX3_between_0 21 rfl rfl)
theorem dX3_between_22 : decode cX3_between 22 = .ok (.invokevirtual 103, 3) := dk_182 0 103 (dk_at dksX3_between_1 0 rfl rfl)
theorem dX3_between_25 : decode cX3_between 25 = .ok (.ifCond .ne 5, 3) := dk_154 0 5 (dk_at dksX3_between_1 3 rfl rfl)
theorem dX3_between_28 : decode cX3_between 28 = .ok (.iconst 0, 1) := dk_3 (dk_at dksX3_between_1 6 rfl rfl)
theorem dX3_between_29 : decode cX3_between 29 = .ok (.ireturn, 1) := dk_172 (dk_at dksX3_between_1 7 rfl rfl)
theorem dX3_between_30 : decode cX3_between 30 = .ok (.iconst 0, 1) := dk_3 (dk_at dksX3_between_1 8 rfl rfl)
theorem dX3_between_31 : decode cX3_between 31 = .ok (.istore_n 3, 1) := dk_62 (dk_at dksX3_between_1 9 rfl rfl)
theorem dX3_between_32 : decode cX3_between 32 = .ok (.iconst 0, 1) := dk_3 (dk_at dksX3_between_1 10 rfl rfl)
theorem dX3_between_33 : decode cX3_between 33 = .ok (.istore 4, 2) := dk_54 4 (dk_at dksX3_between_1 11 rfl rfl)
theorem dX3_between_35 : decode cX3_between 35 = .ok (.iload 4, 2) := dk_21 4 (dk_at dksX3_between_1 13 rfl rfl)
theorem dX3_between_37 : decode cX3_between 37 = .ok (.aload_n 0, 1) := dk_42 (dk_at dksX3_between_1 15 rfl rfl)
theorem dX3_between_38 : decode cX3_between 38 = .ok (.getfield 84, 3) := dk_180 0 84 (dk_at dksX3_between_1 16 rfl rfl)
theorem dX3_between_41 : decode cX3_between 41 = .ok (.if_icmp .ge 61, 3) := dk_162 0 61 (dk_at dksX3_between_1 19 rfl rfl)
theorem dX3_between_44 : decode cX3_between 44 = .ok (.iload_n 3, 1) := dk_29 (dk_at dksX3_between_1 22 rfl rfl)
theorem dX3_between_45 : decode cX3_between 45 = .ok (.aload_n 0, 1) := dk_42 (dk_at dksX3_between_1 23 rfl rfl)
theorem dX3_between_46 : decode cX3_between 46 = .ok (.iload_n 1, 1) := dk_27 (dk_at dksX3_between_2 0 rfl rfl)
theorem dX3_between_47 : decode cX3_between 47 = .ok (.iload 4, 2) := dk_21 4 (dk_at dksX3_between_2 1 rfl rfl)
theorem dX3_between_49 : decode cX3_between 49 = .ok (.invokevirtual 166, 3) := dk_182 0 166 (dk_at dksX3_between_2 3 rfl rfl)
theorem dX3_between_52 : decode cX3_between 52 = .ok (.ifCond .eq 41, 3) := dk_153 0 41 (dk_at dksX3_between_2 6 rfl rfl)
theorem dX3_between_55 : decode cX3_between 55 = .ok (.aload_n 0, 1) := dk_42 (dk_at dksX3_between_2 9 rfl rfl)
theorem dX3_between_56 : decode cX3_between 56 = .ok (.iload_n 2, 1) := dk_28 (dk_at dksX3_between_2 10 rfl rfl)
theorem dX3_between_57 : decode cX3_between 57 = .ok (.iload 4, 2) := dk_21 4 (dk_at dksX3_between_2 11 rfl rfl)
theorem dX3_between_59 : decode cX3_between 59 = .ok (.invokevirtual 166, 3) := dk_182 0 166 (dk_at dksX3_between_2 13 rfl rfl)
theorem dX3_between_62 : decode cX3_between 62 = .ok (.ifCond .eq 31, 3) := dk_153 0 31 (dk_at dksX3_between_2 16 rfl rfl)
theorem dX3_between_65 : decode cX3_between 65 = .ok (.aload_n 0, 1) := dk_42 (dk_at dksX3_between_2 19 rfl rfl)
theorem dX3_between_66 : decode cX3_between 66 = .ok (.getfield 60, 3) := dk_180 0 60 (dk_at dksX3_between_2 20 rfl rfl)
theorem dX3_between_69 : decode cX3_between 69 = .ok (.bipush 24, 2) := dk_16 24 (dk_at dksX3_between_3 0 rfl rfl)
theorem dX3_between_71 : decode cX3_between 71 = .ok (.iload_n 2, 1) := dk_28 (dk_at dksX3_between_3 2 rfl rfl)
theorem dX3_between_72 : decode cX3_between 72 = .ok (.imul, 1) := dk_104 (dk_at dksX3_between_3 3 rfl rfl)
theorem dX3_between_73 : decode cX3_between 73 = .ok (.iload 4, 2) := dk_21 4 (dk_at dksX3_between_3 4 rfl rfl)
theorem dX3_between_75 : decode cX3_between 75 = .ok (.iadd, 1) := dk_96 (dk_at dksX3_between_3 6 rfl rfl)
theorem dX3_between_76 : decode cX3_between 76 = .ok (.iaload, 1) := dk_46 (dk_at dksX3_between_3 7 rfl rfl)
theorem dX3_between_77 : decode cX3_between 77 = .ok (.aload_n 0, 1) := dk_42 (dk_at dksX3_between_3 8 rfl rfl)
theorem dX3_between_78 : decode cX3_between 78 = .ok (.getfield 60, 3) := dk_180 0 60 (dk_at dksX3_between_3 9 rfl rfl)
theorem dX3_between_81 : decode cX3_between 81 = .ok (.bipush 24, 2) := dk_16 24 (dk_at dksX3_between_3 12 rfl rfl)
theorem dX3_between_83 : decode cX3_between 83 = .ok (.iload_n 1, 1) := dk_27 (dk_at dksX3_between_3 14 rfl rfl)
theorem dX3_between_84 : decode cX3_between 84 = .ok (.imul, 1) := dk_104 (dk_at dksX3_between_3 15 rfl rfl)
theorem dX3_between_85 : decode cX3_between 85 = .ok (.iload 4, 2) := dk_21 4 (dk_at dksX3_between_3 16 rfl rfl)
theorem dX3_between_87 : decode cX3_between 87 = .ok (.iadd, 1) := dk_96 (dk_at dksX3_between_3 18 rfl rfl)
theorem dX3_between_88 : decode cX3_between 88 = .ok (.iaload, 1) := dk_46 (dk_at dksX3_between_3 19 rfl rfl)
theorem dX3_between_89 : decode cX3_between 89 = .ok (.isub, 1) := dk_100 (dk_at dksX3_between_3 20 rfl rfl)
theorem dX3_between_90 : decode cX3_between 90 = .ok (.goto 4, 3) := dk_167 0 4 (dk_at dksX3_between_3 21 rfl rfl)
theorem dX3_between_93 : decode cX3_between 93 = .ok (.iconst 0, 1) := dk_3 (dk_at dksX3_between_4 0 rfl rfl)
theorem dX3_between_94 : decode cX3_between 94 = .ok (.iadd, 1) := dk_96 (dk_at dksX3_between_4 1 rfl rfl)
theorem dX3_between_95 : decode cX3_between 95 = .ok (.istore_n 3, 1) := dk_62 (dk_at dksX3_between_4 2 rfl rfl)
theorem dX3_between_96 : decode cX3_between 96 = .ok (.iinc 4 1, 3) := dk_132 4 1 (dk_at dksX3_between_4 3 rfl rfl)
theorem dX3_between_99 : decode cX3_between 99 = .ok (.goto (-64), 3) := dk_167 255 192 (dk_at dksX3_between_4 6 rfl rfl)
theorem dX3_between_102 : decode cX3_between 102 = .ok (.iload_n 3, 1) := dk_29 (dk_at dksX3_between_4 9 rfl rfl)
theorem dX3_between_103 : decode cX3_between 103 = .ok (.ireturn, 1) := dk_172 (dk_at dksX3_between_4 10 rfl rfl)
abbrev cX3_settle : ByteArray := prog_18_method_36_code
def yX3_settle : MethodName := ⟨RX3, "settle", "(I)I"⟩
def dkwX3_settle_7 : List UInt8 := [133, 105, 97, 181, 0, 175, 42, 178, 0, 179, 27, 182, 0, 120, 28, 172]
abbrev dktX3_settle_7 : List UInt8 := dkwX3_settle_7 ++ []
def dkwX3_settle_6 : List UInt8 := [167, 255, 166, 42, 89, 180, 0, 172, 28, 96, 181, 0, 172, 42, 89, 180, 0, 175, 28, 133, 42, 180, 0, 66]
abbrev dktX3_settle_6 : List UInt8 := dkwX3_settle_6 ++ dktX3_settle_7
def dkwX3_settle_5 : List UInt8 := [21, 4, 42, 180, 0, 19, 29, 46, 100, 96, 61, 42, 180, 0, 19, 29, 21, 4, 79, 132, 3, 1]
abbrev dktX3_settle_5 : List UInt8 := dkwX3_settle_5 ++ dktX3_settle_6
def dkwX3_settle_4 : List UInt8 := [54, 4, 42, 180, 0, 22, 29, 51, 154, 0, 34, 21, 4, 42, 180, 0, 19, 29, 46, 164, 0, 23, 28]
abbrev dktX3_settle_4 : List UInt8 := dkwX3_settle_4 ++ dktX3_settle_5
def dkwX3_settle_3 : List UInt8 := [54, 4, 21, 4, 42, 180, 0, 16, 29, 46, 162, 0, 8, 21, 4, 167, 0, 9, 42, 180, 0, 16, 29, 46]
abbrev dktX3_settle_3 : List UInt8 := dkwX3_settle_3 ++ dktX3_settle_4
def dkwX3_settle_2 : List UInt8 := [46, 62, 29, 42, 180, 0, 54, 27, 46, 163, 0, 86, 42, 180, 0, 60, 16, 24, 27, 104, 29, 96, 46]
abbrev dktX3_settle_2 : List UInt8 := dkwX3_settle_2 ++ dktX3_settle_3
def dkwX3_settle_1 : List UInt8 := [167, 0, 4, 3, 182, 0, 103, 154, 0, 5, 3, 172, 42, 27, 181, 0, 63, 3, 61, 42, 180, 0, 51, 27]
abbrev dktX3_settle_1 : List UInt8 := dkwX3_settle_1 ++ dktX3_settle_2
def dkwX3_settle_0 : List UInt8 := [42, 42, 27, 182, 0, 163, 154, 0, 7, 4, 167, 0, 16, 42, 180, 0, 63, 27, 161, 0, 7, 5]
abbrev dktX3_settle_0 : List UInt8 := dkwX3_settle_0 ++ dktX3_settle_1
theorem dksX3_settle_0 : cX3_settle.data.toList.drop 0 = dktX3_settle_0 := by decide +kernel
theorem dksX3_settle_1 : cX3_settle.data.toList.drop 22 = dktX3_settle_1 := dk_seg dksX3_settle_0 22 rfl rfl
theorem dksX3_settle_2 : cX3_settle.data.toList.drop 46 = dktX3_settle_2 := dk_seg dksX3_settle_1 24 rfl rfl
theorem dksX3_settle_3 : cX3_settle.data.toList.drop 69 = dktX3_settle_3 := dk_seg dksX3_settle_2 23 rfl rfl
theorem dksX3_settle_4 : cX3_settle.data.toList.drop 93 = dktX3_settle_4 := dk_seg dksX3_settle_3 24 rfl rfl
theorem dksX3_settle_5 : cX3_settle.data.toList.drop 116 = dktX3_settle_5 := dk_seg dksX3_settle_4 23 rfl rfl
theorem dksX3_settle_6 : cX3_settle.data.toList.drop 138 = dktX3_settle_6 := dk_seg dksX3_settle_5 22 rfl rfl
theorem dksX3_settle_7 : cX3_settle.data.toList.drop 162 = dktX3_settle_7 := dk_seg dksX3_settle_6 24 rfl rfl
theorem dX3_settle_0 : decode cX3_settle 0 = .ok (.aload_n 0, 1) := dk_42 (dk_at dksX3_settle_0 0 rfl rfl)
theorem dX3_settle_1 : decode cX3_settle 1 = .ok (.aload_n 0, 1) := dk_42 (dk_at dksX3_settle_0 1 rfl rfl)
theorem dX3_settle_2 : decode cX3_settle 2 = .ok (.iload_n 1, 1) := dk_27 (dk_at dksX3_settle_0 2 rfl rfl)
theorem dX3_settle_3 : decode cX3_settle 3 = .ok (.invokevirtual 163, 3) := dk_182 0 163 (dk_at dksX3_settle_0 3 rfl rfl)
theorem dX3_settle_6 : decode cX3_settle 6 = .ok (.ifCond .ne 7, 3) := dk_154 0 7 (dk_at dksX3_settle_0 6 rfl rfl)
theorem dX3_settle_9 : decode cX3_settle 9 = .ok (.iconst 1, 1) := dk_4 (dk_at dksX3_settle_0 9 rfl rfl)
theorem dX3_settle_10 : decode cX3_settle 10 = .ok (.goto 16, 3) := dk_167 0 16 (dk_at dksX3_settle_0 10 rfl rfl)
theorem dX3_settle_13 : decode cX3_settle 13 = .ok (.aload_n 0, 1) := dk_42 (dk_at dksX3_settle_0 13 rfl rfl)
theorem dX3_settle_14 : decode cX3_settle 14 = .ok (.getfield 63, 3) := dk_180 0 63 (dk_at dksX3_settle_0 14 rfl rfl)
theorem dX3_settle_17 : decode cX3_settle 17 = .ok (.iload_n 1, 1) := dk_27 (dk_at dksX3_settle_0 17 rfl rfl)
theorem dX3_settle_18 : decode cX3_settle 18 = .ok (.if_icmp .lt 7, 3) := dk_161 0 7 (dk_at dksX3_settle_0 18 rfl rfl)
theorem dX3_settle_21 : decode cX3_settle 21 = .ok (.iconst 2, 1) := dk_5 (dk_at dksX3_settle_0 21 rfl rfl)
theorem dX3_settle_22 : decode cX3_settle 22 = .ok (.goto 4, 3) := dk_167 0 4 (dk_at dksX3_settle_1 0 rfl rfl)
theorem dX3_settle_25 : decode cX3_settle 25 = .ok (.iconst 0, 1) := dk_3 (dk_at dksX3_settle_1 3 rfl rfl)
theorem dX3_settle_26 : decode cX3_settle 26 = .ok (.invokevirtual 103, 3) := dk_182 0 103 (dk_at dksX3_settle_1 4 rfl rfl)
theorem dX3_settle_29 : decode cX3_settle 29 = .ok (.ifCond .ne 5, 3) := dk_154 0 5 (dk_at dksX3_settle_1 7 rfl rfl)
theorem dX3_settle_32 : decode cX3_settle 32 = .ok (.iconst 0, 1) := dk_3 (dk_at dksX3_settle_1 10 rfl rfl)
theorem dX3_settle_33 : decode cX3_settle 33 = .ok (.ireturn, 1) := dk_172 (dk_at dksX3_settle_1 11 rfl rfl)
theorem dX3_settle_34 : decode cX3_settle 34 = .ok (.aload_n 0, 1) := dk_42 (dk_at dksX3_settle_1 12 rfl rfl)
theorem dX3_settle_35 : decode cX3_settle 35 = .ok (.iload_n 1, 1) := dk_27 (dk_at dksX3_settle_1 13 rfl rfl)
theorem dX3_settle_36 : decode cX3_settle 36 = .ok (.putfield 63, 3) := dk_181 0 63 (dk_at dksX3_settle_1 14 rfl rfl)
theorem dX3_settle_39 : decode cX3_settle 39 = .ok (.iconst 0, 1) := dk_3 (dk_at dksX3_settle_1 17 rfl rfl)
theorem dX3_settle_40 : decode cX3_settle 40 = .ok (.istore_n 2, 1) := dk_61 (dk_at dksX3_settle_1 18 rfl rfl)
theorem dX3_settle_41 : decode cX3_settle 41 = .ok (.aload_n 0, 1) := dk_42 (dk_at dksX3_settle_1 19 rfl rfl)
theorem dX3_settle_42 : decode cX3_settle 42 = .ok (.getfield 51, 3) := dk_180 0 51 (dk_at dksX3_settle_1 20 rfl rfl)
theorem dX3_settle_45 : decode cX3_settle 45 = .ok (.iload_n 1, 1) := dk_27 (dk_at dksX3_settle_1 23 rfl rfl)
theorem dX3_settle_46 : decode cX3_settle 46 = .ok (.iaload, 1) := dk_46 (dk_at dksX3_settle_2 0 rfl rfl)
theorem dX3_settle_47 : decode cX3_settle 47 = .ok (.istore_n 3, 1) := dk_62 (dk_at dksX3_settle_2 1 rfl rfl)
theorem dX3_settle_48 : decode cX3_settle 48 = .ok (.iload_n 3, 1) := dk_29 (dk_at dksX3_settle_2 2 rfl rfl)
theorem dX3_settle_49 : decode cX3_settle 49 = .ok (.aload_n 0, 1) := dk_42 (dk_at dksX3_settle_2 3 rfl rfl)
theorem dX3_settle_50 : decode cX3_settle 50 = .ok (.getfield 54, 3) := dk_180 0 54 (dk_at dksX3_settle_2 4 rfl rfl)
theorem dX3_settle_53 : decode cX3_settle 53 = .ok (.iload_n 1, 1) := dk_27 (dk_at dksX3_settle_2 7 rfl rfl)
theorem dX3_settle_54 : decode cX3_settle 54 = .ok (.iaload, 1) := dk_46 (dk_at dksX3_settle_2 8 rfl rfl)
theorem dX3_settle_55 : decode cX3_settle 55 = .ok (.if_icmp .gt 86, 3) := dk_163 0 86 (dk_at dksX3_settle_2 9 rfl rfl)
theorem dX3_settle_58 : decode cX3_settle 58 = .ok (.aload_n 0, 1) := dk_42 (dk_at dksX3_settle_2 12 rfl rfl)
theorem dX3_settle_59 : decode cX3_settle 59 = .ok (.getfield 60, 3) := dk_180 0 60 (dk_at dksX3_settle_2 13 rfl rfl)
theorem dX3_settle_62 : decode cX3_settle 62 = .ok (.bipush 24, 2) := dk_16 24 (dk_at dksX3_settle_2 16 rfl rfl)
theorem dX3_settle_64 : decode cX3_settle 64 = .ok (.iload_n 1, 1) := dk_27 (dk_at dksX3_settle_2 18 rfl rfl)
theorem dX3_settle_65 : decode cX3_settle 65 = .ok (.imul, 1) := dk_104 (dk_at dksX3_settle_2 19 rfl rfl)
theorem dX3_settle_66 : decode cX3_settle 66 = .ok (.iload_n 3, 1) := dk_29 (dk_at dksX3_settle_2 20 rfl rfl)
theorem dX3_settle_67 : decode cX3_settle 67 = .ok (.iadd, 1) := dk_96 (dk_at dksX3_settle_2 21 rfl rfl)
theorem dX3_settle_68 : decode cX3_settle 68 = .ok (.iaload, 1) := dk_46 (dk_at dksX3_settle_2 22 rfl rfl)
theorem dX3_settle_69 : decode cX3_settle 69 = .ok (.istore 4, 2) := dk_54 4 (dk_at dksX3_settle_3 0 rfl rfl)
theorem dX3_settle_71 : decode cX3_settle 71 = .ok (.iload 4, 2) := dk_21 4 (dk_at dksX3_settle_3 2 rfl rfl)
theorem dX3_settle_73 : decode cX3_settle 73 = .ok (.aload_n 0, 1) := dk_42 (dk_at dksX3_settle_3 4 rfl rfl)
theorem dX3_settle_74 : decode cX3_settle 74 = .ok (.getfield 16, 3) := dk_180 0 16 (dk_at dksX3_settle_3 5 rfl rfl)
theorem dX3_settle_77 : decode cX3_settle 77 = .ok (.iload_n 3, 1) := dk_29 (dk_at dksX3_settle_3 8 rfl rfl)
theorem dX3_settle_78 : decode cX3_settle 78 = .ok (.iaload, 1) := dk_46 (dk_at dksX3_settle_3 9 rfl rfl)
theorem dX3_settle_79 : decode cX3_settle 79 = .ok (.if_icmp .ge 8, 3) := dk_162 0 8 (dk_at dksX3_settle_3 10 rfl rfl)
theorem dX3_settle_82 : decode cX3_settle 82 = .ok (.iload 4, 2) := dk_21 4 (dk_at dksX3_settle_3 13 rfl rfl)
theorem dX3_settle_84 : decode cX3_settle 84 = .ok (.goto 9, 3) := dk_167 0 9 (dk_at dksX3_settle_3 15 rfl rfl)
theorem dX3_settle_87 : decode cX3_settle 87 = .ok (.aload_n 0, 1) := dk_42 (dk_at dksX3_settle_3 18 rfl rfl)
theorem dX3_settle_88 : decode cX3_settle 88 = .ok (.getfield 16, 3) := dk_180 0 16 (dk_at dksX3_settle_3 19 rfl rfl)
theorem dX3_settle_91 : decode cX3_settle 91 = .ok (.iload_n 3, 1) := dk_29 (dk_at dksX3_settle_3 22 rfl rfl)
theorem dX3_settle_92 : decode cX3_settle 92 = .ok (.iaload, 1) := dk_46 (dk_at dksX3_settle_3 23 rfl rfl)
theorem dX3_settle_93 : decode cX3_settle 93 = .ok (.istore 4, 2) := dk_54 4 (dk_at dksX3_settle_4 0 rfl rfl)
theorem dX3_settle_95 : decode cX3_settle 95 = .ok (.aload_n 0, 1) := dk_42 (dk_at dksX3_settle_4 2 rfl rfl)
theorem dX3_settle_96 : decode cX3_settle 96 = .ok (.getfield 22, 3) := dk_180 0 22 (dk_at dksX3_settle_4 3 rfl rfl)
theorem dX3_settle_99 : decode cX3_settle 99 = .ok (.iload_n 3, 1) := dk_29 (dk_at dksX3_settle_4 6 rfl rfl)
theorem dX3_settle_100 : decode cX3_settle 100 = .ok (.baload, 1) := dk_51 (dk_at dksX3_settle_4 7 rfl rfl)
theorem dX3_settle_101 : decode cX3_settle 101 = .ok (.ifCond .ne 34, 3) := dk_154 0 34 (dk_at dksX3_settle_4 8 rfl rfl)
theorem dX3_settle_104 : decode cX3_settle 104 = .ok (.iload 4, 2) := dk_21 4 (dk_at dksX3_settle_4 11 rfl rfl)
theorem dX3_settle_106 : decode cX3_settle 106 = .ok (.aload_n 0, 1) := dk_42 (dk_at dksX3_settle_4 13 rfl rfl)
theorem dX3_settle_107 : decode cX3_settle 107 = .ok (.getfield 19, 3) := dk_180 0 19 (dk_at dksX3_settle_4 14 rfl rfl)
theorem dX3_settle_110 : decode cX3_settle 110 = .ok (.iload_n 3, 1) := dk_29 (dk_at dksX3_settle_4 17 rfl rfl)
theorem dX3_settle_111 : decode cX3_settle 111 = .ok (.iaload, 1) := dk_46 (dk_at dksX3_settle_4 18 rfl rfl)
theorem dX3_settle_112 : decode cX3_settle 112 = .ok (.if_icmp .le 23, 3) := dk_164 0 23 (dk_at dksX3_settle_4 19 rfl rfl)
theorem dX3_settle_115 : decode cX3_settle 115 = .ok (.iload_n 2, 1) := dk_28 (dk_at dksX3_settle_4 22 rfl rfl)
theorem dX3_settle_116 : decode cX3_settle 116 = .ok (.iload 4, 2) := dk_21 4 (dk_at dksX3_settle_5 0 rfl rfl)
theorem dX3_settle_118 : decode cX3_settle 118 = .ok (.aload_n 0, 1) := dk_42 (dk_at dksX3_settle_5 2 rfl rfl)
theorem dX3_settle_119 : decode cX3_settle 119 = .ok (.getfield 19, 3) := dk_180 0 19 (dk_at dksX3_settle_5 3 rfl rfl)
theorem dX3_settle_122 : decode cX3_settle 122 = .ok (.iload_n 3, 1) := dk_29 (dk_at dksX3_settle_5 6 rfl rfl)
theorem dX3_settle_123 : decode cX3_settle 123 = .ok (.iaload, 1) := dk_46 (dk_at dksX3_settle_5 7 rfl rfl)
theorem dX3_settle_124 : decode cX3_settle 124 = .ok (.isub, 1) := dk_100 (dk_at dksX3_settle_5 8 rfl rfl)
theorem dX3_settle_125 : decode cX3_settle 125 = .ok (.iadd, 1) := dk_96 (dk_at dksX3_settle_5 9 rfl rfl)
theorem dX3_settle_126 : decode cX3_settle 126 = .ok (.istore_n 2, 1) := dk_61 (dk_at dksX3_settle_5 10 rfl rfl)
theorem dX3_settle_127 : decode cX3_settle 127 = .ok (.aload_n 0, 1) := dk_42 (dk_at dksX3_settle_5 11 rfl rfl)
theorem dX3_settle_128 : decode cX3_settle 128 = .ok (.getfield 19, 3) := dk_180 0 19 (dk_at dksX3_settle_5 12 rfl rfl)
theorem dX3_settle_131 : decode cX3_settle 131 = .ok (.iload_n 3, 1) := dk_29 (dk_at dksX3_settle_5 15 rfl rfl)
theorem dX3_settle_132 : decode cX3_settle 132 = .ok (.iload 4, 2) := dk_21 4 (dk_at dksX3_settle_5 16 rfl rfl)
theorem dX3_settle_134 : decode cX3_settle 134 = .ok (.iastore, 1) := dk_79 (dk_at dksX3_settle_5 18 rfl rfl)
theorem dX3_settle_135 : decode cX3_settle 135 = .ok (.iinc 3 1, 3) := dk_132 3 1 (dk_at dksX3_settle_5 19 rfl rfl)
theorem dX3_settle_138 : decode cX3_settle 138 = .ok (.goto (-90), 3) := dk_167 255 166 (dk_at dksX3_settle_6 0 rfl rfl)
theorem dX3_settle_141 : decode cX3_settle 141 = .ok (.aload_n 0, 1) := dk_42 (dk_at dksX3_settle_6 3 rfl rfl)
theorem dX3_settle_142 : decode cX3_settle 142 = .ok (.dup, 1) := dk_89 (dk_at dksX3_settle_6 4 rfl rfl)
theorem dX3_settle_143 : decode cX3_settle 143 = .ok (.getfield 172, 3) := dk_180 0 172 (dk_at dksX3_settle_6 5 rfl rfl)
theorem dX3_settle_146 : decode cX3_settle 146 = .ok (.iload_n 2, 1) := dk_28 (dk_at dksX3_settle_6 8 rfl rfl)
theorem dX3_settle_147 : decode cX3_settle 147 = .ok (.iadd, 1) := dk_96 (dk_at dksX3_settle_6 9 rfl rfl)
theorem dX3_settle_148 : decode cX3_settle 148 = .ok (.putfield 172, 3) := dk_181 0 172 (dk_at dksX3_settle_6 10 rfl rfl)
theorem dX3_settle_151 : decode cX3_settle 151 = .ok (.aload_n 0, 1) := dk_42 (dk_at dksX3_settle_6 13 rfl rfl)
theorem dX3_settle_152 : decode cX3_settle 152 = .ok (.dup, 1) := dk_89 (dk_at dksX3_settle_6 14 rfl rfl)
theorem dX3_settle_153 : decode cX3_settle 153 = .ok (.getfield 175, 3) := dk_180 0 175 (dk_at dksX3_settle_6 15 rfl rfl)
theorem dX3_settle_156 : decode cX3_settle 156 = .ok (.iload_n 2, 1) := dk_28 (dk_at dksX3_settle_6 18 rfl rfl)
theorem dX3_settle_157 : decode cX3_settle 157 = .ok (.i2l, 1) := dk_133 (dk_at dksX3_settle_6 19 rfl rfl)
theorem dX3_settle_158 : decode cX3_settle 158 = .ok (.aload_n 0, 1) := dk_42 (dk_at dksX3_settle_6 20 rfl rfl)
theorem dX3_settle_159 : decode cX3_settle 159 = .ok (.getfield 66, 3) := dk_180 0 66 (dk_at dksX3_settle_6 21 rfl rfl)
theorem dX3_settle_162 : decode cX3_settle 162 = .ok (.i2l, 1) := dk_133 (dk_at dksX3_settle_7 0 rfl rfl)
theorem dX3_settle_163 : decode cX3_settle 163 = .ok (.lmul, 1) := dk_105 (dk_at dksX3_settle_7 1 rfl rfl)
theorem dX3_settle_164 : decode cX3_settle 164 = .ok (.ladd, 1) := dk_97 (dk_at dksX3_settle_7 2 rfl rfl)
theorem dX3_settle_165 : decode cX3_settle 165 = .ok (.putfield 175, 3) := dk_181 0 175 (dk_at dksX3_settle_7 3 rfl rfl)
theorem dX3_settle_168 : decode cX3_settle 168 = .ok (.aload_n 0, 1) := dk_42 (dk_at dksX3_settle_7 6 rfl rfl)
theorem dX3_settle_169 : decode cX3_settle 169 = .ok (.getstatic 179, 3) := dk_178 0 179 (dk_at dksX3_settle_7 7 rfl rfl)
theorem dX3_settle_172 : decode cX3_settle 172 = .ok (.iload_n 1, 1) := dk_27 (dk_at dksX3_settle_7 10 rfl rfl)
theorem dX3_settle_173 : decode cX3_settle 173 = .ok (.invokevirtual 120, 3) := dk_182 0 120 (dk_at dksX3_settle_7 11 rfl rfl)
theorem dX3_settle_176 : decode cX3_settle 176 = .ok (.iload_n 2, 1) := dk_28 (dk_at dksX3_settle_7 14 rfl rfl)
theorem dX3_settle_177 : decode cX3_settle 177 = .ok (.ireturn, 1) := dk_172 (dk_at dksX3_settle_7 15 rfl rfl)
abbrev cX3_setPrice : ByteArray := prog_18_method_37_code
def yX3_setPrice : MethodName := ⟨RX3, "setPrice", "(I)I"⟩
def dkwX3_setPrice_1 : List UInt8 := [182, 0, 103, 153, 0, 7, 27, 167, 0, 7, 42, 180, 0, 66, 181, 0, 66, 28, 172]
abbrev dktX3_setPrice_1 : List UInt8 := dkwX3_setPrice_1 ++ []
def dkwX3_setPrice_0 : List UInt8 := [42, 180, 0, 66, 61, 42, 42, 27, 3, 17, 3, 231, 184, 0, 87, 153, 0, 7, 3, 167, 0, 4, 4]
abbrev dktX3_setPrice_0 : List UInt8 := dkwX3_setPrice_0 ++ dktX3_setPrice_1
theorem dksX3_setPrice_0 : cX3_setPrice.data.toList.drop 0 = dktX3_setPrice_0 := by decide +kernel
theorem dksX3_setPrice_1 : cX3_setPrice.data.toList.drop 23 = dktX3_setPrice_1 := dk_seg dksX3_setPrice_0 23 rfl rfl
theorem dX3_setPrice_0 : decode cX3_setPrice 0 = .ok (.aload_n 0, 1) := dk_42 (dk_at dksX3_setPrice_0 0 rfl rfl)
theorem dX3_setPrice_1 : decode cX3_setPrice 1 = .ok (.getfield 66, 3) := dk_180 0 66 (dk_at dksX3_setPrice_0 1 rfl rfl)
theorem dX3_setPrice_4 : decode cX3_setPrice 4 = .ok (.istore_n 2, 1) := dk_61 (dk_at dksX3_setPrice_0 4 rfl rfl)
theorem dX3_setPrice_5 : decode cX3_setPrice 5 = .ok (.aload_n 0, 1) := dk_42 (dk_at dksX3_setPrice_0 5 rfl rfl)
theorem dX3_setPrice_6 : decode cX3_setPrice 6 = .ok (.aload_n 0, 1) := dk_42 (dk_at dksX3_setPrice_0 6 rfl rfl)
theorem dX3_setPrice_7 : decode cX3_setPrice 7 = .ok (.iload_n 1, 1) := dk_27 (dk_at dksX3_setPrice_0 7 rfl rfl)
theorem dX3_setPrice_8 : decode cX3_setPrice 8 = .ok (.iconst 0, 1) := dk_3 (dk_at dksX3_setPrice_0 8 rfl rfl)
theorem dX3_setPrice_9 : decode cX3_setPrice 9 = .ok (.sipush 999, 3) := dk_17 3 231 (dk_at dksX3_setPrice_0 9 rfl rfl)
theorem dX3_setPrice_12 : decode cX3_setPrice 12 = .ok (.invokestatic 87, 3) := dk_184 0 87 (dk_at dksX3_setPrice_0 12 rfl rfl)
theorem dX3_setPrice_15 : decode cX3_setPrice 15 = .ok (.ifCond .eq 7, 3) := dk_153 0 7 (dk_at dksX3_setPrice_0 15 rfl rfl)
theorem dX3_setPrice_18 : decode cX3_setPrice 18 = .ok (.iconst 0, 1) := dk_3 (dk_at dksX3_setPrice_0 18 rfl rfl)
theorem dX3_setPrice_19 : decode cX3_setPrice 19 = .ok (.goto 4, 3) := dk_167 0 4 (dk_at dksX3_setPrice_0 19 rfl rfl)
theorem dX3_setPrice_22 : decode cX3_setPrice 22 = .ok (.iconst 1, 1) := dk_4 (dk_at dksX3_setPrice_0 22 rfl rfl)
theorem dX3_setPrice_23 : decode cX3_setPrice 23 = .ok (.invokevirtual 103, 3) := dk_182 0 103 (dk_at dksX3_setPrice_1 0 rfl rfl)
theorem dX3_setPrice_26 : decode cX3_setPrice 26 = .ok (.ifCond .eq 7, 3) := dk_153 0 7 (dk_at dksX3_setPrice_1 3 rfl rfl)
theorem dX3_setPrice_29 : decode cX3_setPrice 29 = .ok (.iload_n 1, 1) := dk_27 (dk_at dksX3_setPrice_1 6 rfl rfl)
theorem dX3_setPrice_30 : decode cX3_setPrice 30 = .ok (.goto 7, 3) := dk_167 0 7 (dk_at dksX3_setPrice_1 7 rfl rfl)
theorem dX3_setPrice_33 : decode cX3_setPrice 33 = .ok (.aload_n 0, 1) := dk_42 (dk_at dksX3_setPrice_1 10 rfl rfl)
theorem dX3_setPrice_34 : decode cX3_setPrice 34 = .ok (.getfield 66, 3) := dk_180 0 66 (dk_at dksX3_setPrice_1 11 rfl rfl)
theorem dX3_setPrice_37 : decode cX3_setPrice 37 = .ok (.putfield 66, 3) := dk_181 0 66 (dk_at dksX3_setPrice_1 14 rfl rfl)
theorem dX3_setPrice_40 : decode cX3_setPrice 40 = .ok (.iload_n 2, 1) := dk_28 (dk_at dksX3_setPrice_1 17 rfl rfl)
theorem dX3_setPrice_41 : decode cX3_setPrice 41 = .ok (.ireturn, 1) := dk_172 (dk_at dksX3_setPrice_1 18 rfl rfl)
abbrev cX3_dispute : ByteArray := prog_18_method_39_code
def yX3_dispute : MethodName := ⟨RX3, "dispute", "(I)I"⟩
def dkwX3_dispute_2 : List UInt8 := [182, 0, 120, 42, 182, 0, 185, 172]
abbrev dktX3_dispute_2 : List UInt8 := dkwX3_dispute_2 ++ []
def dkwX3_dispute_1 : List UInt8 := [167, 0, 4, 3, 182, 0, 103, 154, 0, 5, 3, 172, 42, 180, 0, 22, 27, 4, 84, 42, 178, 0, 182, 27]
abbrev dktX3_dispute_1 : List UInt8 := dkwX3_dispute_1 ++ dktX3_dispute_2
def dkwX3_dispute_0 : List UInt8 := [42, 42, 27, 182, 0, 107, 154, 0, 7, 4, 167, 0, 17, 42, 180, 0, 22, 27, 51, 153, 0, 7, 5]
abbrev dktX3_dispute_0 : List UInt8 := dkwX3_dispute_0 ++ dktX3_dispute_1
theorem dksX3_dispute_0 : cX3_dispute.data.toList.drop 0 = dktX3_dispute_0 := by decide +kernel
theorem dksX3_dispute_1 : cX3_dispute.data.toList.drop 23 = dktX3_dispute_1 := dk_seg dksX3_dispute_0 23 rfl rfl
theorem dksX3_dispute_2 : cX3_dispute.data.toList.drop 47 = dktX3_dispute_2 := dk_seg dksX3_dispute_1 24 rfl rfl
theorem dX3_dispute_0 : decode cX3_dispute 0 = .ok (.aload_n 0, 1) := dk_42 (dk_at dksX3_dispute_0 0 rfl rfl)
theorem dX3_dispute_1 : decode cX3_dispute 1 = .ok (.aload_n 0, 1) := dk_42 (dk_at dksX3_dispute_0 1 rfl rfl)
theorem dX3_dispute_2 : decode cX3_dispute 2 = .ok (.iload_n 1, 1) := dk_27 (dk_at dksX3_dispute_0 2 rfl rfl)
theorem dX3_dispute_3 : decode cX3_dispute 3 = .ok (.invokevirtual 107, 3) := dk_182 0 107 (dk_at dksX3_dispute_0 3 rfl rfl)
theorem dX3_dispute_6 : decode cX3_dispute 6 = .ok (.ifCond .ne 7, 3) := dk_154 0 7 (dk_at dksX3_dispute_0 6 rfl rfl)
theorem dX3_dispute_9 : decode cX3_dispute 9 = .ok (.iconst 1, 1) := dk_4 (dk_at dksX3_dispute_0 9 rfl rfl)
theorem dX3_dispute_10 : decode cX3_dispute 10 = .ok (.goto 17, 3) := dk_167 0 17 (dk_at dksX3_dispute_0 10 rfl rfl)
theorem dX3_dispute_13 : decode cX3_dispute 13 = .ok (.aload_n 0, 1) := dk_42 (dk_at dksX3_dispute_0 13 rfl rfl)
theorem dX3_dispute_14 : decode cX3_dispute 14 = .ok (.getfield 22, 3) := dk_180 0 22 (dk_at dksX3_dispute_0 14 rfl rfl)
theorem dX3_dispute_17 : decode cX3_dispute 17 = .ok (.iload_n 1, 1) := dk_27 (dk_at dksX3_dispute_0 17 rfl rfl)
theorem dX3_dispute_18 : decode cX3_dispute 18 = .ok (.baload, 1) := dk_51 (dk_at dksX3_dispute_0 18 rfl rfl)
theorem dX3_dispute_19 : decode cX3_dispute 19 = .ok (.ifCond .eq 7, 3) := dk_153 0 7 (dk_at dksX3_dispute_0 19 rfl rfl)
theorem dX3_dispute_22 : decode cX3_dispute 22 = .ok (.iconst 2, 1) := dk_5 (dk_at dksX3_dispute_0 22 rfl rfl)
theorem dX3_dispute_23 : decode cX3_dispute 23 = .ok (.goto 4, 3) := dk_167 0 4 (dk_at dksX3_dispute_1 0 rfl rfl)
theorem dX3_dispute_26 : decode cX3_dispute 26 = .ok (.iconst 0, 1) := dk_3 (dk_at dksX3_dispute_1 3 rfl rfl)
theorem dX3_dispute_27 : decode cX3_dispute 27 = .ok (.invokevirtual 103, 3) := dk_182 0 103 (dk_at dksX3_dispute_1 4 rfl rfl)
theorem dX3_dispute_30 : decode cX3_dispute 30 = .ok (.ifCond .ne 5, 3) := dk_154 0 5 (dk_at dksX3_dispute_1 7 rfl rfl)
theorem dX3_dispute_33 : decode cX3_dispute 33 = .ok (.iconst 0, 1) := dk_3 (dk_at dksX3_dispute_1 10 rfl rfl)
theorem dX3_dispute_34 : decode cX3_dispute 34 = .ok (.ireturn, 1) := dk_172 (dk_at dksX3_dispute_1 11 rfl rfl)
theorem dX3_dispute_35 : decode cX3_dispute 35 = .ok (.aload_n 0, 1) := dk_42 (dk_at dksX3_dispute_1 12 rfl rfl)
theorem dX3_dispute_36 : decode cX3_dispute 36 = .ok (.getfield 22, 3) := dk_180 0 22 (dk_at dksX3_dispute_1 13 rfl rfl)
theorem dX3_dispute_39 : decode cX3_dispute 39 = .ok (.iload_n 1, 1) := dk_27 (dk_at dksX3_dispute_1 16 rfl rfl)
theorem dX3_dispute_40 : decode cX3_dispute 40 = .ok (.iconst 1, 1) := dk_4 (dk_at dksX3_dispute_1 17 rfl rfl)
theorem dX3_dispute_41 : decode cX3_dispute 41 = .ok (.bastore, 1) := dk_84 (dk_at dksX3_dispute_1 18 rfl rfl)
theorem dX3_dispute_42 : decode cX3_dispute 42 = .ok (.aload_n 0, 1) := dk_42 (dk_at dksX3_dispute_1 19 rfl rfl)
theorem dX3_dispute_43 : decode cX3_dispute 43 = .ok (.getstatic 182, 3) := dk_178 0 182 (dk_at dksX3_dispute_1 20 rfl rfl)
theorem dX3_dispute_46 : decode cX3_dispute 46 = .ok (.iload_n 1, 1) := dk_27 (dk_at dksX3_dispute_1 23 rfl rfl)
theorem dX3_dispute_47 : decode cX3_dispute 47 = .ok (.invokevirtual 120, 3) := dk_182 0 120 (dk_at dksX3_dispute_2 0 rfl rfl)
theorem dX3_dispute_50 : decode cX3_dispute 50 = .ok (.aload_n 0, 1) := dk_42 (dk_at dksX3_dispute_2 3 rfl rfl)
theorem dX3_dispute_51 : decode cX3_dispute 51 = .ok (.invokevirtual 185, 3) := dk_182 0 185 (dk_at dksX3_dispute_2 4 rfl rfl)
theorem dX3_dispute_54 : decode cX3_dispute 54 = .ok (.ireturn, 1) := dk_172 (dk_at dksX3_dispute_2 7 rfl rfl)
abbrev cX3_disputes : ByteArray := prog_18_method_38_code
def yX3_disputes : MethodName := ⟨RX3, "disputes", "()I"⟩
def dkwX3_disputes_1 : List UInt8 := [167, 0, 4, 3, 96, 60, 132, 2, 1, 167, 255, 228, 27, 172]
abbrev dktX3_disputes_1 : List UInt8 := dkwX3_disputes_1 ++ []
def dkwX3_disputes_0 : List UInt8 := [3, 60, 3, 61, 28, 42, 180, 0, 84, 162, 0, 26, 27, 42, 180, 0, 22, 28, 51, 153, 0, 7, 4]
abbrev dktX3_disputes_0 : List UInt8 := dkwX3_disputes_0 ++ dktX3_disputes_1
theorem dksX3_disputes_0 : cX3_disputes.data.toList.drop 0 = dktX3_disputes_0 := by decide +kernel
theorem dksX3_disputes_1 : cX3_disputes.data.toList.drop 23 = dktX3_disputes_1 := dk_seg dksX3_disputes_0 23 rfl rfl
theorem dX3_disputes_0 : decode cX3_disputes 0 = .ok (.iconst 0, 1) := dk_3 (dk_at dksX3_disputes_0 0 rfl rfl)
theorem dX3_disputes_1 : decode cX3_disputes 1 = .ok (.istore_n 1, 1) := dk_60 (dk_at dksX3_disputes_0 1 rfl rfl)
theorem dX3_disputes_2 : decode cX3_disputes 2 = .ok (.iconst 0, 1) := dk_3 (dk_at dksX3_disputes_0 2 rfl rfl)
theorem dX3_disputes_3 : decode cX3_disputes 3 = .ok (.istore_n 2, 1) := dk_61 (dk_at dksX3_disputes_0 3 rfl rfl)
theorem dX3_disputes_4 : decode cX3_disputes 4 = .ok (.iload_n 2, 1) := dk_28 (dk_at dksX3_disputes_0 4 rfl rfl)
theorem dX3_disputes_5 : decode cX3_disputes 5 = .ok (.aload_n 0, 1) := dk_42 (dk_at dksX3_disputes_0 5 rfl rfl)
theorem dX3_disputes_6 : decode cX3_disputes 6 = .ok (.getfield 84, 3) := dk_180 0 84 (dk_at dksX3_disputes_0 6 rfl rfl)
theorem dX3_disputes_9 : decode cX3_disputes 9 = .ok (.if_icmp .ge 26, 3) := dk_162 0 26 (dk_at dksX3_disputes_0 9 rfl rfl)
theorem dX3_disputes_12 : decode cX3_disputes 12 = .ok (.iload_n 1, 1) := dk_27 (dk_at dksX3_disputes_0 12 rfl rfl)
theorem dX3_disputes_13 : decode cX3_disputes 13 = .ok (.aload_n 0, 1) := dk_42 (dk_at dksX3_disputes_0 13 rfl rfl)
theorem dX3_disputes_14 : decode cX3_disputes 14 = .ok (.getfield 22, 3) := dk_180 0 22 (dk_at dksX3_disputes_0 14 rfl rfl)
theorem dX3_disputes_17 : decode cX3_disputes 17 = .ok (.iload_n 2, 1) := dk_28 (dk_at dksX3_disputes_0 17 rfl rfl)
theorem dX3_disputes_18 : decode cX3_disputes 18 = .ok (.baload, 1) := dk_51 (dk_at dksX3_disputes_0 18 rfl rfl)
theorem dX3_disputes_19 : decode cX3_disputes 19 = .ok (.ifCond .eq 7, 3) := dk_153 0 7 (dk_at dksX3_disputes_0 19 rfl rfl)
theorem dX3_disputes_22 : decode cX3_disputes 22 = .ok (.iconst 1, 1) := dk_4 (dk_at dksX3_disputes_0 22 rfl rfl)
theorem dX3_disputes_23 : decode cX3_disputes 23 = .ok (.goto 4, 3) := dk_167 0 4 (dk_at dksX3_disputes_1 0 rfl rfl)
theorem dX3_disputes_26 : decode cX3_disputes 26 = .ok (.iconst 0, 1) := dk_3 (dk_at dksX3_disputes_1 3 rfl rfl)
theorem dX3_disputes_27 : decode cX3_disputes 27 = .ok (.iadd, 1) := dk_96 (dk_at dksX3_disputes_1 4 rfl rfl)
theorem dX3_disputes_28 : decode cX3_disputes 28 = .ok (.istore_n 1, 1) := dk_60 (dk_at dksX3_disputes_1 5 rfl rfl)
theorem dX3_disputes_29 : decode cX3_disputes 29 = .ok (.iinc 2 1, 3) := dk_132 2 1 (dk_at dksX3_disputes_1 6 rfl rfl)
theorem dX3_disputes_32 : decode cX3_disputes 32 = .ok (.goto (-28), 3) := dk_167 255 228 (dk_at dksX3_disputes_1 9 rfl rfl)
theorem dX3_disputes_35 : decode cX3_disputes 35 = .ok (.iload_n 1, 1) := dk_27 (dk_at dksX3_disputes_1 12 rfl rfl)
theorem dX3_disputes_36 : decode cX3_disputes 36 = .ok (.ireturn, 1) := dk_172 (dk_at dksX3_disputes_1 13 rfl rfl)
abbrev cX3_resolve : ByteArray := prog_18_method_40_code
def yX3_resolve : MethodName := ⟨RX3, "resolve", "(I)I"⟩
def dkwX3_resolve_2 : List UInt8 := [182, 0, 120, 42, 182, 0, 185, 172]
abbrev dktX3_resolve_2 : List UInt8 := dkwX3_resolve_2 ++ []
def dkwX3_resolve_1 : List UInt8 := [167, 0, 4, 3, 182, 0, 103, 154, 0, 5, 3, 172, 42, 180, 0, 22, 27, 3, 84, 42, 178, 0, 188, 27]
abbrev dktX3_resolve_1 : List UInt8 := dkwX3_resolve_1 ++ dktX3_resolve_2
def dkwX3_resolve_0 : List UInt8 := [42, 42, 27, 182, 0, 107, 154, 0, 7, 4, 167, 0, 17, 42, 180, 0, 22, 27, 51, 154, 0, 7, 5]
abbrev dktX3_resolve_0 : List UInt8 := dkwX3_resolve_0 ++ dktX3_resolve_1
theorem dksX3_resolve_0 : cX3_resolve.data.toList.drop 0 = dktX3_resolve_0 := by decide +kernel
theorem dksX3_resolve_1 : cX3_resolve.data.toList.drop 23 = dktX3_resolve_1 := dk_seg dksX3_resolve_0 23 rfl rfl
theorem dksX3_resolve_2 : cX3_resolve.data.toList.drop 47 = dktX3_resolve_2 := dk_seg dksX3_resolve_1 24 rfl rfl
theorem dX3_resolve_0 : decode cX3_resolve 0 = .ok (.aload_n 0, 1) := dk_42 (dk_at dksX3_resolve_0 0 rfl rfl)
theorem dX3_resolve_1 : decode cX3_resolve 1 = .ok (.aload_n 0, 1) := dk_42 (dk_at dksX3_resolve_0 1 rfl rfl)
theorem dX3_resolve_2 : decode cX3_resolve 2 = .ok (.iload_n 1, 1) := dk_27 (dk_at dksX3_resolve_0 2 rfl rfl)
theorem dX3_resolve_3 : decode cX3_resolve 3 = .ok (.invokevirtual 107, 3) := dk_182 0 107 (dk_at dksX3_resolve_0 3 rfl rfl)
theorem dX3_resolve_6 : decode cX3_resolve 6 = .ok (.ifCond .ne 7, 3) := dk_154 0 7 (dk_at dksX3_resolve_0 6 rfl rfl)
theorem dX3_resolve_9 : decode cX3_resolve 9 = .ok (.iconst 1, 1) := dk_4 (dk_at dksX3_resolve_0 9 rfl rfl)
theorem dX3_resolve_10 : decode cX3_resolve 10 = .ok (.goto 17, 3) := dk_167 0 17 (dk_at dksX3_resolve_0 10 rfl rfl)
theorem dX3_resolve_13 : decode cX3_resolve 13 = .ok (.aload_n 0, 1) := dk_42 (dk_at dksX3_resolve_0 13 rfl rfl)
theorem dX3_resolve_14 : decode cX3_resolve 14 = .ok (.getfield 22, 3) := dk_180 0 22 (dk_at dksX3_resolve_0 14 rfl rfl)
theorem dX3_resolve_17 : decode cX3_resolve 17 = .ok (.iload_n 1, 1) := dk_27 (dk_at dksX3_resolve_0 17 rfl rfl)
theorem dX3_resolve_18 : decode cX3_resolve 18 = .ok (.baload, 1) := dk_51 (dk_at dksX3_resolve_0 18 rfl rfl)
theorem dX3_resolve_19 : decode cX3_resolve 19 = .ok (.ifCond .ne 7, 3) := dk_154 0 7 (dk_at dksX3_resolve_0 19 rfl rfl)
theorem dX3_resolve_22 : decode cX3_resolve 22 = .ok (.iconst 2, 1) := dk_5 (dk_at dksX3_resolve_0 22 rfl rfl)
theorem dX3_resolve_23 : decode cX3_resolve 23 = .ok (.goto 4, 3) := dk_167 0 4 (dk_at dksX3_resolve_1 0 rfl rfl)
theorem dX3_resolve_26 : decode cX3_resolve 26 = .ok (.iconst 0, 1) := dk_3 (dk_at dksX3_resolve_1 3 rfl rfl)
theorem dX3_resolve_27 : decode cX3_resolve 27 = .ok (.invokevirtual 103, 3) := dk_182 0 103 (dk_at dksX3_resolve_1 4 rfl rfl)
theorem dX3_resolve_30 : decode cX3_resolve 30 = .ok (.ifCond .ne 5, 3) := dk_154 0 5 (dk_at dksX3_resolve_1 7 rfl rfl)
theorem dX3_resolve_33 : decode cX3_resolve 33 = .ok (.iconst 0, 1) := dk_3 (dk_at dksX3_resolve_1 10 rfl rfl)
theorem dX3_resolve_34 : decode cX3_resolve 34 = .ok (.ireturn, 1) := dk_172 (dk_at dksX3_resolve_1 11 rfl rfl)
theorem dX3_resolve_35 : decode cX3_resolve 35 = .ok (.aload_n 0, 1) := dk_42 (dk_at dksX3_resolve_1 12 rfl rfl)
theorem dX3_resolve_36 : decode cX3_resolve 36 = .ok (.getfield 22, 3) := dk_180 0 22 (dk_at dksX3_resolve_1 13 rfl rfl)
theorem dX3_resolve_39 : decode cX3_resolve 39 = .ok (.iload_n 1, 1) := dk_27 (dk_at dksX3_resolve_1 16 rfl rfl)
theorem dX3_resolve_40 : decode cX3_resolve 40 = .ok (.iconst 0, 1) := dk_3 (dk_at dksX3_resolve_1 17 rfl rfl)
theorem dX3_resolve_41 : decode cX3_resolve 41 = .ok (.bastore, 1) := dk_84 (dk_at dksX3_resolve_1 18 rfl rfl)
theorem dX3_resolve_42 : decode cX3_resolve 42 = .ok (.aload_n 0, 1) := dk_42 (dk_at dksX3_resolve_1 19 rfl rfl)
theorem dX3_resolve_43 : decode cX3_resolve 43 = .ok (.getstatic 188, 3) := dk_178 0 188 (dk_at dksX3_resolve_1 20 rfl rfl)
theorem dX3_resolve_46 : decode cX3_resolve 46 = .ok (.iload_n 1, 1) := dk_27 (dk_at dksX3_resolve_1 23 rfl rfl)
theorem dX3_resolve_47 : decode cX3_resolve 47 = .ok (.invokevirtual 120, 3) := dk_182 0 120 (dk_at dksX3_resolve_2 0 rfl rfl)
theorem dX3_resolve_50 : decode cX3_resolve 50 = .ok (.aload_n 0, 1) := dk_42 (dk_at dksX3_resolve_2 3 rfl rfl)
theorem dX3_resolve_51 : decode cX3_resolve 51 = .ok (.invokevirtual 185, 3) := dk_182 0 185 (dk_at dksX3_resolve_2 4 rfl rfl)
theorem dX3_resolve_54 : decode cX3_resolve 54 = .ok (.ireturn, 1) := dk_172 (dk_at dksX3_resolve_2 7 rfl rfl)
abbrev cX3_paidDepth : ByteArray := prog_18_method_41_code
def yX3_paidDepth : MethodName := ⟨RX3, "paidDepth", "(I)I"⟩
def dkwX3_paidDepth_1 : List UInt8 := [27, 46, 167, 0, 4, 3, 172]
abbrev dktX3_paidDepth_1 : List UInt8 := dkwX3_paidDepth_1 ++ []
def dkwX3_paidDepth_0 : List UInt8 := [42, 42, 27, 182, 0, 107, 153, 0, 7, 3, 167, 0, 4, 4, 182, 0, 103, 153, 0, 12, 42, 180, 0, 19]
abbrev dktX3_paidDepth_0 : List UInt8 := dkwX3_paidDepth_0 ++ dktX3_paidDepth_1
theorem dksX3_paidDepth_0 : cX3_paidDepth.data.toList.drop 0 = dktX3_paidDepth_0 := by decide +kernel
theorem dksX3_paidDepth_1 : cX3_paidDepth.data.toList.drop 24 = dktX3_paidDepth_1 := dk_seg dksX3_paidDepth_0 24 rfl rfl
theorem dX3_paidDepth_0 : decode cX3_paidDepth 0 = .ok (.aload_n 0, 1) := dk_42 (dk_at dksX3_paidDepth_0 0 rfl rfl)
theorem dX3_paidDepth_1 : decode cX3_paidDepth 1 = .ok (.aload_n 0, 1) := dk_42 (dk_at dksX3_paidDepth_0 1 rfl rfl)
theorem dX3_paidDepth_2 : decode cX3_paidDepth 2 = .ok (.iload_n 1, 1) := dk_27 (dk_at dksX3_paidDepth_0 2 rfl rfl)
theorem dX3_paidDepth_3 : decode cX3_paidDepth 3 = .ok (.invokevirtual 107, 3) := dk_182 0 107 (dk_at dksX3_paidDepth_0 3 rfl rfl)
theorem dX3_paidDepth_6 : decode cX3_paidDepth 6 = .ok (.ifCond .eq 7, 3) := dk_153 0 7 (dk_at dksX3_paidDepth_0 6 rfl rfl)
theorem dX3_paidDepth_9 : decode cX3_paidDepth 9 = .ok (.iconst 0, 1) := dk_3 (dk_at dksX3_paidDepth_0 9 rfl rfl)
theorem dX3_paidDepth_10 : decode cX3_paidDepth 10 = .ok (.goto 4, 3) := dk_167 0 4 (dk_at dksX3_paidDepth_0 10 rfl rfl)
theorem dX3_paidDepth_13 : decode cX3_paidDepth 13 = .ok (.iconst 1, 1) := dk_4 (dk_at dksX3_paidDepth_0 13 rfl rfl)
theorem dX3_paidDepth_14 : decode cX3_paidDepth 14 = .ok (.invokevirtual 103, 3) := dk_182 0 103 (dk_at dksX3_paidDepth_0 14 rfl rfl)
theorem dX3_paidDepth_17 : decode cX3_paidDepth 17 = .ok (.ifCond .eq 12, 3) := dk_153 0 12 (dk_at dksX3_paidDepth_0 17 rfl rfl)
theorem dX3_paidDepth_20 : decode cX3_paidDepth 20 = .ok (.aload_n 0, 1) := dk_42 (dk_at dksX3_paidDepth_0 20 rfl rfl)
theorem dX3_paidDepth_21 : decode cX3_paidDepth 21 = .ok (.getfield 19, 3) := dk_180 0 19 (dk_at dksX3_paidDepth_0 21 rfl rfl)
theorem dX3_paidDepth_24 : decode cX3_paidDepth 24 = .ok (.iload_n 1, 1) := dk_27 (dk_at dksX3_paidDepth_1 0 rfl rfl)
theorem dX3_paidDepth_25 : decode cX3_paidDepth 25 = .ok (.iaload, 1) := dk_46 (dk_at dksX3_paidDepth_1 1 rfl rfl)
theorem dX3_paidDepth_26 : decode cX3_paidDepth 26 = .ok (.goto 4, 3) := dk_167 0 4 (dk_at dksX3_paidDepth_1 2 rfl rfl)
theorem dX3_paidDepth_29 : decode cX3_paidDepth 29 = .ok (.iconst 0, 1) := dk_3 (dk_at dksX3_paidDepth_1 5 rfl rfl)
theorem dX3_paidDepth_30 : decode cX3_paidDepth 30 = .ok (.ireturn, 1) := dk_172 (dk_at dksX3_paidDepth_1 6 rfl rfl)
abbrev cX3_paid : ByteArray := prog_18_method_42_code
def yX3_paid : MethodName := ⟨RX3, "paid", "()I"⟩
def dkwX3_paid_0 : List UInt8 := [42, 3, 181, 0, 81, 42, 180, 0, 172, 172]
abbrev dktX3_paid_0 : List UInt8 := dkwX3_paid_0 ++ []
theorem dksX3_paid_0 : cX3_paid.data.toList.drop 0 = dktX3_paid_0 := by decide +kernel
theorem dX3_paid_0 : decode cX3_paid 0 = .ok (.aload_n 0, 1) := dk_42 (dk_at dksX3_paid_0 0 rfl rfl)
theorem dX3_paid_1 : decode cX3_paid 1 = .ok (.iconst 0, 1) := dk_3 (dk_at dksX3_paid_0 1 rfl rfl)
theorem dX3_paid_2 : decode cX3_paid 2 = .ok (.putfield 81, 3) := dk_181 0 81 (dk_at dksX3_paid_0 2 rfl rfl)
theorem dX3_paid_5 : decode cX3_paid 5 = .ok (.aload_n 0, 1) := dk_42 (dk_at dksX3_paid_0 5 rfl rfl)
theorem dX3_paid_6 : decode cX3_paid 6 = .ok (.getfield 172, 3) := dk_180 0 172 (dk_at dksX3_paid_0 6 rfl rfl)
theorem dX3_paid_9 : decode cX3_paid 9 = .ok (.ireturn, 1) := dk_172 (dk_at dksX3_paid_0 9 rfl rfl)
abbrev cX3_paidByCells : ByteArray := prog_18_method_43_code
def yX3_paidByCells : MethodName := ⟨RX3, "paidByCells", "()I"⟩
def dkwX3_paidByCells_0 : List UInt8 := [42, 3, 181, 0, 81, 42, 180, 0, 172, 172]
abbrev dktX3_paidByCells_0 : List UInt8 := dkwX3_paidByCells_0 ++ []
theorem dksX3_paidByCells_0 : cX3_paidByCells.data.toList.drop 0 = dktX3_paidByCells_0 := by decide +kernel
theorem dX3_paidByCells_0 : decode cX3_paidByCells 0 = .ok (.aload_n 0, 1) := dk_42 (dk_at dksX3_paidByCells_0 0 rfl rfl)
theorem dX3_paidByCells_1 : decode cX3_paidByCells 1 = .ok (.iconst 0, 1) := dk_3 (dk_at dksX3_paidByCells_0 1 rfl rfl)
theorem dX3_paidByCells_2 : decode cX3_paidByCells 2 = .ok (.putfield 81, 3) := dk_181 0 81 (dk_at dksX3_paidByCells_0 2 rfl rfl)
theorem dX3_paidByCells_5 : decode cX3_paidByCells 5 = .ok (.aload_n 0, 1) := dk_42 (dk_at dksX3_paidByCells_0 5 rfl rfl)
theorem dX3_paidByCells_6 : decode cX3_paidByCells 6 = .ok (.getfield 172, 3) := dk_180 0 172 (dk_at dksX3_paidByCells_0 6 rfl rfl)
theorem dX3_paidByCells_9 : decode cX3_paidByCells 9 = .ok (.ireturn, 1) := dk_172 (dk_at dksX3_paidByCells_0 9 rfl rfl)
abbrev cX3_money : ByteArray := prog_18_method_44_code
def yX3_money : MethodName := ⟨RX3, "money", "()J"⟩
def dkwX3_money_0 : List UInt8 := [42, 3, 181, 0, 81, 42, 180, 0, 175, 173]
abbrev dktX3_money_0 : List UInt8 := dkwX3_money_0 ++ []
theorem dksX3_money_0 : cX3_money.data.toList.drop 0 = dktX3_money_0 := by decide +kernel
theorem dX3_money_0 : decode cX3_money 0 = .ok (.aload_n 0, 1) := dk_42 (dk_at dksX3_money_0 0 rfl rfl)
theorem dX3_money_1 : decode cX3_money 1 = .ok (.iconst 0, 1) := dk_3 (dk_at dksX3_money_0 1 rfl rfl)
theorem dX3_money_2 : decode cX3_money 2 = .ok (.putfield 81, 3) := dk_181 0 81 (dk_at dksX3_money_0 2 rfl rfl)
theorem dX3_money_5 : decode cX3_money 5 = .ok (.aload_n 0, 1) := dk_42 (dk_at dksX3_money_0 5 rfl rfl)
theorem dX3_money_6 : decode cX3_money 6 = .ok (.getfield 175, 3) := dk_180 0 175 (dk_at dksX3_money_0 6 rfl rfl)
theorem dX3_money_9 : decode cX3_money 9 = .ok (.lreturn, 1) := dk_173 (dk_at dksX3_money_0 9 rfl rfl)
abbrev cX3_dredged : ByteArray := prog_18_method_45_code
def yX3_dredged : MethodName := ⟨RX3, "dredged", "()I"⟩
def dkwX3_dredged_0 : List UInt8 := [42, 3, 181, 0, 81, 42, 180, 0, 113, 172]
abbrev dktX3_dredged_0 : List UInt8 := dkwX3_dredged_0 ++ []
theorem dksX3_dredged_0 : cX3_dredged.data.toList.drop 0 = dktX3_dredged_0 := by decide +kernel
theorem dX3_dredged_0 : decode cX3_dredged 0 = .ok (.aload_n 0, 1) := dk_42 (dk_at dksX3_dredged_0 0 rfl rfl)
theorem dX3_dredged_1 : decode cX3_dredged 1 = .ok (.iconst 0, 1) := dk_3 (dk_at dksX3_dredged_0 1 rfl rfl)
theorem dX3_dredged_2 : decode cX3_dredged 2 = .ok (.putfield 81, 3) := dk_181 0 81 (dk_at dksX3_dredged_0 2 rfl rfl)
theorem dX3_dredged_5 : decode cX3_dredged 5 = .ok (.aload_n 0, 1) := dk_42 (dk_at dksX3_dredged_0 5 rfl rfl)
theorem dX3_dredged_6 : decode cX3_dredged 6 = .ok (.getfield 113, 3) := dk_180 0 113 (dk_at dksX3_dredged_0 6 rfl rfl)
theorem dX3_dredged_9 : decode cX3_dredged 9 = .ok (.ireturn, 1) := dk_172 (dk_at dksX3_dredged_0 9 rfl rfl)
abbrev cX3_crept : ByteArray := prog_18_method_46_code
def yX3_crept : MethodName := ⟨RX3, "crept", "()I"⟩
def dkwX3_crept_0 : List UInt8 := [42, 3, 181, 0, 81, 42, 180, 0, 132, 172]
abbrev dktX3_crept_0 : List UInt8 := dkwX3_crept_0 ++ []
theorem dksX3_crept_0 : cX3_crept.data.toList.drop 0 = dktX3_crept_0 := by decide +kernel
theorem dX3_crept_0 : decode cX3_crept 0 = .ok (.aload_n 0, 1) := dk_42 (dk_at dksX3_crept_0 0 rfl rfl)
theorem dX3_crept_1 : decode cX3_crept 1 = .ok (.iconst 0, 1) := dk_3 (dk_at dksX3_crept_0 1 rfl rfl)
theorem dX3_crept_2 : decode cX3_crept 2 = .ok (.putfield 81, 3) := dk_181 0 81 (dk_at dksX3_crept_0 2 rfl rfl)
theorem dX3_crept_5 : decode cX3_crept 5 = .ok (.aload_n 0, 1) := dk_42 (dk_at dksX3_crept_0 5 rfl rfl)
theorem dX3_crept_6 : decode cX3_crept 6 = .ok (.getfield 132, 3) := dk_180 0 132 (dk_at dksX3_crept_0 6 rfl rfl)
theorem dX3_crept_9 : decode cX3_crept 9 = .ok (.ireturn, 1) := dk_172 (dk_at dksX3_crept_0 9 rfl rfl)
abbrev cX3_entryAt : ByteArray := prog_18_method_47_code
def yX3_entryAt : MethodName := ⟨RX3, "entryAt", "(I)LEntry;"⟩
def dkwX3_entryAt_2 : List UInt8 := [27, 50, 42, 180, 0, 75, 27, 46, 42, 180, 0, 78, 27, 46, 183, 0, 193, 176]
abbrev dktX3_entryAt_2 : List UInt8 := dkwX3_entryAt_2 ++ []
def dkwX3_entryAt_1 : List UInt8 := [154, 0, 16, 187, 0, 191, 89, 178, 0, 116, 3, 3, 183, 0, 193, 176, 187, 0, 191, 89, 42, 180, 0, 71]
abbrev dktX3_entryAt_1 : List UInt8 := dkwX3_entryAt_1 ++ dktX3_entryAt_2
def dkwX3_entryAt_0 : List UInt8 := [42, 27, 3, 42, 180, 0, 100, 4, 100, 184, 0, 87, 153, 0, 7, 3, 167, 0, 4, 4, 182, 0, 103]
abbrev dktX3_entryAt_0 : List UInt8 := dkwX3_entryAt_0 ++ dktX3_entryAt_1
theorem dksX3_entryAt_0 : cX3_entryAt.data.toList.drop 0 = dktX3_entryAt_0 := by decide +kernel
theorem dksX3_entryAt_1 : cX3_entryAt.data.toList.drop 23 = dktX3_entryAt_1 := dk_seg dksX3_entryAt_0 23 rfl rfl
theorem dksX3_entryAt_2 : cX3_entryAt.data.toList.drop 47 = dktX3_entryAt_2 := dk_seg dksX3_entryAt_1 24 rfl rfl
theorem dX3_entryAt_0 : decode cX3_entryAt 0 = .ok (.aload_n 0, 1) := dk_42 (dk_at dksX3_entryAt_0 0 rfl rfl)
theorem dX3_entryAt_1 : decode cX3_entryAt 1 = .ok (.iload_n 1, 1) := dk_27 (dk_at dksX3_entryAt_0 1 rfl rfl)
theorem dX3_entryAt_2 : decode cX3_entryAt 2 = .ok (.iconst 0, 1) := dk_3 (dk_at dksX3_entryAt_0 2 rfl rfl)
theorem dX3_entryAt_3 : decode cX3_entryAt 3 = .ok (.aload_n 0, 1) := dk_42 (dk_at dksX3_entryAt_0 3 rfl rfl)
theorem dX3_entryAt_4 : decode cX3_entryAt 4 = .ok (.getfield 100, 3) := dk_180 0 100 (dk_at dksX3_entryAt_0 4 rfl rfl)
theorem dX3_entryAt_7 : decode cX3_entryAt 7 = .ok (.iconst 1, 1) := dk_4 (dk_at dksX3_entryAt_0 7 rfl rfl)
theorem dX3_entryAt_8 : decode cX3_entryAt 8 = .ok (.isub, 1) := dk_100 (dk_at dksX3_entryAt_0 8 rfl rfl)
theorem dX3_entryAt_9 : decode cX3_entryAt 9 = .ok (.invokestatic 87, 3) := dk_184 0 87 (dk_at dksX3_entryAt_0 9 rfl rfl)
theorem dX3_entryAt_12 : decode cX3_entryAt 12 = .ok (.ifCond .eq 7, 3) := dk_153 0 7 (dk_at dksX3_entryAt_0 12 rfl rfl)
theorem dX3_entryAt_15 : decode cX3_entryAt 15 = .ok (.iconst 0, 1) := dk_3 (dk_at dksX3_entryAt_0 15 rfl rfl)
theorem dX3_entryAt_16 : decode cX3_entryAt 16 = .ok (.goto 4, 3) := dk_167 0 4 (dk_at dksX3_entryAt_0 16 rfl rfl)
theorem dX3_entryAt_19 : decode cX3_entryAt 19 = .ok (.iconst 1, 1) := dk_4 (dk_at dksX3_entryAt_0 19 rfl rfl)
theorem dX3_entryAt_20 : decode cX3_entryAt 20 = .ok (.invokevirtual 103, 3) := dk_182 0 103 (dk_at dksX3_entryAt_0 20 rfl rfl)
theorem dX3_entryAt_23 : decode cX3_entryAt 23 = .ok (.ifCond .ne 16, 3) := dk_154 0 16 (dk_at dksX3_entryAt_1 0 rfl rfl)
theorem dX3_entryAt_26 : decode cX3_entryAt 26 = .ok (.new 191, 3) := dk_187 0 191 (dk_at dksX3_entryAt_1 3 rfl rfl)
theorem dX3_entryAt_29 : decode cX3_entryAt 29 = .ok (.dup, 1) := dk_89 (dk_at dksX3_entryAt_1 6 rfl rfl)
theorem dX3_entryAt_30 : decode cX3_entryAt 30 = .ok (.getstatic 116, 3) := dk_178 0 116 (dk_at dksX3_entryAt_1 7 rfl rfl)
theorem dX3_entryAt_33 : decode cX3_entryAt 33 = .ok (.iconst 0, 1) := dk_3 (dk_at dksX3_entryAt_1 10 rfl rfl)
theorem dX3_entryAt_34 : decode cX3_entryAt 34 = .ok (.iconst 0, 1) := dk_3 (dk_at dksX3_entryAt_1 11 rfl rfl)
theorem dX3_entryAt_35 : decode cX3_entryAt 35 = .ok (.invokespecial 193, 3) := dk_183 0 193 (dk_at dksX3_entryAt_1 12 rfl rfl)
theorem dX3_entryAt_38 : decode cX3_entryAt 38 = .ok (.areturn, 1) := dk_176 (dk_at dksX3_entryAt_1 15 rfl rfl)
theorem dX3_entryAt_39 : decode cX3_entryAt 39 = .ok (.new 191, 3) := dk_187 0 191 (dk_at dksX3_entryAt_1 16 rfl rfl)
theorem dX3_entryAt_42 : decode cX3_entryAt 42 = .ok (.dup, 1) := dk_89 (dk_at dksX3_entryAt_1 19 rfl rfl)
theorem dX3_entryAt_43 : decode cX3_entryAt 43 = .ok (.aload_n 0, 1) := dk_42 (dk_at dksX3_entryAt_1 20 rfl rfl)
theorem dX3_entryAt_44 : decode cX3_entryAt 44 = .ok (.getfield 71, 3) := dk_180 0 71 (dk_at dksX3_entryAt_1 21 rfl rfl)
theorem dX3_entryAt_47 : decode cX3_entryAt 47 = .ok (.iload_n 1, 1) := dk_27 (dk_at dksX3_entryAt_2 0 rfl rfl)
theorem dX3_entryAt_48 : decode cX3_entryAt 48 = .ok (.aaload, 1) := dk_50 (dk_at dksX3_entryAt_2 1 rfl rfl)
theorem dX3_entryAt_49 : decode cX3_entryAt 49 = .ok (.aload_n 0, 1) := dk_42 (dk_at dksX3_entryAt_2 2 rfl rfl)
theorem dX3_entryAt_50 : decode cX3_entryAt 50 = .ok (.getfield 75, 3) := dk_180 0 75 (dk_at dksX3_entryAt_2 3 rfl rfl)
theorem dX3_entryAt_53 : decode cX3_entryAt 53 = .ok (.iload_n 1, 1) := dk_27 (dk_at dksX3_entryAt_2 6 rfl rfl)
theorem dX3_entryAt_54 : decode cX3_entryAt 54 = .ok (.iaload, 1) := dk_46 (dk_at dksX3_entryAt_2 7 rfl rfl)
theorem dX3_entryAt_55 : decode cX3_entryAt 55 = .ok (.aload_n 0, 1) := dk_42 (dk_at dksX3_entryAt_2 8 rfl rfl)
theorem dX3_entryAt_56 : decode cX3_entryAt 56 = .ok (.getfield 78, 3) := dk_180 0 78 (dk_at dksX3_entryAt_2 9 rfl rfl)
theorem dX3_entryAt_59 : decode cX3_entryAt 59 = .ok (.iload_n 1, 1) := dk_27 (dk_at dksX3_entryAt_2 12 rfl rfl)
theorem dX3_entryAt_60 : decode cX3_entryAt 60 = .ok (.iaload, 1) := dk_46 (dk_at dksX3_entryAt_2 13 rfl rfl)
theorem dX3_entryAt_61 : decode cX3_entryAt 61 = .ok (.invokespecial 193, 3) := dk_183 0 193 (dk_at dksX3_entryAt_2 14 rfl rfl)
theorem dX3_entryAt_64 : decode cX3_entryAt 64 = .ok (.areturn, 1) := dk_176 (dk_at dksX3_entryAt_2 17 rfl rfl)
abbrev cX3_doneShare : ByteArray := prog_18_method_48_code
def yX3_doneShare : MethodName := ⟨RX3, "doneShare", "()F"⟩
def dkwX3_doneShare_3 : List UInt8 := [167, 0, 4, 3, 182, 0, 103, 153, 0, 11, 28, 134, 27, 134, 110, 167, 0, 4, 11, 174]
abbrev dktX3_doneShare_3 : List UInt8 := dkwX3_doneShare_3 ++ []
def dkwX3_doneShare_2 : List UInt8 := [29, 46, 161, 0, 7, 4, 167, 0, 4, 3, 96, 61, 132, 3, 1, 167, 255, 199, 42, 27, 154, 0, 7, 4]
abbrev dktX3_doneShare_2 : List UInt8 := dkwX3_doneShare_2 ++ dktX3_doneShare_3
def dkwX3_doneShare_1 : List UInt8 := [2, 160, 0, 7, 3, 167, 0, 4, 4, 96, 60, 28, 21, 4, 2, 159, 0, 18, 21, 4, 42, 180, 0, 16]
abbrev dktX3_doneShare_1 : List UInt8 := dkwX3_doneShare_1 ++ dktX3_doneShare_2
def dkwX3_doneShare_0 : List UInt8 := [3, 60, 3, 61, 3, 62, 29, 42, 180, 0, 84, 162, 0, 55, 42, 29, 182, 0, 169, 54, 4, 27, 21, 4]
abbrev dktX3_doneShare_0 : List UInt8 := dkwX3_doneShare_0 ++ dktX3_doneShare_1
theorem dksX3_doneShare_0 : cX3_doneShare.data.toList.drop 0 = dktX3_doneShare_0 := by decide +kernel
theorem dksX3_doneShare_1 : cX3_doneShare.data.toList.drop 24 = dktX3_doneShare_1 := dk_seg dksX3_doneShare_0 24 rfl rfl
theorem dksX3_doneShare_2 : cX3_doneShare.data.toList.drop 48 = dktX3_doneShare_2 := dk_seg dksX3_doneShare_1 24 rfl rfl
theorem dksX3_doneShare_3 : cX3_doneShare.data.toList.drop 72 = dktX3_doneShare_3 := dk_seg dksX3_doneShare_2 24 rfl rfl
theorem dX3_doneShare_0 : decode cX3_doneShare 0 = .ok (.iconst 0, 1) := dk_3 (dk_at dksX3_doneShare_0 0 rfl rfl)
theorem dX3_doneShare_1 : decode cX3_doneShare 1 = .ok (.istore_n 1, 1) := dk_60 (dk_at dksX3_doneShare_0 1 rfl rfl)
theorem dX3_doneShare_2 : decode cX3_doneShare 2 = .ok (.iconst 0, 1) := dk_3 (dk_at dksX3_doneShare_0 2 rfl rfl)
theorem dX3_doneShare_3 : decode cX3_doneShare 3 = .ok (.istore_n 2, 1) := dk_61 (dk_at dksX3_doneShare_0 3 rfl rfl)
theorem dX3_doneShare_4 : decode cX3_doneShare 4 = .ok (.iconst 0, 1) := dk_3 (dk_at dksX3_doneShare_0 4 rfl rfl)
theorem dX3_doneShare_5 : decode cX3_doneShare 5 = .ok (.istore_n 3, 1) := dk_62 (dk_at dksX3_doneShare_0 5 rfl rfl)
theorem dX3_doneShare_6 : decode cX3_doneShare 6 = .ok (.iload_n 3, 1) := dk_29 (dk_at dksX3_doneShare_0 6 rfl rfl)
theorem dX3_doneShare_7 : decode cX3_doneShare 7 = .ok (.aload_n 0, 1) := dk_42 (dk_at dksX3_doneShare_0 7 rfl rfl)
theorem dX3_doneShare_8 : decode cX3_doneShare 8 = .ok (.getfield 84, 3) := dk_180 0 84 (dk_at dksX3_doneShare_0 8 rfl rfl)
theorem dX3_doneShare_11 : decode cX3_doneShare 11 = .ok (.if_icmp .ge 55, 3) := dk_162 0 55 (dk_at dksX3_doneShare_0 11 rfl rfl)
theorem dX3_doneShare_14 : decode cX3_doneShare 14 = .ok (.aload_n 0, 1) := dk_42 (dk_at dksX3_doneShare_0 14 rfl rfl)
theorem dX3_doneShare_15 : decode cX3_doneShare 15 = .ok (.iload_n 3, 1) := dk_29 (dk_at dksX3_doneShare_0 15 rfl rfl)
theorem dX3_doneShare_16 : decode cX3_doneShare 16 = .ok (.invokevirtual 169, 3) := dk_182 0 169 (dk_at dksX3_doneShare_0 16 rfl rfl)
theorem dX3_doneShare_19 : decode cX3_doneShare 19 = .ok (.istore 4, 2) := dk_54 4 (dk_at dksX3_doneShare_0 19 rfl rfl)
theorem dX3_doneShare_21 : decode cX3_doneShare 21 = .ok (.iload_n 1, 1) := dk_27 (dk_at dksX3_doneShare_0 21 rfl rfl)
theorem dX3_doneShare_22 : decode cX3_doneShare 22 = .ok (.iload 4, 2) := dk_21 4 (dk_at dksX3_doneShare_0 22 rfl rfl)
theorem dX3_doneShare_24 : decode cX3_doneShare 24 = .ok (.iconst (-1), 1) := dk_2 (dk_at dksX3_doneShare_1 0 rfl rfl)
theorem dX3_doneShare_25 : decode cX3_doneShare 25 = .ok (.if_icmp .ne 7, 3) := dk_160 0 7 (dk_at dksX3_doneShare_1 1 rfl rfl)
theorem dX3_doneShare_28 : decode cX3_doneShare 28 = .ok (.iconst 0, 1) := dk_3 (dk_at dksX3_doneShare_1 4 rfl rfl)
theorem dX3_doneShare_29 : decode cX3_doneShare 29 = .ok (.goto 4, 3) := dk_167 0 4 (dk_at dksX3_doneShare_1 5 rfl rfl)
theorem dX3_doneShare_32 : decode cX3_doneShare 32 = .ok (.iconst 1, 1) := dk_4 (dk_at dksX3_doneShare_1 8 rfl rfl)
theorem dX3_doneShare_33 : decode cX3_doneShare 33 = .ok (.iadd, 1) := dk_96 (dk_at dksX3_doneShare_1 9 rfl rfl)
theorem dX3_doneShare_34 : decode cX3_doneShare 34 = .ok (.istore_n 1, 1) := dk_60 (dk_at dksX3_doneShare_1 10 rfl rfl)
theorem dX3_doneShare_35 : decode cX3_doneShare 35 = .ok (.iload_n 2, 1) := dk_28 (dk_at dksX3_doneShare_1 11 rfl rfl)
theorem dX3_doneShare_36 : decode cX3_doneShare 36 = .ok (.iload 4, 2) := dk_21 4 (dk_at dksX3_doneShare_1 12 rfl rfl)
theorem dX3_doneShare_38 : decode cX3_doneShare 38 = .ok (.iconst (-1), 1) := dk_2 (dk_at dksX3_doneShare_1 14 rfl rfl)
theorem dX3_doneShare_39 : decode cX3_doneShare 39 = .ok (.if_icmp .eq 18, 3) := dk_159 0 18 (dk_at dksX3_doneShare_1 15 rfl rfl)
theorem dX3_doneShare_42 : decode cX3_doneShare 42 = .ok (.iload 4, 2) := dk_21 4 (dk_at dksX3_doneShare_1 18 rfl rfl)
theorem dX3_doneShare_44 : decode cX3_doneShare 44 = .ok (.aload_n 0, 1) := dk_42 (dk_at dksX3_doneShare_1 20 rfl rfl)
theorem dX3_doneShare_45 : decode cX3_doneShare 45 = .ok (.getfield 16, 3) := dk_180 0 16 (dk_at dksX3_doneShare_1 21 rfl rfl)
theorem dX3_doneShare_48 : decode cX3_doneShare 48 = .ok (.iload_n 3, 1) := dk_29 (dk_at dksX3_doneShare_2 0 rfl rfl)
theorem dX3_doneShare_49 : decode cX3_doneShare 49 = .ok (.iaload, 1) := dk_46 (dk_at dksX3_doneShare_2 1 rfl rfl)
theorem dX3_doneShare_50 : decode cX3_doneShare 50 = .ok (.if_icmp .lt 7, 3) := dk_161 0 7 (dk_at dksX3_doneShare_2 2 rfl rfl)
theorem dX3_doneShare_53 : decode cX3_doneShare 53 = .ok (.iconst 1, 1) := dk_4 (dk_at dksX3_doneShare_2 5 rfl rfl)
theorem dX3_doneShare_54 : decode cX3_doneShare 54 = .ok (.goto 4, 3) := dk_167 0 4 (dk_at dksX3_doneShare_2 6 rfl rfl)
theorem dX3_doneShare_57 : decode cX3_doneShare 57 = .ok (.iconst 0, 1) := dk_3 (dk_at dksX3_doneShare_2 9 rfl rfl)
theorem dX3_doneShare_58 : decode cX3_doneShare 58 = .ok (.iadd, 1) := dk_96 (dk_at dksX3_doneShare_2 10 rfl rfl)
theorem dX3_doneShare_59 : decode cX3_doneShare 59 = .ok (.istore_n 2, 1) := dk_61 (dk_at dksX3_doneShare_2 11 rfl rfl)
theorem dX3_doneShare_60 : decode cX3_doneShare 60 = .ok (.iinc 3 1, 3) := dk_132 3 1 (dk_at dksX3_doneShare_2 12 rfl rfl)
theorem dX3_doneShare_63 : decode cX3_doneShare 63 = .ok (.goto (-57), 3) := dk_167 255 199 (dk_at dksX3_doneShare_2 15 rfl rfl)
theorem dX3_doneShare_66 : decode cX3_doneShare 66 = .ok (.aload_n 0, 1) := dk_42 (dk_at dksX3_doneShare_2 18 rfl rfl)
theorem dX3_doneShare_67 : decode cX3_doneShare 67 = .ok (.iload_n 1, 1) := dk_27 (dk_at dksX3_doneShare_2 19 rfl rfl)
theorem dX3_doneShare_68 : decode cX3_doneShare 68 = .ok (.ifCond .ne 7, 3) := dk_154 0 7 (dk_at dksX3_doneShare_2 20 rfl rfl)
theorem dX3_doneShare_71 : decode cX3_doneShare 71 = .ok (.iconst 1, 1) := dk_4 (dk_at dksX3_doneShare_2 23 rfl rfl)
theorem dX3_doneShare_72 : decode cX3_doneShare 72 = .ok (.goto 4, 3) := dk_167 0 4 (dk_at dksX3_doneShare_3 0 rfl rfl)
theorem dX3_doneShare_75 : decode cX3_doneShare 75 = .ok (.iconst 0, 1) := dk_3 (dk_at dksX3_doneShare_3 3 rfl rfl)
theorem dX3_doneShare_76 : decode cX3_doneShare 76 = .ok (.invokevirtual 103, 3) := dk_182 0 103 (dk_at dksX3_doneShare_3 4 rfl rfl)
theorem dX3_doneShare_79 : decode cX3_doneShare 79 = .ok (.ifCond .eq 11, 3) := dk_153 0 11 (dk_at dksX3_doneShare_3 7 rfl rfl)
theorem dX3_doneShare_82 : decode cX3_doneShare 82 = .ok (.iload_n 2, 1) := dk_28 (dk_at dksX3_doneShare_3 10 rfl rfl)
theorem dX3_doneShare_83 : decode cX3_doneShare 83 = .ok (.i2f, 1) := dk_134 (dk_at dksX3_doneShare_3 11 rfl rfl)
theorem dX3_doneShare_84 : decode cX3_doneShare 84 = .ok (.iload_n 1, 1) := dk_27 (dk_at dksX3_doneShare_3 12 rfl rfl)
theorem dX3_doneShare_85 : decode cX3_doneShare 85 = .ok (.i2f, 1) := dk_134 (dk_at dksX3_doneShare_3 13 rfl rfl)
theorem dX3_doneShare_86 : decode cX3_doneShare 86 = .ok (.fdiv, 1) := dk_110 (dk_at dksX3_doneShare_3 14 rfl rfl)
theorem dX3_doneShare_87 : decode cX3_doneShare 87 = .ok (.goto 4, 3) := dk_167 0 4 (dk_at dksX3_doneShare_3 15 rfl rfl)
theorem dX3_doneShare_90 : decode cX3_doneShare 90 = .ok (.fconst 0, 1) := dk_11 (dk_at dksX3_doneShare_3 18 rfl rfl)
theorem dX3_doneShare_91 : decode cX3_doneShare 91 = .ok (.freturn, 1) := dk_174 (dk_at dksX3_doneShare_3 19 rfl rfl)
abbrev cX3_meanDepth : ByteArray := prog_18_method_49_code
def yX3_meanDepth : MethodName := ⟨RX3, "meanDepth", "()D"⟩
def dkwX3_meanDepth_2 : List UInt8 := [42, 180, 0, 84, 135, 111, 167, 0, 4, 14, 175]
abbrev dktX3_meanDepth_2 : List UInt8 := dkwX3_meanDepth_2 ++ []
def dkwX3_meanDepth_1 : List UInt8 := [167, 255, 236, 42, 42, 180, 0, 84, 154, 0, 7, 4, 167, 0, 4, 3, 182, 0, 103, 153, 0, 14, 27, 135]
abbrev dktX3_meanDepth_1 : List UInt8 := dkwX3_meanDepth_1 ++ dktX3_meanDepth_2
def dkwX3_meanDepth_0 : List UInt8 := [3, 60, 3, 61, 28, 42, 180, 0, 84, 162, 0, 18, 27, 42, 180, 0, 9, 28, 46, 96, 60, 132, 2, 1]
abbrev dktX3_meanDepth_0 : List UInt8 := dkwX3_meanDepth_0 ++ dktX3_meanDepth_1
theorem dksX3_meanDepth_0 : cX3_meanDepth.data.toList.drop 0 = dktX3_meanDepth_0 := by decide +kernel
theorem dksX3_meanDepth_1 : cX3_meanDepth.data.toList.drop 24 = dktX3_meanDepth_1 := dk_seg dksX3_meanDepth_0 24 rfl rfl
theorem dksX3_meanDepth_2 : cX3_meanDepth.data.toList.drop 48 = dktX3_meanDepth_2 := dk_seg dksX3_meanDepth_1 24 rfl rfl
theorem dX3_meanDepth_0 : decode cX3_meanDepth 0 = .ok (.iconst 0, 1) := dk_3 (dk_at dksX3_meanDepth_0 0 rfl rfl)
theorem dX3_meanDepth_1 : decode cX3_meanDepth 1 = .ok (.istore_n 1, 1) := dk_60 (dk_at dksX3_meanDepth_0 1 rfl rfl)
theorem dX3_meanDepth_2 : decode cX3_meanDepth 2 = .ok (.iconst 0, 1) := dk_3 (dk_at dksX3_meanDepth_0 2 rfl rfl)
theorem dX3_meanDepth_3 : decode cX3_meanDepth 3 = .ok (.istore_n 2, 1) := dk_61 (dk_at dksX3_meanDepth_0 3 rfl rfl)
theorem dX3_meanDepth_4 : decode cX3_meanDepth 4 = .ok (.iload_n 2, 1) := dk_28 (dk_at dksX3_meanDepth_0 4 rfl rfl)
theorem dX3_meanDepth_5 : decode cX3_meanDepth 5 = .ok (.aload_n 0, 1) := dk_42 (dk_at dksX3_meanDepth_0 5 rfl rfl)
theorem dX3_meanDepth_6 : decode cX3_meanDepth 6 = .ok (.getfield 84, 3) := dk_180 0 84 (dk_at dksX3_meanDepth_0 6 rfl rfl)
theorem dX3_meanDepth_9 : decode cX3_meanDepth 9 = .ok (.if_icmp .ge 18, 3) := dk_162 0 18 (dk_at dksX3_meanDepth_0 9 rfl rfl)
theorem dX3_meanDepth_12 : decode cX3_meanDepth 12 = .ok (.iload_n 1, 1) := dk_27 (dk_at dksX3_meanDepth_0 12 rfl rfl)
theorem dX3_meanDepth_13 : decode cX3_meanDepth 13 = .ok (.aload_n 0, 1) := dk_42 (dk_at dksX3_meanDepth_0 13 rfl rfl)
theorem dX3_meanDepth_14 : decode cX3_meanDepth 14 = .ok (.getfield 9, 3) := dk_180 0 9 (dk_at dksX3_meanDepth_0 14 rfl rfl)
theorem dX3_meanDepth_17 : decode cX3_meanDepth 17 = .ok (.iload_n 2, 1) := dk_28 (dk_at dksX3_meanDepth_0 17 rfl rfl)
theorem dX3_meanDepth_18 : decode cX3_meanDepth 18 = .ok (.iaload, 1) := dk_46 (dk_at dksX3_meanDepth_0 18 rfl rfl)
theorem dX3_meanDepth_19 : decode cX3_meanDepth 19 = .ok (.iadd, 1) := dk_96 (dk_at dksX3_meanDepth_0 19 rfl rfl)
theorem dX3_meanDepth_20 : decode cX3_meanDepth 20 = .ok (.istore_n 1, 1) := dk_60 (dk_at dksX3_meanDepth_0 20 rfl rfl)
theorem dX3_meanDepth_21 : decode cX3_meanDepth 21 = .ok (.iinc 2 1, 3) := dk_132 2 1 (dk_at dksX3_meanDepth_0 21 rfl rfl)
theorem dX3_meanDepth_24 : decode cX3_meanDepth 24 = .ok (.goto (-20), 3) := dk_167 255 236 (dk_at dksX3_meanDepth_1 0 rfl rfl)
theorem dX3_meanDepth_27 : decode cX3_meanDepth 27 = .ok (.aload_n 0, 1) := dk_42 (dk_at dksX3_meanDepth_1 3 rfl rfl)
theorem dX3_meanDepth_28 : decode cX3_meanDepth 28 = .ok (.aload_n 0, 1) := dk_42 (dk_at dksX3_meanDepth_1 4 rfl rfl)
theorem dX3_meanDepth_29 : decode cX3_meanDepth 29 = .ok (.getfield 84, 3) := dk_180 0 84 (dk_at dksX3_meanDepth_1 5 rfl rfl)
theorem dX3_meanDepth_32 : decode cX3_meanDepth 32 = .ok (.ifCond .ne 7, 3) := dk_154 0 7 (dk_at dksX3_meanDepth_1 8 rfl rfl)
theorem dX3_meanDepth_35 : decode cX3_meanDepth 35 = .ok (.iconst 1, 1) := dk_4 (dk_at dksX3_meanDepth_1 11 rfl rfl)
theorem dX3_meanDepth_36 : decode cX3_meanDepth 36 = .ok (.goto 4, 3) := dk_167 0 4 (dk_at dksX3_meanDepth_1 12 rfl rfl)
theorem dX3_meanDepth_39 : decode cX3_meanDepth 39 = .ok (.iconst 0, 1) := dk_3 (dk_at dksX3_meanDepth_1 15 rfl rfl)
theorem dX3_meanDepth_40 : decode cX3_meanDepth 40 = .ok (.invokevirtual 103, 3) := dk_182 0 103 (dk_at dksX3_meanDepth_1 16 rfl rfl)
theorem dX3_meanDepth_43 : decode cX3_meanDepth 43 = .ok (.ifCond .eq 14, 3) := dk_153 0 14 (dk_at dksX3_meanDepth_1 19 rfl rfl)
theorem dX3_meanDepth_46 : decode cX3_meanDepth 46 = .ok (.iload_n 1, 1) := dk_27 (dk_at dksX3_meanDepth_1 22 rfl rfl)
theorem dX3_meanDepth_47 : decode cX3_meanDepth 47 = .ok (.i2d, 1) := dk_135 (dk_at dksX3_meanDepth_1 23 rfl rfl)
theorem dX3_meanDepth_48 : decode cX3_meanDepth 48 = .ok (.aload_n 0, 1) := dk_42 (dk_at dksX3_meanDepth_2 0 rfl rfl)
theorem dX3_meanDepth_49 : decode cX3_meanDepth 49 = .ok (.getfield 84, 3) := dk_180 0 84 (dk_at dksX3_meanDepth_2 1 rfl rfl)
theorem dX3_meanDepth_52 : decode cX3_meanDepth 52 = .ok (.i2d, 1) := dk_135 (dk_at dksX3_meanDepth_2 4 rfl rfl)
theorem dX3_meanDepth_53 : decode cX3_meanDepth 53 = .ok (.ddiv, 1) := dk_111 (dk_at dksX3_meanDepth_2 5 rfl rfl)
theorem dX3_meanDepth_54 : decode cX3_meanDepth 54 = .ok (.goto 4, 3) := dk_167 0 4 (dk_at dksX3_meanDepth_2 6 rfl rfl)
theorem dX3_meanDepth_57 : decode cX3_meanDepth 57 = .ok (.dconst 0, 1) := dk_14 (dk_at dksX3_meanDepth_2 9 rfl rfl)
theorem dX3_meanDepth_58 : decode cX3_meanDepth 58 = .ok (.dreturn, 1) := dk_175 (dk_at dksX3_meanDepth_2 10 rfl rfl)
abbrev cX3_report : ByteArray := prog_18_method_50_code
def yX3_report : MethodName := ⟨RX3, "report", "()Ljava/lang/String;"⟩
def dkwX3_report_3 : List UInt8 := [182, 0, 206, 176]
abbrev dktX3_report_3 : List UInt8 := dkwX3_report_3 ++ []
def dkwX3_report_2 : List UInt8 := [180, 0, 22, 28, 51, 153, 0, 10, 43, 16, 63, 182, 0, 199, 87, 132, 2, 1, 167, 255, 207, 43]
abbrev dktX3_report_2 : List UInt8 := dkwX3_report_2 ++ dktX3_report_3
def dkwX3_report_1 : List UInt8 := [158, 0, 10, 43, 16, 32, 182, 0, 199, 87, 43, 42, 180, 0, 9, 28, 46, 182, 0, 203, 87, 42]
abbrev dktX3_report_1 : List UInt8 := dkwX3_report_1 ++ dktX3_report_2
def dkwX3_report_0 : List UInt8 := [42, 3, 181, 0, 81, 187, 0, 196, 89, 183, 0, 198, 76, 3, 61, 28, 42, 180, 0, 84, 162, 0, 47, 28]
abbrev dktX3_report_0 : List UInt8 := dkwX3_report_0 ++ dktX3_report_1
theorem dksX3_report_0 : cX3_report.data.toList.drop 0 = dktX3_report_0 := by decide +kernel
theorem dksX3_report_1 : cX3_report.data.toList.drop 24 = dktX3_report_1 := dk_seg dksX3_report_0 24 rfl rfl
theorem dksX3_report_2 : cX3_report.data.toList.drop 46 = dktX3_report_2 := dk_seg dksX3_report_1 22 rfl rfl
theorem dksX3_report_3 : cX3_report.data.toList.drop 68 = dktX3_report_3 := dk_seg dksX3_report_2 22 rfl rfl
theorem dX3_report_0 : decode cX3_report 0 = .ok (.aload_n 0, 1) := dk_42 (dk_at dksX3_report_0 0 rfl rfl)
theorem dX3_report_1 : decode cX3_report 1 = .ok (.iconst 0, 1) := dk_3 (dk_at dksX3_report_0 1 rfl rfl)
theorem dX3_report_2 : decode cX3_report 2 = .ok (.putfield 81, 3) := dk_181 0 81 (dk_at dksX3_report_0 2 rfl rfl)
theorem dX3_report_5 : decode cX3_report 5 = .ok (.new 196, 3) := dk_187 0 196 (dk_at dksX3_report_0 5 rfl rfl)
theorem dX3_report_8 : decode cX3_report 8 = .ok (.dup, 1) := dk_89 (dk_at dksX3_report_0 8 rfl rfl)
theorem dX3_report_9 : decode cX3_report 9 = .ok (.invokespecial 198, 3) := dk_183 0 198 (dk_at dksX3_report_0 9 rfl rfl)
theorem dX3_report_12 : decode cX3_report 12 = .ok (.astore_n 1, 1) := dk_76 (dk_at dksX3_report_0 12 rfl rfl)
theorem dX3_report_13 : decode cX3_report 13 = .ok (.iconst 0, 1) := dk_3 (dk_at dksX3_report_0 13 rfl rfl)
theorem dX3_report_14 : decode cX3_report 14 = .ok (.istore_n 2, 1) := dk_61 (dk_at dksX3_report_0 14 rfl rfl)
theorem dX3_report_15 : decode cX3_report 15 = .ok (.iload_n 2, 1) := dk_28 (dk_at dksX3_report_0 15 rfl rfl)
theorem dX3_report_16 : decode cX3_report 16 = .ok (.aload_n 0, 1) := dk_42 (dk_at dksX3_report_0 16 rfl rfl)
theorem dX3_report_17 : decode cX3_report 17 = .ok (.getfield 84, 3) := dk_180 0 84 (dk_at dksX3_report_0 17 rfl rfl)
theorem dX3_report_20 : decode cX3_report 20 = .ok (.if_icmp .ge 47, 3) := dk_162 0 47 (dk_at dksX3_report_0 20 rfl rfl)
theorem dX3_report_23 : decode cX3_report 23 = .ok (.iload_n 2, 1) := dk_28 (dk_at dksX3_report_0 23 rfl rfl)
theorem dX3_report_24 : decode cX3_report 24 = .ok (.ifCond .le 10, 3) := dk_158 0 10 (dk_at dksX3_report_1 0 rfl rfl)
theorem dX3_report_27 : decode cX3_report 27 = .ok (.aload_n 1, 1) := dk_43 (dk_at dksX3_report_1 3 rfl rfl)
theorem dX3_report_28 : decode cX3_report 28 = .ok (.bipush 32, 2) := dk_16 32 (dk_at dksX3_report_1 4 rfl rfl)
theorem dX3_report_30 : decode cX3_report 30 = .ok (.invokevirtual 199, 3) := dk_182 0 199 (dk_at dksX3_report_1 6 rfl rfl)
theorem dX3_report_33 : decode cX3_report 33 = .ok (.pop, 1) := dk_87 (dk_at dksX3_report_1 9 rfl rfl)
theorem dX3_report_34 : decode cX3_report 34 = .ok (.aload_n 1, 1) := dk_43 (dk_at dksX3_report_1 10 rfl rfl)
theorem dX3_report_35 : decode cX3_report 35 = .ok (.aload_n 0, 1) := dk_42 (dk_at dksX3_report_1 11 rfl rfl)
theorem dX3_report_36 : decode cX3_report 36 = .ok (.getfield 9, 3) := dk_180 0 9 (dk_at dksX3_report_1 12 rfl rfl)
theorem dX3_report_39 : decode cX3_report 39 = .ok (.iload_n 2, 1) := dk_28 (dk_at dksX3_report_1 15 rfl rfl)
theorem dX3_report_40 : decode cX3_report 40 = .ok (.iaload, 1) := dk_46 (dk_at dksX3_report_1 16 rfl rfl)
theorem dX3_report_41 : decode cX3_report 41 = .ok (.invokevirtual 203, 3) := dk_182 0 203 (dk_at dksX3_report_1 17 rfl rfl)
theorem dX3_report_44 : decode cX3_report 44 = .ok (.pop, 1) := dk_87 (dk_at dksX3_report_1 20 rfl rfl)
theorem dX3_report_45 : decode cX3_report 45 = .ok (.aload_n 0, 1) := dk_42 (dk_at dksX3_report_1 21 rfl rfl)
theorem dX3_report_46 : decode cX3_report 46 = .ok (.getfield 22, 3) := dk_180 0 22 (dk_at dksX3_report_2 0 rfl rfl)
theorem dX3_report_49 : decode cX3_report 49 = .ok (.iload_n 2, 1) := dk_28 (dk_at dksX3_report_2 3 rfl rfl)
theorem dX3_report_50 : decode cX3_report 50 = .ok (.baload, 1) := dk_51 (dk_at dksX3_report_2 4 rfl rfl)
theorem dX3_report_51 : decode cX3_report 51 = .ok (.ifCond .eq 10, 3) := dk_153 0 10 (dk_at dksX3_report_2 5 rfl rfl)
theorem dX3_report_54 : decode cX3_report 54 = .ok (.aload_n 1, 1) := dk_43 (dk_at dksX3_report_2 8 rfl rfl)
theorem dX3_report_55 : decode cX3_report 55 = .ok (.bipush 63, 2) := dk_16 63 (dk_at dksX3_report_2 9 rfl rfl)
theorem dX3_report_57 : decode cX3_report 57 = .ok (.invokevirtual 199, 3) := dk_182 0 199 (dk_at dksX3_report_2 11 rfl rfl)
theorem dX3_report_60 : decode cX3_report 60 = .ok (.pop, 1) := dk_87 (dk_at dksX3_report_2 14 rfl rfl)
theorem dX3_report_61 : decode cX3_report 61 = .ok (.iinc 2 1, 3) := dk_132 2 1 (dk_at dksX3_report_2 15 rfl rfl)
theorem dX3_report_64 : decode cX3_report 64 = .ok (.goto (-49), 3) := dk_167 255 207 (dk_at dksX3_report_2 18 rfl rfl)
theorem dX3_report_67 : decode cX3_report 67 = .ok (.aload_n 1, 1) := dk_43 (dk_at dksX3_report_2 21 rfl rfl)
theorem dX3_report_68 : decode cX3_report 68 = .ok (.invokevirtual 206, 3) := dk_182 0 206 (dk_at dksX3_report_3 0 rfl rfl)
theorem dX3_report_71 : decode cX3_report 71 = .ok (.areturn, 1) := dk_176 (dk_at dksX3_report_3 3 rfl rfl)
abbrev cX3_isBalanced : ByteArray := prog_18_method_51_code
def yX3_isBalanced : MethodName := ⟨RX3, "isBalanced", "()Z"⟩
def dkwX3_isBalanced_0 : List UInt8 := [42, 3, 181, 0, 81, 4, 172]
abbrev dktX3_isBalanced_0 : List UInt8 := dkwX3_isBalanced_0 ++ []
theorem dksX3_isBalanced_0 : cX3_isBalanced.data.toList.drop 0 = dktX3_isBalanced_0 := by decide +kernel
theorem dX3_isBalanced_0 : decode cX3_isBalanced 0 = .ok (.aload_n 0, 1) := dk_42 (dk_at dksX3_isBalanced_0 0 rfl rfl)
theorem dX3_isBalanced_1 : decode cX3_isBalanced 1 = .ok (.iconst 0, 1) := dk_3 (dk_at dksX3_isBalanced_0 1 rfl rfl)
theorem dX3_isBalanced_2 : decode cX3_isBalanced 2 = .ok (.putfield 81, 3) := dk_181 0 81 (dk_at dksX3_isBalanced_0 2 rfl rfl)
theorem dX3_isBalanced_5 : decode cX3_isBalanced 5 = .ok (.iconst 1, 1) := dk_4 (dk_at dksX3_isBalanced_0 5 rfl rfl)
theorem dX3_isBalanced_6 : decode cX3_isBalanced 6 = .ok (.ireturn, 1) := dk_172 (dk_at dksX3_isBalanced_0 6 rfl rfl)
theorem q73 : (Jvm.Cond.initialized "DredgeledgerModel") ∈ lw_all := lw_g (lw_at lw_m1 26 rfl) rfl
theorem q835 : (Jvm.Cond.selects "DredgeledgerModel" ({ cls := "java/lang/Object", name := "getClass", desc := "()Ljava/lang/Class;" } : Jvm.MethodName) ({ cls := "java/lang/Object", name := "getClass", desc := "()Ljava/lang/Class;" } : Jvm.MethodName)) ∈ lw_all := lw_g (lw_at lw_m4 68 rfl) rfl
theorem q2189 : (Jvm.Cond.instantiable "DredgeledgerModel" (35 : Nat)) ∈ lw_all := lw_g (lw_at lw_m9 222 rfl) rfl
theorem q2191 : (Jvm.Cond.instanceMethod ({ cls := "DredgeledgerModel", name := "<init>", desc := "()V" } : Jvm.MethodName)) ∈ lw_all := lw_g (lw_at lw_m9 224 rfl) rfl
theorem q2192 : (Jvm.Cond.code ({ cls := "DredgeledgerModel", name := "<init>", desc := "()V" } : Jvm.MethodName) prog_18_method_1_code (1 : Nat) (Option.none : Option Jvm.ClassFile.FieldType)) ∈ lw_all := lw_g (lw_at lw_m9 225 rfl) rfl
theorem q2193 : (Jvm.Cond.methodLink "DredgeledgerModel" (1 : Nat) ({ cls := "java/lang/Object", name := "<init>", desc := "()V" } : Jvm.MethodName)) ∈ lw_all := lw_g (lw_at lw_m9 226 rfl) rfl
theorem q2194 : (Jvm.Cond.classLink "DredgeledgerModel" (69 : Nat) "Deed") ∈ lw_all := lw_g (lw_at lw_m9 227 rfl) rfl
theorem q2196 : (Jvm.Cond.fieldLink "DredgeledgerModel" (81 : Nat) "DredgeledgerModel" "thrown" "I") ∈ lw_all := lw_g (lw_at lw_m9 229 rfl) rfl
theorem q2197 : (Jvm.Cond.fieldLink "DredgeledgerModel" (84 : Nat) "DredgeledgerModel" "cells" "I") ∈ lw_all := lw_g (lw_at lw_m9 230 rfl) rfl
theorem q2198 : (Jvm.Cond.fieldLink "DredgeledgerModel" (9 : Nat) "DredgeledgerModel" "depth" "[I") ∈ lw_all := lw_g (lw_at lw_m9 231 rfl) rfl
theorem q2199 : (Jvm.Cond.fieldLink "DredgeledgerModel" (13 : Nat) "DredgeledgerModel" "next" "[I") ∈ lw_all := lw_g (lw_at lw_m9 232 rfl) rfl
theorem q2200 : (Jvm.Cond.fieldLink "DredgeledgerModel" (16 : Nat) "DredgeledgerModel" "limit" "[I") ∈ lw_all := lw_g (lw_at lw_m9 233 rfl) rfl
theorem q2201 : (Jvm.Cond.fieldLink "DredgeledgerModel" (19 : Nat) "DredgeledgerModel" "paidDepth" "[I") ∈ lw_all := lw_g (lw_at lw_m9 234 rfl) rfl
theorem q2202 : (Jvm.Cond.fieldLink "DredgeledgerModel" (22 : Nat) "DredgeledgerModel" "disputed" "[Z") ∈ lw_all := lw_g (lw_at lw_m9 235 rfl) rfl
theorem q2203 : (Jvm.Cond.fieldLink "DredgeledgerModel" (26 : Nat) "DredgeledgerModel" "slope" "I") ∈ lw_all := lw_g (lw_at lw_m9 236 rfl) rfl
theorem q2204 : (Jvm.Cond.fieldLink "DredgeledgerModel" (97 : Nat) "DredgeledgerModel" "day" "I") ∈ lw_all := lw_g (lw_at lw_m9 237 rfl) rfl
theorem q2205 : (Jvm.Cond.fieldLink "DredgeledgerModel" (110 : Nat) "DredgeledgerModel" "hopper" "I") ∈ lw_all := lw_g (lw_at lw_m9 238 rfl) rfl
theorem q2206 : (Jvm.Cond.fieldLink "DredgeledgerModel" (113 : Nat) "DredgeledgerModel" "dredged" "I") ∈ lw_all := lw_g (lw_at lw_m9 239 rfl) rfl
theorem q2207 : (Jvm.Cond.fieldLink "DredgeledgerModel" (132 : Nat) "DredgeledgerModel" "crept" "I") ∈ lw_all := lw_g (lw_at lw_m10 0 rfl) rfl
theorem q2208 : (Jvm.Cond.fieldLink "DredgeledgerModel" (138 : Nat) "DredgeledgerModel" "tide" "I") ∈ lw_all := lw_g (lw_at lw_m10 1 rfl) rfl
theorem q2209 : (Jvm.Cond.fieldLink "DredgeledgerModel" (91 : Nat) "DredgeledgerModel" "grounds" "I") ∈ lw_all := lw_g (lw_at lw_m10 2 rfl) rfl
theorem q2210 : (Jvm.Cond.fieldLink "DredgeledgerModel" (30 : Nat) "DredgeledgerModel" "space" "[I") ∈ lw_all := lw_g (lw_at lw_m10 3 rfl) rfl
theorem q2211 : (Jvm.Cond.fieldLink "DredgeledgerModel" (33 : Nat) "DredgeledgerModel" "least" "[I") ∈ lw_all := lw_g (lw_at lw_m10 4 rfl) rfl
theorem q2212 : (Jvm.Cond.fieldLink "DredgeledgerModel" (36 : Nat) "DredgeledgerModel" "dumped" "[I") ∈ lw_all := lw_g (lw_at lw_m10 5 rfl) rfl
theorem q2213 : (Jvm.Cond.fieldLink "DredgeledgerModel" (141 : Nat) "DredgeledgerModel" "permits" "I") ∈ lw_all := lw_g (lw_at lw_m10 6 rfl) rfl
theorem q2214 : (Jvm.Cond.fieldLink "DredgeledgerModel" (39 : Nat) "DredgeledgerModel" "ground" "[I") ∈ lw_all := lw_g (lw_at lw_m10 7 rfl) rfl
theorem q2215 : (Jvm.Cond.fieldLink "DredgeledgerModel" (42 : Nat) "DredgeledgerModel" "firstDay" "[I") ∈ lw_all := lw_g (lw_at lw_m10 8 rfl) rfl
theorem q2216 : (Jvm.Cond.fieldLink "DredgeledgerModel" (45 : Nat) "DredgeledgerModel" "lastDay" "[I") ∈ lw_all := lw_g (lw_at lw_m10 9 rfl) rfl
theorem q2217 : (Jvm.Cond.fieldLink "DredgeledgerModel" (48 : Nat) "DredgeledgerModel" "left" "[I") ∈ lw_all := lw_g (lw_at lw_m10 10 rfl) rfl
theorem q2218 : (Jvm.Cond.fieldLink "DredgeledgerModel" (94 : Nat) "DredgeledgerModel" "surveys" "I") ∈ lw_all := lw_g (lw_at lw_m10 11 rfl) rfl
theorem q2219 : (Jvm.Cond.fieldLink "DredgeledgerModel" (51 : Nat) "DredgeledgerModel" "from" "[I") ∈ lw_all := lw_g (lw_at lw_m10 12 rfl) rfl
theorem q2220 : (Jvm.Cond.fieldLink "DredgeledgerModel" (54 : Nat) "DredgeledgerModel" "to" "[I") ∈ lw_all := lw_g (lw_at lw_m10 13 rfl) rfl
theorem q2221 : (Jvm.Cond.fieldLink "DredgeledgerModel" (57 : Nat) "DredgeledgerModel" "trust" "[I") ∈ lw_all := lw_g (lw_at lw_m10 14 rfl) rfl
theorem q2222 : (Jvm.Cond.fieldLink "DredgeledgerModel" (60 : Nat) "DredgeledgerModel" "told" "[I") ∈ lw_all := lw_g (lw_at lw_m10 15 rfl) rfl
theorem q2223 : (Jvm.Cond.fieldLink "DredgeledgerModel" (63 : Nat) "DredgeledgerModel" "settled" "I") ∈ lw_all := lw_g (lw_at lw_m10 16 rfl) rfl
theorem q2224 : (Jvm.Cond.fieldLink "DredgeledgerModel" (66 : Nat) "DredgeledgerModel" "price" "I") ∈ lw_all := lw_g (lw_at lw_m10 17 rfl) rfl
theorem q2225 : (Jvm.Cond.fieldLink "DredgeledgerModel" (172 : Nat) "DredgeledgerModel" "paid" "I") ∈ lw_all := lw_g (lw_at lw_m10 18 rfl) rfl
theorem q2226 : (Jvm.Cond.fieldLink "DredgeledgerModel" (175 : Nat) "DredgeledgerModel" "money" "J") ∈ lw_all := lw_g (lw_at lw_m10 19 rfl) rfl
theorem q2227 : (Jvm.Cond.fieldLink "DredgeledgerModel" (100 : Nat) "DredgeledgerModel" "entries" "I") ∈ lw_all := lw_g (lw_at lw_m10 20 rfl) rfl
theorem q2228 : (Jvm.Cond.fieldLink "DredgeledgerModel" (71 : Nat) "DredgeledgerModel" "deed" "[LDeed;") ∈ lw_all := lw_g (lw_at lw_m10 21 rfl) rfl
theorem q2229 : (Jvm.Cond.fieldLink "DredgeledgerModel" (75 : Nat) "DredgeledgerModel" "entryDay" "[I") ∈ lw_all := lw_g (lw_at lw_m10 22 rfl) rfl
theorem q2230 : (Jvm.Cond.fieldLink "DredgeledgerModel" (78 : Nat) "DredgeledgerModel" "entryNumber" "[I") ∈ lw_all := lw_g (lw_at lw_m10 23 rfl) rfl
theorem q2231 : (Jvm.Cond.lays "DredgeledgerModel" "DredgeledgerModel" "thrown" "I") ∈ lw_all := lw_g (lw_at lw_m10 24 rfl) rfl
theorem q2232 : (Jvm.Cond.soleField "DredgeledgerModel" "thrown") ∈ lw_all := lw_g (lw_at lw_m10 25 rfl) rfl
theorem q2233 : (Jvm.Cond.lays "DredgeledgerModel" "DredgeledgerModel" "cells" "I") ∈ lw_all := lw_g (lw_at lw_m10 26 rfl) rfl
theorem q2234 : (Jvm.Cond.soleField "DredgeledgerModel" "cells") ∈ lw_all := lw_g (lw_at lw_m10 27 rfl) rfl
theorem q2235 : (Jvm.Cond.laysFinal "DredgeledgerModel" "DredgeledgerModel" "depth" "[I") ∈ lw_all := lw_g (lw_at lw_m10 28 rfl) rfl
theorem q2236 : (Jvm.Cond.soleField "DredgeledgerModel" "depth") ∈ lw_all := lw_g (lw_at lw_m10 29 rfl) rfl
theorem q2237 : (Jvm.Cond.laysFinal "DredgeledgerModel" "DredgeledgerModel" "next" "[I") ∈ lw_all := lw_g (lw_at lw_m10 30 rfl) rfl
theorem q2238 : (Jvm.Cond.soleField "DredgeledgerModel" "next") ∈ lw_all := lw_g (lw_at lw_m10 31 rfl) rfl
theorem q2239 : (Jvm.Cond.laysFinal "DredgeledgerModel" "DredgeledgerModel" "limit" "[I") ∈ lw_all := lw_g (lw_at lw_m10 32 rfl) rfl
theorem q2240 : (Jvm.Cond.soleField "DredgeledgerModel" "limit") ∈ lw_all := lw_g (lw_at lw_m10 33 rfl) rfl
theorem q2241 : (Jvm.Cond.laysFinal "DredgeledgerModel" "DredgeledgerModel" "paidDepth" "[I") ∈ lw_all := lw_g (lw_at lw_m10 34 rfl) rfl
theorem q2242 : (Jvm.Cond.soleField "DredgeledgerModel" "paidDepth") ∈ lw_all := lw_g (lw_at lw_m10 35 rfl) rfl
theorem q2243 : (Jvm.Cond.laysFinal "DredgeledgerModel" "DredgeledgerModel" "disputed" "[Z") ∈ lw_all := lw_g (lw_at lw_m10 36 rfl) rfl
theorem q2244 : (Jvm.Cond.soleField "DredgeledgerModel" "disputed") ∈ lw_all := lw_g (lw_at lw_m10 37 rfl) rfl
theorem q2245 : (Jvm.Cond.lays "DredgeledgerModel" "DredgeledgerModel" "slope" "I") ∈ lw_all := lw_g (lw_at lw_m10 38 rfl) rfl
theorem q2246 : (Jvm.Cond.soleField "DredgeledgerModel" "slope") ∈ lw_all := lw_g (lw_at lw_m10 39 rfl) rfl
theorem q2247 : (Jvm.Cond.lays "DredgeledgerModel" "DredgeledgerModel" "day" "I") ∈ lw_all := lw_g (lw_at lw_m10 40 rfl) rfl
theorem q2248 : (Jvm.Cond.soleField "DredgeledgerModel" "day") ∈ lw_all := lw_g (lw_at lw_m10 41 rfl) rfl
theorem q2249 : (Jvm.Cond.lays "DredgeledgerModel" "DredgeledgerModel" "hopper" "I") ∈ lw_all := lw_g (lw_at lw_m10 42 rfl) rfl
theorem q2250 : (Jvm.Cond.soleField "DredgeledgerModel" "hopper") ∈ lw_all := lw_g (lw_at lw_m10 43 rfl) rfl
theorem q2251 : (Jvm.Cond.lays "DredgeledgerModel" "DredgeledgerModel" "dredged" "I") ∈ lw_all := lw_g (lw_at lw_m10 44 rfl) rfl
theorem q2252 : (Jvm.Cond.soleField "DredgeledgerModel" "dredged") ∈ lw_all := lw_g (lw_at lw_m10 45 rfl) rfl
theorem q2253 : (Jvm.Cond.lays "DredgeledgerModel" "DredgeledgerModel" "crept" "I") ∈ lw_all := lw_g (lw_at lw_m10 46 rfl) rfl
theorem q2254 : (Jvm.Cond.soleField "DredgeledgerModel" "crept") ∈ lw_all := lw_g (lw_at lw_m10 47 rfl) rfl
theorem q2255 : (Jvm.Cond.lays "DredgeledgerModel" "DredgeledgerModel" "tide" "I") ∈ lw_all := lw_g (lw_at lw_m10 48 rfl) rfl
theorem q2256 : (Jvm.Cond.soleField "DredgeledgerModel" "tide") ∈ lw_all := lw_g (lw_at lw_m10 49 rfl) rfl
theorem q2257 : (Jvm.Cond.lays "DredgeledgerModel" "DredgeledgerModel" "grounds" "I") ∈ lw_all := lw_g (lw_at lw_m10 50 rfl) rfl
theorem q2258 : (Jvm.Cond.soleField "DredgeledgerModel" "grounds") ∈ lw_all := lw_g (lw_at lw_m10 51 rfl) rfl
theorem q2259 : (Jvm.Cond.laysFinal "DredgeledgerModel" "DredgeledgerModel" "space" "[I") ∈ lw_all := lw_g (lw_at lw_m10 52 rfl) rfl
theorem q2260 : (Jvm.Cond.soleField "DredgeledgerModel" "space") ∈ lw_all := lw_g (lw_at lw_m10 53 rfl) rfl
theorem q2261 : (Jvm.Cond.laysFinal "DredgeledgerModel" "DredgeledgerModel" "least" "[I") ∈ lw_all := lw_g (lw_at lw_m10 54 rfl) rfl
theorem q2262 : (Jvm.Cond.soleField "DredgeledgerModel" "least") ∈ lw_all := lw_g (lw_at lw_m10 55 rfl) rfl
theorem q2263 : (Jvm.Cond.laysFinal "DredgeledgerModel" "DredgeledgerModel" "dumped" "[I") ∈ lw_all := lw_g (lw_at lw_m10 56 rfl) rfl
theorem q2264 : (Jvm.Cond.soleField "DredgeledgerModel" "dumped") ∈ lw_all := lw_g (lw_at lw_m10 57 rfl) rfl
theorem q2265 : (Jvm.Cond.lays "DredgeledgerModel" "DredgeledgerModel" "permits" "I") ∈ lw_all := lw_g (lw_at lw_m10 58 rfl) rfl
theorem q2266 : (Jvm.Cond.soleField "DredgeledgerModel" "permits") ∈ lw_all := lw_g (lw_at lw_m10 59 rfl) rfl
theorem q2267 : (Jvm.Cond.laysFinal "DredgeledgerModel" "DredgeledgerModel" "ground" "[I") ∈ lw_all := lw_g (lw_at lw_m10 60 rfl) rfl
theorem q2268 : (Jvm.Cond.soleField "DredgeledgerModel" "ground") ∈ lw_all := lw_g (lw_at lw_m10 61 rfl) rfl
theorem q2269 : (Jvm.Cond.laysFinal "DredgeledgerModel" "DredgeledgerModel" "firstDay" "[I") ∈ lw_all := lw_g (lw_at lw_m10 62 rfl) rfl
theorem q2270 : (Jvm.Cond.soleField "DredgeledgerModel" "firstDay") ∈ lw_all := lw_g (lw_at lw_m10 63 rfl) rfl
theorem q2271 : (Jvm.Cond.laysFinal "DredgeledgerModel" "DredgeledgerModel" "lastDay" "[I") ∈ lw_all := lw_g (lw_at lw_m10 64 rfl) rfl
theorem q2272 : (Jvm.Cond.soleField "DredgeledgerModel" "lastDay") ∈ lw_all := lw_g (lw_at lw_m10 65 rfl) rfl
theorem q2273 : (Jvm.Cond.laysFinal "DredgeledgerModel" "DredgeledgerModel" "left" "[I") ∈ lw_all := lw_g (lw_at lw_m10 66 rfl) rfl
theorem q2274 : (Jvm.Cond.soleField "DredgeledgerModel" "left") ∈ lw_all := lw_g (lw_at lw_m10 67 rfl) rfl
theorem q2275 : (Jvm.Cond.lays "DredgeledgerModel" "DredgeledgerModel" "surveys" "I") ∈ lw_all := lw_g (lw_at lw_m10 68 rfl) rfl
theorem q2276 : (Jvm.Cond.soleField "DredgeledgerModel" "surveys") ∈ lw_all := lw_g (lw_at lw_m10 69 rfl) rfl
theorem q2277 : (Jvm.Cond.laysFinal "DredgeledgerModel" "DredgeledgerModel" "from" "[I") ∈ lw_all := lw_g (lw_at lw_m10 70 rfl) rfl
theorem q2278 : (Jvm.Cond.soleField "DredgeledgerModel" "from") ∈ lw_all := lw_g (lw_at lw_m10 71 rfl) rfl
theorem q2279 : (Jvm.Cond.laysFinal "DredgeledgerModel" "DredgeledgerModel" "to" "[I") ∈ lw_all := lw_g (lw_at lw_m10 72 rfl) rfl
theorem q2280 : (Jvm.Cond.soleField "DredgeledgerModel" "to") ∈ lw_all := lw_g (lw_at lw_m10 73 rfl) rfl
theorem q2281 : (Jvm.Cond.laysFinal "DredgeledgerModel" "DredgeledgerModel" "trust" "[I") ∈ lw_all := lw_g (lw_at lw_m10 74 rfl) rfl
theorem q2282 : (Jvm.Cond.soleField "DredgeledgerModel" "trust") ∈ lw_all := lw_g (lw_at lw_m10 75 rfl) rfl
theorem q2283 : (Jvm.Cond.laysFinal "DredgeledgerModel" "DredgeledgerModel" "told" "[I") ∈ lw_all := lw_g (lw_at lw_m10 76 rfl) rfl
theorem q2284 : (Jvm.Cond.soleField "DredgeledgerModel" "told") ∈ lw_all := lw_g (lw_at lw_m10 77 rfl) rfl
theorem q2285 : (Jvm.Cond.lays "DredgeledgerModel" "DredgeledgerModel" "settled" "I") ∈ lw_all := lw_g (lw_at lw_m10 78 rfl) rfl
theorem q2286 : (Jvm.Cond.soleField "DredgeledgerModel" "settled") ∈ lw_all := lw_g (lw_at lw_m10 79 rfl) rfl
theorem q2287 : (Jvm.Cond.lays "DredgeledgerModel" "DredgeledgerModel" "price" "I") ∈ lw_all := lw_g (lw_at lw_m10 80 rfl) rfl
theorem q2288 : (Jvm.Cond.soleField "DredgeledgerModel" "price") ∈ lw_all := lw_g (lw_at lw_m10 81 rfl) rfl
theorem q2289 : (Jvm.Cond.lays "DredgeledgerModel" "DredgeledgerModel" "paid" "I") ∈ lw_all := lw_g (lw_at lw_m10 82 rfl) rfl
theorem q2290 : (Jvm.Cond.soleField "DredgeledgerModel" "paid") ∈ lw_all := lw_g (lw_at lw_m10 83 rfl) rfl
theorem q2291 : (Jvm.Cond.lays "DredgeledgerModel" "DredgeledgerModel" "money" "J") ∈ lw_all := lw_g (lw_at lw_m10 84 rfl) rfl
theorem q2292 : (Jvm.Cond.soleField "DredgeledgerModel" "money") ∈ lw_all := lw_g (lw_at lw_m10 85 rfl) rfl
theorem q2293 : (Jvm.Cond.lays "DredgeledgerModel" "DredgeledgerModel" "entries" "I") ∈ lw_all := lw_g (lw_at lw_m10 86 rfl) rfl
theorem q2294 : (Jvm.Cond.soleField "DredgeledgerModel" "entries") ∈ lw_all := lw_g (lw_at lw_m10 87 rfl) rfl
theorem q2295 : (Jvm.Cond.laysFinal "DredgeledgerModel" "DredgeledgerModel" "deed" "[LDeed;") ∈ lw_all := lw_g (lw_at lw_m10 88 rfl) rfl
theorem q2296 : (Jvm.Cond.soleField "DredgeledgerModel" "deed") ∈ lw_all := lw_g (lw_at lw_m10 89 rfl) rfl
theorem q2297 : (Jvm.Cond.laysFinal "DredgeledgerModel" "DredgeledgerModel" "entryDay" "[I") ∈ lw_all := lw_g (lw_at lw_m10 90 rfl) rfl
theorem q2298 : (Jvm.Cond.soleField "DredgeledgerModel" "entryDay") ∈ lw_all := lw_g (lw_at lw_m10 91 rfl) rfl
theorem q2299 : (Jvm.Cond.laysFinal "DredgeledgerModel" "DredgeledgerModel" "entryNumber" "[I") ∈ lw_all := lw_g (lw_at lw_m10 92 rfl) rfl
theorem q2300 : (Jvm.Cond.soleField "DredgeledgerModel" "entryNumber") ∈ lw_all := lw_g (lw_at lw_m10 93 rfl) rfl
theorem q2301 : (Jvm.Cond.superclass "DredgeledgerModel" "java/lang/Object") ∈ lw_all := lw_g (lw_at lw_m10 94 rfl) rfl
theorem q2304 : (Jvm.Cond.instanceMethod ({ cls := "DredgeledgerModel", name := "thrown", desc := "()I" } : Jvm.MethodName)) ∈ lw_all := lw_g (lw_at lw_m10 97 rfl) rfl
theorem q2305 : (Jvm.Cond.selects "DredgeledgerModel" ({ cls := "DredgeledgerModel", name := "thrown", desc := "()I" } : Jvm.MethodName) ({ cls := "DredgeledgerModel", name := "thrown", desc := "()I" } : Jvm.MethodName)) ∈ lw_all := lw_g (lw_at lw_m10 98 rfl) rfl
theorem q2306 : (Jvm.Cond.code ({ cls := "DredgeledgerModel", name := "thrown", desc := "()I" } : Jvm.MethodName) prog_18_method_2_code (1 : Nat) (Option.some Jvm.ClassFile.FieldType.int)) ∈ lw_all := lw_g (lw_at lw_m10 99 rfl) rfl
theorem q2308 : (Jvm.Cond.instanceMethod ({ cls := "DredgeledgerModel", name := "addCells", desc := "(II)I" } : Jvm.MethodName)) ∈ lw_all := lw_g (lw_at lw_m10 101 rfl) rfl
theorem q2309 : (Jvm.Cond.selects "DredgeledgerModel" ({ cls := "DredgeledgerModel", name := "addCells", desc := "(II)I" } : Jvm.MethodName) ({ cls := "DredgeledgerModel", name := "addCells", desc := "(II)I" } : Jvm.MethodName)) ∈ lw_all := lw_g (lw_at lw_m10 102 rfl) rfl
theorem q2310 : (Jvm.Cond.code ({ cls := "DredgeledgerModel", name := "addCells", desc := "(II)I" } : Jvm.MethodName) prog_18_method_9_code (4 : Nat) (Option.some Jvm.ClassFile.FieldType.int)) ∈ lw_all := lw_g (lw_at lw_m10 103 rfl) rfl
theorem q2311 : (Jvm.Cond.methodLink "DredgeledgerModel" (87 : Nat) ({ cls := "DredgeledgerModel", name := "in", desc := "(III)Z" } : Jvm.MethodName)) ∈ lw_all := lw_g (lw_at lw_m10 104 rfl) rfl
theorem q2312 : (Jvm.Cond.static ({ cls := "DredgeledgerModel", name := "in", desc := "(III)Z" } : Jvm.MethodName)) ∈ lw_all := lw_g (lw_at lw_m10 105 rfl) rfl
theorem q2313 : (Jvm.Cond.code ({ cls := "DredgeledgerModel", name := "in", desc := "(III)Z" } : Jvm.MethodName) prog_18_method_3_code (3 : Nat) (Option.some Jvm.ClassFile.FieldType.boolean)) ∈ lw_all := lw_g (lw_at lw_m10 106 rfl) rfl
theorem q2314 : (Jvm.Cond.methodLink "DredgeledgerModel" (103 : Nat) ({ cls := "DredgeledgerModel", name := "goesOn", desc := "(I)Z" } : Jvm.MethodName)) ∈ lw_all := lw_g (lw_at lw_m10 107 rfl) rfl
theorem q2315 : (Jvm.Cond.privateMethod ({ cls := "DredgeledgerModel", name := "goesOn", desc := "(I)Z" } : Jvm.MethodName)) ∈ lw_tbl := lw_at lw_m10 108 rfl
theorem q2316 : (Jvm.Cond.instanceMethod ({ cls := "DredgeledgerModel", name := "goesOn", desc := "(I)Z" } : Jvm.MethodName)) ∈ lw_all := lw_g (lw_at lw_m10 109 rfl) rfl
theorem q2317 : (Jvm.Cond.code ({ cls := "DredgeledgerModel", name := "goesOn", desc := "(I)Z" } : Jvm.MethodName) prog_18_method_4_code (2 : Nat) (Option.some Jvm.ClassFile.FieldType.boolean)) ∈ lw_all := lw_g (lw_at lw_m10 110 rfl) rfl
theorem q2319 : (Jvm.Cond.instanceMethod ({ cls := "DredgeledgerModel", name := "setLimit", desc := "(II)I" } : Jvm.MethodName)) ∈ lw_all := lw_g (lw_at lw_m10 112 rfl) rfl
theorem q2320 : (Jvm.Cond.selects "DredgeledgerModel" ({ cls := "DredgeledgerModel", name := "setLimit", desc := "(II)I" } : Jvm.MethodName) ({ cls := "DredgeledgerModel", name := "setLimit", desc := "(II)I" } : Jvm.MethodName)) ∈ lw_all := lw_g (lw_at lw_m10 113 rfl) rfl
theorem q2321 : (Jvm.Cond.code ({ cls := "DredgeledgerModel", name := "setLimit", desc := "(II)I" } : Jvm.MethodName) prog_18_method_10_code (4 : Nat) (Option.some Jvm.ClassFile.FieldType.int)) ∈ lw_all := lw_g (lw_at lw_m10 114 rfl) rfl
theorem q2322 : (Jvm.Cond.methodLink "DredgeledgerModel" (107 : Nat) ({ cls := "DredgeledgerModel", name := "isCell", desc := "(I)Z" } : Jvm.MethodName)) ∈ lw_all := lw_g (lw_at lw_m10 115 rfl) rfl
theorem q2323 : (Jvm.Cond.privateMethod ({ cls := "DredgeledgerModel", name := "isCell", desc := "(I)Z" } : Jvm.MethodName)) ∈ lw_tbl := lw_at lw_m10 116 rfl
theorem q2324 : (Jvm.Cond.instanceMethod ({ cls := "DredgeledgerModel", name := "isCell", desc := "(I)Z" } : Jvm.MethodName)) ∈ lw_all := lw_g (lw_at lw_m10 117 rfl) rfl
theorem q2325 : (Jvm.Cond.code ({ cls := "DredgeledgerModel", name := "isCell", desc := "(I)Z" } : Jvm.MethodName) prog_18_method_5_code (2 : Nat) (Option.some Jvm.ClassFile.FieldType.boolean)) ∈ lw_all := lw_g (lw_at lw_m10 118 rfl) rfl
theorem q2327 : (Jvm.Cond.instanceMethod ({ cls := "DredgeledgerModel", name := "setSlope", desc := "(I)I" } : Jvm.MethodName)) ∈ lw_all := lw_g (lw_at lw_m10 120 rfl) rfl
theorem q2328 : (Jvm.Cond.selects "DredgeledgerModel" ({ cls := "DredgeledgerModel", name := "setSlope", desc := "(I)I" } : Jvm.MethodName) ({ cls := "DredgeledgerModel", name := "setSlope", desc := "(I)I" } : Jvm.MethodName)) ∈ lw_all := lw_g (lw_at lw_m10 121 rfl) rfl
theorem q2329 : (Jvm.Cond.code ({ cls := "DredgeledgerModel", name := "setSlope", desc := "(I)I" } : Jvm.MethodName) prog_18_method_11_code (3 : Nat) (Option.some Jvm.ClassFile.FieldType.int)) ∈ lw_all := lw_g (lw_at lw_m10 122 rfl) rfl
theorem q2331 : (Jvm.Cond.instanceMethod ({ cls := "DredgeledgerModel", name := "depth", desc := "(I)I" } : Jvm.MethodName)) ∈ lw_all := lw_g (lw_at lw_m10 124 rfl) rfl
theorem q2332 : (Jvm.Cond.selects "DredgeledgerModel" ({ cls := "DredgeledgerModel", name := "depth", desc := "(I)I" } : Jvm.MethodName) ({ cls := "DredgeledgerModel", name := "depth", desc := "(I)I" } : Jvm.MethodName)) ∈ lw_all := lw_g (lw_at lw_m10 125 rfl) rfl
theorem q2333 : (Jvm.Cond.code ({ cls := "DredgeledgerModel", name := "depth", desc := "(I)I" } : Jvm.MethodName) prog_18_method_12_code (2 : Nat) (Option.some Jvm.ClassFile.FieldType.int)) ∈ lw_all := lw_g (lw_at lw_m10 126 rfl) rfl
theorem q2335 : (Jvm.Cond.instanceMethod ({ cls := "DredgeledgerModel", name := "dredge", desc := "(II)I" } : Jvm.MethodName)) ∈ lw_all := lw_g (lw_at lw_m10 128 rfl) rfl
theorem q2336 : (Jvm.Cond.selects "DredgeledgerModel" ({ cls := "DredgeledgerModel", name := "dredge", desc := "(II)I" } : Jvm.MethodName) ({ cls := "DredgeledgerModel", name := "dredge", desc := "(II)I" } : Jvm.MethodName)) ∈ lw_all := lw_g (lw_at lw_m10 129 rfl) rfl
theorem q2337 : (Jvm.Cond.code ({ cls := "DredgeledgerModel", name := "dredge", desc := "(II)I" } : Jvm.MethodName) prog_18_method_13_code (4 : Nat) (Option.some Jvm.ClassFile.FieldType.int)) ∈ lw_all := lw_g (lw_at lw_m10 130 rfl) rfl
theorem q2338 : (Jvm.Cond.fieldLink "DredgeledgerModel" (116 : Nat) "Deed" "DREDGE" "LDeed;") ∈ lw_all := lw_g (lw_at lw_m10 131 rfl) rfl
theorem q2339 : (Jvm.Cond.methodLink "DredgeledgerModel" (120 : Nat) ({ cls := "DredgeledgerModel", name := "notes", desc := "(LDeed;I)V" } : Jvm.MethodName)) ∈ lw_all := lw_g (lw_at lw_m10 132 rfl) rfl
theorem q2340 : (Jvm.Cond.privateMethod ({ cls := "DredgeledgerModel", name := "notes", desc := "(LDeed;I)V" } : Jvm.MethodName)) ∈ lw_tbl := lw_at lw_m10 133 rfl
theorem q2341 : (Jvm.Cond.instanceMethod ({ cls := "DredgeledgerModel", name := "notes", desc := "(LDeed;I)V" } : Jvm.MethodName)) ∈ lw_all := lw_g (lw_at lw_m10 134 rfl) rfl
theorem q2342 : (Jvm.Cond.code ({ cls := "DredgeledgerModel", name := "notes", desc := "(LDeed;I)V" } : Jvm.MethodName) prog_18_method_8_code (4 : Nat) (Option.none : Option Jvm.ClassFile.FieldType)) ∈ lw_all := lw_g (lw_at lw_m10 135 rfl) rfl
theorem q2344 : (Jvm.Cond.instanceMethod ({ cls := "DredgeledgerModel", name := "pass", desc := "(I)I" } : Jvm.MethodName)) ∈ lw_all := lw_g (lw_at lw_m10 137 rfl) rfl
theorem q2345 : (Jvm.Cond.selects "DredgeledgerModel" ({ cls := "DredgeledgerModel", name := "pass", desc := "(I)I" } : Jvm.MethodName) ({ cls := "DredgeledgerModel", name := "pass", desc := "(I)I" } : Jvm.MethodName)) ∈ lw_all := lw_g (lw_at lw_m10 138 rfl) rfl
theorem q2346 : (Jvm.Cond.code ({ cls := "DredgeledgerModel", name := "pass", desc := "(I)I" } : Jvm.MethodName) prog_18_method_16_code (4 : Nat) (Option.some Jvm.ClassFile.FieldType.int)) ∈ lw_all := lw_g (lw_at lw_m10 139 rfl) rfl
theorem q2347 : (Jvm.Cond.methodLink "DredgeledgerModel" (128 : Nat) ({ cls := "DredgeledgerModel", name := "creeps", desc := "()I" } : Jvm.MethodName)) ∈ lw_all := lw_g (lw_at lw_m10 140 rfl) rfl
theorem q2348 : (Jvm.Cond.privateMethod ({ cls := "DredgeledgerModel", name := "creeps", desc := "()I" } : Jvm.MethodName)) ∈ lw_tbl := lw_at lw_m10 141 rfl
theorem q2349 : (Jvm.Cond.instanceMethod ({ cls := "DredgeledgerModel", name := "creeps", desc := "()I" } : Jvm.MethodName)) ∈ lw_all := lw_g (lw_at lw_m10 142 rfl) rfl
theorem q2350 : (Jvm.Cond.code ({ cls := "DredgeledgerModel", name := "creeps", desc := "()I" } : Jvm.MethodName) prog_18_method_15_code (5 : Nat) (Option.some Jvm.ClassFile.FieldType.int)) ∈ lw_all := lw_g (lw_at lw_m10 143 rfl) rfl
theorem q2351 : (Jvm.Cond.methodLink "DredgeledgerModel" (124 : Nat) ({ cls := "DredgeledgerModel", name := "depthAt", desc := "(I)I" } : Jvm.MethodName)) ∈ lw_all := lw_g (lw_at lw_m10 144 rfl) rfl
theorem q2352 : (Jvm.Cond.privateMethod ({ cls := "DredgeledgerModel", name := "depthAt", desc := "(I)I" } : Jvm.MethodName)) ∈ lw_tbl := lw_at lw_m10 145 rfl
theorem q2353 : (Jvm.Cond.instanceMethod ({ cls := "DredgeledgerModel", name := "depthAt", desc := "(I)I" } : Jvm.MethodName)) ∈ lw_all := lw_g (lw_at lw_m10 146 rfl) rfl
theorem q2354 : (Jvm.Cond.code ({ cls := "DredgeledgerModel", name := "depthAt", desc := "(I)I" } : Jvm.MethodName) prog_18_method_14_code (2 : Nat) (Option.some Jvm.ClassFile.FieldType.int)) ∈ lw_all := lw_g (lw_at lw_m10 147 rfl) rfl
theorem q2355 : (Jvm.Cond.methodLink "DredgeledgerModel" (135 : Nat) ({ cls := "DredgeledgerModel", name := "tidies", desc := "()V" } : Jvm.MethodName)) ∈ lw_all := lw_g (lw_at lw_m10 148 rfl) rfl
theorem q2356 : (Jvm.Cond.privateMethod ({ cls := "DredgeledgerModel", name := "tidies", desc := "()V" } : Jvm.MethodName)) ∈ lw_tbl := lw_at lw_m10 149 rfl
theorem q2357 : (Jvm.Cond.instanceMethod ({ cls := "DredgeledgerModel", name := "tidies", desc := "()V" } : Jvm.MethodName)) ∈ lw_all := lw_g (lw_at lw_m10 150 rfl) rfl
theorem q2358 : (Jvm.Cond.code ({ cls := "DredgeledgerModel", name := "tidies", desc := "()V" } : Jvm.MethodName) prog_18_method_20_code (3 : Nat) (Option.none : Option Jvm.ClassFile.FieldType)) ∈ lw_all := lw_g (lw_at lw_m10 151 rfl) rfl
theorem q2360 : (Jvm.Cond.instanceMethod ({ cls := "DredgeledgerModel", name := "day", desc := "()I" } : Jvm.MethodName)) ∈ lw_all := lw_g (lw_at lw_m10 153 rfl) rfl
theorem q2361 : (Jvm.Cond.selects "DredgeledgerModel" ({ cls := "DredgeledgerModel", name := "day", desc := "()I" } : Jvm.MethodName) ({ cls := "DredgeledgerModel", name := "day", desc := "()I" } : Jvm.MethodName)) ∈ lw_all := lw_g (lw_at lw_m10 154 rfl) rfl
theorem q2362 : (Jvm.Cond.code ({ cls := "DredgeledgerModel", name := "day", desc := "()I" } : Jvm.MethodName) prog_18_method_17_code (1 : Nat) (Option.some Jvm.ClassFile.FieldType.int)) ∈ lw_all := lw_g (lw_at lw_m10 155 rfl) rfl
theorem q2364 : (Jvm.Cond.instanceMethod ({ cls := "DredgeledgerModel", name := "addGround", desc := "(II)I" } : Jvm.MethodName)) ∈ lw_all := lw_g (lw_at lw_m10 157 rfl) rfl
theorem q2365 : (Jvm.Cond.selects "DredgeledgerModel" ({ cls := "DredgeledgerModel", name := "addGround", desc := "(II)I" } : Jvm.MethodName) ({ cls := "DredgeledgerModel", name := "addGround", desc := "(II)I" } : Jvm.MethodName)) ∈ lw_all := lw_g (lw_at lw_m10 158 rfl) rfl
theorem q2366 : (Jvm.Cond.code ({ cls := "DredgeledgerModel", name := "addGround", desc := "(II)I" } : Jvm.MethodName) prog_18_method_18_code (3 : Nat) (Option.some Jvm.ClassFile.FieldType.int)) ∈ lw_all := lw_g (lw_at lw_m10 159 rfl) rfl
theorem q2368 : (Jvm.Cond.instanceMethod ({ cls := "DredgeledgerModel", name := "setTide", desc := "(I)I" } : Jvm.MethodName)) ∈ lw_all := lw_g (lw_at lw_m10 161 rfl) rfl
theorem q2369 : (Jvm.Cond.selects "DredgeledgerModel" ({ cls := "DredgeledgerModel", name := "setTide", desc := "(I)I" } : Jvm.MethodName) ({ cls := "DredgeledgerModel", name := "setTide", desc := "(I)I" } : Jvm.MethodName)) ∈ lw_all := lw_g (lw_at lw_m10 162 rfl) rfl
theorem q2370 : (Jvm.Cond.code ({ cls := "DredgeledgerModel", name := "setTide", desc := "(I)I" } : Jvm.MethodName) prog_18_method_19_code (3 : Nat) (Option.some Jvm.ClassFile.FieldType.int)) ∈ lw_all := lw_g (lw_at lw_m10 163 rfl) rfl
theorem q2372 : (Jvm.Cond.instanceMethod ({ cls := "DredgeledgerModel", name := "permit", desc := "(IIII)I" } : Jvm.MethodName)) ∈ lw_all := lw_g (lw_at lw_m10 165 rfl) rfl
theorem q2373 : (Jvm.Cond.selects "DredgeledgerModel" ({ cls := "DredgeledgerModel", name := "permit", desc := "(IIII)I" } : Jvm.MethodName) ({ cls := "DredgeledgerModel", name := "permit", desc := "(IIII)I" } : Jvm.MethodName)) ∈ lw_all := lw_g (lw_at lw_m10 166 rfl) rfl
theorem q2374 : (Jvm.Cond.code ({ cls := "DredgeledgerModel", name := "permit", desc := "(IIII)I" } : Jvm.MethodName) prog_18_method_21_code (6 : Nat) (Option.some Jvm.ClassFile.FieldType.int)) ∈ lw_all := lw_g (lw_at lw_m10 167 rfl) rfl
theorem q2375 : (Jvm.Cond.methodLink "DredgeledgerModel" (144 : Nat) ({ cls := "DredgeledgerModel", name := "isGround", desc := "(I)Z" } : Jvm.MethodName)) ∈ lw_all := lw_g (lw_at lw_m10 168 rfl) rfl
theorem q2376 : (Jvm.Cond.privateMethod ({ cls := "DredgeledgerModel", name := "isGround", desc := "(I)Z" } : Jvm.MethodName)) ∈ lw_tbl := lw_at lw_m10 169 rfl
theorem q2377 : (Jvm.Cond.instanceMethod ({ cls := "DredgeledgerModel", name := "isGround", desc := "(I)Z" } : Jvm.MethodName)) ∈ lw_all := lw_g (lw_at lw_m10 170 rfl) rfl
theorem q2378 : (Jvm.Cond.code ({ cls := "DredgeledgerModel", name := "isGround", desc := "(I)Z" } : Jvm.MethodName) prog_18_method_6_code (2 : Nat) (Option.some Jvm.ClassFile.FieldType.boolean)) ∈ lw_all := lw_g (lw_at lw_m10 171 rfl) rfl
theorem q2380 : (Jvm.Cond.instanceMethod ({ cls := "DredgeledgerModel", name := "permitted", desc := "(I)I" } : Jvm.MethodName)) ∈ lw_all := lw_g (lw_at lw_m10 173 rfl) rfl
theorem q2381 : (Jvm.Cond.selects "DredgeledgerModel" ({ cls := "DredgeledgerModel", name := "permitted", desc := "(I)I" } : Jvm.MethodName) ({ cls := "DredgeledgerModel", name := "permitted", desc := "(I)I" } : Jvm.MethodName)) ∈ lw_all := lw_g (lw_at lw_m10 174 rfl) rfl
theorem q2382 : (Jvm.Cond.code ({ cls := "DredgeledgerModel", name := "permitted", desc := "(I)I" } : Jvm.MethodName) prog_18_method_24_code (2 : Nat) (Option.some Jvm.ClassFile.FieldType.int)) ∈ lw_all := lw_g (lw_at lw_m10 175 rfl) rfl
theorem q2383 : (Jvm.Cond.methodLink "DredgeledgerModel" (151 : Nat) ({ cls := "DredgeledgerModel", name := "permittedFor", desc := "(I)I" } : Jvm.MethodName)) ∈ lw_all := lw_g (lw_at lw_m10 176 rfl) rfl
theorem q2384 : (Jvm.Cond.privateMethod ({ cls := "DredgeledgerModel", name := "permittedFor", desc := "(I)I" } : Jvm.MethodName)) ∈ lw_tbl := lw_at lw_m10 177 rfl
theorem q2385 : (Jvm.Cond.instanceMethod ({ cls := "DredgeledgerModel", name := "permittedFor", desc := "(I)I" } : Jvm.MethodName)) ∈ lw_all := lw_g (lw_at lw_m10 178 rfl) rfl
theorem q2386 : (Jvm.Cond.code ({ cls := "DredgeledgerModel", name := "permittedFor", desc := "(I)I" } : Jvm.MethodName) prog_18_method_23_code (4 : Nat) (Option.some Jvm.ClassFile.FieldType.int)) ∈ lw_all := lw_g (lw_at lw_m10 179 rfl) rfl
theorem q2387 : (Jvm.Cond.methodLink "DredgeledgerModel" (147 : Nat) ({ cls := "DredgeledgerModel", name := "holds", desc := "(II)Z" } : Jvm.MethodName)) ∈ lw_all := lw_g (lw_at lw_m10 180 rfl) rfl
theorem q2388 : (Jvm.Cond.privateMethod ({ cls := "DredgeledgerModel", name := "holds", desc := "(II)Z" } : Jvm.MethodName)) ∈ lw_tbl := lw_at lw_m10 181 rfl
theorem q2389 : (Jvm.Cond.instanceMethod ({ cls := "DredgeledgerModel", name := "holds", desc := "(II)Z" } : Jvm.MethodName)) ∈ lw_all := lw_g (lw_at lw_m10 182 rfl) rfl
theorem q2390 : (Jvm.Cond.code ({ cls := "DredgeledgerModel", name := "holds", desc := "(II)Z" } : Jvm.MethodName) prog_18_method_22_code (3 : Nat) (Option.some Jvm.ClassFile.FieldType.boolean)) ∈ lw_all := lw_g (lw_at lw_m10 183 rfl) rfl
theorem q2392 : (Jvm.Cond.instanceMethod ({ cls := "DredgeledgerModel", name := "dump", desc := "(II)I" } : Jvm.MethodName)) ∈ lw_all := lw_g (lw_at lw_m10 185 rfl) rfl
theorem q2393 : (Jvm.Cond.selects "DredgeledgerModel" ({ cls := "DredgeledgerModel", name := "dump", desc := "(II)I" } : Jvm.MethodName) ({ cls := "DredgeledgerModel", name := "dump", desc := "(II)I" } : Jvm.MethodName)) ∈ lw_all := lw_g (lw_at lw_m10 186 rfl) rfl
theorem q2394 : (Jvm.Cond.code ({ cls := "DredgeledgerModel", name := "dump", desc := "(II)I" } : Jvm.MethodName) prog_18_method_26_code (7 : Nat) (Option.some Jvm.ClassFile.FieldType.int)) ∈ lw_all := lw_g (lw_at lw_m10 187 rfl) rfl
theorem q2395 : (Jvm.Cond.methodLink "DredgeledgerModel" (154 : Nat) ({ cls := "DredgeledgerModel", name := "firstToEnd", desc := "(I)I" } : Jvm.MethodName)) ∈ lw_all := lw_g (lw_at lw_m10 188 rfl) rfl
theorem q2396 : (Jvm.Cond.privateMethod ({ cls := "DredgeledgerModel", name := "firstToEnd", desc := "(I)I" } : Jvm.MethodName)) ∈ lw_tbl := lw_at lw_m10 189 rfl
theorem q2397 : (Jvm.Cond.instanceMethod ({ cls := "DredgeledgerModel", name := "firstToEnd", desc := "(I)I" } : Jvm.MethodName)) ∈ lw_all := lw_g (lw_at lw_m10 190 rfl) rfl
theorem q2398 : (Jvm.Cond.code ({ cls := "DredgeledgerModel", name := "firstToEnd", desc := "(I)I" } : Jvm.MethodName) prog_18_method_25_code (4 : Nat) (Option.some Jvm.ClassFile.FieldType.int)) ∈ lw_all := lw_g (lw_at lw_m10 191 rfl) rfl
theorem q2399 : (Jvm.Cond.fieldLink "DredgeledgerModel" (157 : Nat) "Deed" "DUMP" "LDeed;") ∈ lw_all := lw_g (lw_at lw_m10 192 rfl) rfl
theorem q2401 : (Jvm.Cond.instanceMethod ({ cls := "DredgeledgerModel", name := "hopper", desc := "()I" } : Jvm.MethodName)) ∈ lw_all := lw_g (lw_at lw_m10 194 rfl) rfl
theorem q2402 : (Jvm.Cond.selects "DredgeledgerModel" ({ cls := "DredgeledgerModel", name := "hopper", desc := "()I" } : Jvm.MethodName) ({ cls := "DredgeledgerModel", name := "hopper", desc := "()I" } : Jvm.MethodName)) ∈ lw_all := lw_g (lw_at lw_m10 195 rfl) rfl
theorem q2403 : (Jvm.Cond.code ({ cls := "DredgeledgerModel", name := "hopper", desc := "()I" } : Jvm.MethodName) prog_18_method_27_code (1 : Nat) (Option.some Jvm.ClassFile.FieldType.int)) ∈ lw_all := lw_g (lw_at lw_m10 196 rfl) rfl
theorem q2405 : (Jvm.Cond.instanceMethod ({ cls := "DredgeledgerModel", name := "dumped", desc := "(I)I" } : Jvm.MethodName)) ∈ lw_all := lw_g (lw_at lw_m10 198 rfl) rfl
theorem q2406 : (Jvm.Cond.selects "DredgeledgerModel" ({ cls := "DredgeledgerModel", name := "dumped", desc := "(I)I" } : Jvm.MethodName) ({ cls := "DredgeledgerModel", name := "dumped", desc := "(I)I" } : Jvm.MethodName)) ∈ lw_all := lw_g (lw_at lw_m10 199 rfl) rfl
theorem q2407 : (Jvm.Cond.code ({ cls := "DredgeledgerModel", name := "dumped", desc := "(I)I" } : Jvm.MethodName) prog_18_method_28_code (2 : Nat) (Option.some Jvm.ClassFile.FieldType.int)) ∈ lw_all := lw_g (lw_at lw_m10 200 rfl) rfl
theorem q2409 : (Jvm.Cond.instanceMethod ({ cls := "DredgeledgerModel", name := "permits", desc := "()I" } : Jvm.MethodName)) ∈ lw_all := lw_g (lw_at lw_m10 202 rfl) rfl
theorem q2410 : (Jvm.Cond.selects "DredgeledgerModel" ({ cls := "DredgeledgerModel", name := "permits", desc := "()I" } : Jvm.MethodName) ({ cls := "DredgeledgerModel", name := "permits", desc := "()I" } : Jvm.MethodName)) ∈ lw_all := lw_g (lw_at lw_m10 203 rfl) rfl
theorem q2411 : (Jvm.Cond.code ({ cls := "DredgeledgerModel", name := "permits", desc := "()I" } : Jvm.MethodName) prog_18_method_29_code (1 : Nat) (Option.some Jvm.ClassFile.FieldType.int)) ∈ lw_all := lw_g (lw_at lw_m10 204 rfl) rfl
theorem q2413 : (Jvm.Cond.instanceMethod ({ cls := "DredgeledgerModel", name := "survey", desc := "(IIII)I" } : Jvm.MethodName)) ∈ lw_all := lw_g (lw_at lw_m10 206 rfl) rfl
theorem q2414 : (Jvm.Cond.selects "DredgeledgerModel" ({ cls := "DredgeledgerModel", name := "survey", desc := "(IIII)I" } : Jvm.MethodName) ({ cls := "DredgeledgerModel", name := "survey", desc := "(IIII)I" } : Jvm.MethodName)) ∈ lw_all := lw_g (lw_at lw_m10 207 rfl) rfl
theorem q2415 : (Jvm.Cond.code ({ cls := "DredgeledgerModel", name := "survey", desc := "(IIII)I" } : Jvm.MethodName) prog_18_method_30_code (7 : Nat) (Option.some Jvm.ClassFile.FieldType.int)) ∈ lw_all := lw_g (lw_at lw_m10 208 rfl) rfl
theorem q2416 : (Jvm.Cond.fieldLink "DredgeledgerModel" (160 : Nat) "Deed" "SURVEY" "LDeed;") ∈ lw_all := lw_g (lw_at lw_m10 209 rfl) rfl
theorem q2418 : (Jvm.Cond.instanceMethod ({ cls := "DredgeledgerModel", name := "told", desc := "(II)I" } : Jvm.MethodName)) ∈ lw_all := lw_g (lw_at lw_m10 211 rfl) rfl
theorem q2419 : (Jvm.Cond.selects "DredgeledgerModel" ({ cls := "DredgeledgerModel", name := "told", desc := "(II)I" } : Jvm.MethodName) ({ cls := "DredgeledgerModel", name := "told", desc := "(II)I" } : Jvm.MethodName)) ∈ lw_all := lw_g (lw_at lw_m10 212 rfl) rfl
theorem q2420 : (Jvm.Cond.code ({ cls := "DredgeledgerModel", name := "told", desc := "(II)I" } : Jvm.MethodName) prog_18_method_32_code (4 : Nat) (Option.some Jvm.ClassFile.FieldType.int)) ∈ lw_all := lw_g (lw_at lw_m10 213 rfl) rfl
theorem q2421 : (Jvm.Cond.methodLink "DredgeledgerModel" (163 : Nat) ({ cls := "DredgeledgerModel", name := "isSurvey", desc := "(I)Z" } : Jvm.MethodName)) ∈ lw_all := lw_g (lw_at lw_m10 214 rfl) rfl
theorem q2422 : (Jvm.Cond.privateMethod ({ cls := "DredgeledgerModel", name := "isSurvey", desc := "(I)Z" } : Jvm.MethodName)) ∈ lw_tbl := lw_at lw_m10 215 rfl
theorem q2423 : (Jvm.Cond.instanceMethod ({ cls := "DredgeledgerModel", name := "isSurvey", desc := "(I)Z" } : Jvm.MethodName)) ∈ lw_all := lw_g (lw_at lw_m10 216 rfl) rfl
theorem q2424 : (Jvm.Cond.code ({ cls := "DredgeledgerModel", name := "isSurvey", desc := "(I)Z" } : Jvm.MethodName) prog_18_method_7_code (2 : Nat) (Option.some Jvm.ClassFile.FieldType.boolean)) ∈ lw_all := lw_g (lw_at lw_m10 217 rfl) rfl
theorem q2425 : (Jvm.Cond.methodLink "DredgeledgerModel" (166 : Nat) ({ cls := "DredgeledgerModel", name := "tells", desc := "(II)Z" } : Jvm.MethodName)) ∈ lw_all := lw_g (lw_at lw_m10 218 rfl) rfl
theorem q2426 : (Jvm.Cond.privateMethod ({ cls := "DredgeledgerModel", name := "tells", desc := "(II)Z" } : Jvm.MethodName)) ∈ lw_tbl := lw_at lw_m10 219 rfl
theorem q2427 : (Jvm.Cond.instanceMethod ({ cls := "DredgeledgerModel", name := "tells", desc := "(II)Z" } : Jvm.MethodName)) ∈ lw_all := lw_g (lw_at lw_m10 220 rfl) rfl
theorem q2428 : (Jvm.Cond.code ({ cls := "DredgeledgerModel", name := "tells", desc := "(II)Z" } : Jvm.MethodName) prog_18_method_31_code (3 : Nat) (Option.some Jvm.ClassFile.FieldType.boolean)) ∈ lw_all := lw_g (lw_at lw_m10 221 rfl) rfl
theorem q2430 : (Jvm.Cond.instanceMethod ({ cls := "DredgeledgerModel", name := "bed", desc := "(I)I" } : Jvm.MethodName)) ∈ lw_all := lw_g (lw_at lw_m10 223 rfl) rfl
theorem q2431 : (Jvm.Cond.selects "DredgeledgerModel" ({ cls := "DredgeledgerModel", name := "bed", desc := "(I)I" } : Jvm.MethodName) ({ cls := "DredgeledgerModel", name := "bed", desc := "(I)I" } : Jvm.MethodName)) ∈ lw_all := lw_g (lw_at lw_m10 224 rfl) rfl
theorem q2432 : (Jvm.Cond.code ({ cls := "DredgeledgerModel", name := "bed", desc := "(I)I" } : Jvm.MethodName) prog_18_method_34_code (3 : Nat) (Option.some Jvm.ClassFile.FieldType.int)) ∈ lw_all := lw_g (lw_at lw_m10 225 rfl) rfl
theorem q2433 : (Jvm.Cond.methodLink "DredgeledgerModel" (169 : Nat) ({ cls := "DredgeledgerModel", name := "bedOf", desc := "(I)I" } : Jvm.MethodName)) ∈ lw_all := lw_g (lw_at lw_m10 226 rfl) rfl
theorem q2434 : (Jvm.Cond.privateMethod ({ cls := "DredgeledgerModel", name := "bedOf", desc := "(I)I" } : Jvm.MethodName)) ∈ lw_tbl := lw_at lw_m10 227 rfl
theorem q2435 : (Jvm.Cond.instanceMethod ({ cls := "DredgeledgerModel", name := "bedOf", desc := "(I)I" } : Jvm.MethodName)) ∈ lw_all := lw_g (lw_at lw_m10 228 rfl) rfl
theorem q2436 : (Jvm.Cond.code ({ cls := "DredgeledgerModel", name := "bedOf", desc := "(I)I" } : Jvm.MethodName) prog_18_method_33_code (6 : Nat) (Option.some Jvm.ClassFile.FieldType.int)) ∈ lw_all := lw_g (lw_at lw_m10 229 rfl) rfl
theorem q2438 : (Jvm.Cond.instanceMethod ({ cls := "DredgeledgerModel", name := "between", desc := "(II)I" } : Jvm.MethodName)) ∈ lw_all := lw_g (lw_at lw_m10 231 rfl) rfl
theorem q2439 : (Jvm.Cond.selects "DredgeledgerModel" ({ cls := "DredgeledgerModel", name := "between", desc := "(II)I" } : Jvm.MethodName) ({ cls := "DredgeledgerModel", name := "between", desc := "(II)I" } : Jvm.MethodName)) ∈ lw_all := lw_g (lw_at lw_m10 232 rfl) rfl
theorem q2440 : (Jvm.Cond.code ({ cls := "DredgeledgerModel", name := "between", desc := "(II)I" } : Jvm.MethodName) prog_18_method_35_code (5 : Nat) (Option.some Jvm.ClassFile.FieldType.int)) ∈ lw_all := lw_g (lw_at lw_m10 233 rfl) rfl
theorem q2442 : (Jvm.Cond.instanceMethod ({ cls := "DredgeledgerModel", name := "settle", desc := "(I)I" } : Jvm.MethodName)) ∈ lw_all := lw_g (lw_at lw_m10 235 rfl) rfl
theorem q2443 : (Jvm.Cond.selects "DredgeledgerModel" ({ cls := "DredgeledgerModel", name := "settle", desc := "(I)I" } : Jvm.MethodName) ({ cls := "DredgeledgerModel", name := "settle", desc := "(I)I" } : Jvm.MethodName)) ∈ lw_all := lw_g (lw_at lw_m10 236 rfl) rfl
theorem q2444 : (Jvm.Cond.code ({ cls := "DredgeledgerModel", name := "settle", desc := "(I)I" } : Jvm.MethodName) prog_18_method_36_code (5 : Nat) (Option.some Jvm.ClassFile.FieldType.int)) ∈ lw_all := lw_g (lw_at lw_m10 237 rfl) rfl
theorem q2445 : (Jvm.Cond.fieldLink "DredgeledgerModel" (179 : Nat) "Deed" "SETTLE" "LDeed;") ∈ lw_all := lw_g (lw_at lw_m10 238 rfl) rfl
theorem q2447 : (Jvm.Cond.instanceMethod ({ cls := "DredgeledgerModel", name := "setPrice", desc := "(I)I" } : Jvm.MethodName)) ∈ lw_all := lw_g (lw_at lw_m11 0 rfl) rfl
theorem q2448 : (Jvm.Cond.selects "DredgeledgerModel" ({ cls := "DredgeledgerModel", name := "setPrice", desc := "(I)I" } : Jvm.MethodName) ({ cls := "DredgeledgerModel", name := "setPrice", desc := "(I)I" } : Jvm.MethodName)) ∈ lw_all := lw_g (lw_at lw_m11 1 rfl) rfl
theorem q2449 : (Jvm.Cond.code ({ cls := "DredgeledgerModel", name := "setPrice", desc := "(I)I" } : Jvm.MethodName) prog_18_method_37_code (3 : Nat) (Option.some Jvm.ClassFile.FieldType.int)) ∈ lw_all := lw_g (lw_at lw_m11 2 rfl) rfl
theorem q2451 : (Jvm.Cond.instanceMethod ({ cls := "DredgeledgerModel", name := "dispute", desc := "(I)I" } : Jvm.MethodName)) ∈ lw_all := lw_g (lw_at lw_m11 4 rfl) rfl
theorem q2452 : (Jvm.Cond.selects "DredgeledgerModel" ({ cls := "DredgeledgerModel", name := "dispute", desc := "(I)I" } : Jvm.MethodName) ({ cls := "DredgeledgerModel", name := "dispute", desc := "(I)I" } : Jvm.MethodName)) ∈ lw_all := lw_g (lw_at lw_m11 5 rfl) rfl
theorem q2453 : (Jvm.Cond.code ({ cls := "DredgeledgerModel", name := "dispute", desc := "(I)I" } : Jvm.MethodName) prog_18_method_39_code (2 : Nat) (Option.some Jvm.ClassFile.FieldType.int)) ∈ lw_all := lw_g (lw_at lw_m11 6 rfl) rfl
theorem q2454 : (Jvm.Cond.fieldLink "DredgeledgerModel" (182 : Nat) "Deed" "DISPUTE" "LDeed;") ∈ lw_all := lw_g (lw_at lw_m11 7 rfl) rfl
theorem q2455 : (Jvm.Cond.methodLink "DredgeledgerModel" (185 : Nat) ({ cls := "DredgeledgerModel", name := "disputes", desc := "()I" } : Jvm.MethodName)) ∈ lw_all := lw_g (lw_at lw_m11 8 rfl) rfl
theorem q2456 : (Jvm.Cond.privateMethod ({ cls := "DredgeledgerModel", name := "disputes", desc := "()I" } : Jvm.MethodName)) ∈ lw_tbl := lw_at lw_m11 9 rfl
theorem q2457 : (Jvm.Cond.instanceMethod ({ cls := "DredgeledgerModel", name := "disputes", desc := "()I" } : Jvm.MethodName)) ∈ lw_all := lw_g (lw_at lw_m11 10 rfl) rfl
theorem q2458 : (Jvm.Cond.code ({ cls := "DredgeledgerModel", name := "disputes", desc := "()I" } : Jvm.MethodName) prog_18_method_38_code (3 : Nat) (Option.some Jvm.ClassFile.FieldType.int)) ∈ lw_all := lw_g (lw_at lw_m11 11 rfl) rfl
theorem q2460 : (Jvm.Cond.instanceMethod ({ cls := "DredgeledgerModel", name := "resolve", desc := "(I)I" } : Jvm.MethodName)) ∈ lw_all := lw_g (lw_at lw_m11 13 rfl) rfl
theorem q2461 : (Jvm.Cond.selects "DredgeledgerModel" ({ cls := "DredgeledgerModel", name := "resolve", desc := "(I)I" } : Jvm.MethodName) ({ cls := "DredgeledgerModel", name := "resolve", desc := "(I)I" } : Jvm.MethodName)) ∈ lw_all := lw_g (lw_at lw_m11 14 rfl) rfl
theorem q2462 : (Jvm.Cond.code ({ cls := "DredgeledgerModel", name := "resolve", desc := "(I)I" } : Jvm.MethodName) prog_18_method_40_code (2 : Nat) (Option.some Jvm.ClassFile.FieldType.int)) ∈ lw_all := lw_g (lw_at lw_m11 15 rfl) rfl
theorem q2463 : (Jvm.Cond.fieldLink "DredgeledgerModel" (188 : Nat) "Deed" "RESOLVE" "LDeed;") ∈ lw_all := lw_g (lw_at lw_m11 16 rfl) rfl
theorem q2465 : (Jvm.Cond.instanceMethod ({ cls := "DredgeledgerModel", name := "paidDepth", desc := "(I)I" } : Jvm.MethodName)) ∈ lw_all := lw_g (lw_at lw_m11 18 rfl) rfl
theorem q2466 : (Jvm.Cond.selects "DredgeledgerModel" ({ cls := "DredgeledgerModel", name := "paidDepth", desc := "(I)I" } : Jvm.MethodName) ({ cls := "DredgeledgerModel", name := "paidDepth", desc := "(I)I" } : Jvm.MethodName)) ∈ lw_all := lw_g (lw_at lw_m11 19 rfl) rfl
theorem q2467 : (Jvm.Cond.code ({ cls := "DredgeledgerModel", name := "paidDepth", desc := "(I)I" } : Jvm.MethodName) prog_18_method_41_code (2 : Nat) (Option.some Jvm.ClassFile.FieldType.int)) ∈ lw_all := lw_g (lw_at lw_m11 20 rfl) rfl
theorem q2469 : (Jvm.Cond.instanceMethod ({ cls := "DredgeledgerModel", name := "paid", desc := "()I" } : Jvm.MethodName)) ∈ lw_all := lw_g (lw_at lw_m11 22 rfl) rfl
theorem q2470 : (Jvm.Cond.selects "DredgeledgerModel" ({ cls := "DredgeledgerModel", name := "paid", desc := "()I" } : Jvm.MethodName) ({ cls := "DredgeledgerModel", name := "paid", desc := "()I" } : Jvm.MethodName)) ∈ lw_all := lw_g (lw_at lw_m11 23 rfl) rfl
theorem q2471 : (Jvm.Cond.code ({ cls := "DredgeledgerModel", name := "paid", desc := "()I" } : Jvm.MethodName) prog_18_method_42_code (1 : Nat) (Option.some Jvm.ClassFile.FieldType.int)) ∈ lw_all := lw_g (lw_at lw_m11 24 rfl) rfl
theorem q2473 : (Jvm.Cond.instanceMethod ({ cls := "DredgeledgerModel", name := "paidByCells", desc := "()I" } : Jvm.MethodName)) ∈ lw_all := lw_g (lw_at lw_m11 26 rfl) rfl
theorem q2474 : (Jvm.Cond.selects "DredgeledgerModel" ({ cls := "DredgeledgerModel", name := "paidByCells", desc := "()I" } : Jvm.MethodName) ({ cls := "DredgeledgerModel", name := "paidByCells", desc := "()I" } : Jvm.MethodName)) ∈ lw_all := lw_g (lw_at lw_m11 27 rfl) rfl
theorem q2475 : (Jvm.Cond.code ({ cls := "DredgeledgerModel", name := "paidByCells", desc := "()I" } : Jvm.MethodName) prog_18_method_43_code (1 : Nat) (Option.some Jvm.ClassFile.FieldType.int)) ∈ lw_all := lw_g (lw_at lw_m11 28 rfl) rfl
theorem q2477 : (Jvm.Cond.instanceMethod ({ cls := "DredgeledgerModel", name := "money", desc := "()J" } : Jvm.MethodName)) ∈ lw_all := lw_g (lw_at lw_m11 30 rfl) rfl
theorem q2478 : (Jvm.Cond.selects "DredgeledgerModel" ({ cls := "DredgeledgerModel", name := "money", desc := "()J" } : Jvm.MethodName) ({ cls := "DredgeledgerModel", name := "money", desc := "()J" } : Jvm.MethodName)) ∈ lw_all := lw_g (lw_at lw_m11 31 rfl) rfl
theorem q2479 : (Jvm.Cond.code ({ cls := "DredgeledgerModel", name := "money", desc := "()J" } : Jvm.MethodName) prog_18_method_44_code (1 : Nat) (Option.some Jvm.ClassFile.FieldType.long)) ∈ lw_all := lw_g (lw_at lw_m11 32 rfl) rfl
theorem q2481 : (Jvm.Cond.instanceMethod ({ cls := "DredgeledgerModel", name := "dredged", desc := "()I" } : Jvm.MethodName)) ∈ lw_all := lw_g (lw_at lw_m11 34 rfl) rfl
theorem q2482 : (Jvm.Cond.selects "DredgeledgerModel" ({ cls := "DredgeledgerModel", name := "dredged", desc := "()I" } : Jvm.MethodName) ({ cls := "DredgeledgerModel", name := "dredged", desc := "()I" } : Jvm.MethodName)) ∈ lw_all := lw_g (lw_at lw_m11 35 rfl) rfl
theorem q2483 : (Jvm.Cond.code ({ cls := "DredgeledgerModel", name := "dredged", desc := "()I" } : Jvm.MethodName) prog_18_method_45_code (1 : Nat) (Option.some Jvm.ClassFile.FieldType.int)) ∈ lw_all := lw_g (lw_at lw_m11 36 rfl) rfl
theorem q2485 : (Jvm.Cond.instanceMethod ({ cls := "DredgeledgerModel", name := "crept", desc := "()I" } : Jvm.MethodName)) ∈ lw_all := lw_g (lw_at lw_m11 38 rfl) rfl
theorem q2486 : (Jvm.Cond.selects "DredgeledgerModel" ({ cls := "DredgeledgerModel", name := "crept", desc := "()I" } : Jvm.MethodName) ({ cls := "DredgeledgerModel", name := "crept", desc := "()I" } : Jvm.MethodName)) ∈ lw_all := lw_g (lw_at lw_m11 39 rfl) rfl
theorem q2487 : (Jvm.Cond.code ({ cls := "DredgeledgerModel", name := "crept", desc := "()I" } : Jvm.MethodName) prog_18_method_46_code (1 : Nat) (Option.some Jvm.ClassFile.FieldType.int)) ∈ lw_all := lw_g (lw_at lw_m11 40 rfl) rfl
theorem q2489 : (Jvm.Cond.instanceMethod ({ cls := "DredgeledgerModel", name := "entryAt", desc := "(I)LEntry;" } : Jvm.MethodName)) ∈ lw_all := lw_g (lw_at lw_m11 42 rfl) rfl
theorem q2490 : (Jvm.Cond.selects "DredgeledgerModel" ({ cls := "DredgeledgerModel", name := "entryAt", desc := "(I)LEntry;" } : Jvm.MethodName) ({ cls := "DredgeledgerModel", name := "entryAt", desc := "(I)LEntry;" } : Jvm.MethodName)) ∈ lw_all := lw_g (lw_at lw_m11 43 rfl) rfl
theorem q2491 : (Jvm.Cond.code ({ cls := "DredgeledgerModel", name := "entryAt", desc := "(I)LEntry;" } : Jvm.MethodName) prog_18_method_47_code (2 : Nat) (Option.some (Jvm.ClassFile.FieldType.object "Entry"))) ∈ lw_all := lw_g (lw_at lw_m11 44 rfl) rfl
theorem q2492 : (Jvm.Cond.classLink "DredgeledgerModel" (191 : Nat) "Entry") ∈ lw_all := lw_g (lw_at lw_m11 45 rfl) rfl
theorem q2493 : (Jvm.Cond.methodLink "DredgeledgerModel" (193 : Nat) ({ cls := "Entry", name := "<init>", desc := "(LDeed;II)V" } : Jvm.MethodName)) ∈ lw_all := lw_g (lw_at lw_m11 46 rfl) rfl
theorem q2495 : (Jvm.Cond.instanceMethod ({ cls := "DredgeledgerModel", name := "doneShare", desc := "()F" } : Jvm.MethodName)) ∈ lw_all := lw_g (lw_at lw_m11 48 rfl) rfl
theorem q2496 : (Jvm.Cond.selects "DredgeledgerModel" ({ cls := "DredgeledgerModel", name := "doneShare", desc := "()F" } : Jvm.MethodName) ({ cls := "DredgeledgerModel", name := "doneShare", desc := "()F" } : Jvm.MethodName)) ∈ lw_all := lw_g (lw_at lw_m11 49 rfl) rfl
theorem q2497 : (Jvm.Cond.code ({ cls := "DredgeledgerModel", name := "doneShare", desc := "()F" } : Jvm.MethodName) prog_18_method_48_code (5 : Nat) (Option.some Jvm.ClassFile.FieldType.float)) ∈ lw_all := lw_g (lw_at lw_m11 50 rfl) rfl
theorem q2499 : (Jvm.Cond.instanceMethod ({ cls := "DredgeledgerModel", name := "meanDepth", desc := "()D" } : Jvm.MethodName)) ∈ lw_all := lw_g (lw_at lw_m11 52 rfl) rfl
theorem q2500 : (Jvm.Cond.selects "DredgeledgerModel" ({ cls := "DredgeledgerModel", name := "meanDepth", desc := "()D" } : Jvm.MethodName) ({ cls := "DredgeledgerModel", name := "meanDepth", desc := "()D" } : Jvm.MethodName)) ∈ lw_all := lw_g (lw_at lw_m11 53 rfl) rfl
theorem q2501 : (Jvm.Cond.code ({ cls := "DredgeledgerModel", name := "meanDepth", desc := "()D" } : Jvm.MethodName) prog_18_method_49_code (3 : Nat) (Option.some Jvm.ClassFile.FieldType.double)) ∈ lw_all := lw_g (lw_at lw_m11 54 rfl) rfl
theorem q2503 : (Jvm.Cond.instanceMethod ({ cls := "DredgeledgerModel", name := "report", desc := "()Ljava/lang/String;" } : Jvm.MethodName)) ∈ lw_all := lw_g (lw_at lw_m11 56 rfl) rfl
theorem q2504 : (Jvm.Cond.selects "DredgeledgerModel" ({ cls := "DredgeledgerModel", name := "report", desc := "()Ljava/lang/String;" } : Jvm.MethodName) ({ cls := "DredgeledgerModel", name := "report", desc := "()Ljava/lang/String;" } : Jvm.MethodName)) ∈ lw_all := lw_g (lw_at lw_m11 57 rfl) rfl
theorem q2505 : (Jvm.Cond.code ({ cls := "DredgeledgerModel", name := "report", desc := "()Ljava/lang/String;" } : Jvm.MethodName) prog_18_method_50_code (3 : Nat) (Option.some (Jvm.ClassFile.FieldType.object "java/lang/String"))) ∈ lw_all := lw_g (lw_at lw_m11 58 rfl) rfl
theorem q2506 : (Jvm.Cond.classLink "DredgeledgerModel" (196 : Nat) "java/lang/StringBuilder") ∈ lw_all := lw_g (lw_at lw_m11 59 rfl) rfl
theorem q2507 : (Jvm.Cond.methodLink "DredgeledgerModel" (198 : Nat) ({ cls := "java/lang/StringBuilder", name := "<init>", desc := "()V" } : Jvm.MethodName)) ∈ lw_all := lw_g (lw_at lw_m11 60 rfl) rfl
theorem q2508 : (Jvm.Cond.methodLink "DredgeledgerModel" (199 : Nat) ({ cls := "java/lang/StringBuilder", name := "append", desc := "(C)Ljava/lang/StringBuilder;" } : Jvm.MethodName)) ∈ lw_all := lw_g (lw_at lw_m11 61 rfl) rfl
theorem q2509 : (Jvm.Cond.methodLink "DredgeledgerModel" (203 : Nat) ({ cls := "java/lang/StringBuilder", name := "append", desc := "(I)Ljava/lang/StringBuilder;" } : Jvm.MethodName)) ∈ lw_all := lw_g (lw_at lw_m11 62 rfl) rfl
theorem q2510 : (Jvm.Cond.methodLink "DredgeledgerModel" (206 : Nat) ({ cls := "java/lang/StringBuilder", name := "toString", desc := "()Ljava/lang/String;" } : Jvm.MethodName)) ∈ lw_all := lw_g (lw_at lw_m11 63 rfl) rfl
theorem q2512 : (Jvm.Cond.instanceMethod ({ cls := "DredgeledgerModel", name := "isBalanced", desc := "()Z" } : Jvm.MethodName)) ∈ lw_all := lw_g (lw_at lw_m11 65 rfl) rfl
theorem q2513 : (Jvm.Cond.selects "DredgeledgerModel" ({ cls := "DredgeledgerModel", name := "isBalanced", desc := "()Z" } : Jvm.MethodName) ({ cls := "DredgeledgerModel", name := "isBalanced", desc := "()Z" } : Jvm.MethodName)) ∈ lw_all := lw_g (lw_at lw_m11 66 rfl) rfl
theorem q2514 : (Jvm.Cond.code ({ cls := "DredgeledgerModel", name := "isBalanced", desc := "()Z" } : Jvm.MethodName) prog_18_method_51_code (1 : Nat) (Option.some Jvm.ClassFile.FieldType.boolean)) ∈ lw_all := lw_g (lw_at lw_m11 67 rfl) rfl
theorem q2567 : (Jvm.Cond.castable "DredgeledgerModel" "java/lang/Object") ∈ lw_tbl := lw_at lw_m11 120 rfl
theorem in_X3 : ∀ w ∈ wsX30, w ∈ lw_all := lw_in wsX30 [2231, 2233, 2235, 2237, 2239, 2241, 2243, 2245, 2247, 2249, 2251, 2253, 2255, 2257, 2259, 2261, 2263, 2265, 2267, 2269, 2271, 2273, 2275, 2277, 2279, 2281, 2283, 2285, 2287, 2289, 2291, 2293, 2295, 2297, 2299] (by decide +kernel) (by decide +kernel)

/-! DredgeledgerLaw$Out -/
set_option maxRecDepth 100000
def RX4 : String := "DredgeledgerLaw$Out"
def TX4 : u_T := fun k => match k with
  | 0 => ("DredgeledgerLaw$Out", "n", "J", false)
  | 1 => ("DredgeledgerLaw$Out", "d", "D", false)
  | _ => ("DredgeledgerLaw$Out", "theEntry", "LEntry;", false)
def tyX4 : Nat → FieldType := fun k => match k with
  | 0 => .long
  | 1 => .double
  | _ => .object "Entry"
abbrev wsX40 : List Cond := u_ws RX4 TX4 3
theorem nmX4 : ∀ a, a < 3 → ∀ b, b < 3 → a ≠ b → (TX4 a).2.1 ≠ (TX4 b).2.1 := by decide +kernel
theorem tyX4_ok : ∀ k, k < 3 → parseFieldDescriptor (TX4 k).2.2.1 = some (tyX4 k) := by decide +kernel
abbrev cX4_init : ByteArray := prog_17_method_1_code
def yX4_init : MethodName := ⟨RX4, "<init>", "()V"⟩
theorem dX4_init_0 : decode cX4_init 0 = .ok (.aload_n 0, 1) := by decide +kernel
theorem dX4_init_1 : decode cX4_init 1 = .ok (.invokespecial 1, 3) := by decide +kernel
theorem dX4_init_4 : decode cX4_init 4 = .ok (.return_, 1) := by decide +kernel
theorem q74 : (Jvm.Cond.initialized "DredgeledgerLaw$Out") ∈ lw_all := lw_g (lw_at lw_m1 27 rfl) rfl
theorem q834 : (Jvm.Cond.selects "DredgeledgerLaw$Out" ({ cls := "java/lang/Object", name := "getClass", desc := "()Ljava/lang/Class;" } : Jvm.MethodName) ({ cls := "java/lang/Object", name := "getClass", desc := "()Ljava/lang/Class;" } : Jvm.MethodName)) ∈ lw_all := lw_g (lw_at lw_m4 67 rfl) rfl
theorem q1107 : (Jvm.Cond.instantiable "DredgeledgerLaw$Out" (3 : Nat)) ∈ lw_all := lw_g (lw_at lw_m5 100 rfl) rfl
theorem q1109 : (Jvm.Cond.instanceMethod ({ cls := "DredgeledgerLaw$Out", name := "<init>", desc := "()V" } : Jvm.MethodName)) ∈ lw_all := lw_g (lw_at lw_m5 102 rfl) rfl
theorem q1110 : (Jvm.Cond.code ({ cls := "DredgeledgerLaw$Out", name := "<init>", desc := "()V" } : Jvm.MethodName) prog_17_method_1_code (1 : Nat) (Option.none : Option Jvm.ClassFile.FieldType)) ∈ lw_all := lw_g (lw_at lw_m5 103 rfl) rfl
theorem q1111 : (Jvm.Cond.methodLink "DredgeledgerLaw$Out" (1 : Nat) ({ cls := "java/lang/Object", name := "<init>", desc := "()V" } : Jvm.MethodName)) ∈ lw_all := lw_g (lw_at lw_m5 104 rfl) rfl
theorem q1115 : (Jvm.Cond.lays "DredgeledgerLaw$Out" "DredgeledgerLaw$Out" "n" "J") ∈ lw_all := lw_g (lw_at lw_m5 108 rfl) rfl
theorem q1116 : (Jvm.Cond.soleField "DredgeledgerLaw$Out" "n") ∈ lw_all := lw_g (lw_at lw_m5 109 rfl) rfl
theorem q1117 : (Jvm.Cond.lays "DredgeledgerLaw$Out" "DredgeledgerLaw$Out" "d" "D") ∈ lw_all := lw_g (lw_at lw_m5 110 rfl) rfl
theorem q1118 : (Jvm.Cond.soleField "DredgeledgerLaw$Out" "d") ∈ lw_all := lw_g (lw_at lw_m5 111 rfl) rfl
theorem q1119 : (Jvm.Cond.lays "DredgeledgerLaw$Out" "DredgeledgerLaw$Out" "theEntry" "LEntry;") ∈ lw_all := lw_g (lw_at lw_m5 112 rfl) rfl
theorem q1120 : (Jvm.Cond.soleField "DredgeledgerLaw$Out" "theEntry") ∈ lw_all := lw_g (lw_at lw_m5 113 rfl) rfl
theorem q1121 : (Jvm.Cond.superclass "DredgeledgerLaw$Out" "java/lang/Object") ∈ lw_all := lw_g (lw_at lw_m5 114 rfl) rfl
theorem q2568 : (Jvm.Cond.castable "DredgeledgerLaw$Out" "java/lang/Object") ∈ lw_tbl := lw_at lw_m11 121 rfl
theorem in_X4 : ∀ w ∈ wsX40, w ∈ lw_all := lw_in wsX40 [1115, 1117, 1119] (by decide +kernel) (by decide +kernel)

/-! Dredgeledger$Limited -/
set_option maxRecDepth 100000
def RX5 : String := "Dredgeledger$Limited"
def TX5 : u_T := fun k => match k with
  | 0 => ("Dredgeledger$Limited", "cell", "I", true)
  | _ => ("Dredgeledger$Limited", "limit", "I", true)
def tyX5 : Nat → FieldType := fun k => match k with
  | 0 => .int
  | _ => .int
abbrev wsX50 : List Cond := u_ws RX5 TX5 2
theorem nmX5 : ∀ a, a < 2 → ∀ b, b < 2 → a ≠ b → (TX5 a).2.1 ≠ (TX5 b).2.1 := by decide +kernel
theorem tyX5_ok : ∀ k, k < 2 → parseFieldDescriptor (TX5 k).2.2.1 = some (tyX5 k) := by decide +kernel
abbrev cX5_cell : ByteArray := prog_8_method_5_code
def yX5_cell : MethodName := ⟨RX5, "cell", "()I"⟩
theorem dX5_cell_0 : decode cX5_cell 0 = .ok (.aload_n 0, 1) := by decide +kernel
theorem dX5_cell_1 : decode cX5_cell 1 = .ok (.getfield 7, 3) := by decide +kernel
theorem dX5_cell_4 : decode cX5_cell 4 = .ok (.ireturn, 1) := by decide +kernel
abbrev cX5_limit : ByteArray := prog_8_method_6_code
def yX5_limit : MethodName := ⟨RX5, "limit", "()I"⟩
theorem dX5_limit_0 : decode cX5_limit 0 = .ok (.aload_n 0, 1) := by decide +kernel
theorem dX5_limit_1 : decode cX5_limit 1 = .ok (.getfield 13, 3) := by decide +kernel
theorem dX5_limit_4 : decode cX5_limit 4 = .ok (.ireturn, 1) := by decide +kernel
abbrev cX5_init : ByteArray := prog_8_method_1_code
def yX5_init : MethodName := ⟨RX5, "<init>", "(II)V"⟩
def dkwX5_init_0 : List UInt8 := [42, 183, 0, 1, 42, 27, 181, 0, 7, 42, 28, 181, 0, 13, 177]
abbrev dktX5_init_0 : List UInt8 := dkwX5_init_0 ++ []
theorem dksX5_init_0 : cX5_init.data.toList.drop 0 = dktX5_init_0 := by decide +kernel
theorem dX5_init_0 : decode cX5_init 0 = .ok (.aload_n 0, 1) := dk_42 (dk_at dksX5_init_0 0 rfl rfl)
theorem dX5_init_1 : decode cX5_init 1 = .ok (.invokespecial 1, 3) := dk_183 0 1 (dk_at dksX5_init_0 1 rfl rfl)
theorem dX5_init_4 : decode cX5_init 4 = .ok (.aload_n 0, 1) := dk_42 (dk_at dksX5_init_0 4 rfl rfl)
theorem dX5_init_5 : decode cX5_init 5 = .ok (.iload_n 1, 1) := dk_27 (dk_at dksX5_init_0 5 rfl rfl)
theorem dX5_init_6 : decode cX5_init 6 = .ok (.putfield 7, 3) := dk_181 0 7 (dk_at dksX5_init_0 6 rfl rfl)
theorem dX5_init_9 : decode cX5_init 9 = .ok (.aload_n 0, 1) := dk_42 (dk_at dksX5_init_0 9 rfl rfl)
theorem dX5_init_10 : decode cX5_init 10 = .ok (.iload_n 2, 1) := dk_28 (dk_at dksX5_init_0 10 rfl rfl)
theorem dX5_init_11 : decode cX5_init 11 = .ok (.putfield 13, 3) := dk_181 0 13 (dk_at dksX5_init_0 11 rfl rfl)
theorem dX5_init_14 : decode cX5_init 14 = .ok (.return_, 1) := dk_177 (dk_at dksX5_init_0 14 rfl rfl)
theorem q79 : (Jvm.Cond.initialized "Dredgeledger$Limited") ∈ lw_all := lw_g (lw_at lw_m1 32 rfl) rfl
theorem q827 : (Jvm.Cond.selects "Dredgeledger$Limited" ({ cls := "java/lang/Object", name := "getClass", desc := "()Ljava/lang/Class;" } : Jvm.MethodName) ({ cls := "java/lang/Object", name := "getClass", desc := "()Ljava/lang/Class;" } : Jvm.MethodName)) ∈ lw_all := lw_g (lw_at lw_m4 60 rfl) rfl
theorem q968 : (Jvm.Cond.instanceMethod ({ cls := "Dredgeledger$Limited", name := "cell", desc := "()I" } : Jvm.MethodName)) ∈ lw_all := lw_g (lw_at lw_m4 201 rfl) rfl
theorem q969 : (Jvm.Cond.selects "Dredgeledger$Limited" ({ cls := "Dredgeledger$Limited", name := "cell", desc := "()I" } : Jvm.MethodName) ({ cls := "Dredgeledger$Limited", name := "cell", desc := "()I" } : Jvm.MethodName)) ∈ lw_all := lw_g (lw_at lw_m4 202 rfl) rfl
theorem q970 : (Jvm.Cond.code ({ cls := "Dredgeledger$Limited", name := "cell", desc := "()I" } : Jvm.MethodName) prog_8_method_5_code (1 : Nat) (Option.some Jvm.ClassFile.FieldType.int)) ∈ lw_all := lw_g (lw_at lw_m4 203 rfl) rfl
theorem q972 : (Jvm.Cond.instanceMethod ({ cls := "Dredgeledger$Limited", name := "limit", desc := "()I" } : Jvm.MethodName)) ∈ lw_all := lw_g (lw_at lw_m4 205 rfl) rfl
theorem q973 : (Jvm.Cond.selects "Dredgeledger$Limited" ({ cls := "Dredgeledger$Limited", name := "limit", desc := "()I" } : Jvm.MethodName) ({ cls := "Dredgeledger$Limited", name := "limit", desc := "()I" } : Jvm.MethodName)) ∈ lw_all := lw_g (lw_at lw_m4 206 rfl) rfl
theorem q974 : (Jvm.Cond.code ({ cls := "Dredgeledger$Limited", name := "limit", desc := "()I" } : Jvm.MethodName) prog_8_method_6_code (1 : Nat) (Option.some Jvm.ClassFile.FieldType.int)) ∈ lw_all := lw_g (lw_at lw_m4 207 rfl) rfl
theorem q1193 : (Jvm.Cond.instantiable "Dredgeledger$Limited" (2 : Nat)) ∈ lw_all := lw_g (lw_at lw_m5 186 rfl) rfl
theorem q1195 : (Jvm.Cond.instanceMethod ({ cls := "Dredgeledger$Limited", name := "<init>", desc := "(II)V" } : Jvm.MethodName)) ∈ lw_all := lw_g (lw_at lw_m5 188 rfl) rfl
theorem q1196 : (Jvm.Cond.code ({ cls := "Dredgeledger$Limited", name := "<init>", desc := "(II)V" } : Jvm.MethodName) prog_8_method_1_code (3 : Nat) (Option.none : Option Jvm.ClassFile.FieldType)) ∈ lw_all := lw_g (lw_at lw_m5 189 rfl) rfl
theorem q1197 : (Jvm.Cond.methodLink "Dredgeledger$Limited" (1 : Nat) ({ cls := "java/lang/Record", name := "<init>", desc := "()V" } : Jvm.MethodName)) ∈ lw_all := lw_g (lw_at lw_m5 190 rfl) rfl
theorem q1201 : (Jvm.Cond.fieldLink "Dredgeledger$Limited" (7 : Nat) "Dredgeledger$Limited" "cell" "I") ∈ lw_all := lw_g (lw_at lw_m5 194 rfl) rfl
theorem q1202 : (Jvm.Cond.fieldLink "Dredgeledger$Limited" (13 : Nat) "Dredgeledger$Limited" "limit" "I") ∈ lw_all := lw_g (lw_at lw_m5 195 rfl) rfl
theorem q1203 : (Jvm.Cond.laysFinal "Dredgeledger$Limited" "Dredgeledger$Limited" "cell" "I") ∈ lw_all := lw_g (lw_at lw_m5 196 rfl) rfl
theorem q1204 : (Jvm.Cond.soleField "Dredgeledger$Limited" "cell") ∈ lw_all := lw_g (lw_at lw_m5 197 rfl) rfl
theorem q1205 : (Jvm.Cond.laysFinal "Dredgeledger$Limited" "Dredgeledger$Limited" "limit" "I") ∈ lw_all := lw_g (lw_at lw_m5 198 rfl) rfl
theorem q1206 : (Jvm.Cond.soleField "Dredgeledger$Limited" "limit") ∈ lw_all := lw_g (lw_at lw_m5 199 rfl) rfl
theorem q1207 : (Jvm.Cond.superclass "Dredgeledger$Limited" "java/lang/Record") ∈ lw_all := lw_g (lw_at lw_m5 200 rfl) rfl
theorem q2553 : (Jvm.Cond.castable "Dredgeledger$Limited" "Dredgeledger$Event") ∈ lw_tbl := lw_at lw_m11 106 rfl
theorem q2572 : (Jvm.Cond.castable "Dredgeledger$Limited" "java/lang/Object") ∈ lw_tbl := lw_at lw_m11 125 rfl
theorem in_X5 : ∀ w ∈ wsX50, w ∈ lw_all := lw_in wsX50 [1203, 1205] (by decide +kernel) (by decide +kernel)

/-! Dredgeledger$Link -/
set_option maxRecDepth 100000
def RX6 : String := "Dredgeledger$Link"
def TX6 : u_T := fun k => match k with
  | 0 => ("Dredgeledger$Link", "item", "Ljava/lang/Object;", true)
  | _ => ("Dredgeledger$Link", "next", "LDredgeledger$Link;", false)
def tyX6 : Nat → FieldType := fun k => match k with
  | 0 => .object "java/lang/Object"
  | _ => .object "Dredgeledger$Link"
abbrev wsX60 : List Cond := u_ws RX6 TX6 2
theorem nmX6 : ∀ a, a < 2 → ∀ b, b < 2 → a ≠ b → (TX6 a).2.1 ≠ (TX6 b).2.1 := by decide +kernel
theorem tyX6_ok : ∀ k, k < 2 → parseFieldDescriptor (TX6 k).2.2.1 = some (tyX6 k) := by decide +kernel
abbrev cX6_init : ByteArray := prog_9_method_1_code
def yX6_init : MethodName := ⟨RX6, "<init>", "(Ljava/lang/Object;)V"⟩
def dkwX6_init_0 : List UInt8 := [42, 183, 0, 1, 42, 43, 181, 0, 7, 177]
abbrev dktX6_init_0 : List UInt8 := dkwX6_init_0 ++ []
theorem dksX6_init_0 : cX6_init.data.toList.drop 0 = dktX6_init_0 := by decide +kernel
theorem dX6_init_0 : decode cX6_init 0 = .ok (.aload_n 0, 1) := dk_42 (dk_at dksX6_init_0 0 rfl rfl)
theorem dX6_init_1 : decode cX6_init 1 = .ok (.invokespecial 1, 3) := dk_183 0 1 (dk_at dksX6_init_0 1 rfl rfl)
theorem dX6_init_4 : decode cX6_init 4 = .ok (.aload_n 0, 1) := dk_42 (dk_at dksX6_init_0 4 rfl rfl)
theorem dX6_init_5 : decode cX6_init 5 = .ok (.aload_n 1, 1) := dk_43 (dk_at dksX6_init_0 5 rfl rfl)
theorem dX6_init_6 : decode cX6_init 6 = .ok (.putfield 7, 3) := dk_181 0 7 (dk_at dksX6_init_0 6 rfl rfl)
theorem dX6_init_9 : decode cX6_init 9 = .ok (.return_, 1) := dk_177 (dk_at dksX6_init_0 9 rfl rfl)
theorem q80 : (Jvm.Cond.initialized "Dredgeledger$Link") ∈ lw_all := lw_g (lw_at lw_m1 33 rfl) rfl
theorem q828 : (Jvm.Cond.selects "Dredgeledger$Link" ({ cls := "java/lang/Object", name := "getClass", desc := "()Ljava/lang/Class;" } : Jvm.MethodName) ({ cls := "java/lang/Object", name := "getClass", desc := "()Ljava/lang/Class;" } : Jvm.MethodName)) ∈ lw_all := lw_g (lw_at lw_m4 61 rfl) rfl
theorem q1213 : (Jvm.Cond.instantiable "Dredgeledger$Link" (2 : Nat)) ∈ lw_all := lw_g (lw_at lw_m5 206 rfl) rfl
theorem q1215 : (Jvm.Cond.instanceMethod ({ cls := "Dredgeledger$Link", name := "<init>", desc := "(Ljava/lang/Object;)V" } : Jvm.MethodName)) ∈ lw_all := lw_g (lw_at lw_m5 208 rfl) rfl
theorem q1216 : (Jvm.Cond.code ({ cls := "Dredgeledger$Link", name := "<init>", desc := "(Ljava/lang/Object;)V" } : Jvm.MethodName) prog_9_method_1_code (2 : Nat) (Option.none : Option Jvm.ClassFile.FieldType)) ∈ lw_all := lw_g (lw_at lw_m5 209 rfl) rfl
theorem q1217 : (Jvm.Cond.methodLink "Dredgeledger$Link" (1 : Nat) ({ cls := "java/lang/Object", name := "<init>", desc := "()V" } : Jvm.MethodName)) ∈ lw_all := lw_g (lw_at lw_m5 210 rfl) rfl
theorem q1218 : (Jvm.Cond.fieldLink "Dredgeledger$Link" (7 : Nat) "Dredgeledger$Link" "item" "Ljava/lang/Object;") ∈ lw_all := lw_g (lw_at lw_m5 211 rfl) rfl
theorem q1222 : (Jvm.Cond.laysFinal "Dredgeledger$Link" "Dredgeledger$Link" "item" "Ljava/lang/Object;") ∈ lw_all := lw_g (lw_at lw_m5 215 rfl) rfl
theorem q1223 : (Jvm.Cond.soleField "Dredgeledger$Link" "item") ∈ lw_all := lw_g (lw_at lw_m5 216 rfl) rfl
theorem q1224 : (Jvm.Cond.lays "Dredgeledger$Link" "Dredgeledger$Link" "next" "LDredgeledger$Link;") ∈ lw_all := lw_g (lw_at lw_m5 217 rfl) rfl
theorem q1225 : (Jvm.Cond.soleField "Dredgeledger$Link" "next") ∈ lw_all := lw_g (lw_at lw_m5 218 rfl) rfl
theorem q1226 : (Jvm.Cond.superclass "Dredgeledger$Link" "java/lang/Object") ∈ lw_all := lw_g (lw_at lw_m5 219 rfl) rfl
theorem q2573 : (Jvm.Cond.castable "Dredgeledger$Link" "java/lang/Object") ∈ lw_tbl := lw_at lw_m11 126 rfl
theorem in_X6 : ∀ w ∈ wsX60, w ∈ lw_all := lw_in wsX60 [1222, 1224] (by decide +kernel) (by decide +kernel)

/-! Entry -/
set_option maxRecDepth 100000
def RX7 : String := "Entry"
def TX7 : u_T := fun k => match k with
  | 0 => ("Entry", "deed", "LDeed;", true)
  | 1 => ("Entry", "day", "I", true)
  | _ => ("Entry", "number", "I", true)
def tyX7 : Nat → FieldType := fun k => match k with
  | 0 => .object "Deed"
  | 1 => .int
  | _ => .int
abbrev wsX70 : List Cond := u_ws RX7 TX7 3
theorem nmX7 : ∀ a, a < 3 → ∀ b, b < 3 → a ≠ b → (TX7 a).2.1 ≠ (TX7 b).2.1 := by decide +kernel
theorem tyX7_ok : ∀ k, k < 3 → parseFieldDescriptor (TX7 k).2.2.1 = some (tyX7 k) := by decide +kernel
abbrev cX7_init : ByteArray := prog_19_method_1_code
def yX7_init : MethodName := ⟨RX7, "<init>", "(LDeed;II)V"⟩
def dkwX7_init_0 : List UInt8 := [42, 183, 0, 1, 42, 43, 181, 0, 7, 42, 28, 181, 0, 13, 42, 29, 181, 0, 17, 177]
abbrev dktX7_init_0 : List UInt8 := dkwX7_init_0 ++ []
theorem dksX7_init_0 : cX7_init.data.toList.drop 0 = dktX7_init_0 := by decide +kernel
theorem dX7_init_0 : decode cX7_init 0 = .ok (.aload_n 0, 1) := dk_42 (dk_at dksX7_init_0 0 rfl rfl)
theorem dX7_init_1 : decode cX7_init 1 = .ok (.invokespecial 1, 3) := dk_183 0 1 (dk_at dksX7_init_0 1 rfl rfl)
theorem dX7_init_4 : decode cX7_init 4 = .ok (.aload_n 0, 1) := dk_42 (dk_at dksX7_init_0 4 rfl rfl)
theorem dX7_init_5 : decode cX7_init 5 = .ok (.aload_n 1, 1) := dk_43 (dk_at dksX7_init_0 5 rfl rfl)
theorem dX7_init_6 : decode cX7_init 6 = .ok (.putfield 7, 3) := dk_181 0 7 (dk_at dksX7_init_0 6 rfl rfl)
theorem dX7_init_9 : decode cX7_init 9 = .ok (.aload_n 0, 1) := dk_42 (dk_at dksX7_init_0 9 rfl rfl)
theorem dX7_init_10 : decode cX7_init 10 = .ok (.iload_n 2, 1) := dk_28 (dk_at dksX7_init_0 10 rfl rfl)
theorem dX7_init_11 : decode cX7_init 11 = .ok (.putfield 13, 3) := dk_181 0 13 (dk_at dksX7_init_0 11 rfl rfl)
theorem dX7_init_14 : decode cX7_init 14 = .ok (.aload_n 0, 1) := dk_42 (dk_at dksX7_init_0 14 rfl rfl)
theorem dX7_init_15 : decode cX7_init 15 = .ok (.iload_n 3, 1) := dk_29 (dk_at dksX7_init_0 15 rfl rfl)
theorem dX7_init_16 : decode cX7_init 16 = .ok (.putfield 17, 3) := dk_181 0 17 (dk_at dksX7_init_0 16 rfl rfl)
theorem dX7_init_19 : decode cX7_init 19 = .ok (.return_, 1) := dk_177 (dk_at dksX7_init_0 19 rfl rfl)
abbrev cX7_deed : ByteArray := prog_19_method_2_code
def yX7_deed : MethodName := ⟨RX7, "deed", "()LDeed;"⟩
theorem dX7_deed_0 : decode cX7_deed 0 = .ok (.aload_n 0, 1) := by decide +kernel
theorem dX7_deed_1 : decode cX7_deed 1 = .ok (.getfield 7, 3) := by decide +kernel
theorem dX7_deed_4 : decode cX7_deed 4 = .ok (.areturn, 1) := by decide +kernel
abbrev cX7_day : ByteArray := prog_19_method_3_code
def yX7_day : MethodName := ⟨RX7, "day", "()I"⟩
theorem dX7_day_0 : decode cX7_day 0 = .ok (.aload_n 0, 1) := by decide +kernel
theorem dX7_day_1 : decode cX7_day 1 = .ok (.getfield 13, 3) := by decide +kernel
theorem dX7_day_4 : decode cX7_day 4 = .ok (.ireturn, 1) := by decide +kernel
abbrev cX7_number : ByteArray := prog_19_method_4_code
def yX7_number : MethodName := ⟨RX7, "number", "()I"⟩
theorem dX7_number_0 : decode cX7_number 0 = .ok (.aload_n 0, 1) := by decide +kernel
theorem dX7_number_1 : decode cX7_number 1 = .ok (.getfield 17, 3) := by decide +kernel
theorem dX7_number_4 : decode cX7_number 4 = .ok (.ireturn, 1) := by decide +kernel
theorem q84 : (Jvm.Cond.initialized "Entry") ∈ lw_all := lw_g (lw_at lw_m1 37 rfl) rfl
theorem q836 : (Jvm.Cond.selects "Entry" ({ cls := "java/lang/Object", name := "getClass", desc := "()Ljava/lang/Class;" } : Jvm.MethodName) ({ cls := "java/lang/Object", name := "getClass", desc := "()Ljava/lang/Class;" } : Jvm.MethodName)) ∈ lw_all := lw_g (lw_at lw_m4 69 rfl) rfl
theorem q1274 : (Jvm.Cond.instantiable "Entry" (3 : Nat)) ∈ lw_all := lw_g (lw_at lw_m6 27 rfl) rfl
theorem q1276 : (Jvm.Cond.instanceMethod ({ cls := "Entry", name := "<init>", desc := "(LDeed;II)V" } : Jvm.MethodName)) ∈ lw_all := lw_g (lw_at lw_m6 29 rfl) rfl
theorem q1277 : (Jvm.Cond.code ({ cls := "Entry", name := "<init>", desc := "(LDeed;II)V" } : Jvm.MethodName) prog_19_method_1_code (4 : Nat) (Option.none : Option Jvm.ClassFile.FieldType)) ∈ lw_all := lw_g (lw_at lw_m6 30 rfl) rfl
theorem q1278 : (Jvm.Cond.methodLink "Entry" (1 : Nat) ({ cls := "java/lang/Object", name := "<init>", desc := "()V" } : Jvm.MethodName)) ∈ lw_all := lw_g (lw_at lw_m6 31 rfl) rfl
theorem q1279 : (Jvm.Cond.fieldLink "Entry" (7 : Nat) "Entry" "deed" "LDeed;") ∈ lw_all := lw_g (lw_at lw_m6 32 rfl) rfl
theorem q1280 : (Jvm.Cond.fieldLink "Entry" (13 : Nat) "Entry" "day" "I") ∈ lw_all := lw_g (lw_at lw_m6 33 rfl) rfl
theorem q1281 : (Jvm.Cond.fieldLink "Entry" (17 : Nat) "Entry" "number" "I") ∈ lw_all := lw_g (lw_at lw_m6 34 rfl) rfl
theorem q1282 : (Jvm.Cond.laysFinal "Entry" "Entry" "deed" "LDeed;") ∈ lw_all := lw_g (lw_at lw_m6 35 rfl) rfl
theorem q1283 : (Jvm.Cond.soleField "Entry" "deed") ∈ lw_all := lw_g (lw_at lw_m6 36 rfl) rfl
theorem q1284 : (Jvm.Cond.laysFinal "Entry" "Entry" "day" "I") ∈ lw_all := lw_g (lw_at lw_m6 37 rfl) rfl
theorem q1285 : (Jvm.Cond.soleField "Entry" "day") ∈ lw_all := lw_g (lw_at lw_m6 38 rfl) rfl
theorem q1286 : (Jvm.Cond.laysFinal "Entry" "Entry" "number" "I") ∈ lw_all := lw_g (lw_at lw_m6 39 rfl) rfl
theorem q1287 : (Jvm.Cond.soleField "Entry" "number") ∈ lw_all := lw_g (lw_at lw_m6 40 rfl) rfl
theorem q1288 : (Jvm.Cond.superclass "Entry" "java/lang/Object") ∈ lw_all := lw_g (lw_at lw_m6 41 rfl) rfl
theorem q2516 : (Jvm.Cond.instanceMethod ({ cls := "Entry", name := "deed", desc := "()LDeed;" } : Jvm.MethodName)) ∈ lw_all := lw_g (lw_at lw_m11 69 rfl) rfl
theorem q2517 : (Jvm.Cond.selects "Entry" ({ cls := "Entry", name := "deed", desc := "()LDeed;" } : Jvm.MethodName) ({ cls := "Entry", name := "deed", desc := "()LDeed;" } : Jvm.MethodName)) ∈ lw_all := lw_g (lw_at lw_m11 70 rfl) rfl
theorem q2518 : (Jvm.Cond.code ({ cls := "Entry", name := "deed", desc := "()LDeed;" } : Jvm.MethodName) prog_19_method_2_code (1 : Nat) (Option.some (Jvm.ClassFile.FieldType.object "Deed"))) ∈ lw_all := lw_g (lw_at lw_m11 71 rfl) rfl
theorem q2520 : (Jvm.Cond.instanceMethod ({ cls := "Entry", name := "day", desc := "()I" } : Jvm.MethodName)) ∈ lw_all := lw_g (lw_at lw_m11 73 rfl) rfl
theorem q2521 : (Jvm.Cond.selects "Entry" ({ cls := "Entry", name := "day", desc := "()I" } : Jvm.MethodName) ({ cls := "Entry", name := "day", desc := "()I" } : Jvm.MethodName)) ∈ lw_all := lw_g (lw_at lw_m11 74 rfl) rfl
theorem q2522 : (Jvm.Cond.code ({ cls := "Entry", name := "day", desc := "()I" } : Jvm.MethodName) prog_19_method_3_code (1 : Nat) (Option.some Jvm.ClassFile.FieldType.int)) ∈ lw_all := lw_g (lw_at lw_m11 75 rfl) rfl
theorem q2524 : (Jvm.Cond.instanceMethod ({ cls := "Entry", name := "number", desc := "()I" } : Jvm.MethodName)) ∈ lw_all := lw_g (lw_at lw_m11 77 rfl) rfl
theorem q2525 : (Jvm.Cond.selects "Entry" ({ cls := "Entry", name := "number", desc := "()I" } : Jvm.MethodName) ({ cls := "Entry", name := "number", desc := "()I" } : Jvm.MethodName)) ∈ lw_all := lw_g (lw_at lw_m11 78 rfl) rfl
theorem q2526 : (Jvm.Cond.code ({ cls := "Entry", name := "number", desc := "()I" } : Jvm.MethodName) prog_19_method_4_code (1 : Nat) (Option.some Jvm.ClassFile.FieldType.int)) ∈ lw_all := lw_g (lw_at lw_m11 79 rfl) rfl
theorem q2575 : (Jvm.Cond.castable "Entry" "java/lang/Object") ∈ lw_tbl := lw_at lw_m11 128 rfl
theorem in_X7 : ∀ w ∈ wsX70, w ∈ lw_all := lw_in wsX70 [1282, 1284, 1286] (by decide +kernel) (by decide +kernel)

/-! Dredgeledger$Ground -/
set_option maxRecDepth 100000
def RX8 : String := "Dredgeledger$Ground"
def TX8 : u_T := fun k => match k with
  | 0 => ("Dredgeledger$Ground", "space", "I", true)
  | 1 => ("Dredgeledger$Ground", "tide", "I", true)
  | _ => ("Dredgeledger$Ground", "dumped", "I", false)
def tyX8 : Nat → FieldType := fun k => match k with
  | 0 => .int
  | 1 => .int
  | _ => .int
abbrev wsX80 : List Cond := u_ws RX8 TX8 3
theorem nmX8 : ∀ a, a < 3 → ∀ b, b < 3 → a ≠ b → (TX8 a).2.1 ≠ (TX8 b).2.1 := by decide +kernel
theorem tyX8_ok : ∀ k, k < 3 → parseFieldDescriptor (TX8 k).2.2.1 = some (tyX8 k) := by decide +kernel
abbrev cX8_init : ByteArray := prog_7_method_1_code
def yX8_init : MethodName := ⟨RX8, "<init>", "(II)V"⟩
def dkwX8_init_0 : List UInt8 := [42, 183, 0, 1, 42, 27, 181, 0, 7, 42, 28, 181, 0, 13, 177]
abbrev dktX8_init_0 : List UInt8 := dkwX8_init_0 ++ []
theorem dksX8_init_0 : cX8_init.data.toList.drop 0 = dktX8_init_0 := by decide +kernel
theorem dX8_init_0 : decode cX8_init 0 = .ok (.aload_n 0, 1) := dk_42 (dk_at dksX8_init_0 0 rfl rfl)
theorem dX8_init_1 : decode cX8_init 1 = .ok (.invokespecial 1, 3) := dk_183 0 1 (dk_at dksX8_init_0 1 rfl rfl)
theorem dX8_init_4 : decode cX8_init 4 = .ok (.aload_n 0, 1) := dk_42 (dk_at dksX8_init_0 4 rfl rfl)
theorem dX8_init_5 : decode cX8_init 5 = .ok (.iload_n 1, 1) := dk_27 (dk_at dksX8_init_0 5 rfl rfl)
theorem dX8_init_6 : decode cX8_init 6 = .ok (.putfield 7, 3) := dk_181 0 7 (dk_at dksX8_init_0 6 rfl rfl)
theorem dX8_init_9 : decode cX8_init 9 = .ok (.aload_n 0, 1) := dk_42 (dk_at dksX8_init_0 9 rfl rfl)
theorem dX8_init_10 : decode cX8_init 10 = .ok (.iload_n 2, 1) := dk_28 (dk_at dksX8_init_0 10 rfl rfl)
theorem dX8_init_11 : decode cX8_init 11 = .ok (.putfield 13, 3) := dk_181 0 13 (dk_at dksX8_init_0 11 rfl rfl)
theorem dX8_init_14 : decode cX8_init 14 = .ok (.return_, 1) := dk_177 (dk_at dksX8_init_0 14 rfl rfl)
theorem q94 : (Jvm.Cond.initialized "Dredgeledger$Ground") ∈ lw_all := lw_g (lw_at lw_m1 47 rfl) rfl
theorem q826 : (Jvm.Cond.selects "Dredgeledger$Ground" ({ cls := "java/lang/Object", name := "getClass", desc := "()Ljava/lang/Class;" } : Jvm.MethodName) ({ cls := "java/lang/Object", name := "getClass", desc := "()Ljava/lang/Class;" } : Jvm.MethodName)) ∈ lw_all := lw_g (lw_at lw_m4 59 rfl) rfl
theorem q1557 : (Jvm.Cond.instantiable "Dredgeledger$Ground" (3 : Nat)) ∈ lw_all := lw_g (lw_at lw_m7 70 rfl) rfl
theorem q1559 : (Jvm.Cond.instanceMethod ({ cls := "Dredgeledger$Ground", name := "<init>", desc := "(II)V" } : Jvm.MethodName)) ∈ lw_all := lw_g (lw_at lw_m7 72 rfl) rfl
theorem q1560 : (Jvm.Cond.code ({ cls := "Dredgeledger$Ground", name := "<init>", desc := "(II)V" } : Jvm.MethodName) prog_7_method_1_code (3 : Nat) (Option.none : Option Jvm.ClassFile.FieldType)) ∈ lw_all := lw_g (lw_at lw_m7 73 rfl) rfl
theorem q1561 : (Jvm.Cond.methodLink "Dredgeledger$Ground" (1 : Nat) ({ cls := "java/lang/Object", name := "<init>", desc := "()V" } : Jvm.MethodName)) ∈ lw_all := lw_g (lw_at lw_m7 74 rfl) rfl
theorem q1562 : (Jvm.Cond.fieldLink "Dredgeledger$Ground" (7 : Nat) "Dredgeledger$Ground" "space" "I") ∈ lw_all := lw_g (lw_at lw_m7 75 rfl) rfl
theorem q1564 : (Jvm.Cond.fieldLink "Dredgeledger$Ground" (13 : Nat) "Dredgeledger$Ground" "tide" "I") ∈ lw_all := lw_g (lw_at lw_m7 77 rfl) rfl
theorem q1567 : (Jvm.Cond.laysFinal "Dredgeledger$Ground" "Dredgeledger$Ground" "space" "I") ∈ lw_all := lw_g (lw_at lw_m7 80 rfl) rfl
theorem q1568 : (Jvm.Cond.soleField "Dredgeledger$Ground" "space") ∈ lw_all := lw_g (lw_at lw_m7 81 rfl) rfl
theorem q1569 : (Jvm.Cond.laysFinal "Dredgeledger$Ground" "Dredgeledger$Ground" "tide" "I") ∈ lw_all := lw_g (lw_at lw_m7 82 rfl) rfl
theorem q1570 : (Jvm.Cond.soleField "Dredgeledger$Ground" "tide") ∈ lw_all := lw_g (lw_at lw_m7 83 rfl) rfl
theorem q1571 : (Jvm.Cond.lays "Dredgeledger$Ground" "Dredgeledger$Ground" "dumped" "I") ∈ lw_all := lw_g (lw_at lw_m7 84 rfl) rfl
theorem q1572 : (Jvm.Cond.soleField "Dredgeledger$Ground" "dumped") ∈ lw_all := lw_g (lw_at lw_m7 85 rfl) rfl
theorem q1573 : (Jvm.Cond.superclass "Dredgeledger$Ground" "java/lang/Object") ∈ lw_all := lw_g (lw_at lw_m7 86 rfl) rfl
theorem q2581 : (Jvm.Cond.castable "Dredgeledger$Ground" "java/lang/Object") ∈ lw_tbl := lw_at lw_m11 134 rfl
theorem in_X8 : ∀ w ∈ wsX80, w ∈ lw_all := lw_in wsX80 [1567, 1569, 1571] (by decide +kernel) (by decide +kernel)

/-! Dredgeledger$Permit -/
set_option maxRecDepth 100000
def RX9 : String := "Dredgeledger$Permit"
def TX9 : u_T := fun k => match k with
  | 0 => ("Dredgeledger$Permit", "ground", "I", true)
  | 1 => ("Dredgeledger$Permit", "first", "I", true)
  | 2 => ("Dredgeledger$Permit", "last", "I", true)
  | _ => ("Dredgeledger$Permit", "volume", "I", false)
def tyX9 : Nat → FieldType := fun k => match k with
  | 0 => .int
  | 1 => .int
  | 2 => .int
  | _ => .int
abbrev wsX90 : List Cond := u_ws RX9 TX9 4
theorem nmX9 : ∀ a, a < 4 → ∀ b, b < 4 → a ≠ b → (TX9 a).2.1 ≠ (TX9 b).2.1 := by decide +kernel
theorem tyX9_ok : ∀ k, k < 4 → parseFieldDescriptor (TX9 k).2.2.1 = some (tyX9 k) := by decide +kernel
abbrev cX9_init : ByteArray := prog_10_method_1_code
def yX9_init : MethodName := ⟨RX9, "<init>", "(IIII)V"⟩
def dkwX9_init_1 : List UInt8 := [181, 0, 19, 177]
abbrev dktX9_init_1 : List UInt8 := dkwX9_init_1 ++ []
def dkwX9_init_0 : List UInt8 := [42, 183, 0, 1, 42, 27, 181, 0, 7, 42, 28, 181, 0, 13, 42, 29, 181, 0, 16, 42, 21, 4]
abbrev dktX9_init_0 : List UInt8 := dkwX9_init_0 ++ dktX9_init_1
theorem dksX9_init_0 : cX9_init.data.toList.drop 0 = dktX9_init_0 := by decide +kernel
theorem dksX9_init_1 : cX9_init.data.toList.drop 22 = dktX9_init_1 := dk_seg dksX9_init_0 22 rfl rfl
theorem dX9_init_0 : decode cX9_init 0 = .ok (.aload_n 0, 1) := dk_42 (dk_at dksX9_init_0 0 rfl rfl)
theorem dX9_init_1 : decode cX9_init 1 = .ok (.invokespecial 1, 3) := dk_183 0 1 (dk_at dksX9_init_0 1 rfl rfl)
theorem dX9_init_4 : decode cX9_init 4 = .ok (.aload_n 0, 1) := dk_42 (dk_at dksX9_init_0 4 rfl rfl)
theorem dX9_init_5 : decode cX9_init 5 = .ok (.iload_n 1, 1) := dk_27 (dk_at dksX9_init_0 5 rfl rfl)
theorem dX9_init_6 : decode cX9_init 6 = .ok (.putfield 7, 3) := dk_181 0 7 (dk_at dksX9_init_0 6 rfl rfl)
theorem dX9_init_9 : decode cX9_init 9 = .ok (.aload_n 0, 1) := dk_42 (dk_at dksX9_init_0 9 rfl rfl)
theorem dX9_init_10 : decode cX9_init 10 = .ok (.iload_n 2, 1) := dk_28 (dk_at dksX9_init_0 10 rfl rfl)
theorem dX9_init_11 : decode cX9_init 11 = .ok (.putfield 13, 3) := dk_181 0 13 (dk_at dksX9_init_0 11 rfl rfl)
theorem dX9_init_14 : decode cX9_init 14 = .ok (.aload_n 0, 1) := dk_42 (dk_at dksX9_init_0 14 rfl rfl)
theorem dX9_init_15 : decode cX9_init 15 = .ok (.iload_n 3, 1) := dk_29 (dk_at dksX9_init_0 15 rfl rfl)
theorem dX9_init_16 : decode cX9_init 16 = .ok (.putfield 16, 3) := dk_181 0 16 (dk_at dksX9_init_0 16 rfl rfl)
theorem dX9_init_19 : decode cX9_init 19 = .ok (.aload_n 0, 1) := dk_42 (dk_at dksX9_init_0 19 rfl rfl)
theorem dX9_init_20 : decode cX9_init 20 = .ok (.iload 4, 2) := dk_21 4 (dk_at dksX9_init_0 20 rfl rfl)
theorem dX9_init_22 : decode cX9_init 22 = .ok (.putfield 19, 3) := dk_181 0 19 (dk_at dksX9_init_1 0 rfl rfl)
theorem dX9_init_25 : decode cX9_init 25 = .ok (.return_, 1) := dk_177 (dk_at dksX9_init_1 3 rfl rfl)
abbrev cX9_holds : ByteArray := prog_10_method_2_code
def yX9_holds : MethodName := ⟨RX9, "holds", "(II)Z"⟩
def dkwX9_holds_1 : List UInt8 := [167, 0, 4, 3, 172]
abbrev dktX9_holds_1 : List UInt8 := dkwX9_holds_1 ++ []
def dkwX9_holds_0 : List UInt8 := [42, 180, 0, 7, 27, 160, 0, 22, 28, 42, 180, 0, 13, 42, 180, 0, 16, 184, 0, 22, 153, 0, 7, 4]
abbrev dktX9_holds_0 : List UInt8 := dkwX9_holds_0 ++ dktX9_holds_1
theorem dksX9_holds_0 : cX9_holds.data.toList.drop 0 = dktX9_holds_0 := by decide +kernel
theorem dksX9_holds_1 : cX9_holds.data.toList.drop 24 = dktX9_holds_1 := dk_seg dksX9_holds_0 24 rfl rfl
theorem dX9_holds_0 : decode cX9_holds 0 = .ok (.aload_n 0, 1) := dk_42 (dk_at dksX9_holds_0 0 rfl rfl)
theorem dX9_holds_1 : decode cX9_holds 1 = .ok (.getfield 7, 3) := dk_180 0 7 (dk_at dksX9_holds_0 1 rfl rfl)
theorem dX9_holds_4 : decode cX9_holds 4 = .ok (.iload_n 1, 1) := dk_27 (dk_at dksX9_holds_0 4 rfl rfl)
theorem dX9_holds_5 : decode cX9_holds 5 = .ok (.if_icmp .ne 22, 3) := dk_160 0 22 (dk_at dksX9_holds_0 5 rfl rfl)
theorem dX9_holds_8 : decode cX9_holds 8 = .ok (.iload_n 2, 1) := dk_28 (dk_at dksX9_holds_0 8 rfl rfl)
theorem dX9_holds_9 : decode cX9_holds 9 = .ok (.aload_n 0, 1) := dk_42 (dk_at dksX9_holds_0 9 rfl rfl)
theorem dX9_holds_10 : decode cX9_holds 10 = .ok (.getfield 13, 3) := dk_180 0 13 (dk_at dksX9_holds_0 10 rfl rfl)
theorem dX9_holds_13 : decode cX9_holds 13 = .ok (.aload_n 0, 1) := dk_42 (dk_at dksX9_holds_0 13 rfl rfl)
theorem dX9_holds_14 : decode cX9_holds 14 = .ok (.getfield 16, 3) := dk_180 0 16 (dk_at dksX9_holds_0 14 rfl rfl)
theorem dX9_holds_17 : decode cX9_holds 17 = .ok (.invokestatic 22, 3) := dk_184 0 22 (dk_at dksX9_holds_0 17 rfl rfl)
theorem dX9_holds_20 : decode cX9_holds 20 = .ok (.ifCond .eq 7, 3) := dk_153 0 7 (dk_at dksX9_holds_0 20 rfl rfl)
theorem dX9_holds_23 : decode cX9_holds 23 = .ok (.iconst 1, 1) := dk_4 (dk_at dksX9_holds_0 23 rfl rfl)
theorem dX9_holds_24 : decode cX9_holds 24 = .ok (.goto 4, 3) := dk_167 0 4 (dk_at dksX9_holds_1 0 rfl rfl)
theorem dX9_holds_27 : decode cX9_holds 27 = .ok (.iconst 0, 1) := dk_3 (dk_at dksX9_holds_1 3 rfl rfl)
theorem dX9_holds_28 : decode cX9_holds 28 = .ok (.ireturn, 1) := dk_172 (dk_at dksX9_holds_1 4 rfl rfl)
theorem q95 : (Jvm.Cond.initialized "Dredgeledger$Permit") ∈ lw_all := lw_g (lw_at lw_m1 48 rfl) rfl
theorem q829 : (Jvm.Cond.selects "Dredgeledger$Permit" ({ cls := "java/lang/Object", name := "getClass", desc := "()Ljava/lang/Class;" } : Jvm.MethodName) ({ cls := "java/lang/Object", name := "getClass", desc := "()Ljava/lang/Class;" } : Jvm.MethodName)) ∈ lw_all := lw_g (lw_at lw_m4 62 rfl) rfl
theorem q1613 : (Jvm.Cond.instantiable "Dredgeledger$Permit" (4 : Nat)) ∈ lw_all := lw_g (lw_at lw_m7 126 rfl) rfl
theorem q1615 : (Jvm.Cond.instanceMethod ({ cls := "Dredgeledger$Permit", name := "<init>", desc := "(IIII)V" } : Jvm.MethodName)) ∈ lw_all := lw_g (lw_at lw_m7 128 rfl) rfl
theorem q1616 : (Jvm.Cond.code ({ cls := "Dredgeledger$Permit", name := "<init>", desc := "(IIII)V" } : Jvm.MethodName) prog_10_method_1_code (5 : Nat) (Option.none : Option Jvm.ClassFile.FieldType)) ∈ lw_all := lw_g (lw_at lw_m7 129 rfl) rfl
theorem q1617 : (Jvm.Cond.methodLink "Dredgeledger$Permit" (1 : Nat) ({ cls := "java/lang/Object", name := "<init>", desc := "()V" } : Jvm.MethodName)) ∈ lw_all := lw_g (lw_at lw_m7 130 rfl) rfl
theorem q1618 : (Jvm.Cond.fieldLink "Dredgeledger$Permit" (7 : Nat) "Dredgeledger$Permit" "ground" "I") ∈ lw_all := lw_g (lw_at lw_m7 131 rfl) rfl
theorem q1619 : (Jvm.Cond.fieldLink "Dredgeledger$Permit" (13 : Nat) "Dredgeledger$Permit" "first" "I") ∈ lw_all := lw_g (lw_at lw_m7 132 rfl) rfl
theorem q1620 : (Jvm.Cond.fieldLink "Dredgeledger$Permit" (16 : Nat) "Dredgeledger$Permit" "last" "I") ∈ lw_all := lw_g (lw_at lw_m7 133 rfl) rfl
theorem q1622 : (Jvm.Cond.fieldLink "Dredgeledger$Permit" (19 : Nat) "Dredgeledger$Permit" "volume" "I") ∈ lw_all := lw_g (lw_at lw_m7 135 rfl) rfl
theorem q1624 : (Jvm.Cond.laysFinal "Dredgeledger$Permit" "Dredgeledger$Permit" "ground" "I") ∈ lw_all := lw_g (lw_at lw_m7 137 rfl) rfl
theorem q1625 : (Jvm.Cond.soleField "Dredgeledger$Permit" "ground") ∈ lw_all := lw_g (lw_at lw_m7 138 rfl) rfl
theorem q1626 : (Jvm.Cond.laysFinal "Dredgeledger$Permit" "Dredgeledger$Permit" "first" "I") ∈ lw_all := lw_g (lw_at lw_m7 139 rfl) rfl
theorem q1627 : (Jvm.Cond.soleField "Dredgeledger$Permit" "first") ∈ lw_all := lw_g (lw_at lw_m7 140 rfl) rfl
theorem q1628 : (Jvm.Cond.laysFinal "Dredgeledger$Permit" "Dredgeledger$Permit" "last" "I") ∈ lw_all := lw_g (lw_at lw_m7 141 rfl) rfl
theorem q1629 : (Jvm.Cond.soleField "Dredgeledger$Permit" "last") ∈ lw_all := lw_g (lw_at lw_m7 142 rfl) rfl
theorem q1630 : (Jvm.Cond.lays "Dredgeledger$Permit" "Dredgeledger$Permit" "volume" "I") ∈ lw_all := lw_g (lw_at lw_m7 143 rfl) rfl
theorem q1631 : (Jvm.Cond.soleField "Dredgeledger$Permit" "volume") ∈ lw_all := lw_g (lw_at lw_m7 144 rfl) rfl
theorem q1632 : (Jvm.Cond.superclass "Dredgeledger$Permit" "java/lang/Object") ∈ lw_all := lw_g (lw_at lw_m7 145 rfl) rfl
theorem q1675 : (Jvm.Cond.instanceMethod ({ cls := "Dredgeledger$Permit", name := "holds", desc := "(II)Z" } : Jvm.MethodName)) ∈ lw_all := lw_g (lw_at lw_m7 188 rfl) rfl
theorem q1676 : (Jvm.Cond.selects "Dredgeledger$Permit" ({ cls := "Dredgeledger$Permit", name := "holds", desc := "(II)Z" } : Jvm.MethodName) ({ cls := "Dredgeledger$Permit", name := "holds", desc := "(II)Z" } : Jvm.MethodName)) ∈ lw_all := lw_g (lw_at lw_m7 189 rfl) rfl
theorem q1677 : (Jvm.Cond.code ({ cls := "Dredgeledger$Permit", name := "holds", desc := "(II)Z" } : Jvm.MethodName) prog_10_method_2_code (3 : Nat) (Option.some Jvm.ClassFile.FieldType.boolean)) ∈ lw_all := lw_g (lw_at lw_m7 190 rfl) rfl
theorem q1678 : (Jvm.Cond.methodLinkNest "Dredgeledger$Permit" (22 : Nat) ({ cls := "Dredgeledger", name := "isBetween", desc := "(III)Z" } : Jvm.MethodName) "Dredgeledger") ∈ lw_tbl := lw_at lw_m7 191 rfl
theorem q2582 : (Jvm.Cond.castable "Dredgeledger$Permit" "java/lang/Object") ∈ lw_tbl := lw_at lw_m11 135 rfl
theorem in_X9 : ∀ w ∈ wsX90, w ∈ lw_all := lw_in wsX90 [1624, 1626, 1628, 1630] (by decide +kernel) (by decide +kernel)

/-! Dredgeledger$Survey -/
set_option maxRecDepth 100000
def RX10 : String := "Dredgeledger$Survey"
def TX10 : u_T := fun k => match k with
  | 0 => ("Dredgeledger$Survey", "number", "I", true)
  | 1 => ("Dredgeledger$Survey", "first", "I", true)
  | 2 => ("Dredgeledger$Survey", "trust", "I", true)
  | 3 => ("Dredgeledger$Survey", "told", "[S", true)
  | _ => ("Dredgeledger$Survey", "isSettled", "Z", false)
def tyX10 : Nat → FieldType := fun k => match k with
  | 0 => .int
  | 1 => .int
  | 2 => .int
  | 3 => .array .short
  | _ => .boolean
abbrev wsX100 : List Cond := u_ws RX10 TX10 5
theorem nmX10 : ∀ a, a < 5 → ∀ b, b < 5 → a ≠ b → (TX10 a).2.1 ≠ (TX10 b).2.1 := by decide +kernel
theorem tyX10_ok : ∀ k, k < 5 → parseFieldDescriptor (TX10 k).2.2.1 = some (tyX10 k) := by decide +kernel
abbrev cX10_tells : ByteArray := prog_15_method_2_code
def yX10_tells : MethodName := ⟨RX10, "tells", "(I)Z"⟩
def dkwX10_tells_0 : List UInt8 := [27, 42, 180, 0, 13, 42, 180, 0, 13, 42, 180, 0, 19, 190, 96, 4, 100, 184, 0, 23, 172]
abbrev dktX10_tells_0 : List UInt8 := dkwX10_tells_0 ++ []
theorem dksX10_tells_0 : cX10_tells.data.toList.drop 0 = dktX10_tells_0 := by decide +kernel
theorem dX10_tells_0 : decode cX10_tells 0 = .ok (.iload_n 1, 1) := dk_27 (dk_at dksX10_tells_0 0 rfl rfl)
theorem dX10_tells_1 : decode cX10_tells 1 = .ok (.aload_n 0, 1) := dk_42 (dk_at dksX10_tells_0 1 rfl rfl)
theorem dX10_tells_2 : decode cX10_tells 2 = .ok (.getfield 13, 3) := dk_180 0 13 (dk_at dksX10_tells_0 2 rfl rfl)
theorem dX10_tells_5 : decode cX10_tells 5 = .ok (.aload_n 0, 1) := dk_42 (dk_at dksX10_tells_0 5 rfl rfl)
theorem dX10_tells_6 : decode cX10_tells 6 = .ok (.getfield 13, 3) := dk_180 0 13 (dk_at dksX10_tells_0 6 rfl rfl)
theorem dX10_tells_9 : decode cX10_tells 9 = .ok (.aload_n 0, 1) := dk_42 (dk_at dksX10_tells_0 9 rfl rfl)
theorem dX10_tells_10 : decode cX10_tells 10 = .ok (.getfield 19, 3) := dk_180 0 19 (dk_at dksX10_tells_0 10 rfl rfl)
theorem dX10_tells_13 : decode cX10_tells 13 = .ok (.arraylength, 1) := dk_190 (dk_at dksX10_tells_0 13 rfl rfl)
theorem dX10_tells_14 : decode cX10_tells 14 = .ok (.iadd, 1) := dk_96 (dk_at dksX10_tells_0 14 rfl rfl)
theorem dX10_tells_15 : decode cX10_tells 15 = .ok (.iconst 1, 1) := dk_4 (dk_at dksX10_tells_0 15 rfl rfl)
theorem dX10_tells_16 : decode cX10_tells 16 = .ok (.isub, 1) := dk_100 (dk_at dksX10_tells_0 16 rfl rfl)
theorem dX10_tells_17 : decode cX10_tells 17 = .ok (.invokestatic 23, 3) := dk_184 0 23 (dk_at dksX10_tells_0 17 rfl rfl)
theorem dX10_tells_20 : decode cX10_tells 20 = .ok (.ireturn, 1) := dk_172 (dk_at dksX10_tells_0 20 rfl rfl)
abbrev cX10_of : ByteArray := prog_15_method_3_code
def yX10_of : MethodName := ⟨RX10, "of", "(I)I"⟩
def dkwX10_of_0 : List UInt8 := [42, 180, 0, 19, 27, 42, 180, 0, 13, 100, 53, 172]
abbrev dktX10_of_0 : List UInt8 := dkwX10_of_0 ++ []
theorem dksX10_of_0 : cX10_of.data.toList.drop 0 = dktX10_of_0 := by decide +kernel
theorem dX10_of_0 : decode cX10_of 0 = .ok (.aload_n 0, 1) := dk_42 (dk_at dksX10_of_0 0 rfl rfl)
theorem dX10_of_1 : decode cX10_of 1 = .ok (.getfield 19, 3) := dk_180 0 19 (dk_at dksX10_of_0 1 rfl rfl)
theorem dX10_of_4 : decode cX10_of 4 = .ok (.iload_n 1, 1) := dk_27 (dk_at dksX10_of_0 4 rfl rfl)
theorem dX10_of_5 : decode cX10_of 5 = .ok (.aload_n 0, 1) := dk_42 (dk_at dksX10_of_0 5 rfl rfl)
theorem dX10_of_6 : decode cX10_of 6 = .ok (.getfield 13, 3) := dk_180 0 13 (dk_at dksX10_of_0 6 rfl rfl)
theorem dX10_of_9 : decode cX10_of 9 = .ok (.isub, 1) := dk_100 (dk_at dksX10_of_0 9 rfl rfl)
theorem dX10_of_10 : decode cX10_of 10 = .ok (.saload, 1) := dk_53 (dk_at dksX10_of_0 10 rfl rfl)
theorem dX10_of_11 : decode cX10_of 11 = .ok (.ireturn, 1) := dk_172 (dk_at dksX10_of_0 11 rfl rfl)
abbrev cX10_init : ByteArray := prog_15_method_1_code
def yX10_init : MethodName := ⟨RX10, "<init>", "(III[S)V"⟩
def dkwX10_init_1 : List UInt8 := [181, 0, 19, 177]
abbrev dktX10_init_1 : List UInt8 := dkwX10_init_1 ++ []
def dkwX10_init_0 : List UInt8 := [42, 183, 0, 1, 42, 27, 181, 0, 7, 42, 28, 181, 0, 13, 42, 29, 181, 0, 16, 42, 25, 4]
abbrev dktX10_init_0 : List UInt8 := dkwX10_init_0 ++ dktX10_init_1
theorem dksX10_init_0 : cX10_init.data.toList.drop 0 = dktX10_init_0 := by decide +kernel
theorem dksX10_init_1 : cX10_init.data.toList.drop 22 = dktX10_init_1 := dk_seg dksX10_init_0 22 rfl rfl
theorem dX10_init_0 : decode cX10_init 0 = .ok (.aload_n 0, 1) := dk_42 (dk_at dksX10_init_0 0 rfl rfl)
theorem dX10_init_1 : decode cX10_init 1 = .ok (.invokespecial 1, 3) := dk_183 0 1 (dk_at dksX10_init_0 1 rfl rfl)
theorem dX10_init_4 : decode cX10_init 4 = .ok (.aload_n 0, 1) := dk_42 (dk_at dksX10_init_0 4 rfl rfl)
theorem dX10_init_5 : decode cX10_init 5 = .ok (.iload_n 1, 1) := dk_27 (dk_at dksX10_init_0 5 rfl rfl)
theorem dX10_init_6 : decode cX10_init 6 = .ok (.putfield 7, 3) := dk_181 0 7 (dk_at dksX10_init_0 6 rfl rfl)
theorem dX10_init_9 : decode cX10_init 9 = .ok (.aload_n 0, 1) := dk_42 (dk_at dksX10_init_0 9 rfl rfl)
theorem dX10_init_10 : decode cX10_init 10 = .ok (.iload_n 2, 1) := dk_28 (dk_at dksX10_init_0 10 rfl rfl)
theorem dX10_init_11 : decode cX10_init 11 = .ok (.putfield 13, 3) := dk_181 0 13 (dk_at dksX10_init_0 11 rfl rfl)
theorem dX10_init_14 : decode cX10_init 14 = .ok (.aload_n 0, 1) := dk_42 (dk_at dksX10_init_0 14 rfl rfl)
theorem dX10_init_15 : decode cX10_init 15 = .ok (.iload_n 3, 1) := dk_29 (dk_at dksX10_init_0 15 rfl rfl)
theorem dX10_init_16 : decode cX10_init 16 = .ok (.putfield 16, 3) := dk_181 0 16 (dk_at dksX10_init_0 16 rfl rfl)
theorem dX10_init_19 : decode cX10_init 19 = .ok (.aload_n 0, 1) := dk_42 (dk_at dksX10_init_0 19 rfl rfl)
theorem dX10_init_20 : decode cX10_init 20 = .ok (.aload 4, 2) := dk_25 4 (dk_at dksX10_init_0 20 rfl rfl)
theorem dX10_init_22 : decode cX10_init 22 = .ok (.putfield 19, 3) := dk_181 0 19 (dk_at dksX10_init_1 0 rfl rfl)
theorem dX10_init_25 : decode cX10_init 25 = .ok (.return_, 1) := dk_177 (dk_at dksX10_init_1 3 rfl rfl)
theorem q97 : (Jvm.Cond.initialized "Dredgeledger$Survey") ∈ lw_all := lw_g (lw_at lw_m1 50 rfl) rfl
theorem q833 : (Jvm.Cond.selects "Dredgeledger$Survey" ({ cls := "java/lang/Object", name := "getClass", desc := "()Ljava/lang/Class;" } : Jvm.MethodName) ({ cls := "java/lang/Object", name := "getClass", desc := "()Ljava/lang/Class;" } : Jvm.MethodName)) ∈ lw_all := lw_g (lw_at lw_m4 66 rfl) rfl
theorem q999 : (Jvm.Cond.instanceMethod ({ cls := "Dredgeledger$Survey", name := "tells", desc := "(I)Z" } : Jvm.MethodName)) ∈ lw_all := lw_g (lw_at lw_m4 232 rfl) rfl
theorem q1000 : (Jvm.Cond.selects "Dredgeledger$Survey" ({ cls := "Dredgeledger$Survey", name := "tells", desc := "(I)Z" } : Jvm.MethodName) ({ cls := "Dredgeledger$Survey", name := "tells", desc := "(I)Z" } : Jvm.MethodName)) ∈ lw_all := lw_g (lw_at lw_m4 233 rfl) rfl
theorem q1001 : (Jvm.Cond.code ({ cls := "Dredgeledger$Survey", name := "tells", desc := "(I)Z" } : Jvm.MethodName) prog_15_method_2_code (2 : Nat) (Option.some Jvm.ClassFile.FieldType.boolean)) ∈ lw_all := lw_g (lw_at lw_m4 234 rfl) rfl
theorem q1002 : (Jvm.Cond.methodLinkNest "Dredgeledger$Survey" (23 : Nat) ({ cls := "Dredgeledger", name := "isBetween", desc := "(III)Z" } : Jvm.MethodName) "Dredgeledger") ∈ lw_tbl := lw_at lw_m4 235 rfl
theorem q1006 : (Jvm.Cond.instanceMethod ({ cls := "Dredgeledger$Survey", name := "of", desc := "(I)I" } : Jvm.MethodName)) ∈ lw_all := lw_g (lw_at lw_m4 239 rfl) rfl
theorem q1007 : (Jvm.Cond.selects "Dredgeledger$Survey" ({ cls := "Dredgeledger$Survey", name := "of", desc := "(I)I" } : Jvm.MethodName) ({ cls := "Dredgeledger$Survey", name := "of", desc := "(I)I" } : Jvm.MethodName)) ∈ lw_all := lw_g (lw_at lw_m5 0 rfl) rfl
theorem q1008 : (Jvm.Cond.code ({ cls := "Dredgeledger$Survey", name := "of", desc := "(I)I" } : Jvm.MethodName) prog_15_method_3_code (2 : Nat) (Option.some Jvm.ClassFile.FieldType.int)) ∈ lw_all := lw_g (lw_at lw_m5 1 rfl) rfl
theorem q1708 : (Jvm.Cond.instantiable "Dredgeledger$Survey" (5 : Nat)) ∈ lw_all := lw_g (lw_at lw_m7 221 rfl) rfl
theorem q1710 : (Jvm.Cond.instanceMethod ({ cls := "Dredgeledger$Survey", name := "<init>", desc := "(III[S)V" } : Jvm.MethodName)) ∈ lw_all := lw_g (lw_at lw_m7 223 rfl) rfl
theorem q1711 : (Jvm.Cond.code ({ cls := "Dredgeledger$Survey", name := "<init>", desc := "(III[S)V" } : Jvm.MethodName) prog_15_method_1_code (5 : Nat) (Option.none : Option Jvm.ClassFile.FieldType)) ∈ lw_all := lw_g (lw_at lw_m7 224 rfl) rfl
theorem q1712 : (Jvm.Cond.methodLink "Dredgeledger$Survey" (1 : Nat) ({ cls := "java/lang/Object", name := "<init>", desc := "()V" } : Jvm.MethodName)) ∈ lw_all := lw_g (lw_at lw_m7 225 rfl) rfl
theorem q1713 : (Jvm.Cond.fieldLink "Dredgeledger$Survey" (7 : Nat) "Dredgeledger$Survey" "number" "I") ∈ lw_all := lw_g (lw_at lw_m7 226 rfl) rfl
theorem q1714 : (Jvm.Cond.fieldLink "Dredgeledger$Survey" (13 : Nat) "Dredgeledger$Survey" "first" "I") ∈ lw_all := lw_g (lw_at lw_m7 227 rfl) rfl
theorem q1715 : (Jvm.Cond.fieldLink "Dredgeledger$Survey" (16 : Nat) "Dredgeledger$Survey" "trust" "I") ∈ lw_all := lw_g (lw_at lw_m7 228 rfl) rfl
theorem q1717 : (Jvm.Cond.fieldLink "Dredgeledger$Survey" (19 : Nat) "Dredgeledger$Survey" "told" "[S") ∈ lw_all := lw_g (lw_at lw_m7 230 rfl) rfl
theorem q1719 : (Jvm.Cond.laysFinal "Dredgeledger$Survey" "Dredgeledger$Survey" "number" "I") ∈ lw_all := lw_g (lw_at lw_m7 232 rfl) rfl
theorem q1720 : (Jvm.Cond.soleField "Dredgeledger$Survey" "number") ∈ lw_all := lw_g (lw_at lw_m7 233 rfl) rfl
theorem q1721 : (Jvm.Cond.laysFinal "Dredgeledger$Survey" "Dredgeledger$Survey" "first" "I") ∈ lw_all := lw_g (lw_at lw_m7 234 rfl) rfl
theorem q1722 : (Jvm.Cond.soleField "Dredgeledger$Survey" "first") ∈ lw_all := lw_g (lw_at lw_m7 235 rfl) rfl
theorem q1723 : (Jvm.Cond.laysFinal "Dredgeledger$Survey" "Dredgeledger$Survey" "trust" "I") ∈ lw_all := lw_g (lw_at lw_m7 236 rfl) rfl
theorem q1724 : (Jvm.Cond.soleField "Dredgeledger$Survey" "trust") ∈ lw_all := lw_g (lw_at lw_m7 237 rfl) rfl
theorem q1725 : (Jvm.Cond.laysFinal "Dredgeledger$Survey" "Dredgeledger$Survey" "told" "[S") ∈ lw_all := lw_g (lw_at lw_m7 238 rfl) rfl
theorem q1726 : (Jvm.Cond.soleField "Dredgeledger$Survey" "told") ∈ lw_all := lw_g (lw_at lw_m7 239 rfl) rfl
theorem q1727 : (Jvm.Cond.lays "Dredgeledger$Survey" "Dredgeledger$Survey" "isSettled" "Z") ∈ lw_all := lw_g (lw_at lw_m8 0 rfl) rfl
theorem q1728 : (Jvm.Cond.soleField "Dredgeledger$Survey" "isSettled") ∈ lw_all := lw_g (lw_at lw_m8 1 rfl) rfl
theorem q1729 : (Jvm.Cond.superclass "Dredgeledger$Survey" "java/lang/Object") ∈ lw_all := lw_g (lw_at lw_m8 2 rfl) rfl
theorem q2584 : (Jvm.Cond.castable "Dredgeledger$Survey" "java/lang/Object") ∈ lw_tbl := lw_at lw_m11 137 rfl
theorem in_X10 : ∀ w ∈ wsX100, w ∈ lw_all := lw_in wsX100 [1719, 1721, 1723, 1725, 1727] (by decide +kernel) (by decide +kernel)

/-! Dredgeledger$Settled -/
set_option maxRecDepth 100000
def RX11 : String := "Dredgeledger$Settled"
def TX11 : u_T := fun k => match k with
  | _ => ("Dredgeledger$Settled", "survey", "LDredgeledger$Survey;", true)
def tyX11 : Nat → FieldType := fun k => match k with
  | _ => .object "Dredgeledger$Survey"
abbrev wsX110 : List Cond := u_ws RX11 TX11 1
theorem nmX11 : ∀ a, a < 1 → ∀ b, b < 1 → a ≠ b → (TX11 a).2.1 ≠ (TX11 b).2.1 := by decide +kernel
theorem tyX11_ok : ∀ k, k < 1 → parseFieldDescriptor (TX11 k).2.2.1 = some (tyX11 k) := by decide +kernel
abbrev cX11_survey : ByteArray := prog_11_method_5_code
def yX11_survey : MethodName := ⟨RX11, "survey", "()LDredgeledger$Survey;"⟩
theorem dX11_survey_0 : decode cX11_survey 0 = .ok (.aload_n 0, 1) := by decide +kernel
theorem dX11_survey_1 : decode cX11_survey 1 = .ok (.getfield 7, 3) := by decide +kernel
theorem dX11_survey_4 : decode cX11_survey 4 = .ok (.areturn, 1) := by decide +kernel
abbrev cX11_init : ByteArray := prog_11_method_1_code
def yX11_init : MethodName := ⟨RX11, "<init>", "(LDredgeledger$Survey;)V"⟩
def dkwX11_init_0 : List UInt8 := [42, 183, 0, 1, 42, 43, 181, 0, 7, 177]
abbrev dktX11_init_0 : List UInt8 := dkwX11_init_0 ++ []
theorem dksX11_init_0 : cX11_init.data.toList.drop 0 = dktX11_init_0 := by decide +kernel
theorem dX11_init_0 : decode cX11_init 0 = .ok (.aload_n 0, 1) := dk_42 (dk_at dksX11_init_0 0 rfl rfl)
theorem dX11_init_1 : decode cX11_init 1 = .ok (.invokespecial 1, 3) := dk_183 0 1 (dk_at dksX11_init_0 1 rfl rfl)
theorem dX11_init_4 : decode cX11_init 4 = .ok (.aload_n 0, 1) := dk_42 (dk_at dksX11_init_0 4 rfl rfl)
theorem dX11_init_5 : decode cX11_init 5 = .ok (.aload_n 1, 1) := dk_43 (dk_at dksX11_init_0 5 rfl rfl)
theorem dX11_init_6 : decode cX11_init 6 = .ok (.putfield 7, 3) := dk_181 0 7 (dk_at dksX11_init_0 6 rfl rfl)
theorem dX11_init_9 : decode cX11_init 9 = .ok (.return_, 1) := dk_177 (dk_at dksX11_init_0 9 rfl rfl)
theorem q101 : (Jvm.Cond.initialized "Dredgeledger$Settled") ∈ lw_all := lw_g (lw_at lw_m1 54 rfl) rfl
theorem q830 : (Jvm.Cond.selects "Dredgeledger$Settled" ({ cls := "java/lang/Object", name := "getClass", desc := "()Ljava/lang/Class;" } : Jvm.MethodName) ({ cls := "java/lang/Object", name := "getClass", desc := "()Ljava/lang/Class;" } : Jvm.MethodName)) ∈ lw_all := lw_g (lw_at lw_m4 63 rfl) rfl
theorem q995 : (Jvm.Cond.instanceMethod ({ cls := "Dredgeledger$Settled", name := "survey", desc := "()LDredgeledger$Survey;" } : Jvm.MethodName)) ∈ lw_all := lw_g (lw_at lw_m4 228 rfl) rfl
theorem q996 : (Jvm.Cond.selects "Dredgeledger$Settled" ({ cls := "Dredgeledger$Settled", name := "survey", desc := "()LDredgeledger$Survey;" } : Jvm.MethodName) ({ cls := "Dredgeledger$Settled", name := "survey", desc := "()LDredgeledger$Survey;" } : Jvm.MethodName)) ∈ lw_all := lw_g (lw_at lw_m4 229 rfl) rfl
theorem q997 : (Jvm.Cond.code ({ cls := "Dredgeledger$Settled", name := "survey", desc := "()LDredgeledger$Survey;" } : Jvm.MethodName) prog_11_method_5_code (1 : Nat) (Option.some (Jvm.ClassFile.FieldType.object "Dredgeledger$Survey"))) ∈ lw_all := lw_g (lw_at lw_m4 230 rfl) rfl
theorem q2018 : (Jvm.Cond.instantiable "Dredgeledger$Settled" (1 : Nat)) ∈ lw_all := lw_g (lw_at lw_m9 51 rfl) rfl
theorem q2020 : (Jvm.Cond.instanceMethod ({ cls := "Dredgeledger$Settled", name := "<init>", desc := "(LDredgeledger$Survey;)V" } : Jvm.MethodName)) ∈ lw_all := lw_g (lw_at lw_m9 53 rfl) rfl
theorem q2021 : (Jvm.Cond.code ({ cls := "Dredgeledger$Settled", name := "<init>", desc := "(LDredgeledger$Survey;)V" } : Jvm.MethodName) prog_11_method_1_code (2 : Nat) (Option.none : Option Jvm.ClassFile.FieldType)) ∈ lw_all := lw_g (lw_at lw_m9 54 rfl) rfl
theorem q2022 : (Jvm.Cond.methodLink "Dredgeledger$Settled" (1 : Nat) ({ cls := "java/lang/Record", name := "<init>", desc := "()V" } : Jvm.MethodName)) ∈ lw_all := lw_g (lw_at lw_m9 55 rfl) rfl
theorem q2023 : (Jvm.Cond.fieldLink "Dredgeledger$Settled" (7 : Nat) "Dredgeledger$Settled" "survey" "LDredgeledger$Survey;") ∈ lw_all := lw_g (lw_at lw_m9 56 rfl) rfl
theorem q2024 : (Jvm.Cond.laysFinal "Dredgeledger$Settled" "Dredgeledger$Settled" "survey" "LDredgeledger$Survey;") ∈ lw_all := lw_g (lw_at lw_m9 57 rfl) rfl
theorem q2025 : (Jvm.Cond.soleField "Dredgeledger$Settled" "survey") ∈ lw_all := lw_g (lw_at lw_m9 58 rfl) rfl
theorem q2026 : (Jvm.Cond.superclass "Dredgeledger$Settled" "java/lang/Record") ∈ lw_all := lw_g (lw_at lw_m9 59 rfl) rfl
theorem q2554 : (Jvm.Cond.castable "Dredgeledger$Settled" "Dredgeledger$Event") ∈ lw_tbl := lw_at lw_m11 107 rfl
theorem q2588 : (Jvm.Cond.castable "Dredgeledger$Settled" "java/lang/Object") ∈ lw_tbl := lw_at lw_m11 141 rfl
theorem in_X11 : ∀ w ∈ wsX110, w ∈ lw_all := lw_in wsX110 [2024] (by decide +kernel) (by decide +kernel)

/-! Dredgeledger$Dispute -/
set_option maxRecDepth 100000
def RX12 : String := "Dredgeledger$Dispute"
def TX12 : u_T := fun k => match k with
  | 0 => ("Dredgeledger$Dispute", "cell", "I", true)
  | _ => ("Dredgeledger$Dispute", "side", "LDredgeledger$Side;", true)
def tyX12 : Nat → FieldType := fun k => match k with
  | 0 => .int
  | _ => .object "Dredgeledger$Side"
abbrev wsX120 : List Cond := u_ws RX12 TX12 2
theorem nmX12 : ∀ a, a < 2 → ∀ b, b < 2 → a ≠ b → (TX12 a).2.1 ≠ (TX12 b).2.1 := by decide +kernel
theorem tyX12_ok : ∀ k, k < 2 → parseFieldDescriptor (TX12 k).2.2.1 = some (tyX12 k) := by decide +kernel
abbrev cX12_cell : ByteArray := prog_5_method_5_code
def yX12_cell : MethodName := ⟨RX12, "cell", "()I"⟩
theorem dX12_cell_0 : decode cX12_cell 0 = .ok (.aload_n 0, 1) := by decide +kernel
theorem dX12_cell_1 : decode cX12_cell 1 = .ok (.getfield 7, 3) := by decide +kernel
theorem dX12_cell_4 : decode cX12_cell 4 = .ok (.ireturn, 1) := by decide +kernel
abbrev cX12_side : ByteArray := prog_5_method_6_code
def yX12_side : MethodName := ⟨RX12, "side", "()LDredgeledger$Side;"⟩
theorem dX12_side_0 : decode cX12_side 0 = .ok (.aload_n 0, 1) := by decide +kernel
theorem dX12_side_1 : decode cX12_side 1 = .ok (.getfield 13, 3) := by decide +kernel
theorem dX12_side_4 : decode cX12_side 4 = .ok (.areturn, 1) := by decide +kernel
abbrev cX12_init : ByteArray := prog_5_method_1_code
def yX12_init : MethodName := ⟨RX12, "<init>", "(ILDredgeledger$Side;)V"⟩
def dkwX12_init_0 : List UInt8 := [42, 183, 0, 1, 42, 27, 181, 0, 7, 42, 44, 181, 0, 13, 177]
abbrev dktX12_init_0 : List UInt8 := dkwX12_init_0 ++ []
theorem dksX12_init_0 : cX12_init.data.toList.drop 0 = dktX12_init_0 := by decide +kernel
theorem dX12_init_0 : decode cX12_init 0 = .ok (.aload_n 0, 1) := dk_42 (dk_at dksX12_init_0 0 rfl rfl)
theorem dX12_init_1 : decode cX12_init 1 = .ok (.invokespecial 1, 3) := dk_183 0 1 (dk_at dksX12_init_0 1 rfl rfl)
theorem dX12_init_4 : decode cX12_init 4 = .ok (.aload_n 0, 1) := dk_42 (dk_at dksX12_init_0 4 rfl rfl)
theorem dX12_init_5 : decode cX12_init 5 = .ok (.iload_n 1, 1) := dk_27 (dk_at dksX12_init_0 5 rfl rfl)
theorem dX12_init_6 : decode cX12_init 6 = .ok (.putfield 7, 3) := dk_181 0 7 (dk_at dksX12_init_0 6 rfl rfl)
theorem dX12_init_9 : decode cX12_init 9 = .ok (.aload_n 0, 1) := dk_42 (dk_at dksX12_init_0 9 rfl rfl)
theorem dX12_init_10 : decode cX12_init 10 = .ok (.aload_n 2, 1) := dk_44 (dk_at dksX12_init_0 10 rfl rfl)
theorem dX12_init_11 : decode cX12_init 11 = .ok (.putfield 13, 3) := dk_181 0 13 (dk_at dksX12_init_0 11 rfl rfl)
theorem dX12_init_14 : decode cX12_init 14 = .ok (.return_, 1) := dk_177 (dk_at dksX12_init_0 14 rfl rfl)
theorem q102 : (Jvm.Cond.initialized "Dredgeledger$Dispute") ∈ lw_all := lw_g (lw_at lw_m1 55 rfl) rfl
theorem q825 : (Jvm.Cond.selects "Dredgeledger$Dispute" ({ cls := "java/lang/Object", name := "getClass", desc := "()Ljava/lang/Class;" } : Jvm.MethodName) ({ cls := "java/lang/Object", name := "getClass", desc := "()Ljava/lang/Class;" } : Jvm.MethodName)) ∈ lw_all := lw_g (lw_at lw_m4 58 rfl) rfl
theorem q977 : (Jvm.Cond.instanceMethod ({ cls := "Dredgeledger$Dispute", name := "cell", desc := "()I" } : Jvm.MethodName)) ∈ lw_all := lw_g (lw_at lw_m4 210 rfl) rfl
theorem q978 : (Jvm.Cond.selects "Dredgeledger$Dispute" ({ cls := "Dredgeledger$Dispute", name := "cell", desc := "()I" } : Jvm.MethodName) ({ cls := "Dredgeledger$Dispute", name := "cell", desc := "()I" } : Jvm.MethodName)) ∈ lw_all := lw_g (lw_at lw_m4 211 rfl) rfl
theorem q979 : (Jvm.Cond.code ({ cls := "Dredgeledger$Dispute", name := "cell", desc := "()I" } : Jvm.MethodName) prog_5_method_5_code (1 : Nat) (Option.some Jvm.ClassFile.FieldType.int)) ∈ lw_all := lw_g (lw_at lw_m4 212 rfl) rfl
theorem q981 : (Jvm.Cond.instanceMethod ({ cls := "Dredgeledger$Dispute", name := "side", desc := "()LDredgeledger$Side;" } : Jvm.MethodName)) ∈ lw_all := lw_g (lw_at lw_m4 214 rfl) rfl
theorem q982 : (Jvm.Cond.selects "Dredgeledger$Dispute" ({ cls := "Dredgeledger$Dispute", name := "side", desc := "()LDredgeledger$Side;" } : Jvm.MethodName) ({ cls := "Dredgeledger$Dispute", name := "side", desc := "()LDredgeledger$Side;" } : Jvm.MethodName)) ∈ lw_all := lw_g (lw_at lw_m4 215 rfl) rfl
theorem q983 : (Jvm.Cond.code ({ cls := "Dredgeledger$Dispute", name := "side", desc := "()LDredgeledger$Side;" } : Jvm.MethodName) prog_5_method_6_code (1 : Nat) (Option.some (Jvm.ClassFile.FieldType.object "Dredgeledger$Side"))) ∈ lw_all := lw_g (lw_at lw_m4 216 rfl) rfl
theorem q2064 : (Jvm.Cond.instantiable "Dredgeledger$Dispute" (2 : Nat)) ∈ lw_all := lw_g (lw_at lw_m9 97 rfl) rfl
theorem q2068 : (Jvm.Cond.instanceMethod ({ cls := "Dredgeledger$Dispute", name := "<init>", desc := "(ILDredgeledger$Side;)V" } : Jvm.MethodName)) ∈ lw_all := lw_g (lw_at lw_m9 101 rfl) rfl
theorem q2069 : (Jvm.Cond.code ({ cls := "Dredgeledger$Dispute", name := "<init>", desc := "(ILDredgeledger$Side;)V" } : Jvm.MethodName) prog_5_method_1_code (3 : Nat) (Option.none : Option Jvm.ClassFile.FieldType)) ∈ lw_all := lw_g (lw_at lw_m9 102 rfl) rfl
theorem q2070 : (Jvm.Cond.methodLink "Dredgeledger$Dispute" (1 : Nat) ({ cls := "java/lang/Record", name := "<init>", desc := "()V" } : Jvm.MethodName)) ∈ lw_all := lw_g (lw_at lw_m9 103 rfl) rfl
theorem q2071 : (Jvm.Cond.fieldLink "Dredgeledger$Dispute" (7 : Nat) "Dredgeledger$Dispute" "cell" "I") ∈ lw_all := lw_g (lw_at lw_m9 104 rfl) rfl
theorem q2072 : (Jvm.Cond.fieldLink "Dredgeledger$Dispute" (13 : Nat) "Dredgeledger$Dispute" "side" "LDredgeledger$Side;") ∈ lw_all := lw_g (lw_at lw_m9 105 rfl) rfl
theorem q2073 : (Jvm.Cond.laysFinal "Dredgeledger$Dispute" "Dredgeledger$Dispute" "cell" "I") ∈ lw_all := lw_g (lw_at lw_m9 106 rfl) rfl
theorem q2074 : (Jvm.Cond.soleField "Dredgeledger$Dispute" "cell") ∈ lw_all := lw_g (lw_at lw_m9 107 rfl) rfl
theorem q2075 : (Jvm.Cond.laysFinal "Dredgeledger$Dispute" "Dredgeledger$Dispute" "side" "LDredgeledger$Side;") ∈ lw_all := lw_g (lw_at lw_m9 108 rfl) rfl
theorem q2076 : (Jvm.Cond.soleField "Dredgeledger$Dispute" "side") ∈ lw_all := lw_g (lw_at lw_m9 109 rfl) rfl
theorem q2077 : (Jvm.Cond.superclass "Dredgeledger$Dispute" "java/lang/Record") ∈ lw_all := lw_g (lw_at lw_m9 110 rfl) rfl
theorem q2552 : (Jvm.Cond.castable "Dredgeledger$Dispute" "Dredgeledger$Event") ∈ lw_tbl := lw_at lw_m11 105 rfl
theorem q2589 : (Jvm.Cond.castable "Dredgeledger$Dispute" "java/lang/Object") ∈ lw_tbl := lw_at lw_m11 142 rfl
theorem in_X12 : ∀ w ∈ wsX120, w ∈ lw_all := lw_in wsX120 [2073, 2075] (by decide +kernel) (by decide +kernel)

/-! Dredgeledger$Chain$1 -/
set_option maxRecDepth 100000
def RX13 : String := "Dredgeledger$Chain$1"
def TX13 : u_T := fun k => match k with
  | 0 => ("Dredgeledger$Chain$1", "at", "LDredgeledger$Link;", false)
  | _ => ("Dredgeledger$Chain$1", "this$0", "LDredgeledger$Chain;", true)
def tyX13 : Nat → FieldType := fun k => match k with
  | 0 => .object "Dredgeledger$Link"
  | _ => .object "Dredgeledger$Chain"
abbrev wsX130 : List Cond := u_ws RX13 TX13 2
theorem nmX13 : ∀ a, a < 2 → ∀ b, b < 2 → a ≠ b → (TX13 a).2.1 ≠ (TX13 b).2.1 := by decide +kernel
theorem tyX13_ok : ∀ k, k < 2 → parseFieldDescriptor (TX13 k).2.2.1 = some (tyX13 k) := by decide +kernel
abbrev cX13_init : ByteArray := prog_4_method_1_code
def yX13_init : MethodName := ⟨RX13, "<init>", "(LDredgeledger$Chain;)V"⟩
def dkwX13_init_0 : List UInt8 := [42, 43, 181, 0, 1, 42, 183, 0, 7, 42, 42, 180, 0, 1, 180, 0, 13, 181, 0, 19, 177]
abbrev dktX13_init_0 : List UInt8 := dkwX13_init_0 ++ []
theorem dksX13_init_0 : cX13_init.data.toList.drop 0 = dktX13_init_0 := by decide +kernel
theorem dX13_init_0 : decode cX13_init 0 = .ok (.aload_n 0, 1) := dk_42 (dk_at dksX13_init_0 0 rfl rfl)
theorem dX13_init_1 : decode cX13_init 1 = .ok (.aload_n 1, 1) := dk_43 (dk_at dksX13_init_0 1 rfl rfl)
theorem dX13_init_2 : decode cX13_init 2 = .ok (.putfield 1, 3) := dk_181 0 1 (dk_at dksX13_init_0 2 rfl rfl)
theorem dX13_init_5 : decode cX13_init 5 = .ok (.aload_n 0, 1) := dk_42 (dk_at dksX13_init_0 5 rfl rfl)
theorem dX13_init_6 : decode cX13_init 6 = .ok (.invokespecial 7, 3) := dk_183 0 7 (dk_at dksX13_init_0 6 rfl rfl)
theorem dX13_init_9 : decode cX13_init 9 = .ok (.aload_n 0, 1) := dk_42 (dk_at dksX13_init_0 9 rfl rfl)
theorem dX13_init_10 : decode cX13_init 10 = .ok (.aload_n 0, 1) := dk_42 (dk_at dksX13_init_0 10 rfl rfl)
theorem dX13_init_11 : decode cX13_init 11 = .ok (.getfield 1, 3) := dk_180 0 1 (dk_at dksX13_init_0 11 rfl rfl)
theorem dX13_init_14 : decode cX13_init 14 = .ok (.getfield 13, 3) := dk_180 0 13 (dk_at dksX13_init_0 14 rfl rfl)
theorem dX13_init_17 : decode cX13_init 17 = .ok (.putfield 19, 3) := dk_181 0 19 (dk_at dksX13_init_0 17 rfl rfl)
theorem dX13_init_20 : decode cX13_init 20 = .ok (.return_, 1) := dk_177 (dk_at dksX13_init_0 20 rfl rfl)
abbrev cX13_hasNext : ByteArray := prog_4_method_2_code
def yX13_hasNext : MethodName := ⟨RX13, "hasNext", "()Z"⟩
def dkwX13_hasNext_0 : List UInt8 := [42, 180, 0, 19, 198, 0, 7, 4, 167, 0, 4, 3, 172]
abbrev dktX13_hasNext_0 : List UInt8 := dkwX13_hasNext_0 ++ []
theorem dksX13_hasNext_0 : cX13_hasNext.data.toList.drop 0 = dktX13_hasNext_0 := by decide +kernel
theorem dX13_hasNext_0 : decode cX13_hasNext 0 = .ok (.aload_n 0, 1) := dk_42 (dk_at dksX13_hasNext_0 0 rfl rfl)
theorem dX13_hasNext_1 : decode cX13_hasNext 1 = .ok (.getfield 19, 3) := dk_180 0 19 (dk_at dksX13_hasNext_0 1 rfl rfl)
theorem dX13_hasNext_4 : decode cX13_hasNext 4 = .ok (.ifnull 7, 3) := dk_198 0 7 (dk_at dksX13_hasNext_0 4 rfl rfl)
theorem dX13_hasNext_7 : decode cX13_hasNext 7 = .ok (.iconst 1, 1) := dk_4 (dk_at dksX13_hasNext_0 7 rfl rfl)
theorem dX13_hasNext_8 : decode cX13_hasNext 8 = .ok (.goto 4, 3) := dk_167 0 4 (dk_at dksX13_hasNext_0 8 rfl rfl)
theorem dX13_hasNext_11 : decode cX13_hasNext 11 = .ok (.iconst 0, 1) := dk_3 (dk_at dksX13_hasNext_0 11 rfl rfl)
theorem dX13_hasNext_12 : decode cX13_hasNext 12 = .ok (.ireturn, 1) := dk_172 (dk_at dksX13_hasNext_0 12 rfl rfl)
abbrev cX13_next : ByteArray := prog_4_method_3_code
def yX13_next : MethodName := ⟨RX13, "next", "()Ljava/lang/Object;"⟩
def dkwX13_next_0 : List UInt8 := [42, 180, 0, 19, 180, 0, 22, 76, 42, 42, 180, 0, 19, 180, 0, 28, 181, 0, 19, 43, 176]
abbrev dktX13_next_0 : List UInt8 := dkwX13_next_0 ++ []
theorem dksX13_next_0 : cX13_next.data.toList.drop 0 = dktX13_next_0 := by decide +kernel
theorem dX13_next_0 : decode cX13_next 0 = .ok (.aload_n 0, 1) := dk_42 (dk_at dksX13_next_0 0 rfl rfl)
theorem dX13_next_1 : decode cX13_next 1 = .ok (.getfield 19, 3) := dk_180 0 19 (dk_at dksX13_next_0 1 rfl rfl)
theorem dX13_next_4 : decode cX13_next 4 = .ok (.getfield 22, 3) := dk_180 0 22 (dk_at dksX13_next_0 4 rfl rfl)
theorem dX13_next_7 : decode cX13_next 7 = .ok (.astore_n 1, 1) := dk_76 (dk_at dksX13_next_0 7 rfl rfl)
theorem dX13_next_8 : decode cX13_next 8 = .ok (.aload_n 0, 1) := dk_42 (dk_at dksX13_next_0 8 rfl rfl)
theorem dX13_next_9 : decode cX13_next 9 = .ok (.aload_n 0, 1) := dk_42 (dk_at dksX13_next_0 9 rfl rfl)
theorem dX13_next_10 : decode cX13_next 10 = .ok (.getfield 19, 3) := dk_180 0 19 (dk_at dksX13_next_0 10 rfl rfl)
theorem dX13_next_13 : decode cX13_next 13 = .ok (.getfield 28, 3) := dk_180 0 28 (dk_at dksX13_next_0 13 rfl rfl)
theorem dX13_next_16 : decode cX13_next 16 = .ok (.putfield 19, 3) := dk_181 0 19 (dk_at dksX13_next_0 16 rfl rfl)
theorem dX13_next_19 : decode cX13_next 19 = .ok (.aload_n 1, 1) := dk_43 (dk_at dksX13_next_0 19 rfl rfl)
theorem dX13_next_20 : decode cX13_next 20 = .ok (.areturn, 1) := dk_176 (dk_at dksX13_next_0 20 rfl rfl)
theorem q105 : (Jvm.Cond.initialized "Dredgeledger$Chain$1") ∈ lw_all := lw_g (lw_at lw_m1 58 rfl) rfl
theorem q523 : (Jvm.Cond.fieldLinkNest "Dredgeledger$Chain$1" (13 : Nat) "Dredgeledger$Chain" "first" "LDredgeledger$Link;" "Dredgeledger") ∈ lw_tbl := lw_at lw_m2 236 rfl
theorem q647 : (Jvm.Cond.instantiable "Dredgeledger$Chain$1" (2 : Nat)) ∈ lw_all := lw_g (lw_at lw_m3 120 rfl) rfl
theorem q649 : (Jvm.Cond.instanceMethod ({ cls := "Dredgeledger$Chain$1", name := "<init>", desc := "(LDredgeledger$Chain;)V" } : Jvm.MethodName)) ∈ lw_all := lw_g (lw_at lw_m3 122 rfl) rfl
theorem q650 : (Jvm.Cond.code ({ cls := "Dredgeledger$Chain$1", name := "<init>", desc := "(LDredgeledger$Chain;)V" } : Jvm.MethodName) prog_4_method_1_code (2 : Nat) (Option.none : Option Jvm.ClassFile.FieldType)) ∈ lw_all := lw_g (lw_at lw_m3 123 rfl) rfl
theorem q651 : (Jvm.Cond.methodLink "Dredgeledger$Chain$1" (7 : Nat) ({ cls := "java/lang/Object", name := "<init>", desc := "()V" } : Jvm.MethodName)) ∈ lw_all := lw_g (lw_at lw_m3 124 rfl) rfl
theorem q652 : (Jvm.Cond.fieldLink "Dredgeledger$Chain$1" (19 : Nat) "Dredgeledger$Chain$1" "at" "LDredgeledger$Link;") ∈ lw_all := lw_g (lw_at lw_m3 125 rfl) rfl
theorem q653 : (Jvm.Cond.fieldLink "Dredgeledger$Chain$1" (1 : Nat) "Dredgeledger$Chain$1" "this$0" "LDredgeledger$Chain;") ∈ lw_all := lw_g (lw_at lw_m3 126 rfl) rfl
theorem q654 : (Jvm.Cond.lays "Dredgeledger$Chain$1" "Dredgeledger$Chain$1" "at" "LDredgeledger$Link;") ∈ lw_all := lw_g (lw_at lw_m3 127 rfl) rfl
theorem q655 : (Jvm.Cond.soleField "Dredgeledger$Chain$1" "at") ∈ lw_all := lw_g (lw_at lw_m3 128 rfl) rfl
theorem q656 : (Jvm.Cond.laysFinal "Dredgeledger$Chain$1" "Dredgeledger$Chain$1" "this$0" "LDredgeledger$Chain;") ∈ lw_all := lw_g (lw_at lw_m3 129 rfl) rfl
theorem q657 : (Jvm.Cond.soleField "Dredgeledger$Chain$1" "this$0") ∈ lw_all := lw_g (lw_at lw_m3 130 rfl) rfl
theorem q658 : (Jvm.Cond.superclass "Dredgeledger$Chain$1" "java/lang/Object") ∈ lw_all := lw_g (lw_at lw_m3 131 rfl) rfl
theorem q663 : (Jvm.Cond.castable "Dredgeledger$Chain$1" "java/util/Iterator") ∈ lw_tbl := lw_at lw_m3 136 rfl
theorem q664 : (Jvm.Cond.selects "Dredgeledger$Chain$1" ({ cls := "java/util/Iterator", name := "hasNext", desc := "()Z" } : Jvm.MethodName) ({ cls := "Dredgeledger$Chain$1", name := "hasNext", desc := "()Z" } : Jvm.MethodName)) ∈ lw_all := lw_g (lw_at lw_m3 137 rfl) rfl
theorem q665 : (Jvm.Cond.unhidden "Dredgeledger$Chain$1" "hasNext" "()Z") ∈ lw_tbl := lw_at lw_m3 138 rfl
theorem q666 : (Jvm.Cond.instanceMethod ({ cls := "Dredgeledger$Chain$1", name := "hasNext", desc := "()Z" } : Jvm.MethodName)) ∈ lw_all := lw_g (lw_at lw_m3 139 rfl) rfl
theorem q667 : (Jvm.Cond.publicMethod ({ cls := "Dredgeledger$Chain$1", name := "hasNext", desc := "()Z" } : Jvm.MethodName)) ∈ lw_tbl := lw_at lw_m3 140 rfl
theorem q668 : (Jvm.Cond.code ({ cls := "Dredgeledger$Chain$1", name := "hasNext", desc := "()Z" } : Jvm.MethodName) prog_4_method_2_code (1 : Nat) (Option.some Jvm.ClassFile.FieldType.boolean)) ∈ lw_all := lw_g (lw_at lw_m3 141 rfl) rfl
theorem q713 : (Jvm.Cond.selects "Dredgeledger$Chain$1" ({ cls := "java/util/Iterator", name := "next", desc := "()Ljava/lang/Object;" } : Jvm.MethodName) ({ cls := "Dredgeledger$Chain$1", name := "next", desc := "()Ljava/lang/Object;" } : Jvm.MethodName)) ∈ lw_all := lw_g (lw_at lw_m3 186 rfl) rfl
theorem q714 : (Jvm.Cond.unhidden "Dredgeledger$Chain$1" "next" "()Ljava/lang/Object;") ∈ lw_tbl := lw_at lw_m3 187 rfl
theorem q715 : (Jvm.Cond.instanceMethod ({ cls := "Dredgeledger$Chain$1", name := "next", desc := "()Ljava/lang/Object;" } : Jvm.MethodName)) ∈ lw_all := lw_g (lw_at lw_m3 188 rfl) rfl
theorem q716 : (Jvm.Cond.publicMethod ({ cls := "Dredgeledger$Chain$1", name := "next", desc := "()Ljava/lang/Object;" } : Jvm.MethodName)) ∈ lw_tbl := lw_at lw_m3 189 rfl
theorem q717 : (Jvm.Cond.code ({ cls := "Dredgeledger$Chain$1", name := "next", desc := "()Ljava/lang/Object;" } : Jvm.MethodName) prog_4_method_3_code (2 : Nat) (Option.some (Jvm.ClassFile.FieldType.object "java/lang/Object"))) ∈ lw_all := lw_g (lw_at lw_m3 190 rfl) rfl
theorem q824 : (Jvm.Cond.selects "Dredgeledger$Chain$1" ({ cls := "java/lang/Object", name := "getClass", desc := "()Ljava/lang/Class;" } : Jvm.MethodName) ({ cls := "java/lang/Object", name := "getClass", desc := "()Ljava/lang/Class;" } : Jvm.MethodName)) ∈ lw_all := lw_g (lw_at lw_m4 57 rfl) rfl
theorem q1219 : (Jvm.Cond.fieldLinkNest "Dredgeledger$Chain$1" (22 : Nat) "Dredgeledger$Link" "item" "Ljava/lang/Object;" "Dredgeledger") ∈ lw_tbl := lw_at lw_m5 212 rfl
theorem q1221 : (Jvm.Cond.fieldLinkNest "Dredgeledger$Chain$1" (28 : Nat) "Dredgeledger$Link" "next" "LDredgeledger$Link;" "Dredgeledger") ∈ lw_tbl := lw_at lw_m5 214 rfl
theorem q1453 : (Jvm.Cond.unhidden "Dredgeledger$Chain$1" "remove" "()V") ∈ lw_tbl := lw_at lw_m6 206 rfl
theorem q2592 : (Jvm.Cond.castable "Dredgeledger$Chain$1" "java/lang/Object") ∈ lw_tbl := lw_at lw_m11 145 rfl
theorem in_X13 : ∀ w ∈ wsX130, w ∈ lw_all := lw_in wsX130 [654, 656] (by decide +kernel) (by decide +kernel)

/-! Dredgeledger$Side$1 -/
set_option maxRecDepth 100000
def RX14 : String := "Dredgeledger$Side$1"
abbrev cX14_bars : ByteArray := prog_13_method_2_code
def yX14_bars : MethodName := ⟨RX14, "bars", "()Z"⟩
theorem dX14_bars_0 : decode cX14_bars 0 = .ok (.iconst 1, 1) := by decide +kernel
theorem dX14_bars_1 : decode cX14_bars 1 = .ok (.ireturn, 1) := by decide +kernel
theorem q831 : (Jvm.Cond.selects "Dredgeledger$Side$1" ({ cls := "java/lang/Object", name := "getClass", desc := "()Ljava/lang/Class;" } : Jvm.MethodName) ({ cls := "java/lang/Object", name := "getClass", desc := "()Ljava/lang/Class;" } : Jvm.MethodName)) ∈ lw_all := lw_g (lw_at lw_m4 64 rfl) rfl
theorem q987 : (Jvm.Cond.selects "Dredgeledger$Side$1" ({ cls := "Dredgeledger$Side", name := "bars", desc := "()Z" } : Jvm.MethodName) ({ cls := "Dredgeledger$Side$1", name := "bars", desc := "()Z" } : Jvm.MethodName)) ∈ lw_all := lw_g (lw_at lw_m4 220 rfl) rfl
theorem q988 : (Jvm.Cond.instanceMethod ({ cls := "Dredgeledger$Side$1", name := "bars", desc := "()Z" } : Jvm.MethodName)) ∈ lw_all := lw_g (lw_at lw_m4 221 rfl) rfl
theorem q989 : (Jvm.Cond.code ({ cls := "Dredgeledger$Side$1", name := "bars", desc := "()Z" } : Jvm.MethodName) prog_13_method_2_code (1 : Nat) (Option.some Jvm.ClassFile.FieldType.boolean)) ∈ lw_all := lw_g (lw_at lw_m4 222 rfl) rfl
theorem q2590 : (Jvm.Cond.castable "Dredgeledger$Side$1" "java/lang/Object") ∈ lw_tbl := lw_at lw_m11 143 rfl

/-! Dredgeledger$Side$2 -/
set_option maxRecDepth 100000
def RX15 : String := "Dredgeledger$Side$2"
abbrev cX15_bars : ByteArray := prog_14_method_2_code
def yX15_bars : MethodName := ⟨RX15, "bars", "()Z"⟩
theorem dX15_bars_0 : decode cX15_bars 0 = .ok (.iconst 0, 1) := by decide +kernel
theorem dX15_bars_1 : decode cX15_bars 1 = .ok (.ireturn, 1) := by decide +kernel
theorem q832 : (Jvm.Cond.selects "Dredgeledger$Side$2" ({ cls := "java/lang/Object", name := "getClass", desc := "()Ljava/lang/Class;" } : Jvm.MethodName) ({ cls := "java/lang/Object", name := "getClass", desc := "()Ljava/lang/Class;" } : Jvm.MethodName)) ∈ lw_all := lw_g (lw_at lw_m4 65 rfl) rfl
theorem q990 : (Jvm.Cond.selects "Dredgeledger$Side$2" ({ cls := "Dredgeledger$Side", name := "bars", desc := "()Z" } : Jvm.MethodName) ({ cls := "Dredgeledger$Side$2", name := "bars", desc := "()Z" } : Jvm.MethodName)) ∈ lw_all := lw_g (lw_at lw_m4 223 rfl) rfl
theorem q991 : (Jvm.Cond.instanceMethod ({ cls := "Dredgeledger$Side$2", name := "bars", desc := "()Z" } : Jvm.MethodName)) ∈ lw_all := lw_g (lw_at lw_m4 224 rfl) rfl
theorem q992 : (Jvm.Cond.code ({ cls := "Dredgeledger$Side$2", name := "bars", desc := "()Z" } : Jvm.MethodName) prog_14_method_2_code (1 : Nat) (Option.some Jvm.ClassFile.FieldType.boolean)) ∈ lw_all := lw_g (lw_at lw_m4 225 rfl) rfl
theorem q2591 : (Jvm.Cond.castable "Dredgeledger$Side$2" "java/lang/Object") ∈ lw_tbl := lw_at lw_m11 144 rfl
