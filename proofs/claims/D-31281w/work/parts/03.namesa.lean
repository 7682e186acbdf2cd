/-! DECODE ROWS BY BYTES: one lemma an opcode; a method's code is cut into short pieces once, and a row reads its own piece alone. -/
set_option maxRecDepth 100000
/-- the code has just these bytes from pc on -/
def DkAt (code : ByteArray) (pc : Nat) (bs : List UInt8) : Prop := ∀ (j : Nat) (b : UInt8), bs[j]? = some b → code.data.toList[pc + j]? = some b
/-- the piece W has the bytes bs from its place j on -/
def dkIn (W : List UInt8) (j : Nat) (bs : List UInt8) : Bool := decide ((W.drop j).take bs.length = bs)
theorem dk_seg {l W T : List UInt8} {o o2 : Nat} (h : l.drop o = W ++ T) (n : Nat) (hn : W.length = n) (ho : o + n = o2) : l.drop o2 = T := by
  subst ho
  rw [← List.drop_drop, h, List.drop_left' hn]
theorem dk_at {code : ByteArray} {W T bs : List UInt8} {o pc : Nat} (h : code.data.toList.drop o = W ++ T) (j : Nat) (hp : o + j = pc) (hw : dkIn W j bs = true) : DkAt code pc bs := by
  subst hp
  intro i b e
  have h1 := of_decide_eq_true hw
  have h2 : i < bs.length := (List.getElem?_eq_some_iff.mp e).1
  have h3 : W[j + i]? = some b := by
    rw [← h1, List.getElem?_take, if_pos h2, List.getElem?_drop] at e
    exact e
  have h4 : j + i < W.length := (List.getElem?_eq_some_iff.mp h3).1
  have h5 : (code.data.toList.drop o)[j + i]? = some b := by
    rw [h, List.getElem?_append_left h4]
    exact h3
  rw [List.getElem?_drop, ← Nat.add_assoc] at h5
  exact h5
theorem dk_u1 {A : ByteArray} {p : Nat} {b : UInt8} (h : A.data.toList[p]? = some b) : (Reader.u1 : Reader DecodeError Nat) A p = .ok (b.toNat, p + 1) := by
  obtain ⟨h1, h2⟩ := List.getElem?_eq_some_iff.mp h
  have h3 : p < A.size := by simpa using h1
  have h4 : A[p]'h3 = b := h2
  have e : (Reader.u1 : Reader DecodeError Nat) A p = (if h : p < A.size then .ok (A[p].toNat, p + 1) else .error (HasTruncated.truncated p)) := by
    show (do if h : p < A.size then do set (p + 1); Pure.pure A[p].toNat else MonadExcept.throw (HasTruncated.truncated p) : Reader DecodeError Nat) A p = _
    by_cases hi : p < A.size
    · rw [dif_pos hi, dif_pos hi]; rfl
    · rw [dif_neg hi, dif_neg hi]; rfl
  rw [e, dif_pos h3, h4]
theorem dk_bind {α β : Type} {r : Reader DecodeError α} {f : α → Reader DecodeError β} {A : ByteArray} {p s : Nat} {a : α} (h : r A p = .ok (a, s)) : (r >>= f) A p = f a A s := by
  show (do let (a, s) ← r A p; f a A s : Except DecodeError (β × Nat)) = _
  rw [h]
  rfl
theorem dk_map {α β : Type} {r : Reader DecodeError α} {g : α → β} {A : ByteArray} {p s : Nat} {a : α} (h : r A p = .ok (a, s)) : (g <$> r) A p = .ok (g a, s) := by
  show (do let (a, s) ← r A p; .ok (g a, s) : Except DecodeError (β × Nat)) = _
  rw [h]
  rfl
theorem dk_u2 {A : ByteArray} {p : Nat} {a b : UInt8} (h : A.data.toList[p]? = some a) (h2 : A.data.toList[p + 1]? = some b) : (Reader.u2 : Reader DecodeError Nat) A p = .ok (a.toNat * 256 + b.toNat, p + 2) := by
  show (Reader.u1 >>= fun hi => Reader.u1 >>= fun lo => Pure.pure (hi * 256 + lo) : Reader DecodeError Nat) A p = _
  rw [dk_bind (dk_u1 h), dk_bind (dk_u1 h2)]
  rfl
theorem dk_of {code : ByteArray} {pc n : Nat} {i : Instr} (h : Decoder.instr pc code pc = .ok (i, pc + n)) : decode code pc = .ok (i, n) := by
  have e : decode code pc = (match Decoder.instr pc code pc with | .error x => .error x | .ok (j, s) => .ok (j, s - pc)) := by
    show (do let (j, s) ← Decoder.instr pc code pc; Pure.pure (j, s - pc) : Except DecodeError (Instr × Nat)) = _
    cases Decoder.instr pc code pc <;> rfl
  rw [e, h]
  show Except.ok (i, pc + n - pc) = _
  rw [Nat.add_sub_cancel_left]
theorem dk_1 {code : ByteArray} {pc : Nat} (h : DkAt code pc [1]) : decode code pc = .ok (.aconst_null, 1) := dk_of ((dk_bind (dk_u1 (h 0 _ rfl))).trans rfl)
theorem dk_2 {code : ByteArray} {pc : Nat} (h : DkAt code pc [2]) : decode code pc = .ok (.iconst (-1), 1) := dk_of ((dk_bind (dk_u1 (h 0 _ rfl))).trans rfl)
theorem dk_3 {code : ByteArray} {pc : Nat} (h : DkAt code pc [3]) : decode code pc = .ok (.iconst 0, 1) := dk_of ((dk_bind (dk_u1 (h 0 _ rfl))).trans rfl)
theorem dk_4 {code : ByteArray} {pc : Nat} (h : DkAt code pc [4]) : decode code pc = .ok (.iconst 1, 1) := dk_of ((dk_bind (dk_u1 (h 0 _ rfl))).trans rfl)
theorem dk_5 {code : ByteArray} {pc : Nat} (h : DkAt code pc [5]) : decode code pc = .ok (.iconst 2, 1) := dk_of ((dk_bind (dk_u1 (h 0 _ rfl))).trans rfl)
theorem dk_6 {code : ByteArray} {pc : Nat} (h : DkAt code pc [6]) : decode code pc = .ok (.iconst 3, 1) := dk_of ((dk_bind (dk_u1 (h 0 _ rfl))).trans rfl)
theorem dk_7 {code : ByteArray} {pc : Nat} (h : DkAt code pc [7]) : decode code pc = .ok (.iconst 4, 1) := dk_of ((dk_bind (dk_u1 (h 0 _ rfl))).trans rfl)
theorem dk_8 {code : ByteArray} {pc : Nat} (h : DkAt code pc [8]) : decode code pc = .ok (.iconst 5, 1) := dk_of ((dk_bind (dk_u1 (h 0 _ rfl))).trans rfl)
theorem dk_9 {code : ByteArray} {pc : Nat} (h : DkAt code pc [9]) : decode code pc = .ok (.lconst 0, 1) := dk_of ((dk_bind (dk_u1 (h 0 _ rfl))).trans rfl)
theorem dk_10 {code : ByteArray} {pc : Nat} (h : DkAt code pc [10]) : decode code pc = .ok (.lconst 1, 1) := dk_of ((dk_bind (dk_u1 (h 0 _ rfl))).trans rfl)
theorem dk_11 {code : ByteArray} {pc : Nat} (h : DkAt code pc [11]) : decode code pc = .ok (.fconst 0, 1) := dk_of ((dk_bind (dk_u1 (h 0 _ rfl))).trans rfl)
theorem dk_14 {code : ByteArray} {pc : Nat} (h : DkAt code pc [14]) : decode code pc = .ok (.dconst 0, 1) := dk_of ((dk_bind (dk_u1 (h 0 _ rfl))).trans rfl)
theorem dk_16 {code : ByteArray} {pc : Nat} (a : UInt8) (h : DkAt code pc [16, a]) : decode code pc = .ok (.bipush (Reader.signed 8 a.toNat), 2) := dk_of ((dk_bind (dk_u1 (h 0 _ rfl))).trans ((dk_bind (dk_map (dk_u1 (h 1 _ rfl)))).trans rfl))
theorem dk_17 {code : ByteArray} {pc : Nat} (a b : UInt8) (h : DkAt code pc [17, a, b]) : decode code pc = .ok (.sipush (Reader.signed 16 (a.toNat * 256 + b.toNat)), 3) := dk_of ((dk_bind (dk_u1 (h 0 _ rfl))).trans ((dk_bind (dk_map (dk_u2 (h 1 _ rfl) (h 2 _ rfl)))).trans rfl))
theorem dk_18 {code : ByteArray} {pc : Nat} (a : UInt8) (h : DkAt code pc [18, a]) : decode code pc = .ok (.ldc a.toNat, 2) := dk_of ((dk_bind (dk_u1 (h 0 _ rfl))).trans ((dk_bind (dk_u1 (h 1 _ rfl))).trans rfl))
theorem dk_19 {code : ByteArray} {pc : Nat} (a b : UInt8) (h : DkAt code pc [19, a, b]) : decode code pc = .ok (.ldc_w (a.toNat * 256 + b.toNat), 3) := dk_of ((dk_bind (dk_u1 (h 0 _ rfl))).trans ((dk_bind (dk_u2 (h 1 _ rfl) (h 2 _ rfl))).trans rfl))
theorem dk_20 {code : ByteArray} {pc : Nat} (a b : UInt8) (h : DkAt code pc [20, a, b]) : decode code pc = .ok (.ldc2_w (a.toNat * 256 + b.toNat), 3) := dk_of ((dk_bind (dk_u1 (h 0 _ rfl))).trans ((dk_bind (dk_u2 (h 1 _ rfl) (h 2 _ rfl))).trans rfl))
theorem dk_21 {code : ByteArray} {pc : Nat} (a : UInt8) (h : DkAt code pc [21, a]) : decode code pc = .ok (.iload a.toNat, 2) := dk_of ((dk_bind (dk_u1 (h 0 _ rfl))).trans ((dk_bind (dk_u1 (h 1 _ rfl))).trans rfl))
theorem dk_22 {code : ByteArray} {pc : Nat} (a : UInt8) (h : DkAt code pc [22, a]) : decode code pc = .ok (.lload a.toNat, 2) := dk_of ((dk_bind (dk_u1 (h 0 _ rfl))).trans ((dk_bind (dk_u1 (h 1 _ rfl))).trans rfl))
theorem dk_24 {code : ByteArray} {pc : Nat} (a : UInt8) (h : DkAt code pc [24, a]) : decode code pc = .ok (.dload a.toNat, 2) := dk_of ((dk_bind (dk_u1 (h 0 _ rfl))).trans ((dk_bind (dk_u1 (h 1 _ rfl))).trans rfl))
theorem dk_25 {code : ByteArray} {pc : Nat} (a : UInt8) (h : DkAt code pc [25, a]) : decode code pc = .ok (.aload a.toNat, 2) := dk_of ((dk_bind (dk_u1 (h 0 _ rfl))).trans ((dk_bind (dk_u1 (h 1 _ rfl))).trans rfl))
theorem dk_26 {code : ByteArray} {pc : Nat} (h : DkAt code pc [26]) : decode code pc = .ok (.iload_n 0, 1) := dk_of ((dk_bind (dk_u1 (h 0 _ rfl))).trans rfl)
theorem dk_27 {code : ByteArray} {pc : Nat} (h : DkAt code pc [27]) : decode code pc = .ok (.iload_n 1, 1) := dk_of ((dk_bind (dk_u1 (h 0 _ rfl))).trans rfl)
theorem dk_28 {code : ByteArray} {pc : Nat} (h : DkAt code pc [28]) : decode code pc = .ok (.iload_n 2, 1) := dk_of ((dk_bind (dk_u1 (h 0 _ rfl))).trans rfl)
theorem dk_29 {code : ByteArray} {pc : Nat} (h : DkAt code pc [29]) : decode code pc = .ok (.iload_n 3, 1) := dk_of ((dk_bind (dk_u1 (h 0 _ rfl))).trans rfl)
theorem dk_30 {code : ByteArray} {pc : Nat} (h : DkAt code pc [30]) : decode code pc = .ok (.lload_n 0, 1) := dk_of ((dk_bind (dk_u1 (h 0 _ rfl))).trans rfl)
theorem dk_31 {code : ByteArray} {pc : Nat} (h : DkAt code pc [31]) : decode code pc = .ok (.lload_n 1, 1) := dk_of ((dk_bind (dk_u1 (h 0 _ rfl))).trans rfl)
theorem dk_32 {code : ByteArray} {pc : Nat} (h : DkAt code pc [32]) : decode code pc = .ok (.lload_n 2, 1) := dk_of ((dk_bind (dk_u1 (h 0 _ rfl))).trans rfl)
theorem dk_42 {code : ByteArray} {pc : Nat} (h : DkAt code pc [42]) : decode code pc = .ok (.aload_n 0, 1) := dk_of ((dk_bind (dk_u1 (h 0 _ rfl))).trans rfl)
theorem dk_43 {code : ByteArray} {pc : Nat} (h : DkAt code pc [43]) : decode code pc = .ok (.aload_n 1, 1) := dk_of ((dk_bind (dk_u1 (h 0 _ rfl))).trans rfl)
theorem dk_44 {code : ByteArray} {pc : Nat} (h : DkAt code pc [44]) : decode code pc = .ok (.aload_n 2, 1) := dk_of ((dk_bind (dk_u1 (h 0 _ rfl))).trans rfl)
theorem dk_45 {code : ByteArray} {pc : Nat} (h : DkAt code pc [45]) : decode code pc = .ok (.aload_n 3, 1) := dk_of ((dk_bind (dk_u1 (h 0 _ rfl))).trans rfl)
theorem dk_46 {code : ByteArray} {pc : Nat} (h : DkAt code pc [46]) : decode code pc = .ok (.iaload, 1) := dk_of ((dk_bind (dk_u1 (h 0 _ rfl))).trans rfl)
theorem dk_47 {code : ByteArray} {pc : Nat} (h : DkAt code pc [47]) : decode code pc = .ok (.laload, 1) := dk_of ((dk_bind (dk_u1 (h 0 _ rfl))).trans rfl)
theorem dk_50 {code : ByteArray} {pc : Nat} (h : DkAt code pc [50]) : decode code pc = .ok (.aaload, 1) := dk_of ((dk_bind (dk_u1 (h 0 _ rfl))).trans rfl)
theorem dk_51 {code : ByteArray} {pc : Nat} (h : DkAt code pc [51]) : decode code pc = .ok (.baload, 1) := dk_of ((dk_bind (dk_u1 (h 0 _ rfl))).trans rfl)
theorem dk_52 {code : ByteArray} {pc : Nat} (h : DkAt code pc [52]) : decode code pc = .ok (.caload, 1) := dk_of ((dk_bind (dk_u1 (h 0 _ rfl))).trans rfl)
theorem dk_53 {code : ByteArray} {pc : Nat} (h : DkAt code pc [53]) : decode code pc = .ok (.saload, 1) := dk_of ((dk_bind (dk_u1 (h 0 _ rfl))).trans rfl)
theorem dk_54 {code : ByteArray} {pc : Nat} (a : UInt8) (h : DkAt code pc [54, a]) : decode code pc = .ok (.istore a.toNat, 2) := dk_of ((dk_bind (dk_u1 (h 0 _ rfl))).trans ((dk_bind (dk_u1 (h 1 _ rfl))).trans rfl))
theorem dk_55 {code : ByteArray} {pc : Nat} (a : UInt8) (h : DkAt code pc [55, a]) : decode code pc = .ok (.lstore a.toNat, 2) := dk_of ((dk_bind (dk_u1 (h 0 _ rfl))).trans ((dk_bind (dk_u1 (h 1 _ rfl))).trans rfl))
theorem dk_57 {code : ByteArray} {pc : Nat} (a : UInt8) (h : DkAt code pc [57, a]) : decode code pc = .ok (.dstore a.toNat, 2) := dk_of ((dk_bind (dk_u1 (h 0 _ rfl))).trans ((dk_bind (dk_u1 (h 1 _ rfl))).trans rfl))
theorem dk_58 {code : ByteArray} {pc : Nat} (a : UInt8) (h : DkAt code pc [58, a]) : decode code pc = .ok (.astore a.toNat, 2) := dk_of ((dk_bind (dk_u1 (h 0 _ rfl))).trans ((dk_bind (dk_u1 (h 1 _ rfl))).trans rfl))
theorem dk_59 {code : ByteArray} {pc : Nat} (h : DkAt code pc [59]) : decode code pc = .ok (.istore_n 0, 1) := dk_of ((dk_bind (dk_u1 (h 0 _ rfl))).trans rfl)
theorem dk_60 {code : ByteArray} {pc : Nat} (h : DkAt code pc [60]) : decode code pc = .ok (.istore_n 1, 1) := dk_of ((dk_bind (dk_u1 (h 0 _ rfl))).trans rfl)
theorem dk_61 {code : ByteArray} {pc : Nat} (h : DkAt code pc [61]) : decode code pc = .ok (.istore_n 2, 1) := dk_of ((dk_bind (dk_u1 (h 0 _ rfl))).trans rfl)
theorem dk_62 {code : ByteArray} {pc : Nat} (h : DkAt code pc [62]) : decode code pc = .ok (.istore_n 3, 1) := dk_of ((dk_bind (dk_u1 (h 0 _ rfl))).trans rfl)
theorem dk_76 {code : ByteArray} {pc : Nat} (h : DkAt code pc [76]) : decode code pc = .ok (.astore_n 1, 1) := dk_of ((dk_bind (dk_u1 (h 0 _ rfl))).trans rfl)
theorem dk_77 {code : ByteArray} {pc : Nat} (h : DkAt code pc [77]) : decode code pc = .ok (.astore_n 2, 1) := dk_of ((dk_bind (dk_u1 (h 0 _ rfl))).trans rfl)
theorem dk_78 {code : ByteArray} {pc : Nat} (h : DkAt code pc [78]) : decode code pc = .ok (.astore_n 3, 1) := dk_of ((dk_bind (dk_u1 (h 0 _ rfl))).trans rfl)
theorem dk_79 {code : ByteArray} {pc : Nat} (h : DkAt code pc [79]) : decode code pc = .ok (.iastore, 1) := dk_of ((dk_bind (dk_u1 (h 0 _ rfl))).trans rfl)
theorem dk_80 {code : ByteArray} {pc : Nat} (h : DkAt code pc [80]) : decode code pc = .ok (.lastore, 1) := dk_of ((dk_bind (dk_u1 (h 0 _ rfl))).trans rfl)
theorem dk_83 {code : ByteArray} {pc : Nat} (h : DkAt code pc [83]) : decode code pc = .ok (.aastore, 1) := dk_of ((dk_bind (dk_u1 (h 0 _ rfl))).trans rfl)
theorem dk_84 {code : ByteArray} {pc : Nat} (h : DkAt code pc [84]) : decode code pc = .ok (.bastore, 1) := dk_of ((dk_bind (dk_u1 (h 0 _ rfl))).trans rfl)
theorem dk_87 {code : ByteArray} {pc : Nat} (h : DkAt code pc [87]) : decode code pc = .ok (.pop, 1) := dk_of ((dk_bind (dk_u1 (h 0 _ rfl))).trans rfl)
theorem dk_89 {code : ByteArray} {pc : Nat} (h : DkAt code pc [89]) : decode code pc = .ok (.dup, 1) := dk_of ((dk_bind (dk_u1 (h 0 _ rfl))).trans rfl)
theorem dk_90 {code : ByteArray} {pc : Nat} (h : DkAt code pc [90]) : decode code pc = .ok (.dup_x1, 1) := dk_of ((dk_bind (dk_u1 (h 0 _ rfl))).trans rfl)
theorem dk_96 {code : ByteArray} {pc : Nat} (h : DkAt code pc [96]) : decode code pc = .ok (.iadd, 1) := dk_of ((dk_bind (dk_u1 (h 0 _ rfl))).trans rfl)
theorem dk_97 {code : ByteArray} {pc : Nat} (h : DkAt code pc [97]) : decode code pc = .ok (.ladd, 1) := dk_of ((dk_bind (dk_u1 (h 0 _ rfl))).trans rfl)
theorem dk_100 {code : ByteArray} {pc : Nat} (h : DkAt code pc [100]) : decode code pc = .ok (.isub, 1) := dk_of ((dk_bind (dk_u1 (h 0 _ rfl))).trans rfl)
theorem dk_104 {code : ByteArray} {pc : Nat} (h : DkAt code pc [104]) : decode code pc = .ok (.imul, 1) := dk_of ((dk_bind (dk_u1 (h 0 _ rfl))).trans rfl)
theorem dk_108 {code : ByteArray} {pc : Nat} (h : DkAt code pc [108]) : decode code pc = .ok (.idiv, 1) := dk_of ((dk_bind (dk_u1 (h 0 _ rfl))).trans rfl)
theorem dk_110 {code : ByteArray} {pc : Nat} (h : DkAt code pc [110]) : decode code pc = .ok (.fdiv, 1) := dk_of ((dk_bind (dk_u1 (h 0 _ rfl))).trans rfl)
theorem dk_111 {code : ByteArray} {pc : Nat} (h : DkAt code pc [111]) : decode code pc = .ok (.ddiv, 1) := dk_of ((dk_bind (dk_u1 (h 0 _ rfl))).trans rfl)
theorem dk_112 {code : ByteArray} {pc : Nat} (h : DkAt code pc [112]) : decode code pc = .ok (.irem, 1) := dk_of ((dk_bind (dk_u1 (h 0 _ rfl))).trans rfl)
theorem dk_116 {code : ByteArray} {pc : Nat} (h : DkAt code pc [116]) : decode code pc = .ok (.ineg, 1) := dk_of ((dk_bind (dk_u1 (h 0 _ rfl))).trans rfl)
theorem dk_120 {code : ByteArray} {pc : Nat} (h : DkAt code pc [120]) : decode code pc = .ok (.ishl, 1) := dk_of ((dk_bind (dk_u1 (h 0 _ rfl))).trans rfl)
theorem dk_121 {code : ByteArray} {pc : Nat} (h : DkAt code pc [121]) : decode code pc = .ok (.lshl, 1) := dk_of ((dk_bind (dk_u1 (h 0 _ rfl))).trans rfl)
theorem dk_122 {code : ByteArray} {pc : Nat} (h : DkAt code pc [122]) : decode code pc = .ok (.ishr, 1) := dk_of ((dk_bind (dk_u1 (h 0 _ rfl))).trans rfl)
theorem dk_124 {code : ByteArray} {pc : Nat} (h : DkAt code pc [124]) : decode code pc = .ok (.iushr, 1) := dk_of ((dk_bind (dk_u1 (h 0 _ rfl))).trans rfl)
theorem dk_125 {code : ByteArray} {pc : Nat} (h : DkAt code pc [125]) : decode code pc = .ok (.lushr, 1) := dk_of ((dk_bind (dk_u1 (h 0 _ rfl))).trans rfl)
theorem dk_126 {code : ByteArray} {pc : Nat} (h : DkAt code pc [126]) : decode code pc = .ok (.iand, 1) := dk_of ((dk_bind (dk_u1 (h 0 _ rfl))).trans rfl)
theorem dk_127 {code : ByteArray} {pc : Nat} (h : DkAt code pc [127]) : decode code pc = .ok (.land, 1) := dk_of ((dk_bind (dk_u1 (h 0 _ rfl))).trans rfl)
theorem dk_128 {code : ByteArray} {pc : Nat} (h : DkAt code pc [128]) : decode code pc = .ok (.ior, 1) := dk_of ((dk_bind (dk_u1 (h 0 _ rfl))).trans rfl)
theorem dk_129 {code : ByteArray} {pc : Nat} (h : DkAt code pc [129]) : decode code pc = .ok (.lor, 1) := dk_of ((dk_bind (dk_u1 (h 0 _ rfl))).trans rfl)
theorem dk_130 {code : ByteArray} {pc : Nat} (h : DkAt code pc [130]) : decode code pc = .ok (.ixor, 1) := dk_of ((dk_bind (dk_u1 (h 0 _ rfl))).trans rfl)
theorem dk_131 {code : ByteArray} {pc : Nat} (h : DkAt code pc [131]) : decode code pc = .ok (.lxor, 1) := dk_of ((dk_bind (dk_u1 (h 0 _ rfl))).trans rfl)
theorem dk_132 {code : ByteArray} {pc : Nat} (a b : UInt8) (h : DkAt code pc [132, a, b]) : decode code pc = .ok (.iinc a.toNat (Reader.signed 8 b.toNat), 3) := dk_of ((dk_bind (dk_u1 (h 0 _ rfl))).trans ((dk_bind (dk_u1 (h 1 _ rfl))).trans ((dk_bind (dk_map (dk_u1 (h 2 _ rfl)))).trans rfl)))
theorem dk_133 {code : ByteArray} {pc : Nat} (h : DkAt code pc [133]) : decode code pc = .ok (.i2l, 1) := dk_of ((dk_bind (dk_u1 (h 0 _ rfl))).trans rfl)
theorem dk_134 {code : ByteArray} {pc : Nat} (h : DkAt code pc [134]) : decode code pc = .ok (.i2f, 1) := dk_of ((dk_bind (dk_u1 (h 0 _ rfl))).trans rfl)
theorem dk_135 {code : ByteArray} {pc : Nat} (h : DkAt code pc [135]) : decode code pc = .ok (.i2d, 1) := dk_of ((dk_bind (dk_u1 (h 0 _ rfl))).trans rfl)
theorem dk_136 {code : ByteArray} {pc : Nat} (h : DkAt code pc [136]) : decode code pc = .ok (.l2i, 1) := dk_of ((dk_bind (dk_u1 (h 0 _ rfl))).trans rfl)
theorem dk_141 {code : ByteArray} {pc : Nat} (h : DkAt code pc [141]) : decode code pc = .ok (.f2d, 1) := dk_of ((dk_bind (dk_u1 (h 0 _ rfl))).trans rfl)
theorem dk_145 {code : ByteArray} {pc : Nat} (h : DkAt code pc [145]) : decode code pc = .ok (.i2b, 1) := dk_of ((dk_bind (dk_u1 (h 0 _ rfl))).trans rfl)
theorem dk_146 {code : ByteArray} {pc : Nat} (h : DkAt code pc [146]) : decode code pc = .ok (.i2c, 1) := dk_of ((dk_bind (dk_u1 (h 0 _ rfl))).trans rfl)
theorem dk_148 {code : ByteArray} {pc : Nat} (h : DkAt code pc [148]) : decode code pc = .ok (.lcmp, 1) := dk_of ((dk_bind (dk_u1 (h 0 _ rfl))).trans rfl)
theorem dk_151 {code : ByteArray} {pc : Nat} (h : DkAt code pc [151]) : decode code pc = .ok (.dcmp .l, 1) := dk_of ((dk_bind (dk_u1 (h 0 _ rfl))).trans rfl)
theorem dk_153 {code : ByteArray} {pc : Nat} (a b : UInt8) (h : DkAt code pc [153, a, b]) : decode code pc = .ok (.ifCond .eq (Reader.signed 16 (a.toNat * 256 + b.toNat)), 3) := dk_of ((dk_bind (dk_u1 (h 0 _ rfl))).trans ((dk_bind (dk_map (dk_u2 (h 1 _ rfl) (h 2 _ rfl)))).trans rfl))
theorem dk_154 {code : ByteArray} {pc : Nat} (a b : UInt8) (h : DkAt code pc [154, a, b]) : decode code pc = .ok (.ifCond .ne (Reader.signed 16 (a.toNat * 256 + b.toNat)), 3) := dk_of ((dk_bind (dk_u1 (h 0 _ rfl))).trans ((dk_bind (dk_map (dk_u2 (h 1 _ rfl) (h 2 _ rfl)))).trans rfl))
theorem dk_155 {code : ByteArray} {pc : Nat} (a b : UInt8) (h : DkAt code pc [155, a, b]) : decode code pc = .ok (.ifCond .lt (Reader.signed 16 (a.toNat * 256 + b.toNat)), 3) := dk_of ((dk_bind (dk_u1 (h 0 _ rfl))).trans ((dk_bind (dk_map (dk_u2 (h 1 _ rfl) (h 2 _ rfl)))).trans rfl))
theorem dk_156 {code : ByteArray} {pc : Nat} (a b : UInt8) (h : DkAt code pc [156, a, b]) : decode code pc = .ok (.ifCond .ge (Reader.signed 16 (a.toNat * 256 + b.toNat)), 3) := dk_of ((dk_bind (dk_u1 (h 0 _ rfl))).trans ((dk_bind (dk_map (dk_u2 (h 1 _ rfl) (h 2 _ rfl)))).trans rfl))
theorem dk_157 {code : ByteArray} {pc : Nat} (a b : UInt8) (h : DkAt code pc [157, a, b]) : decode code pc = .ok (.ifCond .gt (Reader.signed 16 (a.toNat * 256 + b.toNat)), 3) := dk_of ((dk_bind (dk_u1 (h 0 _ rfl))).trans ((dk_bind (dk_map (dk_u2 (h 1 _ rfl) (h 2 _ rfl)))).trans rfl))
theorem dk_158 {code : ByteArray} {pc : Nat} (a b : UInt8) (h : DkAt code pc [158, a, b]) : decode code pc = .ok (.ifCond .le (Reader.signed 16 (a.toNat * 256 + b.toNat)), 3) := dk_of ((dk_bind (dk_u1 (h 0 _ rfl))).trans ((dk_bind (dk_map (dk_u2 (h 1 _ rfl) (h 2 _ rfl)))).trans rfl))
theorem dk_159 {code : ByteArray} {pc : Nat} (a b : UInt8) (h : DkAt code pc [159, a, b]) : decode code pc = .ok (.if_icmp .eq (Reader.signed 16 (a.toNat * 256 + b.toNat)), 3) := dk_of ((dk_bind (dk_u1 (h 0 _ rfl))).trans ((dk_bind (dk_map (dk_u2 (h 1 _ rfl) (h 2 _ rfl)))).trans rfl))
theorem dk_160 {code : ByteArray} {pc : Nat} (a b : UInt8) (h : DkAt code pc [160, a, b]) : decode code pc = .ok (.if_icmp .ne (Reader.signed 16 (a.toNat * 256 + b.toNat)), 3) := dk_of ((dk_bind (dk_u1 (h 0 _ rfl))).trans ((dk_bind (dk_map (dk_u2 (h 1 _ rfl) (h 2 _ rfl)))).trans rfl))
theorem dk_161 {code : ByteArray} {pc : Nat} (a b : UInt8) (h : DkAt code pc [161, a, b]) : decode code pc = .ok (.if_icmp .lt (Reader.signed 16 (a.toNat * 256 + b.toNat)), 3) := dk_of ((dk_bind (dk_u1 (h 0 _ rfl))).trans ((dk_bind (dk_map (dk_u2 (h 1 _ rfl) (h 2 _ rfl)))).trans rfl))
theorem dk_162 {code : ByteArray} {pc : Nat} (a b : UInt8) (h : DkAt code pc [162, a, b]) : decode code pc = .ok (.if_icmp .ge (Reader.signed 16 (a.toNat * 256 + b.toNat)), 3) := dk_of ((dk_bind (dk_u1 (h 0 _ rfl))).trans ((dk_bind (dk_map (dk_u2 (h 1 _ rfl) (h 2 _ rfl)))).trans rfl))
theorem dk_163 {code : ByteArray} {pc : Nat} (a b : UInt8) (h : DkAt code pc [163, a, b]) : decode code pc = .ok (.if_icmp .gt (Reader.signed 16 (a.toNat * 256 + b.toNat)), 3) := dk_of ((dk_bind (dk_u1 (h 0 _ rfl))).trans ((dk_bind (dk_map (dk_u2 (h 1 _ rfl) (h 2 _ rfl)))).trans rfl))
theorem dk_164 {code : ByteArray} {pc : Nat} (a b : UInt8) (h : DkAt code pc [164, a, b]) : decode code pc = .ok (.if_icmp .le (Reader.signed 16 (a.toNat * 256 + b.toNat)), 3) := dk_of ((dk_bind (dk_u1 (h 0 _ rfl))).trans ((dk_bind (dk_map (dk_u2 (h 1 _ rfl) (h 2 _ rfl)))).trans rfl))
theorem dk_165 {code : ByteArray} {pc : Nat} (a b : UInt8) (h : DkAt code pc [165, a, b]) : decode code pc = .ok (.if_acmp .eq (Reader.signed 16 (a.toNat * 256 + b.toNat)), 3) := dk_of ((dk_bind (dk_u1 (h 0 _ rfl))).trans ((dk_bind (dk_map (dk_u2 (h 1 _ rfl) (h 2 _ rfl)))).trans rfl))
theorem dk_166 {code : ByteArray} {pc : Nat} (a b : UInt8) (h : DkAt code pc [166, a, b]) : decode code pc = .ok (.if_acmp .ne (Reader.signed 16 (a.toNat * 256 + b.toNat)), 3) := dk_of ((dk_bind (dk_u1 (h 0 _ rfl))).trans ((dk_bind (dk_map (dk_u2 (h 1 _ rfl) (h 2 _ rfl)))).trans rfl))
theorem dk_167 {code : ByteArray} {pc : Nat} (a b : UInt8) (h : DkAt code pc [167, a, b]) : decode code pc = .ok (.goto (Reader.signed 16 (a.toNat * 256 + b.toNat)), 3) := dk_of ((dk_bind (dk_u1 (h 0 _ rfl))).trans ((dk_bind (dk_map (dk_u2 (h 1 _ rfl) (h 2 _ rfl)))).trans rfl))
theorem dk_172 {code : ByteArray} {pc : Nat} (h : DkAt code pc [172]) : decode code pc = .ok (.ireturn, 1) := dk_of ((dk_bind (dk_u1 (h 0 _ rfl))).trans rfl)
theorem dk_173 {code : ByteArray} {pc : Nat} (h : DkAt code pc [173]) : decode code pc = .ok (.lreturn, 1) := dk_of ((dk_bind (dk_u1 (h 0 _ rfl))).trans rfl)
theorem dk_174 {code : ByteArray} {pc : Nat} (h : DkAt code pc [174]) : decode code pc = .ok (.freturn, 1) := dk_of ((dk_bind (dk_u1 (h 0 _ rfl))).trans rfl)
theorem dk_175 {code : ByteArray} {pc : Nat} (h : DkAt code pc [175]) : decode code pc = .ok (.dreturn, 1) := dk_of ((dk_bind (dk_u1 (h 0 _ rfl))).trans rfl)
theorem dk_176 {code : ByteArray} {pc : Nat} (h : DkAt code pc [176]) : decode code pc = .ok (.areturn, 1) := dk_of ((dk_bind (dk_u1 (h 0 _ rfl))).trans rfl)
theorem dk_177 {code : ByteArray} {pc : Nat} (h : DkAt code pc [177]) : decode code pc = .ok (.return_, 1) := dk_of ((dk_bind (dk_u1 (h 0 _ rfl))).trans rfl)
theorem dk_178 {code : ByteArray} {pc : Nat} (a b : UInt8) (h : DkAt code pc [178, a, b]) : decode code pc = .ok (.getstatic (a.toNat * 256 + b.toNat), 3) := dk_of ((dk_bind (dk_u1 (h 0 _ rfl))).trans ((dk_bind (dk_u2 (h 1 _ rfl) (h 2 _ rfl))).trans rfl))
theorem dk_180 {code : ByteArray} {pc : Nat} (a b : UInt8) (h : DkAt code pc [180, a, b]) : decode code pc = .ok (.getfield (a.toNat * 256 + b.toNat), 3) := dk_of ((dk_bind (dk_u1 (h 0 _ rfl))).trans ((dk_bind (dk_u2 (h 1 _ rfl) (h 2 _ rfl))).trans rfl))
theorem dk_181 {code : ByteArray} {pc : Nat} (a b : UInt8) (h : DkAt code pc [181, a, b]) : decode code pc = .ok (.putfield (a.toNat * 256 + b.toNat), 3) := dk_of ((dk_bind (dk_u1 (h 0 _ rfl))).trans ((dk_bind (dk_u2 (h 1 _ rfl) (h 2 _ rfl))).trans rfl))
theorem dk_182 {code : ByteArray} {pc : Nat} (a b : UInt8) (h : DkAt code pc [182, a, b]) : decode code pc = .ok (.invokevirtual (a.toNat * 256 + b.toNat), 3) := dk_of ((dk_bind (dk_u1 (h 0 _ rfl))).trans ((dk_bind (dk_u2 (h 1 _ rfl) (h 2 _ rfl))).trans rfl))
theorem dk_183 {code : ByteArray} {pc : Nat} (a b : UInt8) (h : DkAt code pc [183, a, b]) : decode code pc = .ok (.invokespecial (a.toNat * 256 + b.toNat), 3) := dk_of ((dk_bind (dk_u1 (h 0 _ rfl))).trans ((dk_bind (dk_u2 (h 1 _ rfl) (h 2 _ rfl))).trans rfl))
theorem dk_184 {code : ByteArray} {pc : Nat} (a b : UInt8) (h : DkAt code pc [184, a, b]) : decode code pc = .ok (.invokestatic (a.toNat * 256 + b.toNat), 3) := dk_of ((dk_bind (dk_u1 (h 0 _ rfl))).trans ((dk_bind (dk_u2 (h 1 _ rfl) (h 2 _ rfl))).trans rfl))
theorem dk_187 {code : ByteArray} {pc : Nat} (a b : UInt8) (h : DkAt code pc [187, a, b]) : decode code pc = .ok (.new (a.toNat * 256 + b.toNat), 3) := dk_of ((dk_bind (dk_u1 (h 0 _ rfl))).trans ((dk_bind (dk_u2 (h 1 _ rfl) (h 2 _ rfl))).trans rfl))
theorem dk_188_4 {code : ByteArray} {pc : Nat} (h : DkAt code pc [188, 4]) : decode code pc = .ok (.newarray .boolean, 2) := dk_of ((dk_bind (dk_u1 (h 0 _ rfl))).trans ((dk_bind (dk_u1 (h 1 _ rfl))).trans rfl))
theorem dk_188_8 {code : ByteArray} {pc : Nat} (h : DkAt code pc [188, 8]) : decode code pc = .ok (.newarray .byte, 2) := dk_of ((dk_bind (dk_u1 (h 0 _ rfl))).trans ((dk_bind (dk_u1 (h 1 _ rfl))).trans rfl))
theorem dk_188_10 {code : ByteArray} {pc : Nat} (h : DkAt code pc [188, 10]) : decode code pc = .ok (.newarray .int, 2) := dk_of ((dk_bind (dk_u1 (h 0 _ rfl))).trans ((dk_bind (dk_u1 (h 1 _ rfl))).trans rfl))
theorem dk_188_11 {code : ByteArray} {pc : Nat} (h : DkAt code pc [188, 11]) : decode code pc = .ok (.newarray .long, 2) := dk_of ((dk_bind (dk_u1 (h 0 _ rfl))).trans ((dk_bind (dk_u1 (h 1 _ rfl))).trans rfl))
theorem dk_189 {code : ByteArray} {pc : Nat} (a b : UInt8) (h : DkAt code pc [189, a, b]) : decode code pc = .ok (.anewarray (a.toNat * 256 + b.toNat), 3) := dk_of ((dk_bind (dk_u1 (h 0 _ rfl))).trans ((dk_bind (dk_u2 (h 1 _ rfl) (h 2 _ rfl))).trans rfl))
theorem dk_190 {code : ByteArray} {pc : Nat} (h : DkAt code pc [190]) : decode code pc = .ok (.arraylength, 1) := dk_of ((dk_bind (dk_u1 (h 0 _ rfl))).trans rfl)
theorem dk_191 {code : ByteArray} {pc : Nat} (h : DkAt code pc [191]) : decode code pc = .ok (.athrow, 1) := dk_of ((dk_bind (dk_u1 (h 0 _ rfl))).trans rfl)
theorem dk_192 {code : ByteArray} {pc : Nat} (a b : UInt8) (h : DkAt code pc [192, a, b]) : decode code pc = .ok (.checkcast (a.toNat * 256 + b.toNat), 3) := dk_of ((dk_bind (dk_u1 (h 0 _ rfl))).trans ((dk_bind (dk_u2 (h 1 _ rfl) (h 2 _ rfl))).trans rfl))
theorem dk_193 {code : ByteArray} {pc : Nat} (a b : UInt8) (h : DkAt code pc [193, a, b]) : decode code pc = .ok (.instanceof (a.toNat * 256 + b.toNat), 3) := dk_of ((dk_bind (dk_u1 (h 0 _ rfl))).trans ((dk_bind (dk_u2 (h 1 _ rfl) (h 2 _ rfl))).trans rfl))
theorem dk_198 {code : ByteArray} {pc : Nat} (a b : UInt8) (h : DkAt code pc [198, a, b]) : decode code pc = .ok (.ifnull (Reader.signed 16 (a.toNat * 256 + b.toNat)), 3) := dk_of ((dk_bind (dk_u1 (h 0 _ rfl))).trans ((dk_bind (dk_map (dk_u2 (h 1 _ rfl) (h 2 _ rfl)))).trans rfl))
theorem dk_199 {code : ByteArray} {pc : Nat} (a b : UInt8) (h : DkAt code pc [199, a, b]) : decode code pc = .ok (.ifnonnull (Reader.signed 16 (a.toNat * 256 + b.toNat)), 3) := dk_of ((dk_bind (dk_u1 (h 0 _ rfl))).trans ((dk_bind (dk_map (dk_u2 (h 1 _ rfl) (h 2 _ rfl)))).trans rfl))

/-! Holdtag$Register -/
set_option maxRecDepth 100000
def RX2 : String := "Holdtag$Register"
def TX2 : u_T := fun k => match k with
  | 0 => ("Holdtag$Register", "all", "Ljava/util/List;", true)
  | _ => ("Holdtag$Register", "most", "I", true)
def tyX2 : Nat → FieldType := fun k => match k with
  | 0 => .object "java/util/List"
  | _ => .int
abbrev wsX20 : List Cond := u_ws RX2 TX2 2
theorem nmX2 : ∀ a, a < 2 → ∀ b, b < 2 → a ≠ b → (TX2 a).2.1 ≠ (TX2 b).2.1 := by decide +kernel
theorem tyX2_ok : ∀ k, k < 2 → parseFieldDescriptor (TX2 k).2.2.1 = some (tyX2 k) := by decide +kernel
abbrev cX2_init : ByteArray := prog_9_method_1_code
def yX2_init : MethodName := ⟨RX2, "<init>", "(I)V"⟩
def dkwX2_init_0 : List UInt8 := [42, 183, 0, 3, 42, 187, 0, 9, 89, 183, 0, 11, 181, 0, 12, 42, 27, 181, 0, 18, 177]
abbrev dktX2_init_0 : List UInt8 := dkwX2_init_0 ++ []
theorem dksX2_init_0 : cX2_init.data.toList.drop 0 = dktX2_init_0 := by decide +kernel
theorem dX2_init_0 : decode cX2_init 0 = .ok (.aload_n 0, 1) := dk_42 (dk_at dksX2_init_0 0 rfl rfl)
theorem dX2_init_1 : decode cX2_init 1 = .ok (.invokespecial 3, 3) := dk_183 0 3 (dk_at dksX2_init_0 1 rfl rfl)
theorem dX2_init_4 : decode cX2_init 4 = .ok (.aload_n 0, 1) := dk_42 (dk_at dksX2_init_0 4 rfl rfl)
theorem dX2_init_5 : decode cX2_init 5 = .ok (.new 9, 3) := dk_187 0 9 (dk_at dksX2_init_0 5 rfl rfl)
theorem dX2_init_8 : decode cX2_init 8 = .ok (.dup, 1) := dk_89 (dk_at dksX2_init_0 8 rfl rfl)
theorem dX2_init_9 : decode cX2_init 9 = .ok (.invokespecial 11, 3) := dk_183 0 11 (dk_at dksX2_init_0 9 rfl rfl)
theorem dX2_init_12 : decode cX2_init 12 = .ok (.putfield 12, 3) := dk_181 0 12 (dk_at dksX2_init_0 12 rfl rfl)
theorem dX2_init_15 : decode cX2_init 15 = .ok (.aload_n 0, 1) := dk_42 (dk_at dksX2_init_0 15 rfl rfl)
theorem dX2_init_16 : decode cX2_init 16 = .ok (.iload_n 1, 1) := dk_27 (dk_at dksX2_init_0 16 rfl rfl)
theorem dX2_init_17 : decode cX2_init 17 = .ok (.putfield 18, 3) := dk_181 0 18 (dk_at dksX2_init_0 17 rfl rfl)
theorem dX2_init_20 : decode cX2_init 20 = .ok (.return_, 1) := dk_177 (dk_at dksX2_init_0 20 rfl rfl)
abbrev cX2_size : ByteArray := prog_9_method_2_code
def yX2_size : MethodName := ⟨RX2, "size", "()I"⟩
def dkwX2_size_0 : List UInt8 := [42, 180, 0, 12, 185, 0, 22, 1, 0, 172]
abbrev dktX2_size_0 : List UInt8 := dkwX2_size_0 ++ []
theorem dksX2_size_0 : cX2_size.data.toList.drop 0 = dktX2_size_0 := by decide +kernel
theorem dX2_size_0 : decode cX2_size 0 = .ok (.aload_n 0, 1) := dk_42 (dk_at dksX2_size_0 0 rfl rfl)
theorem dX2_size_1 : decode cX2_size 1 = .ok (.getfield 12, 3) := dk_180 0 12 (dk_at dksX2_size_0 1 rfl rfl)
theorem dX2_size_4 : decode cX2_size 4 = .ok (.invokeinterface 22 1, 5) := by decide +kernel
theorem dX2_size_9 : decode cX2_size 9 = .ok (.ireturn, 1) := dk_172 (dk_at dksX2_size_0 9 rfl rfl)
abbrev cX2_at : ByteArray := prog_9_method_5_code
def yX2_at : MethodName := ⟨RX2, "at", "(I)LHoldtag$Numbered;"⟩
def dkwX2_at_1 : List UInt8 := [191, 42, 180, 0, 12, 27, 185, 0, 43, 2, 0, 192, 0, 36, 176]
abbrev dktX2_at_1 : List UInt8 := dkwX2_at_1 ++ []
def dkwX2_at_0 : List UInt8 := [27, 155, 0, 16, 27, 42, 180, 0, 12, 185, 0, 22, 1, 0, 161, 0, 11, 187, 0, 40, 89, 183, 0, 42]
abbrev dktX2_at_0 : List UInt8 := dkwX2_at_0 ++ dktX2_at_1
theorem dksX2_at_0 : cX2_at.data.toList.drop 0 = dktX2_at_0 := by decide +kernel
theorem dksX2_at_1 : cX2_at.data.toList.drop 24 = dktX2_at_1 := dk_seg dksX2_at_0 24 rfl rfl
theorem dX2_at_0 : decode cX2_at 0 = .ok (.iload_n 1, 1) := dk_27 (dk_at dksX2_at_0 0 rfl rfl)
theorem dX2_at_1 : decode cX2_at 1 = .ok (.ifCond .lt 16, 3) := dk_155 0 16 (dk_at dksX2_at_0 1 rfl rfl)
theorem dX2_at_4 : decode cX2_at 4 = .ok (.iload_n 1, 1) := dk_27 (dk_at dksX2_at_0 4 rfl rfl)
theorem dX2_at_5 : decode cX2_at 5 = .ok (.aload_n 0, 1) := dk_42 (dk_at dksX2_at_0 5 rfl rfl)
theorem dX2_at_6 : decode cX2_at 6 = .ok (.getfield 12, 3) := dk_180 0 12 (dk_at dksX2_at_0 6 rfl rfl)
theorem dX2_at_9 : decode cX2_at 9 = .ok (.invokeinterface 22 1, 5) := by decide +kernel
theorem dX2_at_14 : decode cX2_at 14 = .ok (.if_icmp .lt 11, 3) := dk_161 0 11 (dk_at dksX2_at_0 14 rfl rfl)
theorem dX2_at_17 : decode cX2_at 17 = .ok (.new 40, 3) := dk_187 0 40 (dk_at dksX2_at_0 17 rfl rfl)
theorem dX2_at_20 : decode cX2_at 20 = .ok (.dup, 1) := dk_89 (dk_at dksX2_at_0 20 rfl rfl)
theorem dX2_at_21 : decode cX2_at 21 = .ok (.invokespecial 42, 3) := dk_183 0 42 (dk_at dksX2_at_0 21 rfl rfl)
theorem dX2_at_24 : decode cX2_at 24 = .ok (.athrow, 1) := dk_191 (dk_at dksX2_at_1 0 rfl rfl)
theorem dX2_at_25 : decode cX2_at 25 = .ok (.aload_n 0, 1) := dk_42 (dk_at dksX2_at_1 1 rfl rfl)
theorem dX2_at_26 : decode cX2_at 26 = .ok (.getfield 12, 3) := dk_180 0 12 (dk_at dksX2_at_1 2 rfl rfl)
theorem dX2_at_29 : decode cX2_at 29 = .ok (.iload_n 1, 1) := dk_27 (dk_at dksX2_at_1 5 rfl rfl)
theorem dX2_at_30 : decode cX2_at 30 = .ok (.invokeinterface 43 2, 5) := by decide +kernel
theorem dX2_at_35 : decode cX2_at 35 = .ok (.checkcast 36, 3) := dk_192 0 36 (dk_at dksX2_at_1 11 rfl rfl)
theorem dX2_at_38 : decode cX2_at 38 = .ok (.areturn, 1) := dk_176 (dk_at dksX2_at_1 14 rfl rfl)
abbrev cX2_checkRoom : ByteArray := prog_9_method_3_code
def yX2_checkRoom : MethodName := ⟨RX2, "checkRoom", "()V"⟩
def dkwX2_checkRoom_1 : List UInt8 := [177]
abbrev dktX2_checkRoom_1 : List UInt8 := dkwX2_checkRoom_1 ++ []
def dkwX2_checkRoom_0 : List UInt8 := [42, 180, 0, 12, 185, 0, 22, 1, 0, 42, 180, 0, 18, 160, 0, 11, 187, 0, 28, 89, 183, 0, 30, 191]
abbrev dktX2_checkRoom_0 : List UInt8 := dkwX2_checkRoom_0 ++ dktX2_checkRoom_1
theorem dksX2_checkRoom_0 : cX2_checkRoom.data.toList.drop 0 = dktX2_checkRoom_0 := by decide +kernel
theorem dksX2_checkRoom_1 : cX2_checkRoom.data.toList.drop 24 = dktX2_checkRoom_1 := dk_seg dksX2_checkRoom_0 24 rfl rfl
theorem dX2_checkRoom_0 : decode cX2_checkRoom 0 = .ok (.aload_n 0, 1) := dk_42 (dk_at dksX2_checkRoom_0 0 rfl rfl)
theorem dX2_checkRoom_1 : decode cX2_checkRoom 1 = .ok (.getfield 12, 3) := dk_180 0 12 (dk_at dksX2_checkRoom_0 1 rfl rfl)
theorem dX2_checkRoom_4 : decode cX2_checkRoom 4 = .ok (.invokeinterface 22 1, 5) := by decide +kernel
theorem dX2_checkRoom_9 : decode cX2_checkRoom 9 = .ok (.aload_n 0, 1) := dk_42 (dk_at dksX2_checkRoom_0 9 rfl rfl)
theorem dX2_checkRoom_10 : decode cX2_checkRoom 10 = .ok (.getfield 18, 3) := dk_180 0 18 (dk_at dksX2_checkRoom_0 10 rfl rfl)
theorem dX2_checkRoom_13 : decode cX2_checkRoom 13 = .ok (.if_icmp .ne 11, 3) := dk_160 0 11 (dk_at dksX2_checkRoom_0 13 rfl rfl)
theorem dX2_checkRoom_16 : decode cX2_checkRoom 16 = .ok (.new 28, 3) := dk_187 0 28 (dk_at dksX2_checkRoom_0 16 rfl rfl)
theorem dX2_checkRoom_19 : decode cX2_checkRoom 19 = .ok (.dup, 1) := dk_89 (dk_at dksX2_checkRoom_0 19 rfl rfl)
theorem dX2_checkRoom_20 : decode cX2_checkRoom 20 = .ok (.invokespecial 30, 3) := dk_183 0 30 (dk_at dksX2_checkRoom_0 20 rfl rfl)
theorem dX2_checkRoom_23 : decode cX2_checkRoom 23 = .ok (.athrow, 1) := dk_191 (dk_at dksX2_checkRoom_0 23 rfl rfl)
theorem dX2_checkRoom_24 : decode cX2_checkRoom 24 = .ok (.return_, 1) := dk_177 (dk_at dksX2_checkRoom_1 0 rfl rfl)
abbrev cX2_add : ByteArray := prog_9_method_4_code
def yX2_add : MethodName := ⟨RX2, "add", "(LHoldtag$Numbered;)I"⟩
def dkwX2_add_0 : List UInt8 := [42, 180, 0, 12, 43, 185, 0, 31, 2, 0, 87, 43, 185, 0, 35, 1, 0, 172]
abbrev dktX2_add_0 : List UInt8 := dkwX2_add_0 ++ []
theorem dksX2_add_0 : cX2_add.data.toList.drop 0 = dktX2_add_0 := by decide +kernel
theorem dX2_add_0 : decode cX2_add 0 = .ok (.aload_n 0, 1) := dk_42 (dk_at dksX2_add_0 0 rfl rfl)
theorem dX2_add_1 : decode cX2_add 1 = .ok (.getfield 12, 3) := dk_180 0 12 (dk_at dksX2_add_0 1 rfl rfl)
theorem dX2_add_4 : decode cX2_add 4 = .ok (.aload_n 1, 1) := dk_43 (dk_at dksX2_add_0 4 rfl rfl)
theorem dX2_add_5 : decode cX2_add 5 = .ok (.invokeinterface 31 2, 5) := by decide +kernel
theorem dX2_add_10 : decode cX2_add 10 = .ok (.pop, 1) := dk_87 (dk_at dksX2_add_0 10 rfl rfl)
theorem dX2_add_11 : decode cX2_add 11 = .ok (.aload_n 1, 1) := dk_43 (dk_at dksX2_add_0 11 rfl rfl)
theorem dX2_add_12 : decode cX2_add 12 = .ok (.invokeinterface 35 1, 5) := by decide +kernel
theorem dX2_add_17 : decode cX2_add 17 = .ok (.ireturn, 1) := dk_172 (dk_at dksX2_add_0 17 rfl rfl)
abbrev cX2_atOrNone : ByteArray := prog_9_method_6_code
def yX2_atOrNone : MethodName := ⟨RX2, "atOrNone", "(I)LHoldtag$Numbered;"⟩
def dkwX2_atOrNone_0 : List UInt8 := [27, 2, 160, 0, 7, 1, 167, 0, 8, 42, 27, 182, 0, 47, 176]
abbrev dktX2_atOrNone_0 : List UInt8 := dkwX2_atOrNone_0 ++ []
theorem dksX2_atOrNone_0 : cX2_atOrNone.data.toList.drop 0 = dktX2_atOrNone_0 := by decide +kernel
theorem dX2_atOrNone_0 : decode cX2_atOrNone 0 = .ok (.iload_n 1, 1) := dk_27 (dk_at dksX2_atOrNone_0 0 rfl rfl)
theorem dX2_atOrNone_1 : decode cX2_atOrNone 1 = .ok (.iconst (-1), 1) := dk_2 (dk_at dksX2_atOrNone_0 1 rfl rfl)
theorem dX2_atOrNone_2 : decode cX2_atOrNone 2 = .ok (.if_icmp .ne 7, 3) := dk_160 0 7 (dk_at dksX2_atOrNone_0 2 rfl rfl)
theorem dX2_atOrNone_5 : decode cX2_atOrNone 5 = .ok (.aconst_null, 1) := dk_1 (dk_at dksX2_atOrNone_0 5 rfl rfl)
theorem dX2_atOrNone_6 : decode cX2_atOrNone 6 = .ok (.goto 8, 3) := dk_167 0 8 (dk_at dksX2_atOrNone_0 6 rfl rfl)
theorem dX2_atOrNone_9 : decode cX2_atOrNone 9 = .ok (.aload_n 0, 1) := dk_42 (dk_at dksX2_atOrNone_0 9 rfl rfl)
theorem dX2_atOrNone_10 : decode cX2_atOrNone 10 = .ok (.iload_n 1, 1) := dk_27 (dk_at dksX2_atOrNone_0 10 rfl rfl)
theorem dX2_atOrNone_11 : decode cX2_atOrNone 11 = .ok (.invokevirtual 47, 3) := dk_182 0 47 (dk_at dksX2_atOrNone_0 11 rfl rfl)
theorem dX2_atOrNone_14 : decode cX2_atOrNone 14 = .ok (.areturn, 1) := dk_176 (dk_at dksX2_atOrNone_0 14 rfl rfl)
theorem q55 : (Jvm.Cond.initialized "Holdtag$Register") ∈ lw_all := lw_g (lw_at lw_m1 2 rfl) rfl
theorem q108 : (Jvm.Cond.instantiable "Holdtag$Register" (2 : Nat)) ∈ lw_all := lw_g (lw_at lw_m1 55 rfl) rfl
theorem q110 : (Jvm.Cond.instanceMethod ({ cls := "Holdtag$Register", name := "<init>", desc := "(I)V" } : Jvm.MethodName)) ∈ lw_all := lw_g (lw_at lw_m1 57 rfl) rfl
theorem q111 : (Jvm.Cond.code ({ cls := "Holdtag$Register", name := "<init>", desc := "(I)V" } : Jvm.MethodName) prog_9_method_1_code (2 : Nat) (Option.none : Option Jvm.ClassFile.FieldType)) ∈ lw_all := lw_g (lw_at lw_m1 58 rfl) rfl
theorem q112 : (Jvm.Cond.methodLink "Holdtag$Register" (3 : Nat) ({ cls := "java/lang/Object", name := "<init>", desc := "()V" } : Jvm.MethodName)) ∈ lw_all := lw_g (lw_at lw_m1 59 rfl) rfl
theorem q113 : (Jvm.Cond.classLink "Holdtag$Register" (9 : Nat) "java/util/ArrayList") ∈ lw_all := lw_g (lw_at lw_m1 60 rfl) rfl
theorem q115 : (Jvm.Cond.methodLink "Holdtag$Register" (11 : Nat) ({ cls := "java/util/ArrayList", name := "<init>", desc := "()V" } : Jvm.MethodName)) ∈ lw_all := lw_g (lw_at lw_m1 62 rfl) rfl
theorem q139 : (Jvm.Cond.fieldLink "Holdtag$Register" (12 : Nat) "Holdtag$Register" "all" "Ljava/util/List;") ∈ lw_all := lw_g (lw_at lw_m1 86 rfl) rfl
theorem q141 : (Jvm.Cond.fieldLink "Holdtag$Register" (18 : Nat) "Holdtag$Register" "most" "I") ∈ lw_all := lw_g (lw_at lw_m1 88 rfl) rfl
theorem q142 : (Jvm.Cond.laysFinal "Holdtag$Register" "Holdtag$Register" "all" "Ljava/util/List;") ∈ lw_all := lw_g (lw_at lw_m1 89 rfl) rfl
theorem q143 : (Jvm.Cond.soleField "Holdtag$Register" "all") ∈ lw_all := lw_g (lw_at lw_m1 90 rfl) rfl
theorem q144 : (Jvm.Cond.laysFinal "Holdtag$Register" "Holdtag$Register" "most" "I") ∈ lw_all := lw_g (lw_at lw_m1 91 rfl) rfl
theorem q145 : (Jvm.Cond.soleField "Holdtag$Register" "most") ∈ lw_all := lw_g (lw_at lw_m1 92 rfl) rfl
theorem q146 : (Jvm.Cond.superclass "Holdtag$Register" "java/lang/Object") ∈ lw_all := lw_g (lw_at lw_m1 93 rfl) rfl
theorem q275 : (Jvm.Cond.selects "Holdtag$Register" ({ cls := "java/lang/Object", name := "getClass", desc := "()Ljava/lang/Class;" } : Jvm.MethodName) ({ cls := "java/lang/Object", name := "getClass", desc := "()Ljava/lang/Class;" } : Jvm.MethodName)) ∈ lw_all := lw_g (lw_at lw_m1 222 rfl) rfl
theorem q348 : (Jvm.Cond.instanceMethod ({ cls := "Holdtag$Register", name := "size", desc := "()I" } : Jvm.MethodName)) ∈ lw_all := lw_g (lw_at lw_m2 55 rfl) rfl
theorem q349 : (Jvm.Cond.selects "Holdtag$Register" ({ cls := "Holdtag$Register", name := "size", desc := "()I" } : Jvm.MethodName) ({ cls := "Holdtag$Register", name := "size", desc := "()I" } : Jvm.MethodName)) ∈ lw_all := lw_g (lw_at lw_m2 56 rfl) rfl
theorem q350 : (Jvm.Cond.code ({ cls := "Holdtag$Register", name := "size", desc := "()I" } : Jvm.MethodName) prog_9_method_2_code (1 : Nat) (Option.some Jvm.ClassFile.FieldType.int)) ∈ lw_all := lw_g (lw_at lw_m2 57 rfl) rfl
theorem q351 : (Jvm.Cond.interfaceEntry "Holdtag$Register" (22 : Nat)) ∈ lw_tbl := lw_at lw_m2 58 rfl
theorem q352 : (Jvm.Cond.methodLink "Holdtag$Register" (22 : Nat) ({ cls := "java/util/List", name := "size", desc := "()I" } : Jvm.MethodName)) ∈ lw_all := lw_g (lw_at lw_m2 59 rfl) rfl
theorem q442 : (Jvm.Cond.instanceMethod ({ cls := "Holdtag$Register", name := "at", desc := "(I)LHoldtag$Numbered;" } : Jvm.MethodName)) ∈ lw_all := lw_g (lw_at lw_m2 149 rfl) rfl
theorem q443 : (Jvm.Cond.selects "Holdtag$Register" ({ cls := "Holdtag$Register", name := "at", desc := "(I)LHoldtag$Numbered;" } : Jvm.MethodName) ({ cls := "Holdtag$Register", name := "at", desc := "(I)LHoldtag$Numbered;" } : Jvm.MethodName)) ∈ lw_all := lw_g (lw_at lw_m2 150 rfl) rfl
theorem q444 : (Jvm.Cond.code ({ cls := "Holdtag$Register", name := "at", desc := "(I)LHoldtag$Numbered;" } : Jvm.MethodName) prog_9_method_5_code (2 : Nat) (Option.some (Jvm.ClassFile.FieldType.object "Holdtag$Numbered"))) ∈ lw_all := lw_g (lw_at lw_m2 151 rfl) rfl
theorem q445 : (Jvm.Cond.classLink "Holdtag$Register" (40 : Nat) "java/lang/IndexOutOfBoundsException") ∈ lw_all := lw_g (lw_at lw_m2 152 rfl) rfl
theorem q489 : (Jvm.Cond.methodLink "Holdtag$Register" (42 : Nat) ({ cls := "java/lang/IndexOutOfBoundsException", name := "<init>", desc := "()V" } : Jvm.MethodName)) ∈ lw_all := lw_g (lw_at lw_m2 196 rfl) rfl
theorem q512 : (Jvm.Cond.interfaceEntry "Holdtag$Register" (43 : Nat)) ∈ lw_tbl := lw_at lw_m2 219 rfl
theorem q513 : (Jvm.Cond.methodLink "Holdtag$Register" (43 : Nat) ({ cls := "java/util/List", name := "get", desc := "(I)Ljava/lang/Object;" } : Jvm.MethodName)) ∈ lw_all := lw_g (lw_at lw_m2 220 rfl) rfl
theorem q529 : (Jvm.Cond.classLink "Holdtag$Register" (36 : Nat) "Holdtag$Numbered") ∈ lw_all := lw_g (lw_at lw_m2 236 rfl) rfl
theorem q1255 : (Jvm.Cond.instanceMethod ({ cls := "Holdtag$Register", name := "checkRoom", desc := "()V" } : Jvm.MethodName)) ∈ lw_all := lw_g (lw_at lw_m6 2 rfl) rfl
theorem q1256 : (Jvm.Cond.selects "Holdtag$Register" ({ cls := "Holdtag$Register", name := "checkRoom", desc := "()V" } : Jvm.MethodName) ({ cls := "Holdtag$Register", name := "checkRoom", desc := "()V" } : Jvm.MethodName)) ∈ lw_all := lw_g (lw_at lw_m6 3 rfl) rfl
theorem q1257 : (Jvm.Cond.code ({ cls := "Holdtag$Register", name := "checkRoom", desc := "()V" } : Jvm.MethodName) prog_9_method_3_code (1 : Nat) (Option.none : Option Jvm.ClassFile.FieldType)) ∈ lw_all := lw_g (lw_at lw_m6 4 rfl) rfl
theorem q1258 : (Jvm.Cond.classLink "Holdtag$Register" (28 : Nat) "java/lang/IllegalStateException") ∈ lw_all := lw_g (lw_at lw_m6 5 rfl) rfl
theorem q1267 : (Jvm.Cond.methodLink "Holdtag$Register" (30 : Nat) ({ cls := "java/lang/IllegalStateException", name := "<init>", desc := "()V" } : Jvm.MethodName)) ∈ lw_all := lw_g (lw_at lw_m6 14 rfl) rfl
theorem q1274 : (Jvm.Cond.instanceMethod ({ cls := "Holdtag$Register", name := "add", desc := "(LHoldtag$Numbered;)I" } : Jvm.MethodName)) ∈ lw_all := lw_g (lw_at lw_m6 21 rfl) rfl
theorem q1275 : (Jvm.Cond.selects "Holdtag$Register" ({ cls := "Holdtag$Register", name := "add", desc := "(LHoldtag$Numbered;)I" } : Jvm.MethodName) ({ cls := "Holdtag$Register", name := "add", desc := "(LHoldtag$Numbered;)I" } : Jvm.MethodName)) ∈ lw_all := lw_g (lw_at lw_m6 22 rfl) rfl
theorem q1276 : (Jvm.Cond.code ({ cls := "Holdtag$Register", name := "add", desc := "(LHoldtag$Numbered;)I" } : Jvm.MethodName) prog_9_method_4_code (2 : Nat) (Option.some Jvm.ClassFile.FieldType.int)) ∈ lw_all := lw_g (lw_at lw_m6 23 rfl) rfl
theorem q1277 : (Jvm.Cond.interfaceEntry "Holdtag$Register" (31 : Nat)) ∈ lw_tbl := lw_at lw_m6 24 rfl
theorem q1278 : (Jvm.Cond.methodLink "Holdtag$Register" (31 : Nat) ({ cls := "java/util/List", name := "add", desc := "(Ljava/lang/Object;)Z" } : Jvm.MethodName)) ∈ lw_all := lw_g (lw_at lw_m6 25 rfl) rfl
theorem q1279 : (Jvm.Cond.interfaceEntry "Holdtag$Register" (35 : Nat)) ∈ lw_tbl := lw_at lw_m6 26 rfl
theorem q1280 : (Jvm.Cond.methodLink "Holdtag$Register" (35 : Nat) ({ cls := "Holdtag$Numbered", name := "number", desc := "()I" } : Jvm.MethodName)) ∈ lw_all := lw_g (lw_at lw_m6 27 rfl) rfl
theorem q1353 : (Jvm.Cond.instanceMethod ({ cls := "Holdtag$Register", name := "atOrNone", desc := "(I)LHoldtag$Numbered;" } : Jvm.MethodName)) ∈ lw_all := lw_g (lw_at lw_m6 100 rfl) rfl
theorem q1354 : (Jvm.Cond.selects "Holdtag$Register" ({ cls := "Holdtag$Register", name := "atOrNone", desc := "(I)LHoldtag$Numbered;" } : Jvm.MethodName) ({ cls := "Holdtag$Register", name := "atOrNone", desc := "(I)LHoldtag$Numbered;" } : Jvm.MethodName)) ∈ lw_all := lw_g (lw_at lw_m6 101 rfl) rfl
theorem q1355 : (Jvm.Cond.code ({ cls := "Holdtag$Register", name := "atOrNone", desc := "(I)LHoldtag$Numbered;" } : Jvm.MethodName) prog_9_method_6_code (2 : Nat) (Option.some (Jvm.ClassFile.FieldType.object "Holdtag$Numbered"))) ∈ lw_all := lw_g (lw_at lw_m6 102 rfl) rfl
theorem q1356 : (Jvm.Cond.methodLink "Holdtag$Register" (47 : Nat) ({ cls := "Holdtag$Register", name := "at", desc := "(I)LHoldtag$Numbered;" } : Jvm.MethodName)) ∈ lw_all := lw_g (lw_at lw_m6 103 rfl) rfl
theorem q2271 : (Jvm.Cond.castable "Holdtag$Register" "java/lang/Object") ∈ lw_tbl := lw_at lw_m10 58 rfl
theorem in_X2 : ∀ w ∈ wsX20, w ∈ lw_all := lw_in wsX20 [142, 144] (by decide +kernel) (by decide +kernel)

/-! Holdtag$Folder -/
set_option maxRecDepth 100000
def RX3 : String := "Holdtag$Folder"
def TX3 : u_T := fun k => match k with
  | 0 => ("Holdtag$Folder", "number", "I", true)
  | 1 => ("Holdtag$Folder", "in", "LHoldtag$Folder;", true)
  | _ => ("Holdtag$Folder", "tag", "LHoldtag$Tag;", false)
def tyX3 : Nat → FieldType := fun k => match k with
  | 0 => .int
  | 1 => .object "Holdtag$Folder"
  | _ => .object "Holdtag$Tag"
abbrev wsX30 : List Cond := u_ws RX3 TX3 3
theorem nmX3 : ∀ a, a < 3 → ∀ b, b < 3 → a ≠ b → (TX3 a).2.1 ≠ (TX3 b).2.1 := by decide +kernel
theorem tyX3_ok : ∀ k, k < 3 → parseFieldDescriptor (TX3 k).2.2.1 = some (tyX3 k) := by decide +kernel
abbrev cX3_init : ByteArray := prog_3_method_1_code
def yX3_init : MethodName := ⟨RX3, "<init>", "(ILHoldtag$Folder;)V"⟩
def dkwX3_init_0 : List UInt8 := [42, 183, 0, 1, 42, 27, 181, 0, 7, 42, 44, 181, 0, 13, 177]
abbrev dktX3_init_0 : List UInt8 := dkwX3_init_0 ++ []
theorem dksX3_init_0 : cX3_init.data.toList.drop 0 = dktX3_init_0 := by decide +kernel
theorem dX3_init_0 : decode cX3_init 0 = .ok (.aload_n 0, 1) := dk_42 (dk_at dksX3_init_0 0 rfl rfl)
theorem dX3_init_1 : decode cX3_init 1 = .ok (.invokespecial 1, 3) := dk_183 0 1 (dk_at dksX3_init_0 1 rfl rfl)
theorem dX3_init_4 : decode cX3_init 4 = .ok (.aload_n 0, 1) := dk_42 (dk_at dksX3_init_0 4 rfl rfl)
theorem dX3_init_5 : decode cX3_init 5 = .ok (.iload_n 1, 1) := dk_27 (dk_at dksX3_init_0 5 rfl rfl)
theorem dX3_init_6 : decode cX3_init 6 = .ok (.putfield 7, 3) := dk_181 0 7 (dk_at dksX3_init_0 6 rfl rfl)
theorem dX3_init_9 : decode cX3_init 9 = .ok (.aload_n 0, 1) := dk_42 (dk_at dksX3_init_0 9 rfl rfl)
theorem dX3_init_10 : decode cX3_init 10 = .ok (.aload_n 2, 1) := dk_44 (dk_at dksX3_init_0 10 rfl rfl)
theorem dX3_init_11 : decode cX3_init 11 = .ok (.putfield 13, 3) := dk_181 0 13 (dk_at dksX3_init_0 11 rfl rfl)
theorem dX3_init_14 : decode cX3_init 14 = .ok (.return_, 1) := dk_177 (dk_at dksX3_init_0 14 rfl rfl)
abbrev cX3_tagged : ByteArray := prog_3_method_3_code
def yX3_tagged : MethodName := ⟨RX3, "tagged", "()LHoldtag$Folder;"⟩
def dkwX3_tagged_1 : List UInt8 := [167, 0, 14, 42, 167, 0, 10, 42, 180, 0, 13, 182, 0, 21, 176]
abbrev dktX3_tagged_1 : List UInt8 := dkwX3_tagged_1 ++ []
def dkwX3_tagged_0 : List UInt8 := [42, 180, 0, 17, 199, 0, 10, 42, 180, 0, 13, 199, 0, 18, 42, 180, 0, 17, 199, 0, 7, 1]
abbrev dktX3_tagged_0 : List UInt8 := dkwX3_tagged_0 ++ dktX3_tagged_1
theorem dksX3_tagged_0 : cX3_tagged.data.toList.drop 0 = dktX3_tagged_0 := by decide +kernel
theorem dksX3_tagged_1 : cX3_tagged.data.toList.drop 22 = dktX3_tagged_1 := dk_seg dksX3_tagged_0 22 rfl rfl
theorem dX3_tagged_0 : decode cX3_tagged 0 = .ok (.aload_n 0, 1) := dk_42 (dk_at dksX3_tagged_0 0 rfl rfl)
theorem dX3_tagged_1 : decode cX3_tagged 1 = .ok (.getfield 17, 3) := dk_180 0 17 (dk_at dksX3_tagged_0 1 rfl rfl)
theorem dX3_tagged_4 : decode cX3_tagged 4 = .ok (.ifnonnull 10, 3) := dk_199 0 10 (dk_at dksX3_tagged_0 4 rfl rfl)
theorem dX3_tagged_7 : decode cX3_tagged 7 = .ok (.aload_n 0, 1) := dk_42 (dk_at dksX3_tagged_0 7 rfl rfl)
theorem dX3_tagged_8 : decode cX3_tagged 8 = .ok (.getfield 13, 3) := dk_180 0 13 (dk_at dksX3_tagged_0 8 rfl rfl)
theorem dX3_tagged_11 : decode cX3_tagged 11 = .ok (.ifnonnull 18, 3) := dk_199 0 18 (dk_at dksX3_tagged_0 11 rfl rfl)
theorem dX3_tagged_14 : decode cX3_tagged 14 = .ok (.aload_n 0, 1) := dk_42 (dk_at dksX3_tagged_0 14 rfl rfl)
theorem dX3_tagged_15 : decode cX3_tagged 15 = .ok (.getfield 17, 3) := dk_180 0 17 (dk_at dksX3_tagged_0 15 rfl rfl)
theorem dX3_tagged_18 : decode cX3_tagged 18 = .ok (.ifnonnull 7, 3) := dk_199 0 7 (dk_at dksX3_tagged_0 18 rfl rfl)
theorem dX3_tagged_21 : decode cX3_tagged 21 = .ok (.aconst_null, 1) := dk_1 (dk_at dksX3_tagged_0 21 rfl rfl)
theorem dX3_tagged_22 : decode cX3_tagged 22 = .ok (.goto 14, 3) := dk_167 0 14 (dk_at dksX3_tagged_1 0 rfl rfl)
theorem dX3_tagged_25 : decode cX3_tagged 25 = .ok (.aload_n 0, 1) := dk_42 (dk_at dksX3_tagged_1 3 rfl rfl)
theorem dX3_tagged_26 : decode cX3_tagged 26 = .ok (.goto 10, 3) := dk_167 0 10 (dk_at dksX3_tagged_1 4 rfl rfl)
theorem dX3_tagged_29 : decode cX3_tagged 29 = .ok (.aload_n 0, 1) := dk_42 (dk_at dksX3_tagged_1 7 rfl rfl)
theorem dX3_tagged_30 : decode cX3_tagged 30 = .ok (.getfield 13, 3) := dk_180 0 13 (dk_at dksX3_tagged_1 8 rfl rfl)
theorem dX3_tagged_33 : decode cX3_tagged 33 = .ok (.invokevirtual 21, 3) := dk_182 0 21 (dk_at dksX3_tagged_1 11 rfl rfl)
theorem dX3_tagged_36 : decode cX3_tagged 36 = .ok (.areturn, 1) := dk_176 (dk_at dksX3_tagged_1 14 rfl rfl)
abbrev cX3_number : ByteArray := prog_3_method_2_code
def yX3_number : MethodName := ⟨RX3, "number", "()I"⟩
theorem dX3_number_0 : decode cX3_number 0 = .ok (.aload_n 0, 1) := by decide +kernel
theorem dX3_number_1 : decode cX3_number 1 = .ok (.getfield 7, 3) := by decide +kernel
theorem dX3_number_4 : decode cX3_number 4 = .ok (.ireturn, 1) := by decide +kernel
theorem q65 : (Jvm.Cond.initialized "Holdtag$Folder") ∈ lw_all := lw_g (lw_at lw_m1 12 rfl) rfl
theorem q213 : (Jvm.Cond.instantiable "Holdtag$Folder" (3 : Nat)) ∈ lw_all := lw_g (lw_at lw_m1 160 rfl) rfl
theorem q215 : (Jvm.Cond.instanceMethod ({ cls := "Holdtag$Folder", name := "<init>", desc := "(ILHoldtag$Folder;)V" } : Jvm.MethodName)) ∈ lw_all := lw_g (lw_at lw_m1 162 rfl) rfl
theorem q216 : (Jvm.Cond.code ({ cls := "Holdtag$Folder", name := "<init>", desc := "(ILHoldtag$Folder;)V" } : Jvm.MethodName) prog_3_method_1_code (3 : Nat) (Option.none : Option Jvm.ClassFile.FieldType)) ∈ lw_all := lw_g (lw_at lw_m1 163 rfl) rfl
theorem q217 : (Jvm.Cond.methodLink "Holdtag$Folder" (1 : Nat) ({ cls := "java/lang/Object", name := "<init>", desc := "()V" } : Jvm.MethodName)) ∈ lw_all := lw_g (lw_at lw_m1 164 rfl) rfl
theorem q218 : (Jvm.Cond.fieldLink "Holdtag$Folder" (7 : Nat) "Holdtag$Folder" "number" "I") ∈ lw_all := lw_g (lw_at lw_m1 165 rfl) rfl
theorem q220 : (Jvm.Cond.fieldLink "Holdtag$Folder" (13 : Nat) "Holdtag$Folder" "in" "LHoldtag$Folder;") ∈ lw_all := lw_g (lw_at lw_m1 167 rfl) rfl
theorem q221 : (Jvm.Cond.fieldLink "Holdtag$Folder" (17 : Nat) "Holdtag$Folder" "tag" "LHoldtag$Tag;") ∈ lw_all := lw_g (lw_at lw_m1 168 rfl) rfl
theorem q223 : (Jvm.Cond.laysFinal "Holdtag$Folder" "Holdtag$Folder" "number" "I") ∈ lw_all := lw_g (lw_at lw_m1 170 rfl) rfl
theorem q224 : (Jvm.Cond.soleField "Holdtag$Folder" "number") ∈ lw_all := lw_g (lw_at lw_m1 171 rfl) rfl
theorem q225 : (Jvm.Cond.laysFinal "Holdtag$Folder" "Holdtag$Folder" "in" "LHoldtag$Folder;") ∈ lw_all := lw_g (lw_at lw_m1 172 rfl) rfl
theorem q226 : (Jvm.Cond.soleField "Holdtag$Folder" "in") ∈ lw_all := lw_g (lw_at lw_m1 173 rfl) rfl
theorem q227 : (Jvm.Cond.lays "Holdtag$Folder" "Holdtag$Folder" "tag" "LHoldtag$Tag;") ∈ lw_all := lw_g (lw_at lw_m1 174 rfl) rfl
theorem q228 : (Jvm.Cond.soleField "Holdtag$Folder" "tag") ∈ lw_all := lw_g (lw_at lw_m1 175 rfl) rfl
theorem q229 : (Jvm.Cond.superclass "Holdtag$Folder" "java/lang/Object") ∈ lw_all := lw_g (lw_at lw_m1 176 rfl) rfl
theorem q270 : (Jvm.Cond.selects "Holdtag$Folder" ({ cls := "java/lang/Object", name := "getClass", desc := "()Ljava/lang/Class;" } : Jvm.MethodName) ({ cls := "java/lang/Object", name := "getClass", desc := "()Ljava/lang/Class;" } : Jvm.MethodName)) ∈ lw_all := lw_g (lw_at lw_m1 217 rfl) rfl
theorem q614 : (Jvm.Cond.instanceMethod ({ cls := "Holdtag$Folder", name := "tagged", desc := "()LHoldtag$Folder;" } : Jvm.MethodName)) ∈ lw_all := lw_g (lw_at lw_m3 81 rfl) rfl
theorem q615 : (Jvm.Cond.selects "Holdtag$Folder" ({ cls := "Holdtag$Folder", name := "tagged", desc := "()LHoldtag$Folder;" } : Jvm.MethodName) ({ cls := "Holdtag$Folder", name := "tagged", desc := "()LHoldtag$Folder;" } : Jvm.MethodName)) ∈ lw_all := lw_g (lw_at lw_m3 82 rfl) rfl
theorem q616 : (Jvm.Cond.code ({ cls := "Holdtag$Folder", name := "tagged", desc := "()LHoldtag$Folder;" } : Jvm.MethodName) prog_3_method_3_code (1 : Nat) (Option.some (Jvm.ClassFile.FieldType.object "Holdtag$Folder"))) ∈ lw_all := lw_g (lw_at lw_m3 83 rfl) rfl
theorem q617 : (Jvm.Cond.methodLink "Holdtag$Folder" (21 : Nat) ({ cls := "Holdtag$Folder", name := "tagged", desc := "()LHoldtag$Folder;" } : Jvm.MethodName)) ∈ lw_all := lw_g (lw_at lw_m3 84 rfl) rfl
theorem q1283 : (Jvm.Cond.castable "Holdtag$Folder" "Holdtag$Numbered") ∈ lw_tbl := lw_at lw_m6 30 rfl
theorem q1284 : (Jvm.Cond.selects "Holdtag$Folder" ({ cls := "Holdtag$Numbered", name := "number", desc := "()I" } : Jvm.MethodName) ({ cls := "Holdtag$Folder", name := "number", desc := "()I" } : Jvm.MethodName)) ∈ lw_all := lw_g (lw_at lw_m6 31 rfl) rfl
theorem q1285 : (Jvm.Cond.unhidden "Holdtag$Folder" "number" "()I") ∈ lw_tbl := lw_at lw_m6 32 rfl
theorem q1286 : (Jvm.Cond.instanceMethod ({ cls := "Holdtag$Folder", name := "number", desc := "()I" } : Jvm.MethodName)) ∈ lw_all := lw_g (lw_at lw_m6 33 rfl) rfl
theorem q1287 : (Jvm.Cond.publicMethod ({ cls := "Holdtag$Folder", name := "number", desc := "()I" } : Jvm.MethodName)) ∈ lw_tbl := lw_at lw_m6 34 rfl
theorem q1288 : (Jvm.Cond.code ({ cls := "Holdtag$Folder", name := "number", desc := "()I" } : Jvm.MethodName) prog_3_method_2_code (1 : Nat) (Option.some Jvm.ClassFile.FieldType.int)) ∈ lw_all := lw_g (lw_at lw_m6 35 rfl) rfl
theorem q1745 : (Jvm.Cond.unhidden "Holdtag$Folder" "bit" "()I") ∈ lw_tbl := lw_at lw_m8 12 rfl
theorem q2275 : (Jvm.Cond.castable "Holdtag$Folder" "java/lang/Object") ∈ lw_tbl := lw_at lw_m10 62 rfl
theorem in_X3 : ∀ w ∈ wsX30, w ∈ lw_all := lw_in wsX30 [223, 225, 227] (by decide +kernel) (by decide +kernel)

/-! Holdtag$Tag -/
set_option maxRecDepth 100000
def RX5 : String := "Holdtag$Tag"
def TX5 : u_T := fun k => match k with
  | 0 => ("Holdtag$Tag", "number", "I", true)
  | 1 => ("Holdtag$Tag", "action", "I", true)
  | 2 => ("Holdtag$Tag", "start", "I", true)
  | _ => ("Holdtag$Tag", "age", "I", true)
def tyX5 : Nat → FieldType := fun k => match k with
  | 0 => .int
  | 1 => .int
  | 2 => .int
  | _ => .int
abbrev wsX50 : List Cond := u_ws RX5 TX5 4
theorem nmX5 : ∀ a, a < 4 → ∀ b, b < 4 → a ≠ b → (TX5 a).2.1 ≠ (TX5 b).2.1 := by decide +kernel
theorem tyX5_ok : ∀ k, k < 4 → parseFieldDescriptor (TX5 k).2.2.1 = some (tyX5 k) := by decide +kernel
abbrev cX5_does : ByteArray := prog_10_method_3_code
def yX5_does : MethodName := ⟨RX5, "does", "()Ljava/lang/String;"⟩
def dkwX5_does_2 : List UInt8 := [18, 24, 167, 0, 10, 18, 26, 167, 0, 5, 18, 28, 176]
abbrev dktX5_does_2 : List UInt8 := dkwX5_does_2 ++ []
def dkwX5_does_1 : List UInt8 := [171, 0, 0, 0, 0, 0, 0, 38, 0, 0, 0, 2, 0, 0, 0, 0, 0, 0, 0, 28, 0, 0, 0, 1, 0, 0, 0, 33]
abbrev dktX5_does_1 : List UInt8 := dkwX5_does_1 ++ dktX5_does_2
def dkwX5_does_0 : List UInt8 := [42, 180, 0, 15]
abbrev dktX5_does_0 : List UInt8 := dkwX5_does_0 ++ dktX5_does_1
theorem dksX5_does_0 : cX5_does.data.toList.drop 0 = dktX5_does_0 := by decide +kernel
theorem dksX5_does_1 : cX5_does.data.toList.drop 4 = dktX5_does_1 := dk_seg dksX5_does_0 4 rfl rfl
theorem dksX5_does_2 : cX5_does.data.toList.drop 32 = dktX5_does_2 := dk_seg dksX5_does_1 28 rfl rfl
theorem dX5_does_0 : decode cX5_does 0 = .ok (.aload_n 0, 1) := dk_42 (dk_at dksX5_does_0 0 rfl rfl)
theorem dX5_does_1 : decode cX5_does 1 = .ok (.getfield 15, 3) := dk_180 0 15 (dk_at dksX5_does_0 1 rfl rfl)
theorem dX5_does_4 : decode cX5_does 4 = .ok (.lookupswitch 38 #[(0, 28), (1, 33)], 28) := by decide +kernel
theorem dX5_does_32 : decode cX5_does 32 = .ok (.ldc 24, 2) := dk_18 24 (dk_at dksX5_does_2 0 rfl rfl)
theorem dX5_does_34 : decode cX5_does 34 = .ok (.goto 10, 3) := dk_167 0 10 (dk_at dksX5_does_2 2 rfl rfl)
theorem dX5_does_37 : decode cX5_does 37 = .ok (.ldc 26, 2) := dk_18 26 (dk_at dksX5_does_2 5 rfl rfl)
theorem dX5_does_39 : decode cX5_does 39 = .ok (.goto 5, 3) := dk_167 0 5 (dk_at dksX5_does_2 7 rfl rfl)
theorem dX5_does_42 : decode cX5_does 42 = .ok (.ldc 28, 2) := dk_18 28 (dk_at dksX5_does_2 10 rfl rfl)
theorem dX5_does_44 : decode cX5_does 44 = .ok (.areturn, 1) := dk_176 (dk_at dksX5_does_2 12 rfl rfl)
abbrev cX5_number : ByteArray := prog_10_method_2_code
def yX5_number : MethodName := ⟨RX5, "number", "()I"⟩
theorem dX5_number_0 : decode cX5_number 0 = .ok (.aload_n 0, 1) := by decide +kernel
theorem dX5_number_1 : decode cX5_number 1 = .ok (.getfield 9, 3) := by decide +kernel
theorem dX5_number_4 : decode cX5_number 4 = .ok (.ireturn, 1) := by decide +kernel
abbrev cX5_init : ByteArray := prog_10_method_1_code
def yX5_init : MethodName := ⟨RX5, "<init>", "(IIII)V"⟩
def dkwX5_init_1 : List UInt8 := [181, 0, 21, 177]
abbrev dktX5_init_1 : List UInt8 := dkwX5_init_1 ++ []
def dkwX5_init_0 : List UInt8 := [42, 183, 0, 3, 42, 27, 181, 0, 9, 42, 28, 181, 0, 15, 42, 29, 181, 0, 18, 42, 21, 4]
abbrev dktX5_init_0 : List UInt8 := dkwX5_init_0 ++ dktX5_init_1
theorem dksX5_init_0 : cX5_init.data.toList.drop 0 = dktX5_init_0 := by decide +kernel
theorem dksX5_init_1 : cX5_init.data.toList.drop 22 = dktX5_init_1 := dk_seg dksX5_init_0 22 rfl rfl
theorem dX5_init_0 : decode cX5_init 0 = .ok (.aload_n 0, 1) := dk_42 (dk_at dksX5_init_0 0 rfl rfl)
theorem dX5_init_1 : decode cX5_init 1 = .ok (.invokespecial 3, 3) := dk_183 0 3 (dk_at dksX5_init_0 1 rfl rfl)
theorem dX5_init_4 : decode cX5_init 4 = .ok (.aload_n 0, 1) := dk_42 (dk_at dksX5_init_0 4 rfl rfl)
theorem dX5_init_5 : decode cX5_init 5 = .ok (.iload_n 1, 1) := dk_27 (dk_at dksX5_init_0 5 rfl rfl)
theorem dX5_init_6 : decode cX5_init 6 = .ok (.putfield 9, 3) := dk_181 0 9 (dk_at dksX5_init_0 6 rfl rfl)
theorem dX5_init_9 : decode cX5_init 9 = .ok (.aload_n 0, 1) := dk_42 (dk_at dksX5_init_0 9 rfl rfl)
theorem dX5_init_10 : decode cX5_init 10 = .ok (.iload_n 2, 1) := dk_28 (dk_at dksX5_init_0 10 rfl rfl)
theorem dX5_init_11 : decode cX5_init 11 = .ok (.putfield 15, 3) := dk_181 0 15 (dk_at dksX5_init_0 11 rfl rfl)
theorem dX5_init_14 : decode cX5_init 14 = .ok (.aload_n 0, 1) := dk_42 (dk_at dksX5_init_0 14 rfl rfl)
theorem dX5_init_15 : decode cX5_init 15 = .ok (.iload_n 3, 1) := dk_29 (dk_at dksX5_init_0 15 rfl rfl)
theorem dX5_init_16 : decode cX5_init 16 = .ok (.putfield 18, 3) := dk_181 0 18 (dk_at dksX5_init_0 16 rfl rfl)
theorem dX5_init_19 : decode cX5_init 19 = .ok (.aload_n 0, 1) := dk_42 (dk_at dksX5_init_0 19 rfl rfl)
theorem dX5_init_20 : decode cX5_init 20 = .ok (.iload 4, 2) := dk_21 4 (dk_at dksX5_init_0 20 rfl rfl)
theorem dX5_init_22 : decode cX5_init 22 = .ok (.putfield 21, 3) := dk_181 0 21 (dk_at dksX5_init_1 0 rfl rfl)
theorem dX5_init_25 : decode cX5_init 25 = .ok (.return_, 1) := dk_177 (dk_at dksX5_init_1 3 rfl rfl)
theorem q80 : (Jvm.Cond.initialized "Holdtag$Tag") ∈ lw_all := lw_g (lw_at lw_m1 27 rfl) rfl
theorem q276 : (Jvm.Cond.selects "Holdtag$Tag" ({ cls := "java/lang/Object", name := "getClass", desc := "()Ljava/lang/Class;" } : Jvm.MethodName) ({ cls := "java/lang/Object", name := "getClass", desc := "()Ljava/lang/Class;" } : Jvm.MethodName)) ∈ lw_all := lw_g (lw_at lw_m1 223 rfl) rfl
theorem q963 : (Jvm.Cond.instanceMethod ({ cls := "Holdtag$Tag", name := "does", desc := "()Ljava/lang/String;" } : Jvm.MethodName)) ∈ lw_all := lw_g (lw_at lw_m4 190 rfl) rfl
theorem q964 : (Jvm.Cond.selects "Holdtag$Tag" ({ cls := "Holdtag$Tag", name := "does", desc := "()Ljava/lang/String;" } : Jvm.MethodName) ({ cls := "Holdtag$Tag", name := "does", desc := "()Ljava/lang/String;" } : Jvm.MethodName)) ∈ lw_all := lw_g (lw_at lw_m4 191 rfl) rfl
theorem q965 : (Jvm.Cond.code ({ cls := "Holdtag$Tag", name := "does", desc := "()Ljava/lang/String;" } : Jvm.MethodName) prog_10_method_3_code (1 : Nat) (Option.some (Jvm.ClassFile.FieldType.object "java/lang/String"))) ∈ lw_all := lw_g (lw_at lw_m4 192 rfl) rfl
theorem q966 : (Jvm.Cond.stringRef "Holdtag$Tag" (24 : Nat) "delete") ∈ lw_tbl := lw_at lw_m4 193 rfl
theorem q967 : (Jvm.Cond.stringRef "Holdtag$Tag" (26 : Nat) "archive") ∈ lw_tbl := lw_at lw_m4 194 rfl
theorem q968 : (Jvm.Cond.stringRef "Holdtag$Tag" (28 : Nat) "never") ∈ lw_tbl := lw_at lw_m4 195 rfl
theorem q1301 : (Jvm.Cond.castable "Holdtag$Tag" "Holdtag$Numbered") ∈ lw_tbl := lw_at lw_m6 48 rfl
theorem q1302 : (Jvm.Cond.selects "Holdtag$Tag" ({ cls := "Holdtag$Numbered", name := "number", desc := "()I" } : Jvm.MethodName) ({ cls := "Holdtag$Tag", name := "number", desc := "()I" } : Jvm.MethodName)) ∈ lw_all := lw_g (lw_at lw_m6 49 rfl) rfl
theorem q1303 : (Jvm.Cond.unhidden "Holdtag$Tag" "number" "()I") ∈ lw_tbl := lw_at lw_m6 50 rfl
theorem q1304 : (Jvm.Cond.instanceMethod ({ cls := "Holdtag$Tag", name := "number", desc := "()I" } : Jvm.MethodName)) ∈ lw_all := lw_g (lw_at lw_m6 51 rfl) rfl
theorem q1305 : (Jvm.Cond.publicMethod ({ cls := "Holdtag$Tag", name := "number", desc := "()I" } : Jvm.MethodName)) ∈ lw_tbl := lw_at lw_m6 52 rfl
theorem q1306 : (Jvm.Cond.code ({ cls := "Holdtag$Tag", name := "number", desc := "()I" } : Jvm.MethodName) prog_10_method_2_code (1 : Nat) (Option.some Jvm.ClassFile.FieldType.int)) ∈ lw_all := lw_g (lw_at lw_m6 53 rfl) rfl
theorem q1324 : (Jvm.Cond.instantiable "Holdtag$Tag" (4 : Nat)) ∈ lw_all := lw_g (lw_at lw_m6 71 rfl) rfl
theorem q1326 : (Jvm.Cond.instanceMethod ({ cls := "Holdtag$Tag", name := "<init>", desc := "(IIII)V" } : Jvm.MethodName)) ∈ lw_all := lw_g (lw_at lw_m6 73 rfl) rfl
theorem q1327 : (Jvm.Cond.code ({ cls := "Holdtag$Tag", name := "<init>", desc := "(IIII)V" } : Jvm.MethodName) prog_10_method_1_code (5 : Nat) (Option.none : Option Jvm.ClassFile.FieldType)) ∈ lw_all := lw_g (lw_at lw_m6 74 rfl) rfl
theorem q1328 : (Jvm.Cond.methodLink "Holdtag$Tag" (3 : Nat) ({ cls := "java/lang/Object", name := "<init>", desc := "()V" } : Jvm.MethodName)) ∈ lw_all := lw_g (lw_at lw_m6 75 rfl) rfl
theorem q1329 : (Jvm.Cond.fieldLink "Holdtag$Tag" (9 : Nat) "Holdtag$Tag" "number" "I") ∈ lw_all := lw_g (lw_at lw_m6 76 rfl) rfl
theorem q1330 : (Jvm.Cond.fieldLink "Holdtag$Tag" (15 : Nat) "Holdtag$Tag" "action" "I") ∈ lw_all := lw_g (lw_at lw_m6 77 rfl) rfl
theorem q1332 : (Jvm.Cond.fieldLink "Holdtag$Tag" (18 : Nat) "Holdtag$Tag" "start" "I") ∈ lw_all := lw_g (lw_at lw_m6 79 rfl) rfl
theorem q1334 : (Jvm.Cond.fieldLink "Holdtag$Tag" (21 : Nat) "Holdtag$Tag" "age" "I") ∈ lw_all := lw_g (lw_at lw_m6 81 rfl) rfl
theorem q1336 : (Jvm.Cond.laysFinal "Holdtag$Tag" "Holdtag$Tag" "number" "I") ∈ lw_all := lw_g (lw_at lw_m6 83 rfl) rfl
theorem q1337 : (Jvm.Cond.soleField "Holdtag$Tag" "number") ∈ lw_all := lw_g (lw_at lw_m6 84 rfl) rfl
theorem q1338 : (Jvm.Cond.laysFinal "Holdtag$Tag" "Holdtag$Tag" "action" "I") ∈ lw_all := lw_g (lw_at lw_m6 85 rfl) rfl
theorem q1339 : (Jvm.Cond.soleField "Holdtag$Tag" "action") ∈ lw_all := lw_g (lw_at lw_m6 86 rfl) rfl
theorem q1340 : (Jvm.Cond.laysFinal "Holdtag$Tag" "Holdtag$Tag" "start" "I") ∈ lw_all := lw_g (lw_at lw_m6 87 rfl) rfl
theorem q1341 : (Jvm.Cond.soleField "Holdtag$Tag" "start") ∈ lw_all := lw_g (lw_at lw_m6 88 rfl) rfl
theorem q1342 : (Jvm.Cond.laysFinal "Holdtag$Tag" "Holdtag$Tag" "age" "I") ∈ lw_all := lw_g (lw_at lw_m6 89 rfl) rfl
theorem q1343 : (Jvm.Cond.soleField "Holdtag$Tag" "age") ∈ lw_all := lw_g (lw_at lw_m6 90 rfl) rfl
theorem q1344 : (Jvm.Cond.superclass "Holdtag$Tag" "java/lang/Object") ∈ lw_all := lw_g (lw_at lw_m6 91 rfl) rfl
theorem q1753 : (Jvm.Cond.unhidden "Holdtag$Tag" "bit" "()I") ∈ lw_tbl := lw_at lw_m8 20 rfl
theorem q2281 : (Jvm.Cond.castable "Holdtag$Tag" "java/lang/Object") ∈ lw_tbl := lw_at lw_m10 68 rfl
theorem in_X5 : ∀ w ∈ wsX50, w ∈ lw_all := lw_in wsX50 [1336, 1338, 1340, 1342] (by decide +kernel) (by decide +kernel)

/-! Holdtag$Item -/
set_option maxRecDepth 100000
def RX6 : String := "Holdtag$Item"
def TX6 : u_T := fun k => match k with
  | 0 => ("Holdtag$Item", "number", "I", true)
  | 1 => ("Holdtag$Item", "sender", "I", true)
  | 2 => ("Holdtag$Item", "size", "I", true)
  | 3 => ("Holdtag$Item", "arrival", "I", true)
  | 4 => ("Holdtag$Item", "folder", "LHoldtag$Folder;", false)
  | 5 => ("Holdtag$Item", "word", "I", false)
  | 6 => ("Holdtag$Item", "meeting", "I", false)
  | 7 => ("Holdtag$Item", "own", "LHoldtag$Tag;", false)
  | 8 => ("Holdtag$Item", "state", "I", false)
  | _ => ("Holdtag$Item", "day", "I", false)
def tyX6 : Nat → FieldType := fun k => match k with
  | 0 => .int
  | 1 => .int
  | 2 => .int
  | 3 => .int
  | 4 => .object "Holdtag$Folder"
  | 5 => .int
  | 6 => .int
  | 7 => .object "Holdtag$Tag"
  | 8 => .int
  | _ => .int
abbrev wsX60 : List Cond := u_ws RX6 TX6 10
theorem nmX6 : ∀ a, a < 10 → ∀ b, b < 10 → a ≠ b → (TX6 a).2.1 ≠ (TX6 b).2.1 := by decide +kernel
theorem tyX6_ok : ∀ k, k < 10 → parseFieldDescriptor (TX6 k).2.2.1 = some (tyX6 k) := by decide +kernel
abbrev cX6_init : ByteArray := prog_7_method_2_code
def yX6_init : MethodName := ⟨RX6, "<init>", "(ILHoldtag$Item;)V"⟩
def dkwX6_init_2 : List UInt8 := [181, 0, 15, 42, 44, 180, 0, 44, 181, 0, 44, 177]
abbrev dktX6_init_2 : List UInt8 := dkwX6_init_2 ++ []
def dkwX6_init_1 : List UInt8 := [183, 0, 37, 42, 44, 180, 0, 9, 181, 0, 9, 42, 44, 180, 0, 40, 181, 0, 40, 42, 44, 180, 0, 15]
abbrev dktX6_init_1 : List UInt8 := dkwX6_init_1 ++ dktX6_init_2
def dkwX6_init_0 : List UInt8 := [42, 27, 44, 180, 0, 21, 44, 180, 0, 25, 44, 180, 0, 28, 44, 180, 0, 31, 44, 180, 0, 34]
abbrev dktX6_init_0 : List UInt8 := dkwX6_init_0 ++ dktX6_init_1
theorem dksX6_init_0 : cX6_init.data.toList.drop 0 = dktX6_init_0 := by decide +kernel
theorem dksX6_init_1 : cX6_init.data.toList.drop 22 = dktX6_init_1 := dk_seg dksX6_init_0 22 rfl rfl
theorem dksX6_init_2 : cX6_init.data.toList.drop 46 = dktX6_init_2 := dk_seg dksX6_init_1 24 rfl rfl
theorem dX6_init_0 : decode cX6_init 0 = .ok (.aload_n 0, 1) := dk_42 (dk_at dksX6_init_0 0 rfl rfl)
theorem dX6_init_1 : decode cX6_init 1 = .ok (.iload_n 1, 1) := dk_27 (dk_at dksX6_init_0 1 rfl rfl)
theorem dX6_init_2 : decode cX6_init 2 = .ok (.aload_n 2, 1) := dk_44 (dk_at dksX6_init_0 2 rfl rfl)
theorem dX6_init_3 : decode cX6_init 3 = .ok (.getfield 21, 3) := dk_180 0 21 (dk_at dksX6_init_0 3 rfl rfl)
theorem dX6_init_6 : decode cX6_init 6 = .ok (.aload_n 2, 1) := dk_44 (dk_at dksX6_init_0 6 rfl rfl)
theorem dX6_init_7 : decode cX6_init 7 = .ok (.getfield 25, 3) := dk_180 0 25 (dk_at dksX6_init_0 7 rfl rfl)
theorem dX6_init_10 : decode cX6_init 10 = .ok (.aload_n 2, 1) := dk_44 (dk_at dksX6_init_0 10 rfl rfl)
theorem dX6_init_11 : decode cX6_init 11 = .ok (.getfield 28, 3) := dk_180 0 28 (dk_at dksX6_init_0 11 rfl rfl)
theorem dX6_init_14 : decode cX6_init 14 = .ok (.aload_n 2, 1) := dk_44 (dk_at dksX6_init_0 14 rfl rfl)
theorem dX6_init_15 : decode cX6_init 15 = .ok (.getfield 31, 3) := dk_180 0 31 (dk_at dksX6_init_0 15 rfl rfl)
theorem dX6_init_18 : decode cX6_init 18 = .ok (.aload_n 2, 1) := dk_44 (dk_at dksX6_init_0 18 rfl rfl)
theorem dX6_init_19 : decode cX6_init 19 = .ok (.getfield 34, 3) := dk_180 0 34 (dk_at dksX6_init_0 19 rfl rfl)
theorem dX6_init_22 : decode cX6_init 22 = .ok (.invokespecial 37, 3) := dk_183 0 37 (dk_at dksX6_init_1 0 rfl rfl)
theorem dX6_init_25 : decode cX6_init 25 = .ok (.aload_n 0, 1) := dk_42 (dk_at dksX6_init_1 3 rfl rfl)
theorem dX6_init_26 : decode cX6_init 26 = .ok (.aload_n 2, 1) := dk_44 (dk_at dksX6_init_1 4 rfl rfl)
theorem dX6_init_27 : decode cX6_init 27 = .ok (.getfield 9, 3) := dk_180 0 9 (dk_at dksX6_init_1 5 rfl rfl)
theorem dX6_init_30 : decode cX6_init 30 = .ok (.putfield 9, 3) := dk_181 0 9 (dk_at dksX6_init_1 8 rfl rfl)
theorem dX6_init_33 : decode cX6_init 33 = .ok (.aload_n 0, 1) := dk_42 (dk_at dksX6_init_1 11 rfl rfl)
theorem dX6_init_34 : decode cX6_init 34 = .ok (.aload_n 2, 1) := dk_44 (dk_at dksX6_init_1 12 rfl rfl)
theorem dX6_init_35 : decode cX6_init 35 = .ok (.getfield 40, 3) := dk_180 0 40 (dk_at dksX6_init_1 13 rfl rfl)
theorem dX6_init_38 : decode cX6_init 38 = .ok (.putfield 40, 3) := dk_181 0 40 (dk_at dksX6_init_1 16 rfl rfl)
theorem dX6_init_41 : decode cX6_init 41 = .ok (.aload_n 0, 1) := dk_42 (dk_at dksX6_init_1 19 rfl rfl)
theorem dX6_init_42 : decode cX6_init 42 = .ok (.aload_n 2, 1) := dk_44 (dk_at dksX6_init_1 20 rfl rfl)
theorem dX6_init_43 : decode cX6_init 43 = .ok (.getfield 15, 3) := dk_180 0 15 (dk_at dksX6_init_1 21 rfl rfl)
theorem dX6_init_46 : decode cX6_init 46 = .ok (.putfield 15, 3) := dk_181 0 15 (dk_at dksX6_init_2 0 rfl rfl)
theorem dX6_init_49 : decode cX6_init 49 = .ok (.aload_n 0, 1) := dk_42 (dk_at dksX6_init_2 3 rfl rfl)
theorem dX6_init_50 : decode cX6_init 50 = .ok (.aload_n 2, 1) := dk_44 (dk_at dksX6_init_2 4 rfl rfl)
theorem dX6_init_51 : decode cX6_init 51 = .ok (.getfield 44, 3) := dk_180 0 44 (dk_at dksX6_init_2 5 rfl rfl)
theorem dX6_init_54 : decode cX6_init 54 = .ok (.putfield 44, 3) := dk_181 0 44 (dk_at dksX6_init_2 8 rfl rfl)
theorem dX6_init_57 : decode cX6_init 57 = .ok (.return_, 1) := dk_177 (dk_at dksX6_init_2 11 rfl rfl)
abbrev cX6_init_2 : ByteArray := prog_7_method_1_code
def yX6_init_2 : MethodName := ⟨RX6, "<init>", "(ILHoldtag$Folder;IIII)V"⟩
def dkwX6_init_2_1 : List UInt8 := [42, 29, 181, 0, 25, 42, 21, 4, 181, 0, 28, 42, 21, 5, 181, 0, 31, 42, 21, 6, 181, 0, 34, 177]
abbrev dktX6_init_2_1 : List UInt8 := dkwX6_init_2_1 ++ []
def dkwX6_init_2_0 : List UInt8 := [42, 183, 0, 3, 42, 2, 181, 0, 9, 42, 3, 181, 0, 15, 42, 27, 181, 0, 18, 42, 44, 181, 0, 21]
abbrev dktX6_init_2_0 : List UInt8 := dkwX6_init_2_0 ++ dktX6_init_2_1
theorem dksX6_init_2_0 : cX6_init_2.data.toList.drop 0 = dktX6_init_2_0 := by decide +kernel
theorem dksX6_init_2_1 : cX6_init_2.data.toList.drop 24 = dktX6_init_2_1 := dk_seg dksX6_init_2_0 24 rfl rfl
theorem dX6_init_2_0 : decode cX6_init_2 0 = .ok (.aload_n 0, 1) := dk_42 (dk_at dksX6_init_2_0 0 rfl rfl)
theorem dX6_init_2_1 : decode cX6_init_2 1 = .ok (.invokespecial 3, 3) := dk_183 0 3 (dk_at dksX6_init_2_0 1 rfl rfl)
theorem dX6_init_2_4 : decode cX6_init_2 4 = .ok (.aload_n 0, 1) := dk_42 (dk_at dksX6_init_2_0 4 rfl rfl)
theorem dX6_init_2_5 : decode cX6_init_2 5 = .ok (.iconst (-1), 1) := dk_2 (dk_at dksX6_init_2_0 5 rfl rfl)
theorem dX6_init_2_6 : decode cX6_init_2 6 = .ok (.putfield 9, 3) := dk_181 0 9 (dk_at dksX6_init_2_0 6 rfl rfl)
theorem dX6_init_2_9 : decode cX6_init_2 9 = .ok (.aload_n 0, 1) := dk_42 (dk_at dksX6_init_2_0 9 rfl rfl)
theorem dX6_init_2_10 : decode cX6_init_2 10 = .ok (.iconst 0, 1) := dk_3 (dk_at dksX6_init_2_0 10 rfl rfl)
theorem dX6_init_2_11 : decode cX6_init_2 11 = .ok (.putfield 15, 3) := dk_181 0 15 (dk_at dksX6_init_2_0 11 rfl rfl)
theorem dX6_init_2_14 : decode cX6_init_2 14 = .ok (.aload_n 0, 1) := dk_42 (dk_at dksX6_init_2_0 14 rfl rfl)
theorem dX6_init_2_15 : decode cX6_init_2 15 = .ok (.iload_n 1, 1) := dk_27 (dk_at dksX6_init_2_0 15 rfl rfl)
theorem dX6_init_2_16 : decode cX6_init_2 16 = .ok (.putfield 18, 3) := dk_181 0 18 (dk_at dksX6_init_2_0 16 rfl rfl)
theorem dX6_init_2_19 : decode cX6_init_2 19 = .ok (.aload_n 0, 1) := dk_42 (dk_at dksX6_init_2_0 19 rfl rfl)
theorem dX6_init_2_20 : decode cX6_init_2 20 = .ok (.aload_n 2, 1) := dk_44 (dk_at dksX6_init_2_0 20 rfl rfl)
theorem dX6_init_2_21 : decode cX6_init_2 21 = .ok (.putfield 21, 3) := dk_181 0 21 (dk_at dksX6_init_2_0 21 rfl rfl)
theorem dX6_init_2_24 : decode cX6_init_2 24 = .ok (.aload_n 0, 1) := dk_42 (dk_at dksX6_init_2_1 0 rfl rfl)
theorem dX6_init_2_25 : decode cX6_init_2 25 = .ok (.iload_n 3, 1) := dk_29 (dk_at dksX6_init_2_1 1 rfl rfl)
theorem dX6_init_2_26 : decode cX6_init_2 26 = .ok (.putfield 25, 3) := dk_181 0 25 (dk_at dksX6_init_2_1 2 rfl rfl)
theorem dX6_init_2_29 : decode cX6_init_2 29 = .ok (.aload_n 0, 1) := dk_42 (dk_at dksX6_init_2_1 5 rfl rfl)
theorem dX6_init_2_30 : decode cX6_init_2 30 = .ok (.iload 4, 2) := dk_21 4 (dk_at dksX6_init_2_1 6 rfl rfl)
theorem dX6_init_2_32 : decode cX6_init_2 32 = .ok (.putfield 28, 3) := dk_181 0 28 (dk_at dksX6_init_2_1 8 rfl rfl)
theorem dX6_init_2_35 : decode cX6_init_2 35 = .ok (.aload_n 0, 1) := dk_42 (dk_at dksX6_init_2_1 11 rfl rfl)
theorem dX6_init_2_36 : decode cX6_init_2 36 = .ok (.iload 5, 2) := dk_21 5 (dk_at dksX6_init_2_1 12 rfl rfl)
theorem dX6_init_2_38 : decode cX6_init_2 38 = .ok (.putfield 31, 3) := dk_181 0 31 (dk_at dksX6_init_2_1 14 rfl rfl)
theorem dX6_init_2_41 : decode cX6_init_2 41 = .ok (.aload_n 0, 1) := dk_42 (dk_at dksX6_init_2_1 17 rfl rfl)
theorem dX6_init_2_42 : decode cX6_init_2 42 = .ok (.iload 6, 2) := dk_21 6 (dk_at dksX6_init_2_1 18 rfl rfl)
theorem dX6_init_2_44 : decode cX6_init_2 44 = .ok (.putfield 34, 3) := dk_181 0 34 (dk_at dksX6_init_2_1 20 rfl rfl)
theorem dX6_init_2_47 : decode cX6_init_2 47 = .ok (.return_, 1) := dk_177 (dk_at dksX6_init_2_1 23 rfl rfl)
abbrev cX6_isAtHand : ByteArray := prog_7_method_4_code
def yX6_isAtHand : MethodName := ⟨RX6, "isAtHand", "()Z"⟩
def dkwX6_isAtHand_0 : List UInt8 := [42, 180, 0, 15, 153, 0, 11, 42, 180, 0, 15, 4, 160, 0, 7, 4, 167, 0, 4, 3, 172]
abbrev dktX6_isAtHand_0 : List UInt8 := dkwX6_isAtHand_0 ++ []
theorem dksX6_isAtHand_0 : cX6_isAtHand.data.toList.drop 0 = dktX6_isAtHand_0 := by decide +kernel
theorem dX6_isAtHand_0 : decode cX6_isAtHand 0 = .ok (.aload_n 0, 1) := dk_42 (dk_at dksX6_isAtHand_0 0 rfl rfl)
theorem dX6_isAtHand_1 : decode cX6_isAtHand 1 = .ok (.getfield 15, 3) := dk_180 0 15 (dk_at dksX6_isAtHand_0 1 rfl rfl)
theorem dX6_isAtHand_4 : decode cX6_isAtHand 4 = .ok (.ifCond .eq 11, 3) := dk_153 0 11 (dk_at dksX6_isAtHand_0 4 rfl rfl)
theorem dX6_isAtHand_7 : decode cX6_isAtHand 7 = .ok (.aload_n 0, 1) := dk_42 (dk_at dksX6_isAtHand_0 7 rfl rfl)
theorem dX6_isAtHand_8 : decode cX6_isAtHand 8 = .ok (.getfield 15, 3) := dk_180 0 15 (dk_at dksX6_isAtHand_0 8 rfl rfl)
theorem dX6_isAtHand_11 : decode cX6_isAtHand 11 = .ok (.iconst 1, 1) := dk_4 (dk_at dksX6_isAtHand_0 11 rfl rfl)
theorem dX6_isAtHand_12 : decode cX6_isAtHand 12 = .ok (.if_icmp .ne 7, 3) := dk_160 0 7 (dk_at dksX6_isAtHand_0 12 rfl rfl)
theorem dX6_isAtHand_15 : decode cX6_isAtHand 15 = .ok (.iconst 1, 1) := dk_4 (dk_at dksX6_isAtHand_0 15 rfl rfl)
theorem dX6_isAtHand_16 : decode cX6_isAtHand 16 = .ok (.goto 4, 3) := dk_167 0 4 (dk_at dksX6_isAtHand_0 16 rfl rfl)
theorem dX6_isAtHand_19 : decode cX6_isAtHand 19 = .ok (.iconst 0, 1) := dk_3 (dk_at dksX6_isAtHand_0 19 rfl rfl)
theorem dX6_isAtHand_20 : decode cX6_isAtHand 20 = .ok (.ireturn, 1) := dk_172 (dk_at dksX6_isAtHand_0 20 rfl rfl)
abbrev cX6_become : ByteArray := prog_7_method_5_code
def yX6_become : MethodName := ⟨RX6, "become", "(II)V"⟩
def dkwX6_become_0 : List UInt8 := [42, 27, 181, 0, 15, 42, 28, 181, 0, 44, 177]
abbrev dktX6_become_0 : List UInt8 := dkwX6_become_0 ++ []
theorem dksX6_become_0 : cX6_become.data.toList.drop 0 = dktX6_become_0 := by decide +kernel
theorem dX6_become_0 : decode cX6_become 0 = .ok (.aload_n 0, 1) := dk_42 (dk_at dksX6_become_0 0 rfl rfl)
theorem dX6_become_1 : decode cX6_become 1 = .ok (.iload_n 1, 1) := dk_27 (dk_at dksX6_become_0 1 rfl rfl)
theorem dX6_become_2 : decode cX6_become 2 = .ok (.putfield 15, 3) := dk_181 0 15 (dk_at dksX6_become_0 2 rfl rfl)
theorem dX6_become_5 : decode cX6_become 5 = .ok (.aload_n 0, 1) := dk_42 (dk_at dksX6_become_0 5 rfl rfl)
theorem dX6_become_6 : decode cX6_become 6 = .ok (.iload_n 2, 1) := dk_28 (dk_at dksX6_become_0 6 rfl rfl)
theorem dX6_become_7 : decode cX6_become 7 = .ok (.putfield 44, 3) := dk_181 0 44 (dk_at dksX6_become_0 7 rfl rfl)
theorem dX6_become_10 : decode cX6_become 10 = .ok (.return_, 1) := dk_177 (dk_at dksX6_become_0 10 rfl rfl)
abbrev cX6_number : ByteArray := prog_7_method_3_code
def yX6_number : MethodName := ⟨RX6, "number", "()I"⟩
theorem dX6_number_0 : decode cX6_number 0 = .ok (.aload_n 0, 1) := by decide +kernel
theorem dX6_number_1 : decode cX6_number 1 = .ok (.getfield 18, 3) := by decide +kernel
theorem dX6_number_4 : decode cX6_number 4 = .ok (.ireturn, 1) := by decide +kernel
theorem q81 : (Jvm.Cond.initialized "Holdtag$Item") ∈ lw_all := lw_g (lw_at lw_m1 28 rfl) rfl
theorem q274 : (Jvm.Cond.selects "Holdtag$Item" ({ cls := "java/lang/Object", name := "getClass", desc := "()Ljava/lang/Class;" } : Jvm.MethodName) ({ cls := "java/lang/Object", name := "getClass", desc := "()Ljava/lang/Class;" } : Jvm.MethodName)) ∈ lw_all := lw_g (lw_at lw_m1 221 rfl) rfl
theorem q898 : (Jvm.Cond.instantiable "Holdtag$Item" (10 : Nat)) ∈ lw_all := lw_g (lw_at lw_m4 125 rfl) rfl
theorem q900 : (Jvm.Cond.instanceMethod ({ cls := "Holdtag$Item", name := "<init>", desc := "(ILHoldtag$Item;)V" } : Jvm.MethodName)) ∈ lw_all := lw_g (lw_at lw_m4 127 rfl) rfl
theorem q901 : (Jvm.Cond.code ({ cls := "Holdtag$Item", name := "<init>", desc := "(ILHoldtag$Item;)V" } : Jvm.MethodName) prog_7_method_2_code (3 : Nat) (Option.none : Option Jvm.ClassFile.FieldType)) ∈ lw_all := lw_g (lw_at lw_m4 128 rfl) rfl
theorem q902 : (Jvm.Cond.methodLink "Holdtag$Item" (37 : Nat) ({ cls := "Holdtag$Item", name := "<init>", desc := "(ILHoldtag$Folder;IIII)V" } : Jvm.MethodName)) ∈ lw_all := lw_g (lw_at lw_m4 129 rfl) rfl
theorem q903 : (Jvm.Cond.instanceMethod ({ cls := "Holdtag$Item", name := "<init>", desc := "(ILHoldtag$Folder;IIII)V" } : Jvm.MethodName)) ∈ lw_all := lw_g (lw_at lw_m4 130 rfl) rfl
theorem q904 : (Jvm.Cond.code ({ cls := "Holdtag$Item", name := "<init>", desc := "(ILHoldtag$Folder;IIII)V" } : Jvm.MethodName) prog_7_method_1_code (7 : Nat) (Option.none : Option Jvm.ClassFile.FieldType)) ∈ lw_all := lw_g (lw_at lw_m4 131 rfl) rfl
theorem q905 : (Jvm.Cond.methodLink "Holdtag$Item" (3 : Nat) ({ cls := "java/lang/Object", name := "<init>", desc := "()V" } : Jvm.MethodName)) ∈ lw_all := lw_g (lw_at lw_m4 132 rfl) rfl
theorem q906 : (Jvm.Cond.fieldLink "Holdtag$Item" (18 : Nat) "Holdtag$Item" "number" "I") ∈ lw_all := lw_g (lw_at lw_m4 133 rfl) rfl
theorem q909 : (Jvm.Cond.fieldLink "Holdtag$Item" (25 : Nat) "Holdtag$Item" "sender" "I") ∈ lw_all := lw_g (lw_at lw_m4 136 rfl) rfl
theorem q911 : (Jvm.Cond.fieldLink "Holdtag$Item" (31 : Nat) "Holdtag$Item" "size" "I") ∈ lw_all := lw_g (lw_at lw_m4 138 rfl) rfl
theorem q914 : (Jvm.Cond.fieldLink "Holdtag$Item" (34 : Nat) "Holdtag$Item" "arrival" "I") ∈ lw_all := lw_g (lw_at lw_m4 141 rfl) rfl
theorem q917 : (Jvm.Cond.fieldLink "Holdtag$Item" (21 : Nat) "Holdtag$Item" "folder" "LHoldtag$Folder;") ∈ lw_all := lw_g (lw_at lw_m4 144 rfl) rfl
theorem q919 : (Jvm.Cond.fieldLink "Holdtag$Item" (28 : Nat) "Holdtag$Item" "word" "I") ∈ lw_all := lw_g (lw_at lw_m4 146 rfl) rfl
theorem q922 : (Jvm.Cond.fieldLink "Holdtag$Item" (9 : Nat) "Holdtag$Item" "meeting" "I") ∈ lw_all := lw_g (lw_at lw_m4 149 rfl) rfl
theorem q924 : (Jvm.Cond.fieldLink "Holdtag$Item" (40 : Nat) "Holdtag$Item" "own" "LHoldtag$Tag;") ∈ lw_all := lw_g (lw_at lw_m4 151 rfl) rfl
theorem q926 : (Jvm.Cond.fieldLink "Holdtag$Item" (15 : Nat) "Holdtag$Item" "state" "I") ∈ lw_all := lw_g (lw_at lw_m4 153 rfl) rfl
theorem q931 : (Jvm.Cond.fieldLink "Holdtag$Item" (44 : Nat) "Holdtag$Item" "day" "I") ∈ lw_all := lw_g (lw_at lw_m4 158 rfl) rfl
theorem q933 : (Jvm.Cond.laysFinal "Holdtag$Item" "Holdtag$Item" "number" "I") ∈ lw_all := lw_g (lw_at lw_m4 160 rfl) rfl
theorem q934 : (Jvm.Cond.soleField "Holdtag$Item" "number") ∈ lw_all := lw_g (lw_at lw_m4 161 rfl) rfl
theorem q935 : (Jvm.Cond.laysFinal "Holdtag$Item" "Holdtag$Item" "sender" "I") ∈ lw_all := lw_g (lw_at lw_m4 162 rfl) rfl
theorem q936 : (Jvm.Cond.soleField "Holdtag$Item" "sender") ∈ lw_all := lw_g (lw_at lw_m4 163 rfl) rfl
theorem q937 : (Jvm.Cond.laysFinal "Holdtag$Item" "Holdtag$Item" "size" "I") ∈ lw_all := lw_g (lw_at lw_m4 164 rfl) rfl
theorem q938 : (Jvm.Cond.soleField "Holdtag$Item" "size") ∈ lw_all := lw_g (lw_at lw_m4 165 rfl) rfl
theorem q939 : (Jvm.Cond.laysFinal "Holdtag$Item" "Holdtag$Item" "arrival" "I") ∈ lw_all := lw_g (lw_at lw_m4 166 rfl) rfl
theorem q940 : (Jvm.Cond.soleField "Holdtag$Item" "arrival") ∈ lw_all := lw_g (lw_at lw_m4 167 rfl) rfl
theorem q941 : (Jvm.Cond.lays "Holdtag$Item" "Holdtag$Item" "folder" "LHoldtag$Folder;") ∈ lw_all := lw_g (lw_at lw_m4 168 rfl) rfl
theorem q942 : (Jvm.Cond.soleField "Holdtag$Item" "folder") ∈ lw_all := lw_g (lw_at lw_m4 169 rfl) rfl
theorem q943 : (Jvm.Cond.lays "Holdtag$Item" "Holdtag$Item" "word" "I") ∈ lw_all := lw_g (lw_at lw_m4 170 rfl) rfl
theorem q944 : (Jvm.Cond.soleField "Holdtag$Item" "word") ∈ lw_all := lw_g (lw_at lw_m4 171 rfl) rfl
theorem q945 : (Jvm.Cond.lays "Holdtag$Item" "Holdtag$Item" "meeting" "I") ∈ lw_all := lw_g (lw_at lw_m4 172 rfl) rfl
theorem q946 : (Jvm.Cond.soleField "Holdtag$Item" "meeting") ∈ lw_all := lw_g (lw_at lw_m4 173 rfl) rfl
theorem q947 : (Jvm.Cond.lays "Holdtag$Item" "Holdtag$Item" "own" "LHoldtag$Tag;") ∈ lw_all := lw_g (lw_at lw_m4 174 rfl) rfl
theorem q948 : (Jvm.Cond.soleField "Holdtag$Item" "own") ∈ lw_all := lw_g (lw_at lw_m4 175 rfl) rfl
theorem q949 : (Jvm.Cond.lays "Holdtag$Item" "Holdtag$Item" "state" "I") ∈ lw_all := lw_g (lw_at lw_m4 176 rfl) rfl
theorem q950 : (Jvm.Cond.soleField "Holdtag$Item" "state") ∈ lw_all := lw_g (lw_at lw_m4 177 rfl) rfl
theorem q951 : (Jvm.Cond.lays "Holdtag$Item" "Holdtag$Item" "day" "I") ∈ lw_all := lw_g (lw_at lw_m4 178 rfl) rfl
theorem q952 : (Jvm.Cond.soleField "Holdtag$Item" "day") ∈ lw_all := lw_g (lw_at lw_m4 179 rfl) rfl
theorem q953 : (Jvm.Cond.superclass "Holdtag$Item" "java/lang/Object") ∈ lw_all := lw_g (lw_at lw_m4 180 rfl) rfl
theorem q959 : (Jvm.Cond.instanceMethod ({ cls := "Holdtag$Item", name := "isAtHand", desc := "()Z" } : Jvm.MethodName)) ∈ lw_all := lw_g (lw_at lw_m4 186 rfl) rfl
theorem q960 : (Jvm.Cond.selects "Holdtag$Item" ({ cls := "Holdtag$Item", name := "isAtHand", desc := "()Z" } : Jvm.MethodName) ({ cls := "Holdtag$Item", name := "isAtHand", desc := "()Z" } : Jvm.MethodName)) ∈ lw_all := lw_g (lw_at lw_m4 187 rfl) rfl
theorem q961 : (Jvm.Cond.code ({ cls := "Holdtag$Item", name := "isAtHand", desc := "()Z" } : Jvm.MethodName) prog_7_method_4_code (1 : Nat) (Option.some Jvm.ClassFile.FieldType.boolean)) ∈ lw_all := lw_g (lw_at lw_m4 188 rfl) rfl
theorem q1224 : (Jvm.Cond.instanceMethod ({ cls := "Holdtag$Item", name := "become", desc := "(II)V" } : Jvm.MethodName)) ∈ lw_all := lw_g (lw_at lw_m5 211 rfl) rfl
theorem q1225 : (Jvm.Cond.selects "Holdtag$Item" ({ cls := "Holdtag$Item", name := "become", desc := "(II)V" } : Jvm.MethodName) ({ cls := "Holdtag$Item", name := "become", desc := "(II)V" } : Jvm.MethodName)) ∈ lw_all := lw_g (lw_at lw_m5 212 rfl) rfl
theorem q1226 : (Jvm.Cond.code ({ cls := "Holdtag$Item", name := "become", desc := "(II)V" } : Jvm.MethodName) prog_7_method_5_code (3 : Nat) (Option.none : Option Jvm.ClassFile.FieldType)) ∈ lw_all := lw_g (lw_at lw_m5 213 rfl) rfl
theorem q1295 : (Jvm.Cond.castable "Holdtag$Item" "Holdtag$Numbered") ∈ lw_tbl := lw_at lw_m6 42 rfl
theorem q1296 : (Jvm.Cond.selects "Holdtag$Item" ({ cls := "Holdtag$Numbered", name := "number", desc := "()I" } : Jvm.MethodName) ({ cls := "Holdtag$Item", name := "number", desc := "()I" } : Jvm.MethodName)) ∈ lw_all := lw_g (lw_at lw_m6 43 rfl) rfl
theorem q1297 : (Jvm.Cond.unhidden "Holdtag$Item" "number" "()I") ∈ lw_tbl := lw_at lw_m6 44 rfl
theorem q1298 : (Jvm.Cond.instanceMethod ({ cls := "Holdtag$Item", name := "number", desc := "()I" } : Jvm.MethodName)) ∈ lw_all := lw_g (lw_at lw_m6 45 rfl) rfl
theorem q1299 : (Jvm.Cond.publicMethod ({ cls := "Holdtag$Item", name := "number", desc := "()I" } : Jvm.MethodName)) ∈ lw_tbl := lw_at lw_m6 46 rfl
theorem q1300 : (Jvm.Cond.code ({ cls := "Holdtag$Item", name := "number", desc := "()I" } : Jvm.MethodName) prog_7_method_3_code (1 : Nat) (Option.some Jvm.ClassFile.FieldType.int)) ∈ lw_all := lw_g (lw_at lw_m6 47 rfl) rfl
theorem q1752 : (Jvm.Cond.unhidden "Holdtag$Item" "bit" "()I") ∈ lw_tbl := lw_at lw_m8 19 rfl
theorem q2282 : (Jvm.Cond.castable "Holdtag$Item" "java/lang/Object") ∈ lw_tbl := lw_at lw_m10 69 rfl
theorem in_X6 : ∀ w ∈ wsX60, w ∈ lw_all := lw_in wsX60 [933, 935, 937, 939, 941, 943, 945, 947, 949, 951] (by decide +kernel) (by decide +kernel)

/-! Holdtag$InState -/
set_option maxRecDepth 100000
def RX7 : String := "Holdtag$InState"
def TX7 : u_T := fun k => match k with
  | 0 => ("Holdtag$InState", "state", "I", true)
  | 1 => ("Holdtag$InState", "met", "I", false)
  | _ => ("Holdtag$InState", "this$0", "LHoldtag;", true)
def tyX7 : Nat → FieldType := fun k => match k with
  | 0 => .int
  | 1 => .int
  | _ => .object "Holdtag"
abbrev wsX70 : List Cond := u_ws RX7 TX7 3
theorem nmX7 : ∀ a, a < 3 → ∀ b, b < 3 → a ≠ b → (TX7 a).2.1 ≠ (TX7 b).2.1 := by decide +kernel
theorem tyX7_ok : ∀ k, k < 3 → parseFieldDescriptor (TX7 k).2.2.1 = some (tyX7 k) := by decide +kernel
abbrev cX7_init : ByteArray := prog_5_method_1_code
def yX7_init : MethodName := ⟨RX7, "<init>", "(LHoldtag;I)V"⟩
def dkwX7_init_0 : List UInt8 := [42, 43, 181, 0, 1, 42, 183, 0, 7, 42, 28, 181, 0, 13, 177]
abbrev dktX7_init_0 : List UInt8 := dkwX7_init_0 ++ []
theorem dksX7_init_0 : cX7_init.data.toList.drop 0 = dktX7_init_0 := by decide +kernel
theorem dX7_init_0 : decode cX7_init 0 = .ok (.aload_n 0, 1) := dk_42 (dk_at dksX7_init_0 0 rfl rfl)
theorem dX7_init_1 : decode cX7_init 1 = .ok (.aload_n 1, 1) := dk_43 (dk_at dksX7_init_0 1 rfl rfl)
theorem dX7_init_2 : decode cX7_init 2 = .ok (.putfield 1, 3) := dk_181 0 1 (dk_at dksX7_init_0 2 rfl rfl)
theorem dX7_init_5 : decode cX7_init 5 = .ok (.aload_n 0, 1) := dk_42 (dk_at dksX7_init_0 5 rfl rfl)
theorem dX7_init_6 : decode cX7_init 6 = .ok (.invokespecial 7, 3) := dk_183 0 7 (dk_at dksX7_init_0 6 rfl rfl)
theorem dX7_init_9 : decode cX7_init 9 = .ok (.aload_n 0, 1) := dk_42 (dk_at dksX7_init_0 9 rfl rfl)
theorem dX7_init_10 : decode cX7_init 10 = .ok (.iload_n 2, 1) := dk_28 (dk_at dksX7_init_0 10 rfl rfl)
theorem dX7_init_11 : decode cX7_init 11 = .ok (.putfield 13, 3) := dk_181 0 13 (dk_at dksX7_init_0 11 rfl rfl)
theorem dX7_init_14 : decode cX7_init 14 = .ok (.return_, 1) := dk_177 (dk_at dksX7_init_0 14 rfl rfl)
abbrev cX7_iterator : ByteArray := prog_5_method_2_code
def yX7_iterator : MethodName := ⟨RX7, "iterator", "()Ljava/util/Iterator;"⟩
def dkwX7_iterator_0 : List UInt8 := [187, 0, 17, 89, 42, 183, 0, 19, 176]
abbrev dktX7_iterator_0 : List UInt8 := dkwX7_iterator_0 ++ []
theorem dksX7_iterator_0 : cX7_iterator.data.toList.drop 0 = dktX7_iterator_0 := by decide +kernel
theorem dX7_iterator_0 : decode cX7_iterator 0 = .ok (.new 17, 3) := dk_187 0 17 (dk_at dksX7_iterator_0 0 rfl rfl)
theorem dX7_iterator_3 : decode cX7_iterator 3 = .ok (.dup, 1) := dk_89 (dk_at dksX7_iterator_0 3 rfl rfl)
theorem dX7_iterator_4 : decode cX7_iterator 4 = .ok (.aload_n 0, 1) := dk_42 (dk_at dksX7_iterator_0 4 rfl rfl)
theorem dX7_iterator_5 : decode cX7_iterator 5 = .ok (.invokespecial 19, 3) := dk_183 0 19 (dk_at dksX7_iterator_0 5 rfl rfl)
theorem dX7_iterator_8 : decode cX7_iterator 8 = .ok (.areturn, 1) := dk_176 (dk_at dksX7_iterator_0 8 rfl rfl)
abbrev cX7_sizes : ByteArray := prog_5_method_3_code
def yX7_sizes : MethodName := ⟨RX7, "sizes", "()I"⟩
def dkwX7_sizes_1 : List UInt8 := [192, 0, 36, 78, 27, 45, 180, 0, 38, 96, 60, 167, 255, 230, 27, 172]
abbrev dktX7_sizes_1 : List UInt8 := dkwX7_sizes_1 ++ []
def dkwX7_sizes_0 : List UInt8 := [3, 60, 42, 182, 0, 22, 77, 44, 185, 0, 26, 1, 0, 153, 0, 23, 44, 185, 0, 32, 1, 0]
abbrev dktX7_sizes_0 : List UInt8 := dkwX7_sizes_0 ++ dktX7_sizes_1
theorem dksX7_sizes_0 : cX7_sizes.data.toList.drop 0 = dktX7_sizes_0 := by decide +kernel
theorem dksX7_sizes_1 : cX7_sizes.data.toList.drop 22 = dktX7_sizes_1 := dk_seg dksX7_sizes_0 22 rfl rfl
theorem dX7_sizes_0 : decode cX7_sizes 0 = .ok (.iconst 0, 1) := dk_3 (dk_at dksX7_sizes_0 0 rfl rfl)
theorem dX7_sizes_1 : decode cX7_sizes 1 = .ok (.istore_n 1, 1) := dk_60 (dk_at dksX7_sizes_0 1 rfl rfl)
theorem dX7_sizes_2 : decode cX7_sizes 2 = .ok (.aload_n 0, 1) := dk_42 (dk_at dksX7_sizes_0 2 rfl rfl)
theorem dX7_sizes_3 : decode cX7_sizes 3 = .ok (.invokevirtual 22, 3) := dk_182 0 22 (dk_at dksX7_sizes_0 3 rfl rfl)
theorem dX7_sizes_6 : decode cX7_sizes 6 = .ok (.astore_n 2, 1) := dk_77 (dk_at dksX7_sizes_0 6 rfl rfl)
theorem dX7_sizes_7 : decode cX7_sizes 7 = .ok (.aload_n 2, 1) := dk_44 (dk_at dksX7_sizes_0 7 rfl rfl)
theorem dX7_sizes_8 : decode cX7_sizes 8 = .ok (.invokeinterface 26 1, 5) := by decide +kernel
theorem dX7_sizes_13 : decode cX7_sizes 13 = .ok (.ifCond .eq 23, 3) := dk_153 0 23 (dk_at dksX7_sizes_0 13 rfl rfl)
theorem dX7_sizes_16 : decode cX7_sizes 16 = .ok (.aload_n 2, 1) := dk_44 (dk_at dksX7_sizes_0 16 rfl rfl)
theorem dX7_sizes_17 : decode cX7_sizes 17 = .ok (.invokeinterface 32 1, 5) := by decide +kernel
theorem dX7_sizes_22 : decode cX7_sizes 22 = .ok (.checkcast 36, 3) := dk_192 0 36 (dk_at dksX7_sizes_1 0 rfl rfl)
theorem dX7_sizes_25 : decode cX7_sizes 25 = .ok (.astore_n 3, 1) := dk_78 (dk_at dksX7_sizes_1 3 rfl rfl)
theorem dX7_sizes_26 : decode cX7_sizes 26 = .ok (.iload_n 1, 1) := dk_27 (dk_at dksX7_sizes_1 4 rfl rfl)
theorem dX7_sizes_27 : decode cX7_sizes 27 = .ok (.aload_n 3, 1) := dk_45 (dk_at dksX7_sizes_1 5 rfl rfl)
theorem dX7_sizes_28 : decode cX7_sizes 28 = .ok (.getfield 38, 3) := dk_180 0 38 (dk_at dksX7_sizes_1 6 rfl rfl)
theorem dX7_sizes_31 : decode cX7_sizes 31 = .ok (.iadd, 1) := dk_96 (dk_at dksX7_sizes_1 9 rfl rfl)
theorem dX7_sizes_32 : decode cX7_sizes 32 = .ok (.istore_n 1, 1) := dk_60 (dk_at dksX7_sizes_1 10 rfl rfl)
theorem dX7_sizes_33 : decode cX7_sizes 33 = .ok (.goto (-26), 3) := dk_167 255 230 (dk_at dksX7_sizes_1 11 rfl rfl)
theorem dX7_sizes_36 : decode cX7_sizes 36 = .ok (.iload_n 1, 1) := dk_27 (dk_at dksX7_sizes_1 14 rfl rfl)
theorem dX7_sizes_37 : decode cX7_sizes 37 = .ok (.ireturn, 1) := dk_172 (dk_at dksX7_sizes_1 15 rfl rfl)
theorem q90 : (Jvm.Cond.initialized "Holdtag$InState") ∈ lw_all := lw_g (lw_at lw_m1 37 rfl) rfl
theorem q272 : (Jvm.Cond.selects "Holdtag$InState" ({ cls := "java/lang/Object", name := "getClass", desc := "()Ljava/lang/Class;" } : Jvm.MethodName) ({ cls := "java/lang/Object", name := "getClass", desc := "()Ljava/lang/Class;" } : Jvm.MethodName)) ∈ lw_all := lw_g (lw_at lw_m1 219 rfl) rfl
theorem q408 : (Jvm.Cond.instantiable "Holdtag$InState" (3 : Nat)) ∈ lw_all := lw_g (lw_at lw_m2 115 rfl) rfl
theorem q410 : (Jvm.Cond.instanceMethod ({ cls := "Holdtag$InState", name := "<init>", desc := "(LHoldtag;I)V" } : Jvm.MethodName)) ∈ lw_all := lw_g (lw_at lw_m2 117 rfl) rfl
theorem q411 : (Jvm.Cond.code ({ cls := "Holdtag$InState", name := "<init>", desc := "(LHoldtag;I)V" } : Jvm.MethodName) prog_5_method_1_code (3 : Nat) (Option.none : Option Jvm.ClassFile.FieldType)) ∈ lw_all := lw_g (lw_at lw_m2 118 rfl) rfl
theorem q412 : (Jvm.Cond.methodLink "Holdtag$InState" (7 : Nat) ({ cls := "java/lang/Object", name := "<init>", desc := "()V" } : Jvm.MethodName)) ∈ lw_all := lw_g (lw_at lw_m2 119 rfl) rfl
theorem q413 : (Jvm.Cond.fieldLink "Holdtag$InState" (13 : Nat) "Holdtag$InState" "state" "I") ∈ lw_all := lw_g (lw_at lw_m2 120 rfl) rfl
theorem q417 : (Jvm.Cond.fieldLink "Holdtag$InState" (1 : Nat) "Holdtag$InState" "this$0" "LHoldtag;") ∈ lw_all := lw_g (lw_at lw_m2 124 rfl) rfl
theorem q419 : (Jvm.Cond.laysFinal "Holdtag$InState" "Holdtag$InState" "state" "I") ∈ lw_all := lw_g (lw_at lw_m2 126 rfl) rfl
theorem q420 : (Jvm.Cond.soleField "Holdtag$InState" "state") ∈ lw_all := lw_g (lw_at lw_m2 127 rfl) rfl
theorem q421 : (Jvm.Cond.lays "Holdtag$InState" "Holdtag$InState" "met" "I") ∈ lw_all := lw_g (lw_at lw_m2 128 rfl) rfl
theorem q422 : (Jvm.Cond.soleField "Holdtag$InState" "met") ∈ lw_all := lw_g (lw_at lw_m2 129 rfl) rfl
theorem q423 : (Jvm.Cond.laysFinal "Holdtag$InState" "Holdtag$InState" "this$0" "LHoldtag;") ∈ lw_all := lw_g (lw_at lw_m2 130 rfl) rfl
theorem q424 : (Jvm.Cond.soleField "Holdtag$InState" "this$0") ∈ lw_all := lw_g (lw_at lw_m2 131 rfl) rfl
theorem q425 : (Jvm.Cond.superclass "Holdtag$InState" "java/lang/Object") ∈ lw_all := lw_g (lw_at lw_m2 132 rfl) rfl
theorem q427 : (Jvm.Cond.instanceMethod ({ cls := "Holdtag$InState", name := "iterator", desc := "()Ljava/util/Iterator;" } : Jvm.MethodName)) ∈ lw_all := lw_g (lw_at lw_m2 134 rfl) rfl
theorem q428 : (Jvm.Cond.selects "Holdtag$InState" ({ cls := "Holdtag$InState", name := "iterator", desc := "()Ljava/util/Iterator;" } : Jvm.MethodName) ({ cls := "Holdtag$InState", name := "iterator", desc := "()Ljava/util/Iterator;" } : Jvm.MethodName)) ∈ lw_all := lw_g (lw_at lw_m2 135 rfl) rfl
theorem q429 : (Jvm.Cond.code ({ cls := "Holdtag$InState", name := "iterator", desc := "()Ljava/util/Iterator;" } : Jvm.MethodName) prog_5_method_2_code (1 : Nat) (Option.some (Jvm.ClassFile.FieldType.object "java/util/Iterator"))) ∈ lw_all := lw_g (lw_at lw_m2 136 rfl) rfl
theorem q430 : (Jvm.Cond.classLink "Holdtag$InState" (17 : Nat) "Holdtag$InState$1") ∈ lw_all := lw_g (lw_at lw_m2 137 rfl) rfl
theorem q432 : (Jvm.Cond.methodLink "Holdtag$InState" (19 : Nat) ({ cls := "Holdtag$InState$1", name := "<init>", desc := "(LHoldtag$InState;)V" } : Jvm.MethodName)) ∈ lw_all := lw_g (lw_at lw_m2 139 rfl) rfl
theorem q912 : (Jvm.Cond.fieldLinkNest "Holdtag$InState" (38 : Nat) "Holdtag$Item" "size" "I" "Holdtag") ∈ lw_tbl := lw_at lw_m4 139 rfl
theorem q1524 : (Jvm.Cond.instanceMethod ({ cls := "Holdtag$InState", name := "sizes", desc := "()I" } : Jvm.MethodName)) ∈ lw_all := lw_g (lw_at lw_m7 31 rfl) rfl
theorem q1525 : (Jvm.Cond.selects "Holdtag$InState" ({ cls := "Holdtag$InState", name := "sizes", desc := "()I" } : Jvm.MethodName) ({ cls := "Holdtag$InState", name := "sizes", desc := "()I" } : Jvm.MethodName)) ∈ lw_all := lw_g (lw_at lw_m7 32 rfl) rfl
theorem q1526 : (Jvm.Cond.code ({ cls := "Holdtag$InState", name := "sizes", desc := "()I" } : Jvm.MethodName) prog_5_method_3_code (4 : Nat) (Option.some Jvm.ClassFile.FieldType.int)) ∈ lw_all := lw_g (lw_at lw_m7 33 rfl) rfl
theorem q1527 : (Jvm.Cond.methodLink "Holdtag$InState" (22 : Nat) ({ cls := "Holdtag$InState", name := "iterator", desc := "()Ljava/util/Iterator;" } : Jvm.MethodName)) ∈ lw_all := lw_g (lw_at lw_m7 34 rfl) rfl
theorem q1528 : (Jvm.Cond.interfaceEntry "Holdtag$InState" (26 : Nat)) ∈ lw_tbl := lw_at lw_m7 35 rfl
theorem q1529 : (Jvm.Cond.methodLink "Holdtag$InState" (26 : Nat) ({ cls := "java/util/Iterator", name := "hasNext", desc := "()Z" } : Jvm.MethodName)) ∈ lw_all := lw_g (lw_at lw_m7 36 rfl) rfl
theorem q1530 : (Jvm.Cond.interfaceEntry "Holdtag$InState" (32 : Nat)) ∈ lw_tbl := lw_at lw_m7 37 rfl
theorem q1531 : (Jvm.Cond.methodLink "Holdtag$InState" (32 : Nat) ({ cls := "java/util/Iterator", name := "next", desc := "()Ljava/lang/Object;" } : Jvm.MethodName)) ∈ lw_all := lw_g (lw_at lw_m7 38 rfl) rfl
theorem q1532 : (Jvm.Cond.classLink "Holdtag$InState" (36 : Nat) "Holdtag$Item") ∈ lw_all := lw_g (lw_at lw_m7 39 rfl) rfl
theorem q2286 : (Jvm.Cond.castable "Holdtag$InState" "java/lang/Object") ∈ lw_tbl := lw_at lw_m10 73 rfl
theorem in_X7 : ∀ w ∈ wsX70, w ∈ lw_all := lw_in wsX70 [419, 421, 423] (by decide +kernel) (by decide +kernel)

/-! Holdtag$InState$1 -/
set_option maxRecDepth 100000
def RX8 : String := "Holdtag$InState$1"
def TX8 : u_T := fun k => match k with
  | 0 => ("Holdtag$InState$1", "at", "I", false)
  | _ => ("Holdtag$InState$1", "this$1", "LHoldtag$InState;", true)
def tyX8 : Nat → FieldType := fun k => match k with
  | 0 => .int
  | _ => .object "Holdtag$InState"
abbrev wsX80 : List Cond := u_ws RX8 TX8 2
theorem nmX8 : ∀ a, a < 2 → ∀ b, b < 2 → a ≠ b → (TX8 a).2.1 ≠ (TX8 b).2.1 := by decide +kernel
theorem tyX8_ok : ∀ k, k < 2 → parseFieldDescriptor (TX8 k).2.2.1 = some (tyX8 k) := by decide +kernel
abbrev cX8_init : ByteArray := prog_6_method_1_code
def yX8_init : MethodName := ⟨RX8, "<init>", "(LHoldtag$InState;)V"⟩
def dkwX8_init_0 : List UInt8 := [42, 43, 181, 0, 1, 42, 183, 0, 7, 42, 42, 3, 182, 0, 13, 181, 0, 17, 177]
abbrev dktX8_init_0 : List UInt8 := dkwX8_init_0 ++ []
theorem dksX8_init_0 : cX8_init.data.toList.drop 0 = dktX8_init_0 := by decide +kernel
theorem dX8_init_0 : decode cX8_init 0 = .ok (.aload_n 0, 1) := dk_42 (dk_at dksX8_init_0 0 rfl rfl)
theorem dX8_init_1 : decode cX8_init 1 = .ok (.aload_n 1, 1) := dk_43 (dk_at dksX8_init_0 1 rfl rfl)
theorem dX8_init_2 : decode cX8_init 2 = .ok (.putfield 1, 3) := dk_181 0 1 (dk_at dksX8_init_0 2 rfl rfl)
theorem dX8_init_5 : decode cX8_init 5 = .ok (.aload_n 0, 1) := dk_42 (dk_at dksX8_init_0 5 rfl rfl)
theorem dX8_init_6 : decode cX8_init 6 = .ok (.invokespecial 7, 3) := dk_183 0 7 (dk_at dksX8_init_0 6 rfl rfl)
theorem dX8_init_9 : decode cX8_init 9 = .ok (.aload_n 0, 1) := dk_42 (dk_at dksX8_init_0 9 rfl rfl)
theorem dX8_init_10 : decode cX8_init 10 = .ok (.aload_n 0, 1) := dk_42 (dk_at dksX8_init_0 10 rfl rfl)
theorem dX8_init_11 : decode cX8_init 11 = .ok (.iconst 0, 1) := dk_3 (dk_at dksX8_init_0 11 rfl rfl)
theorem dX8_init_12 : decode cX8_init 12 = .ok (.invokevirtual 13, 3) := dk_182 0 13 (dk_at dksX8_init_0 12 rfl rfl)
theorem dX8_init_15 : decode cX8_init 15 = .ok (.putfield 17, 3) := dk_181 0 17 (dk_at dksX8_init_0 15 rfl rfl)
theorem dX8_init_18 : decode cX8_init 18 = .ok (.return_, 1) := dk_177 (dk_at dksX8_init_0 18 rfl rfl)
abbrev cX8_nextFrom : ByteArray := prog_6_method_2_code
def yX8_nextFrom : MethodName := ⟨RX8, "nextFrom", "(I)I"⟩
def dkwX8_nextFrom_2 : List UInt8 := [159, 0, 9, 132, 2, 1, 167, 255, 206, 28, 172]
abbrev dktX8_nextFrom_2 : List UInt8 := dkwX8_nextFrom_2 ++ []
def dkwX8_nextFrom_1 : List UInt8 := [180, 0, 21, 180, 0, 27, 28, 182, 0, 39, 192, 0, 42, 180, 0, 44, 42, 180, 0, 1, 180, 0, 47]
abbrev dktX8_nextFrom_1 : List UInt8 := dkwX8_nextFrom_1 ++ dktX8_nextFrom_2
def dkwX8_nextFrom_0 : List UInt8 := [27, 61, 28, 42, 180, 0, 1, 180, 0, 21, 180, 0, 27, 182, 0, 33, 162, 0, 39, 42, 180, 0, 1]
abbrev dktX8_nextFrom_0 : List UInt8 := dkwX8_nextFrom_0 ++ dktX8_nextFrom_1
theorem dksX8_nextFrom_0 : cX8_nextFrom.data.toList.drop 0 = dktX8_nextFrom_0 := by decide +kernel
theorem dksX8_nextFrom_1 : cX8_nextFrom.data.toList.drop 23 = dktX8_nextFrom_1 := dk_seg dksX8_nextFrom_0 23 rfl rfl
theorem dksX8_nextFrom_2 : cX8_nextFrom.data.toList.drop 46 = dktX8_nextFrom_2 := dk_seg dksX8_nextFrom_1 23 rfl rfl
theorem dX8_nextFrom_0 : decode cX8_nextFrom 0 = .ok (.iload_n 1, 1) := dk_27 (dk_at dksX8_nextFrom_0 0 rfl rfl)
theorem dX8_nextFrom_1 : decode cX8_nextFrom 1 = .ok (.istore_n 2, 1) := dk_61 (dk_at dksX8_nextFrom_0 1 rfl rfl)
theorem dX8_nextFrom_2 : decode cX8_nextFrom 2 = .ok (.iload_n 2, 1) := dk_28 (dk_at dksX8_nextFrom_0 2 rfl rfl)
theorem dX8_nextFrom_3 : decode cX8_nextFrom 3 = .ok (.aload_n 0, 1) := dk_42 (dk_at dksX8_nextFrom_0 3 rfl rfl)
theorem dX8_nextFrom_4 : decode cX8_nextFrom 4 = .ok (.getfield 1, 3) := dk_180 0 1 (dk_at dksX8_nextFrom_0 4 rfl rfl)
theorem dX8_nextFrom_7 : decode cX8_nextFrom 7 = .ok (.getfield 21, 3) := dk_180 0 21 (dk_at dksX8_nextFrom_0 7 rfl rfl)
theorem dX8_nextFrom_10 : decode cX8_nextFrom 10 = .ok (.getfield 27, 3) := dk_180 0 27 (dk_at dksX8_nextFrom_0 10 rfl rfl)
theorem dX8_nextFrom_13 : decode cX8_nextFrom 13 = .ok (.invokevirtual 33, 3) := dk_182 0 33 (dk_at dksX8_nextFrom_0 13 rfl rfl)
theorem dX8_nextFrom_16 : decode cX8_nextFrom 16 = .ok (.if_icmp .ge 39, 3) := dk_162 0 39 (dk_at dksX8_nextFrom_0 16 rfl rfl)
theorem dX8_nextFrom_19 : decode cX8_nextFrom 19 = .ok (.aload_n 0, 1) := dk_42 (dk_at dksX8_nextFrom_0 19 rfl rfl)
theorem dX8_nextFrom_20 : decode cX8_nextFrom 20 = .ok (.getfield 1, 3) := dk_180 0 1 (dk_at dksX8_nextFrom_0 20 rfl rfl)
theorem dX8_nextFrom_23 : decode cX8_nextFrom 23 = .ok (.getfield 21, 3) := dk_180 0 21 (dk_at dksX8_nextFrom_1 0 rfl rfl)
theorem dX8_nextFrom_26 : decode cX8_nextFrom 26 = .ok (.getfield 27, 3) := dk_180 0 27 (dk_at dksX8_nextFrom_1 3 rfl rfl)
theorem dX8_nextFrom_29 : decode cX8_nextFrom 29 = .ok (.iload_n 2, 1) := dk_28 (dk_at dksX8_nextFrom_1 6 rfl rfl)
theorem dX8_nextFrom_30 : decode cX8_nextFrom 30 = .ok (.invokevirtual 39, 3) := dk_182 0 39 (dk_at dksX8_nextFrom_1 7 rfl rfl)
theorem dX8_nextFrom_33 : decode cX8_nextFrom 33 = .ok (.checkcast 42, 3) := dk_192 0 42 (dk_at dksX8_nextFrom_1 10 rfl rfl)
theorem dX8_nextFrom_36 : decode cX8_nextFrom 36 = .ok (.getfield 44, 3) := dk_180 0 44 (dk_at dksX8_nextFrom_1 13 rfl rfl)
theorem dX8_nextFrom_39 : decode cX8_nextFrom 39 = .ok (.aload_n 0, 1) := dk_42 (dk_at dksX8_nextFrom_1 16 rfl rfl)
theorem dX8_nextFrom_40 : decode cX8_nextFrom 40 = .ok (.getfield 1, 3) := dk_180 0 1 (dk_at dksX8_nextFrom_1 17 rfl rfl)
theorem dX8_nextFrom_43 : decode cX8_nextFrom 43 = .ok (.getfield 47, 3) := dk_180 0 47 (dk_at dksX8_nextFrom_1 20 rfl rfl)
theorem dX8_nextFrom_46 : decode cX8_nextFrom 46 = .ok (.if_icmp .eq 9, 3) := dk_159 0 9 (dk_at dksX8_nextFrom_2 0 rfl rfl)
theorem dX8_nextFrom_49 : decode cX8_nextFrom 49 = .ok (.iinc 2 1, 3) := dk_132 2 1 (dk_at dksX8_nextFrom_2 3 rfl rfl)
theorem dX8_nextFrom_52 : decode cX8_nextFrom 52 = .ok (.goto (-50), 3) := dk_167 255 206 (dk_at dksX8_nextFrom_2 6 rfl rfl)
theorem dX8_nextFrom_55 : decode cX8_nextFrom 55 = .ok (.iload_n 2, 1) := dk_28 (dk_at dksX8_nextFrom_2 9 rfl rfl)
theorem dX8_nextFrom_56 : decode cX8_nextFrom 56 = .ok (.ireturn, 1) := dk_172 (dk_at dksX8_nextFrom_2 10 rfl rfl)
abbrev cX8_hasNext : ByteArray := prog_6_method_3_code
def yX8_hasNext : MethodName := ⟨RX8, "hasNext", "()Z"⟩
def dkwX8_hasNext_1 : List UInt8 := [3, 172]
abbrev dktX8_hasNext_1 : List UInt8 := dkwX8_hasNext_1 ++ []
def dkwX8_hasNext_0 : List UInt8 := [42, 180, 0, 17, 42, 180, 0, 1, 180, 0, 21, 180, 0, 27, 182, 0, 33, 162, 0, 7, 4, 167, 0, 4]
abbrev dktX8_hasNext_0 : List UInt8 := dkwX8_hasNext_0 ++ dktX8_hasNext_1
theorem dksX8_hasNext_0 : cX8_hasNext.data.toList.drop 0 = dktX8_hasNext_0 := by decide +kernel
theorem dksX8_hasNext_1 : cX8_hasNext.data.toList.drop 24 = dktX8_hasNext_1 := dk_seg dksX8_hasNext_0 24 rfl rfl
theorem dX8_hasNext_0 : decode cX8_hasNext 0 = .ok (.aload_n 0, 1) := dk_42 (dk_at dksX8_hasNext_0 0 rfl rfl)
theorem dX8_hasNext_1 : decode cX8_hasNext 1 = .ok (.getfield 17, 3) := dk_180 0 17 (dk_at dksX8_hasNext_0 1 rfl rfl)
theorem dX8_hasNext_4 : decode cX8_hasNext 4 = .ok (.aload_n 0, 1) := dk_42 (dk_at dksX8_hasNext_0 4 rfl rfl)
theorem dX8_hasNext_5 : decode cX8_hasNext 5 = .ok (.getfield 1, 3) := dk_180 0 1 (dk_at dksX8_hasNext_0 5 rfl rfl)
theorem dX8_hasNext_8 : decode cX8_hasNext 8 = .ok (.getfield 21, 3) := dk_180 0 21 (dk_at dksX8_hasNext_0 8 rfl rfl)
theorem dX8_hasNext_11 : decode cX8_hasNext 11 = .ok (.getfield 27, 3) := dk_180 0 27 (dk_at dksX8_hasNext_0 11 rfl rfl)
theorem dX8_hasNext_14 : decode cX8_hasNext 14 = .ok (.invokevirtual 33, 3) := dk_182 0 33 (dk_at dksX8_hasNext_0 14 rfl rfl)
theorem dX8_hasNext_17 : decode cX8_hasNext 17 = .ok (.if_icmp .ge 7, 3) := dk_162 0 7 (dk_at dksX8_hasNext_0 17 rfl rfl)
theorem dX8_hasNext_20 : decode cX8_hasNext 20 = .ok (.iconst 1, 1) := dk_4 (dk_at dksX8_hasNext_0 20 rfl rfl)
theorem dX8_hasNext_21 : decode cX8_hasNext 21 = .ok (.goto 4, 3) := dk_167 0 4 (dk_at dksX8_hasNext_0 21 rfl rfl)
theorem dX8_hasNext_24 : decode cX8_hasNext 24 = .ok (.iconst 0, 1) := dk_3 (dk_at dksX8_hasNext_1 0 rfl rfl)
theorem dX8_hasNext_25 : decode cX8_hasNext 25 = .ok (.ireturn, 1) := dk_172 (dk_at dksX8_hasNext_1 1 rfl rfl)
abbrev cX8_next : ByteArray := prog_6_method_5_code
def yX8_next : MethodName := ⟨RX8, "next", "()Ljava/lang/Object;"⟩
theorem dX8_next_0 : decode cX8_next 0 = .ok (.aload_n 0, 1) := by decide +kernel
theorem dX8_next_1 : decode cX8_next 1 = .ok (.invokevirtual 58, 3) := by decide +kernel
theorem dX8_next_4 : decode cX8_next 4 = .ok (.areturn, 1) := by decide +kernel
abbrev cX8_next_2 : ByteArray := prog_6_method_4_code
def yX8_next_2 : MethodName := ⟨RX8, "next", "()LHoldtag$Item;"⟩
def dkwX8_next_2_2 : List UInt8 := [182, 0, 13, 181, 0, 17, 42, 180, 0, 1, 89, 180, 0, 55, 4, 96, 181, 0, 55, 43, 176]
abbrev dktX8_next_2_2 : List UInt8 := dkwX8_next_2_2 ++ []
def dkwX8_next_2_1 : List UInt8 := [180, 0, 27, 42, 180, 0, 17, 182, 0, 39, 192, 0, 42, 76, 42, 42, 42, 180, 0, 17, 4, 96]
abbrev dktX8_next_2_1 : List UInt8 := dkwX8_next_2_1 ++ dktX8_next_2_2
def dkwX8_next_2_0 : List UInt8 := [42, 182, 0, 48, 154, 0, 11, 187, 0, 52, 89, 183, 0, 54, 191, 42, 180, 0, 1, 180, 0, 21]
abbrev dktX8_next_2_0 : List UInt8 := dkwX8_next_2_0 ++ dktX8_next_2_1
theorem dksX8_next_2_0 : cX8_next_2.data.toList.drop 0 = dktX8_next_2_0 := by decide +kernel
theorem dksX8_next_2_1 : cX8_next_2.data.toList.drop 22 = dktX8_next_2_1 := dk_seg dksX8_next_2_0 22 rfl rfl
theorem dksX8_next_2_2 : cX8_next_2.data.toList.drop 44 = dktX8_next_2_2 := dk_seg dksX8_next_2_1 22 rfl rfl
theorem dX8_next_2_0 : decode cX8_next_2 0 = .ok (.aload_n 0, 1) := dk_42 (dk_at dksX8_next_2_0 0 rfl rfl)
theorem dX8_next_2_1 : decode cX8_next_2 1 = .ok (.invokevirtual 48, 3) := dk_182 0 48 (dk_at dksX8_next_2_0 1 rfl rfl)
theorem dX8_next_2_4 : decode cX8_next_2 4 = .ok (.ifCond .ne 11, 3) := dk_154 0 11 (dk_at dksX8_next_2_0 4 rfl rfl)
theorem dX8_next_2_7 : decode cX8_next_2 7 = .ok (.new 52, 3) := dk_187 0 52 (dk_at dksX8_next_2_0 7 rfl rfl)
theorem dX8_next_2_10 : decode cX8_next_2 10 = .ok (.dup, 1) := dk_89 (dk_at dksX8_next_2_0 10 rfl rfl)
theorem dX8_next_2_11 : decode cX8_next_2 11 = .ok (.invokespecial 54, 3) := dk_183 0 54 (dk_at dksX8_next_2_0 11 rfl rfl)
theorem dX8_next_2_14 : decode cX8_next_2 14 = .ok (.athrow, 1) := dk_191 (dk_at dksX8_next_2_0 14 rfl rfl)
theorem dX8_next_2_15 : decode cX8_next_2 15 = .ok (.aload_n 0, 1) := dk_42 (dk_at dksX8_next_2_0 15 rfl rfl)
theorem dX8_next_2_16 : decode cX8_next_2 16 = .ok (.getfield 1, 3) := dk_180 0 1 (dk_at dksX8_next_2_0 16 rfl rfl)
theorem dX8_next_2_19 : decode cX8_next_2 19 = .ok (.getfield 21, 3) := dk_180 0 21 (dk_at dksX8_next_2_0 19 rfl rfl)
theorem dX8_next_2_22 : decode cX8_next_2 22 = .ok (.getfield 27, 3) := dk_180 0 27 (dk_at dksX8_next_2_1 0 rfl rfl)
theorem dX8_next_2_25 : decode cX8_next_2 25 = .ok (.aload_n 0, 1) := dk_42 (dk_at dksX8_next_2_1 3 rfl rfl)
theorem dX8_next_2_26 : decode cX8_next_2 26 = .ok (.getfield 17, 3) := dk_180 0 17 (dk_at dksX8_next_2_1 4 rfl rfl)
theorem dX8_next_2_29 : decode cX8_next_2 29 = .ok (.invokevirtual 39, 3) := dk_182 0 39 (dk_at dksX8_next_2_1 7 rfl rfl)
theorem dX8_next_2_32 : decode cX8_next_2 32 = .ok (.checkcast 42, 3) := dk_192 0 42 (dk_at dksX8_next_2_1 10 rfl rfl)
theorem dX8_next_2_35 : decode cX8_next_2 35 = .ok (.astore_n 1, 1) := dk_76 (dk_at dksX8_next_2_1 13 rfl rfl)
theorem dX8_next_2_36 : decode cX8_next_2 36 = .ok (.aload_n 0, 1) := dk_42 (dk_at dksX8_next_2_1 14 rfl rfl)
theorem dX8_next_2_37 : decode cX8_next_2 37 = .ok (.aload_n 0, 1) := dk_42 (dk_at dksX8_next_2_1 15 rfl rfl)
theorem dX8_next_2_38 : decode cX8_next_2 38 = .ok (.aload_n 0, 1) := dk_42 (dk_at dksX8_next_2_1 16 rfl rfl)
theorem dX8_next_2_39 : decode cX8_next_2 39 = .ok (.getfield 17, 3) := dk_180 0 17 (dk_at dksX8_next_2_1 17 rfl rfl)
theorem dX8_next_2_42 : decode cX8_next_2 42 = .ok (.iconst 1, 1) := dk_4 (dk_at dksX8_next_2_1 20 rfl rfl)
theorem dX8_next_2_43 : decode cX8_next_2 43 = .ok (.iadd, 1) := dk_96 (dk_at dksX8_next_2_1 21 rfl rfl)
theorem dX8_next_2_44 : decode cX8_next_2 44 = .ok (.invokevirtual 13, 3) := dk_182 0 13 (dk_at dksX8_next_2_2 0 rfl rfl)
theorem dX8_next_2_47 : decode cX8_next_2 47 = .ok (.putfield 17, 3) := dk_181 0 17 (dk_at dksX8_next_2_2 3 rfl rfl)
theorem dX8_next_2_50 : decode cX8_next_2 50 = .ok (.aload_n 0, 1) := dk_42 (dk_at dksX8_next_2_2 6 rfl rfl)
theorem dX8_next_2_51 : decode cX8_next_2 51 = .ok (.getfield 1, 3) := dk_180 0 1 (dk_at dksX8_next_2_2 7 rfl rfl)
theorem dX8_next_2_54 : decode cX8_next_2 54 = .ok (.dup, 1) := dk_89 (dk_at dksX8_next_2_2 10 rfl rfl)
theorem dX8_next_2_55 : decode cX8_next_2 55 = .ok (.getfield 55, 3) := dk_180 0 55 (dk_at dksX8_next_2_2 11 rfl rfl)
theorem dX8_next_2_58 : decode cX8_next_2 58 = .ok (.iconst 1, 1) := dk_4 (dk_at dksX8_next_2_2 14 rfl rfl)
theorem dX8_next_2_59 : decode cX8_next_2 59 = .ok (.iadd, 1) := dk_96 (dk_at dksX8_next_2_2 15 rfl rfl)
theorem dX8_next_2_60 : decode cX8_next_2 60 = .ok (.putfield 55, 3) := dk_181 0 55 (dk_at dksX8_next_2_2 16 rfl rfl)
theorem dX8_next_2_63 : decode cX8_next_2 63 = .ok (.aload_n 1, 1) := dk_43 (dk_at dksX8_next_2_2 19 rfl rfl)
theorem dX8_next_2_64 : decode cX8_next_2 64 = .ok (.areturn, 1) := dk_176 (dk_at dksX8_next_2_2 20 rfl rfl)
theorem q91 : (Jvm.Cond.initialized "Holdtag$InState$1") ∈ lw_all := lw_g (lw_at lw_m1 38 rfl) rfl
theorem q273 : (Jvm.Cond.selects "Holdtag$InState$1" ({ cls := "java/lang/Object", name := "getClass", desc := "()Ljava/lang/Class;" } : Jvm.MethodName) ({ cls := "java/lang/Object", name := "getClass", desc := "()Ljava/lang/Class;" } : Jvm.MethodName)) ∈ lw_all := lw_g (lw_at lw_m1 220 rfl) rfl
theorem q310 : (Jvm.Cond.fieldLinkNest "Holdtag$InState$1" (27 : Nat) "Holdtag" "items" "LHoldtag$Register;" "Holdtag") ∈ lw_tbl := lw_at lw_m2 17 rfl
theorem q414 : (Jvm.Cond.fieldLinkNest "Holdtag$InState$1" (47 : Nat) "Holdtag$InState" "state" "I" "Holdtag") ∈ lw_tbl := lw_at lw_m2 121 rfl
theorem q415 : (Jvm.Cond.fieldLinkNest "Holdtag$InState$1" (55 : Nat) "Holdtag$InState" "met" "I" "Holdtag") ∈ lw_tbl := lw_at lw_m2 122 rfl
theorem q418 : (Jvm.Cond.fieldLink "Holdtag$InState$1" (21 : Nat) "Holdtag$InState" "this$0" "LHoldtag;") ∈ lw_all := lw_g (lw_at lw_m2 125 rfl) rfl
theorem q431 : (Jvm.Cond.instantiable "Holdtag$InState$1" (2 : Nat)) ∈ lw_all := lw_g (lw_at lw_m2 138 rfl) rfl
theorem q433 : (Jvm.Cond.instanceMethod ({ cls := "Holdtag$InState$1", name := "<init>", desc := "(LHoldtag$InState;)V" } : Jvm.MethodName)) ∈ lw_all := lw_g (lw_at lw_m2 140 rfl) rfl
theorem q434 : (Jvm.Cond.code ({ cls := "Holdtag$InState$1", name := "<init>", desc := "(LHoldtag$InState;)V" } : Jvm.MethodName) prog_6_method_1_code (2 : Nat) (Option.none : Option Jvm.ClassFile.FieldType)) ∈ lw_all := lw_g (lw_at lw_m2 141 rfl) rfl
theorem q435 : (Jvm.Cond.methodLink "Holdtag$InState$1" (7 : Nat) ({ cls := "java/lang/Object", name := "<init>", desc := "()V" } : Jvm.MethodName)) ∈ lw_all := lw_g (lw_at lw_m2 142 rfl) rfl
theorem q436 : (Jvm.Cond.methodLink "Holdtag$InState$1" (13 : Nat) ({ cls := "Holdtag$InState$1", name := "nextFrom", desc := "(I)I" } : Jvm.MethodName)) ∈ lw_all := lw_g (lw_at lw_m2 143 rfl) rfl
theorem q437 : (Jvm.Cond.privateMethod ({ cls := "Holdtag$InState$1", name := "nextFrom", desc := "(I)I" } : Jvm.MethodName)) ∈ lw_tbl := lw_at lw_m2 144 rfl
theorem q438 : (Jvm.Cond.instanceMethod ({ cls := "Holdtag$InState$1", name := "nextFrom", desc := "(I)I" } : Jvm.MethodName)) ∈ lw_all := lw_g (lw_at lw_m2 145 rfl) rfl
theorem q439 : (Jvm.Cond.code ({ cls := "Holdtag$InState$1", name := "nextFrom", desc := "(I)I" } : Jvm.MethodName) prog_6_method_2_code (3 : Nat) (Option.some Jvm.ClassFile.FieldType.int)) ∈ lw_all := lw_g (lw_at lw_m2 146 rfl) rfl
theorem q440 : (Jvm.Cond.methodLink "Holdtag$InState$1" (33 : Nat) ({ cls := "Holdtag$Register", name := "size", desc := "()I" } : Jvm.MethodName)) ∈ lw_all := lw_g (lw_at lw_m2 147 rfl) rfl
theorem q441 : (Jvm.Cond.methodLink "Holdtag$InState$1" (39 : Nat) ({ cls := "Holdtag$Register", name := "at", desc := "(I)LHoldtag$Numbered;" } : Jvm.MethodName)) ∈ lw_all := lw_g (lw_at lw_m2 148 rfl) rfl
theorem q530 : (Jvm.Cond.classLink "Holdtag$InState$1" (42 : Nat) "Holdtag$Item") ∈ lw_all := lw_g (lw_at lw_m2 237 rfl) rfl
theorem q531 : (Jvm.Cond.fieldLink "Holdtag$InState$1" (17 : Nat) "Holdtag$InState$1" "at" "I") ∈ lw_all := lw_g (lw_at lw_m2 238 rfl) rfl
theorem q532 : (Jvm.Cond.fieldLink "Holdtag$InState$1" (1 : Nat) "Holdtag$InState$1" "this$1" "LHoldtag$InState;") ∈ lw_all := lw_g (lw_at lw_m2 239 rfl) rfl
theorem q533 : (Jvm.Cond.lays "Holdtag$InState$1" "Holdtag$InState$1" "at" "I") ∈ lw_all := lw_g (lw_at lw_m3 0 rfl) rfl
theorem q534 : (Jvm.Cond.soleField "Holdtag$InState$1" "at") ∈ lw_all := lw_g (lw_at lw_m3 1 rfl) rfl
theorem q535 : (Jvm.Cond.laysFinal "Holdtag$InState$1" "Holdtag$InState$1" "this$1" "LHoldtag$InState;") ∈ lw_all := lw_g (lw_at lw_m3 2 rfl) rfl
theorem q536 : (Jvm.Cond.soleField "Holdtag$InState$1" "this$1") ∈ lw_all := lw_g (lw_at lw_m3 3 rfl) rfl
theorem q537 : (Jvm.Cond.superclass "Holdtag$InState$1" "java/lang/Object") ∈ lw_all := lw_g (lw_at lw_m3 4 rfl) rfl
theorem q542 : (Jvm.Cond.castable "Holdtag$InState$1" "java/util/Iterator") ∈ lw_tbl := lw_at lw_m3 9 rfl
theorem q543 : (Jvm.Cond.selects "Holdtag$InState$1" ({ cls := "java/util/Iterator", name := "hasNext", desc := "()Z" } : Jvm.MethodName) ({ cls := "Holdtag$InState$1", name := "hasNext", desc := "()Z" } : Jvm.MethodName)) ∈ lw_all := lw_g (lw_at lw_m3 10 rfl) rfl
theorem q544 : (Jvm.Cond.unhidden "Holdtag$InState$1" "hasNext" "()Z") ∈ lw_tbl := lw_at lw_m3 11 rfl
theorem q545 : (Jvm.Cond.instanceMethod ({ cls := "Holdtag$InState$1", name := "hasNext", desc := "()Z" } : Jvm.MethodName)) ∈ lw_all := lw_g (lw_at lw_m3 12 rfl) rfl
theorem q546 : (Jvm.Cond.publicMethod ({ cls := "Holdtag$InState$1", name := "hasNext", desc := "()Z" } : Jvm.MethodName)) ∈ lw_tbl := lw_at lw_m3 13 rfl
theorem q547 : (Jvm.Cond.code ({ cls := "Holdtag$InState$1", name := "hasNext", desc := "()Z" } : Jvm.MethodName) prog_6_method_3_code (1 : Nat) (Option.some Jvm.ClassFile.FieldType.boolean)) ∈ lw_all := lw_g (lw_at lw_m3 14 rfl) rfl
theorem q552 : (Jvm.Cond.selects "Holdtag$InState$1" ({ cls := "java/util/Iterator", name := "next", desc := "()Ljava/lang/Object;" } : Jvm.MethodName) ({ cls := "Holdtag$InState$1", name := "next", desc := "()Ljava/lang/Object;" } : Jvm.MethodName)) ∈ lw_all := lw_g (lw_at lw_m3 19 rfl) rfl
theorem q553 : (Jvm.Cond.unhidden "Holdtag$InState$1" "next" "()Ljava/lang/Object;") ∈ lw_tbl := lw_at lw_m3 20 rfl
theorem q554 : (Jvm.Cond.instanceMethod ({ cls := "Holdtag$InState$1", name := "next", desc := "()Ljava/lang/Object;" } : Jvm.MethodName)) ∈ lw_all := lw_g (lw_at lw_m3 21 rfl) rfl
theorem q555 : (Jvm.Cond.publicMethod ({ cls := "Holdtag$InState$1", name := "next", desc := "()Ljava/lang/Object;" } : Jvm.MethodName)) ∈ lw_tbl := lw_at lw_m3 22 rfl
theorem q556 : (Jvm.Cond.code ({ cls := "Holdtag$InState$1", name := "next", desc := "()Ljava/lang/Object;" } : Jvm.MethodName) prog_6_method_5_code (1 : Nat) (Option.some (Jvm.ClassFile.FieldType.object "java/lang/Object"))) ∈ lw_all := lw_g (lw_at lw_m3 23 rfl) rfl
theorem q557 : (Jvm.Cond.methodLink "Holdtag$InState$1" (58 : Nat) ({ cls := "Holdtag$InState$1", name := "next", desc := "()LHoldtag$Item;" } : Jvm.MethodName)) ∈ lw_all := lw_g (lw_at lw_m3 24 rfl) rfl
theorem q558 : (Jvm.Cond.instanceMethod ({ cls := "Holdtag$InState$1", name := "next", desc := "()LHoldtag$Item;" } : Jvm.MethodName)) ∈ lw_all := lw_g (lw_at lw_m3 25 rfl) rfl
theorem q559 : (Jvm.Cond.selects "Holdtag$InState$1" ({ cls := "Holdtag$InState$1", name := "next", desc := "()LHoldtag$Item;" } : Jvm.MethodName) ({ cls := "Holdtag$InState$1", name := "next", desc := "()LHoldtag$Item;" } : Jvm.MethodName)) ∈ lw_all := lw_g (lw_at lw_m3 26 rfl) rfl
theorem q560 : (Jvm.Cond.code ({ cls := "Holdtag$InState$1", name := "next", desc := "()LHoldtag$Item;" } : Jvm.MethodName) prog_6_method_4_code (2 : Nat) (Option.some (Jvm.ClassFile.FieldType.object "Holdtag$Item"))) ∈ lw_all := lw_g (lw_at lw_m3 27 rfl) rfl
theorem q561 : (Jvm.Cond.methodLink "Holdtag$InState$1" (48 : Nat) ({ cls := "Holdtag$InState$1", name := "hasNext", desc := "()Z" } : Jvm.MethodName)) ∈ lw_all := lw_g (lw_at lw_m3 28 rfl) rfl
theorem q562 : (Jvm.Cond.classLink "Holdtag$InState$1" (52 : Nat) "java/util/NoSuchElementException") ∈ lw_all := lw_g (lw_at lw_m3 29 rfl) rfl
theorem q571 : (Jvm.Cond.methodLink "Holdtag$InState$1" (54 : Nat) ({ cls := "java/util/NoSuchElementException", name := "<init>", desc := "()V" } : Jvm.MethodName)) ∈ lw_all := lw_g (lw_at lw_m3 38 rfl) rfl
theorem q927 : (Jvm.Cond.fieldLinkNest "Holdtag$InState$1" (44 : Nat) "Holdtag$Item" "state" "I" "Holdtag") ∈ lw_tbl := lw_at lw_m4 154 rfl
theorem q2254 : (Jvm.Cond.selects "Holdtag$InState$1" ({ cls := "Holdtag$InState$1", name := "hasNext", desc := "()Z" } : Jvm.MethodName) ({ cls := "Holdtag$InState$1", name := "hasNext", desc := "()Z" } : Jvm.MethodName)) ∈ lw_all := lw_g (lw_at lw_m10 41 rfl) rfl
theorem q2287 : (Jvm.Cond.castable "Holdtag$InState$1" "java/lang/Object") ∈ lw_tbl := lw_at lw_m10 74 rfl
theorem in_X8 : ∀ w ∈ wsX80, w ∈ lw_all := lw_in wsX80 [533, 535] (by decide +kernel) (by decide +kernel)

/-! Holdtag$Earlier -/
set_option maxRecDepth 100000
def RX9 : String := "Holdtag$Earlier"
abbrev cX9_compare : ByteArray := prog_2_method_3_code
def yX9_compare : MethodName := ⟨RX9, "compare", "(Ljava/lang/Object;Ljava/lang/Object;)I"⟩
def dkwX9_compare_0 : List UInt8 := [42, 43, 192, 0, 8, 44, 192, 0, 8, 182, 0, 16, 172]
abbrev dktX9_compare_0 : List UInt8 := dkwX9_compare_0 ++ []
theorem dksX9_compare_0 : cX9_compare.data.toList.drop 0 = dktX9_compare_0 := by decide +kernel
theorem dX9_compare_0 : decode cX9_compare 0 = .ok (.aload_n 0, 1) := dk_42 (dk_at dksX9_compare_0 0 rfl rfl)
theorem dX9_compare_1 : decode cX9_compare 1 = .ok (.aload_n 1, 1) := dk_43 (dk_at dksX9_compare_0 1 rfl rfl)
theorem dX9_compare_2 : decode cX9_compare 2 = .ok (.checkcast 8, 3) := dk_192 0 8 (dk_at dksX9_compare_0 2 rfl rfl)
theorem dX9_compare_5 : decode cX9_compare 5 = .ok (.aload_n 2, 1) := dk_44 (dk_at dksX9_compare_0 5 rfl rfl)
theorem dX9_compare_6 : decode cX9_compare 6 = .ok (.checkcast 8, 3) := dk_192 0 8 (dk_at dksX9_compare_0 6 rfl rfl)
theorem dX9_compare_9 : decode cX9_compare 9 = .ok (.invokevirtual 16, 3) := dk_182 0 16 (dk_at dksX9_compare_0 9 rfl rfl)
theorem dX9_compare_12 : decode cX9_compare 12 = .ok (.ireturn, 1) := dk_172 (dk_at dksX9_compare_0 12 rfl rfl)
abbrev cX9_compare_2 : ByteArray := prog_2_method_2_code
def yX9_compare_2 : MethodName := ⟨RX9, "compare", "(LHoldtag$Item;LHoldtag$Item;)I"⟩
def dkwX9_compare_2_1 : List UInt8 := [180, 0, 13, 44, 180, 0, 13, 100, 172]
abbrev dktX9_compare_2_1 : List UInt8 := dkwX9_compare_2_1 ++ []
def dkwX9_compare_2_0 : List UInt8 := [43, 180, 0, 7, 44, 180, 0, 7, 159, 0, 15, 43, 180, 0, 7, 44, 180, 0, 7, 100, 167, 0, 12, 43]
abbrev dktX9_compare_2_0 : List UInt8 := dkwX9_compare_2_0 ++ dktX9_compare_2_1
theorem dksX9_compare_2_0 : cX9_compare_2.data.toList.drop 0 = dktX9_compare_2_0 := by decide +kernel
theorem dksX9_compare_2_1 : cX9_compare_2.data.toList.drop 24 = dktX9_compare_2_1 := dk_seg dksX9_compare_2_0 24 rfl rfl
theorem dX9_compare_2_0 : decode cX9_compare_2 0 = .ok (.aload_n 1, 1) := dk_43 (dk_at dksX9_compare_2_0 0 rfl rfl)
theorem dX9_compare_2_1 : decode cX9_compare_2 1 = .ok (.getfield 7, 3) := dk_180 0 7 (dk_at dksX9_compare_2_0 1 rfl rfl)
theorem dX9_compare_2_4 : decode cX9_compare_2 4 = .ok (.aload_n 2, 1) := dk_44 (dk_at dksX9_compare_2_0 4 rfl rfl)
theorem dX9_compare_2_5 : decode cX9_compare_2 5 = .ok (.getfield 7, 3) := dk_180 0 7 (dk_at dksX9_compare_2_0 5 rfl rfl)
theorem dX9_compare_2_8 : decode cX9_compare_2 8 = .ok (.if_icmp .eq 15, 3) := dk_159 0 15 (dk_at dksX9_compare_2_0 8 rfl rfl)
theorem dX9_compare_2_11 : decode cX9_compare_2 11 = .ok (.aload_n 1, 1) := dk_43 (dk_at dksX9_compare_2_0 11 rfl rfl)
theorem dX9_compare_2_12 : decode cX9_compare_2 12 = .ok (.getfield 7, 3) := dk_180 0 7 (dk_at dksX9_compare_2_0 12 rfl rfl)
theorem dX9_compare_2_15 : decode cX9_compare_2 15 = .ok (.aload_n 2, 1) := dk_44 (dk_at dksX9_compare_2_0 15 rfl rfl)
theorem dX9_compare_2_16 : decode cX9_compare_2 16 = .ok (.getfield 7, 3) := dk_180 0 7 (dk_at dksX9_compare_2_0 16 rfl rfl)
theorem dX9_compare_2_19 : decode cX9_compare_2 19 = .ok (.isub, 1) := dk_100 (dk_at dksX9_compare_2_0 19 rfl rfl)
theorem dX9_compare_2_20 : decode cX9_compare_2 20 = .ok (.goto 12, 3) := dk_167 0 12 (dk_at dksX9_compare_2_0 20 rfl rfl)
theorem dX9_compare_2_23 : decode cX9_compare_2 23 = .ok (.aload_n 1, 1) := dk_43 (dk_at dksX9_compare_2_0 23 rfl rfl)
theorem dX9_compare_2_24 : decode cX9_compare_2 24 = .ok (.getfield 13, 3) := dk_180 0 13 (dk_at dksX9_compare_2_1 0 rfl rfl)
theorem dX9_compare_2_27 : decode cX9_compare_2 27 = .ok (.aload_n 2, 1) := dk_44 (dk_at dksX9_compare_2_1 3 rfl rfl)
theorem dX9_compare_2_28 : decode cX9_compare_2 28 = .ok (.getfield 13, 3) := dk_180 0 13 (dk_at dksX9_compare_2_1 4 rfl rfl)
theorem dX9_compare_2_31 : decode cX9_compare_2 31 = .ok (.isub, 1) := dk_100 (dk_at dksX9_compare_2_1 7 rfl rfl)
theorem dX9_compare_2_32 : decode cX9_compare_2 32 = .ok (.ireturn, 1) := dk_172 (dk_at dksX9_compare_2_1 8 rfl rfl)
abbrev cX9_init : ByteArray := prog_2_method_1_code
def yX9_init : MethodName := ⟨RX9, "<init>", "()V"⟩
theorem dX9_init_0 : decode cX9_init 0 = .ok (.aload_n 0, 1) := by decide +kernel
theorem dX9_init_1 : decode cX9_init 1 = .ok (.invokespecial 1, 3) := by decide +kernel
theorem dX9_init_4 : decode cX9_init 4 = .ok (.return_, 1) := by decide +kernel
theorem q95 : (Jvm.Cond.initialized "Holdtag$Earlier") ∈ lw_all := lw_g (lw_at lw_m1 42 rfl) rfl
theorem q269 : (Jvm.Cond.selects "Holdtag$Earlier" ({ cls := "java/lang/Object", name := "getClass", desc := "()Ljava/lang/Class;" } : Jvm.MethodName) ({ cls := "java/lang/Object", name := "getClass", desc := "()Ljava/lang/Class;" } : Jvm.MethodName)) ∈ lw_all := lw_g (lw_at lw_m1 216 rfl) rfl
theorem q664 : (Jvm.Cond.castable "Holdtag$Earlier" "java/util/Comparator") ∈ lw_tbl := lw_at lw_m3 131 rfl
theorem q665 : (Jvm.Cond.selects "Holdtag$Earlier" ({ cls := "java/util/Comparator", name := "compare", desc := "(Ljava/lang/Object;Ljava/lang/Object;)I" } : Jvm.MethodName) ({ cls := "Holdtag$Earlier", name := "compare", desc := "(Ljava/lang/Object;Ljava/lang/Object;)I" } : Jvm.MethodName)) ∈ lw_all := lw_g (lw_at lw_m3 132 rfl) rfl
theorem q666 : (Jvm.Cond.unhidden "Holdtag$Earlier" "compare" "(Ljava/lang/Object;Ljava/lang/Object;)I") ∈ lw_tbl := lw_at lw_m3 133 rfl
theorem q667 : (Jvm.Cond.instanceMethod ({ cls := "Holdtag$Earlier", name := "compare", desc := "(Ljava/lang/Object;Ljava/lang/Object;)I" } : Jvm.MethodName)) ∈ lw_all := lw_g (lw_at lw_m3 134 rfl) rfl
theorem q668 : (Jvm.Cond.publicMethod ({ cls := "Holdtag$Earlier", name := "compare", desc := "(Ljava/lang/Object;Ljava/lang/Object;)I" } : Jvm.MethodName)) ∈ lw_tbl := lw_at lw_m3 135 rfl
theorem q669 : (Jvm.Cond.code ({ cls := "Holdtag$Earlier", name := "compare", desc := "(Ljava/lang/Object;Ljava/lang/Object;)I" } : Jvm.MethodName) prog_2_method_3_code (3 : Nat) (Option.some Jvm.ClassFile.FieldType.int)) ∈ lw_all := lw_g (lw_at lw_m3 136 rfl) rfl
theorem q670 : (Jvm.Cond.classLink "Holdtag$Earlier" (8 : Nat) "Holdtag$Item") ∈ lw_all := lw_g (lw_at lw_m3 137 rfl) rfl
theorem q671 : (Jvm.Cond.methodLink "Holdtag$Earlier" (16 : Nat) ({ cls := "Holdtag$Earlier", name := "compare", desc := "(LHoldtag$Item;LHoldtag$Item;)I" } : Jvm.MethodName)) ∈ lw_all := lw_g (lw_at lw_m3 138 rfl) rfl
theorem q672 : (Jvm.Cond.instanceMethod ({ cls := "Holdtag$Earlier", name := "compare", desc := "(LHoldtag$Item;LHoldtag$Item;)I" } : Jvm.MethodName)) ∈ lw_all := lw_g (lw_at lw_m3 139 rfl) rfl
theorem q673 : (Jvm.Cond.selects "Holdtag$Earlier" ({ cls := "Holdtag$Earlier", name := "compare", desc := "(LHoldtag$Item;LHoldtag$Item;)I" } : Jvm.MethodName) ({ cls := "Holdtag$Earlier", name := "compare", desc := "(LHoldtag$Item;LHoldtag$Item;)I" } : Jvm.MethodName)) ∈ lw_all := lw_g (lw_at lw_m3 140 rfl) rfl
theorem q674 : (Jvm.Cond.code ({ cls := "Holdtag$Earlier", name := "compare", desc := "(LHoldtag$Item;LHoldtag$Item;)I" } : Jvm.MethodName) prog_2_method_2_code (3 : Nat) (Option.some Jvm.ClassFile.FieldType.int)) ∈ lw_all := lw_g (lw_at lw_m3 141 rfl) rfl
theorem q907 : (Jvm.Cond.fieldLinkNest "Holdtag$Earlier" (13 : Nat) "Holdtag$Item" "number" "I" "Holdtag") ∈ lw_tbl := lw_at lw_m4 134 rfl
theorem q930 : (Jvm.Cond.fieldLinkNest "Holdtag$Earlier" (7 : Nat) "Holdtag$Item" "day" "I" "Holdtag") ∈ lw_tbl := lw_at lw_m4 157 rfl
theorem q1540 : (Jvm.Cond.instantiable "Holdtag$Earlier" (0 : Nat)) ∈ lw_all := lw_g (lw_at lw_m7 47 rfl) rfl
theorem q1542 : (Jvm.Cond.instanceMethod ({ cls := "Holdtag$Earlier", name := "<init>", desc := "()V" } : Jvm.MethodName)) ∈ lw_all := lw_g (lw_at lw_m7 49 rfl) rfl
theorem q1543 : (Jvm.Cond.code ({ cls := "Holdtag$Earlier", name := "<init>", desc := "()V" } : Jvm.MethodName) prog_2_method_1_code (1 : Nat) (Option.none : Option Jvm.ClassFile.FieldType)) ∈ lw_all := lw_g (lw_at lw_m7 50 rfl) rfl
theorem q1544 : (Jvm.Cond.methodLink "Holdtag$Earlier" (1 : Nat) ({ cls := "java/lang/Object", name := "<init>", desc := "()V" } : Jvm.MethodName)) ∈ lw_all := lw_g (lw_at lw_m7 51 rfl) rfl
theorem q1545 : (Jvm.Cond.superclass "Holdtag$Earlier" "java/lang/Object") ∈ lw_all := lw_g (lw_at lw_m7 52 rfl) rfl
theorem q2290 : (Jvm.Cond.castable "Holdtag$Earlier" "java/lang/Object") ∈ lw_tbl := lw_at lw_m10 77 rfl

/-! Holdtag$Hold -/
set_option maxRecDepth 100000
def RX10 : String := "Holdtag$Hold"
def TX10 : u_T := fun k => match k with
  | 0 => ("Holdtag$Hold", "number", "I", true)
  | 1 => ("Holdtag$Hold", "sender", "I", true)
  | 2 => ("Holdtag$Hold", "word", "I", true)
  | 3 => ("Holdtag$Hold", "first", "I", true)
  | 4 => ("Holdtag$Hold", "last", "I", true)
  | _ => ("Holdtag$Hold", "released", "Z", false)
def tyX10 : Nat → FieldType := fun k => match k with
  | 0 => .int
  | 1 => .int
  | 2 => .int
  | 3 => .int
  | 4 => .int
  | _ => .boolean
abbrev wsX100 : List Cond := u_ws RX10 TX10 6
theorem nmX10 : ∀ a, a < 6 → ∀ b, b < 6 → a ≠ b → (TX10 a).2.1 ≠ (TX10 b).2.1 := by decide +kernel
theorem tyX10_ok : ∀ k, k < 6 → parseFieldDescriptor (TX10 k).2.2.1 = some (tyX10 k) := by decide +kernel
abbrev cX10_holds : ByteArray := prog_4_method_3_code
def yX10_holds : MethodName := ⟨RX10, "holds", "(LHoldtag$Item;)Z"⟩
def dkwX10_holds_3 : List UInt8 := [163, 0, 18, 43, 180, 0, 38, 42, 180, 0, 24, 163, 0, 7, 4, 167, 0, 4, 3, 172]
abbrev dktX10_holds_3 : List UInt8 := dkwX10_holds_3 ++ []
def dkwX10_holds_2 : List UInt8 := [154, 0, 41, 28, 153, 0, 37, 43, 180, 0, 35, 6, 159, 0, 29, 42, 180, 0, 21, 43, 180, 0, 38]
abbrev dktX10_holds_2 : List UInt8 := dkwX10_holds_2 ++ dktX10_holds_3
def dkwX10_holds_1 : List UInt8 := [159, 0, 14, 42, 180, 0, 18, 43, 180, 0, 30, 160, 0, 7, 4, 167, 0, 4, 3, 61, 42, 180, 0, 31]
abbrev dktX10_holds_1 : List UInt8 := dkwX10_holds_1 ++ dktX10_holds_2
def dkwX10_holds_0 : List UInt8 := [42, 180, 0, 15, 2, 159, 0, 14, 42, 180, 0, 15, 43, 180, 0, 27, 160, 0, 26, 42, 180, 0, 18, 2]
abbrev dktX10_holds_0 : List UInt8 := dkwX10_holds_0 ++ dktX10_holds_1
theorem dksX10_holds_0 : cX10_holds.data.toList.drop 0 = dktX10_holds_0 := by decide +kernel
theorem dksX10_holds_1 : cX10_holds.data.toList.drop 24 = dktX10_holds_1 := dk_seg dksX10_holds_0 24 rfl rfl
theorem dksX10_holds_2 : cX10_holds.data.toList.drop 48 = dktX10_holds_2 := dk_seg dksX10_holds_1 24 rfl rfl
theorem dksX10_holds_3 : cX10_holds.data.toList.drop 71 = dktX10_holds_3 := dk_seg dksX10_holds_2 23 rfl rfl
theorem dX10_holds_0 : decode cX10_holds 0 = .ok (.aload_n 0, 1) := dk_42 (dk_at dksX10_holds_0 0 rfl rfl)
theorem dX10_holds_1 : decode cX10_holds 1 = .ok (.getfield 15, 3) := dk_180 0 15 (dk_at dksX10_holds_0 1 rfl rfl)
theorem dX10_holds_4 : decode cX10_holds 4 = .ok (.iconst (-1), 1) := dk_2 (dk_at dksX10_holds_0 4 rfl rfl)
theorem dX10_holds_5 : decode cX10_holds 5 = .ok (.if_icmp .eq 14, 3) := dk_159 0 14 (dk_at dksX10_holds_0 5 rfl rfl)
theorem dX10_holds_8 : decode cX10_holds 8 = .ok (.aload_n 0, 1) := dk_42 (dk_at dksX10_holds_0 8 rfl rfl)
theorem dX10_holds_9 : decode cX10_holds 9 = .ok (.getfield 15, 3) := dk_180 0 15 (dk_at dksX10_holds_0 9 rfl rfl)
theorem dX10_holds_12 : decode cX10_holds 12 = .ok (.aload_n 1, 1) := dk_43 (dk_at dksX10_holds_0 12 rfl rfl)
theorem dX10_holds_13 : decode cX10_holds 13 = .ok (.getfield 27, 3) := dk_180 0 27 (dk_at dksX10_holds_0 13 rfl rfl)
theorem dX10_holds_16 : decode cX10_holds 16 = .ok (.if_icmp .ne 26, 3) := dk_160 0 26 (dk_at dksX10_holds_0 16 rfl rfl)
theorem dX10_holds_19 : decode cX10_holds 19 = .ok (.aload_n 0, 1) := dk_42 (dk_at dksX10_holds_0 19 rfl rfl)
theorem dX10_holds_20 : decode cX10_holds 20 = .ok (.getfield 18, 3) := dk_180 0 18 (dk_at dksX10_holds_0 20 rfl rfl)
theorem dX10_holds_23 : decode cX10_holds 23 = .ok (.iconst (-1), 1) := dk_2 (dk_at dksX10_holds_0 23 rfl rfl)
theorem dX10_holds_24 : decode cX10_holds 24 = .ok (.if_icmp .eq 14, 3) := dk_159 0 14 (dk_at dksX10_holds_1 0 rfl rfl)
theorem dX10_holds_27 : decode cX10_holds 27 = .ok (.aload_n 0, 1) := dk_42 (dk_at dksX10_holds_1 3 rfl rfl)
theorem dX10_holds_28 : decode cX10_holds 28 = .ok (.getfield 18, 3) := dk_180 0 18 (dk_at dksX10_holds_1 4 rfl rfl)
theorem dX10_holds_31 : decode cX10_holds 31 = .ok (.aload_n 1, 1) := dk_43 (dk_at dksX10_holds_1 7 rfl rfl)
theorem dX10_holds_32 : decode cX10_holds 32 = .ok (.getfield 30, 3) := dk_180 0 30 (dk_at dksX10_holds_1 8 rfl rfl)
theorem dX10_holds_35 : decode cX10_holds 35 = .ok (.if_icmp .ne 7, 3) := dk_160 0 7 (dk_at dksX10_holds_1 11 rfl rfl)
theorem dX10_holds_38 : decode cX10_holds 38 = .ok (.iconst 1, 1) := dk_4 (dk_at dksX10_holds_1 14 rfl rfl)
theorem dX10_holds_39 : decode cX10_holds 39 = .ok (.goto 4, 3) := dk_167 0 4 (dk_at dksX10_holds_1 15 rfl rfl)
theorem dX10_holds_42 : decode cX10_holds 42 = .ok (.iconst 0, 1) := dk_3 (dk_at dksX10_holds_1 18 rfl rfl)
theorem dX10_holds_43 : decode cX10_holds 43 = .ok (.istore_n 2, 1) := dk_61 (dk_at dksX10_holds_1 19 rfl rfl)
theorem dX10_holds_44 : decode cX10_holds 44 = .ok (.aload_n 0, 1) := dk_42 (dk_at dksX10_holds_1 20 rfl rfl)
theorem dX10_holds_45 : decode cX10_holds 45 = .ok (.getfield 31, 3) := dk_180 0 31 (dk_at dksX10_holds_1 21 rfl rfl)
theorem dX10_holds_48 : decode cX10_holds 48 = .ok (.ifCond .ne 41, 3) := dk_154 0 41 (dk_at dksX10_holds_2 0 rfl rfl)
theorem dX10_holds_51 : decode cX10_holds 51 = .ok (.iload_n 2, 1) := dk_28 (dk_at dksX10_holds_2 3 rfl rfl)
theorem dX10_holds_52 : decode cX10_holds 52 = .ok (.ifCond .eq 37, 3) := dk_153 0 37 (dk_at dksX10_holds_2 4 rfl rfl)
theorem dX10_holds_55 : decode cX10_holds 55 = .ok (.aload_n 1, 1) := dk_43 (dk_at dksX10_holds_2 7 rfl rfl)
theorem dX10_holds_56 : decode cX10_holds 56 = .ok (.getfield 35, 3) := dk_180 0 35 (dk_at dksX10_holds_2 8 rfl rfl)
theorem dX10_holds_59 : decode cX10_holds 59 = .ok (.iconst 3, 1) := dk_6 (dk_at dksX10_holds_2 11 rfl rfl)
theorem dX10_holds_60 : decode cX10_holds 60 = .ok (.if_icmp .eq 29, 3) := dk_159 0 29 (dk_at dksX10_holds_2 12 rfl rfl)
theorem dX10_holds_63 : decode cX10_holds 63 = .ok (.aload_n 0, 1) := dk_42 (dk_at dksX10_holds_2 15 rfl rfl)
theorem dX10_holds_64 : decode cX10_holds 64 = .ok (.getfield 21, 3) := dk_180 0 21 (dk_at dksX10_holds_2 16 rfl rfl)
theorem dX10_holds_67 : decode cX10_holds 67 = .ok (.aload_n 1, 1) := dk_43 (dk_at dksX10_holds_2 19 rfl rfl)
theorem dX10_holds_68 : decode cX10_holds 68 = .ok (.getfield 38, 3) := dk_180 0 38 (dk_at dksX10_holds_2 20 rfl rfl)
theorem dX10_holds_71 : decode cX10_holds 71 = .ok (.if_icmp .gt 18, 3) := dk_163 0 18 (dk_at dksX10_holds_3 0 rfl rfl)
theorem dX10_holds_74 : decode cX10_holds 74 = .ok (.aload_n 1, 1) := dk_43 (dk_at dksX10_holds_3 3 rfl rfl)
theorem dX10_holds_75 : decode cX10_holds 75 = .ok (.getfield 38, 3) := dk_180 0 38 (dk_at dksX10_holds_3 4 rfl rfl)
theorem dX10_holds_78 : decode cX10_holds 78 = .ok (.aload_n 0, 1) := dk_42 (dk_at dksX10_holds_3 7 rfl rfl)
theorem dX10_holds_79 : decode cX10_holds 79 = .ok (.getfield 24, 3) := dk_180 0 24 (dk_at dksX10_holds_3 8 rfl rfl)
theorem dX10_holds_82 : decode cX10_holds 82 = .ok (.if_icmp .gt 7, 3) := dk_163 0 7 (dk_at dksX10_holds_3 11 rfl rfl)
theorem dX10_holds_85 : decode cX10_holds 85 = .ok (.iconst 1, 1) := dk_4 (dk_at dksX10_holds_3 14 rfl rfl)
theorem dX10_holds_86 : decode cX10_holds 86 = .ok (.goto 4, 3) := dk_167 0 4 (dk_at dksX10_holds_3 15 rfl rfl)
theorem dX10_holds_89 : decode cX10_holds 89 = .ok (.iconst 0, 1) := dk_3 (dk_at dksX10_holds_3 18 rfl rfl)
theorem dX10_holds_90 : decode cX10_holds 90 = .ok (.ireturn, 1) := dk_172 (dk_at dksX10_holds_3 19 rfl rfl)
abbrev cX10_number : ByteArray := prog_4_method_2_code
def yX10_number : MethodName := ⟨RX10, "number", "()I"⟩
theorem dX10_number_0 : decode cX10_number 0 = .ok (.aload_n 0, 1) := by decide +kernel
theorem dX10_number_1 : decode cX10_number 1 = .ok (.getfield 9, 3) := by decide +kernel
theorem dX10_number_4 : decode cX10_number 4 = .ok (.ireturn, 1) := by decide +kernel
abbrev cX10_init : ByteArray := prog_4_method_1_code
def yX10_init : MethodName := ⟨RX10, "<init>", "(IIIII)V"⟩
def dkwX10_init_1 : List UInt8 := [181, 0, 21, 42, 21, 5, 181, 0, 24, 177]
abbrev dktX10_init_1 : List UInt8 := dkwX10_init_1 ++ []
def dkwX10_init_0 : List UInt8 := [42, 183, 0, 3, 42, 27, 181, 0, 9, 42, 28, 181, 0, 15, 42, 29, 181, 0, 18, 42, 21, 4]
abbrev dktX10_init_0 : List UInt8 := dkwX10_init_0 ++ dktX10_init_1
theorem dksX10_init_0 : cX10_init.data.toList.drop 0 = dktX10_init_0 := by decide +kernel
theorem dksX10_init_1 : cX10_init.data.toList.drop 22 = dktX10_init_1 := dk_seg dksX10_init_0 22 rfl rfl
theorem dX10_init_0 : decode cX10_init 0 = .ok (.aload_n 0, 1) := dk_42 (dk_at dksX10_init_0 0 rfl rfl)
theorem dX10_init_1 : decode cX10_init 1 = .ok (.invokespecial 3, 3) := dk_183 0 3 (dk_at dksX10_init_0 1 rfl rfl)
theorem dX10_init_4 : decode cX10_init 4 = .ok (.aload_n 0, 1) := dk_42 (dk_at dksX10_init_0 4 rfl rfl)
theorem dX10_init_5 : decode cX10_init 5 = .ok (.iload_n 1, 1) := dk_27 (dk_at dksX10_init_0 5 rfl rfl)
theorem dX10_init_6 : decode cX10_init 6 = .ok (.putfield 9, 3) := dk_181 0 9 (dk_at dksX10_init_0 6 rfl rfl)
theorem dX10_init_9 : decode cX10_init 9 = .ok (.aload_n 0, 1) := dk_42 (dk_at dksX10_init_0 9 rfl rfl)
theorem dX10_init_10 : decode cX10_init 10 = .ok (.iload_n 2, 1) := dk_28 (dk_at dksX10_init_0 10 rfl rfl)
theorem dX10_init_11 : decode cX10_init 11 = .ok (.putfield 15, 3) := dk_181 0 15 (dk_at dksX10_init_0 11 rfl rfl)
theorem dX10_init_14 : decode cX10_init 14 = .ok (.aload_n 0, 1) := dk_42 (dk_at dksX10_init_0 14 rfl rfl)
theorem dX10_init_15 : decode cX10_init 15 = .ok (.iload_n 3, 1) := dk_29 (dk_at dksX10_init_0 15 rfl rfl)
theorem dX10_init_16 : decode cX10_init 16 = .ok (.putfield 18, 3) := dk_181 0 18 (dk_at dksX10_init_0 16 rfl rfl)
theorem dX10_init_19 : decode cX10_init 19 = .ok (.aload_n 0, 1) := dk_42 (dk_at dksX10_init_0 19 rfl rfl)
theorem dX10_init_20 : decode cX10_init 20 = .ok (.iload 4, 2) := dk_21 4 (dk_at dksX10_init_0 20 rfl rfl)
theorem dX10_init_22 : decode cX10_init 22 = .ok (.putfield 21, 3) := dk_181 0 21 (dk_at dksX10_init_1 0 rfl rfl)
theorem dX10_init_25 : decode cX10_init 25 = .ok (.aload_n 0, 1) := dk_42 (dk_at dksX10_init_1 3 rfl rfl)
theorem dX10_init_26 : decode cX10_init 26 = .ok (.iload 5, 2) := dk_21 5 (dk_at dksX10_init_1 4 rfl rfl)
theorem dX10_init_28 : decode cX10_init 28 = .ok (.putfield 24, 3) := dk_181 0 24 (dk_at dksX10_init_1 6 rfl rfl)
theorem dX10_init_31 : decode cX10_init 31 = .ok (.return_, 1) := dk_177 (dk_at dksX10_init_1 9 rfl rfl)
theorem q96 : (Jvm.Cond.initialized "Holdtag$Hold") ∈ lw_all := lw_g (lw_at lw_m1 43 rfl) rfl
theorem q271 : (Jvm.Cond.selects "Holdtag$Hold" ({ cls := "java/lang/Object", name := "getClass", desc := "()Ljava/lang/Class;" } : Jvm.MethodName) ({ cls := "java/lang/Object", name := "getClass", desc := "()Ljava/lang/Class;" } : Jvm.MethodName)) ∈ lw_all := lw_g (lw_at lw_m1 218 rfl) rfl
theorem q593 : (Jvm.Cond.instanceMethod ({ cls := "Holdtag$Hold", name := "holds", desc := "(LHoldtag$Item;)Z" } : Jvm.MethodName)) ∈ lw_all := lw_g (lw_at lw_m3 60 rfl) rfl
theorem q594 : (Jvm.Cond.selects "Holdtag$Hold" ({ cls := "Holdtag$Hold", name := "holds", desc := "(LHoldtag$Item;)Z" } : Jvm.MethodName) ({ cls := "Holdtag$Hold", name := "holds", desc := "(LHoldtag$Item;)Z" } : Jvm.MethodName)) ∈ lw_all := lw_g (lw_at lw_m3 61 rfl) rfl
theorem q595 : (Jvm.Cond.code ({ cls := "Holdtag$Hold", name := "holds", desc := "(LHoldtag$Item;)Z" } : Jvm.MethodName) prog_4_method_3_code (3 : Nat) (Option.some Jvm.ClassFile.FieldType.boolean)) ∈ lw_all := lw_g (lw_at lw_m3 62 rfl) rfl
theorem q910 : (Jvm.Cond.fieldLinkNest "Holdtag$Hold" (27 : Nat) "Holdtag$Item" "sender" "I" "Holdtag") ∈ lw_tbl := lw_at lw_m4 137 rfl
theorem q915 : (Jvm.Cond.fieldLinkNest "Holdtag$Hold" (38 : Nat) "Holdtag$Item" "arrival" "I" "Holdtag") ∈ lw_tbl := lw_at lw_m4 142 rfl
theorem q920 : (Jvm.Cond.fieldLinkNest "Holdtag$Hold" (30 : Nat) "Holdtag$Item" "word" "I" "Holdtag") ∈ lw_tbl := lw_at lw_m4 147 rfl
theorem q928 : (Jvm.Cond.fieldLinkNest "Holdtag$Hold" (35 : Nat) "Holdtag$Item" "state" "I" "Holdtag") ∈ lw_tbl := lw_at lw_m4 155 rfl
theorem q1289 : (Jvm.Cond.castable "Holdtag$Hold" "Holdtag$Numbered") ∈ lw_tbl := lw_at lw_m6 36 rfl
theorem q1290 : (Jvm.Cond.selects "Holdtag$Hold" ({ cls := "Holdtag$Numbered", name := "number", desc := "()I" } : Jvm.MethodName) ({ cls := "Holdtag$Hold", name := "number", desc := "()I" } : Jvm.MethodName)) ∈ lw_all := lw_g (lw_at lw_m6 37 rfl) rfl
theorem q1291 : (Jvm.Cond.unhidden "Holdtag$Hold" "number" "()I") ∈ lw_tbl := lw_at lw_m6 38 rfl
theorem q1292 : (Jvm.Cond.instanceMethod ({ cls := "Holdtag$Hold", name := "number", desc := "()I" } : Jvm.MethodName)) ∈ lw_all := lw_g (lw_at lw_m6 39 rfl) rfl
theorem q1293 : (Jvm.Cond.publicMethod ({ cls := "Holdtag$Hold", name := "number", desc := "()I" } : Jvm.MethodName)) ∈ lw_tbl := lw_at lw_m6 40 rfl
theorem q1294 : (Jvm.Cond.code ({ cls := "Holdtag$Hold", name := "number", desc := "()I" } : Jvm.MethodName) prog_4_method_2_code (1 : Nat) (Option.some Jvm.ClassFile.FieldType.int)) ∈ lw_all := lw_g (lw_at lw_m6 41 rfl) rfl
theorem q1688 : (Jvm.Cond.instantiable "Holdtag$Hold" (6 : Nat)) ∈ lw_all := lw_g (lw_at lw_m7 195 rfl) rfl
theorem q1690 : (Jvm.Cond.instanceMethod ({ cls := "Holdtag$Hold", name := "<init>", desc := "(IIIII)V" } : Jvm.MethodName)) ∈ lw_all := lw_g (lw_at lw_m7 197 rfl) rfl
theorem q1691 : (Jvm.Cond.code ({ cls := "Holdtag$Hold", name := "<init>", desc := "(IIIII)V" } : Jvm.MethodName) prog_4_method_1_code (6 : Nat) (Option.none : Option Jvm.ClassFile.FieldType)) ∈ lw_all := lw_g (lw_at lw_m7 198 rfl) rfl
theorem q1692 : (Jvm.Cond.methodLink "Holdtag$Hold" (3 : Nat) ({ cls := "java/lang/Object", name := "<init>", desc := "()V" } : Jvm.MethodName)) ∈ lw_all := lw_g (lw_at lw_m7 199 rfl) rfl
theorem q1693 : (Jvm.Cond.fieldLink "Holdtag$Hold" (9 : Nat) "Holdtag$Hold" "number" "I") ∈ lw_all := lw_g (lw_at lw_m7 200 rfl) rfl
theorem q1694 : (Jvm.Cond.fieldLink "Holdtag$Hold" (15 : Nat) "Holdtag$Hold" "sender" "I") ∈ lw_all := lw_g (lw_at lw_m7 201 rfl) rfl
theorem q1695 : (Jvm.Cond.fieldLink "Holdtag$Hold" (18 : Nat) "Holdtag$Hold" "word" "I") ∈ lw_all := lw_g (lw_at lw_m7 202 rfl) rfl
theorem q1696 : (Jvm.Cond.fieldLink "Holdtag$Hold" (21 : Nat) "Holdtag$Hold" "first" "I") ∈ lw_all := lw_g (lw_at lw_m7 203 rfl) rfl
theorem q1697 : (Jvm.Cond.fieldLink "Holdtag$Hold" (24 : Nat) "Holdtag$Hold" "last" "I") ∈ lw_all := lw_g (lw_at lw_m7 204 rfl) rfl
theorem q1698 : (Jvm.Cond.fieldLink "Holdtag$Hold" (31 : Nat) "Holdtag$Hold" "released" "Z") ∈ lw_all := lw_g (lw_at lw_m7 205 rfl) rfl
theorem q1700 : (Jvm.Cond.laysFinal "Holdtag$Hold" "Holdtag$Hold" "number" "I") ∈ lw_all := lw_g (lw_at lw_m7 207 rfl) rfl
theorem q1701 : (Jvm.Cond.soleField "Holdtag$Hold" "number") ∈ lw_all := lw_g (lw_at lw_m7 208 rfl) rfl
theorem q1702 : (Jvm.Cond.laysFinal "Holdtag$Hold" "Holdtag$Hold" "sender" "I") ∈ lw_all := lw_g (lw_at lw_m7 209 rfl) rfl
theorem q1703 : (Jvm.Cond.soleField "Holdtag$Hold" "sender") ∈ lw_all := lw_g (lw_at lw_m7 210 rfl) rfl
theorem q1704 : (Jvm.Cond.laysFinal "Holdtag$Hold" "Holdtag$Hold" "word" "I") ∈ lw_all := lw_g (lw_at lw_m7 211 rfl) rfl
theorem q1705 : (Jvm.Cond.soleField "Holdtag$Hold" "word") ∈ lw_all := lw_g (lw_at lw_m7 212 rfl) rfl
theorem q1706 : (Jvm.Cond.laysFinal "Holdtag$Hold" "Holdtag$Hold" "first" "I") ∈ lw_all := lw_g (lw_at lw_m7 213 rfl) rfl
theorem q1707 : (Jvm.Cond.soleField "Holdtag$Hold" "first") ∈ lw_all := lw_g (lw_at lw_m7 214 rfl) rfl
theorem q1708 : (Jvm.Cond.laysFinal "Holdtag$Hold" "Holdtag$Hold" "last" "I") ∈ lw_all := lw_g (lw_at lw_m7 215 rfl) rfl
theorem q1709 : (Jvm.Cond.soleField "Holdtag$Hold" "last") ∈ lw_all := lw_g (lw_at lw_m7 216 rfl) rfl
theorem q1710 : (Jvm.Cond.lays "Holdtag$Hold" "Holdtag$Hold" "released" "Z") ∈ lw_all := lw_g (lw_at lw_m7 217 rfl) rfl
theorem q1711 : (Jvm.Cond.soleField "Holdtag$Hold" "released") ∈ lw_all := lw_g (lw_at lw_m7 218 rfl) rfl
theorem q1712 : (Jvm.Cond.superclass "Holdtag$Hold" "java/lang/Object") ∈ lw_all := lw_g (lw_at lw_m7 219 rfl) rfl
theorem q1751 : (Jvm.Cond.unhidden "Holdtag$Hold" "bit" "()I") ∈ lw_tbl := lw_at lw_m8 18 rfl
theorem q2293 : (Jvm.Cond.castable "Holdtag$Hold" "java/lang/Object") ∈ lw_tbl := lw_at lw_m10 80 rfl
theorem in_X10 : ∀ w ∈ wsX100, w ∈ lw_all := lw_in wsX100 [1700, 1702, 1704, 1706, 1708, 1710] (by decide +kernel) (by decide +kernel)

/-! Holdtag$Numbered -/
set_option maxRecDepth 100000
def RX11 : String := "Holdtag$Numbered"
abbrev cX11_bit : ByteArray := prog_8_method_2_code
def yX11_bit : MethodName := ⟨RX11, "bit", "()I"⟩
def dkwX11_bit_0 : List UInt8 := [4, 42, 185, 0, 3, 1, 0, 120, 172]
abbrev dktX11_bit_0 : List UInt8 := dkwX11_bit_0 ++ []
theorem dksX11_bit_0 : cX11_bit.data.toList.drop 0 = dktX11_bit_0 := by decide +kernel
theorem dX11_bit_0 : decode cX11_bit 0 = .ok (.iconst 1, 1) := dk_4 (dk_at dksX11_bit_0 0 rfl rfl)
theorem dX11_bit_1 : decode cX11_bit 1 = .ok (.aload_n 0, 1) := dk_42 (dk_at dksX11_bit_0 1 rfl rfl)
theorem dX11_bit_2 : decode cX11_bit 2 = .ok (.invokeinterface 3 1, 5) := by decide +kernel
theorem dX11_bit_7 : decode cX11_bit 7 = .ok (.ishl, 1) := dk_120 (dk_at dksX11_bit_0 7 rfl rfl)
theorem dX11_bit_8 : decode cX11_bit 8 = .ok (.ireturn, 1) := dk_172 (dk_at dksX11_bit_0 8 rfl rfl)
abbrev cX11_word : ByteArray := prog_8_method_3_code
def yX11_word : MethodName := ⟨RX11, "word", "(I)Ljava/lang/String;"⟩
def dkwX11_word_2 : List UInt8 := [18, 9, 167, 0, 15, 18, 11, 167, 0, 10, 18, 13, 167, 0, 5, 18, 15, 176]
abbrev dktX11_word_2 : List UInt8 := dkwX11_word_2 ++ []
def dkwX11_word_1 : List UInt8 := [170, 0, 0, 0, 0, 0, 42, 0, 0, 0, 0, 0, 0, 0, 2, 0, 0, 0, 27, 0, 0, 0, 32, 0, 0, 0, 37]
abbrev dktX11_word_1 : List UInt8 := dkwX11_word_1 ++ dktX11_word_2
def dkwX11_word_0 : List UInt8 := [26]
abbrev dktX11_word_0 : List UInt8 := dkwX11_word_0 ++ dktX11_word_1
theorem dksX11_word_0 : cX11_word.data.toList.drop 0 = dktX11_word_0 := by decide +kernel
theorem dksX11_word_1 : cX11_word.data.toList.drop 1 = dktX11_word_1 := dk_seg dksX11_word_0 1 rfl rfl
theorem dksX11_word_2 : cX11_word.data.toList.drop 28 = dktX11_word_2 := dk_seg dksX11_word_1 27 rfl rfl
theorem dX11_word_0 : decode cX11_word 0 = .ok (.iload_n 0, 1) := dk_26 (dk_at dksX11_word_0 0 rfl rfl)
theorem dX11_word_1 : decode cX11_word 1 = .ok (.tableswitch 42 0 2 #[27, 32, 37], 27) := by decide +kernel
theorem dX11_word_28 : decode cX11_word 28 = .ok (.ldc 9, 2) := dk_18 9 (dk_at dksX11_word_2 0 rfl rfl)
theorem dX11_word_30 : decode cX11_word 30 = .ok (.goto 15, 3) := dk_167 0 15 (dk_at dksX11_word_2 2 rfl rfl)
theorem dX11_word_33 : decode cX11_word 33 = .ok (.ldc 11, 2) := dk_18 11 (dk_at dksX11_word_2 5 rfl rfl)
theorem dX11_word_35 : decode cX11_word 35 = .ok (.goto 10, 3) := dk_167 0 10 (dk_at dksX11_word_2 7 rfl rfl)
theorem dX11_word_38 : decode cX11_word 38 = .ok (.ldc 13, 2) := dk_18 13 (dk_at dksX11_word_2 10 rfl rfl)
theorem dX11_word_40 : decode cX11_word 40 = .ok (.goto 5, 3) := dk_167 0 5 (dk_at dksX11_word_2 12 rfl rfl)
theorem dX11_word_43 : decode cX11_word 43 = .ok (.ldc 15, 2) := dk_18 15 (dk_at dksX11_word_2 15 rfl rfl)
theorem dX11_word_45 : decode cX11_word 45 = .ok (.areturn, 1) := dk_176 (dk_at dksX11_word_2 17 rfl rfl)
theorem q98 : (Jvm.Cond.initialized "Holdtag$Numbered") ∈ lw_all := lw_g (lw_at lw_m1 45 rfl) rfl
theorem q1281 : (Jvm.Cond.interfaceMethod "Holdtag$Numbered" "Holdtag$Numbered" "number" "()I") ∈ lw_tbl := lw_at lw_m6 28 rfl
theorem q1282 : (Jvm.Cond.declares ({ cls := "Holdtag$Numbered", name := "number", desc := "()I" } : Jvm.MethodName)) ∈ lw_tbl := lw_at lw_m6 29 rfl
theorem q1743 : (Jvm.Cond.interfaceMethod "Holdtag$Numbered" "Holdtag$Numbered" "bit" "()I") ∈ lw_tbl := lw_at lw_m8 10 rfl
theorem q1744 : (Jvm.Cond.declares ({ cls := "Holdtag$Numbered", name := "bit", desc := "()I" } : Jvm.MethodName)) ∈ lw_tbl := lw_at lw_m8 11 rfl
theorem q1746 : (Jvm.Cond.instanceMethod ({ cls := "Holdtag$Numbered", name := "bit", desc := "()I" } : Jvm.MethodName)) ∈ lw_all := lw_g (lw_at lw_m8 13 rfl) rfl
theorem q1747 : (Jvm.Cond.publicMethod ({ cls := "Holdtag$Numbered", name := "bit", desc := "()I" } : Jvm.MethodName)) ∈ lw_tbl := lw_at lw_m8 14 rfl
theorem q1748 : (Jvm.Cond.code ({ cls := "Holdtag$Numbered", name := "bit", desc := "()I" } : Jvm.MethodName) prog_8_method_2_code (1 : Nat) (Option.some Jvm.ClassFile.FieldType.int)) ∈ lw_all := lw_g (lw_at lw_m8 15 rfl) rfl
theorem q1749 : (Jvm.Cond.interfaceEntry "Holdtag$Numbered" (3 : Nat)) ∈ lw_tbl := lw_at lw_m8 16 rfl
theorem q1750 : (Jvm.Cond.methodLink "Holdtag$Numbered" (3 : Nat) ({ cls := "Holdtag$Numbered", name := "number", desc := "()I" } : Jvm.MethodName)) ∈ lw_all := lw_g (lw_at lw_m8 17 rfl) rfl
theorem q1891 : (Jvm.Cond.static ({ cls := "Holdtag$Numbered", name := "word", desc := "(I)Ljava/lang/String;" } : Jvm.MethodName)) ∈ lw_all := lw_g (lw_at lw_m8 158 rfl) rfl
theorem q1892 : (Jvm.Cond.code ({ cls := "Holdtag$Numbered", name := "word", desc := "(I)Ljava/lang/String;" } : Jvm.MethodName) prog_8_method_3_code (1 : Nat) (Option.some (Jvm.ClassFile.FieldType.object "java/lang/String"))) ∈ lw_all := lw_g (lw_at lw_m8 159 rfl) rfl
theorem q1893 : (Jvm.Cond.stringRef "Holdtag$Numbered" (9 : Nat) "in") ∈ lw_tbl := lw_at lw_m8 160 rfl
theorem q1894 : (Jvm.Cond.stringRef "Holdtag$Numbered" (11 : Nat) "archived") ∈ lw_tbl := lw_at lw_m8 161 rfl
theorem q1895 : (Jvm.Cond.stringRef "Holdtag$Numbered" (13 : Nat) "deleted") ∈ lw_tbl := lw_at lw_m8 162 rfl
theorem q1896 : (Jvm.Cond.stringRef "Holdtag$Numbered" (15 : Nat) "gone") ∈ lw_tbl := lw_at lw_m8 163 rfl

theorem q1055 : (Jvm.Cond.sameMethod "[B" "java/lang/Object" "clone" "()Ljava/lang/Object;") ∈ lw_all := lw_g (lw_at lw_m5 42 rfl) rfl
set_option maxRecDepth 100000
theorem q1058 : (Jvm.Cond.selects "[B" ({ cls := "[B", name := "clone", desc := "()Ljava/lang/Object;" } : Jvm.MethodName) ({ cls := "java/lang/Object", name := "clone", desc := "()Ljava/lang/Object;" } : Jvm.MethodName)) ∈ lw_all := lw_g (lw_at lw_m5 45 rfl) rfl
theorem q1059 : (Jvm.Cond.castable "[B" "java/lang/Cloneable") ∈ lw_tbl := lw_at lw_m5 46 rfl
theorem q2299 : (Jvm.Cond.castable "[B" "java/lang/Object") ∈ lw_tbl := lw_at lw_m10 86 rfl

theorem q2301 : (Jvm.Cond.castable "[I" "java/lang/Object") ∈ lw_tbl := lw_at lw_m10 88 rfl
set_option maxRecDepth 100000

theorem q2303 : (Jvm.Cond.castable "[J" "java/lang/Object") ∈ lw_tbl := lw_at lw_m10 90 rfl
set_option maxRecDepth 100000

theorem q2296 : (Jvm.Cond.sameMethod "[Ljava/lang/Object;" "java/lang/Object" "getClass" "()Ljava/lang/Class;") ∈ lw_all := lw_g (lw_at lw_m10 83 rfl) rfl
set_option maxRecDepth 100000
theorem q2297 : (Jvm.Cond.selects "[Ljava/lang/Object;" ({ cls := "java/lang/Object", name := "getClass", desc := "()Ljava/lang/Class;" } : Jvm.MethodName) ({ cls := "java/lang/Object", name := "getClass", desc := "()Ljava/lang/Class;" } : Jvm.MethodName)) ∈ lw_all := lw_g (lw_at lw_m10 84 rfl) rfl
theorem q2300 : (Jvm.Cond.castable "[Ljava/lang/Object;" "java/lang/Object") ∈ lw_tbl := lw_at lw_m10 87 rfl

theorem q2302 : (Jvm.Cond.castable "[Z" "java/lang/Object") ∈ lw_tbl := lw_at lw_m10 89 rfl
set_option maxRecDepth 100000

theorem q681 : (Jvm.Cond.interfaceMethod "java/lang/Comparable" "java/lang/Comparable" "compareTo" "(Ljava/lang/Object;)I") ∈ lw_tbl := lw_at lw_m3 148 rfl
set_option maxRecDepth 100000
theorem q682 : (Jvm.Cond.declares ({ cls := "java/lang/Comparable", name := "compareTo", desc := "(Ljava/lang/Object;)I" } : Jvm.MethodName)) ∈ lw_tbl := lw_at lw_m3 149 rfl

theorem q84 : (Jvm.Cond.initialized "java/lang/Integer$IntegerCache") ∈ lw_all := lw_g (lw_at lw_m1 31 rfl) rfl
set_option maxRecDepth 100000
theorem q626 : (Jvm.Cond.laysStatic "java/lang/Integer$IntegerCache" "high" "I") ∈ lw_tbl := lw_at lw_m3 93 rfl
theorem q628 : (Jvm.Cond.laysStatic "java/lang/Integer$IntegerCache" "cache" "[Ljava/lang/Integer;") ∈ lw_tbl := lw_at lw_m3 95 rfl

theorem q69 : (Jvm.Cond.initialized "java/lang/System") ∈ lw_all := lw_g (lw_at lw_m1 16 rfl) rfl
set_option maxRecDepth 100000
theorem q304 : (Jvm.Cond.static ({ cls := "java/lang/System", name := "arraycopy", desc := "(Ljava/lang/Object;ILjava/lang/Object;II)V" } : Jvm.MethodName)) ∈ lw_all := lw_g (lw_at lw_m2 11 rfl) rfl
theorem q305 : (Jvm.Cond.native ({ cls := "java/lang/System", name := "arraycopy", desc := "(Ljava/lang/Object;ILjava/lang/Object;II)V" } : Jvm.MethodName)) ∈ lw_all := lw_g (lw_at lw_m2 12 rfl) rfl

theorem q662 : (Jvm.Cond.interfaceMethod "java/util/Comparator" "java/util/Comparator" "compare" "(Ljava/lang/Object;Ljava/lang/Object;)I") ∈ lw_tbl := lw_at lw_m3 129 rfl
set_option maxRecDepth 100000
theorem q663 : (Jvm.Cond.declares ({ cls := "java/util/Comparator", name := "compare", desc := "(Ljava/lang/Object;Ljava/lang/Object;)I" } : Jvm.MethodName)) ∈ lw_tbl := lw_at lw_m3 130 rfl

theorem q540 : (Jvm.Cond.interfaceMethod "java/util/Iterator" "java/util/Iterator" "hasNext" "()Z") ∈ lw_tbl := lw_at lw_m3 7 rfl
set_option maxRecDepth 100000
theorem q541 : (Jvm.Cond.declares ({ cls := "java/util/Iterator", name := "hasNext", desc := "()Z" } : Jvm.MethodName)) ∈ lw_tbl := lw_at lw_m3 8 rfl
theorem q550 : (Jvm.Cond.interfaceMethod "java/util/Iterator" "java/util/Iterator" "next" "()Ljava/lang/Object;") ∈ lw_tbl := lw_at lw_m3 17 rfl
theorem q551 : (Jvm.Cond.declares ({ cls := "java/util/Iterator", name := "next", desc := "()Ljava/lang/Object;" } : Jvm.MethodName)) ∈ lw_tbl := lw_at lw_m3 18 rfl

theorem q232 : (Jvm.Cond.interfaceMethod "java/util/List" "java/util/List" "add" "(Ljava/lang/Object;)Z") ∈ lw_tbl := lw_at lw_m1 179 rfl
set_option maxRecDepth 100000
theorem q233 : (Jvm.Cond.declares ({ cls := "java/util/List", name := "add", desc := "(Ljava/lang/Object;)Z" } : Jvm.MethodName)) ∈ lw_tbl := lw_at lw_m1 180 rfl
theorem q353 : (Jvm.Cond.interfaceMethod "java/util/List" "java/util/List" "size" "()I") ∈ lw_tbl := lw_at lw_m2 60 rfl
theorem q354 : (Jvm.Cond.declares ({ cls := "java/util/List", name := "size", desc := "()I" } : Jvm.MethodName)) ∈ lw_tbl := lw_at lw_m2 61 rfl
theorem q514 : (Jvm.Cond.interfaceMethod "java/util/List" "java/util/List" "get" "(I)Ljava/lang/Object;") ∈ lw_tbl := lw_at lw_m2 221 rfl
theorem q515 : (Jvm.Cond.declares ({ cls := "java/util/List", name := "get", desc := "(I)Ljava/lang/Object;" } : Jvm.MethodName)) ∈ lw_tbl := lw_at lw_m2 222 rfl

theorem q644 : (Jvm.Cond.interfaceMethod "java/util/Map" "java/util/Map" "get" "(Ljava/lang/Object;)Ljava/lang/Object;") ∈ lw_tbl := lw_at lw_m3 111 rfl
set_option maxRecDepth 100000
theorem q645 : (Jvm.Cond.declares ({ cls := "java/util/Map", name := "get", desc := "(Ljava/lang/Object;)Ljava/lang/Object;" } : Jvm.MethodName)) ∈ lw_tbl := lw_at lw_m3 112 rfl
theorem q1406 : (Jvm.Cond.interfaceMethod "java/util/Map" "java/util/Map" "remove" "(Ljava/lang/Object;)Ljava/lang/Object;") ∈ lw_tbl := lw_at lw_m6 153 rfl
theorem q1407 : (Jvm.Cond.declares ({ cls := "java/util/Map", name := "remove", desc := "(Ljava/lang/Object;)Ljava/lang/Object;" } : Jvm.MethodName)) ∈ lw_tbl := lw_at lw_m6 154 rfl
theorem q1449 : (Jvm.Cond.interfaceMethod "java/util/Map" "java/util/Map" "put" "(Ljava/lang/Object;Ljava/lang/Object;)Ljava/lang/Object;") ∈ lw_tbl := lw_at lw_m6 196 rfl
theorem q1450 : (Jvm.Cond.declares ({ cls := "java/util/Map", name := "put", desc := "(Ljava/lang/Object;Ljava/lang/Object;)Ljava/lang/Object;" } : Jvm.MethodName)) ∈ lw_tbl := lw_at lw_m6 197 rfl

theorem q1621 : (Jvm.Cond.declares ({ cls := "java/util/Queue", name := "poll", desc := "()Ljava/lang/Object;" } : Jvm.MethodName)) ∈ lw_tbl := lw_at lw_m7 128 rfl
set_option maxRecDepth 100000

theorem q994 : (Jvm.Cond.interfaceMethod "jdk/internal/access/JavaLangAccess" "jdk/internal/access/JavaLangAccess" "getUTF16Char" "([BI)C") ∈ lw_tbl := lw_at lw_m4 221 rfl
set_option maxRecDepth 100000
theorem q995 : (Jvm.Cond.declares ({ cls := "jdk/internal/access/JavaLangAccess", name := "getUTF16Char", desc := "([BI)C" } : Jvm.MethodName)) ∈ lw_tbl := lw_at lw_m4 222 rfl

theorem q87 : (Jvm.Cond.initialized "jdk/internal/misc/UnsafeConstants") ∈ lw_all := lw_g (lw_at lw_m1 34 rfl) rfl
set_option maxRecDepth 100000
theorem q759 : (Jvm.Cond.laysStatic "jdk/internal/misc/UnsafeConstants" "BIG_ENDIAN" "Z") ∈ lw_tbl := lw_at lw_m3 226 rfl

theorem q211 : (Jvm.Cond.arrayClass Jvm.ClassFile.FieldType.byte) ∈ lw_all := lw_g (lw_at lw_m1 158 rfl) rfl
set_option maxRecDepth 100000
theorem q298 : (Jvm.Cond.arrayOver (Jvm.ClassFile.FieldType.object "java/lang/Object")) ∈ lw_tbl := lw_at lw_m2 5 rfl
theorem q2014 : (Jvm.Cond.arrayClass Jvm.ClassFile.FieldType.int) ∈ lw_all := lw_g (lw_at lw_m9 41 rfl) rfl
theorem q2015 : (Jvm.Cond.arrayClass Jvm.ClassFile.FieldType.boolean) ∈ lw_all := lw_g (lw_at lw_m9 42 rfl) rfl
theorem q2250 : (Jvm.Cond.arrayClass Jvm.ClassFile.FieldType.long) ∈ lw_all := lw_g (lw_at lw_m10 37 rfl) rfl
theorem q2304 : (Jvm.Cond.arrayClass Jvm.ClassFile.FieldType.char) ∈ lw_all := lw_g (lw_at lw_m10 91 rfl) rfl
theorem q2305 : (Jvm.Cond.arrayClass Jvm.ClassFile.FieldType.short) ∈ lw_all := lw_g (lw_at lw_m10 92 rfl) rfl

