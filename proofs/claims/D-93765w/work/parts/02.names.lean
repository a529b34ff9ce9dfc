/-! DECODE ROWS BY BYTES: one lemma an opcode; a method's code is cut into short pieces once, and a row reads its own piece alone. -/
set_option maxRecDepth 100000
/-- the code has just these bytes from pc on -/
def DkAt (code : ByteArray) (pc : Nat) (bs : List UInt8) : Prop := ∀ (j : Nat) (b : UInt8), bs[j]? = some b → code.data.toList[pc + j]? = some b
/-- the piece W has the bytes bs from its place j on -/
def dkIn (W : List UInt8) (j : Nat) (bs : List UInt8) : Bool := decide ((W.drop j).take bs.length = bs)
theorem dk_seg {l W T : List UInt8} {o o2 : Nat} (h : l.drop o = W ++ T) (n : Nat) (hn : W.length = n) (ho : o + n = o2) : l.drop o2 = T := by
  subst ho
  rw [← List.drop_drop, h, List.drop_left' hn]
theorem dk_at {code : ByteArray} {W T bs : List UInt8} {o pc : Nat} (h : code.data.toList.drop o = W ++ T) (j : Nat) (hp : o + j = pc) (hw : dkIn W j bs = true) : DkAt code pc bs := by
  subst hp
  intro i b e
  have h1 := of_decide_eq_true hw
  have h2 : i < bs.length := (List.getElem?_eq_some_iff.mp e).1
  have h3 : W[j + i]? = some b := by
    rw [← h1, List.getElem?_take, if_pos h2, List.getElem?_drop] at e
    exact e
  have h4 : j + i < W.length := (List.getElem?_eq_some_iff.mp h3).1
  have h5 : (code.data.toList.drop o)[j + i]? = some b := by
    rw [h, List.getElem?_append_left h4]
    exact h3
  rw [List.getElem?_drop, ← Nat.add_assoc] at h5
  exact h5
theorem dk_u1 {A : ByteArray} {p : Nat} {b : UInt8} (h : A.data.toList[p]? = some b) : (Reader.u1 : Reader DecodeError Nat) A p = .ok (b.toNat, p + 1) := by
  obtain ⟨h1, h2⟩ := List.getElem?_eq_some_iff.mp h
  have h3 : p < A.size := by simpa using h1
  have h4 : A[p]'h3 = b := h2
  have e : (Reader.u1 : Reader DecodeError Nat) A p = (if h : p < A.size then .ok (A[p].toNat, p + 1) else .error (HasTruncated.truncated p)) := by
    show (do if h : p < A.size then do set (p + 1); Pure.pure A[p].toNat else MonadExcept.throw (HasTruncated.truncated p) : Reader DecodeError Nat) A p = _
    by_cases hi : p < A.size
    · rw [dif_pos hi, dif_pos hi]; rfl
    · rw [dif_neg hi, dif_neg hi]; rfl
  rw [e, dif_pos h3, h4]
theorem dk_bind {α β : Type} {r : Reader DecodeError α} {f : α → Reader DecodeError β} {A : ByteArray} {p s : Nat} {a : α} (h : r A p = .ok (a, s)) : (r >>= f) A p = f a A s := by
  show (do let (a, s) ← r A p; f a A s : Except DecodeError (β × Nat)) = _
  rw [h]
  rfl
theorem dk_map {α β : Type} {r : Reader DecodeError α} {g : α → β} {A : ByteArray} {p s : Nat} {a : α} (h : r A p = .ok (a, s)) : (g <$> r) A p = .ok (g a, s) := by
  show (do let (a, s) ← r A p; .ok (g a, s) : Except DecodeError (β × Nat)) = _
  rw [h]
  rfl
theorem dk_u2 {A : ByteArray} {p : Nat} {a b : UInt8} (h : A.data.toList[p]? = some a) (h2 : A.data.toList[p + 1]? = some b) : (Reader.u2 : Reader DecodeError Nat) A p = .ok (a.toNat * 256 + b.toNat, p + 2) := by
  show (Reader.u1 >>= fun hi => Reader.u1 >>= fun lo => Pure.pure (hi * 256 + lo) : Reader DecodeError Nat) A p = _
  rw [dk_bind (dk_u1 h), dk_bind (dk_u1 h2)]
  rfl
theorem dk_of {code : ByteArray} {pc n : Nat} {i : Instr} (h : Decoder.instr pc code pc = .ok (i, pc + n)) : decode code pc = .ok (i, n) := by
  have e : decode code pc = (match Decoder.instr pc code pc with | .error x => .error x | .ok (j, s) => .ok (j, s - pc)) := by
    show (do let (j, s) ← Decoder.instr pc code pc; Pure.pure (j, s - pc) : Except DecodeError (Instr × Nat)) = _
    cases Decoder.instr pc code pc <;> rfl
  rw [e, h]
  show Except.ok (i, pc + n - pc) = _
  rw [Nat.add_sub_cancel_left]
theorem dk_1 {code : ByteArray} {pc : Nat} (h : DkAt code pc [1]) : decode code pc = .ok (.aconst_null, 1) := dk_of ((dk_bind (dk_u1 (h 0 _ rfl))).trans rfl)
theorem dk_2 {code : ByteArray} {pc : Nat} (h : DkAt code pc [2]) : decode code pc = .ok (.iconst (-1), 1) := dk_of ((dk_bind (dk_u1 (h 0 _ rfl))).trans rfl)
theorem dk_3 {code : ByteArray} {pc : Nat} (h : DkAt code pc [3]) : decode code pc = .ok (.iconst 0, 1) := dk_of ((dk_bind (dk_u1 (h 0 _ rfl))).trans rfl)
theorem dk_4 {code : ByteArray} {pc : Nat} (h : DkAt code pc [4]) : decode code pc = .ok (.iconst 1, 1) := dk_of ((dk_bind (dk_u1 (h 0 _ rfl))).trans rfl)
theorem dk_5 {code : ByteArray} {pc : Nat} (h : DkAt code pc [5]) : decode code pc = .ok (.iconst 2, 1) := dk_of ((dk_bind (dk_u1 (h 0 _ rfl))).trans rfl)
theorem dk_6 {code : ByteArray} {pc : Nat} (h : DkAt code pc [6]) : decode code pc = .ok (.iconst 3, 1) := dk_of ((dk_bind (dk_u1 (h 0 _ rfl))).trans rfl)
theorem dk_7 {code : ByteArray} {pc : Nat} (h : DkAt code pc [7]) : decode code pc = .ok (.iconst 4, 1) := dk_of ((dk_bind (dk_u1 (h 0 _ rfl))).trans rfl)
theorem dk_8 {code : ByteArray} {pc : Nat} (h : DkAt code pc [8]) : decode code pc = .ok (.iconst 5, 1) := dk_of ((dk_bind (dk_u1 (h 0 _ rfl))).trans rfl)
theorem dk_9 {code : ByteArray} {pc : Nat} (h : DkAt code pc [9]) : decode code pc = .ok (.lconst 0, 1) := dk_of ((dk_bind (dk_u1 (h 0 _ rfl))).trans rfl)
theorem dk_10 {code : ByteArray} {pc : Nat} (h : DkAt code pc [10]) : decode code pc = .ok (.lconst 1, 1) := dk_of ((dk_bind (dk_u1 (h 0 _ rfl))).trans rfl)
theorem dk_16 {code : ByteArray} {pc : Nat} (a : UInt8) (h : DkAt code pc [16, a]) : decode code pc = .ok (.bipush (Reader.signed 8 a.toNat), 2) := dk_of ((dk_bind (dk_u1 (h 0 _ rfl))).trans ((dk_bind (dk_map (dk_u1 (h 1 _ rfl)))).trans rfl))
theorem dk_17 {code : ByteArray} {pc : Nat} (a b : UInt8) (h : DkAt code pc [17, a, b]) : decode code pc = .ok (.sipush (Reader.signed 16 (a.toNat * 256 + b.toNat)), 3) := dk_of ((dk_bind (dk_u1 (h 0 _ rfl))).trans ((dk_bind (dk_map (dk_u2 (h 1 _ rfl) (h 2 _ rfl)))).trans rfl))
theorem dk_18 {code : ByteArray} {pc : Nat} (a : UInt8) (h : DkAt code pc [18, a]) : decode code pc = .ok (.ldc a.toNat, 2) := dk_of ((dk_bind (dk_u1 (h 0 _ rfl))).trans ((dk_bind (dk_u1 (h 1 _ rfl))).trans rfl))
theorem dk_19 {code : ByteArray} {pc : Nat} (a b : UInt8) (h : DkAt code pc [19, a, b]) : decode code pc = .ok (.ldc_w (a.toNat * 256 + b.toNat), 3) := dk_of ((dk_bind (dk_u1 (h 0 _ rfl))).trans ((dk_bind (dk_u2 (h 1 _ rfl) (h 2 _ rfl))).trans rfl))
theorem dk_20 {code : ByteArray} {pc : Nat} (a b : UInt8) (h : DkAt code pc [20, a, b]) : decode code pc = .ok (.ldc2_w (a.toNat * 256 + b.toNat), 3) := dk_of ((dk_bind (dk_u1 (h 0 _ rfl))).trans ((dk_bind (dk_u2 (h 1 _ rfl) (h 2 _ rfl))).trans rfl))
theorem dk_21 {code : ByteArray} {pc : Nat} (a : UInt8) (h : DkAt code pc [21, a]) : decode code pc = .ok (.iload a.toNat, 2) := dk_of ((dk_bind (dk_u1 (h 0 _ rfl))).trans ((dk_bind (dk_u1 (h 1 _ rfl))).trans rfl))
theorem dk_22 {code : ByteArray} {pc : Nat} (a : UInt8) (h : DkAt code pc [22, a]) : decode code pc = .ok (.lload a.toNat, 2) := dk_of ((dk_bind (dk_u1 (h 0 _ rfl))).trans ((dk_bind (dk_u1 (h 1 _ rfl))).trans rfl))
theorem dk_25 {code : ByteArray} {pc : Nat} (a : UInt8) (h : DkAt code pc [25, a]) : decode code pc = .ok (.aload a.toNat, 2) := dk_of ((dk_bind (dk_u1 (h 0 _ rfl))).trans ((dk_bind (dk_u1 (h 1 _ rfl))).trans rfl))
theorem dk_26 {code : ByteArray} {pc : Nat} (h : DkAt code pc [26]) : decode code pc = .ok (.iload_n 0, 1) := dk_of ((dk_bind (dk_u1 (h 0 _ rfl))).trans rfl)
theorem dk_27 {code : ByteArray} {pc : Nat} (h : DkAt code pc [27]) : decode code pc = .ok (.iload_n 1, 1) := dk_of ((dk_bind (dk_u1 (h 0 _ rfl))).trans rfl)
theorem dk_28 {code : ByteArray} {pc : Nat} (h : DkAt code pc [28]) : decode code pc = .ok (.iload_n 2, 1) := dk_of ((dk_bind (dk_u1 (h 0 _ rfl))).trans rfl)
theorem dk_29 {code : ByteArray} {pc : Nat} (h : DkAt code pc [29]) : decode code pc = .ok (.iload_n 3, 1) := dk_of ((dk_bind (dk_u1 (h 0 _ rfl))).trans rfl)
theorem dk_30 {code : ByteArray} {pc : Nat} (h : DkAt code pc [30]) : decode code pc = .ok (.lload_n 0, 1) := dk_of ((dk_bind (dk_u1 (h 0 _ rfl))).trans rfl)
theorem dk_31 {code : ByteArray} {pc : Nat} (h : DkAt code pc [31]) : decode code pc = .ok (.lload_n 1, 1) := dk_of ((dk_bind (dk_u1 (h 0 _ rfl))).trans rfl)
theorem dk_32 {code : ByteArray} {pc : Nat} (h : DkAt code pc [32]) : decode code pc = .ok (.lload_n 2, 1) := dk_of ((dk_bind (dk_u1 (h 0 _ rfl))).trans rfl)
theorem dk_33 {code : ByteArray} {pc : Nat} (h : DkAt code pc [33]) : decode code pc = .ok (.lload_n 3, 1) := dk_of ((dk_bind (dk_u1 (h 0 _ rfl))).trans rfl)
theorem dk_42 {code : ByteArray} {pc : Nat} (h : DkAt code pc [42]) : decode code pc = .ok (.aload_n 0, 1) := dk_of ((dk_bind (dk_u1 (h 0 _ rfl))).trans rfl)
theorem dk_43 {code : ByteArray} {pc : Nat} (h : DkAt code pc [43]) : decode code pc = .ok (.aload_n 1, 1) := dk_of ((dk_bind (dk_u1 (h 0 _ rfl))).trans rfl)
theorem dk_44 {code : ByteArray} {pc : Nat} (h : DkAt code pc [44]) : decode code pc = .ok (.aload_n 2, 1) := dk_of ((dk_bind (dk_u1 (h 0 _ rfl))).trans rfl)
theorem dk_45 {code : ByteArray} {pc : Nat} (h : DkAt code pc [45]) : decode code pc = .ok (.aload_n 3, 1) := dk_of ((dk_bind (dk_u1 (h 0 _ rfl))).trans rfl)
theorem dk_46 {code : ByteArray} {pc : Nat} (h : DkAt code pc [46]) : decode code pc = .ok (.iaload, 1) := dk_of ((dk_bind (dk_u1 (h 0 _ rfl))).trans rfl)
theorem dk_47 {code : ByteArray} {pc : Nat} (h : DkAt code pc [47]) : decode code pc = .ok (.laload, 1) := dk_of ((dk_bind (dk_u1 (h 0 _ rfl))).trans rfl)
theorem dk_50 {code : ByteArray} {pc : Nat} (h : DkAt code pc [50]) : decode code pc = .ok (.aaload, 1) := dk_of ((dk_bind (dk_u1 (h 0 _ rfl))).trans rfl)
theorem dk_51 {code : ByteArray} {pc : Nat} (h : DkAt code pc [51]) : decode code pc = .ok (.baload, 1) := dk_of ((dk_bind (dk_u1 (h 0 _ rfl))).trans rfl)
theorem dk_53 {code : ByteArray} {pc : Nat} (h : DkAt code pc [53]) : decode code pc = .ok (.saload, 1) := dk_of ((dk_bind (dk_u1 (h 0 _ rfl))).trans rfl)
theorem dk_54 {code : ByteArray} {pc : Nat} (a : UInt8) (h : DkAt code pc [54, a]) : decode code pc = .ok (.istore a.toNat, 2) := dk_of ((dk_bind (dk_u1 (h 0 _ rfl))).trans ((dk_bind (dk_u1 (h 1 _ rfl))).trans rfl))
theorem dk_55 {code : ByteArray} {pc : Nat} (a : UInt8) (h : DkAt code pc [55, a]) : decode code pc = .ok (.lstore a.toNat, 2) := dk_of ((dk_bind (dk_u1 (h 0 _ rfl))).trans ((dk_bind (dk_u1 (h 1 _ rfl))).trans rfl))
theorem dk_58 {code : ByteArray} {pc : Nat} (a : UInt8) (h : DkAt code pc [58, a]) : decode code pc = .ok (.astore a.toNat, 2) := dk_of ((dk_bind (dk_u1 (h 0 _ rfl))).trans ((dk_bind (dk_u1 (h 1 _ rfl))).trans rfl))
theorem dk_60 {code : ByteArray} {pc : Nat} (h : DkAt code pc [60]) : decode code pc = .ok (.istore_n 1, 1) := dk_of ((dk_bind (dk_u1 (h 0 _ rfl))).trans rfl)
theorem dk_61 {code : ByteArray} {pc : Nat} (h : DkAt code pc [61]) : decode code pc = .ok (.istore_n 2, 1) := dk_of ((dk_bind (dk_u1 (h 0 _ rfl))).trans rfl)
theorem dk_62 {code : ByteArray} {pc : Nat} (h : DkAt code pc [62]) : decode code pc = .ok (.istore_n 3, 1) := dk_of ((dk_bind (dk_u1 (h 0 _ rfl))).trans rfl)
theorem dk_64 {code : ByteArray} {pc : Nat} (h : DkAt code pc [64]) : decode code pc = .ok (.lstore_n 1, 1) := dk_of ((dk_bind (dk_u1 (h 0 _ rfl))).trans rfl)
theorem dk_66 {code : ByteArray} {pc : Nat} (h : DkAt code pc [66]) : decode code pc = .ok (.lstore_n 3, 1) := dk_of ((dk_bind (dk_u1 (h 0 _ rfl))).trans rfl)
theorem dk_76 {code : ByteArray} {pc : Nat} (h : DkAt code pc [76]) : decode code pc = .ok (.astore_n 1, 1) := dk_of ((dk_bind (dk_u1 (h 0 _ rfl))).trans rfl)
theorem dk_77 {code : ByteArray} {pc : Nat} (h : DkAt code pc [77]) : decode code pc = .ok (.astore_n 2, 1) := dk_of ((dk_bind (dk_u1 (h 0 _ rfl))).trans rfl)
theorem dk_78 {code : ByteArray} {pc : Nat} (h : DkAt code pc [78]) : decode code pc = .ok (.astore_n 3, 1) := dk_of ((dk_bind (dk_u1 (h 0 _ rfl))).trans rfl)
theorem dk_79 {code : ByteArray} {pc : Nat} (h : DkAt code pc [79]) : decode code pc = .ok (.iastore, 1) := dk_of ((dk_bind (dk_u1 (h 0 _ rfl))).trans rfl)
theorem dk_80 {code : ByteArray} {pc : Nat} (h : DkAt code pc [80]) : decode code pc = .ok (.lastore, 1) := dk_of ((dk_bind (dk_u1 (h 0 _ rfl))).trans rfl)
theorem dk_83 {code : ByteArray} {pc : Nat} (h : DkAt code pc [83]) : decode code pc = .ok (.aastore, 1) := dk_of ((dk_bind (dk_u1 (h 0 _ rfl))).trans rfl)
theorem dk_84 {code : ByteArray} {pc : Nat} (h : DkAt code pc [84]) : decode code pc = .ok (.bastore, 1) := dk_of ((dk_bind (dk_u1 (h 0 _ rfl))).trans rfl)
theorem dk_86 {code : ByteArray} {pc : Nat} (h : DkAt code pc [86]) : decode code pc = .ok (.sastore, 1) := dk_of ((dk_bind (dk_u1 (h 0 _ rfl))).trans rfl)
theorem dk_87 {code : ByteArray} {pc : Nat} (h : DkAt code pc [87]) : decode code pc = .ok (.pop, 1) := dk_of ((dk_bind (dk_u1 (h 0 _ rfl))).trans rfl)
theorem dk_89 {code : ByteArray} {pc : Nat} (h : DkAt code pc [89]) : decode code pc = .ok (.dup, 1) := dk_of ((dk_bind (dk_u1 (h 0 _ rfl))).trans rfl)
theorem dk_92 {code : ByteArray} {pc : Nat} (h : DkAt code pc [92]) : decode code pc = .ok (.dup2, 1) := dk_of ((dk_bind (dk_u1 (h 0 _ rfl))).trans rfl)
theorem dk_96 {code : ByteArray} {pc : Nat} (h : DkAt code pc [96]) : decode code pc = .ok (.iadd, 1) := dk_of ((dk_bind (dk_u1 (h 0 _ rfl))).trans rfl)
theorem dk_97 {code : ByteArray} {pc : Nat} (h : DkAt code pc [97]) : decode code pc = .ok (.ladd, 1) := dk_of ((dk_bind (dk_u1 (h 0 _ rfl))).trans rfl)
theorem dk_100 {code : ByteArray} {pc : Nat} (h : DkAt code pc [100]) : decode code pc = .ok (.isub, 1) := dk_of ((dk_bind (dk_u1 (h 0 _ rfl))).trans rfl)
theorem dk_101 {code : ByteArray} {pc : Nat} (h : DkAt code pc [101]) : decode code pc = .ok (.lsub, 1) := dk_of ((dk_bind (dk_u1 (h 0 _ rfl))).trans rfl)
theorem dk_104 {code : ByteArray} {pc : Nat} (h : DkAt code pc [104]) : decode code pc = .ok (.imul, 1) := dk_of ((dk_bind (dk_u1 (h 0 _ rfl))).trans rfl)
theorem dk_105 {code : ByteArray} {pc : Nat} (h : DkAt code pc [105]) : decode code pc = .ok (.lmul, 1) := dk_of ((dk_bind (dk_u1 (h 0 _ rfl))).trans rfl)
theorem dk_108 {code : ByteArray} {pc : Nat} (h : DkAt code pc [108]) : decode code pc = .ok (.idiv, 1) := dk_of ((dk_bind (dk_u1 (h 0 _ rfl))).trans rfl)
theorem dk_109 {code : ByteArray} {pc : Nat} (h : DkAt code pc [109]) : decode code pc = .ok (.ldiv, 1) := dk_of ((dk_bind (dk_u1 (h 0 _ rfl))).trans rfl)
theorem dk_112 {code : ByteArray} {pc : Nat} (h : DkAt code pc [112]) : decode code pc = .ok (.irem, 1) := dk_of ((dk_bind (dk_u1 (h 0 _ rfl))).trans rfl)
theorem dk_113 {code : ByteArray} {pc : Nat} (h : DkAt code pc [113]) : decode code pc = .ok (.lrem, 1) := dk_of ((dk_bind (dk_u1 (h 0 _ rfl))).trans rfl)
theorem dk_116 {code : ByteArray} {pc : Nat} (h : DkAt code pc [116]) : decode code pc = .ok (.ineg, 1) := dk_of ((dk_bind (dk_u1 (h 0 _ rfl))).trans rfl)
theorem dk_117 {code : ByteArray} {pc : Nat} (h : DkAt code pc [117]) : decode code pc = .ok (.lneg, 1) := dk_of ((dk_bind (dk_u1 (h 0 _ rfl))).trans rfl)
theorem dk_120 {code : ByteArray} {pc : Nat} (h : DkAt code pc [120]) : decode code pc = .ok (.ishl, 1) := dk_of ((dk_bind (dk_u1 (h 0 _ rfl))).trans rfl)
theorem dk_121 {code : ByteArray} {pc : Nat} (h : DkAt code pc [121]) : decode code pc = .ok (.lshl, 1) := dk_of ((dk_bind (dk_u1 (h 0 _ rfl))).trans rfl)
theorem dk_122 {code : ByteArray} {pc : Nat} (h : DkAt code pc [122]) : decode code pc = .ok (.ishr, 1) := dk_of ((dk_bind (dk_u1 (h 0 _ rfl))).trans rfl)
theorem dk_124 {code : ByteArray} {pc : Nat} (h : DkAt code pc [124]) : decode code pc = .ok (.iushr, 1) := dk_of ((dk_bind (dk_u1 (h 0 _ rfl))).trans rfl)
theorem dk_126 {code : ByteArray} {pc : Nat} (h : DkAt code pc [126]) : decode code pc = .ok (.iand, 1) := dk_of ((dk_bind (dk_u1 (h 0 _ rfl))).trans rfl)
theorem dk_127 {code : ByteArray} {pc : Nat} (h : DkAt code pc [127]) : decode code pc = .ok (.land, 1) := dk_of ((dk_bind (dk_u1 (h 0 _ rfl))).trans rfl)
theorem dk_128 {code : ByteArray} {pc : Nat} (h : DkAt code pc [128]) : decode code pc = .ok (.ior, 1) := dk_of ((dk_bind (dk_u1 (h 0 _ rfl))).trans rfl)
theorem dk_129 {code : ByteArray} {pc : Nat} (h : DkAt code pc [129]) : decode code pc = .ok (.lor, 1) := dk_of ((dk_bind (dk_u1 (h 0 _ rfl))).trans rfl)
theorem dk_130 {code : ByteArray} {pc : Nat} (h : DkAt code pc [130]) : decode code pc = .ok (.ixor, 1) := dk_of ((dk_bind (dk_u1 (h 0 _ rfl))).trans rfl)
theorem dk_131 {code : ByteArray} {pc : Nat} (h : DkAt code pc [131]) : decode code pc = .ok (.lxor, 1) := dk_of ((dk_bind (dk_u1 (h 0 _ rfl))).trans rfl)
theorem dk_132 {code : ByteArray} {pc : Nat} (a b : UInt8) (h : DkAt code pc [132, a, b]) : decode code pc = .ok (.iinc a.toNat (Reader.signed 8 b.toNat), 3) := dk_of ((dk_bind (dk_u1 (h 0 _ rfl))).trans ((dk_bind (dk_u1 (h 1 _ rfl))).trans ((dk_bind (dk_map (dk_u1 (h 2 _ rfl)))).trans rfl)))
theorem dk_133 {code : ByteArray} {pc : Nat} (h : DkAt code pc [133]) : decode code pc = .ok (.i2l, 1) := dk_of ((dk_bind (dk_u1 (h 0 _ rfl))).trans rfl)
theorem dk_136 {code : ByteArray} {pc : Nat} (h : DkAt code pc [136]) : decode code pc = .ok (.l2i, 1) := dk_of ((dk_bind (dk_u1 (h 0 _ rfl))).trans rfl)
theorem dk_145 {code : ByteArray} {pc : Nat} (h : DkAt code pc [145]) : decode code pc = .ok (.i2b, 1) := dk_of ((dk_bind (dk_u1 (h 0 _ rfl))).trans rfl)
theorem dk_146 {code : ByteArray} {pc : Nat} (h : DkAt code pc [146]) : decode code pc = .ok (.i2c, 1) := dk_of ((dk_bind (dk_u1 (h 0 _ rfl))).trans rfl)
theorem dk_147 {code : ByteArray} {pc : Nat} (h : DkAt code pc [147]) : decode code pc = .ok (.i2s, 1) := dk_of ((dk_bind (dk_u1 (h 0 _ rfl))).trans rfl)
theorem dk_148 {code : ByteArray} {pc : Nat} (h : DkAt code pc [148]) : decode code pc = .ok (.lcmp, 1) := dk_of ((dk_bind (dk_u1 (h 0 _ rfl))).trans rfl)
theorem dk_153 {code : ByteArray} {pc : Nat} (a b : UInt8) (h : DkAt code pc [153, a, b]) : decode code pc = .ok (.ifCond .eq (Reader.signed 16 (a.toNat * 256 + b.toNat)), 3) := dk_of ((dk_bind (dk_u1 (h 0 _ rfl))).trans ((dk_bind (dk_map (dk_u2 (h 1 _ rfl) (h 2 _ rfl)))).trans rfl))
theorem dk_154 {code : ByteArray} {pc : Nat} (a b : UInt8) (h : DkAt code pc [154, a, b]) : decode code pc = .ok (.ifCond .ne (Reader.signed 16 (a.toNat * 256 + b.toNat)), 3) := dk_of ((dk_bind (dk_u1 (h 0 _ rfl))).trans ((dk_bind (dk_map (dk_u2 (h 1 _ rfl) (h 2 _ rfl)))).trans rfl))
theorem dk_155 {code : ByteArray} {pc : Nat} (a b : UInt8) (h : DkAt code pc [155, a, b]) : decode code pc = .ok (.ifCond .lt (Reader.signed 16 (a.toNat * 256 + b.toNat)), 3) := dk_of ((dk_bind (dk_u1 (h 0 _ rfl))).trans ((dk_bind (dk_map (dk_u2 (h 1 _ rfl) (h 2 _ rfl)))).trans rfl))
theorem dk_156 {code : ByteArray} {pc : Nat} (a b : UInt8) (h : DkAt code pc [156, a, b]) : decode code pc = .ok (.ifCond .ge (Reader.signed 16 (a.toNat * 256 + b.toNat)), 3) := dk_of ((dk_bind (dk_u1 (h 0 _ rfl))).trans ((dk_bind (dk_map (dk_u2 (h 1 _ rfl) (h 2 _ rfl)))).trans rfl))
theorem dk_157 {code : ByteArray} {pc : Nat} (a b : UInt8) (h : DkAt code pc [157, a, b]) : decode code pc = .ok (.ifCond .gt (Reader.signed 16 (a.toNat * 256 + b.toNat)), 3) := dk_of ((dk_bind (dk_u1 (h 0 _ rfl))).trans ((dk_bind (dk_map (dk_u2 (h 1 _ rfl) (h 2 _ rfl)))).trans rfl))
theorem dk_158 {code : ByteArray} {pc : Nat} (a b : UInt8) (h : DkAt code pc [158, a, b]) : decode code pc = .ok (.ifCond .le (Reader.signed 16 (a.toNat * 256 + b.toNat)), 3) := dk_of ((dk_bind (dk_u1 (h 0 _ rfl))).trans ((dk_bind (dk_map (dk_u2 (h 1 _ rfl) (h 2 _ rfl)))).trans rfl))
theorem dk_159 {code : ByteArray} {pc : Nat} (a b : UInt8) (h : DkAt code pc [159, a, b]) : decode code pc = .ok (.if_icmp .eq (Reader.signed 16 (a.toNat * 256 + b.toNat)), 3) := dk_of ((dk_bind (dk_u1 (h 0 _ rfl))).trans ((dk_bind (dk_map (dk_u2 (h 1 _ rfl) (h 2 _ rfl)))).trans rfl))
theorem dk_160 {code : ByteArray} {pc : Nat} (a b : UInt8) (h : DkAt code pc [160, a, b]) : decode code pc = .ok (.if_icmp .ne (Reader.signed 16 (a.toNat * 256 + b.toNat)), 3) := dk_of ((dk_bind (dk_u1 (h 0 _ rfl))).trans ((dk_bind (dk_map (dk_u2 (h 1 _ rfl) (h 2 _ rfl)))).trans rfl))
theorem dk_161 {code : ByteArray} {pc : Nat} (a b : UInt8) (h : DkAt code pc [161, a, b]) : decode code pc = .ok (.if_icmp .lt (Reader.signed 16 (a.toNat * 256 + b.toNat)), 3) := dk_of ((dk_bind (dk_u1 (h 0 _ rfl))).trans ((dk_bind (dk_map (dk_u2 (h 1 _ rfl) (h 2 _ rfl)))).trans rfl))
theorem dk_162 {code : ByteArray} {pc : Nat} (a b : UInt8) (h : DkAt code pc [162, a, b]) : decode code pc = .ok (.if_icmp .ge (Reader.signed 16 (a.toNat * 256 + b.toNat)), 3) := dk_of ((dk_bind (dk_u1 (h 0 _ rfl))).trans ((dk_bind (dk_map (dk_u2 (h 1 _ rfl) (h 2 _ rfl)))).trans rfl))
theorem dk_163 {code : ByteArray} {pc : Nat} (a b : UInt8) (h : DkAt code pc [163, a, b]) : decode code pc = .ok (.if_icmp .gt (Reader.signed 16 (a.toNat * 256 + b.toNat)), 3) := dk_of ((dk_bind (dk_u1 (h 0 _ rfl))).trans ((dk_bind (dk_map (dk_u2 (h 1 _ rfl) (h 2 _ rfl)))).trans rfl))
theorem dk_164 {code : ByteArray} {pc : Nat} (a b : UInt8) (h : DkAt code pc [164, a, b]) : decode code pc = .ok (.if_icmp .le (Reader.signed 16 (a.toNat * 256 + b.toNat)), 3) := dk_of ((dk_bind (dk_u1 (h 0 _ rfl))).trans ((dk_bind (dk_map (dk_u2 (h 1 _ rfl) (h 2 _ rfl)))).trans rfl))
theorem dk_167 {code : ByteArray} {pc : Nat} (a b : UInt8) (h : DkAt code pc [167, a, b]) : decode code pc = .ok (.goto (Reader.signed 16 (a.toNat * 256 + b.toNat)), 3) := dk_of ((dk_bind (dk_u1 (h 0 _ rfl))).trans ((dk_bind (dk_map (dk_u2 (h 1 _ rfl) (h 2 _ rfl)))).trans rfl))
theorem dk_172 {code : ByteArray} {pc : Nat} (h : DkAt code pc [172]) : decode code pc = .ok (.ireturn, 1) := dk_of ((dk_bind (dk_u1 (h 0 _ rfl))).trans rfl)
theorem dk_173 {code : ByteArray} {pc : Nat} (h : DkAt code pc [173]) : decode code pc = .ok (.lreturn, 1) := dk_of ((dk_bind (dk_u1 (h 0 _ rfl))).trans rfl)
theorem dk_176 {code : ByteArray} {pc : Nat} (h : DkAt code pc [176]) : decode code pc = .ok (.areturn, 1) := dk_of ((dk_bind (dk_u1 (h 0 _ rfl))).trans rfl)
theorem dk_177 {code : ByteArray} {pc : Nat} (h : DkAt code pc [177]) : decode code pc = .ok (.return_, 1) := dk_of ((dk_bind (dk_u1 (h 0 _ rfl))).trans rfl)
theorem dk_178 {code : ByteArray} {pc : Nat} (a b : UInt8) (h : DkAt code pc [178, a, b]) : decode code pc = .ok (.getstatic (a.toNat * 256 + b.toNat), 3) := dk_of ((dk_bind (dk_u1 (h 0 _ rfl))).trans ((dk_bind (dk_u2 (h 1 _ rfl) (h 2 _ rfl))).trans rfl))
theorem dk_180 {code : ByteArray} {pc : Nat} (a b : UInt8) (h : DkAt code pc [180, a, b]) : decode code pc = .ok (.getfield (a.toNat * 256 + b.toNat), 3) := dk_of ((dk_bind (dk_u1 (h 0 _ rfl))).trans ((dk_bind (dk_u2 (h 1 _ rfl) (h 2 _ rfl))).trans rfl))
theorem dk_181 {code : ByteArray} {pc : Nat} (a b : UInt8) (h : DkAt code pc [181, a, b]) : decode code pc = .ok (.putfield (a.toNat * 256 + b.toNat), 3) := dk_of ((dk_bind (dk_u1 (h 0 _ rfl))).trans ((dk_bind (dk_u2 (h 1 _ rfl) (h 2 _ rfl))).trans rfl))
theorem dk_182 {code : ByteArray} {pc : Nat} (a b : UInt8) (h : DkAt code pc [182, a, b]) : decode code pc = .ok (.invokevirtual (a.toNat * 256 + b.toNat), 3) := dk_of ((dk_bind (dk_u1 (h 0 _ rfl))).trans ((dk_bind (dk_u2 (h 1 _ rfl) (h 2 _ rfl))).trans rfl))
theorem dk_183 {code : ByteArray} {pc : Nat} (a b : UInt8) (h : DkAt code pc [183, a, b]) : decode code pc = .ok (.invokespecial (a.toNat * 256 + b.toNat), 3) := dk_of ((dk_bind (dk_u1 (h 0 _ rfl))).trans ((dk_bind (dk_u2 (h 1 _ rfl) (h 2 _ rfl))).trans rfl))
theorem dk_184 {code : ByteArray} {pc : Nat} (a b : UInt8) (h : DkAt code pc [184, a, b]) : decode code pc = .ok (.invokestatic (a.toNat * 256 + b.toNat), 3) := dk_of ((dk_bind (dk_u1 (h 0 _ rfl))).trans ((dk_bind (dk_u2 (h 1 _ rfl) (h 2 _ rfl))).trans rfl))
theorem dk_187 {code : ByteArray} {pc : Nat} (a b : UInt8) (h : DkAt code pc [187, a, b]) : decode code pc = .ok (.new (a.toNat * 256 + b.toNat), 3) := dk_of ((dk_bind (dk_u1 (h 0 _ rfl))).trans ((dk_bind (dk_u2 (h 1 _ rfl) (h 2 _ rfl))).trans rfl))
theorem dk_188_4 {code : ByteArray} {pc : Nat} (h : DkAt code pc [188, 4]) : decode code pc = .ok (.newarray .boolean, 2) := dk_of ((dk_bind (dk_u1 (h 0 _ rfl))).trans ((dk_bind (dk_u1 (h 1 _ rfl))).trans rfl))
theorem dk_188_8 {code : ByteArray} {pc : Nat} (h : DkAt code pc [188, 8]) : decode code pc = .ok (.newarray .byte, 2) := dk_of ((dk_bind (dk_u1 (h 0 _ rfl))).trans ((dk_bind (dk_u1 (h 1 _ rfl))).trans rfl))
theorem dk_188_9 {code : ByteArray} {pc : Nat} (h : DkAt code pc [188, 9]) : decode code pc = .ok (.newarray .short, 2) := dk_of ((dk_bind (dk_u1 (h 0 _ rfl))).trans ((dk_bind (dk_u1 (h 1 _ rfl))).trans rfl))
theorem dk_188_10 {code : ByteArray} {pc : Nat} (h : DkAt code pc [188, 10]) : decode code pc = .ok (.newarray .int, 2) := dk_of ((dk_bind (dk_u1 (h 0 _ rfl))).trans ((dk_bind (dk_u1 (h 1 _ rfl))).trans rfl))
theorem dk_188_11 {code : ByteArray} {pc : Nat} (h : DkAt code pc [188, 11]) : decode code pc = .ok (.newarray .long, 2) := dk_of ((dk_bind (dk_u1 (h 0 _ rfl))).trans ((dk_bind (dk_u1 (h 1 _ rfl))).trans rfl))
theorem dk_189 {code : ByteArray} {pc : Nat} (a b : UInt8) (h : DkAt code pc [189, a, b]) : decode code pc = .ok (.anewarray (a.toNat * 256 + b.toNat), 3) := dk_of ((dk_bind (dk_u1 (h 0 _ rfl))).trans ((dk_bind (dk_u2 (h 1 _ rfl) (h 2 _ rfl))).trans rfl))
theorem dk_190 {code : ByteArray} {pc : Nat} (h : DkAt code pc [190]) : decode code pc = .ok (.arraylength, 1) := dk_of ((dk_bind (dk_u1 (h 0 _ rfl))).trans rfl)
theorem dk_191 {code : ByteArray} {pc : Nat} (h : DkAt code pc [191]) : decode code pc = .ok (.athrow, 1) := dk_of ((dk_bind (dk_u1 (h 0 _ rfl))).trans rfl)
theorem dk_192 {code : ByteArray} {pc : Nat} (a b : UInt8) (h : DkAt code pc [192, a, b]) : decode code pc = .ok (.checkcast (a.toNat * 256 + b.toNat), 3) := dk_of ((dk_bind (dk_u1 (h 0 _ rfl))).trans ((dk_bind (dk_u2 (h 1 _ rfl) (h 2 _ rfl))).trans rfl))
theorem dk_198 {code : ByteArray} {pc : Nat} (a b : UInt8) (h : DkAt code pc [198, a, b]) : decode code pc = .ok (.ifnull (Reader.signed 16 (a.toNat * 256 + b.toNat)), 3) := dk_of ((dk_bind (dk_u1 (h 0 _ rfl))).trans ((dk_bind (dk_map (dk_u2 (h 1 _ rfl) (h 2 _ rfl)))).trans rfl))
theorem dk_199 {code : ByteArray} {pc : Nat} (a b : UInt8) (h : DkAt code pc [199, a, b]) : decode code pc = .ok (.ifnonnull (Reader.signed 16 (a.toNat * 256 + b.toNat)), 3) := dk_of ((dk_bind (dk_u1 (h 0 _ rfl))).trans ((dk_bind (dk_map (dk_u2 (h 1 _ rfl) (h 2 _ rfl)))).trans rfl))

theorem q91 : (Jvm.Cond.initialized "HeadReckonsLaw") ∈ lw_all := lw_g (lw_at lw_m1 0 rfl) rfl
set_option maxRecDepth 100000
theorem q138 : (Jvm.Cond.classLink "HeadReckonsLaw" (7 : Nat) "HeadReckons") ∈ lw_all := lw_g (lw_at lw_m1 47 rfl) rfl
theorem q140 : (Jvm.Cond.methodLink "HeadReckonsLaw" (9 : Nat) ({ cls := "HeadReckons", name := "<init>", desc := "()V" } : Jvm.MethodName)) ∈ lw_all := lw_g (lw_at lw_m1 49 rfl) rfl
theorem q324 : (Jvm.Cond.methodLink "HeadReckonsLaw" (13 : Nat) ({ cls := "HeadReckons", name := "feed", desc := "(II)I" } : Jvm.MethodName)) ∈ lw_all := lw_g (lw_at lw_m1 233 rfl) rfl
theorem q331 : (Jvm.Cond.methodLink "HeadReckonsLaw" (18 : Nat) ({ cls := "HeadReckons", name := "head", desc := "()I" } : Jvm.MethodName)) ∈ lw_all := lw_g (lw_at lw_m2 0 rfl) rfl
theorem q338 : (Jvm.Cond.methodLink "HeadReckonsLaw" (23 : Nat) ({ cls := "HeadReckons", name := "of", desc := "(II)I" } : Jvm.MethodName)) ∈ lw_all := lw_g (lw_at lw_m2 7 rfl) rfl
theorem q350 : (Jvm.Cond.methodLink "HeadReckonsLaw" (27 : Nat) ({ cls := "HeadReckons", name := "turn", desc := "(III)I" } : Jvm.MethodName)) ∈ lw_all := lw_g (lw_at lw_m2 19 rfl) rfl
theorem q376 : (Jvm.Cond.methodLink "HeadReckonsLaw" (130 : Nat) ({ cls := "HeadReckons", name := "undo", desc := "()I" } : Jvm.MethodName)) ∈ lw_all := lw_g (lw_at lw_m2 45 rfl) rfl
theorem q380 : (Jvm.Cond.methodLink "HeadReckonsLaw" (134 : Nat) ({ cls := "HeadReckons", name := "redo", desc := "()I" } : Jvm.MethodName)) ∈ lw_all := lw_g (lw_at lw_m2 49 rfl) rfl
theorem q384 : (Jvm.Cond.methodLink "HeadReckonsLaw" (32 : Nat) ({ cls := "HeadReckons", name := "choice", desc := "()I" } : Jvm.MethodName)) ∈ lw_all := lw_g (lw_at lw_m2 53 rfl) rfl
theorem q629 : (Jvm.Cond.methodLink "HeadReckonsLaw" (36 : Nat) ({ cls := "HeadReckons", name := "way", desc := "(III)I" } : Jvm.MethodName)) ∈ lw_all := lw_g (lw_at lw_m3 58 rfl) rfl
theorem q712 : (Jvm.Cond.methodLink "HeadReckonsLaw" (40 : Nat) ({ cls := "HeadReckons", name := "step", desc := "(IIII)I" } : Jvm.MethodName)) ∈ lw_all := lw_g (lw_at lw_m3 141 rfl) rfl
theorem q717 : (Jvm.Cond.methodLink "HeadReckonsLaw" (45 : Nat) ({ cls := "HeadReckons", name := "chosen", desc := "(II)I" } : Jvm.MethodName)) ∈ lw_all := lw_g (lw_at lw_m3 146 rfl) rfl
theorem q764 : (Jvm.Cond.methodLink "HeadReckonsLaw" (49 : Nat) ({ cls := "HeadReckons", name := "answer", desc := "(III)I" } : Jvm.MethodName)) ∈ lw_all := lw_g (lw_at lw_m3 193 rfl) rfl
theorem q778 : (Jvm.Cond.methodLink "HeadReckonsLaw" (53 : Nat) ({ cls := "HeadReckons", name := "quickest", desc := "(III)I" } : Jvm.MethodName)) ∈ lw_all := lw_g (lw_at lw_m3 207 rfl) rfl
theorem q782 : (Jvm.Cond.methodLink "HeadReckonsLaw" (57 : Nat) ({ cls := "HeadReckons", name := "table", desc := "(III)I" } : Jvm.MethodName)) ∈ lw_all := lw_g (lw_at lw_m3 211 rfl) rfl
theorem q790 : (Jvm.Cond.methodLink "HeadReckonsLaw" (61 : Nat) ({ cls := "HeadReckons", name := "see", desc := "(III)I" } : Jvm.MethodName)) ∈ lw_all := lw_g (lw_at lw_m3 219 rfl) rfl
theorem q820 : (Jvm.Cond.methodLink "HeadReckonsLaw" (65 : Nat) ({ cls := "HeadReckons", name := "asks", desc := "(III)I" } : Jvm.MethodName)) ∈ lw_all := lw_g (lw_at lw_m4 9 rfl) rfl
theorem q961 : (Jvm.Cond.methodLink "HeadReckonsLaw" (69 : Nat) ({ cls := "HeadReckons", name := "seen", desc := "(II)I" } : Jvm.MethodName)) ∈ lw_all := lw_g (lw_at lw_m4 150 rfl) rfl
theorem q973 : (Jvm.Cond.methodLink "HeadReckonsLaw" (73 : Nat) ({ cls := "HeadReckons", name := "fits", desc := "(II)I" } : Jvm.MethodName)) ∈ lw_all := lw_g (lw_at lw_m4 162 rfl) rfl
theorem q991 : (Jvm.Cond.methodLink "HeadReckonsLaw" (77 : Nat) ({ cls := "HeadReckons", name := "best", desc := "(II)I" } : Jvm.MethodName)) ∈ lw_all := lw_g (lw_at lw_m4 180 rfl) rfl
theorem q999 : (Jvm.Cond.methodLink "HeadReckonsLaw" (81 : Nat) ({ cls := "HeadReckons", name := "slip", desc := "(III)I" } : Jvm.MethodName)) ∈ lw_all := lw_g (lw_at lw_m4 188 rfl) rfl
theorem q1003 : (Jvm.Cond.methodLink "HeadReckonsLaw" (85 : Nat) ({ cls := "HeadReckons", name := "suits", desc := "(I)I" } : Jvm.MethodName)) ∈ lw_all := lw_g (lw_at lw_m4 192 rfl) rfl
theorem q1007 : (Jvm.Cond.methodLink "HeadReckonsLaw" (90 : Nat) ({ cls := "HeadReckons", name := "tell", desc := "(I)I" } : Jvm.MethodName)) ∈ lw_all := lw_g (lw_at lw_m4 196 rfl) rfl
theorem q1011 : (Jvm.Cond.methodLink "HeadReckonsLaw" (94 : Nat) ({ cls := "HeadReckons", name := "untell", desc := "()I" } : Jvm.MethodName)) ∈ lw_all := lw_g (lw_at lw_m4 200 rfl) rfl
theorem q1015 : (Jvm.Cond.methodLink "HeadReckonsLaw" (98 : Nat) ({ cls := "HeadReckons", name := "parts", desc := "(III)I" } : Jvm.MethodName)) ∈ lw_all := lw_g (lw_at lw_m4 204 rfl) rfl
theorem q1020 : (Jvm.Cond.methodLink "HeadReckonsLaw" (102 : Nat) ({ cls := "HeadReckons", name := "ask", desc := "(II)I" } : Jvm.MethodName)) ∈ lw_all := lw_g (lw_at lw_m4 209 rfl) rfl
theorem q1057 : (Jvm.Cond.methodLink "HeadReckonsLaw" (106 : Nat) ({ cls := "HeadReckons", name := "taught", desc := "(III)I" } : Jvm.MethodName)) ∈ lw_all := lw_g (lw_at lw_m5 6 rfl) rfl
theorem q1073 : (Jvm.Cond.methodLink "HeadReckonsLaw" (110 : Nat) ({ cls := "HeadReckons", name := "first", desc := "(II)I" } : Jvm.MethodName)) ∈ lw_all := lw_g (lw_at lw_m5 22 rfl) rfl
theorem q1081 : (Jvm.Cond.methodLink "HeadReckonsLaw" (116 : Nat) ({ cls := "HeadReckons", name := "root", desc := "(JI)I" } : Jvm.MethodName)) ∈ lw_all := lw_g (lw_at lw_m5 30 rfl) rfl
theorem q1103 : (Jvm.Cond.methodLink "HeadReckonsLaw" (121 : Nat) ({ cls := "HeadReckons", name := "firsts", desc := "(JII)I" } : Jvm.MethodName)) ∈ lw_all := lw_g (lw_at lw_m5 52 rfl) rfl
theorem q1115 : (Jvm.Cond.methodLink "HeadReckonsLaw" (126 : Nat) ({ cls := "HeadReckons", name := "enough", desc := "(JI)I" } : Jvm.MethodName)) ∈ lw_all := lw_g (lw_at lw_m5 64 rfl) rfl
theorem q1119 : (Jvm.Cond.methodLink "HeadReckonsLaw" (138 : Nat) ({ cls := "HeadReckons", name := "body", desc := "(I)I" } : Jvm.MethodName)) ∈ lw_all := lw_g (lw_at lw_m5 68 rfl) rfl
theorem q1229 : (Jvm.Cond.methodLink "HeadReckonsLaw" (142 : Nat) ({ cls := "HeadReckons", name := "act", desc := "(III)I" } : Jvm.MethodName)) ∈ lw_all := lw_g (lw_at lw_m5 178 rfl) rfl
theorem q1380 : (Jvm.Cond.methodLink "HeadReckonsLaw" (146 : Nat) ({ cls := "HeadReckons", name := "trace", desc := "(I)I" } : Jvm.MethodName)) ∈ lw_all := lw_g (lw_at lw_m6 89 rfl) rfl
theorem q1384 : (Jvm.Cond.methodLink "HeadReckonsLaw" (150 : Nat) ({ cls := "HeadReckons", name := "keep", desc := "(II)I" } : Jvm.MethodName)) ∈ lw_all := lw_g (lw_at lw_m6 93 rfl) rfl
theorem q1388 : (Jvm.Cond.methodLink "HeadReckonsLaw" (154 : Nat) ({ cls := "HeadReckons", name := "row", desc := "(III)I" } : Jvm.MethodName)) ∈ lw_all := lw_g (lw_at lw_m6 97 rfl) rfl
theorem q1463 : (Jvm.Cond.methodLink "HeadReckonsLaw" (158 : Nat) ({ cls := "HeadReckons", name := "put", desc := "(IIJ)I" } : Jvm.MethodName)) ∈ lw_all := lw_g (lw_at lw_m6 172 rfl) rfl
theorem q1486 : (Jvm.Cond.methodLink "HeadReckonsLaw" (163 : Nat) ({ cls := "HeadReckons", name := "element", desc := "(II)J" } : Jvm.MethodName)) ∈ lw_all := lw_g (lw_at lw_m6 195 rfl) rfl
theorem q1507 : (Jvm.Cond.methodLink "HeadReckonsLaw" (168 : Nat) ({ cls := "HeadReckons", name := "shift", desc := "(IIIII)I" } : Jvm.MethodName)) ∈ lw_all := lw_g (lw_at lw_m6 216 rfl) rfl
theorem q1541 : (Jvm.Cond.methodLink "HeadReckonsLaw" (173 : Nat) ({ cls := "HeadReckons", name := "taken", desc := "(II)I" } : Jvm.MethodName)) ∈ lw_all := lw_g (lw_at lw_m7 10 rfl) rfl
theorem q1593 : (Jvm.Cond.methodLink "HeadReckonsLaw" (177 : Nat) ({ cls := "HeadReckons", name := "count", desc := "(I)I" } : Jvm.MethodName)) ∈ lw_all := lw_g (lw_at lw_m7 62 rfl) rfl
theorem q1597 : (Jvm.Cond.classLink "HeadReckonsLaw" (10 : Nat) "HeadReckonsModel") ∈ lw_all := lw_g (lw_at lw_m7 66 rfl) rfl
theorem q1599 : (Jvm.Cond.methodLink "HeadReckonsLaw" (12 : Nat) ({ cls := "HeadReckonsModel", name := "<init>", desc := "()V" } : Jvm.MethodName)) ∈ lw_all := lw_g (lw_at lw_m7 68 rfl) rfl
theorem q1769 : (Jvm.Cond.methodLink "HeadReckonsLaw" (133 : Nat) ({ cls := "HeadReckonsModel", name := "undo", desc := "()I" } : Jvm.MethodName)) ∈ lw_all := lw_g (lw_at lw_m7 238 rfl) rfl
theorem q1773 : (Jvm.Cond.methodLink "HeadReckonsLaw" (137 : Nat) ({ cls := "HeadReckonsModel", name := "redo", desc := "()I" } : Jvm.MethodName)) ∈ lw_all := lw_g (lw_at lw_m8 2 rfl) rfl
theorem q1777 : (Jvm.Cond.methodLink "HeadReckonsLaw" (17 : Nat) ({ cls := "HeadReckonsModel", name := "feed", desc := "(II)I" } : Jvm.MethodName)) ∈ lw_all := lw_g (lw_at lw_m8 6 rfl) rfl
theorem q1785 : (Jvm.Cond.methodLink "HeadReckonsLaw" (35 : Nat) ({ cls := "HeadReckonsModel", name := "choice", desc := "()I" } : Jvm.MethodName)) ∈ lw_all := lw_g (lw_at lw_m8 14 rfl) rfl
theorem q1832 : (Jvm.Cond.methodLink "HeadReckonsLaw" (22 : Nat) ({ cls := "HeadReckonsModel", name := "head", desc := "()I" } : Jvm.MethodName)) ∈ lw_all := lw_g (lw_at lw_m8 61 rfl) rfl
theorem q1846 : (Jvm.Cond.methodLink "HeadReckonsLaw" (26 : Nat) ({ cls := "HeadReckonsModel", name := "of", desc := "(II)I" } : Jvm.MethodName)) ∈ lw_all := lw_g (lw_at lw_m8 75 rfl) rfl
theorem q1858 : (Jvm.Cond.methodLink "HeadReckonsLaw" (31 : Nat) ({ cls := "HeadReckonsModel", name := "turn", desc := "(III)I" } : Jvm.MethodName)) ∈ lw_all := lw_g (lw_at lw_m8 87 rfl) rfl
theorem q1866 : (Jvm.Cond.methodLink "HeadReckonsLaw" (105 : Nat) ({ cls := "HeadReckonsModel", name := "ask", desc := "(II)I" } : Jvm.MethodName)) ∈ lw_all := lw_g (lw_at lw_m8 95 rfl) rfl
theorem q1888 : (Jvm.Cond.methodLink "HeadReckonsLaw" (39 : Nat) ({ cls := "HeadReckonsModel", name := "way", desc := "(III)I" } : Jvm.MethodName)) ∈ lw_all := lw_g (lw_at lw_m8 117 rfl) rfl
theorem q1961 : (Jvm.Cond.methodLink "HeadReckonsLaw" (44 : Nat) ({ cls := "HeadReckonsModel", name := "step", desc := "(IIII)I" } : Jvm.MethodName)) ∈ lw_all := lw_g (lw_at lw_m8 190 rfl) rfl
theorem q1967 : (Jvm.Cond.methodLink "HeadReckonsLaw" (48 : Nat) ({ cls := "HeadReckonsModel", name := "chosen", desc := "(II)I" } : Jvm.MethodName)) ∈ lw_all := lw_g (lw_at lw_m8 196 rfl) rfl
theorem q1979 : (Jvm.Cond.methodLink "HeadReckonsLaw" (52 : Nat) ({ cls := "HeadReckonsModel", name := "answer", desc := "(III)I" } : Jvm.MethodName)) ∈ lw_all := lw_g (lw_at lw_m8 208 rfl) rfl
theorem q1984 : (Jvm.Cond.methodLink "HeadReckonsLaw" (56 : Nat) ({ cls := "HeadReckonsModel", name := "quickest", desc := "(III)I" } : Jvm.MethodName)) ∈ lw_all := lw_g (lw_at lw_m8 213 rfl) rfl
theorem q1988 : (Jvm.Cond.methodLink "HeadReckonsLaw" (60 : Nat) ({ cls := "HeadReckonsModel", name := "table", desc := "(III)I" } : Jvm.MethodName)) ∈ lw_all := lw_g (lw_at lw_m8 217 rfl) rfl
theorem q1992 : (Jvm.Cond.methodLink "HeadReckonsLaw" (64 : Nat) ({ cls := "HeadReckonsModel", name := "see", desc := "(III)I" } : Jvm.MethodName)) ∈ lw_all := lw_g (lw_at lw_m8 221 rfl) rfl
theorem q1998 : (Jvm.Cond.methodLink "HeadReckonsLaw" (68 : Nat) ({ cls := "HeadReckonsModel", name := "asks", desc := "(III)I" } : Jvm.MethodName)) ∈ lw_all := lw_g (lw_at lw_m8 227 rfl) rfl
theorem q2008 : (Jvm.Cond.methodLink "HeadReckonsLaw" (72 : Nat) ({ cls := "HeadReckonsModel", name := "seen", desc := "(II)I" } : Jvm.MethodName)) ∈ lw_all := lw_g (lw_at lw_m8 237 rfl) rfl
theorem q2016 : (Jvm.Cond.methodLink "HeadReckonsLaw" (76 : Nat) ({ cls := "HeadReckonsModel", name := "fits", desc := "(II)I" } : Jvm.MethodName)) ∈ lw_all := lw_g (lw_at lw_m9 5 rfl) rfl
theorem q2032 : (Jvm.Cond.methodLink "HeadReckonsLaw" (80 : Nat) ({ cls := "HeadReckonsModel", name := "best", desc := "(II)I" } : Jvm.MethodName)) ∈ lw_all := lw_g (lw_at lw_m9 21 rfl) rfl
theorem q2040 : (Jvm.Cond.methodLink "HeadReckonsLaw" (84 : Nat) ({ cls := "HeadReckonsModel", name := "slip", desc := "(III)I" } : Jvm.MethodName)) ∈ lw_all := lw_g (lw_at lw_m9 29 rfl) rfl
theorem q2044 : (Jvm.Cond.methodLink "HeadReckonsLaw" (89 : Nat) ({ cls := "HeadReckonsModel", name := "suits", desc := "(I)I" } : Jvm.MethodName)) ∈ lw_all := lw_g (lw_at lw_m9 33 rfl) rfl
theorem q2048 : (Jvm.Cond.methodLink "HeadReckonsLaw" (93 : Nat) ({ cls := "HeadReckonsModel", name := "tell", desc := "(I)I" } : Jvm.MethodName)) ∈ lw_all := lw_g (lw_at lw_m9 37 rfl) rfl
theorem q2052 : (Jvm.Cond.methodLink "HeadReckonsLaw" (97 : Nat) ({ cls := "HeadReckonsModel", name := "untell", desc := "()I" } : Jvm.MethodName)) ∈ lw_all := lw_g (lw_at lw_m9 41 rfl) rfl
theorem q2056 : (Jvm.Cond.methodLink "HeadReckonsLaw" (101 : Nat) ({ cls := "HeadReckonsModel", name := "parts", desc := "(III)I" } : Jvm.MethodName)) ∈ lw_all := lw_g (lw_at lw_m9 45 rfl) rfl
theorem q2061 : (Jvm.Cond.methodLink "HeadReckonsLaw" (109 : Nat) ({ cls := "HeadReckonsModel", name := "taught", desc := "(III)I" } : Jvm.MethodName)) ∈ lw_all := lw_g (lw_at lw_m9 50 rfl) rfl
theorem q2082 : (Jvm.Cond.methodLink "HeadReckonsLaw" (113 : Nat) ({ cls := "HeadReckonsModel", name := "first", desc := "(II)I" } : Jvm.MethodName)) ∈ lw_all := lw_g (lw_at lw_m9 71 rfl) rfl
theorem q2090 : (Jvm.Cond.methodLink "HeadReckonsLaw" (120 : Nat) ({ cls := "HeadReckonsModel", name := "root", desc := "(JI)I" } : Jvm.MethodName)) ∈ lw_all := lw_g (lw_at lw_m9 79 rfl) rfl
theorem q2112 : (Jvm.Cond.methodLink "HeadReckonsLaw" (125 : Nat) ({ cls := "HeadReckonsModel", name := "firsts", desc := "(JII)I" } : Jvm.MethodName)) ∈ lw_all := lw_g (lw_at lw_m9 101 rfl) rfl
theorem q2130 : (Jvm.Cond.methodLink "HeadReckonsLaw" (129 : Nat) ({ cls := "HeadReckonsModel", name := "enough", desc := "(JI)I" } : Jvm.MethodName)) ∈ lw_all := lw_g (lw_at lw_m9 119 rfl) rfl
theorem q2134 : (Jvm.Cond.methodLink "HeadReckonsLaw" (141 : Nat) ({ cls := "HeadReckonsModel", name := "body", desc := "(I)I" } : Jvm.MethodName)) ∈ lw_all := lw_g (lw_at lw_m9 123 rfl) rfl
theorem q2139 : (Jvm.Cond.methodLink "HeadReckonsLaw" (145 : Nat) ({ cls := "HeadReckonsModel", name := "act", desc := "(III)I" } : Jvm.MethodName)) ∈ lw_all := lw_g (lw_at lw_m9 128 rfl) rfl
theorem q2167 : (Jvm.Cond.methodLink "HeadReckonsLaw" (149 : Nat) ({ cls := "HeadReckonsModel", name := "trace", desc := "(I)I" } : Jvm.MethodName)) ∈ lw_all := lw_g (lw_at lw_m9 156 rfl) rfl
theorem q2171 : (Jvm.Cond.methodLink "HeadReckonsLaw" (153 : Nat) ({ cls := "HeadReckonsModel", name := "keep", desc := "(II)I" } : Jvm.MethodName)) ∈ lw_all := lw_g (lw_at lw_m9 160 rfl) rfl
theorem q2175 : (Jvm.Cond.methodLink "HeadReckonsLaw" (157 : Nat) ({ cls := "HeadReckonsModel", name := "row", desc := "(III)I" } : Jvm.MethodName)) ∈ lw_all := lw_g (lw_at lw_m9 164 rfl) rfl
theorem q2179 : (Jvm.Cond.methodLink "HeadReckonsLaw" (162 : Nat) ({ cls := "HeadReckonsModel", name := "put", desc := "(IIJ)I" } : Jvm.MethodName)) ∈ lw_all := lw_g (lw_at lw_m9 168 rfl) rfl
theorem q2190 : (Jvm.Cond.methodLink "HeadReckonsLaw" (167 : Nat) ({ cls := "HeadReckonsModel", name := "element", desc := "(II)J" } : Jvm.MethodName)) ∈ lw_all := lw_g (lw_at lw_m9 179 rfl) rfl
theorem q2195 : (Jvm.Cond.methodLink "HeadReckonsLaw" (172 : Nat) ({ cls := "HeadReckonsModel", name := "shift", desc := "(IIIII)I" } : Jvm.MethodName)) ∈ lw_all := lw_g (lw_at lw_m9 184 rfl) rfl
theorem q2199 : (Jvm.Cond.methodLink "HeadReckonsLaw" (176 : Nat) ({ cls := "HeadReckonsModel", name := "taken", desc := "(II)I" } : Jvm.MethodName)) ∈ lw_all := lw_g (lw_at lw_m9 188 rfl) rfl
theorem q2210 : (Jvm.Cond.methodLink "HeadReckonsLaw" (180 : Nat) ({ cls := "HeadReckonsModel", name := "count", desc := "(I)I" } : Jvm.MethodName)) ∈ lw_all := lw_g (lw_at lw_m9 199 rfl) rfl
theorem q2214 : (Jvm.Cond.constantLong "HeadReckonsLaw" (114 : Nat) (4294967295 : Int64)) ∈ lw_all := lw_g (lw_at lw_m9 203 rfl) rfl

theorem q1239 : (Jvm.Cond.interfaceMethod "HeadReckons$Costs" "HeadReckons$Costs" "costs" "(I)I") ∈ lw_tbl := lw_at lw_m5 188 rfl
set_option maxRecDepth 100000
theorem q1240 : (Jvm.Cond.declares ({ cls := "HeadReckons$Costs", name := "costs", desc := "(I)I" } : Jvm.MethodName)) ∈ lw_tbl := lw_at lw_m5 189 rfl

theorem q1284 : (Jvm.Cond.interfaceMethod "HeadReckons$Tells" "HeadReckons$Tells" "tells" "(I)I") ∈ lw_tbl := lw_at lw_m5 233 rfl
set_option maxRecDepth 100000
theorem q1285 : (Jvm.Cond.declares ({ cls := "HeadReckons$Tells", name := "tells", desc := "(I)I" } : Jvm.MethodName)) ∈ lw_tbl := lw_at lw_m5 234 rfl

theorem q137 : (Jvm.Cond.initialized "java/lang/System") ∈ lw_all := lw_g (lw_at lw_m1 46 rfl) rfl
set_option maxRecDepth 100000
theorem q1519 : (Jvm.Cond.static ({ cls := "java/lang/System", name := "arraycopy", desc := "(Ljava/lang/Object;ILjava/lang/Object;II)V" } : Jvm.MethodName)) ∈ lw_all := lw_g (lw_at lw_m6 228 rfl) rfl
theorem q1520 : (Jvm.Cond.native ({ cls := "java/lang/System", name := "arraycopy", desc := "(Ljava/lang/Object;ILjava/lang/Object;II)V" } : Jvm.MethodName)) ∈ lw_all := lw_g (lw_at lw_m6 229 rfl) rfl

theorem q147 : (Jvm.Cond.arrayOver (Jvm.ClassFile.FieldType.object "HeadReckons$Head")) ∈ lw_tbl := lw_at lw_m1 56 rfl
set_option maxRecDepth 100000
theorem q149 : (Jvm.Cond.arrayOver (Jvm.ClassFile.FieldType.object "HeadReckons$Change")) ∈ lw_tbl := lw_at lw_m1 58 rfl
theorem q162 : (Jvm.Cond.arrayClass Jvm.ClassFile.FieldType.byte) ∈ lw_all := lw_g (lw_at lw_m1 71 rfl) rfl
theorem q163 : (Jvm.Cond.arrayClass Jvm.ClassFile.FieldType.int) ∈ lw_all := lw_g (lw_at lw_m1 72 rfl) rfl
theorem q226 : (Jvm.Cond.arrayClass Jvm.ClassFile.FieldType.long) ∈ lw_all := lw_g (lw_at lw_m1 135 rfl) rfl
theorem q228 : (Jvm.Cond.arrayOver (Jvm.ClassFile.FieldType.object "HeadReckons$Seen")) ∈ lw_tbl := lw_at lw_m1 137 rfl
theorem q235 : (Jvm.Cond.arrayOver (Jvm.ClassFile.FieldType.object "HeadReckons$Learnt")) ∈ lw_tbl := lw_at lw_m1 144 rfl
theorem q249 : (Jvm.Cond.arrayOver (Jvm.ClassFile.FieldType.object "HeadReckons$Way")) ∈ lw_tbl := lw_at lw_m1 158 rfl
theorem q251 : (Jvm.Cond.arrayOver (Jvm.ClassFile.FieldType.object "HeadReckons$Held")) ∈ lw_tbl := lw_at lw_m1 160 rfl
theorem q1432 : (Jvm.Cond.arrayClass Jvm.ClassFile.FieldType.short) ∈ lw_all := lw_g (lw_at lw_m6 141 rfl) rfl
theorem q1462 : (Jvm.Cond.arrayClass Jvm.ClassFile.FieldType.boolean) ∈ lw_all := lw_g (lw_at lw_m6 171 rfl) rfl

/-! HeadReckons$Facts -/
set_option maxRecDepth 100000
def RX1 : String := "HeadReckons$Facts"
def TX1 : u_T := fun k => match k with
  | _ => ("HeadReckons$Facts", "named", "[I", true)
def tyX1 : Nat → FieldType := fun k => match k with
  | _ => .array .int
abbrev wsX10 : List Cond := u_ws RX1 TX1 1
theorem nmX1 : ∀ a, a < 1 → ∀ b, b < 1 → a ≠ b → (TX1 a).2.1 ≠ (TX1 b).2.1 := by decide +kernel
theorem tyX1_ok : ∀ k, k < 1 → parseFieldDescriptor (TX1 k).2.2.1 = some (tyX1 k) := by decide +kernel
abbrev cX1_init : ByteArray := prog_12_method_1_code
def yX1_init : MethodName := ⟨RX1, "<init>", "()V"⟩
def dkwX1_init_0 : List UInt8 := [42, 183, 0, 1, 42, 17, 0, 128, 188, 10, 181, 0, 7, 177]
abbrev dktX1_init_0 : List UInt8 := dkwX1_init_0 ++ []
theorem dksX1_init_0 : cX1_init.data.toList.drop 0 = dktX1_init_0 := by decide +kernel
theorem dX1_init_0 : decode cX1_init 0 = .ok (.aload_n 0, 1) := dk_42 (dk_at dksX1_init_0 0 rfl rfl)
theorem dX1_init_1 : decode cX1_init 1 = .ok (.invokespecial 1, 3) := dk_183 0 1 (dk_at dksX1_init_0 1 rfl rfl)
theorem dX1_init_4 : decode cX1_init 4 = .ok (.aload_n 0, 1) := dk_42 (dk_at dksX1_init_0 4 rfl rfl)
theorem dX1_init_5 : decode cX1_init 5 = .ok (.sipush 128, 3) := dk_17 0 128 (dk_at dksX1_init_0 5 rfl rfl)
theorem dX1_init_8 : decode cX1_init 8 = .ok (.newarray .int, 2) := dk_188_10 (dk_at dksX1_init_0 8 rfl rfl)
theorem dX1_init_10 : decode cX1_init 10 = .ok (.putfield 7, 3) := dk_181 0 7 (dk_at dksX1_init_0 10 rfl rfl)
theorem dX1_init_13 : decode cX1_init 13 = .ok (.return_, 1) := dk_177 (dk_at dksX1_init_0 13 rfl rfl)
abbrev cX1_clear : ByteArray := prog_12_method_2_code
def yX1_clear : MethodName := ⟨RX1, "clear", "()V"⟩
def dkwX1_clear_1 : List UInt8 := [177]
abbrev dktX1_clear_1 : List UInt8 := dkwX1_clear_1 ++ []
def dkwX1_clear_0 : List UInt8 := [3, 60, 27, 42, 180, 0, 7, 190, 162, 0, 16, 42, 180, 0, 7, 27, 3, 79, 132, 1, 1, 167, 255, 237]
abbrev dktX1_clear_0 : List UInt8 := dkwX1_clear_0 ++ dktX1_clear_1
theorem dksX1_clear_0 : cX1_clear.data.toList.drop 0 = dktX1_clear_0 := by decide +kernel
theorem dksX1_clear_1 : cX1_clear.data.toList.drop 24 = dktX1_clear_1 := dk_seg dksX1_clear_0 24 rfl rfl
theorem dX1_clear_0 : decode cX1_clear 0 = .ok (.iconst 0, 1) := dk_3 (dk_at dksX1_clear_0 0 rfl rfl)
theorem dX1_clear_1 : decode cX1_clear 1 = .ok (.istore_n 1, 1) := dk_60 (dk_at dksX1_clear_0 1 rfl rfl)
theorem dX1_clear_2 : decode cX1_clear 2 = .ok (.iload_n 1, 1) := dk_27 (dk_at dksX1_clear_0 2 rfl rfl)
theorem dX1_clear_3 : decode cX1_clear 3 = .ok (.aload_n 0, 1) := dk_42 (dk_at dksX1_clear_0 3 rfl rfl)
theorem dX1_clear_4 : decode cX1_clear 4 = .ok (.getfield 7, 3) := dk_180 0 7 (dk_at dksX1_clear_0 4 rfl rfl)
theorem dX1_clear_7 : decode cX1_clear 7 = .ok (.arraylength, 1) := dk_190 (dk_at dksX1_clear_0 7 rfl rfl)
theorem dX1_clear_8 : decode cX1_clear 8 = .ok (.if_icmp .ge 16, 3) := dk_162 0 16 (dk_at dksX1_clear_0 8 rfl rfl)
theorem dX1_clear_11 : decode cX1_clear 11 = .ok (.aload_n 0, 1) := dk_42 (dk_at dksX1_clear_0 11 rfl rfl)
theorem dX1_clear_12 : decode cX1_clear 12 = .ok (.getfield 7, 3) := dk_180 0 7 (dk_at dksX1_clear_0 12 rfl rfl)
theorem dX1_clear_15 : decode cX1_clear 15 = .ok (.iload_n 1, 1) := dk_27 (dk_at dksX1_clear_0 15 rfl rfl)
theorem dX1_clear_16 : decode cX1_clear 16 = .ok (.iconst 0, 1) := dk_3 (dk_at dksX1_clear_0 16 rfl rfl)
theorem dX1_clear_17 : decode cX1_clear 17 = .ok (.iastore, 1) := dk_79 (dk_at dksX1_clear_0 17 rfl rfl)
theorem dX1_clear_18 : decode cX1_clear 18 = .ok (.iinc 1 1, 3) := dk_132 1 1 (dk_at dksX1_clear_0 18 rfl rfl)
theorem dX1_clear_21 : decode cX1_clear 21 = .ok (.goto (-19), 3) := dk_167 255 237 (dk_at dksX1_clear_0 21 rfl rfl)
theorem dX1_clear_24 : decode cX1_clear 24 = .ok (.return_, 1) := dk_177 (dk_at dksX1_clear_1 0 rfl rfl)
theorem q93 : (Jvm.Cond.initialized "HeadReckons$Facts") ∈ lw_all := lw_g (lw_at lw_m1 2 rfl) rfl
theorem q151 : (Jvm.Cond.instantiable "HeadReckons$Facts" (1 : Nat)) ∈ lw_all := lw_g (lw_at lw_m1 60 rfl) rfl
theorem q153 : (Jvm.Cond.instanceMethod ({ cls := "HeadReckons$Facts", name := "<init>", desc := "()V" } : Jvm.MethodName)) ∈ lw_all := lw_g (lw_at lw_m1 62 rfl) rfl
theorem q154 : (Jvm.Cond.code ({ cls := "HeadReckons$Facts", name := "<init>", desc := "()V" } : Jvm.MethodName) prog_12_method_1_code (1 : Nat) (Option.none : Option Jvm.ClassFile.FieldType)) ∈ lw_all := lw_g (lw_at lw_m1 63 rfl) rfl
theorem q155 : (Jvm.Cond.methodLink "HeadReckons$Facts" (1 : Nat) ({ cls := "java/lang/Object", name := "<init>", desc := "()V" } : Jvm.MethodName)) ∈ lw_all := lw_g (lw_at lw_m1 64 rfl) rfl
theorem q156 : (Jvm.Cond.fieldLink "HeadReckons$Facts" (7 : Nat) "HeadReckons$Facts" "named" "[I") ∈ lw_all := lw_g (lw_at lw_m1 65 rfl) rfl
theorem q159 : (Jvm.Cond.laysFinal "HeadReckons$Facts" "HeadReckons$Facts" "named" "[I") ∈ lw_all := lw_g (lw_at lw_m1 68 rfl) rfl
theorem q160 : (Jvm.Cond.soleField "HeadReckons$Facts" "named") ∈ lw_all := lw_g (lw_at lw_m1 69 rfl) rfl
theorem q161 : (Jvm.Cond.superclass "HeadReckons$Facts" "java/lang/Object") ∈ lw_all := lw_g (lw_at lw_m1 70 rfl) rfl
theorem q726 : (Jvm.Cond.instanceMethod ({ cls := "HeadReckons$Facts", name := "clear", desc := "()V" } : Jvm.MethodName)) ∈ lw_all := lw_g (lw_at lw_m3 155 rfl) rfl
theorem q727 : (Jvm.Cond.selects "HeadReckons$Facts" ({ cls := "HeadReckons$Facts", name := "clear", desc := "()V" } : Jvm.MethodName) ({ cls := "HeadReckons$Facts", name := "clear", desc := "()V" } : Jvm.MethodName)) ∈ lw_all := lw_g (lw_at lw_m3 156 rfl) rfl
theorem q728 : (Jvm.Cond.code ({ cls := "HeadReckons$Facts", name := "clear", desc := "()V" } : Jvm.MethodName) prog_12_method_2_code (2 : Nat) (Option.none : Option Jvm.ClassFile.FieldType)) ∈ lw_all := lw_g (lw_at lw_m3 157 rfl) rfl
theorem in_X1 : ∀ w ∈ wsX10, w ∈ lw_all := lw_in wsX10 [159] (by decide +kernel) (by decide +kernel)

/-! HeadReckons$Acts -/
set_option maxRecDepth 100000
def RX2 : String := "HeadReckons$Acts"
def TX2 : u_T := fun k => match k with
  | 0 => ("HeadReckons$Acts", "sort", "[I", true)
  | 1 => ("HeadReckons$Acts", "length", "[I", true)
  | 2 => ("HeadReckons$Acts", "held", "[I", true)
  | 3 => ("HeadReckons$Acts", "makes", "[J", true)
  | 4 => ("HeadReckons$Acts", "slips", "[J", true)
  | 5 => ("HeadReckons$Acts", "scales", "[J", true)
  | 6 => ("HeadReckons$Acts", "many", "I", false)
  | 7 => ("HeadReckons$Acts", "kept", "I", false)
  | 8 => ("HeadReckons$Acts", "seconds", "I", false)
  | 9 => ("HeadReckons$Acts", "most", "I", false)
  | 10 => ("HeadReckons$Acts", "running", "J", false)
  | 11 => ("HeadReckons$Acts", "scale", "J", false)
  | 12 => ("HeadReckons$Acts", "isFirst", "Z", false)
  | 13 => ("HeadReckons$Acts", "head", "LHeadReckons$Head;", false)
  | 14 => ("HeadReckons$Acts", "rows", "[J", true)
  | _ => ("HeadReckons$Acts", "this$0", "LHeadReckons;", true)
def tyX2 : Nat → FieldType := fun k => match k with
  | 0 => .array .int
  | 1 => .array .int
  | 2 => .array .int
  | 3 => .array .long
  | 4 => .array .long
  | 5 => .array .long
  | 6 => .int
  | 7 => .int
  | 8 => .int
  | 9 => .int
  | 10 => .long
  | 11 => .long
  | 12 => .boolean
  | 13 => .object "HeadReckons$Head"
  | 14 => .array .long
  | _ => .object "HeadReckons"
abbrev wsX20 : List Cond := u_ws RX2 TX2 16
set_option maxRecDepth 100000 in
theorem nmX2 : ∀ a, a < 16 → ∀ b, b < 16 → a ≠ b → (TX2 a).2.1 ≠ (TX2 b).2.1 := by decide +kernel
set_option maxRecDepth 100000 in
theorem tyX2_ok : ∀ k, k < 16 → parseFieldDescriptor (TX2 k).2.2.1 = some (tyX2 k) := by decide +kernel
abbrev cX2_init : ByteArray := prog_2_method_1_code
def yX2_init : MethodName := ⟨RX2, "<init>", "(LHeadReckons;)V"⟩
def dkwX2_init_2 : List UInt8 := [181, 0, 29, 42, 16, 120, 188, 11, 181, 0, 32, 42, 16, 6, 188, 11, 181, 0, 35, 177]
abbrev dktX2_init_2 : List UInt8 := dkwX2_init_2 ++ []
def dkwX2_init_1 : List UInt8 := [181, 0, 19, 42, 16, 120, 188, 10, 181, 0, 22, 42, 16, 120, 188, 11, 181, 0, 25, 42, 16, 120, 188, 11]
abbrev dktX2_init_1 : List UInt8 := dkwX2_init_1 ++ dktX2_init_2
def dkwX2_init_0 : List UInt8 := [42, 43, 181, 0, 3, 42, 183, 0, 9, 42, 16, 120, 188, 10, 181, 0, 15, 42, 16, 120, 188, 10]
abbrev dktX2_init_0 : List UInt8 := dkwX2_init_0 ++ dktX2_init_1
theorem dksX2_init_0 : cX2_init.data.toList.drop 0 = dktX2_init_0 := by decide +kernel
theorem dksX2_init_1 : cX2_init.data.toList.drop 22 = dktX2_init_1 := dk_seg dksX2_init_0 22 rfl rfl
theorem dksX2_init_2 : cX2_init.data.toList.drop 46 = dktX2_init_2 := dk_seg dksX2_init_1 24 rfl rfl
theorem dX2_init_0 : decode cX2_init 0 = .ok (.aload_n 0, 1) := dk_42 (dk_at dksX2_init_0 0 rfl rfl)
theorem dX2_init_1 : decode cX2_init 1 = .ok (.aload_n 1, 1) := dk_43 (dk_at dksX2_init_0 1 rfl rfl)
theorem dX2_init_2 : decode cX2_init 2 = .ok (.putfield 3, 3) := dk_181 0 3 (dk_at dksX2_init_0 2 rfl rfl)
theorem dX2_init_5 : decode cX2_init 5 = .ok (.aload_n 0, 1) := dk_42 (dk_at dksX2_init_0 5 rfl rfl)
theorem dX2_init_6 : decode cX2_init 6 = .ok (.invokespecial 9, 3) := dk_183 0 9 (dk_at dksX2_init_0 6 rfl rfl)
theorem dX2_init_9 : decode cX2_init 9 = .ok (.aload_n 0, 1) := dk_42 (dk_at dksX2_init_0 9 rfl rfl)
theorem dX2_init_10 : decode cX2_init 10 = .ok (.bipush 120, 2) := dk_16 120 (dk_at dksX2_init_0 10 rfl rfl)
theorem dX2_init_12 : decode cX2_init 12 = .ok (.newarray .int, 2) := dk_188_10 (dk_at dksX2_init_0 12 rfl rfl)
theorem dX2_init_14 : decode cX2_init 14 = .ok (.putfield 15, 3) := dk_181 0 15 (dk_at dksX2_init_0 14 rfl rfl)
theorem dX2_init_17 : decode cX2_init 17 = .ok (.aload_n 0, 1) := dk_42 (dk_at dksX2_init_0 17 rfl rfl)
theorem dX2_init_18 : decode cX2_init 18 = .ok (.bipush 120, 2) := dk_16 120 (dk_at dksX2_init_0 18 rfl rfl)
theorem dX2_init_20 : decode cX2_init 20 = .ok (.newarray .int, 2) := dk_188_10 (dk_at dksX2_init_0 20 rfl rfl)
theorem dX2_init_22 : decode cX2_init 22 = .ok (.putfield 19, 3) := dk_181 0 19 (dk_at dksX2_init_1 0 rfl rfl)
theorem dX2_init_25 : decode cX2_init 25 = .ok (.aload_n 0, 1) := dk_42 (dk_at dksX2_init_1 3 rfl rfl)
theorem dX2_init_26 : decode cX2_init 26 = .ok (.bipush 120, 2) := dk_16 120 (dk_at dksX2_init_1 4 rfl rfl)
theorem dX2_init_28 : decode cX2_init 28 = .ok (.newarray .int, 2) := dk_188_10 (dk_at dksX2_init_1 6 rfl rfl)
theorem dX2_init_30 : decode cX2_init 30 = .ok (.putfield 22, 3) := dk_181 0 22 (dk_at dksX2_init_1 8 rfl rfl)
theorem dX2_init_33 : decode cX2_init 33 = .ok (.aload_n 0, 1) := dk_42 (dk_at dksX2_init_1 11 rfl rfl)
theorem dX2_init_34 : decode cX2_init 34 = .ok (.bipush 120, 2) := dk_16 120 (dk_at dksX2_init_1 12 rfl rfl)
theorem dX2_init_36 : decode cX2_init 36 = .ok (.newarray .long, 2) := dk_188_11 (dk_at dksX2_init_1 14 rfl rfl)
theorem dX2_init_38 : decode cX2_init 38 = .ok (.putfield 25, 3) := dk_181 0 25 (dk_at dksX2_init_1 16 rfl rfl)
theorem dX2_init_41 : decode cX2_init 41 = .ok (.aload_n 0, 1) := dk_42 (dk_at dksX2_init_1 19 rfl rfl)
theorem dX2_init_42 : decode cX2_init 42 = .ok (.bipush 120, 2) := dk_16 120 (dk_at dksX2_init_1 20 rfl rfl)
theorem dX2_init_44 : decode cX2_init 44 = .ok (.newarray .long, 2) := dk_188_11 (dk_at dksX2_init_1 22 rfl rfl)
theorem dX2_init_46 : decode cX2_init 46 = .ok (.putfield 29, 3) := dk_181 0 29 (dk_at dksX2_init_2 0 rfl rfl)
theorem dX2_init_49 : decode cX2_init 49 = .ok (.aload_n 0, 1) := dk_42 (dk_at dksX2_init_2 3 rfl rfl)
theorem dX2_init_50 : decode cX2_init 50 = .ok (.bipush 120, 2) := dk_16 120 (dk_at dksX2_init_2 4 rfl rfl)
theorem dX2_init_52 : decode cX2_init 52 = .ok (.newarray .long, 2) := dk_188_11 (dk_at dksX2_init_2 6 rfl rfl)
theorem dX2_init_54 : decode cX2_init 54 = .ok (.putfield 32, 3) := dk_181 0 32 (dk_at dksX2_init_2 8 rfl rfl)
theorem dX2_init_57 : decode cX2_init 57 = .ok (.aload_n 0, 1) := dk_42 (dk_at dksX2_init_2 11 rfl rfl)
theorem dX2_init_58 : decode cX2_init 58 = .ok (.bipush 6, 2) := dk_16 6 (dk_at dksX2_init_2 12 rfl rfl)
theorem dX2_init_60 : decode cX2_init 60 = .ok (.newarray .long, 2) := dk_188_11 (dk_at dksX2_init_2 14 rfl rfl)
theorem dX2_init_62 : decode cX2_init 62 = .ok (.putfield 35, 3) := dk_181 0 35 (dk_at dksX2_init_2 16 rfl rfl)
theorem dX2_init_65 : decode cX2_init 65 = .ok (.return_, 1) := dk_177 (dk_at dksX2_init_2 19 rfl rfl)
abbrev cX2_lay : ByteArray := prog_2_method_2_code
def yX2_lay : MethodName := ⟨RX2, "lay", "(LHeadReckons$Head;III)Z"⟩
def dkwX2_lay_6 : List UInt8 := [133, 182, 0, 86, 172, 42, 21, 4, 133, 29, 133, 182, 0, 76, 4, 172]
abbrev dktX2_lay_6 : List UInt8 := dkwX2_lay_6 ++ []
def dkwX2_lay_5 : List UInt8 := [133, 21, 4, 133, 182, 0, 79, 4, 172, 42, 29, 133, 21, 4, 133, 182, 0, 82, 172, 42, 29, 133, 21, 4]
abbrev dktX2_lay_5 : List UInt8 := dkwX2_lay_5 ++ dktX2_lay_6
def dkwX2_lay_4 : List UInt8 := [42, 29, 133, 21, 4, 133, 182, 0, 72, 4, 172, 42, 29, 133, 21, 4, 133, 182, 0, 76, 4, 172, 42, 29]
abbrev dktX2_lay_4 : List UInt8 := dkwX2_lay_4 ++ dktX2_lay_5
def dkwX2_lay_3 : List UInt8 := [43, 29, 21, 4, 182, 0, 62, 154, 0, 5, 3, 172, 42, 29, 133, 21, 4, 133, 10, 182, 0, 68, 4, 172]
abbrev dktX2_lay_3 : List UInt8 := dkwX2_lay_3 ++ dktX2_lay_4
def dkwX2_lay_2 : List UInt8 := [170, 0, 0, 0, 114, 0, 0, 0, 0, 0, 0, 0, 5, 0, 0, 0, 37, 0, 0, 0, 61, 0, 0, 0, 72, 0, 0, 0, 83, 0, 0, 0, 94, 0, 0, 0, 104]
abbrev dktX2_lay_2 : List UInt8 := dkwX2_lay_2 ++ dktX2_lay_3
def dkwX2_lay_1 : List UInt8 := [181, 0, 52, 42, 10, 181, 0, 55, 42, 182, 0, 59, 28]
abbrev dktX2_lay_1 : List UInt8 := dkwX2_lay_1 ++ dktX2_lay_2
def dkwX2_lay_0 : List UInt8 := [42, 43, 181, 0, 38, 42, 3, 181, 0, 42, 42, 3, 181, 0, 46, 42, 3, 181, 0, 49, 42, 3]
abbrev dktX2_lay_0 : List UInt8 := dkwX2_lay_0 ++ dktX2_lay_1
theorem dksX2_lay_0 : cX2_lay.data.toList.drop 0 = dktX2_lay_0 := by decide +kernel
theorem dksX2_lay_1 : cX2_lay.data.toList.drop 22 = dktX2_lay_1 := dk_seg dksX2_lay_0 22 rfl rfl
theorem dksX2_lay_2 : cX2_lay.data.toList.drop 35 = dktX2_lay_2 := dk_seg dksX2_lay_1 13 rfl rfl
theorem dksX2_lay_3 : cX2_lay.data.toList.drop 72 = dktX2_lay_3 := dk_seg dksX2_lay_2 37 rfl rfl
theorem dksX2_lay_4 : cX2_lay.data.toList.drop 96 = dktX2_lay_4 := dk_seg dksX2_lay_3 24 rfl rfl
theorem dksX2_lay_5 : cX2_lay.data.toList.drop 120 = dktX2_lay_5 := dk_seg dksX2_lay_4 24 rfl rfl
theorem dksX2_lay_6 : cX2_lay.data.toList.drop 144 = dktX2_lay_6 := dk_seg dksX2_lay_5 24 rfl rfl
theorem dX2_lay_0 : decode cX2_lay 0 = .ok (.aload_n 0, 1) := dk_42 (dk_at dksX2_lay_0 0 rfl rfl)
theorem dX2_lay_1 : decode cX2_lay 1 = .ok (.aload_n 1, 1) := dk_43 (dk_at dksX2_lay_0 1 rfl rfl)
theorem dX2_lay_2 : decode cX2_lay 2 = .ok (.putfield 38, 3) := dk_181 0 38 (dk_at dksX2_lay_0 2 rfl rfl)
theorem dX2_lay_5 : decode cX2_lay 5 = .ok (.aload_n 0, 1) := dk_42 (dk_at dksX2_lay_0 5 rfl rfl)
theorem dX2_lay_6 : decode cX2_lay 6 = .ok (.iconst 0, 1) := dk_3 (dk_at dksX2_lay_0 6 rfl rfl)
theorem dX2_lay_7 : decode cX2_lay 7 = .ok (.putfield 42, 3) := dk_181 0 42 (dk_at dksX2_lay_0 7 rfl rfl)
theorem dX2_lay_10 : decode cX2_lay 10 = .ok (.aload_n 0, 1) := dk_42 (dk_at dksX2_lay_0 10 rfl rfl)
theorem dX2_lay_11 : decode cX2_lay 11 = .ok (.iconst 0, 1) := dk_3 (dk_at dksX2_lay_0 11 rfl rfl)
theorem dX2_lay_12 : decode cX2_lay 12 = .ok (.putfield 46, 3) := dk_181 0 46 (dk_at dksX2_lay_0 12 rfl rfl)
theorem dX2_lay_15 : decode cX2_lay 15 = .ok (.aload_n 0, 1) := dk_42 (dk_at dksX2_lay_0 15 rfl rfl)
theorem dX2_lay_16 : decode cX2_lay 16 = .ok (.iconst 0, 1) := dk_3 (dk_at dksX2_lay_0 16 rfl rfl)
theorem dX2_lay_17 : decode cX2_lay 17 = .ok (.putfield 49, 3) := dk_181 0 49 (dk_at dksX2_lay_0 17 rfl rfl)
theorem dX2_lay_20 : decode cX2_lay 20 = .ok (.aload_n 0, 1) := dk_42 (dk_at dksX2_lay_0 20 rfl rfl)
theorem dX2_lay_21 : decode cX2_lay 21 = .ok (.iconst 0, 1) := dk_3 (dk_at dksX2_lay_0 21 rfl rfl)
theorem dX2_lay_22 : decode cX2_lay 22 = .ok (.putfield 52, 3) := dk_181 0 52 (dk_at dksX2_lay_1 0 rfl rfl)
theorem dX2_lay_25 : decode cX2_lay 25 = .ok (.aload_n 0, 1) := dk_42 (dk_at dksX2_lay_1 3 rfl rfl)
theorem dX2_lay_26 : decode cX2_lay 26 = .ok (.lconst 1, 1) := dk_10 (dk_at dksX2_lay_1 4 rfl rfl)
theorem dX2_lay_27 : decode cX2_lay 27 = .ok (.putfield 55, 3) := dk_181 0 55 (dk_at dksX2_lay_1 5 rfl rfl)
theorem dX2_lay_30 : decode cX2_lay 30 = .ok (.aload_n 0, 1) := dk_42 (dk_at dksX2_lay_1 8 rfl rfl)
theorem dX2_lay_31 : decode cX2_lay 31 = .ok (.invokevirtual 59, 3) := dk_182 0 59 (dk_at dksX2_lay_1 9 rfl rfl)
theorem dX2_lay_34 : decode cX2_lay 34 = .ok (.iload_n 2, 1) := dk_28 (dk_at dksX2_lay_1 12 rfl rfl)
theorem dX2_lay_35 : decode cX2_lay 35 = .ok (.tableswitch 114 0 5 #[37, 61, 72, 83, 94, 104], 37) := by decide +kernel
theorem dX2_lay_72 : decode cX2_lay 72 = .ok (.aload_n 1, 1) := dk_43 (dk_at dksX2_lay_3 0 rfl rfl)
theorem dX2_lay_73 : decode cX2_lay 73 = .ok (.iload_n 3, 1) := dk_29 (dk_at dksX2_lay_3 1 rfl rfl)
theorem dX2_lay_74 : decode cX2_lay 74 = .ok (.iload 4, 2) := dk_21 4 (dk_at dksX2_lay_3 2 rfl rfl)
theorem dX2_lay_76 : decode cX2_lay 76 = .ok (.invokevirtual 62, 3) := dk_182 0 62 (dk_at dksX2_lay_3 4 rfl rfl)
theorem dX2_lay_79 : decode cX2_lay 79 = .ok (.ifCond .ne 5, 3) := dk_154 0 5 (dk_at dksX2_lay_3 7 rfl rfl)
theorem dX2_lay_82 : decode cX2_lay 82 = .ok (.iconst 0, 1) := dk_3 (dk_at dksX2_lay_3 10 rfl rfl)
theorem dX2_lay_83 : decode cX2_lay 83 = .ok (.ireturn, 1) := dk_172 (dk_at dksX2_lay_3 11 rfl rfl)
theorem dX2_lay_84 : decode cX2_lay 84 = .ok (.aload_n 0, 1) := dk_42 (dk_at dksX2_lay_3 12 rfl rfl)
theorem dX2_lay_85 : decode cX2_lay 85 = .ok (.iload_n 3, 1) := dk_29 (dk_at dksX2_lay_3 13 rfl rfl)
theorem dX2_lay_86 : decode cX2_lay 86 = .ok (.i2l, 1) := dk_133 (dk_at dksX2_lay_3 14 rfl rfl)
theorem dX2_lay_87 : decode cX2_lay 87 = .ok (.iload 4, 2) := dk_21 4 (dk_at dksX2_lay_3 15 rfl rfl)
theorem dX2_lay_89 : decode cX2_lay 89 = .ok (.i2l, 1) := dk_133 (dk_at dksX2_lay_3 17 rfl rfl)
theorem dX2_lay_90 : decode cX2_lay 90 = .ok (.lconst 1, 1) := dk_10 (dk_at dksX2_lay_3 18 rfl rfl)
theorem dX2_lay_91 : decode cX2_lay 91 = .ok (.invokevirtual 68, 3) := dk_182 0 68 (dk_at dksX2_lay_3 19 rfl rfl)
theorem dX2_lay_94 : decode cX2_lay 94 = .ok (.iconst 1, 1) := dk_4 (dk_at dksX2_lay_3 22 rfl rfl)
theorem dX2_lay_95 : decode cX2_lay 95 = .ok (.ireturn, 1) := dk_172 (dk_at dksX2_lay_3 23 rfl rfl)
theorem dX2_lay_96 : decode cX2_lay 96 = .ok (.aload_n 0, 1) := dk_42 (dk_at dksX2_lay_4 0 rfl rfl)
theorem dX2_lay_97 : decode cX2_lay 97 = .ok (.iload_n 3, 1) := dk_29 (dk_at dksX2_lay_4 1 rfl rfl)
theorem dX2_lay_98 : decode cX2_lay 98 = .ok (.i2l, 1) := dk_133 (dk_at dksX2_lay_4 2 rfl rfl)
theorem dX2_lay_99 : decode cX2_lay 99 = .ok (.iload 4, 2) := dk_21 4 (dk_at dksX2_lay_4 3 rfl rfl)
theorem dX2_lay_101 : decode cX2_lay 101 = .ok (.i2l, 1) := dk_133 (dk_at dksX2_lay_4 5 rfl rfl)
theorem dX2_lay_102 : decode cX2_lay 102 = .ok (.invokevirtual 72, 3) := dk_182 0 72 (dk_at dksX2_lay_4 6 rfl rfl)
theorem dX2_lay_105 : decode cX2_lay 105 = .ok (.iconst 1, 1) := dk_4 (dk_at dksX2_lay_4 9 rfl rfl)
theorem dX2_lay_106 : decode cX2_lay 106 = .ok (.ireturn, 1) := dk_172 (dk_at dksX2_lay_4 10 rfl rfl)
theorem dX2_lay_107 : decode cX2_lay 107 = .ok (.aload_n 0, 1) := dk_42 (dk_at dksX2_lay_4 11 rfl rfl)
theorem dX2_lay_108 : decode cX2_lay 108 = .ok (.iload_n 3, 1) := dk_29 (dk_at dksX2_lay_4 12 rfl rfl)
theorem dX2_lay_109 : decode cX2_lay 109 = .ok (.i2l, 1) := dk_133 (dk_at dksX2_lay_4 13 rfl rfl)
theorem dX2_lay_110 : decode cX2_lay 110 = .ok (.iload 4, 2) := dk_21 4 (dk_at dksX2_lay_4 14 rfl rfl)
theorem dX2_lay_112 : decode cX2_lay 112 = .ok (.i2l, 1) := dk_133 (dk_at dksX2_lay_4 16 rfl rfl)
theorem dX2_lay_113 : decode cX2_lay 113 = .ok (.invokevirtual 76, 3) := dk_182 0 76 (dk_at dksX2_lay_4 17 rfl rfl)
theorem dX2_lay_116 : decode cX2_lay 116 = .ok (.iconst 1, 1) := dk_4 (dk_at dksX2_lay_4 20 rfl rfl)
theorem dX2_lay_117 : decode cX2_lay 117 = .ok (.ireturn, 1) := dk_172 (dk_at dksX2_lay_4 21 rfl rfl)
theorem dX2_lay_118 : decode cX2_lay 118 = .ok (.aload_n 0, 1) := dk_42 (dk_at dksX2_lay_4 22 rfl rfl)
theorem dX2_lay_119 : decode cX2_lay 119 = .ok (.iload_n 3, 1) := dk_29 (dk_at dksX2_lay_4 23 rfl rfl)
theorem dX2_lay_120 : decode cX2_lay 120 = .ok (.i2l, 1) := dk_133 (dk_at dksX2_lay_5 0 rfl rfl)
theorem dX2_lay_121 : decode cX2_lay 121 = .ok (.iload 4, 2) := dk_21 4 (dk_at dksX2_lay_5 1 rfl rfl)
theorem dX2_lay_123 : decode cX2_lay 123 = .ok (.i2l, 1) := dk_133 (dk_at dksX2_lay_5 3 rfl rfl)
theorem dX2_lay_124 : decode cX2_lay 124 = .ok (.invokevirtual 79, 3) := dk_182 0 79 (dk_at dksX2_lay_5 4 rfl rfl)
theorem dX2_lay_127 : decode cX2_lay 127 = .ok (.iconst 1, 1) := dk_4 (dk_at dksX2_lay_5 7 rfl rfl)
theorem dX2_lay_128 : decode cX2_lay 128 = .ok (.ireturn, 1) := dk_172 (dk_at dksX2_lay_5 8 rfl rfl)
theorem dX2_lay_129 : decode cX2_lay 129 = .ok (.aload_n 0, 1) := dk_42 (dk_at dksX2_lay_5 9 rfl rfl)
theorem dX2_lay_130 : decode cX2_lay 130 = .ok (.iload_n 3, 1) := dk_29 (dk_at dksX2_lay_5 10 rfl rfl)
theorem dX2_lay_131 : decode cX2_lay 131 = .ok (.i2l, 1) := dk_133 (dk_at dksX2_lay_5 11 rfl rfl)
theorem dX2_lay_132 : decode cX2_lay 132 = .ok (.iload 4, 2) := dk_21 4 (dk_at dksX2_lay_5 12 rfl rfl)
theorem dX2_lay_134 : decode cX2_lay 134 = .ok (.i2l, 1) := dk_133 (dk_at dksX2_lay_5 14 rfl rfl)
theorem dX2_lay_135 : decode cX2_lay 135 = .ok (.invokevirtual 82, 3) := dk_182 0 82 (dk_at dksX2_lay_5 15 rfl rfl)
theorem dX2_lay_138 : decode cX2_lay 138 = .ok (.ireturn, 1) := dk_172 (dk_at dksX2_lay_5 18 rfl rfl)
theorem dX2_lay_139 : decode cX2_lay 139 = .ok (.aload_n 0, 1) := dk_42 (dk_at dksX2_lay_5 19 rfl rfl)
theorem dX2_lay_140 : decode cX2_lay 140 = .ok (.iload_n 3, 1) := dk_29 (dk_at dksX2_lay_5 20 rfl rfl)
theorem dX2_lay_141 : decode cX2_lay 141 = .ok (.i2l, 1) := dk_133 (dk_at dksX2_lay_5 21 rfl rfl)
theorem dX2_lay_142 : decode cX2_lay 142 = .ok (.iload 4, 2) := dk_21 4 (dk_at dksX2_lay_5 22 rfl rfl)
theorem dX2_lay_144 : decode cX2_lay 144 = .ok (.i2l, 1) := dk_133 (dk_at dksX2_lay_6 0 rfl rfl)
theorem dX2_lay_145 : decode cX2_lay 145 = .ok (.invokevirtual 86, 3) := dk_182 0 86 (dk_at dksX2_lay_6 1 rfl rfl)
theorem dX2_lay_148 : decode cX2_lay 148 = .ok (.ireturn, 1) := dk_172 (dk_at dksX2_lay_6 4 rfl rfl)
theorem dX2_lay_149 : decode cX2_lay 149 = .ok (.aload_n 0, 1) := dk_42 (dk_at dksX2_lay_6 5 rfl rfl)
theorem dX2_lay_150 : decode cX2_lay 150 = .ok (.iload 4, 2) := dk_21 4 (dk_at dksX2_lay_6 6 rfl rfl)
theorem dX2_lay_152 : decode cX2_lay 152 = .ok (.i2l, 1) := dk_133 (dk_at dksX2_lay_6 8 rfl rfl)
theorem dX2_lay_153 : decode cX2_lay 153 = .ok (.iload_n 3, 1) := dk_29 (dk_at dksX2_lay_6 9 rfl rfl)
theorem dX2_lay_154 : decode cX2_lay 154 = .ok (.i2l, 1) := dk_133 (dk_at dksX2_lay_6 10 rfl rfl)
theorem dX2_lay_155 : decode cX2_lay 155 = .ok (.invokevirtual 76, 3) := dk_182 0 76 (dk_at dksX2_lay_6 11 rfl rfl)
theorem dX2_lay_158 : decode cX2_lay 158 = .ok (.iconst 1, 1) := dk_4 (dk_at dksX2_lay_6 14 rfl rfl)
theorem dX2_lay_159 : decode cX2_lay 159 = .ok (.ireturn, 1) := dk_172 (dk_at dksX2_lay_6 15 rfl rfl)
abbrev cX2_begin : ByteArray := prog_2_method_3_code
def yX2_begin : MethodName := ⟨RX2, "begin", "()V"⟩
def dkwX2_begin_0 : List UInt8 := [42, 9, 181, 0, 89, 42, 4, 181, 0, 92, 177]
abbrev dktX2_begin_0 : List UInt8 := dkwX2_begin_0 ++ []
theorem dksX2_begin_0 : cX2_begin.data.toList.drop 0 = dktX2_begin_0 := by decide +kernel
theorem dX2_begin_0 : decode cX2_begin 0 = .ok (.aload_n 0, 1) := dk_42 (dk_at dksX2_begin_0 0 rfl rfl)
theorem dX2_begin_1 : decode cX2_begin 1 = .ok (.lconst 0, 1) := dk_9 (dk_at dksX2_begin_0 1 rfl rfl)
theorem dX2_begin_2 : decode cX2_begin 2 = .ok (.putfield 89, 3) := dk_181 0 89 (dk_at dksX2_begin_0 2 rfl rfl)
theorem dX2_begin_5 : decode cX2_begin 5 = .ok (.aload_n 0, 1) := dk_42 (dk_at dksX2_begin_0 5 rfl rfl)
theorem dX2_begin_6 : decode cX2_begin 6 = .ok (.iconst 1, 1) := dk_4 (dk_at dksX2_begin_0 6 rfl rfl)
theorem dX2_begin_7 : decode cX2_begin 7 = .ok (.putfield 92, 3) := dk_181 0 92 (dk_at dksX2_begin_0 7 rfl rfl)
theorem dX2_begin_10 : decode cX2_begin 10 = .ok (.return_, 1) := dk_177 (dk_at dksX2_begin_0 10 rfl rfl)
abbrev cX2_look : ByteArray := prog_2_method_5_code
def yX2_look : MethodName := ⟨RX2, "look", "(JJJ)V"⟩
def dkwX2_look_4 : List UInt8 := [42, 3, 181, 0, 92, 177]
abbrev dktX2_look_4 : List UInt8 := dkwX2_look_4 ++ []
def dkwX2_look_3 : List UInt8 := [180, 0, 89, 42, 180, 0, 38, 180, 0, 106, 4, 46, 42, 180, 0, 89, 184, 0, 96, 104, 9, 182, 0, 113]
abbrev dktX2_look_3 : List UInt8 := dkwX2_look_3 ++ dktX2_look_4
def dkwX2_look_2 : List UInt8 := [180, 0, 92, 154, 0, 45, 42, 89, 180, 0, 89, 31, 33, 105, 22, 5, 105, 97, 181, 0, 89, 42, 4, 42]
abbrev dktX2_look_2 : List UInt8 := dkwX2_look_2 ++ dktX2_look_3
def dkwX2_look_1 : List UInt8 := [105, 42, 180, 0, 38, 180, 0, 106, 3, 46, 31, 33, 184, 0, 109, 22, 5, 105, 182, 0, 113, 42]
abbrev dktX2_look_1 : List UInt8 := dkwX2_look_1 ++ dktX2_look_2
def dkwX2_look_0 : List UInt8 := [42, 180, 0, 92, 153, 0, 13, 42, 31, 33, 105, 22, 5, 105, 181, 0, 89, 42, 3, 31, 33, 105, 22, 5]
abbrev dktX2_look_0 : List UInt8 := dkwX2_look_0 ++ dktX2_look_1
theorem dksX2_look_0 : cX2_look.data.toList.drop 0 = dktX2_look_0 := by decide +kernel
theorem dksX2_look_1 : cX2_look.data.toList.drop 24 = dktX2_look_1 := dk_seg dksX2_look_0 24 rfl rfl
theorem dksX2_look_2 : cX2_look.data.toList.drop 46 = dktX2_look_2 := dk_seg dksX2_look_1 22 rfl rfl
theorem dksX2_look_3 : cX2_look.data.toList.drop 70 = dktX2_look_3 := dk_seg dksX2_look_2 24 rfl rfl
theorem dksX2_look_4 : cX2_look.data.toList.drop 94 = dktX2_look_4 := dk_seg dksX2_look_3 24 rfl rfl
theorem dX2_look_0 : decode cX2_look 0 = .ok (.aload_n 0, 1) := dk_42 (dk_at dksX2_look_0 0 rfl rfl)
theorem dX2_look_1 : decode cX2_look 1 = .ok (.getfield 92, 3) := dk_180 0 92 (dk_at dksX2_look_0 1 rfl rfl)
theorem dX2_look_4 : decode cX2_look 4 = .ok (.ifCond .eq 13, 3) := dk_153 0 13 (dk_at dksX2_look_0 4 rfl rfl)
theorem dX2_look_7 : decode cX2_look 7 = .ok (.aload_n 0, 1) := dk_42 (dk_at dksX2_look_0 7 rfl rfl)
theorem dX2_look_8 : decode cX2_look 8 = .ok (.lload_n 1, 1) := dk_31 (dk_at dksX2_look_0 8 rfl rfl)
theorem dX2_look_9 : decode cX2_look 9 = .ok (.lload_n 3, 1) := dk_33 (dk_at dksX2_look_0 9 rfl rfl)
theorem dX2_look_10 : decode cX2_look 10 = .ok (.lmul, 1) := dk_105 (dk_at dksX2_look_0 10 rfl rfl)
theorem dX2_look_11 : decode cX2_look 11 = .ok (.lload 5, 2) := dk_22 5 (dk_at dksX2_look_0 11 rfl rfl)
theorem dX2_look_13 : decode cX2_look 13 = .ok (.lmul, 1) := dk_105 (dk_at dksX2_look_0 13 rfl rfl)
theorem dX2_look_14 : decode cX2_look 14 = .ok (.putfield 89, 3) := dk_181 0 89 (dk_at dksX2_look_0 14 rfl rfl)
theorem dX2_look_17 : decode cX2_look 17 = .ok (.aload_n 0, 1) := dk_42 (dk_at dksX2_look_0 17 rfl rfl)
theorem dX2_look_18 : decode cX2_look 18 = .ok (.iconst 0, 1) := dk_3 (dk_at dksX2_look_0 18 rfl rfl)
theorem dX2_look_19 : decode cX2_look 19 = .ok (.lload_n 1, 1) := dk_31 (dk_at dksX2_look_0 19 rfl rfl)
theorem dX2_look_20 : decode cX2_look 20 = .ok (.lload_n 3, 1) := dk_33 (dk_at dksX2_look_0 20 rfl rfl)
theorem dX2_look_21 : decode cX2_look 21 = .ok (.lmul, 1) := dk_105 (dk_at dksX2_look_0 21 rfl rfl)
theorem dX2_look_22 : decode cX2_look 22 = .ok (.lload 5, 2) := dk_22 5 (dk_at dksX2_look_0 22 rfl rfl)
theorem dX2_look_24 : decode cX2_look 24 = .ok (.lmul, 1) := dk_105 (dk_at dksX2_look_1 0 rfl rfl)
theorem dX2_look_25 : decode cX2_look 25 = .ok (.aload_n 0, 1) := dk_42 (dk_at dksX2_look_1 1 rfl rfl)
theorem dX2_look_26 : decode cX2_look 26 = .ok (.getfield 38, 3) := dk_180 0 38 (dk_at dksX2_look_1 2 rfl rfl)
theorem dX2_look_29 : decode cX2_look 29 = .ok (.getfield 106, 3) := dk_180 0 106 (dk_at dksX2_look_1 5 rfl rfl)
theorem dX2_look_32 : decode cX2_look 32 = .ok (.iconst 0, 1) := dk_3 (dk_at dksX2_look_1 8 rfl rfl)
theorem dX2_look_33 : decode cX2_look 33 = .ok (.iaload, 1) := dk_46 (dk_at dksX2_look_1 9 rfl rfl)
theorem dX2_look_34 : decode cX2_look 34 = .ok (.lload_n 1, 1) := dk_31 (dk_at dksX2_look_1 10 rfl rfl)
theorem dX2_look_35 : decode cX2_look 35 = .ok (.lload_n 3, 1) := dk_33 (dk_at dksX2_look_1 11 rfl rfl)
theorem dX2_look_36 : decode cX2_look 36 = .ok (.invokestatic 109, 3) := dk_184 0 109 (dk_at dksX2_look_1 12 rfl rfl)
theorem dX2_look_39 : decode cX2_look 39 = .ok (.lload 5, 2) := dk_22 5 (dk_at dksX2_look_1 15 rfl rfl)
theorem dX2_look_41 : decode cX2_look 41 = .ok (.lmul, 1) := dk_105 (dk_at dksX2_look_1 17 rfl rfl)
theorem dX2_look_42 : decode cX2_look 42 = .ok (.invokevirtual 113, 3) := dk_182 0 113 (dk_at dksX2_look_1 18 rfl rfl)
theorem dX2_look_45 : decode cX2_look 45 = .ok (.aload_n 0, 1) := dk_42 (dk_at dksX2_look_1 21 rfl rfl)
theorem dX2_look_46 : decode cX2_look 46 = .ok (.getfield 92, 3) := dk_180 0 92 (dk_at dksX2_look_2 0 rfl rfl)
theorem dX2_look_49 : decode cX2_look 49 = .ok (.ifCond .ne 45, 3) := dk_154 0 45 (dk_at dksX2_look_2 3 rfl rfl)
theorem dX2_look_52 : decode cX2_look 52 = .ok (.aload_n 0, 1) := dk_42 (dk_at dksX2_look_2 6 rfl rfl)
theorem dX2_look_53 : decode cX2_look 53 = .ok (.dup, 1) := dk_89 (dk_at dksX2_look_2 7 rfl rfl)
theorem dX2_look_54 : decode cX2_look 54 = .ok (.getfield 89, 3) := dk_180 0 89 (dk_at dksX2_look_2 8 rfl rfl)
theorem dX2_look_57 : decode cX2_look 57 = .ok (.lload_n 1, 1) := dk_31 (dk_at dksX2_look_2 11 rfl rfl)
theorem dX2_look_58 : decode cX2_look 58 = .ok (.lload_n 3, 1) := dk_33 (dk_at dksX2_look_2 12 rfl rfl)
theorem dX2_look_59 : decode cX2_look 59 = .ok (.lmul, 1) := dk_105 (dk_at dksX2_look_2 13 rfl rfl)
theorem dX2_look_60 : decode cX2_look 60 = .ok (.lload 5, 2) := dk_22 5 (dk_at dksX2_look_2 14 rfl rfl)
theorem dX2_look_62 : decode cX2_look 62 = .ok (.lmul, 1) := dk_105 (dk_at dksX2_look_2 16 rfl rfl)
theorem dX2_look_63 : decode cX2_look 63 = .ok (.ladd, 1) := dk_97 (dk_at dksX2_look_2 17 rfl rfl)
theorem dX2_look_64 : decode cX2_look 64 = .ok (.putfield 89, 3) := dk_181 0 89 (dk_at dksX2_look_2 18 rfl rfl)
theorem dX2_look_67 : decode cX2_look 67 = .ok (.aload_n 0, 1) := dk_42 (dk_at dksX2_look_2 21 rfl rfl)
theorem dX2_look_68 : decode cX2_look 68 = .ok (.iconst 1, 1) := dk_4 (dk_at dksX2_look_2 22 rfl rfl)
theorem dX2_look_69 : decode cX2_look 69 = .ok (.aload_n 0, 1) := dk_42 (dk_at dksX2_look_2 23 rfl rfl)
theorem dX2_look_70 : decode cX2_look 70 = .ok (.getfield 89, 3) := dk_180 0 89 (dk_at dksX2_look_3 0 rfl rfl)
theorem dX2_look_73 : decode cX2_look 73 = .ok (.aload_n 0, 1) := dk_42 (dk_at dksX2_look_3 3 rfl rfl)
theorem dX2_look_74 : decode cX2_look 74 = .ok (.getfield 38, 3) := dk_180 0 38 (dk_at dksX2_look_3 4 rfl rfl)
theorem dX2_look_77 : decode cX2_look 77 = .ok (.getfield 106, 3) := dk_180 0 106 (dk_at dksX2_look_3 7 rfl rfl)
theorem dX2_look_80 : decode cX2_look 80 = .ok (.iconst 1, 1) := dk_4 (dk_at dksX2_look_3 10 rfl rfl)
theorem dX2_look_81 : decode cX2_look 81 = .ok (.iaload, 1) := dk_46 (dk_at dksX2_look_3 11 rfl rfl)
theorem dX2_look_82 : decode cX2_look 82 = .ok (.aload_n 0, 1) := dk_42 (dk_at dksX2_look_3 12 rfl rfl)
theorem dX2_look_83 : decode cX2_look 83 = .ok (.getfield 89, 3) := dk_180 0 89 (dk_at dksX2_look_3 13 rfl rfl)
theorem dX2_look_86 : decode cX2_look 86 = .ok (.invokestatic 96, 3) := dk_184 0 96 (dk_at dksX2_look_3 16 rfl rfl)
theorem dX2_look_89 : decode cX2_look 89 = .ok (.imul, 1) := dk_104 (dk_at dksX2_look_3 19 rfl rfl)
theorem dX2_look_90 : decode cX2_look 90 = .ok (.lconst 0, 1) := dk_9 (dk_at dksX2_look_3 20 rfl rfl)
theorem dX2_look_91 : decode cX2_look 91 = .ok (.invokevirtual 113, 3) := dk_182 0 113 (dk_at dksX2_look_3 21 rfl rfl)
theorem dX2_look_94 : decode cX2_look 94 = .ok (.aload_n 0, 1) := dk_42 (dk_at dksX2_look_4 0 rfl rfl)
theorem dX2_look_95 : decode cX2_look 95 = .ok (.iconst 0, 1) := dk_3 (dk_at dksX2_look_4 1 rfl rfl)
theorem dX2_look_96 : decode cX2_look 96 = .ok (.putfield 92, 3) := dk_181 0 92 (dk_at dksX2_look_4 2 rfl rfl)
theorem dX2_look_99 : decode cX2_look 99 = .ok (.return_, 1) := dk_177 (dk_at dksX2_look_4 5 rfl rfl)
abbrev cX2_act : ByteArray := prog_2_method_4_code
def yX2_act : MethodName := ⟨RX2, "act", "(IJIJ)V"⟩
def dkwX2_act_5 : List UInt8 := [181, 0, 52, 42, 89, 180, 0, 42, 4, 96, 181, 0, 42, 177]
abbrev dktX2_act_5 : List UInt8 := dkwX2_act_5 ++ []
def dkwX2_act_4 : List UInt8 := [21, 4, 96, 181, 0, 49, 42, 42, 180, 0, 52, 42, 180, 0, 22, 42, 180, 0, 42, 46, 184, 0, 100]
abbrev dktX2_act_4 : List UInt8 := dkwX2_act_4 ++ dktX2_act_5
def dkwX2_act_3 : List UInt8 := [9, 148, 154, 0, 7, 3, 167, 0, 10, 42, 180, 0, 89, 184, 0, 96, 96, 79, 42, 89, 180, 0, 49]
abbrev dktX2_act_3 : List UInt8 := dkwX2_act_3 ++ dktX2_act_4
def dkwX2_act_2 : List UInt8 := [180, 0, 42, 42, 180, 0, 55, 80, 42, 180, 0, 22, 42, 180, 0, 42, 42, 180, 0, 46, 42, 180, 0, 89]
abbrev dktX2_act_2 : List UInt8 := dkwX2_act_2 ++ dktX2_act_3
def dkwX2_act_1 : List UInt8 := [42, 180, 0, 42, 21, 4, 79, 42, 180, 0, 29, 42, 180, 0, 42, 22, 5, 80, 42, 180, 0, 32, 42]
abbrev dktX2_act_1 : List UInt8 := dkwX2_act_1 ++ dktX2_act_2
def dkwX2_act_0 : List UInt8 := [42, 180, 0, 15, 42, 180, 0, 42, 27, 79, 42, 180, 0, 25, 42, 180, 0, 42, 32, 80, 42, 180, 0, 19]
abbrev dktX2_act_0 : List UInt8 := dkwX2_act_0 ++ dktX2_act_1
theorem dksX2_act_0 : cX2_act.data.toList.drop 0 = dktX2_act_0 := by decide +kernel
theorem dksX2_act_1 : cX2_act.data.toList.drop 24 = dktX2_act_1 := dk_seg dksX2_act_0 24 rfl rfl
theorem dksX2_act_2 : cX2_act.data.toList.drop 47 = dktX2_act_2 := dk_seg dksX2_act_1 23 rfl rfl
theorem dksX2_act_3 : cX2_act.data.toList.drop 71 = dktX2_act_3 := dk_seg dksX2_act_2 24 rfl rfl
theorem dksX2_act_4 : cX2_act.data.toList.drop 94 = dktX2_act_4 := dk_seg dksX2_act_3 23 rfl rfl
theorem dksX2_act_5 : cX2_act.data.toList.drop 117 = dktX2_act_5 := dk_seg dksX2_act_4 23 rfl rfl
theorem dX2_act_0 : decode cX2_act 0 = .ok (.aload_n 0, 1) := dk_42 (dk_at dksX2_act_0 0 rfl rfl)
theorem dX2_act_1 : decode cX2_act 1 = .ok (.getfield 15, 3) := dk_180 0 15 (dk_at dksX2_act_0 1 rfl rfl)
theorem dX2_act_4 : decode cX2_act 4 = .ok (.aload_n 0, 1) := dk_42 (dk_at dksX2_act_0 4 rfl rfl)
theorem dX2_act_5 : decode cX2_act 5 = .ok (.getfield 42, 3) := dk_180 0 42 (dk_at dksX2_act_0 5 rfl rfl)
theorem dX2_act_8 : decode cX2_act 8 = .ok (.iload_n 1, 1) := dk_27 (dk_at dksX2_act_0 8 rfl rfl)
theorem dX2_act_9 : decode cX2_act 9 = .ok (.iastore, 1) := dk_79 (dk_at dksX2_act_0 9 rfl rfl)
theorem dX2_act_10 : decode cX2_act 10 = .ok (.aload_n 0, 1) := dk_42 (dk_at dksX2_act_0 10 rfl rfl)
theorem dX2_act_11 : decode cX2_act 11 = .ok (.getfield 25, 3) := dk_180 0 25 (dk_at dksX2_act_0 11 rfl rfl)
theorem dX2_act_14 : decode cX2_act 14 = .ok (.aload_n 0, 1) := dk_42 (dk_at dksX2_act_0 14 rfl rfl)
theorem dX2_act_15 : decode cX2_act 15 = .ok (.getfield 42, 3) := dk_180 0 42 (dk_at dksX2_act_0 15 rfl rfl)
theorem dX2_act_18 : decode cX2_act 18 = .ok (.lload_n 2, 1) := dk_32 (dk_at dksX2_act_0 18 rfl rfl)
theorem dX2_act_19 : decode cX2_act 19 = .ok (.lastore, 1) := dk_80 (dk_at dksX2_act_0 19 rfl rfl)
theorem dX2_act_20 : decode cX2_act 20 = .ok (.aload_n 0, 1) := dk_42 (dk_at dksX2_act_0 20 rfl rfl)
theorem dX2_act_21 : decode cX2_act 21 = .ok (.getfield 19, 3) := dk_180 0 19 (dk_at dksX2_act_0 21 rfl rfl)
theorem dX2_act_24 : decode cX2_act 24 = .ok (.aload_n 0, 1) := dk_42 (dk_at dksX2_act_1 0 rfl rfl)
theorem dX2_act_25 : decode cX2_act 25 = .ok (.getfield 42, 3) := dk_180 0 42 (dk_at dksX2_act_1 1 rfl rfl)
theorem dX2_act_28 : decode cX2_act 28 = .ok (.iload 4, 2) := dk_21 4 (dk_at dksX2_act_1 4 rfl rfl)
theorem dX2_act_30 : decode cX2_act 30 = .ok (.iastore, 1) := dk_79 (dk_at dksX2_act_1 6 rfl rfl)
theorem dX2_act_31 : decode cX2_act 31 = .ok (.aload_n 0, 1) := dk_42 (dk_at dksX2_act_1 7 rfl rfl)
theorem dX2_act_32 : decode cX2_act 32 = .ok (.getfield 29, 3) := dk_180 0 29 (dk_at dksX2_act_1 8 rfl rfl)
theorem dX2_act_35 : decode cX2_act 35 = .ok (.aload_n 0, 1) := dk_42 (dk_at dksX2_act_1 11 rfl rfl)
theorem dX2_act_36 : decode cX2_act 36 = .ok (.getfield 42, 3) := dk_180 0 42 (dk_at dksX2_act_1 12 rfl rfl)
theorem dX2_act_39 : decode cX2_act 39 = .ok (.lload 5, 2) := dk_22 5 (dk_at dksX2_act_1 15 rfl rfl)
theorem dX2_act_41 : decode cX2_act 41 = .ok (.lastore, 1) := dk_80 (dk_at dksX2_act_1 17 rfl rfl)
theorem dX2_act_42 : decode cX2_act 42 = .ok (.aload_n 0, 1) := dk_42 (dk_at dksX2_act_1 18 rfl rfl)
theorem dX2_act_43 : decode cX2_act 43 = .ok (.getfield 32, 3) := dk_180 0 32 (dk_at dksX2_act_1 19 rfl rfl)
theorem dX2_act_46 : decode cX2_act 46 = .ok (.aload_n 0, 1) := dk_42 (dk_at dksX2_act_1 22 rfl rfl)
theorem dX2_act_47 : decode cX2_act 47 = .ok (.getfield 42, 3) := dk_180 0 42 (dk_at dksX2_act_2 0 rfl rfl)
theorem dX2_act_50 : decode cX2_act 50 = .ok (.aload_n 0, 1) := dk_42 (dk_at dksX2_act_2 3 rfl rfl)
theorem dX2_act_51 : decode cX2_act 51 = .ok (.getfield 55, 3) := dk_180 0 55 (dk_at dksX2_act_2 4 rfl rfl)
theorem dX2_act_54 : decode cX2_act 54 = .ok (.lastore, 1) := dk_80 (dk_at dksX2_act_2 7 rfl rfl)
theorem dX2_act_55 : decode cX2_act 55 = .ok (.aload_n 0, 1) := dk_42 (dk_at dksX2_act_2 8 rfl rfl)
theorem dX2_act_56 : decode cX2_act 56 = .ok (.getfield 22, 3) := dk_180 0 22 (dk_at dksX2_act_2 9 rfl rfl)
theorem dX2_act_59 : decode cX2_act 59 = .ok (.aload_n 0, 1) := dk_42 (dk_at dksX2_act_2 12 rfl rfl)
theorem dX2_act_60 : decode cX2_act 60 = .ok (.getfield 42, 3) := dk_180 0 42 (dk_at dksX2_act_2 13 rfl rfl)
theorem dX2_act_63 : decode cX2_act 63 = .ok (.aload_n 0, 1) := dk_42 (dk_at dksX2_act_2 16 rfl rfl)
theorem dX2_act_64 : decode cX2_act 64 = .ok (.getfield 46, 3) := dk_180 0 46 (dk_at dksX2_act_2 17 rfl rfl)
theorem dX2_act_67 : decode cX2_act 67 = .ok (.aload_n 0, 1) := dk_42 (dk_at dksX2_act_2 20 rfl rfl)
theorem dX2_act_68 : decode cX2_act 68 = .ok (.getfield 89, 3) := dk_180 0 89 (dk_at dksX2_act_2 21 rfl rfl)
theorem dX2_act_71 : decode cX2_act 71 = .ok (.lconst 0, 1) := dk_9 (dk_at dksX2_act_3 0 rfl rfl)
theorem dX2_act_72 : decode cX2_act 72 = .ok (.lcmp, 1) := dk_148 (dk_at dksX2_act_3 1 rfl rfl)
theorem dX2_act_73 : decode cX2_act 73 = .ok (.ifCond .ne 7, 3) := dk_154 0 7 (dk_at dksX2_act_3 2 rfl rfl)
theorem dX2_act_76 : decode cX2_act 76 = .ok (.iconst 0, 1) := dk_3 (dk_at dksX2_act_3 5 rfl rfl)
theorem dX2_act_77 : decode cX2_act 77 = .ok (.goto 10, 3) := dk_167 0 10 (dk_at dksX2_act_3 6 rfl rfl)
theorem dX2_act_80 : decode cX2_act 80 = .ok (.aload_n 0, 1) := dk_42 (dk_at dksX2_act_3 9 rfl rfl)
theorem dX2_act_81 : decode cX2_act 81 = .ok (.getfield 89, 3) := dk_180 0 89 (dk_at dksX2_act_3 10 rfl rfl)
theorem dX2_act_84 : decode cX2_act 84 = .ok (.invokestatic 96, 3) := dk_184 0 96 (dk_at dksX2_act_3 13 rfl rfl)
theorem dX2_act_87 : decode cX2_act 87 = .ok (.iadd, 1) := dk_96 (dk_at dksX2_act_3 16 rfl rfl)
theorem dX2_act_88 : decode cX2_act 88 = .ok (.iastore, 1) := dk_79 (dk_at dksX2_act_3 17 rfl rfl)
theorem dX2_act_89 : decode cX2_act 89 = .ok (.aload_n 0, 1) := dk_42 (dk_at dksX2_act_3 18 rfl rfl)
theorem dX2_act_90 : decode cX2_act 90 = .ok (.dup, 1) := dk_89 (dk_at dksX2_act_3 19 rfl rfl)
theorem dX2_act_91 : decode cX2_act 91 = .ok (.getfield 49, 3) := dk_180 0 49 (dk_at dksX2_act_3 20 rfl rfl)
theorem dX2_act_94 : decode cX2_act 94 = .ok (.iload 4, 2) := dk_21 4 (dk_at dksX2_act_4 0 rfl rfl)
theorem dX2_act_96 : decode cX2_act 96 = .ok (.iadd, 1) := dk_96 (dk_at dksX2_act_4 2 rfl rfl)
theorem dX2_act_97 : decode cX2_act 97 = .ok (.putfield 49, 3) := dk_181 0 49 (dk_at dksX2_act_4 3 rfl rfl)
theorem dX2_act_100 : decode cX2_act 100 = .ok (.aload_n 0, 1) := dk_42 (dk_at dksX2_act_4 6 rfl rfl)
theorem dX2_act_101 : decode cX2_act 101 = .ok (.aload_n 0, 1) := dk_42 (dk_at dksX2_act_4 7 rfl rfl)
theorem dX2_act_102 : decode cX2_act 102 = .ok (.getfield 52, 3) := dk_180 0 52 (dk_at dksX2_act_4 8 rfl rfl)
theorem dX2_act_105 : decode cX2_act 105 = .ok (.aload_n 0, 1) := dk_42 (dk_at dksX2_act_4 11 rfl rfl)
theorem dX2_act_106 : decode cX2_act 106 = .ok (.getfield 22, 3) := dk_180 0 22 (dk_at dksX2_act_4 12 rfl rfl)
theorem dX2_act_109 : decode cX2_act 109 = .ok (.aload_n 0, 1) := dk_42 (dk_at dksX2_act_4 15 rfl rfl)
theorem dX2_act_110 : decode cX2_act 110 = .ok (.getfield 42, 3) := dk_180 0 42 (dk_at dksX2_act_4 16 rfl rfl)
theorem dX2_act_113 : decode cX2_act 113 = .ok (.iaload, 1) := dk_46 (dk_at dksX2_act_4 19 rfl rfl)
theorem dX2_act_114 : decode cX2_act 114 = .ok (.invokestatic 100, 3) := dk_184 0 100 (dk_at dksX2_act_4 20 rfl rfl)
theorem dX2_act_117 : decode cX2_act 117 = .ok (.putfield 52, 3) := dk_181 0 52 (dk_at dksX2_act_5 0 rfl rfl)
theorem dX2_act_120 : decode cX2_act 120 = .ok (.aload_n 0, 1) := dk_42 (dk_at dksX2_act_5 3 rfl rfl)
theorem dX2_act_121 : decode cX2_act 121 = .ok (.dup, 1) := dk_89 (dk_at dksX2_act_5 4 rfl rfl)
theorem dX2_act_122 : decode cX2_act 122 = .ok (.getfield 42, 3) := dk_180 0 42 (dk_at dksX2_act_5 5 rfl rfl)
theorem dX2_act_125 : decode cX2_act 125 = .ok (.iconst 1, 1) := dk_4 (dk_at dksX2_act_5 8 rfl rfl)
theorem dX2_act_126 : decode cX2_act 126 = .ok (.iadd, 1) := dk_96 (dk_at dksX2_act_5 9 rfl rfl)
theorem dX2_act_127 : decode cX2_act 127 = .ok (.putfield 42, 3) := dk_181 0 42 (dk_at dksX2_act_5 10 rfl rfl)
theorem dX2_act_130 : decode cX2_act 130 = .ok (.return_, 1) := dk_177 (dk_at dksX2_act_5 13 rfl rfl)
abbrev cX2_left : ByteArray := prog_2_method_7_code
def yX2_left : MethodName := ⟨RX2, "left", "(JJ)V"⟩
def dkwX2_left_4 : List UInt8 := [20, 0, 121, 109, 55, 9, 167, 255, 209, 22, 5, 20, 0, 121, 109, 55, 5, 167, 255, 160, 177]
abbrev dktX2_left_4 : List UInt8 := dkwX2_left_4 ++ []
def dkwX2_left_3 : List UInt8 := [158, 0, 22, 42, 22, 7, 33, 22, 9, 109, 20, 0, 121, 113, 22, 5, 22, 9, 105, 182, 0, 68, 22, 9]
abbrev dktX2_left_3 : List UInt8 := dkwX2_left_3 ++ dktX2_left_4
def dkwX2_left_2 : List UInt8 := [184, 0, 117, 55, 9, 22, 9, 9, 148, 158, 0, 46, 33, 22, 9, 109, 20, 0, 121, 113, 9, 148]
abbrev dktX2_left_2 : List UInt8 := dkwX2_left_2 ++ dktX2_left_3
def dkwX2_left_1 : List UInt8 := [20, 0, 121, 113, 55, 7, 22, 7, 9, 148, 154, 0, 6, 167, 0, 64, 33, 184, 0, 96, 4, 100]
abbrev dktX2_left_1 : List UInt8 := dkwX2_left_1 ++ dktX2_left_2
def dkwX2_left_0 : List UInt8 := [31, 184, 0, 96, 4, 100, 184, 0, 117, 55, 5, 22, 5, 9, 148, 158, 0, 95, 31, 22, 5, 109]
abbrev dktX2_left_0 : List UInt8 := dkwX2_left_0 ++ dktX2_left_1
theorem dksX2_left_0 : cX2_left.data.toList.drop 0 = dktX2_left_0 := by decide +kernel
theorem dksX2_left_1 : cX2_left.data.toList.drop 22 = dktX2_left_1 := dk_seg dksX2_left_0 22 rfl rfl
theorem dksX2_left_2 : cX2_left.data.toList.drop 44 = dktX2_left_2 := dk_seg dksX2_left_1 22 rfl rfl
theorem dksX2_left_3 : cX2_left.data.toList.drop 66 = dktX2_left_3 := dk_seg dksX2_left_2 22 rfl rfl
theorem dksX2_left_4 : cX2_left.data.toList.drop 90 = dktX2_left_4 := dk_seg dksX2_left_3 24 rfl rfl
theorem dX2_left_0 : decode cX2_left 0 = .ok (.lload_n 1, 1) := dk_31 (dk_at dksX2_left_0 0 rfl rfl)
theorem dX2_left_1 : decode cX2_left 1 = .ok (.invokestatic 96, 3) := dk_184 0 96 (dk_at dksX2_left_0 1 rfl rfl)
theorem dX2_left_4 : decode cX2_left 4 = .ok (.iconst 1, 1) := dk_4 (dk_at dksX2_left_0 4 rfl rfl)
theorem dX2_left_5 : decode cX2_left 5 = .ok (.isub, 1) := dk_100 (dk_at dksX2_left_0 5 rfl rfl)
theorem dX2_left_6 : decode cX2_left 6 = .ok (.invokestatic 117, 3) := dk_184 0 117 (dk_at dksX2_left_0 6 rfl rfl)
theorem dX2_left_9 : decode cX2_left 9 = .ok (.lstore 5, 2) := dk_55 5 (dk_at dksX2_left_0 9 rfl rfl)
theorem dX2_left_11 : decode cX2_left 11 = .ok (.lload 5, 2) := dk_22 5 (dk_at dksX2_left_0 11 rfl rfl)
theorem dX2_left_13 : decode cX2_left 13 = .ok (.lconst 0, 1) := dk_9 (dk_at dksX2_left_0 13 rfl rfl)
theorem dX2_left_14 : decode cX2_left 14 = .ok (.lcmp, 1) := dk_148 (dk_at dksX2_left_0 14 rfl rfl)
theorem dX2_left_15 : decode cX2_left 15 = .ok (.ifCond .le 95, 3) := dk_158 0 95 (dk_at dksX2_left_0 15 rfl rfl)
theorem dX2_left_18 : decode cX2_left 18 = .ok (.lload_n 1, 1) := dk_31 (dk_at dksX2_left_0 18 rfl rfl)
theorem dX2_left_19 : decode cX2_left 19 = .ok (.lload 5, 2) := dk_22 5 (dk_at dksX2_left_0 19 rfl rfl)
theorem dX2_left_21 : decode cX2_left 21 = .ok (.ldiv, 1) := dk_109 (dk_at dksX2_left_0 21 rfl rfl)
theorem dX2_left_22 : decode cX2_left 22 = .ok (.ldc2_w 121, 3) := dk_20 0 121 (dk_at dksX2_left_1 0 rfl rfl)
theorem dX2_left_25 : decode cX2_left 25 = .ok (.lrem, 1) := dk_113 (dk_at dksX2_left_1 3 rfl rfl)
theorem dX2_left_26 : decode cX2_left 26 = .ok (.lstore 7, 2) := dk_55 7 (dk_at dksX2_left_1 4 rfl rfl)
theorem dX2_left_28 : decode cX2_left 28 = .ok (.lload 7, 2) := dk_22 7 (dk_at dksX2_left_1 6 rfl rfl)
theorem dX2_left_30 : decode cX2_left 30 = .ok (.lconst 0, 1) := dk_9 (dk_at dksX2_left_1 8 rfl rfl)
theorem dX2_left_31 : decode cX2_left 31 = .ok (.lcmp, 1) := dk_148 (dk_at dksX2_left_1 9 rfl rfl)
theorem dX2_left_32 : decode cX2_left 32 = .ok (.ifCond .ne 6, 3) := dk_154 0 6 (dk_at dksX2_left_1 10 rfl rfl)
theorem dX2_left_35 : decode cX2_left 35 = .ok (.goto 64, 3) := dk_167 0 64 (dk_at dksX2_left_1 13 rfl rfl)
theorem dX2_left_38 : decode cX2_left 38 = .ok (.lload_n 3, 1) := dk_33 (dk_at dksX2_left_1 16 rfl rfl)
theorem dX2_left_39 : decode cX2_left 39 = .ok (.invokestatic 96, 3) := dk_184 0 96 (dk_at dksX2_left_1 17 rfl rfl)
theorem dX2_left_42 : decode cX2_left 42 = .ok (.iconst 1, 1) := dk_4 (dk_at dksX2_left_1 20 rfl rfl)
theorem dX2_left_43 : decode cX2_left 43 = .ok (.isub, 1) := dk_100 (dk_at dksX2_left_1 21 rfl rfl)
theorem dX2_left_44 : decode cX2_left 44 = .ok (.invokestatic 117, 3) := dk_184 0 117 (dk_at dksX2_left_2 0 rfl rfl)
theorem dX2_left_47 : decode cX2_left 47 = .ok (.lstore 9, 2) := dk_55 9 (dk_at dksX2_left_2 3 rfl rfl)
theorem dX2_left_49 : decode cX2_left 49 = .ok (.lload 9, 2) := dk_22 9 (dk_at dksX2_left_2 5 rfl rfl)
theorem dX2_left_51 : decode cX2_left 51 = .ok (.lconst 0, 1) := dk_9 (dk_at dksX2_left_2 7 rfl rfl)
theorem dX2_left_52 : decode cX2_left 52 = .ok (.lcmp, 1) := dk_148 (dk_at dksX2_left_2 8 rfl rfl)
theorem dX2_left_53 : decode cX2_left 53 = .ok (.ifCond .le 46, 3) := dk_158 0 46 (dk_at dksX2_left_2 9 rfl rfl)
theorem dX2_left_56 : decode cX2_left 56 = .ok (.lload_n 3, 1) := dk_33 (dk_at dksX2_left_2 12 rfl rfl)
theorem dX2_left_57 : decode cX2_left 57 = .ok (.lload 9, 2) := dk_22 9 (dk_at dksX2_left_2 13 rfl rfl)
theorem dX2_left_59 : decode cX2_left 59 = .ok (.ldiv, 1) := dk_109 (dk_at dksX2_left_2 15 rfl rfl)
theorem dX2_left_60 : decode cX2_left 60 = .ok (.ldc2_w 121, 3) := dk_20 0 121 (dk_at dksX2_left_2 16 rfl rfl)
theorem dX2_left_63 : decode cX2_left 63 = .ok (.lrem, 1) := dk_113 (dk_at dksX2_left_2 19 rfl rfl)
theorem dX2_left_64 : decode cX2_left 64 = .ok (.lconst 0, 1) := dk_9 (dk_at dksX2_left_2 20 rfl rfl)
theorem dX2_left_65 : decode cX2_left 65 = .ok (.lcmp, 1) := dk_148 (dk_at dksX2_left_2 21 rfl rfl)
theorem dX2_left_66 : decode cX2_left 66 = .ok (.ifCond .le 22, 3) := dk_158 0 22 (dk_at dksX2_left_3 0 rfl rfl)
theorem dX2_left_69 : decode cX2_left 69 = .ok (.aload_n 0, 1) := dk_42 (dk_at dksX2_left_3 3 rfl rfl)
theorem dX2_left_70 : decode cX2_left 70 = .ok (.lload 7, 2) := dk_22 7 (dk_at dksX2_left_3 4 rfl rfl)
theorem dX2_left_72 : decode cX2_left 72 = .ok (.lload_n 3, 1) := dk_33 (dk_at dksX2_left_3 6 rfl rfl)
theorem dX2_left_73 : decode cX2_left 73 = .ok (.lload 9, 2) := dk_22 9 (dk_at dksX2_left_3 7 rfl rfl)
theorem dX2_left_75 : decode cX2_left 75 = .ok (.ldiv, 1) := dk_109 (dk_at dksX2_left_3 9 rfl rfl)
theorem dX2_left_76 : decode cX2_left 76 = .ok (.ldc2_w 121, 3) := dk_20 0 121 (dk_at dksX2_left_3 10 rfl rfl)
theorem dX2_left_79 : decode cX2_left 79 = .ok (.lrem, 1) := dk_113 (dk_at dksX2_left_3 13 rfl rfl)
theorem dX2_left_80 : decode cX2_left 80 = .ok (.lload 5, 2) := dk_22 5 (dk_at dksX2_left_3 14 rfl rfl)
theorem dX2_left_82 : decode cX2_left 82 = .ok (.lload 9, 2) := dk_22 9 (dk_at dksX2_left_3 16 rfl rfl)
theorem dX2_left_84 : decode cX2_left 84 = .ok (.lmul, 1) := dk_105 (dk_at dksX2_left_3 18 rfl rfl)
theorem dX2_left_85 : decode cX2_left 85 = .ok (.invokevirtual 68, 3) := dk_182 0 68 (dk_at dksX2_left_3 19 rfl rfl)
theorem dX2_left_88 : decode cX2_left 88 = .ok (.lload 9, 2) := dk_22 9 (dk_at dksX2_left_3 22 rfl rfl)
theorem dX2_left_90 : decode cX2_left 90 = .ok (.ldc2_w 121, 3) := dk_20 0 121 (dk_at dksX2_left_4 0 rfl rfl)
theorem dX2_left_93 : decode cX2_left 93 = .ok (.ldiv, 1) := dk_109 (dk_at dksX2_left_4 3 rfl rfl)
theorem dX2_left_94 : decode cX2_left 94 = .ok (.lstore 9, 2) := dk_55 9 (dk_at dksX2_left_4 4 rfl rfl)
theorem dX2_left_96 : decode cX2_left 96 = .ok (.goto (-47), 3) := dk_167 255 209 (dk_at dksX2_left_4 6 rfl rfl)
theorem dX2_left_99 : decode cX2_left 99 = .ok (.lload 5, 2) := dk_22 5 (dk_at dksX2_left_4 9 rfl rfl)
theorem dX2_left_101 : decode cX2_left 101 = .ok (.ldc2_w 121, 3) := dk_20 0 121 (dk_at dksX2_left_4 11 rfl rfl)
theorem dX2_left_104 : decode cX2_left 104 = .ok (.ldiv, 1) := dk_109 (dk_at dksX2_left_4 14 rfl rfl)
theorem dX2_left_105 : decode cX2_left 105 = .ok (.lstore 5, 2) := dk_55 5 (dk_at dksX2_left_4 15 rfl rfl)
theorem dX2_left_107 : decode cX2_left 107 = .ok (.goto (-96), 3) := dk_167 255 160 (dk_at dksX2_left_4 17 rfl rfl)
theorem dX2_left_110 : decode cX2_left 110 = .ok (.return_, 1) := dk_177 (dk_at dksX2_left_4 20 rfl rfl)
abbrev cX2_right : ByteArray := prog_2_method_8_code
def yX2_right : MethodName := ⟨RX2, "right", "(JJ)V"⟩
def dkwX2_right_8 : List UInt8 := [4, 46, 42, 180, 0, 89, 184, 0, 96, 104, 9, 182, 0, 113, 132, 6, 1, 167, 255, 184, 177]
abbrev dktX2_right_8 : List UInt8 := dkwX2_right_8 ++ []
def dkwX2_right_7 : List UInt8 := [42, 180, 0, 35, 21, 6, 47, 97, 181, 0, 89, 42, 4, 42, 180, 0, 89, 42, 180, 0, 38, 180, 0, 106]
abbrev dktX2_right_7 : List UInt8 := dkwX2_right_7 ++ dktX2_right_8
def dkwX2_right_6 : List UInt8 := [42, 89, 180, 0, 46, 42, 180, 0, 35, 21, 6, 47, 184, 0, 96, 100, 181, 0, 46, 42, 89, 180, 0, 89]
abbrev dktX2_right_6 : List UInt8 := dkwX2_right_6 ++ dktX2_right_7
def dkwX2_right_5 : List UInt8 := [100, 181, 0, 46, 42, 42, 180, 0, 35, 3, 47, 181, 0, 89, 4, 54, 6, 21, 6, 21, 5, 162, 0, 71]
abbrev dktX2_right_5 : List UInt8 := dkwX2_right_5 ++ dktX2_right_6
def dkwX2_right_4 : List UInt8 := [167, 255, 168, 21, 5, 5, 162, 0, 4, 177, 42, 89, 180, 0, 46, 42, 180, 0, 35, 3, 47, 184, 0, 96]
abbrev dktX2_right_4 : List UInt8 := dkwX2_right_4 ++ dktX2_right_5
def dkwX2_right_3 : List UInt8 := [180, 0, 35, 21, 5, 47, 184, 0, 96, 182, 0, 123, 132, 5, 1, 22, 6, 20, 0, 121, 105, 55, 6]
abbrev dktX2_right_3 : List UInt8 := dkwX2_right_3 ++ dktX2_right_4
def dkwX2_right_2 : List UInt8 := [42, 180, 0, 35, 21, 5, 42, 180, 0, 89, 80, 42, 182, 0, 59, 42, 42, 180, 0, 35, 21, 5, 47, 42]
abbrev dktX2_right_2 : List UInt8 := dkwX2_right_2 ++ dktX2_right_3
def dkwX2_right_1 : List UInt8 := [22, 8, 9, 148, 154, 0, 6, 167, 0, 56, 42, 182, 0, 59, 42, 31, 22, 8, 22, 6, 105, 182, 0, 72]
abbrev dktX2_right_1 : List UInt8 := dkwX2_right_1 ++ dktX2_right_2
def dkwX2_right_0 : List UInt8 := [3, 54, 5, 10, 55, 6, 22, 6, 33, 148, 157, 0, 87, 33, 22, 6, 109, 20, 0, 121, 113, 55, 8]
abbrev dktX2_right_0 : List UInt8 := dkwX2_right_0 ++ dktX2_right_1
theorem dksX2_right_0 : cX2_right.data.toList.drop 0 = dktX2_right_0 := by decide +kernel
theorem dksX2_right_1 : cX2_right.data.toList.drop 23 = dktX2_right_1 := dk_seg dksX2_right_0 23 rfl rfl
theorem dksX2_right_2 : cX2_right.data.toList.drop 47 = dktX2_right_2 := dk_seg dksX2_right_1 24 rfl rfl
theorem dksX2_right_3 : cX2_right.data.toList.drop 71 = dktX2_right_3 := dk_seg dksX2_right_2 24 rfl rfl
theorem dksX2_right_4 : cX2_right.data.toList.drop 94 = dktX2_right_4 := dk_seg dksX2_right_3 23 rfl rfl
theorem dksX2_right_5 : cX2_right.data.toList.drop 118 = dktX2_right_5 := dk_seg dksX2_right_4 24 rfl rfl
theorem dksX2_right_6 : cX2_right.data.toList.drop 142 = dktX2_right_6 := dk_seg dksX2_right_5 24 rfl rfl
theorem dksX2_right_7 : cX2_right.data.toList.drop 166 = dktX2_right_7 := dk_seg dksX2_right_6 24 rfl rfl
theorem dksX2_right_8 : cX2_right.data.toList.drop 190 = dktX2_right_8 := dk_seg dksX2_right_7 24 rfl rfl
theorem dX2_right_0 : decode cX2_right 0 = .ok (.iconst 0, 1) := dk_3 (dk_at dksX2_right_0 0 rfl rfl)
theorem dX2_right_1 : decode cX2_right 1 = .ok (.istore 5, 2) := dk_54 5 (dk_at dksX2_right_0 1 rfl rfl)
theorem dX2_right_3 : decode cX2_right 3 = .ok (.lconst 1, 1) := dk_10 (dk_at dksX2_right_0 3 rfl rfl)
theorem dX2_right_4 : decode cX2_right 4 = .ok (.lstore 6, 2) := dk_55 6 (dk_at dksX2_right_0 4 rfl rfl)
theorem dX2_right_6 : decode cX2_right 6 = .ok (.lload 6, 2) := dk_22 6 (dk_at dksX2_right_0 6 rfl rfl)
theorem dX2_right_8 : decode cX2_right 8 = .ok (.lload_n 3, 1) := dk_33 (dk_at dksX2_right_0 8 rfl rfl)
theorem dX2_right_9 : decode cX2_right 9 = .ok (.lcmp, 1) := dk_148 (dk_at dksX2_right_0 9 rfl rfl)
theorem dX2_right_10 : decode cX2_right 10 = .ok (.ifCond .gt 87, 3) := dk_157 0 87 (dk_at dksX2_right_0 10 rfl rfl)
theorem dX2_right_13 : decode cX2_right 13 = .ok (.lload_n 3, 1) := dk_33 (dk_at dksX2_right_0 13 rfl rfl)
theorem dX2_right_14 : decode cX2_right 14 = .ok (.lload 6, 2) := dk_22 6 (dk_at dksX2_right_0 14 rfl rfl)
theorem dX2_right_16 : decode cX2_right 16 = .ok (.ldiv, 1) := dk_109 (dk_at dksX2_right_0 16 rfl rfl)
theorem dX2_right_17 : decode cX2_right 17 = .ok (.ldc2_w 121, 3) := dk_20 0 121 (dk_at dksX2_right_0 17 rfl rfl)
theorem dX2_right_20 : decode cX2_right 20 = .ok (.lrem, 1) := dk_113 (dk_at dksX2_right_0 20 rfl rfl)
theorem dX2_right_21 : decode cX2_right 21 = .ok (.lstore 8, 2) := dk_55 8 (dk_at dksX2_right_0 21 rfl rfl)
theorem dX2_right_23 : decode cX2_right 23 = .ok (.lload 8, 2) := dk_22 8 (dk_at dksX2_right_1 0 rfl rfl)
theorem dX2_right_25 : decode cX2_right 25 = .ok (.lconst 0, 1) := dk_9 (dk_at dksX2_right_1 2 rfl rfl)
theorem dX2_right_26 : decode cX2_right 26 = .ok (.lcmp, 1) := dk_148 (dk_at dksX2_right_1 3 rfl rfl)
theorem dX2_right_27 : decode cX2_right 27 = .ok (.ifCond .ne 6, 3) := dk_154 0 6 (dk_at dksX2_right_1 4 rfl rfl)
theorem dX2_right_30 : decode cX2_right 30 = .ok (.goto 56, 3) := dk_167 0 56 (dk_at dksX2_right_1 7 rfl rfl)
theorem dX2_right_33 : decode cX2_right 33 = .ok (.aload_n 0, 1) := dk_42 (dk_at dksX2_right_1 10 rfl rfl)
theorem dX2_right_34 : decode cX2_right 34 = .ok (.invokevirtual 59, 3) := dk_182 0 59 (dk_at dksX2_right_1 11 rfl rfl)
theorem dX2_right_37 : decode cX2_right 37 = .ok (.aload_n 0, 1) := dk_42 (dk_at dksX2_right_1 14 rfl rfl)
theorem dX2_right_38 : decode cX2_right 38 = .ok (.lload_n 1, 1) := dk_31 (dk_at dksX2_right_1 15 rfl rfl)
theorem dX2_right_39 : decode cX2_right 39 = .ok (.lload 8, 2) := dk_22 8 (dk_at dksX2_right_1 16 rfl rfl)
theorem dX2_right_41 : decode cX2_right 41 = .ok (.lload 6, 2) := dk_22 6 (dk_at dksX2_right_1 18 rfl rfl)
theorem dX2_right_43 : decode cX2_right 43 = .ok (.lmul, 1) := dk_105 (dk_at dksX2_right_1 20 rfl rfl)
theorem dX2_right_44 : decode cX2_right 44 = .ok (.invokevirtual 72, 3) := dk_182 0 72 (dk_at dksX2_right_1 21 rfl rfl)
theorem dX2_right_47 : decode cX2_right 47 = .ok (.aload_n 0, 1) := dk_42 (dk_at dksX2_right_2 0 rfl rfl)
theorem dX2_right_48 : decode cX2_right 48 = .ok (.getfield 35, 3) := dk_180 0 35 (dk_at dksX2_right_2 1 rfl rfl)
theorem dX2_right_51 : decode cX2_right 51 = .ok (.iload 5, 2) := dk_21 5 (dk_at dksX2_right_2 4 rfl rfl)
theorem dX2_right_53 : decode cX2_right 53 = .ok (.aload_n 0, 1) := dk_42 (dk_at dksX2_right_2 6 rfl rfl)
theorem dX2_right_54 : decode cX2_right 54 = .ok (.getfield 89, 3) := dk_180 0 89 (dk_at dksX2_right_2 7 rfl rfl)
theorem dX2_right_57 : decode cX2_right 57 = .ok (.lastore, 1) := dk_80 (dk_at dksX2_right_2 10 rfl rfl)
theorem dX2_right_58 : decode cX2_right 58 = .ok (.aload_n 0, 1) := dk_42 (dk_at dksX2_right_2 11 rfl rfl)
theorem dX2_right_59 : decode cX2_right 59 = .ok (.invokevirtual 59, 3) := dk_182 0 59 (dk_at dksX2_right_2 12 rfl rfl)
theorem dX2_right_62 : decode cX2_right 62 = .ok (.aload_n 0, 1) := dk_42 (dk_at dksX2_right_2 15 rfl rfl)
theorem dX2_right_63 : decode cX2_right 63 = .ok (.aload_n 0, 1) := dk_42 (dk_at dksX2_right_2 16 rfl rfl)
theorem dX2_right_64 : decode cX2_right 64 = .ok (.getfield 35, 3) := dk_180 0 35 (dk_at dksX2_right_2 17 rfl rfl)
theorem dX2_right_67 : decode cX2_right 67 = .ok (.iload 5, 2) := dk_21 5 (dk_at dksX2_right_2 20 rfl rfl)
theorem dX2_right_69 : decode cX2_right 69 = .ok (.laload, 1) := dk_47 (dk_at dksX2_right_2 22 rfl rfl)
theorem dX2_right_70 : decode cX2_right 70 = .ok (.aload_n 0, 1) := dk_42 (dk_at dksX2_right_2 23 rfl rfl)
theorem dX2_right_71 : decode cX2_right 71 = .ok (.getfield 35, 3) := dk_180 0 35 (dk_at dksX2_right_3 0 rfl rfl)
theorem dX2_right_74 : decode cX2_right 74 = .ok (.iload 5, 2) := dk_21 5 (dk_at dksX2_right_3 3 rfl rfl)
theorem dX2_right_76 : decode cX2_right 76 = .ok (.laload, 1) := dk_47 (dk_at dksX2_right_3 5 rfl rfl)
theorem dX2_right_77 : decode cX2_right 77 = .ok (.invokestatic 96, 3) := dk_184 0 96 (dk_at dksX2_right_3 6 rfl rfl)
theorem dX2_right_80 : decode cX2_right 80 = .ok (.invokevirtual 123, 3) := dk_182 0 123 (dk_at dksX2_right_3 9 rfl rfl)
theorem dX2_right_83 : decode cX2_right 83 = .ok (.iinc 5 1, 3) := dk_132 5 1 (dk_at dksX2_right_3 12 rfl rfl)
theorem dX2_right_86 : decode cX2_right 86 = .ok (.lload 6, 2) := dk_22 6 (dk_at dksX2_right_3 15 rfl rfl)
theorem dX2_right_88 : decode cX2_right 88 = .ok (.ldc2_w 121, 3) := dk_20 0 121 (dk_at dksX2_right_3 17 rfl rfl)
theorem dX2_right_91 : decode cX2_right 91 = .ok (.lmul, 1) := dk_105 (dk_at dksX2_right_3 20 rfl rfl)
theorem dX2_right_92 : decode cX2_right 92 = .ok (.lstore 6, 2) := dk_55 6 (dk_at dksX2_right_3 21 rfl rfl)
theorem dX2_right_94 : decode cX2_right 94 = .ok (.goto (-88), 3) := dk_167 255 168 (dk_at dksX2_right_4 0 rfl rfl)
theorem dX2_right_97 : decode cX2_right 97 = .ok (.iload 5, 2) := dk_21 5 (dk_at dksX2_right_4 3 rfl rfl)
theorem dX2_right_99 : decode cX2_right 99 = .ok (.iconst 2, 1) := dk_5 (dk_at dksX2_right_4 5 rfl rfl)
theorem dX2_right_100 : decode cX2_right 100 = .ok (.if_icmp .ge 4, 3) := dk_162 0 4 (dk_at dksX2_right_4 6 rfl rfl)
theorem dX2_right_103 : decode cX2_right 103 = .ok (.return_, 1) := dk_177 (dk_at dksX2_right_4 9 rfl rfl)
theorem dX2_right_104 : decode cX2_right 104 = .ok (.aload_n 0, 1) := dk_42 (dk_at dksX2_right_4 10 rfl rfl)
theorem dX2_right_105 : decode cX2_right 105 = .ok (.dup, 1) := dk_89 (dk_at dksX2_right_4 11 rfl rfl)
theorem dX2_right_106 : decode cX2_right 106 = .ok (.getfield 46, 3) := dk_180 0 46 (dk_at dksX2_right_4 12 rfl rfl)
theorem dX2_right_109 : decode cX2_right 109 = .ok (.aload_n 0, 1) := dk_42 (dk_at dksX2_right_4 15 rfl rfl)
theorem dX2_right_110 : decode cX2_right 110 = .ok (.getfield 35, 3) := dk_180 0 35 (dk_at dksX2_right_4 16 rfl rfl)
theorem dX2_right_113 : decode cX2_right 113 = .ok (.iconst 0, 1) := dk_3 (dk_at dksX2_right_4 19 rfl rfl)
theorem dX2_right_114 : decode cX2_right 114 = .ok (.laload, 1) := dk_47 (dk_at dksX2_right_4 20 rfl rfl)
theorem dX2_right_115 : decode cX2_right 115 = .ok (.invokestatic 96, 3) := dk_184 0 96 (dk_at dksX2_right_4 21 rfl rfl)
theorem dX2_right_118 : decode cX2_right 118 = .ok (.isub, 1) := dk_100 (dk_at dksX2_right_5 0 rfl rfl)
theorem dX2_right_119 : decode cX2_right 119 = .ok (.putfield 46, 3) := dk_181 0 46 (dk_at dksX2_right_5 1 rfl rfl)
theorem dX2_right_122 : decode cX2_right 122 = .ok (.aload_n 0, 1) := dk_42 (dk_at dksX2_right_5 4 rfl rfl)
theorem dX2_right_123 : decode cX2_right 123 = .ok (.aload_n 0, 1) := dk_42 (dk_at dksX2_right_5 5 rfl rfl)
theorem dX2_right_124 : decode cX2_right 124 = .ok (.getfield 35, 3) := dk_180 0 35 (dk_at dksX2_right_5 6 rfl rfl)
theorem dX2_right_127 : decode cX2_right 127 = .ok (.iconst 0, 1) := dk_3 (dk_at dksX2_right_5 9 rfl rfl)
theorem dX2_right_128 : decode cX2_right 128 = .ok (.laload, 1) := dk_47 (dk_at dksX2_right_5 10 rfl rfl)
theorem dX2_right_129 : decode cX2_right 129 = .ok (.putfield 89, 3) := dk_181 0 89 (dk_at dksX2_right_5 11 rfl rfl)
theorem dX2_right_132 : decode cX2_right 132 = .ok (.iconst 1, 1) := dk_4 (dk_at dksX2_right_5 14 rfl rfl)
theorem dX2_right_133 : decode cX2_right 133 = .ok (.istore 6, 2) := dk_54 6 (dk_at dksX2_right_5 15 rfl rfl)
theorem dX2_right_135 : decode cX2_right 135 = .ok (.iload 6, 2) := dk_21 6 (dk_at dksX2_right_5 17 rfl rfl)
theorem dX2_right_137 : decode cX2_right 137 = .ok (.iload 5, 2) := dk_21 5 (dk_at dksX2_right_5 19 rfl rfl)
theorem dX2_right_139 : decode cX2_right 139 = .ok (.if_icmp .ge 71, 3) := dk_162 0 71 (dk_at dksX2_right_5 21 rfl rfl)
theorem dX2_right_142 : decode cX2_right 142 = .ok (.aload_n 0, 1) := dk_42 (dk_at dksX2_right_6 0 rfl rfl)
theorem dX2_right_143 : decode cX2_right 143 = .ok (.dup, 1) := dk_89 (dk_at dksX2_right_6 1 rfl rfl)
theorem dX2_right_144 : decode cX2_right 144 = .ok (.getfield 46, 3) := dk_180 0 46 (dk_at dksX2_right_6 2 rfl rfl)
theorem dX2_right_147 : decode cX2_right 147 = .ok (.aload_n 0, 1) := dk_42 (dk_at dksX2_right_6 5 rfl rfl)
theorem dX2_right_148 : decode cX2_right 148 = .ok (.getfield 35, 3) := dk_180 0 35 (dk_at dksX2_right_6 6 rfl rfl)
theorem dX2_right_151 : decode cX2_right 151 = .ok (.iload 6, 2) := dk_21 6 (dk_at dksX2_right_6 9 rfl rfl)
theorem dX2_right_153 : decode cX2_right 153 = .ok (.laload, 1) := dk_47 (dk_at dksX2_right_6 11 rfl rfl)
theorem dX2_right_154 : decode cX2_right 154 = .ok (.invokestatic 96, 3) := dk_184 0 96 (dk_at dksX2_right_6 12 rfl rfl)
theorem dX2_right_157 : decode cX2_right 157 = .ok (.isub, 1) := dk_100 (dk_at dksX2_right_6 15 rfl rfl)
theorem dX2_right_158 : decode cX2_right 158 = .ok (.putfield 46, 3) := dk_181 0 46 (dk_at dksX2_right_6 16 rfl rfl)
theorem dX2_right_161 : decode cX2_right 161 = .ok (.aload_n 0, 1) := dk_42 (dk_at dksX2_right_6 19 rfl rfl)
theorem dX2_right_162 : decode cX2_right 162 = .ok (.dup, 1) := dk_89 (dk_at dksX2_right_6 20 rfl rfl)
theorem dX2_right_163 : decode cX2_right 163 = .ok (.getfield 89, 3) := dk_180 0 89 (dk_at dksX2_right_6 21 rfl rfl)
theorem dX2_right_166 : decode cX2_right 166 = .ok (.aload_n 0, 1) := dk_42 (dk_at dksX2_right_7 0 rfl rfl)
theorem dX2_right_167 : decode cX2_right 167 = .ok (.getfield 35, 3) := dk_180 0 35 (dk_at dksX2_right_7 1 rfl rfl)
theorem dX2_right_170 : decode cX2_right 170 = .ok (.iload 6, 2) := dk_21 6 (dk_at dksX2_right_7 4 rfl rfl)
theorem dX2_right_172 : decode cX2_right 172 = .ok (.laload, 1) := dk_47 (dk_at dksX2_right_7 6 rfl rfl)
theorem dX2_right_173 : decode cX2_right 173 = .ok (.ladd, 1) := dk_97 (dk_at dksX2_right_7 7 rfl rfl)
theorem dX2_right_174 : decode cX2_right 174 = .ok (.putfield 89, 3) := dk_181 0 89 (dk_at dksX2_right_7 8 rfl rfl)
theorem dX2_right_177 : decode cX2_right 177 = .ok (.aload_n 0, 1) := dk_42 (dk_at dksX2_right_7 11 rfl rfl)
theorem dX2_right_178 : decode cX2_right 178 = .ok (.iconst 1, 1) := dk_4 (dk_at dksX2_right_7 12 rfl rfl)
theorem dX2_right_179 : decode cX2_right 179 = .ok (.aload_n 0, 1) := dk_42 (dk_at dksX2_right_7 13 rfl rfl)
theorem dX2_right_180 : decode cX2_right 180 = .ok (.getfield 89, 3) := dk_180 0 89 (dk_at dksX2_right_7 14 rfl rfl)
theorem dX2_right_183 : decode cX2_right 183 = .ok (.aload_n 0, 1) := dk_42 (dk_at dksX2_right_7 17 rfl rfl)
theorem dX2_right_184 : decode cX2_right 184 = .ok (.getfield 38, 3) := dk_180 0 38 (dk_at dksX2_right_7 18 rfl rfl)
theorem dX2_right_187 : decode cX2_right 187 = .ok (.getfield 106, 3) := dk_180 0 106 (dk_at dksX2_right_7 21 rfl rfl)
theorem dX2_right_190 : decode cX2_right 190 = .ok (.iconst 1, 1) := dk_4 (dk_at dksX2_right_8 0 rfl rfl)
theorem dX2_right_191 : decode cX2_right 191 = .ok (.iaload, 1) := dk_46 (dk_at dksX2_right_8 1 rfl rfl)
theorem dX2_right_192 : decode cX2_right 192 = .ok (.aload_n 0, 1) := dk_42 (dk_at dksX2_right_8 2 rfl rfl)
theorem dX2_right_193 : decode cX2_right 193 = .ok (.getfield 89, 3) := dk_180 0 89 (dk_at dksX2_right_8 3 rfl rfl)
theorem dX2_right_196 : decode cX2_right 196 = .ok (.invokestatic 96, 3) := dk_184 0 96 (dk_at dksX2_right_8 6 rfl rfl)
theorem dX2_right_199 : decode cX2_right 199 = .ok (.imul, 1) := dk_104 (dk_at dksX2_right_8 9 rfl rfl)
theorem dX2_right_200 : decode cX2_right 200 = .ok (.lconst 0, 1) := dk_9 (dk_at dksX2_right_8 10 rfl rfl)
theorem dX2_right_201 : decode cX2_right 201 = .ok (.invokevirtual 113, 3) := dk_182 0 113 (dk_at dksX2_right_8 11 rfl rfl)
theorem dX2_right_204 : decode cX2_right 204 = .ok (.iinc 6 1, 3) := dk_132 6 1 (dk_at dksX2_right_8 14 rfl rfl)
theorem dX2_right_207 : decode cX2_right 207 = .ok (.goto (-72), 3) := dk_167 255 184 (dk_at dksX2_right_8 17 rfl rfl)
theorem dX2_right_210 : decode cX2_right 210 = .ok (.return_, 1) := dk_177 (dk_at dksX2_right_8 20 rfl rfl)
abbrev cX2_hold : ByteArray := prog_2_method_6_code
def yX2_hold : MethodName := ⟨RX2, "hold", "(JI)V"⟩
def dkwX2_hold_1 : List UInt8 := [9, 182, 0, 113, 177]
abbrev dktX2_hold_1 : List UInt8 := dkwX2_hold_1 ++ []
def dkwX2_hold_0 : List UInt8 := [42, 89, 180, 0, 46, 29, 96, 181, 0, 46, 42, 5, 31, 42, 180, 0, 38, 180, 0, 106, 5, 46, 29, 104]
abbrev dktX2_hold_0 : List UInt8 := dkwX2_hold_0 ++ dktX2_hold_1
theorem dksX2_hold_0 : cX2_hold.data.toList.drop 0 = dktX2_hold_0 := by decide +kernel
theorem dksX2_hold_1 : cX2_hold.data.toList.drop 24 = dktX2_hold_1 := dk_seg dksX2_hold_0 24 rfl rfl
theorem dX2_hold_0 : decode cX2_hold 0 = .ok (.aload_n 0, 1) := dk_42 (dk_at dksX2_hold_0 0 rfl rfl)
theorem dX2_hold_1 : decode cX2_hold 1 = .ok (.dup, 1) := dk_89 (dk_at dksX2_hold_0 1 rfl rfl)
theorem dX2_hold_2 : decode cX2_hold 2 = .ok (.getfield 46, 3) := dk_180 0 46 (dk_at dksX2_hold_0 2 rfl rfl)
theorem dX2_hold_5 : decode cX2_hold 5 = .ok (.iload_n 3, 1) := dk_29 (dk_at dksX2_hold_0 5 rfl rfl)
theorem dX2_hold_6 : decode cX2_hold 6 = .ok (.iadd, 1) := dk_96 (dk_at dksX2_hold_0 6 rfl rfl)
theorem dX2_hold_7 : decode cX2_hold 7 = .ok (.putfield 46, 3) := dk_181 0 46 (dk_at dksX2_hold_0 7 rfl rfl)
theorem dX2_hold_10 : decode cX2_hold 10 = .ok (.aload_n 0, 1) := dk_42 (dk_at dksX2_hold_0 10 rfl rfl)
theorem dX2_hold_11 : decode cX2_hold 11 = .ok (.iconst 2, 1) := dk_5 (dk_at dksX2_hold_0 11 rfl rfl)
theorem dX2_hold_12 : decode cX2_hold 12 = .ok (.lload_n 1, 1) := dk_31 (dk_at dksX2_hold_0 12 rfl rfl)
theorem dX2_hold_13 : decode cX2_hold 13 = .ok (.aload_n 0, 1) := dk_42 (dk_at dksX2_hold_0 13 rfl rfl)
theorem dX2_hold_14 : decode cX2_hold 14 = .ok (.getfield 38, 3) := dk_180 0 38 (dk_at dksX2_hold_0 14 rfl rfl)
theorem dX2_hold_17 : decode cX2_hold 17 = .ok (.getfield 106, 3) := dk_180 0 106 (dk_at dksX2_hold_0 17 rfl rfl)
theorem dX2_hold_20 : decode cX2_hold 20 = .ok (.iconst 2, 1) := dk_5 (dk_at dksX2_hold_0 20 rfl rfl)
theorem dX2_hold_21 : decode cX2_hold 21 = .ok (.iaload, 1) := dk_46 (dk_at dksX2_hold_0 21 rfl rfl)
theorem dX2_hold_22 : decode cX2_hold 22 = .ok (.iload_n 3, 1) := dk_29 (dk_at dksX2_hold_0 22 rfl rfl)
theorem dX2_hold_23 : decode cX2_hold 23 = .ok (.imul, 1) := dk_104 (dk_at dksX2_hold_0 23 rfl rfl)
theorem dX2_hold_24 : decode cX2_hold 24 = .ok (.lconst 0, 1) := dk_9 (dk_at dksX2_hold_1 0 rfl rfl)
theorem dX2_hold_25 : decode cX2_hold 25 = .ok (.invokevirtual 113, 3) := dk_182 0 113 (dk_at dksX2_hold_1 1 rfl rfl)
theorem dX2_hold_28 : decode cX2_hold 28 = .ok (.return_, 1) := dk_177 (dk_at dksX2_hold_1 4 rfl rfl)
abbrev cX2_crossed : ByteArray := prog_2_method_9_code
def yX2_crossed : MethodName := ⟨RX2, "crossed", "(JJ)V"⟩
def dkwX2_crossed_6 : List UInt8 := [109, 181, 0, 89, 42, 22, 8, 4, 182, 0, 123, 132, 7, 1, 167, 255, 115, 177]
abbrev dktX2_crossed_6 : List UInt8 := dkwX2_crossed_6 ++ []
def dkwX2_crossed_5 : List UInt8 := [132, 8, 1, 167, 255, 174, 42, 180, 0, 89, 20, 0, 121, 113, 55, 8, 42, 89, 180, 0, 89, 20, 0, 121]
abbrev dktX2_crossed_5 : List UInt8 := dkwX2_crossed_5 ++ dktX2_crossed_6
def dkwX2_crossed_4 : List UInt8 := [22, 9, 9, 148, 158, 0, 19, 22, 11, 9, 148, 158, 0, 12, 42, 22, 9, 22, 11, 10, 182, 0, 68]
abbrev dktX2_crossed_4 : List UInt8 := dkwX2_crossed_4 ++ dktX2_crossed_5
def dkwX2_crossed_3 : List UInt8 := [109, 20, 0, 121, 113, 55, 9, 33, 21, 7, 21, 8, 100, 184, 0, 117, 109, 20, 0, 121, 113, 55, 11]
abbrev dktX2_crossed_3 : List UInt8 := dkwX2_crossed_3 ++ dktX2_crossed_4
def dkwX2_crossed_2 : List UInt8 := [21, 7, 163, 0, 74, 21, 7, 21, 8, 100, 21, 6, 161, 0, 6, 167, 0, 55, 31, 21, 8, 184, 0, 117]
abbrev dktX2_crossed_2 : List UInt8 := dkwX2_crossed_2 ++ dktX2_crossed_3
def dkwX2_crossed_1 : List UInt8 := [163, 0, 135, 42, 21, 7, 184, 0, 117, 181, 0, 55, 3, 54, 8, 21, 8, 21, 5, 162, 0, 81, 21, 8]
abbrev dktX2_crossed_1 : List UInt8 := dkwX2_crossed_1 ++ dktX2_crossed_2
def dkwX2_crossed_0 : List UInt8 := [31, 184, 0, 96, 54, 5, 33, 184, 0, 96, 54, 6, 3, 54, 7, 21, 7, 21, 5, 21, 6, 96, 5, 100]
abbrev dktX2_crossed_0 : List UInt8 := dkwX2_crossed_0 ++ dktX2_crossed_1
theorem dksX2_crossed_0 : cX2_crossed.data.toList.drop 0 = dktX2_crossed_0 := by decide +kernel
theorem dksX2_crossed_1 : cX2_crossed.data.toList.drop 24 = dktX2_crossed_1 := dk_seg dksX2_crossed_0 24 rfl rfl
theorem dksX2_crossed_2 : cX2_crossed.data.toList.drop 48 = dktX2_crossed_2 := dk_seg dksX2_crossed_1 24 rfl rfl
theorem dksX2_crossed_3 : cX2_crossed.data.toList.drop 72 = dktX2_crossed_3 := dk_seg dksX2_crossed_2 24 rfl rfl
theorem dksX2_crossed_4 : cX2_crossed.data.toList.drop 95 = dktX2_crossed_4 := dk_seg dksX2_crossed_3 23 rfl rfl
theorem dksX2_crossed_5 : cX2_crossed.data.toList.drop 118 = dktX2_crossed_5 := dk_seg dksX2_crossed_4 23 rfl rfl
theorem dksX2_crossed_6 : cX2_crossed.data.toList.drop 142 = dktX2_crossed_6 := dk_seg dksX2_crossed_5 24 rfl rfl
theorem dX2_crossed_0 : decode cX2_crossed 0 = .ok (.lload_n 1, 1) := dk_31 (dk_at dksX2_crossed_0 0 rfl rfl)
theorem dX2_crossed_1 : decode cX2_crossed 1 = .ok (.invokestatic 96, 3) := dk_184 0 96 (dk_at dksX2_crossed_0 1 rfl rfl)
theorem dX2_crossed_4 : decode cX2_crossed 4 = .ok (.istore 5, 2) := dk_54 5 (dk_at dksX2_crossed_0 4 rfl rfl)
theorem dX2_crossed_6 : decode cX2_crossed 6 = .ok (.lload_n 3, 1) := dk_33 (dk_at dksX2_crossed_0 6 rfl rfl)
theorem dX2_crossed_7 : decode cX2_crossed 7 = .ok (.invokestatic 96, 3) := dk_184 0 96 (dk_at dksX2_crossed_0 7 rfl rfl)
theorem dX2_crossed_10 : decode cX2_crossed 10 = .ok (.istore 6, 2) := dk_54 6 (dk_at dksX2_crossed_0 10 rfl rfl)
theorem dX2_crossed_12 : decode cX2_crossed 12 = .ok (.iconst 0, 1) := dk_3 (dk_at dksX2_crossed_0 12 rfl rfl)
theorem dX2_crossed_13 : decode cX2_crossed 13 = .ok (.istore 7, 2) := dk_54 7 (dk_at dksX2_crossed_0 13 rfl rfl)
theorem dX2_crossed_15 : decode cX2_crossed 15 = .ok (.iload 7, 2) := dk_21 7 (dk_at dksX2_crossed_0 15 rfl rfl)
theorem dX2_crossed_17 : decode cX2_crossed 17 = .ok (.iload 5, 2) := dk_21 5 (dk_at dksX2_crossed_0 17 rfl rfl)
theorem dX2_crossed_19 : decode cX2_crossed 19 = .ok (.iload 6, 2) := dk_21 6 (dk_at dksX2_crossed_0 19 rfl rfl)
theorem dX2_crossed_21 : decode cX2_crossed 21 = .ok (.iadd, 1) := dk_96 (dk_at dksX2_crossed_0 21 rfl rfl)
theorem dX2_crossed_22 : decode cX2_crossed 22 = .ok (.iconst 2, 1) := dk_5 (dk_at dksX2_crossed_0 22 rfl rfl)
theorem dX2_crossed_23 : decode cX2_crossed 23 = .ok (.isub, 1) := dk_100 (dk_at dksX2_crossed_0 23 rfl rfl)
theorem dX2_crossed_24 : decode cX2_crossed 24 = .ok (.if_icmp .gt 135, 3) := dk_163 0 135 (dk_at dksX2_crossed_1 0 rfl rfl)
theorem dX2_crossed_27 : decode cX2_crossed 27 = .ok (.aload_n 0, 1) := dk_42 (dk_at dksX2_crossed_1 3 rfl rfl)
theorem dX2_crossed_28 : decode cX2_crossed 28 = .ok (.iload 7, 2) := dk_21 7 (dk_at dksX2_crossed_1 4 rfl rfl)
theorem dX2_crossed_30 : decode cX2_crossed 30 = .ok (.invokestatic 117, 3) := dk_184 0 117 (dk_at dksX2_crossed_1 6 rfl rfl)
theorem dX2_crossed_33 : decode cX2_crossed 33 = .ok (.putfield 55, 3) := dk_181 0 55 (dk_at dksX2_crossed_1 9 rfl rfl)
theorem dX2_crossed_36 : decode cX2_crossed 36 = .ok (.iconst 0, 1) := dk_3 (dk_at dksX2_crossed_1 12 rfl rfl)
theorem dX2_crossed_37 : decode cX2_crossed 37 = .ok (.istore 8, 2) := dk_54 8 (dk_at dksX2_crossed_1 13 rfl rfl)
theorem dX2_crossed_39 : decode cX2_crossed 39 = .ok (.iload 8, 2) := dk_21 8 (dk_at dksX2_crossed_1 15 rfl rfl)
theorem dX2_crossed_41 : decode cX2_crossed 41 = .ok (.iload 5, 2) := dk_21 5 (dk_at dksX2_crossed_1 17 rfl rfl)
theorem dX2_crossed_43 : decode cX2_crossed 43 = .ok (.if_icmp .ge 81, 3) := dk_162 0 81 (dk_at dksX2_crossed_1 19 rfl rfl)
theorem dX2_crossed_46 : decode cX2_crossed 46 = .ok (.iload 8, 2) := dk_21 8 (dk_at dksX2_crossed_1 22 rfl rfl)
theorem dX2_crossed_48 : decode cX2_crossed 48 = .ok (.iload 7, 2) := dk_21 7 (dk_at dksX2_crossed_2 0 rfl rfl)
theorem dX2_crossed_50 : decode cX2_crossed 50 = .ok (.if_icmp .gt 74, 3) := dk_163 0 74 (dk_at dksX2_crossed_2 2 rfl rfl)
theorem dX2_crossed_53 : decode cX2_crossed 53 = .ok (.iload 7, 2) := dk_21 7 (dk_at dksX2_crossed_2 5 rfl rfl)
theorem dX2_crossed_55 : decode cX2_crossed 55 = .ok (.iload 8, 2) := dk_21 8 (dk_at dksX2_crossed_2 7 rfl rfl)
theorem dX2_crossed_57 : decode cX2_crossed 57 = .ok (.isub, 1) := dk_100 (dk_at dksX2_crossed_2 9 rfl rfl)
theorem dX2_crossed_58 : decode cX2_crossed 58 = .ok (.iload 6, 2) := dk_21 6 (dk_at dksX2_crossed_2 10 rfl rfl)
theorem dX2_crossed_60 : decode cX2_crossed 60 = .ok (.if_icmp .lt 6, 3) := dk_161 0 6 (dk_at dksX2_crossed_2 12 rfl rfl)
theorem dX2_crossed_63 : decode cX2_crossed 63 = .ok (.goto 55, 3) := dk_167 0 55 (dk_at dksX2_crossed_2 15 rfl rfl)
theorem dX2_crossed_66 : decode cX2_crossed 66 = .ok (.lload_n 1, 1) := dk_31 (dk_at dksX2_crossed_2 18 rfl rfl)
theorem dX2_crossed_67 : decode cX2_crossed 67 = .ok (.iload 8, 2) := dk_21 8 (dk_at dksX2_crossed_2 19 rfl rfl)
theorem dX2_crossed_69 : decode cX2_crossed 69 = .ok (.invokestatic 117, 3) := dk_184 0 117 (dk_at dksX2_crossed_2 21 rfl rfl)
theorem dX2_crossed_72 : decode cX2_crossed 72 = .ok (.ldiv, 1) := dk_109 (dk_at dksX2_crossed_3 0 rfl rfl)
theorem dX2_crossed_73 : decode cX2_crossed 73 = .ok (.ldc2_w 121, 3) := dk_20 0 121 (dk_at dksX2_crossed_3 1 rfl rfl)
theorem dX2_crossed_76 : decode cX2_crossed 76 = .ok (.lrem, 1) := dk_113 (dk_at dksX2_crossed_3 4 rfl rfl)
theorem dX2_crossed_77 : decode cX2_crossed 77 = .ok (.lstore 9, 2) := dk_55 9 (dk_at dksX2_crossed_3 5 rfl rfl)
theorem dX2_crossed_79 : decode cX2_crossed 79 = .ok (.lload_n 3, 1) := dk_33 (dk_at dksX2_crossed_3 7 rfl rfl)
theorem dX2_crossed_80 : decode cX2_crossed 80 = .ok (.iload 7, 2) := dk_21 7 (dk_at dksX2_crossed_3 8 rfl rfl)
theorem dX2_crossed_82 : decode cX2_crossed 82 = .ok (.iload 8, 2) := dk_21 8 (dk_at dksX2_crossed_3 10 rfl rfl)
theorem dX2_crossed_84 : decode cX2_crossed 84 = .ok (.isub, 1) := dk_100 (dk_at dksX2_crossed_3 12 rfl rfl)
theorem dX2_crossed_85 : decode cX2_crossed 85 = .ok (.invokestatic 117, 3) := dk_184 0 117 (dk_at dksX2_crossed_3 13 rfl rfl)
theorem dX2_crossed_88 : decode cX2_crossed 88 = .ok (.ldiv, 1) := dk_109 (dk_at dksX2_crossed_3 16 rfl rfl)
theorem dX2_crossed_89 : decode cX2_crossed 89 = .ok (.ldc2_w 121, 3) := dk_20 0 121 (dk_at dksX2_crossed_3 17 rfl rfl)
theorem dX2_crossed_92 : decode cX2_crossed 92 = .ok (.lrem, 1) := dk_113 (dk_at dksX2_crossed_3 20 rfl rfl)
theorem dX2_crossed_93 : decode cX2_crossed 93 = .ok (.lstore 11, 2) := dk_55 11 (dk_at dksX2_crossed_3 21 rfl rfl)
theorem dX2_crossed_95 : decode cX2_crossed 95 = .ok (.lload 9, 2) := dk_22 9 (dk_at dksX2_crossed_4 0 rfl rfl)
theorem dX2_crossed_97 : decode cX2_crossed 97 = .ok (.lconst 0, 1) := dk_9 (dk_at dksX2_crossed_4 2 rfl rfl)
theorem dX2_crossed_98 : decode cX2_crossed 98 = .ok (.lcmp, 1) := dk_148 (dk_at dksX2_crossed_4 3 rfl rfl)
theorem dX2_crossed_99 : decode cX2_crossed 99 = .ok (.ifCond .le 19, 3) := dk_158 0 19 (dk_at dksX2_crossed_4 4 rfl rfl)
theorem dX2_crossed_102 : decode cX2_crossed 102 = .ok (.lload 11, 2) := dk_22 11 (dk_at dksX2_crossed_4 7 rfl rfl)
theorem dX2_crossed_104 : decode cX2_crossed 104 = .ok (.lconst 0, 1) := dk_9 (dk_at dksX2_crossed_4 9 rfl rfl)
theorem dX2_crossed_105 : decode cX2_crossed 105 = .ok (.lcmp, 1) := dk_148 (dk_at dksX2_crossed_4 10 rfl rfl)
theorem dX2_crossed_106 : decode cX2_crossed 106 = .ok (.ifCond .le 12, 3) := dk_158 0 12 (dk_at dksX2_crossed_4 11 rfl rfl)
theorem dX2_crossed_109 : decode cX2_crossed 109 = .ok (.aload_n 0, 1) := dk_42 (dk_at dksX2_crossed_4 14 rfl rfl)
theorem dX2_crossed_110 : decode cX2_crossed 110 = .ok (.lload 9, 2) := dk_22 9 (dk_at dksX2_crossed_4 15 rfl rfl)
theorem dX2_crossed_112 : decode cX2_crossed 112 = .ok (.lload 11, 2) := dk_22 11 (dk_at dksX2_crossed_4 17 rfl rfl)
theorem dX2_crossed_114 : decode cX2_crossed 114 = .ok (.lconst 1, 1) := dk_10 (dk_at dksX2_crossed_4 19 rfl rfl)
theorem dX2_crossed_115 : decode cX2_crossed 115 = .ok (.invokevirtual 68, 3) := dk_182 0 68 (dk_at dksX2_crossed_4 20 rfl rfl)
theorem dX2_crossed_118 : decode cX2_crossed 118 = .ok (.iinc 8 1, 3) := dk_132 8 1 (dk_at dksX2_crossed_5 0 rfl rfl)
theorem dX2_crossed_121 : decode cX2_crossed 121 = .ok (.goto (-82), 3) := dk_167 255 174 (dk_at dksX2_crossed_5 3 rfl rfl)
theorem dX2_crossed_124 : decode cX2_crossed 124 = .ok (.aload_n 0, 1) := dk_42 (dk_at dksX2_crossed_5 6 rfl rfl)
theorem dX2_crossed_125 : decode cX2_crossed 125 = .ok (.getfield 89, 3) := dk_180 0 89 (dk_at dksX2_crossed_5 7 rfl rfl)
theorem dX2_crossed_128 : decode cX2_crossed 128 = .ok (.ldc2_w 121, 3) := dk_20 0 121 (dk_at dksX2_crossed_5 10 rfl rfl)
theorem dX2_crossed_131 : decode cX2_crossed 131 = .ok (.lrem, 1) := dk_113 (dk_at dksX2_crossed_5 13 rfl rfl)
theorem dX2_crossed_132 : decode cX2_crossed 132 = .ok (.lstore 8, 2) := dk_55 8 (dk_at dksX2_crossed_5 14 rfl rfl)
theorem dX2_crossed_134 : decode cX2_crossed 134 = .ok (.aload_n 0, 1) := dk_42 (dk_at dksX2_crossed_5 16 rfl rfl)
theorem dX2_crossed_135 : decode cX2_crossed 135 = .ok (.dup, 1) := dk_89 (dk_at dksX2_crossed_5 17 rfl rfl)
theorem dX2_crossed_136 : decode cX2_crossed 136 = .ok (.getfield 89, 3) := dk_180 0 89 (dk_at dksX2_crossed_5 18 rfl rfl)
theorem dX2_crossed_139 : decode cX2_crossed 139 = .ok (.ldc2_w 121, 3) := dk_20 0 121 (dk_at dksX2_crossed_5 21 rfl rfl)
theorem dX2_crossed_142 : decode cX2_crossed 142 = .ok (.ldiv, 1) := dk_109 (dk_at dksX2_crossed_6 0 rfl rfl)
theorem dX2_crossed_143 : decode cX2_crossed 143 = .ok (.putfield 89, 3) := dk_181 0 89 (dk_at dksX2_crossed_6 1 rfl rfl)
theorem dX2_crossed_146 : decode cX2_crossed 146 = .ok (.aload_n 0, 1) := dk_42 (dk_at dksX2_crossed_6 4 rfl rfl)
theorem dX2_crossed_147 : decode cX2_crossed 147 = .ok (.lload 8, 2) := dk_22 8 (dk_at dksX2_crossed_6 5 rfl rfl)
theorem dX2_crossed_149 : decode cX2_crossed 149 = .ok (.iconst 1, 1) := dk_4 (dk_at dksX2_crossed_6 7 rfl rfl)
theorem dX2_crossed_150 : decode cX2_crossed 150 = .ok (.invokevirtual 123, 3) := dk_182 0 123 (dk_at dksX2_crossed_6 8 rfl rfl)
theorem dX2_crossed_153 : decode cX2_crossed 153 = .ok (.iinc 7 1, 3) := dk_132 7 1 (dk_at dksX2_crossed_6 11 rfl rfl)
theorem dX2_crossed_156 : decode cX2_crossed 156 = .ok (.goto (-141), 3) := dk_167 255 115 (dk_at dksX2_crossed_6 14 rfl rfl)
theorem dX2_crossed_159 : decode cX2_crossed 159 = .ok (.return_, 1) := dk_177 (dk_at dksX2_crossed_6 17 rfl rfl)
abbrev cX2_squared : ByteArray := prog_2_method_10_code
def yX2_squared : MethodName := ⟨RX2, "squared", "(JJ)Z"⟩
def dkwX2_squared_5 : List UInt8 := [180, 0, 38, 180, 0, 106, 4, 46, 42, 180, 0, 89, 184, 0, 96, 104, 9, 182, 0, 113, 4, 172]
abbrev dktX2_squared_5 : List UInt8 := dkwX2_squared_5 ++ []
def dkwX2_squared_4 : List UInt8 := [42, 22, 5, 22, 5, 105, 22, 7, 22, 7, 105, 101, 181, 0, 89, 42, 4, 42, 180, 0, 89, 42]
abbrev dktX2_squared_4 : List UInt8 := dkwX2_squared_4 ++ dktX2_squared_5
def dkwX2_squared_3 : List UInt8 := [22, 7, 22, 7, 182, 0, 72, 42, 89, 180, 0, 46, 22, 5, 22, 5, 105, 184, 0, 96, 100, 181, 0, 46]
abbrev dktX2_squared_3 : List UInt8 := dkwX2_squared_3 ++ dktX2_squared_4
def dkwX2_squared_2 : List UInt8 := [22, 5, 22, 5, 105, 22, 5, 22, 5, 105, 184, 0, 96, 182, 0, 123, 22, 7, 9, 148, 158, 0, 11, 42]
abbrev dktX2_squared_2 : List UInt8 := dkwX2_squared_2 ++ dktX2_squared_3
def dkwX2_squared_1 : List UInt8 := [33, 101, 184, 0, 129, 20, 0, 127, 109, 55, 7, 42, 22, 5, 22, 5, 182, 0, 72, 42, 182, 0, 59, 42]
abbrev dktX2_squared_1 : List UInt8 := dkwX2_squared_1 ++ dktX2_squared_2
def dkwX2_squared_0 : List UInt8 := [31, 33, 97, 20, 0, 127, 113, 9, 148, 153, 0, 5, 3, 172, 31, 33, 97, 20, 0, 127, 109, 55, 5, 31]
abbrev dktX2_squared_0 : List UInt8 := dkwX2_squared_0 ++ dktX2_squared_1
theorem dksX2_squared_0 : cX2_squared.data.toList.drop 0 = dktX2_squared_0 := by decide +kernel
theorem dksX2_squared_1 : cX2_squared.data.toList.drop 24 = dktX2_squared_1 := dk_seg dksX2_squared_0 24 rfl rfl
theorem dksX2_squared_2 : cX2_squared.data.toList.drop 48 = dktX2_squared_2 := dk_seg dksX2_squared_1 24 rfl rfl
theorem dksX2_squared_3 : cX2_squared.data.toList.drop 72 = dktX2_squared_3 := dk_seg dksX2_squared_2 24 rfl rfl
theorem dksX2_squared_4 : cX2_squared.data.toList.drop 96 = dktX2_squared_4 := dk_seg dksX2_squared_3 24 rfl rfl
theorem dksX2_squared_5 : cX2_squared.data.toList.drop 118 = dktX2_squared_5 := dk_seg dksX2_squared_4 22 rfl rfl
theorem dX2_squared_0 : decode cX2_squared 0 = .ok (.lload_n 1, 1) := dk_31 (dk_at dksX2_squared_0 0 rfl rfl)
theorem dX2_squared_1 : decode cX2_squared 1 = .ok (.lload_n 3, 1) := dk_33 (dk_at dksX2_squared_0 1 rfl rfl)
theorem dX2_squared_2 : decode cX2_squared 2 = .ok (.ladd, 1) := dk_97 (dk_at dksX2_squared_0 2 rfl rfl)
theorem dX2_squared_3 : decode cX2_squared 3 = .ok (.ldc2_w 127, 3) := dk_20 0 127 (dk_at dksX2_squared_0 3 rfl rfl)
theorem dX2_squared_6 : decode cX2_squared 6 = .ok (.lrem, 1) := dk_113 (dk_at dksX2_squared_0 6 rfl rfl)
theorem dX2_squared_7 : decode cX2_squared 7 = .ok (.lconst 0, 1) := dk_9 (dk_at dksX2_squared_0 7 rfl rfl)
theorem dX2_squared_8 : decode cX2_squared 8 = .ok (.lcmp, 1) := dk_148 (dk_at dksX2_squared_0 8 rfl rfl)
theorem dX2_squared_9 : decode cX2_squared 9 = .ok (.ifCond .eq 5, 3) := dk_153 0 5 (dk_at dksX2_squared_0 9 rfl rfl)
theorem dX2_squared_12 : decode cX2_squared 12 = .ok (.iconst 0, 1) := dk_3 (dk_at dksX2_squared_0 12 rfl rfl)
theorem dX2_squared_13 : decode cX2_squared 13 = .ok (.ireturn, 1) := dk_172 (dk_at dksX2_squared_0 13 rfl rfl)
theorem dX2_squared_14 : decode cX2_squared 14 = .ok (.lload_n 1, 1) := dk_31 (dk_at dksX2_squared_0 14 rfl rfl)
theorem dX2_squared_15 : decode cX2_squared 15 = .ok (.lload_n 3, 1) := dk_33 (dk_at dksX2_squared_0 15 rfl rfl)
theorem dX2_squared_16 : decode cX2_squared 16 = .ok (.ladd, 1) := dk_97 (dk_at dksX2_squared_0 16 rfl rfl)
theorem dX2_squared_17 : decode cX2_squared 17 = .ok (.ldc2_w 127, 3) := dk_20 0 127 (dk_at dksX2_squared_0 17 rfl rfl)
theorem dX2_squared_20 : decode cX2_squared 20 = .ok (.ldiv, 1) := dk_109 (dk_at dksX2_squared_0 20 rfl rfl)
theorem dX2_squared_21 : decode cX2_squared 21 = .ok (.lstore 5, 2) := dk_55 5 (dk_at dksX2_squared_0 21 rfl rfl)
theorem dX2_squared_23 : decode cX2_squared 23 = .ok (.lload_n 1, 1) := dk_31 (dk_at dksX2_squared_0 23 rfl rfl)
theorem dX2_squared_24 : decode cX2_squared 24 = .ok (.lload_n 3, 1) := dk_33 (dk_at dksX2_squared_1 0 rfl rfl)
theorem dX2_squared_25 : decode cX2_squared 25 = .ok (.lsub, 1) := dk_101 (dk_at dksX2_squared_1 1 rfl rfl)
theorem dX2_squared_26 : decode cX2_squared 26 = .ok (.invokestatic 129, 3) := dk_184 0 129 (dk_at dksX2_squared_1 2 rfl rfl)
theorem dX2_squared_29 : decode cX2_squared 29 = .ok (.ldc2_w 127, 3) := dk_20 0 127 (dk_at dksX2_squared_1 5 rfl rfl)
theorem dX2_squared_32 : decode cX2_squared 32 = .ok (.ldiv, 1) := dk_109 (dk_at dksX2_squared_1 8 rfl rfl)
theorem dX2_squared_33 : decode cX2_squared 33 = .ok (.lstore 7, 2) := dk_55 7 (dk_at dksX2_squared_1 9 rfl rfl)
theorem dX2_squared_35 : decode cX2_squared 35 = .ok (.aload_n 0, 1) := dk_42 (dk_at dksX2_squared_1 11 rfl rfl)
theorem dX2_squared_36 : decode cX2_squared 36 = .ok (.lload 5, 2) := dk_22 5 (dk_at dksX2_squared_1 12 rfl rfl)
theorem dX2_squared_38 : decode cX2_squared 38 = .ok (.lload 5, 2) := dk_22 5 (dk_at dksX2_squared_1 14 rfl rfl)
theorem dX2_squared_40 : decode cX2_squared 40 = .ok (.invokevirtual 72, 3) := dk_182 0 72 (dk_at dksX2_squared_1 16 rfl rfl)
theorem dX2_squared_43 : decode cX2_squared 43 = .ok (.aload_n 0, 1) := dk_42 (dk_at dksX2_squared_1 19 rfl rfl)
theorem dX2_squared_44 : decode cX2_squared 44 = .ok (.invokevirtual 59, 3) := dk_182 0 59 (dk_at dksX2_squared_1 20 rfl rfl)
theorem dX2_squared_47 : decode cX2_squared 47 = .ok (.aload_n 0, 1) := dk_42 (dk_at dksX2_squared_1 23 rfl rfl)
theorem dX2_squared_48 : decode cX2_squared 48 = .ok (.lload 5, 2) := dk_22 5 (dk_at dksX2_squared_2 0 rfl rfl)
theorem dX2_squared_50 : decode cX2_squared 50 = .ok (.lload 5, 2) := dk_22 5 (dk_at dksX2_squared_2 2 rfl rfl)
theorem dX2_squared_52 : decode cX2_squared 52 = .ok (.lmul, 1) := dk_105 (dk_at dksX2_squared_2 4 rfl rfl)
theorem dX2_squared_53 : decode cX2_squared 53 = .ok (.lload 5, 2) := dk_22 5 (dk_at dksX2_squared_2 5 rfl rfl)
theorem dX2_squared_55 : decode cX2_squared 55 = .ok (.lload 5, 2) := dk_22 5 (dk_at dksX2_squared_2 7 rfl rfl)
theorem dX2_squared_57 : decode cX2_squared 57 = .ok (.lmul, 1) := dk_105 (dk_at dksX2_squared_2 9 rfl rfl)
theorem dX2_squared_58 : decode cX2_squared 58 = .ok (.invokestatic 96, 3) := dk_184 0 96 (dk_at dksX2_squared_2 10 rfl rfl)
theorem dX2_squared_61 : decode cX2_squared 61 = .ok (.invokevirtual 123, 3) := dk_182 0 123 (dk_at dksX2_squared_2 13 rfl rfl)
theorem dX2_squared_64 : decode cX2_squared 64 = .ok (.lload 7, 2) := dk_22 7 (dk_at dksX2_squared_2 16 rfl rfl)
theorem dX2_squared_66 : decode cX2_squared 66 = .ok (.lconst 0, 1) := dk_9 (dk_at dksX2_squared_2 18 rfl rfl)
theorem dX2_squared_67 : decode cX2_squared 67 = .ok (.lcmp, 1) := dk_148 (dk_at dksX2_squared_2 19 rfl rfl)
theorem dX2_squared_68 : decode cX2_squared 68 = .ok (.ifCond .le 11, 3) := dk_158 0 11 (dk_at dksX2_squared_2 20 rfl rfl)
theorem dX2_squared_71 : decode cX2_squared 71 = .ok (.aload_n 0, 1) := dk_42 (dk_at dksX2_squared_2 23 rfl rfl)
theorem dX2_squared_72 : decode cX2_squared 72 = .ok (.lload 7, 2) := dk_22 7 (dk_at dksX2_squared_3 0 rfl rfl)
theorem dX2_squared_74 : decode cX2_squared 74 = .ok (.lload 7, 2) := dk_22 7 (dk_at dksX2_squared_3 2 rfl rfl)
theorem dX2_squared_76 : decode cX2_squared 76 = .ok (.invokevirtual 72, 3) := dk_182 0 72 (dk_at dksX2_squared_3 4 rfl rfl)
theorem dX2_squared_79 : decode cX2_squared 79 = .ok (.aload_n 0, 1) := dk_42 (dk_at dksX2_squared_3 7 rfl rfl)
theorem dX2_squared_80 : decode cX2_squared 80 = .ok (.dup, 1) := dk_89 (dk_at dksX2_squared_3 8 rfl rfl)
theorem dX2_squared_81 : decode cX2_squared 81 = .ok (.getfield 46, 3) := dk_180 0 46 (dk_at dksX2_squared_3 9 rfl rfl)
theorem dX2_squared_84 : decode cX2_squared 84 = .ok (.lload 5, 2) := dk_22 5 (dk_at dksX2_squared_3 12 rfl rfl)
theorem dX2_squared_86 : decode cX2_squared 86 = .ok (.lload 5, 2) := dk_22 5 (dk_at dksX2_squared_3 14 rfl rfl)
theorem dX2_squared_88 : decode cX2_squared 88 = .ok (.lmul, 1) := dk_105 (dk_at dksX2_squared_3 16 rfl rfl)
theorem dX2_squared_89 : decode cX2_squared 89 = .ok (.invokestatic 96, 3) := dk_184 0 96 (dk_at dksX2_squared_3 17 rfl rfl)
theorem dX2_squared_92 : decode cX2_squared 92 = .ok (.isub, 1) := dk_100 (dk_at dksX2_squared_3 20 rfl rfl)
theorem dX2_squared_93 : decode cX2_squared 93 = .ok (.putfield 46, 3) := dk_181 0 46 (dk_at dksX2_squared_3 21 rfl rfl)
theorem dX2_squared_96 : decode cX2_squared 96 = .ok (.aload_n 0, 1) := dk_42 (dk_at dksX2_squared_4 0 rfl rfl)
theorem dX2_squared_97 : decode cX2_squared 97 = .ok (.lload 5, 2) := dk_22 5 (dk_at dksX2_squared_4 1 rfl rfl)
theorem dX2_squared_99 : decode cX2_squared 99 = .ok (.lload 5, 2) := dk_22 5 (dk_at dksX2_squared_4 3 rfl rfl)
theorem dX2_squared_101 : decode cX2_squared 101 = .ok (.lmul, 1) := dk_105 (dk_at dksX2_squared_4 5 rfl rfl)
theorem dX2_squared_102 : decode cX2_squared 102 = .ok (.lload 7, 2) := dk_22 7 (dk_at dksX2_squared_4 6 rfl rfl)
theorem dX2_squared_104 : decode cX2_squared 104 = .ok (.lload 7, 2) := dk_22 7 (dk_at dksX2_squared_4 8 rfl rfl)
theorem dX2_squared_106 : decode cX2_squared 106 = .ok (.lmul, 1) := dk_105 (dk_at dksX2_squared_4 10 rfl rfl)
theorem dX2_squared_107 : decode cX2_squared 107 = .ok (.lsub, 1) := dk_101 (dk_at dksX2_squared_4 11 rfl rfl)
theorem dX2_squared_108 : decode cX2_squared 108 = .ok (.putfield 89, 3) := dk_181 0 89 (dk_at dksX2_squared_4 12 rfl rfl)
theorem dX2_squared_111 : decode cX2_squared 111 = .ok (.aload_n 0, 1) := dk_42 (dk_at dksX2_squared_4 15 rfl rfl)
theorem dX2_squared_112 : decode cX2_squared 112 = .ok (.iconst 1, 1) := dk_4 (dk_at dksX2_squared_4 16 rfl rfl)
theorem dX2_squared_113 : decode cX2_squared 113 = .ok (.aload_n 0, 1) := dk_42 (dk_at dksX2_squared_4 17 rfl rfl)
theorem dX2_squared_114 : decode cX2_squared 114 = .ok (.getfield 89, 3) := dk_180 0 89 (dk_at dksX2_squared_4 18 rfl rfl)
theorem dX2_squared_117 : decode cX2_squared 117 = .ok (.aload_n 0, 1) := dk_42 (dk_at dksX2_squared_4 21 rfl rfl)
theorem dX2_squared_118 : decode cX2_squared 118 = .ok (.getfield 38, 3) := dk_180 0 38 (dk_at dksX2_squared_5 0 rfl rfl)
theorem dX2_squared_121 : decode cX2_squared 121 = .ok (.getfield 106, 3) := dk_180 0 106 (dk_at dksX2_squared_5 3 rfl rfl)
theorem dX2_squared_124 : decode cX2_squared 124 = .ok (.iconst 1, 1) := dk_4 (dk_at dksX2_squared_5 6 rfl rfl)
theorem dX2_squared_125 : decode cX2_squared 125 = .ok (.iaload, 1) := dk_46 (dk_at dksX2_squared_5 7 rfl rfl)
theorem dX2_squared_126 : decode cX2_squared 126 = .ok (.aload_n 0, 1) := dk_42 (dk_at dksX2_squared_5 8 rfl rfl)
theorem dX2_squared_127 : decode cX2_squared 127 = .ok (.getfield 89, 3) := dk_180 0 89 (dk_at dksX2_squared_5 9 rfl rfl)
theorem dX2_squared_130 : decode cX2_squared 130 = .ok (.invokestatic 96, 3) := dk_184 0 96 (dk_at dksX2_squared_5 12 rfl rfl)
theorem dX2_squared_133 : decode cX2_squared 133 = .ok (.imul, 1) := dk_104 (dk_at dksX2_squared_5 15 rfl rfl)
theorem dX2_squared_134 : decode cX2_squared 134 = .ok (.lconst 0, 1) := dk_9 (dk_at dksX2_squared_5 16 rfl rfl)
theorem dX2_squared_135 : decode cX2_squared 135 = .ok (.invokevirtual 113, 3) := dk_182 0 113 (dk_at dksX2_squared_5 17 rfl rfl)
theorem dX2_squared_138 : decode cX2_squared 138 = .ok (.iconst 1, 1) := dk_4 (dk_at dksX2_squared_5 20 rfl rfl)
theorem dX2_squared_139 : decode cX2_squared 139 = .ok (.ireturn, 1) := dk_172 (dk_at dksX2_squared_5 21 rfl rfl)
abbrev cX2_split : ByteArray := prog_2_method_11_code
def yX2_split : MethodName := ⟨RX2, "split", "(JJ)Z"⟩
def dkwX2_split_4 : List UInt8 := [172]
abbrev dktX2_split_4 : List UInt8 := dkwX2_split_4 ++ []
def dkwX2_split_3 : List UInt8 := [105, 31, 22, 5, 105, 184, 0, 96, 182, 0, 123, 42, 31, 22, 5, 105, 33, 22, 5, 109, 182, 0, 72, 4]
abbrev dktX2_split_3 : List UInt8 := dkwX2_split_3 ++ dktX2_split_4
def dkwX2_split_2 : List UInt8 := [20, 0, 127, 148, 156, 0, 5, 3, 172, 42, 31, 22, 5, 182, 0, 72, 42, 182, 0, 59, 42, 31, 22, 5]
abbrev dktX2_split_2 : List UInt8 := dkwX2_split_2 ++ dktX2_split_3
def dkwX2_split_1 : List UInt8 := [148, 154, 0, 10, 33, 22, 5, 148, 154, 0, 12, 22, 5, 10, 101, 55, 5, 167, 255, 227, 22, 5]
abbrev dktX2_split_1 : List UInt8 := dkwX2_split_1 ++ dktX2_split_2
def dkwX2_split_0 : List UInt8 := [42, 180, 0, 38, 180, 0, 106, 6, 46, 133, 55, 5, 22, 5, 10, 148, 158, 0, 28, 33, 22, 5, 113, 9]
abbrev dktX2_split_0 : List UInt8 := dkwX2_split_0 ++ dktX2_split_1
theorem dksX2_split_0 : cX2_split.data.toList.drop 0 = dktX2_split_0 := by decide +kernel
theorem dksX2_split_1 : cX2_split.data.toList.drop 24 = dktX2_split_1 := dk_seg dksX2_split_0 24 rfl rfl
theorem dksX2_split_2 : cX2_split.data.toList.drop 46 = dktX2_split_2 := dk_seg dksX2_split_1 22 rfl rfl
theorem dksX2_split_3 : cX2_split.data.toList.drop 70 = dktX2_split_3 := dk_seg dksX2_split_2 24 rfl rfl
theorem dksX2_split_4 : cX2_split.data.toList.drop 94 = dktX2_split_4 := dk_seg dksX2_split_3 24 rfl rfl
theorem dX2_split_0 : decode cX2_split 0 = .ok (.aload_n 0, 1) := dk_42 (dk_at dksX2_split_0 0 rfl rfl)
theorem dX2_split_1 : decode cX2_split 1 = .ok (.getfield 38, 3) := dk_180 0 38 (dk_at dksX2_split_0 1 rfl rfl)
theorem dX2_split_4 : decode cX2_split 4 = .ok (.getfield 106, 3) := dk_180 0 106 (dk_at dksX2_split_0 4 rfl rfl)
theorem dX2_split_7 : decode cX2_split 7 = .ok (.iconst 3, 1) := dk_6 (dk_at dksX2_split_0 7 rfl rfl)
theorem dX2_split_8 : decode cX2_split 8 = .ok (.iaload, 1) := dk_46 (dk_at dksX2_split_0 8 rfl rfl)
theorem dX2_split_9 : decode cX2_split 9 = .ok (.i2l, 1) := dk_133 (dk_at dksX2_split_0 9 rfl rfl)
theorem dX2_split_10 : decode cX2_split 10 = .ok (.lstore 5, 2) := dk_55 5 (dk_at dksX2_split_0 10 rfl rfl)
theorem dX2_split_12 : decode cX2_split 12 = .ok (.lload 5, 2) := dk_22 5 (dk_at dksX2_split_0 12 rfl rfl)
theorem dX2_split_14 : decode cX2_split 14 = .ok (.lconst 1, 1) := dk_10 (dk_at dksX2_split_0 14 rfl rfl)
theorem dX2_split_15 : decode cX2_split 15 = .ok (.lcmp, 1) := dk_148 (dk_at dksX2_split_0 15 rfl rfl)
theorem dX2_split_16 : decode cX2_split 16 = .ok (.ifCond .le 28, 3) := dk_158 0 28 (dk_at dksX2_split_0 16 rfl rfl)
theorem dX2_split_19 : decode cX2_split 19 = .ok (.lload_n 3, 1) := dk_33 (dk_at dksX2_split_0 19 rfl rfl)
theorem dX2_split_20 : decode cX2_split 20 = .ok (.lload 5, 2) := dk_22 5 (dk_at dksX2_split_0 20 rfl rfl)
theorem dX2_split_22 : decode cX2_split 22 = .ok (.lrem, 1) := dk_113 (dk_at dksX2_split_0 22 rfl rfl)
theorem dX2_split_23 : decode cX2_split 23 = .ok (.lconst 0, 1) := dk_9 (dk_at dksX2_split_0 23 rfl rfl)
theorem dX2_split_24 : decode cX2_split 24 = .ok (.lcmp, 1) := dk_148 (dk_at dksX2_split_1 0 rfl rfl)
theorem dX2_split_25 : decode cX2_split 25 = .ok (.ifCond .ne 10, 3) := dk_154 0 10 (dk_at dksX2_split_1 1 rfl rfl)
theorem dX2_split_28 : decode cX2_split 28 = .ok (.lload_n 3, 1) := dk_33 (dk_at dksX2_split_1 4 rfl rfl)
theorem dX2_split_29 : decode cX2_split 29 = .ok (.lload 5, 2) := dk_22 5 (dk_at dksX2_split_1 5 rfl rfl)
theorem dX2_split_31 : decode cX2_split 31 = .ok (.lcmp, 1) := dk_148 (dk_at dksX2_split_1 7 rfl rfl)
theorem dX2_split_32 : decode cX2_split 32 = .ok (.ifCond .ne 12, 3) := dk_154 0 12 (dk_at dksX2_split_1 8 rfl rfl)
theorem dX2_split_35 : decode cX2_split 35 = .ok (.lload 5, 2) := dk_22 5 (dk_at dksX2_split_1 11 rfl rfl)
theorem dX2_split_37 : decode cX2_split 37 = .ok (.lconst 1, 1) := dk_10 (dk_at dksX2_split_1 13 rfl rfl)
theorem dX2_split_38 : decode cX2_split 38 = .ok (.lsub, 1) := dk_101 (dk_at dksX2_split_1 14 rfl rfl)
theorem dX2_split_39 : decode cX2_split 39 = .ok (.lstore 5, 2) := dk_55 5 (dk_at dksX2_split_1 15 rfl rfl)
theorem dX2_split_41 : decode cX2_split 41 = .ok (.goto (-29), 3) := dk_167 255 227 (dk_at dksX2_split_1 17 rfl rfl)
theorem dX2_split_44 : decode cX2_split 44 = .ok (.lload 5, 2) := dk_22 5 (dk_at dksX2_split_1 20 rfl rfl)
theorem dX2_split_46 : decode cX2_split 46 = .ok (.ldc2_w 127, 3) := dk_20 0 127 (dk_at dksX2_split_2 0 rfl rfl)
theorem dX2_split_49 : decode cX2_split 49 = .ok (.lcmp, 1) := dk_148 (dk_at dksX2_split_2 3 rfl rfl)
theorem dX2_split_50 : decode cX2_split 50 = .ok (.ifCond .ge 5, 3) := dk_156 0 5 (dk_at dksX2_split_2 4 rfl rfl)
theorem dX2_split_53 : decode cX2_split 53 = .ok (.iconst 0, 1) := dk_3 (dk_at dksX2_split_2 7 rfl rfl)
theorem dX2_split_54 : decode cX2_split 54 = .ok (.ireturn, 1) := dk_172 (dk_at dksX2_split_2 8 rfl rfl)
theorem dX2_split_55 : decode cX2_split 55 = .ok (.aload_n 0, 1) := dk_42 (dk_at dksX2_split_2 9 rfl rfl)
theorem dX2_split_56 : decode cX2_split 56 = .ok (.lload_n 1, 1) := dk_31 (dk_at dksX2_split_2 10 rfl rfl)
theorem dX2_split_57 : decode cX2_split 57 = .ok (.lload 5, 2) := dk_22 5 (dk_at dksX2_split_2 11 rfl rfl)
theorem dX2_split_59 : decode cX2_split 59 = .ok (.invokevirtual 72, 3) := dk_182 0 72 (dk_at dksX2_split_2 13 rfl rfl)
theorem dX2_split_62 : decode cX2_split 62 = .ok (.aload_n 0, 1) := dk_42 (dk_at dksX2_split_2 16 rfl rfl)
theorem dX2_split_63 : decode cX2_split 63 = .ok (.invokevirtual 59, 3) := dk_182 0 59 (dk_at dksX2_split_2 17 rfl rfl)
theorem dX2_split_66 : decode cX2_split 66 = .ok (.aload_n 0, 1) := dk_42 (dk_at dksX2_split_2 20 rfl rfl)
theorem dX2_split_67 : decode cX2_split 67 = .ok (.lload_n 1, 1) := dk_31 (dk_at dksX2_split_2 21 rfl rfl)
theorem dX2_split_68 : decode cX2_split 68 = .ok (.lload 5, 2) := dk_22 5 (dk_at dksX2_split_2 22 rfl rfl)
theorem dX2_split_70 : decode cX2_split 70 = .ok (.lmul, 1) := dk_105 (dk_at dksX2_split_3 0 rfl rfl)
theorem dX2_split_71 : decode cX2_split 71 = .ok (.lload_n 1, 1) := dk_31 (dk_at dksX2_split_3 1 rfl rfl)
theorem dX2_split_72 : decode cX2_split 72 = .ok (.lload 5, 2) := dk_22 5 (dk_at dksX2_split_3 2 rfl rfl)
theorem dX2_split_74 : decode cX2_split 74 = .ok (.lmul, 1) := dk_105 (dk_at dksX2_split_3 4 rfl rfl)
theorem dX2_split_75 : decode cX2_split 75 = .ok (.invokestatic 96, 3) := dk_184 0 96 (dk_at dksX2_split_3 5 rfl rfl)
theorem dX2_split_78 : decode cX2_split 78 = .ok (.invokevirtual 123, 3) := dk_182 0 123 (dk_at dksX2_split_3 8 rfl rfl)
theorem dX2_split_81 : decode cX2_split 81 = .ok (.aload_n 0, 1) := dk_42 (dk_at dksX2_split_3 11 rfl rfl)
theorem dX2_split_82 : decode cX2_split 82 = .ok (.lload_n 1, 1) := dk_31 (dk_at dksX2_split_3 12 rfl rfl)
theorem dX2_split_83 : decode cX2_split 83 = .ok (.lload 5, 2) := dk_22 5 (dk_at dksX2_split_3 13 rfl rfl)
theorem dX2_split_85 : decode cX2_split 85 = .ok (.lmul, 1) := dk_105 (dk_at dksX2_split_3 15 rfl rfl)
theorem dX2_split_86 : decode cX2_split 86 = .ok (.lload_n 3, 1) := dk_33 (dk_at dksX2_split_3 16 rfl rfl)
theorem dX2_split_87 : decode cX2_split 87 = .ok (.lload 5, 2) := dk_22 5 (dk_at dksX2_split_3 17 rfl rfl)
theorem dX2_split_89 : decode cX2_split 89 = .ok (.ldiv, 1) := dk_109 (dk_at dksX2_split_3 19 rfl rfl)
theorem dX2_split_90 : decode cX2_split 90 = .ok (.invokevirtual 72, 3) := dk_182 0 72 (dk_at dksX2_split_3 20 rfl rfl)
theorem dX2_split_93 : decode cX2_split 93 = .ok (.iconst 1, 1) := dk_4 (dk_at dksX2_split_3 23 rfl rfl)
theorem dX2_split_94 : decode cX2_split 94 = .ok (.ireturn, 1) := dk_172 (dk_at dksX2_split_4 0 rfl rfl)
abbrev cX2_slipWays : ByteArray := prog_2_method_12_code
def yX2_slipWays : MethodName := ⟨RX2, "slipWays", "(I)I"⟩
def dkwX2_slipWays_1 : List UInt8 := [180, 0, 25, 27, 47, 184, 0, 96, 167, 0, 4, 3, 172]
abbrev dktX2_slipWays_1 : List UInt8 := dkwX2_slipWays_1 ++ []
def dkwX2_slipWays_0 : List UInt8 := [42, 180, 0, 15, 27, 46, 154, 0, 7, 5, 167, 0, 26, 42, 180, 0, 15, 27, 46, 4, 160, 0, 15, 42]
abbrev dktX2_slipWays_0 : List UInt8 := dkwX2_slipWays_0 ++ dktX2_slipWays_1
theorem dksX2_slipWays_0 : cX2_slipWays.data.toList.drop 0 = dktX2_slipWays_0 := by decide +kernel
theorem dksX2_slipWays_1 : cX2_slipWays.data.toList.drop 24 = dktX2_slipWays_1 := dk_seg dksX2_slipWays_0 24 rfl rfl
theorem dX2_slipWays_0 : decode cX2_slipWays 0 = .ok (.aload_n 0, 1) := dk_42 (dk_at dksX2_slipWays_0 0 rfl rfl)
theorem dX2_slipWays_1 : decode cX2_slipWays 1 = .ok (.getfield 15, 3) := dk_180 0 15 (dk_at dksX2_slipWays_0 1 rfl rfl)
theorem dX2_slipWays_4 : decode cX2_slipWays 4 = .ok (.iload_n 1, 1) := dk_27 (dk_at dksX2_slipWays_0 4 rfl rfl)
theorem dX2_slipWays_5 : decode cX2_slipWays 5 = .ok (.iaload, 1) := dk_46 (dk_at dksX2_slipWays_0 5 rfl rfl)
theorem dX2_slipWays_6 : decode cX2_slipWays 6 = .ok (.ifCond .ne 7, 3) := dk_154 0 7 (dk_at dksX2_slipWays_0 6 rfl rfl)
theorem dX2_slipWays_9 : decode cX2_slipWays 9 = .ok (.iconst 2, 1) := dk_5 (dk_at dksX2_slipWays_0 9 rfl rfl)
theorem dX2_slipWays_10 : decode cX2_slipWays 10 = .ok (.goto 26, 3) := dk_167 0 26 (dk_at dksX2_slipWays_0 10 rfl rfl)
theorem dX2_slipWays_13 : decode cX2_slipWays 13 = .ok (.aload_n 0, 1) := dk_42 (dk_at dksX2_slipWays_0 13 rfl rfl)
theorem dX2_slipWays_14 : decode cX2_slipWays 14 = .ok (.getfield 15, 3) := dk_180 0 15 (dk_at dksX2_slipWays_0 14 rfl rfl)
theorem dX2_slipWays_17 : decode cX2_slipWays 17 = .ok (.iload_n 1, 1) := dk_27 (dk_at dksX2_slipWays_0 17 rfl rfl)
theorem dX2_slipWays_18 : decode cX2_slipWays 18 = .ok (.iaload, 1) := dk_46 (dk_at dksX2_slipWays_0 18 rfl rfl)
theorem dX2_slipWays_19 : decode cX2_slipWays 19 = .ok (.iconst 1, 1) := dk_4 (dk_at dksX2_slipWays_0 19 rfl rfl)
theorem dX2_slipWays_20 : decode cX2_slipWays 20 = .ok (.if_icmp .ne 15, 3) := dk_160 0 15 (dk_at dksX2_slipWays_0 20 rfl rfl)
theorem dX2_slipWays_23 : decode cX2_slipWays 23 = .ok (.aload_n 0, 1) := dk_42 (dk_at dksX2_slipWays_0 23 rfl rfl)
theorem dX2_slipWays_24 : decode cX2_slipWays 24 = .ok (.getfield 25, 3) := dk_180 0 25 (dk_at dksX2_slipWays_1 0 rfl rfl)
theorem dX2_slipWays_27 : decode cX2_slipWays 27 = .ok (.iload_n 1, 1) := dk_27 (dk_at dksX2_slipWays_1 3 rfl rfl)
theorem dX2_slipWays_28 : decode cX2_slipWays 28 = .ok (.laload, 1) := dk_47 (dk_at dksX2_slipWays_1 4 rfl rfl)
theorem dX2_slipWays_29 : decode cX2_slipWays 29 = .ok (.invokestatic 96, 3) := dk_184 0 96 (dk_at dksX2_slipWays_1 5 rfl rfl)
theorem dX2_slipWays_32 : decode cX2_slipWays 32 = .ok (.goto 4, 3) := dk_167 0 4 (dk_at dksX2_slipWays_1 8 rfl rfl)
theorem dX2_slipWays_35 : decode cX2_slipWays 35 = .ok (.iconst 0, 1) := dk_3 (dk_at dksX2_slipWays_1 11 rfl rfl)
theorem dX2_slipWays_36 : decode cX2_slipWays 36 = .ok (.ireturn, 1) := dk_172 (dk_at dksX2_slipWays_1 12 rfl rfl)
abbrev cX2_slip : ByteArray := prog_2_method_13_code
def yX2_slip : MethodName := ⟨RX2, "slip", "(II)J"⟩
def dkwX2_slip_1 : List UInt8 := [27, 47, 167, 0, 18, 42, 180, 0, 29, 27, 47, 117, 167, 0, 8, 28, 184, 0, 117, 117, 105, 173]
abbrev dktX2_slip_1 : List UInt8 := dkwX2_slip_1 ++ []
def dkwX2_slip_0 : List UInt8 := [42, 180, 0, 32, 27, 47, 42, 180, 0, 15, 27, 46, 154, 0, 27, 28, 4, 160, 0, 12, 42, 180, 0, 29]
abbrev dktX2_slip_0 : List UInt8 := dkwX2_slip_0 ++ dktX2_slip_1
theorem dksX2_slip_0 : cX2_slip.data.toList.drop 0 = dktX2_slip_0 := by decide +kernel
theorem dksX2_slip_1 : cX2_slip.data.toList.drop 24 = dktX2_slip_1 := dk_seg dksX2_slip_0 24 rfl rfl
theorem dX2_slip_0 : decode cX2_slip 0 = .ok (.aload_n 0, 1) := dk_42 (dk_at dksX2_slip_0 0 rfl rfl)
theorem dX2_slip_1 : decode cX2_slip 1 = .ok (.getfield 32, 3) := dk_180 0 32 (dk_at dksX2_slip_0 1 rfl rfl)
theorem dX2_slip_4 : decode cX2_slip 4 = .ok (.iload_n 1, 1) := dk_27 (dk_at dksX2_slip_0 4 rfl rfl)
theorem dX2_slip_5 : decode cX2_slip 5 = .ok (.laload, 1) := dk_47 (dk_at dksX2_slip_0 5 rfl rfl)
theorem dX2_slip_6 : decode cX2_slip 6 = .ok (.aload_n 0, 1) := dk_42 (dk_at dksX2_slip_0 6 rfl rfl)
theorem dX2_slip_7 : decode cX2_slip 7 = .ok (.getfield 15, 3) := dk_180 0 15 (dk_at dksX2_slip_0 7 rfl rfl)
theorem dX2_slip_10 : decode cX2_slip 10 = .ok (.iload_n 1, 1) := dk_27 (dk_at dksX2_slip_0 10 rfl rfl)
theorem dX2_slip_11 : decode cX2_slip 11 = .ok (.iaload, 1) := dk_46 (dk_at dksX2_slip_0 11 rfl rfl)
theorem dX2_slip_12 : decode cX2_slip 12 = .ok (.ifCond .ne 27, 3) := dk_154 0 27 (dk_at dksX2_slip_0 12 rfl rfl)
theorem dX2_slip_15 : decode cX2_slip 15 = .ok (.iload_n 2, 1) := dk_28 (dk_at dksX2_slip_0 15 rfl rfl)
theorem dX2_slip_16 : decode cX2_slip 16 = .ok (.iconst 1, 1) := dk_4 (dk_at dksX2_slip_0 16 rfl rfl)
theorem dX2_slip_17 : decode cX2_slip 17 = .ok (.if_icmp .ne 12, 3) := dk_160 0 12 (dk_at dksX2_slip_0 17 rfl rfl)
theorem dX2_slip_20 : decode cX2_slip 20 = .ok (.aload_n 0, 1) := dk_42 (dk_at dksX2_slip_0 20 rfl rfl)
theorem dX2_slip_21 : decode cX2_slip 21 = .ok (.getfield 29, 3) := dk_180 0 29 (dk_at dksX2_slip_0 21 rfl rfl)
theorem dX2_slip_24 : decode cX2_slip 24 = .ok (.iload_n 1, 1) := dk_27 (dk_at dksX2_slip_1 0 rfl rfl)
theorem dX2_slip_25 : decode cX2_slip 25 = .ok (.laload, 1) := dk_47 (dk_at dksX2_slip_1 1 rfl rfl)
theorem dX2_slip_26 : decode cX2_slip 26 = .ok (.goto 18, 3) := dk_167 0 18 (dk_at dksX2_slip_1 2 rfl rfl)
theorem dX2_slip_29 : decode cX2_slip 29 = .ok (.aload_n 0, 1) := dk_42 (dk_at dksX2_slip_1 5 rfl rfl)
theorem dX2_slip_30 : decode cX2_slip 30 = .ok (.getfield 29, 3) := dk_180 0 29 (dk_at dksX2_slip_1 6 rfl rfl)
theorem dX2_slip_33 : decode cX2_slip 33 = .ok (.iload_n 1, 1) := dk_27 (dk_at dksX2_slip_1 9 rfl rfl)
theorem dX2_slip_34 : decode cX2_slip 34 = .ok (.laload, 1) := dk_47 (dk_at dksX2_slip_1 10 rfl rfl)
theorem dX2_slip_35 : decode cX2_slip 35 = .ok (.lneg, 1) := dk_117 (dk_at dksX2_slip_1 11 rfl rfl)
theorem dX2_slip_36 : decode cX2_slip 36 = .ok (.goto 8, 3) := dk_167 0 8 (dk_at dksX2_slip_1 12 rfl rfl)
theorem dX2_slip_39 : decode cX2_slip 39 = .ok (.iload_n 2, 1) := dk_28 (dk_at dksX2_slip_1 15 rfl rfl)
theorem dX2_slip_40 : decode cX2_slip 40 = .ok (.invokestatic 117, 3) := dk_184 0 117 (dk_at dksX2_slip_1 16 rfl rfl)
theorem dX2_slip_43 : decode cX2_slip 43 = .ok (.lneg, 1) := dk_117 (dk_at dksX2_slip_1 19 rfl rfl)
theorem dX2_slip_44 : decode cX2_slip 44 = .ok (.lmul, 1) := dk_105 (dk_at dksX2_slip_1 20 rfl rfl)
theorem dX2_slip_45 : decode cX2_slip 45 = .ok (.lreturn, 1) := dk_173 (dk_at dksX2_slip_1 21 rfl rfl)
abbrev cX2_canSlip : ByteArray := prog_2_method_14_code
def yX2_canSlip : MethodName := ⟨RX2, "canSlip", "(IJ)Z"⟩
def dkwX2_canSlip_1 : List UInt8 := [154, 0, 5, 4, 172, 132, 4, 1, 167, 255, 229, 3, 172]
abbrev dktX2_canSlip_1 : List UInt8 := dkwX2_canSlip_1 ++ []
def dkwX2_canSlip_0 : List UInt8 := [3, 54, 4, 21, 4, 42, 27, 182, 0, 133, 162, 0, 23, 42, 27, 21, 4, 182, 0, 137, 32, 148]
abbrev dktX2_canSlip_0 : List UInt8 := dkwX2_canSlip_0 ++ dktX2_canSlip_1
theorem dksX2_canSlip_0 : cX2_canSlip.data.toList.drop 0 = dktX2_canSlip_0 := by decide +kernel
theorem dksX2_canSlip_1 : cX2_canSlip.data.toList.drop 22 = dktX2_canSlip_1 := dk_seg dksX2_canSlip_0 22 rfl rfl
theorem dX2_canSlip_0 : decode cX2_canSlip 0 = .ok (.iconst 0, 1) := dk_3 (dk_at dksX2_canSlip_0 0 rfl rfl)
theorem dX2_canSlip_1 : decode cX2_canSlip 1 = .ok (.istore 4, 2) := dk_54 4 (dk_at dksX2_canSlip_0 1 rfl rfl)
theorem dX2_canSlip_3 : decode cX2_canSlip 3 = .ok (.iload 4, 2) := dk_21 4 (dk_at dksX2_canSlip_0 3 rfl rfl)
theorem dX2_canSlip_5 : decode cX2_canSlip 5 = .ok (.aload_n 0, 1) := dk_42 (dk_at dksX2_canSlip_0 5 rfl rfl)
theorem dX2_canSlip_6 : decode cX2_canSlip 6 = .ok (.iload_n 1, 1) := dk_27 (dk_at dksX2_canSlip_0 6 rfl rfl)
theorem dX2_canSlip_7 : decode cX2_canSlip 7 = .ok (.invokevirtual 133, 3) := dk_182 0 133 (dk_at dksX2_canSlip_0 7 rfl rfl)
theorem dX2_canSlip_10 : decode cX2_canSlip 10 = .ok (.if_icmp .ge 23, 3) := dk_162 0 23 (dk_at dksX2_canSlip_0 10 rfl rfl)
theorem dX2_canSlip_13 : decode cX2_canSlip 13 = .ok (.aload_n 0, 1) := dk_42 (dk_at dksX2_canSlip_0 13 rfl rfl)
theorem dX2_canSlip_14 : decode cX2_canSlip 14 = .ok (.iload_n 1, 1) := dk_27 (dk_at dksX2_canSlip_0 14 rfl rfl)
theorem dX2_canSlip_15 : decode cX2_canSlip 15 = .ok (.iload 4, 2) := dk_21 4 (dk_at dksX2_canSlip_0 15 rfl rfl)
theorem dX2_canSlip_17 : decode cX2_canSlip 17 = .ok (.invokevirtual 137, 3) := dk_182 0 137 (dk_at dksX2_canSlip_0 17 rfl rfl)
theorem dX2_canSlip_20 : decode cX2_canSlip 20 = .ok (.lload_n 2, 1) := dk_32 (dk_at dksX2_canSlip_0 20 rfl rfl)
theorem dX2_canSlip_21 : decode cX2_canSlip 21 = .ok (.lcmp, 1) := dk_148 (dk_at dksX2_canSlip_0 21 rfl rfl)
theorem dX2_canSlip_22 : decode cX2_canSlip 22 = .ok (.ifCond .ne 5, 3) := dk_154 0 5 (dk_at dksX2_canSlip_1 0 rfl rfl)
theorem dX2_canSlip_25 : decode cX2_canSlip 25 = .ok (.iconst 1, 1) := dk_4 (dk_at dksX2_canSlip_1 3 rfl rfl)
theorem dX2_canSlip_26 : decode cX2_canSlip 26 = .ok (.ireturn, 1) := dk_172 (dk_at dksX2_canSlip_1 4 rfl rfl)
theorem dX2_canSlip_27 : decode cX2_canSlip 27 = .ok (.iinc 4 1, 3) := dk_132 4 1 (dk_at dksX2_canSlip_1 5 rfl rfl)
theorem dX2_canSlip_30 : decode cX2_canSlip 30 = .ok (.goto (-27), 3) := dk_167 255 229 (dk_at dksX2_canSlip_1 8 rfl rfl)
theorem dX2_canSlip_33 : decode cX2_canSlip 33 = .ok (.iconst 0, 1) := dk_3 (dk_at dksX2_canSlip_1 11 rfl rfl)
theorem dX2_canSlip_34 : decode cX2_canSlip 34 = .ok (.ireturn, 1) := dk_172 (dk_at dksX2_canSlip_1 12 rfl rfl)
theorem q94 : (Jvm.Cond.initialized "HeadReckons$Acts") ∈ lw_all := lw_g (lw_at lw_m1 3 rfl) rfl
theorem q165 : (Jvm.Cond.instantiable "HeadReckons$Acts" (16 : Nat)) ∈ lw_all := lw_g (lw_at lw_m1 74 rfl) rfl
theorem q167 : (Jvm.Cond.instanceMethod ({ cls := "HeadReckons$Acts", name := "<init>", desc := "(LHeadReckons;)V" } : Jvm.MethodName)) ∈ lw_all := lw_g (lw_at lw_m1 76 rfl) rfl
theorem q168 : (Jvm.Cond.code ({ cls := "HeadReckons$Acts", name := "<init>", desc := "(LHeadReckons;)V" } : Jvm.MethodName) prog_2_method_1_code (2 : Nat) (Option.none : Option Jvm.ClassFile.FieldType)) ∈ lw_all := lw_g (lw_at lw_m1 77 rfl) rfl
theorem q169 : (Jvm.Cond.methodLink "HeadReckons$Acts" (9 : Nat) ({ cls := "java/lang/Object", name := "<init>", desc := "()V" } : Jvm.MethodName)) ∈ lw_all := lw_g (lw_at lw_m1 78 rfl) rfl
theorem q170 : (Jvm.Cond.fieldLink "HeadReckons$Acts" (15 : Nat) "HeadReckons$Acts" "sort" "[I") ∈ lw_all := lw_g (lw_at lw_m1 79 rfl) rfl
theorem q172 : (Jvm.Cond.fieldLink "HeadReckons$Acts" (19 : Nat) "HeadReckons$Acts" "length" "[I") ∈ lw_all := lw_g (lw_at lw_m1 81 rfl) rfl
theorem q174 : (Jvm.Cond.fieldLink "HeadReckons$Acts" (22 : Nat) "HeadReckons$Acts" "held" "[I") ∈ lw_all := lw_g (lw_at lw_m1 83 rfl) rfl
theorem q176 : (Jvm.Cond.fieldLink "HeadReckons$Acts" (25 : Nat) "HeadReckons$Acts" "makes" "[J") ∈ lw_all := lw_g (lw_at lw_m1 85 rfl) rfl
theorem q178 : (Jvm.Cond.fieldLink "HeadReckons$Acts" (29 : Nat) "HeadReckons$Acts" "slips" "[J") ∈ lw_all := lw_g (lw_at lw_m1 87 rfl) rfl
theorem q179 : (Jvm.Cond.fieldLink "HeadReckons$Acts" (32 : Nat) "HeadReckons$Acts" "scales" "[J") ∈ lw_all := lw_g (lw_at lw_m1 88 rfl) rfl
theorem q180 : (Jvm.Cond.fieldLink "HeadReckons$Acts" (42 : Nat) "HeadReckons$Acts" "many" "I") ∈ lw_all := lw_g (lw_at lw_m1 89 rfl) rfl
theorem q182 : (Jvm.Cond.fieldLink "HeadReckons$Acts" (46 : Nat) "HeadReckons$Acts" "kept" "I") ∈ lw_all := lw_g (lw_at lw_m1 91 rfl) rfl
theorem q183 : (Jvm.Cond.fieldLink "HeadReckons$Acts" (49 : Nat) "HeadReckons$Acts" "seconds" "I") ∈ lw_all := lw_g (lw_at lw_m1 92 rfl) rfl
theorem q185 : (Jvm.Cond.fieldLink "HeadReckons$Acts" (52 : Nat) "HeadReckons$Acts" "most" "I") ∈ lw_all := lw_g (lw_at lw_m1 94 rfl) rfl
theorem q187 : (Jvm.Cond.fieldLink "HeadReckons$Acts" (89 : Nat) "HeadReckons$Acts" "running" "J") ∈ lw_all := lw_g (lw_at lw_m1 96 rfl) rfl
theorem q188 : (Jvm.Cond.fieldLink "HeadReckons$Acts" (55 : Nat) "HeadReckons$Acts" "scale" "J") ∈ lw_all := lw_g (lw_at lw_m1 97 rfl) rfl
theorem q189 : (Jvm.Cond.fieldLink "HeadReckons$Acts" (92 : Nat) "HeadReckons$Acts" "isFirst" "Z") ∈ lw_all := lw_g (lw_at lw_m1 98 rfl) rfl
theorem q190 : (Jvm.Cond.fieldLink "HeadReckons$Acts" (38 : Nat) "HeadReckons$Acts" "head" "LHeadReckons$Head;") ∈ lw_all := lw_g (lw_at lw_m1 99 rfl) rfl
theorem q191 : (Jvm.Cond.fieldLink "HeadReckons$Acts" (35 : Nat) "HeadReckons$Acts" "rows" "[J") ∈ lw_all := lw_g (lw_at lw_m1 100 rfl) rfl
theorem q192 : (Jvm.Cond.fieldLink "HeadReckons$Acts" (3 : Nat) "HeadReckons$Acts" "this$0" "LHeadReckons;") ∈ lw_all := lw_g (lw_at lw_m1 101 rfl) rfl
theorem q193 : (Jvm.Cond.laysFinal "HeadReckons$Acts" "HeadReckons$Acts" "sort" "[I") ∈ lw_all := lw_g (lw_at lw_m1 102 rfl) rfl
theorem q194 : (Jvm.Cond.soleField "HeadReckons$Acts" "sort") ∈ lw_all := lw_g (lw_at lw_m1 103 rfl) rfl
theorem q195 : (Jvm.Cond.laysFinal "HeadReckons$Acts" "HeadReckons$Acts" "length" "[I") ∈ lw_all := lw_g (lw_at lw_m1 104 rfl) rfl
theorem q196 : (Jvm.Cond.soleField "HeadReckons$Acts" "length") ∈ lw_all := lw_g (lw_at lw_m1 105 rfl) rfl
theorem q197 : (Jvm.Cond.laysFinal "HeadReckons$Acts" "HeadReckons$Acts" "held" "[I") ∈ lw_all := lw_g (lw_at lw_m1 106 rfl) rfl
theorem q198 : (Jvm.Cond.soleField "HeadReckons$Acts" "held") ∈ lw_all := lw_g (lw_at lw_m1 107 rfl) rfl
theorem q199 : (Jvm.Cond.laysFinal "HeadReckons$Acts" "HeadReckons$Acts" "makes" "[J") ∈ lw_all := lw_g (lw_at lw_m1 108 rfl) rfl
theorem q200 : (Jvm.Cond.soleField "HeadReckons$Acts" "makes") ∈ lw_all := lw_g (lw_at lw_m1 109 rfl) rfl
theorem q201 : (Jvm.Cond.laysFinal "HeadReckons$Acts" "HeadReckons$Acts" "slips" "[J") ∈ lw_all := lw_g (lw_at lw_m1 110 rfl) rfl
theorem q202 : (Jvm.Cond.soleField "HeadReckons$Acts" "slips") ∈ lw_all := lw_g (lw_at lw_m1 111 rfl) rfl
theorem q203 : (Jvm.Cond.laysFinal "HeadReckons$Acts" "HeadReckons$Acts" "scales" "[J") ∈ lw_all := lw_g (lw_at lw_m1 112 rfl) rfl
theorem q204 : (Jvm.Cond.soleField "HeadReckons$Acts" "scales") ∈ lw_all := lw_g (lw_at lw_m1 113 rfl) rfl
theorem q205 : (Jvm.Cond.lays "HeadReckons$Acts" "HeadReckons$Acts" "many" "I") ∈ lw_all := lw_g (lw_at lw_m1 114 rfl) rfl
theorem q206 : (Jvm.Cond.soleField "HeadReckons$Acts" "many") ∈ lw_all := lw_g (lw_at lw_m1 115 rfl) rfl
theorem q207 : (Jvm.Cond.lays "HeadReckons$Acts" "HeadReckons$Acts" "kept" "I") ∈ lw_all := lw_g (lw_at lw_m1 116 rfl) rfl
theorem q208 : (Jvm.Cond.soleField "HeadReckons$Acts" "kept") ∈ lw_all := lw_g (lw_at lw_m1 117 rfl) rfl
theorem q209 : (Jvm.Cond.lays "HeadReckons$Acts" "HeadReckons$Acts" "seconds" "I") ∈ lw_all := lw_g (lw_at lw_m1 118 rfl) rfl
theorem q210 : (Jvm.Cond.soleField "HeadReckons$Acts" "seconds") ∈ lw_all := lw_g (lw_at lw_m1 119 rfl) rfl
theorem q211 : (Jvm.Cond.lays "HeadReckons$Acts" "HeadReckons$Acts" "most" "I") ∈ lw_all := lw_g (lw_at lw_m1 120 rfl) rfl
theorem q212 : (Jvm.Cond.soleField "HeadReckons$Acts" "most") ∈ lw_all := lw_g (lw_at lw_m1 121 rfl) rfl
theorem q213 : (Jvm.Cond.lays "HeadReckons$Acts" "HeadReckons$Acts" "running" "J") ∈ lw_all := lw_g (lw_at lw_m1 122 rfl) rfl
theorem q214 : (Jvm.Cond.soleField "HeadReckons$Acts" "running") ∈ lw_all := lw_g (lw_at lw_m1 123 rfl) rfl
theorem q215 : (Jvm.Cond.lays "HeadReckons$Acts" "HeadReckons$Acts" "scale" "J") ∈ lw_all := lw_g (lw_at lw_m1 124 rfl) rfl
theorem q216 : (Jvm.Cond.soleField "HeadReckons$Acts" "scale") ∈ lw_all := lw_g (lw_at lw_m1 125 rfl) rfl
theorem q217 : (Jvm.Cond.lays "HeadReckons$Acts" "HeadReckons$Acts" "isFirst" "Z") ∈ lw_all := lw_g (lw_at lw_m1 126 rfl) rfl
theorem q218 : (Jvm.Cond.soleField "HeadReckons$Acts" "isFirst") ∈ lw_all := lw_g (lw_at lw_m1 127 rfl) rfl
theorem q219 : (Jvm.Cond.lays "HeadReckons$Acts" "HeadReckons$Acts" "head" "LHeadReckons$Head;") ∈ lw_all := lw_g (lw_at lw_m1 128 rfl) rfl
theorem q220 : (Jvm.Cond.soleField "HeadReckons$Acts" "head") ∈ lw_all := lw_g (lw_at lw_m1 129 rfl) rfl
theorem q221 : (Jvm.Cond.laysFinal "HeadReckons$Acts" "HeadReckons$Acts" "rows" "[J") ∈ lw_all := lw_g (lw_at lw_m1 130 rfl) rfl
theorem q222 : (Jvm.Cond.soleField "HeadReckons$Acts" "rows") ∈ lw_all := lw_g (lw_at lw_m1 131 rfl) rfl
theorem q223 : (Jvm.Cond.laysFinal "HeadReckons$Acts" "HeadReckons$Acts" "this$0" "LHeadReckons;") ∈ lw_all := lw_g (lw_at lw_m1 132 rfl) rfl
theorem q224 : (Jvm.Cond.soleField "HeadReckons$Acts" "this$0") ∈ lw_all := lw_g (lw_at lw_m1 133 rfl) rfl
theorem q225 : (Jvm.Cond.superclass "HeadReckons$Acts" "java/lang/Object") ∈ lw_all := lw_g (lw_at lw_m1 134 rfl) rfl
theorem q237 : (Jvm.Cond.fieldLinkNest "HeadReckons$Acts" (106 : Nat) "HeadReckons$Head" "told" "[I" "HeadReckons") ∈ lw_tbl := lw_at lw_m1 146 rfl
theorem q645 : (Jvm.Cond.instanceMethod ({ cls := "HeadReckons$Acts", name := "lay", desc := "(LHeadReckons$Head;III)Z" } : Jvm.MethodName)) ∈ lw_all := lw_g (lw_at lw_m3 74 rfl) rfl
theorem q646 : (Jvm.Cond.selects "HeadReckons$Acts" ({ cls := "HeadReckons$Acts", name := "lay", desc := "(LHeadReckons$Head;III)Z" } : Jvm.MethodName) ({ cls := "HeadReckons$Acts", name := "lay", desc := "(LHeadReckons$Head;III)Z" } : Jvm.MethodName)) ∈ lw_all := lw_g (lw_at lw_m3 75 rfl) rfl
theorem q647 : (Jvm.Cond.code ({ cls := "HeadReckons$Acts", name := "lay", desc := "(LHeadReckons$Head;III)Z" } : Jvm.MethodName) prog_2_method_2_code (5 : Nat) (Option.some Jvm.ClassFile.FieldType.boolean)) ∈ lw_all := lw_g (lw_at lw_m3 76 rfl) rfl
theorem q648 : (Jvm.Cond.methodLink "HeadReckons$Acts" (59 : Nat) ({ cls := "HeadReckons$Acts", name := "begin", desc := "()V" } : Jvm.MethodName)) ∈ lw_all := lw_g (lw_at lw_m3 77 rfl) rfl
theorem q649 : (Jvm.Cond.privateMethod ({ cls := "HeadReckons$Acts", name := "begin", desc := "()V" } : Jvm.MethodName)) ∈ lw_tbl := lw_at lw_m3 78 rfl
theorem q650 : (Jvm.Cond.instanceMethod ({ cls := "HeadReckons$Acts", name := "begin", desc := "()V" } : Jvm.MethodName)) ∈ lw_all := lw_g (lw_at lw_m3 79 rfl) rfl
theorem q651 : (Jvm.Cond.code ({ cls := "HeadReckons$Acts", name := "begin", desc := "()V" } : Jvm.MethodName) prog_2_method_3_code (1 : Nat) (Option.none : Option Jvm.ClassFile.FieldType)) ∈ lw_all := lw_g (lw_at lw_m3 80 rfl) rfl
theorem q652 : (Jvm.Cond.methodLink "HeadReckons$Acts" (62 : Nat) ({ cls := "HeadReckons$Head", name := "knows", desc := "(II)Z" } : Jvm.MethodName)) ∈ lw_all := lw_g (lw_at lw_m3 81 rfl) rfl
theorem q664 : (Jvm.Cond.methodLink "HeadReckons$Acts" (68 : Nat) ({ cls := "HeadReckons$Acts", name := "look", desc := "(JJJ)V" } : Jvm.MethodName)) ∈ lw_all := lw_g (lw_at lw_m3 93 rfl) rfl
theorem q665 : (Jvm.Cond.privateMethod ({ cls := "HeadReckons$Acts", name := "look", desc := "(JJJ)V" } : Jvm.MethodName)) ∈ lw_tbl := lw_at lw_m3 94 rfl
theorem q666 : (Jvm.Cond.instanceMethod ({ cls := "HeadReckons$Acts", name := "look", desc := "(JJJ)V" } : Jvm.MethodName)) ∈ lw_all := lw_g (lw_at lw_m3 95 rfl) rfl
theorem q667 : (Jvm.Cond.code ({ cls := "HeadReckons$Acts", name := "look", desc := "(JJJ)V" } : Jvm.MethodName) prog_2_method_5_code (7 : Nat) (Option.none : Option Jvm.ClassFile.FieldType)) ∈ lw_all := lw_g (lw_at lw_m3 96 rfl) rfl
theorem q668 : (Jvm.Cond.methodLink "HeadReckons$Acts" (109 : Nat) ({ cls := "java/lang/Math", name := "min", desc := "(JJ)J" } : Jvm.MethodName)) ∈ lw_all := lw_g (lw_at lw_m3 97 rfl) rfl
theorem q671 : (Jvm.Cond.methodLink "HeadReckons$Acts" (113 : Nat) ({ cls := "HeadReckons$Acts", name := "act", desc := "(IJIJ)V" } : Jvm.MethodName)) ∈ lw_all := lw_g (lw_at lw_m3 100 rfl) rfl
theorem q672 : (Jvm.Cond.privateMethod ({ cls := "HeadReckons$Acts", name := "act", desc := "(IJIJ)V" } : Jvm.MethodName)) ∈ lw_tbl := lw_at lw_m3 101 rfl
theorem q673 : (Jvm.Cond.instanceMethod ({ cls := "HeadReckons$Acts", name := "act", desc := "(IJIJ)V" } : Jvm.MethodName)) ∈ lw_all := lw_g (lw_at lw_m3 102 rfl) rfl
theorem q674 : (Jvm.Cond.code ({ cls := "HeadReckons$Acts", name := "act", desc := "(IJIJ)V" } : Jvm.MethodName) prog_2_method_4_code (7 : Nat) (Option.none : Option Jvm.ClassFile.FieldType)) ∈ lw_all := lw_g (lw_at lw_m3 103 rfl) rfl
theorem q675 : (Jvm.Cond.methodLinkNest "HeadReckons$Acts" (96 : Nat) ({ cls := "HeadReckons", name := "sizeOf", desc := "(J)I" } : Jvm.MethodName) "HeadReckons") ∈ lw_tbl := lw_at lw_m3 104 rfl
theorem q679 : (Jvm.Cond.methodLink "HeadReckons$Acts" (100 : Nat) ({ cls := "java/lang/Math", name := "max", desc := "(II)I" } : Jvm.MethodName)) ∈ lw_all := lw_g (lw_at lw_m3 108 rfl) rfl
theorem q680 : (Jvm.Cond.methodLink "HeadReckons$Acts" (72 : Nat) ({ cls := "HeadReckons$Acts", name := "left", desc := "(JJ)V" } : Jvm.MethodName)) ∈ lw_all := lw_g (lw_at lw_m3 109 rfl) rfl
theorem q681 : (Jvm.Cond.privateMethod ({ cls := "HeadReckons$Acts", name := "left", desc := "(JJ)V" } : Jvm.MethodName)) ∈ lw_tbl := lw_at lw_m3 110 rfl
theorem q682 : (Jvm.Cond.instanceMethod ({ cls := "HeadReckons$Acts", name := "left", desc := "(JJ)V" } : Jvm.MethodName)) ∈ lw_all := lw_g (lw_at lw_m3 111 rfl) rfl
theorem q683 : (Jvm.Cond.code ({ cls := "HeadReckons$Acts", name := "left", desc := "(JJ)V" } : Jvm.MethodName) prog_2_method_7_code (11 : Nat) (Option.none : Option Jvm.ClassFile.FieldType)) ∈ lw_all := lw_g (lw_at lw_m3 112 rfl) rfl
theorem q684 : (Jvm.Cond.methodLinkNest "HeadReckons$Acts" (117 : Nat) ({ cls := "HeadReckons", name := "tenTo", desc := "(I)J" } : Jvm.MethodName) "HeadReckons") ∈ lw_tbl := lw_at lw_m3 113 rfl
theorem q687 : (Jvm.Cond.constantLong "HeadReckons$Acts" (121 : Nat) (10 : Int64)) ∈ lw_all := lw_g (lw_at lw_m3 116 rfl) rfl
theorem q688 : (Jvm.Cond.methodLink "HeadReckons$Acts" (76 : Nat) ({ cls := "HeadReckons$Acts", name := "right", desc := "(JJ)V" } : Jvm.MethodName)) ∈ lw_all := lw_g (lw_at lw_m3 117 rfl) rfl
theorem q689 : (Jvm.Cond.privateMethod ({ cls := "HeadReckons$Acts", name := "right", desc := "(JJ)V" } : Jvm.MethodName)) ∈ lw_tbl := lw_at lw_m3 118 rfl
theorem q690 : (Jvm.Cond.instanceMethod ({ cls := "HeadReckons$Acts", name := "right", desc := "(JJ)V" } : Jvm.MethodName)) ∈ lw_all := lw_g (lw_at lw_m3 119 rfl) rfl
theorem q691 : (Jvm.Cond.code ({ cls := "HeadReckons$Acts", name := "right", desc := "(JJ)V" } : Jvm.MethodName) prog_2_method_8_code (10 : Nat) (Option.none : Option Jvm.ClassFile.FieldType)) ∈ lw_all := lw_g (lw_at lw_m3 120 rfl) rfl
theorem q692 : (Jvm.Cond.methodLink "HeadReckons$Acts" (123 : Nat) ({ cls := "HeadReckons$Acts", name := "hold", desc := "(JI)V" } : Jvm.MethodName)) ∈ lw_all := lw_g (lw_at lw_m3 121 rfl) rfl
theorem q693 : (Jvm.Cond.privateMethod ({ cls := "HeadReckons$Acts", name := "hold", desc := "(JI)V" } : Jvm.MethodName)) ∈ lw_tbl := lw_at lw_m3 122 rfl
theorem q694 : (Jvm.Cond.instanceMethod ({ cls := "HeadReckons$Acts", name := "hold", desc := "(JI)V" } : Jvm.MethodName)) ∈ lw_all := lw_g (lw_at lw_m3 123 rfl) rfl
theorem q695 : (Jvm.Cond.code ({ cls := "HeadReckons$Acts", name := "hold", desc := "(JI)V" } : Jvm.MethodName) prog_2_method_6_code (4 : Nat) (Option.none : Option Jvm.ClassFile.FieldType)) ∈ lw_all := lw_g (lw_at lw_m3 124 rfl) rfl
theorem q696 : (Jvm.Cond.methodLink "HeadReckons$Acts" (79 : Nat) ({ cls := "HeadReckons$Acts", name := "crossed", desc := "(JJ)V" } : Jvm.MethodName)) ∈ lw_all := lw_g (lw_at lw_m3 125 rfl) rfl
theorem q697 : (Jvm.Cond.privateMethod ({ cls := "HeadReckons$Acts", name := "crossed", desc := "(JJ)V" } : Jvm.MethodName)) ∈ lw_tbl := lw_at lw_m3 126 rfl
theorem q698 : (Jvm.Cond.instanceMethod ({ cls := "HeadReckons$Acts", name := "crossed", desc := "(JJ)V" } : Jvm.MethodName)) ∈ lw_all := lw_g (lw_at lw_m3 127 rfl) rfl
theorem q699 : (Jvm.Cond.code ({ cls := "HeadReckons$Acts", name := "crossed", desc := "(JJ)V" } : Jvm.MethodName) prog_2_method_9_code (13 : Nat) (Option.none : Option Jvm.ClassFile.FieldType)) ∈ lw_all := lw_g (lw_at lw_m3 128 rfl) rfl
theorem q700 : (Jvm.Cond.methodLink "HeadReckons$Acts" (82 : Nat) ({ cls := "HeadReckons$Acts", name := "squared", desc := "(JJ)Z" } : Jvm.MethodName)) ∈ lw_all := lw_g (lw_at lw_m3 129 rfl) rfl
theorem q701 : (Jvm.Cond.privateMethod ({ cls := "HeadReckons$Acts", name := "squared", desc := "(JJ)Z" } : Jvm.MethodName)) ∈ lw_tbl := lw_at lw_m3 130 rfl
theorem q702 : (Jvm.Cond.instanceMethod ({ cls := "HeadReckons$Acts", name := "squared", desc := "(JJ)Z" } : Jvm.MethodName)) ∈ lw_all := lw_g (lw_at lw_m3 131 rfl) rfl
theorem q703 : (Jvm.Cond.code ({ cls := "HeadReckons$Acts", name := "squared", desc := "(JJ)Z" } : Jvm.MethodName) prog_2_method_10_code (9 : Nat) (Option.some Jvm.ClassFile.FieldType.boolean)) ∈ lw_all := lw_g (lw_at lw_m3 132 rfl) rfl
theorem q704 : (Jvm.Cond.constantLong "HeadReckons$Acts" (127 : Nat) (2 : Int64)) ∈ lw_all := lw_g (lw_at lw_m3 133 rfl) rfl
theorem q705 : (Jvm.Cond.methodLink "HeadReckons$Acts" (129 : Nat) ({ cls := "java/lang/Math", name := "abs", desc := "(J)J" } : Jvm.MethodName)) ∈ lw_all := lw_g (lw_at lw_m3 134 rfl) rfl
theorem q708 : (Jvm.Cond.methodLink "HeadReckons$Acts" (86 : Nat) ({ cls := "HeadReckons$Acts", name := "split", desc := "(JJ)Z" } : Jvm.MethodName)) ∈ lw_all := lw_g (lw_at lw_m3 137 rfl) rfl
theorem q709 : (Jvm.Cond.privateMethod ({ cls := "HeadReckons$Acts", name := "split", desc := "(JJ)Z" } : Jvm.MethodName)) ∈ lw_tbl := lw_at lw_m3 138 rfl
theorem q710 : (Jvm.Cond.instanceMethod ({ cls := "HeadReckons$Acts", name := "split", desc := "(JJ)Z" } : Jvm.MethodName)) ∈ lw_all := lw_g (lw_at lw_m3 139 rfl) rfl
theorem q711 : (Jvm.Cond.code ({ cls := "HeadReckons$Acts", name := "split", desc := "(JJ)Z" } : Jvm.MethodName) prog_2_method_11_code (7 : Nat) (Option.some Jvm.ClassFile.FieldType.boolean)) ∈ lw_all := lw_g (lw_at lw_m3 140 rfl) rfl
theorem q771 : (Jvm.Cond.instanceMethod ({ cls := "HeadReckons$Acts", name := "slipWays", desc := "(I)I" } : Jvm.MethodName)) ∈ lw_all := lw_g (lw_at lw_m3 200 rfl) rfl
theorem q772 : (Jvm.Cond.selects "HeadReckons$Acts" ({ cls := "HeadReckons$Acts", name := "slipWays", desc := "(I)I" } : Jvm.MethodName) ({ cls := "HeadReckons$Acts", name := "slipWays", desc := "(I)I" } : Jvm.MethodName)) ∈ lw_all := lw_g (lw_at lw_m3 201 rfl) rfl
theorem q773 : (Jvm.Cond.code ({ cls := "HeadReckons$Acts", name := "slipWays", desc := "(I)I" } : Jvm.MethodName) prog_2_method_12_code (2 : Nat) (Option.some Jvm.ClassFile.FieldType.int)) ∈ lw_all := lw_g (lw_at lw_m3 202 rfl) rfl
theorem q775 : (Jvm.Cond.instanceMethod ({ cls := "HeadReckons$Acts", name := "slip", desc := "(II)J" } : Jvm.MethodName)) ∈ lw_all := lw_g (lw_at lw_m3 204 rfl) rfl
theorem q776 : (Jvm.Cond.selects "HeadReckons$Acts" ({ cls := "HeadReckons$Acts", name := "slip", desc := "(II)J" } : Jvm.MethodName) ({ cls := "HeadReckons$Acts", name := "slip", desc := "(II)J" } : Jvm.MethodName)) ∈ lw_all := lw_g (lw_at lw_m3 205 rfl) rfl
theorem q777 : (Jvm.Cond.code ({ cls := "HeadReckons$Acts", name := "slip", desc := "(II)J" } : Jvm.MethodName) prog_2_method_13_code (3 : Nat) (Option.some Jvm.ClassFile.FieldType.long)) ∈ lw_all := lw_g (lw_at lw_m3 206 rfl) rfl
theorem q986 : (Jvm.Cond.instanceMethod ({ cls := "HeadReckons$Acts", name := "canSlip", desc := "(IJ)Z" } : Jvm.MethodName)) ∈ lw_all := lw_g (lw_at lw_m4 175 rfl) rfl
theorem q987 : (Jvm.Cond.selects "HeadReckons$Acts" ({ cls := "HeadReckons$Acts", name := "canSlip", desc := "(IJ)Z" } : Jvm.MethodName) ({ cls := "HeadReckons$Acts", name := "canSlip", desc := "(IJ)Z" } : Jvm.MethodName)) ∈ lw_all := lw_g (lw_at lw_m4 176 rfl) rfl
theorem q988 : (Jvm.Cond.code ({ cls := "HeadReckons$Acts", name := "canSlip", desc := "(IJ)Z" } : Jvm.MethodName) prog_2_method_14_code (5 : Nat) (Option.some Jvm.ClassFile.FieldType.boolean)) ∈ lw_all := lw_g (lw_at lw_m4 177 rfl) rfl
theorem q989 : (Jvm.Cond.methodLink "HeadReckons$Acts" (133 : Nat) ({ cls := "HeadReckons$Acts", name := "slipWays", desc := "(I)I" } : Jvm.MethodName)) ∈ lw_all := lw_g (lw_at lw_m4 178 rfl) rfl
theorem q990 : (Jvm.Cond.methodLink "HeadReckons$Acts" (137 : Nat) ({ cls := "HeadReckons$Acts", name := "slip", desc := "(II)J" } : Jvm.MethodName)) ∈ lw_all := lw_g (lw_at lw_m4 179 rfl) rfl
theorem in_X2 : ∀ w ∈ wsX20, w ∈ lw_all := lw_in wsX20 [193, 195, 197, 199, 201, 203, 205, 207, 209, 211, 213, 215, 217, 219, 221, 223] (by decide +kernel) (by decide +kernel)

/-! HeadReckons$Head -/
set_option maxRecDepth 100000
def RX3 : String := "HeadReckons$Head"
def TX3 : u_T := fun k => match k with
  | 0 => ("HeadReckons$Head", "told", "[I", true)
  | 1 => ("HeadReckons$Head", "pairs", "[LHeadReckons$Learnt;", true)
  | _ => ("HeadReckons$Head", "pairMany", "I", false)
def tyX3 : Nat → FieldType := fun k => match k with
  | 0 => .array .int
  | 1 => .array (.object "HeadReckons$Learnt")
  | _ => .int
abbrev wsX30 : List Cond := u_ws RX3 TX3 3
theorem nmX3 : ∀ a, a < 3 → ∀ b, b < 3 → a ≠ b → (TX3 a).2.1 ≠ (TX3 b).2.1 := by decide +kernel
theorem tyX3_ok : ∀ k, k < 3 → parseFieldDescriptor (TX3 k).2.2.1 = some (tyX3 k) := by decide +kernel
abbrev cX3_init : ByteArray := prog_15_method_1_code
def yX3_init : MethodName := ⟨RX3, "<init>", "()V"⟩
def dkwX3_init_0 : List UInt8 := [42, 183, 0, 3, 42, 8, 188, 10, 181, 0, 9, 42, 16, 60, 189, 0, 15, 181, 0, 17, 177]
abbrev dktX3_init_0 : List UInt8 := dkwX3_init_0 ++ []
theorem dksX3_init_0 : cX3_init.data.toList.drop 0 = dktX3_init_0 := by decide +kernel
theorem dX3_init_0 : decode cX3_init 0 = .ok (.aload_n 0, 1) := dk_42 (dk_at dksX3_init_0 0 rfl rfl)
theorem dX3_init_1 : decode cX3_init 1 = .ok (.invokespecial 3, 3) := dk_183 0 3 (dk_at dksX3_init_0 1 rfl rfl)
theorem dX3_init_4 : decode cX3_init 4 = .ok (.aload_n 0, 1) := dk_42 (dk_at dksX3_init_0 4 rfl rfl)
theorem dX3_init_5 : decode cX3_init 5 = .ok (.iconst 5, 1) := dk_8 (dk_at dksX3_init_0 5 rfl rfl)
theorem dX3_init_6 : decode cX3_init 6 = .ok (.newarray .int, 2) := dk_188_10 (dk_at dksX3_init_0 6 rfl rfl)
theorem dX3_init_8 : decode cX3_init 8 = .ok (.putfield 9, 3) := dk_181 0 9 (dk_at dksX3_init_0 8 rfl rfl)
theorem dX3_init_11 : decode cX3_init 11 = .ok (.aload_n 0, 1) := dk_42 (dk_at dksX3_init_0 11 rfl rfl)
theorem dX3_init_12 : decode cX3_init 12 = .ok (.bipush 60, 2) := dk_16 60 (dk_at dksX3_init_0 12 rfl rfl)
theorem dX3_init_14 : decode cX3_init 14 = .ok (.anewarray 15, 3) := dk_189 0 15 (dk_at dksX3_init_0 14 rfl rfl)
theorem dX3_init_17 : decode cX3_init 17 = .ok (.putfield 17, 3) := dk_181 0 17 (dk_at dksX3_init_0 17 rfl rfl)
theorem dX3_init_20 : decode cX3_init 20 = .ok (.return_, 1) := dk_177 (dk_at dksX3_init_0 20 rfl rfl)
abbrev cX3_learnt : ByteArray := prog_15_method_6_code
def yX3_learnt : MethodName := ⟨RX3, "learnt", "()I"⟩
def dkwX3_learnt_1 : List UInt8 := [161, 0, 7, 4, 167, 0, 4, 3, 96, 60, 132, 2, 1, 167, 255, 224, 27, 172]
abbrev dktX3_learnt_1 : List UInt8 := dkwX3_learnt_1 ++ []
def dkwX3_learnt_0 : List UInt8 := [3, 60, 3, 61, 28, 42, 180, 0, 21, 162, 0, 30, 27, 42, 180, 0, 17, 28, 50, 180, 0, 33, 6]
abbrev dktX3_learnt_0 : List UInt8 := dkwX3_learnt_0 ++ dktX3_learnt_1
theorem dksX3_learnt_0 : cX3_learnt.data.toList.drop 0 = dktX3_learnt_0 := by decide +kernel
theorem dksX3_learnt_1 : cX3_learnt.data.toList.drop 23 = dktX3_learnt_1 := dk_seg dksX3_learnt_0 23 rfl rfl
theorem dX3_learnt_0 : decode cX3_learnt 0 = .ok (.iconst 0, 1) := dk_3 (dk_at dksX3_learnt_0 0 rfl rfl)
theorem dX3_learnt_1 : decode cX3_learnt 1 = .ok (.istore_n 1, 1) := dk_60 (dk_at dksX3_learnt_0 1 rfl rfl)
theorem dX3_learnt_2 : decode cX3_learnt 2 = .ok (.iconst 0, 1) := dk_3 (dk_at dksX3_learnt_0 2 rfl rfl)
theorem dX3_learnt_3 : decode cX3_learnt 3 = .ok (.istore_n 2, 1) := dk_61 (dk_at dksX3_learnt_0 3 rfl rfl)
theorem dX3_learnt_4 : decode cX3_learnt 4 = .ok (.iload_n 2, 1) := dk_28 (dk_at dksX3_learnt_0 4 rfl rfl)
theorem dX3_learnt_5 : decode cX3_learnt 5 = .ok (.aload_n 0, 1) := dk_42 (dk_at dksX3_learnt_0 5 rfl rfl)
theorem dX3_learnt_6 : decode cX3_learnt 6 = .ok (.getfield 21, 3) := dk_180 0 21 (dk_at dksX3_learnt_0 6 rfl rfl)
theorem dX3_learnt_9 : decode cX3_learnt 9 = .ok (.if_icmp .ge 30, 3) := dk_162 0 30 (dk_at dksX3_learnt_0 9 rfl rfl)
theorem dX3_learnt_12 : decode cX3_learnt 12 = .ok (.iload_n 1, 1) := dk_27 (dk_at dksX3_learnt_0 12 rfl rfl)
theorem dX3_learnt_13 : decode cX3_learnt 13 = .ok (.aload_n 0, 1) := dk_42 (dk_at dksX3_learnt_0 13 rfl rfl)
theorem dX3_learnt_14 : decode cX3_learnt 14 = .ok (.getfield 17, 3) := dk_180 0 17 (dk_at dksX3_learnt_0 14 rfl rfl)
theorem dX3_learnt_17 : decode cX3_learnt 17 = .ok (.iload_n 2, 1) := dk_28 (dk_at dksX3_learnt_0 17 rfl rfl)
theorem dX3_learnt_18 : decode cX3_learnt 18 = .ok (.aaload, 1) := dk_50 (dk_at dksX3_learnt_0 18 rfl rfl)
theorem dX3_learnt_19 : decode cX3_learnt 19 = .ok (.getfield 33, 3) := dk_180 0 33 (dk_at dksX3_learnt_0 19 rfl rfl)
theorem dX3_learnt_22 : decode cX3_learnt 22 = .ok (.iconst 3, 1) := dk_6 (dk_at dksX3_learnt_0 22 rfl rfl)
theorem dX3_learnt_23 : decode cX3_learnt 23 = .ok (.if_icmp .lt 7, 3) := dk_161 0 7 (dk_at dksX3_learnt_1 0 rfl rfl)
theorem dX3_learnt_26 : decode cX3_learnt 26 = .ok (.iconst 1, 1) := dk_4 (dk_at dksX3_learnt_1 3 rfl rfl)
theorem dX3_learnt_27 : decode cX3_learnt 27 = .ok (.goto 4, 3) := dk_167 0 4 (dk_at dksX3_learnt_1 4 rfl rfl)
theorem dX3_learnt_30 : decode cX3_learnt 30 = .ok (.iconst 0, 1) := dk_3 (dk_at dksX3_learnt_1 7 rfl rfl)
theorem dX3_learnt_31 : decode cX3_learnt 31 = .ok (.iadd, 1) := dk_96 (dk_at dksX3_learnt_1 8 rfl rfl)
theorem dX3_learnt_32 : decode cX3_learnt 32 = .ok (.istore_n 1, 1) := dk_60 (dk_at dksX3_learnt_1 9 rfl rfl)
theorem dX3_learnt_33 : decode cX3_learnt 33 = .ok (.iinc 2 1, 3) := dk_132 2 1 (dk_at dksX3_learnt_1 10 rfl rfl)
theorem dX3_learnt_36 : decode cX3_learnt 36 = .ok (.goto (-32), 3) := dk_167 255 224 (dk_at dksX3_learnt_1 13 rfl rfl)
theorem dX3_learnt_39 : decode cX3_learnt 39 = .ok (.iload_n 1, 1) := dk_27 (dk_at dksX3_learnt_1 16 rfl rfl)
theorem dX3_learnt_40 : decode cX3_learnt 40 = .ok (.ireturn, 1) := dk_172 (dk_at dksX3_learnt_1 17 rfl rfl)
abbrev cX3_knows : ByteArray := prog_15_method_3_code
def yX3_knows : MethodName := ⟨RX3, "knows", "(II)Z"⟩
def dkwX3_knows_1 : List UInt8 := [28, 182, 0, 29, 78, 45, 198, 0, 15, 45, 180, 0, 33, 6, 161, 0, 7, 4, 167, 0, 4, 3, 172]
abbrev dktX3_knows_1 : List UInt8 := dkwX3_knows_1 ++ []
def dkwX3_knows_0 : List UInt8 := [27, 42, 180, 0, 9, 6, 46, 163, 0, 15, 28, 42, 180, 0, 9, 6, 46, 163, 0, 5, 4, 172, 42, 27]
abbrev dktX3_knows_0 : List UInt8 := dkwX3_knows_0 ++ dktX3_knows_1
theorem dksX3_knows_0 : cX3_knows.data.toList.drop 0 = dktX3_knows_0 := by decide +kernel
theorem dksX3_knows_1 : cX3_knows.data.toList.drop 24 = dktX3_knows_1 := dk_seg dksX3_knows_0 24 rfl rfl
theorem dX3_knows_0 : decode cX3_knows 0 = .ok (.iload_n 1, 1) := dk_27 (dk_at dksX3_knows_0 0 rfl rfl)
theorem dX3_knows_1 : decode cX3_knows 1 = .ok (.aload_n 0, 1) := dk_42 (dk_at dksX3_knows_0 1 rfl rfl)
theorem dX3_knows_2 : decode cX3_knows 2 = .ok (.getfield 9, 3) := dk_180 0 9 (dk_at dksX3_knows_0 2 rfl rfl)
theorem dX3_knows_5 : decode cX3_knows 5 = .ok (.iconst 3, 1) := dk_6 (dk_at dksX3_knows_0 5 rfl rfl)
theorem dX3_knows_6 : decode cX3_knows 6 = .ok (.iaload, 1) := dk_46 (dk_at dksX3_knows_0 6 rfl rfl)
theorem dX3_knows_7 : decode cX3_knows 7 = .ok (.if_icmp .gt 15, 3) := dk_163 0 15 (dk_at dksX3_knows_0 7 rfl rfl)
theorem dX3_knows_10 : decode cX3_knows 10 = .ok (.iload_n 2, 1) := dk_28 (dk_at dksX3_knows_0 10 rfl rfl)
theorem dX3_knows_11 : decode cX3_knows 11 = .ok (.aload_n 0, 1) := dk_42 (dk_at dksX3_knows_0 11 rfl rfl)
theorem dX3_knows_12 : decode cX3_knows 12 = .ok (.getfield 9, 3) := dk_180 0 9 (dk_at dksX3_knows_0 12 rfl rfl)
theorem dX3_knows_15 : decode cX3_knows 15 = .ok (.iconst 3, 1) := dk_6 (dk_at dksX3_knows_0 15 rfl rfl)
theorem dX3_knows_16 : decode cX3_knows 16 = .ok (.iaload, 1) := dk_46 (dk_at dksX3_knows_0 16 rfl rfl)
theorem dX3_knows_17 : decode cX3_knows 17 = .ok (.if_icmp .gt 5, 3) := dk_163 0 5 (dk_at dksX3_knows_0 17 rfl rfl)
theorem dX3_knows_20 : decode cX3_knows 20 = .ok (.iconst 1, 1) := dk_4 (dk_at dksX3_knows_0 20 rfl rfl)
theorem dX3_knows_21 : decode cX3_knows 21 = .ok (.ireturn, 1) := dk_172 (dk_at dksX3_knows_0 21 rfl rfl)
theorem dX3_knows_22 : decode cX3_knows 22 = .ok (.aload_n 0, 1) := dk_42 (dk_at dksX3_knows_0 22 rfl rfl)
theorem dX3_knows_23 : decode cX3_knows 23 = .ok (.iload_n 1, 1) := dk_27 (dk_at dksX3_knows_0 23 rfl rfl)
theorem dX3_knows_24 : decode cX3_knows 24 = .ok (.iload_n 2, 1) := dk_28 (dk_at dksX3_knows_1 0 rfl rfl)
theorem dX3_knows_25 : decode cX3_knows 25 = .ok (.invokevirtual 29, 3) := dk_182 0 29 (dk_at dksX3_knows_1 1 rfl rfl)
theorem dX3_knows_28 : decode cX3_knows 28 = .ok (.astore_n 3, 1) := dk_78 (dk_at dksX3_knows_1 4 rfl rfl)
theorem dX3_knows_29 : decode cX3_knows 29 = .ok (.aload_n 3, 1) := dk_45 (dk_at dksX3_knows_1 5 rfl rfl)
theorem dX3_knows_30 : decode cX3_knows 30 = .ok (.ifnull 15, 3) := dk_198 0 15 (dk_at dksX3_knows_1 6 rfl rfl)
theorem dX3_knows_33 : decode cX3_knows 33 = .ok (.aload_n 3, 1) := dk_45 (dk_at dksX3_knows_1 9 rfl rfl)
theorem dX3_knows_34 : decode cX3_knows 34 = .ok (.getfield 33, 3) := dk_180 0 33 (dk_at dksX3_knows_1 10 rfl rfl)
theorem dX3_knows_37 : decode cX3_knows 37 = .ok (.iconst 3, 1) := dk_6 (dk_at dksX3_knows_1 13 rfl rfl)
theorem dX3_knows_38 : decode cX3_knows 38 = .ok (.if_icmp .lt 7, 3) := dk_161 0 7 (dk_at dksX3_knows_1 14 rfl rfl)
theorem dX3_knows_41 : decode cX3_knows 41 = .ok (.iconst 1, 1) := dk_4 (dk_at dksX3_knows_1 17 rfl rfl)
theorem dX3_knows_42 : decode cX3_knows 42 = .ok (.goto 4, 3) := dk_167 0 4 (dk_at dksX3_knows_1 18 rfl rfl)
theorem dX3_knows_45 : decode cX3_knows 45 = .ok (.iconst 0, 1) := dk_3 (dk_at dksX3_knows_1 21 rfl rfl)
theorem dX3_knows_46 : decode cX3_knows 46 = .ok (.ireturn, 1) := dk_172 (dk_at dksX3_knows_1 22 rfl rfl)
abbrev cX3_find : ByteArray := prog_15_method_2_code
def yX3_find : MethodName := ⟨RX3, "find", "(II)LHeadReckons$Learnt;"⟩
def dkwX3_find_1 : List UInt8 := [42, 180, 0, 17, 29, 50, 176, 132, 3, 1, 167, 255, 224, 1, 176]
abbrev dktX3_find_1 : List UInt8 := dkwX3_find_1 ++ []
def dkwX3_find_0 : List UInt8 := [3, 62, 29, 42, 180, 0, 21, 162, 0, 30, 42, 180, 0, 17, 29, 50, 27, 28, 182, 0, 25, 153, 0, 10]
abbrev dktX3_find_0 : List UInt8 := dkwX3_find_0 ++ dktX3_find_1
theorem dksX3_find_0 : cX3_find.data.toList.drop 0 = dktX3_find_0 := by decide +kernel
theorem dksX3_find_1 : cX3_find.data.toList.drop 24 = dktX3_find_1 := dk_seg dksX3_find_0 24 rfl rfl
theorem dX3_find_0 : decode cX3_find 0 = .ok (.iconst 0, 1) := dk_3 (dk_at dksX3_find_0 0 rfl rfl)
theorem dX3_find_1 : decode cX3_find 1 = .ok (.istore_n 3, 1) := dk_62 (dk_at dksX3_find_0 1 rfl rfl)
theorem dX3_find_2 : decode cX3_find 2 = .ok (.iload_n 3, 1) := dk_29 (dk_at dksX3_find_0 2 rfl rfl)
theorem dX3_find_3 : decode cX3_find 3 = .ok (.aload_n 0, 1) := dk_42 (dk_at dksX3_find_0 3 rfl rfl)
theorem dX3_find_4 : decode cX3_find 4 = .ok (.getfield 21, 3) := dk_180 0 21 (dk_at dksX3_find_0 4 rfl rfl)
theorem dX3_find_7 : decode cX3_find 7 = .ok (.if_icmp .ge 30, 3) := dk_162 0 30 (dk_at dksX3_find_0 7 rfl rfl)
theorem dX3_find_10 : decode cX3_find 10 = .ok (.aload_n 0, 1) := dk_42 (dk_at dksX3_find_0 10 rfl rfl)
theorem dX3_find_11 : decode cX3_find 11 = .ok (.getfield 17, 3) := dk_180 0 17 (dk_at dksX3_find_0 11 rfl rfl)
theorem dX3_find_14 : decode cX3_find 14 = .ok (.iload_n 3, 1) := dk_29 (dk_at dksX3_find_0 14 rfl rfl)
theorem dX3_find_15 : decode cX3_find 15 = .ok (.aaload, 1) := dk_50 (dk_at dksX3_find_0 15 rfl rfl)
theorem dX3_find_16 : decode cX3_find 16 = .ok (.iload_n 1, 1) := dk_27 (dk_at dksX3_find_0 16 rfl rfl)
theorem dX3_find_17 : decode cX3_find 17 = .ok (.iload_n 2, 1) := dk_28 (dk_at dksX3_find_0 17 rfl rfl)
theorem dX3_find_18 : decode cX3_find 18 = .ok (.invokevirtual 25, 3) := dk_182 0 25 (dk_at dksX3_find_0 18 rfl rfl)
theorem dX3_find_21 : decode cX3_find 21 = .ok (.ifCond .eq 10, 3) := dk_153 0 10 (dk_at dksX3_find_0 21 rfl rfl)
theorem dX3_find_24 : decode cX3_find 24 = .ok (.aload_n 0, 1) := dk_42 (dk_at dksX3_find_1 0 rfl rfl)
theorem dX3_find_25 : decode cX3_find 25 = .ok (.getfield 17, 3) := dk_180 0 17 (dk_at dksX3_find_1 1 rfl rfl)
theorem dX3_find_28 : decode cX3_find 28 = .ok (.iload_n 3, 1) := dk_29 (dk_at dksX3_find_1 4 rfl rfl)
theorem dX3_find_29 : decode cX3_find 29 = .ok (.aaload, 1) := dk_50 (dk_at dksX3_find_1 5 rfl rfl)
theorem dX3_find_30 : decode cX3_find 30 = .ok (.areturn, 1) := dk_176 (dk_at dksX3_find_1 6 rfl rfl)
theorem dX3_find_31 : decode cX3_find 31 = .ok (.iinc 3 1, 3) := dk_132 3 1 (dk_at dksX3_find_1 7 rfl rfl)
theorem dX3_find_34 : decode cX3_find 34 = .ok (.goto (-32), 3) := dk_167 255 224 (dk_at dksX3_find_1 10 rfl rfl)
theorem dX3_find_37 : decode cX3_find 37 = .ok (.aconst_null, 1) := dk_1 (dk_at dksX3_find_1 13 rfl rfl)
theorem dX3_find_38 : decode cX3_find 38 = .ok (.areturn, 1) := dk_176 (dk_at dksX3_find_1 14 rfl rfl)
abbrev cX3_ask : ByteArray := prog_15_method_4_code
def yX3_ask : MethodName := ⟨RX3, "ask", "(II)I"⟩
def dkwX3_ask_1 : List UInt8 := [28, 3, 182, 0, 36, 78, 45, 89, 180, 0, 33, 4, 96, 181, 0, 33, 45, 180, 0, 33, 172]
abbrev dktX3_ask_1 : List UInt8 := dkwX3_ask_1 ++ []
def dkwX3_ask_0 : List UInt8 := [42, 27, 28, 182, 0, 29, 78, 45, 199, 0, 22, 42, 180, 0, 21, 16, 60, 160, 0, 5, 3, 172, 42, 27]
abbrev dktX3_ask_0 : List UInt8 := dkwX3_ask_0 ++ dktX3_ask_1
theorem dksX3_ask_0 : cX3_ask.data.toList.drop 0 = dktX3_ask_0 := by decide +kernel
theorem dksX3_ask_1 : cX3_ask.data.toList.drop 24 = dktX3_ask_1 := dk_seg dksX3_ask_0 24 rfl rfl
theorem dX3_ask_0 : decode cX3_ask 0 = .ok (.aload_n 0, 1) := dk_42 (dk_at dksX3_ask_0 0 rfl rfl)
theorem dX3_ask_1 : decode cX3_ask 1 = .ok (.iload_n 1, 1) := dk_27 (dk_at dksX3_ask_0 1 rfl rfl)
theorem dX3_ask_2 : decode cX3_ask 2 = .ok (.iload_n 2, 1) := dk_28 (dk_at dksX3_ask_0 2 rfl rfl)
theorem dX3_ask_3 : decode cX3_ask 3 = .ok (.invokevirtual 29, 3) := dk_182 0 29 (dk_at dksX3_ask_0 3 rfl rfl)
theorem dX3_ask_6 : decode cX3_ask 6 = .ok (.astore_n 3, 1) := dk_78 (dk_at dksX3_ask_0 6 rfl rfl)
theorem dX3_ask_7 : decode cX3_ask 7 = .ok (.aload_n 3, 1) := dk_45 (dk_at dksX3_ask_0 7 rfl rfl)
theorem dX3_ask_8 : decode cX3_ask 8 = .ok (.ifnonnull 22, 3) := dk_199 0 22 (dk_at dksX3_ask_0 8 rfl rfl)
theorem dX3_ask_11 : decode cX3_ask 11 = .ok (.aload_n 0, 1) := dk_42 (dk_at dksX3_ask_0 11 rfl rfl)
theorem dX3_ask_12 : decode cX3_ask 12 = .ok (.getfield 21, 3) := dk_180 0 21 (dk_at dksX3_ask_0 12 rfl rfl)
theorem dX3_ask_15 : decode cX3_ask 15 = .ok (.bipush 60, 2) := dk_16 60 (dk_at dksX3_ask_0 15 rfl rfl)
theorem dX3_ask_17 : decode cX3_ask 17 = .ok (.if_icmp .ne 5, 3) := dk_160 0 5 (dk_at dksX3_ask_0 17 rfl rfl)
theorem dX3_ask_20 : decode cX3_ask 20 = .ok (.iconst 0, 1) := dk_3 (dk_at dksX3_ask_0 20 rfl rfl)
theorem dX3_ask_21 : decode cX3_ask 21 = .ok (.ireturn, 1) := dk_172 (dk_at dksX3_ask_0 21 rfl rfl)
theorem dX3_ask_22 : decode cX3_ask 22 = .ok (.aload_n 0, 1) := dk_42 (dk_at dksX3_ask_0 22 rfl rfl)
theorem dX3_ask_23 : decode cX3_ask 23 = .ok (.iload_n 1, 1) := dk_27 (dk_at dksX3_ask_0 23 rfl rfl)
theorem dX3_ask_24 : decode cX3_ask 24 = .ok (.iload_n 2, 1) := dk_28 (dk_at dksX3_ask_1 0 rfl rfl)
theorem dX3_ask_25 : decode cX3_ask 25 = .ok (.iconst 0, 1) := dk_3 (dk_at dksX3_ask_1 1 rfl rfl)
theorem dX3_ask_26 : decode cX3_ask 26 = .ok (.invokevirtual 36, 3) := dk_182 0 36 (dk_at dksX3_ask_1 2 rfl rfl)
theorem dX3_ask_29 : decode cX3_ask 29 = .ok (.astore_n 3, 1) := dk_78 (dk_at dksX3_ask_1 5 rfl rfl)
theorem dX3_ask_30 : decode cX3_ask 30 = .ok (.aload_n 3, 1) := dk_45 (dk_at dksX3_ask_1 6 rfl rfl)
theorem dX3_ask_31 : decode cX3_ask 31 = .ok (.dup, 1) := dk_89 (dk_at dksX3_ask_1 7 rfl rfl)
theorem dX3_ask_32 : decode cX3_ask 32 = .ok (.getfield 33, 3) := dk_180 0 33 (dk_at dksX3_ask_1 8 rfl rfl)
theorem dX3_ask_35 : decode cX3_ask 35 = .ok (.iconst 1, 1) := dk_4 (dk_at dksX3_ask_1 11 rfl rfl)
theorem dX3_ask_36 : decode cX3_ask 36 = .ok (.iadd, 1) := dk_96 (dk_at dksX3_ask_1 12 rfl rfl)
theorem dX3_ask_37 : decode cX3_ask 37 = .ok (.putfield 33, 3) := dk_181 0 33 (dk_at dksX3_ask_1 13 rfl rfl)
theorem dX3_ask_40 : decode cX3_ask 40 = .ok (.aload_n 3, 1) := dk_45 (dk_at dksX3_ask_1 16 rfl rfl)
theorem dX3_ask_41 : decode cX3_ask 41 = .ok (.getfield 33, 3) := dk_180 0 33 (dk_at dksX3_ask_1 17 rfl rfl)
theorem dX3_ask_44 : decode cX3_ask 44 = .ok (.ireturn, 1) := dk_172 (dk_at dksX3_ask_1 20 rfl rfl)
abbrev cX3_add : ByteArray := prog_15_method_5_code
def yX3_add : MethodName := ⟨RX3, "add", "(III)LHeadReckons$Learnt;"⟩
def dkwX3_add_2 : List UInt8 := [89, 180, 0, 21, 4, 96, 181, 0, 21, 25, 4, 176]
abbrev dktX3_add_2 : List UInt8 := dkwX3_add_2 ++ []
def dkwX3_add_1 : List UInt8 := [183, 0, 40, 83, 42, 180, 0, 17, 42, 180, 0, 21, 50, 58, 4, 25, 4, 27, 28, 29, 182, 0, 41, 42]
abbrev dktX3_add_1 : List UInt8 := dkwX3_add_1 ++ dktX3_add_2
def dkwX3_add_0 : List UInt8 := [42, 180, 0, 17, 42, 180, 0, 21, 50, 199, 0, 19, 42, 180, 0, 17, 42, 180, 0, 21, 187, 0, 15, 89]
abbrev dktX3_add_0 : List UInt8 := dkwX3_add_0 ++ dktX3_add_1
theorem dksX3_add_0 : cX3_add.data.toList.drop 0 = dktX3_add_0 := by decide +kernel
theorem dksX3_add_1 : cX3_add.data.toList.drop 24 = dktX3_add_1 := dk_seg dksX3_add_0 24 rfl rfl
theorem dksX3_add_2 : cX3_add.data.toList.drop 48 = dktX3_add_2 := dk_seg dksX3_add_1 24 rfl rfl
theorem dX3_add_0 : decode cX3_add 0 = .ok (.aload_n 0, 1) := dk_42 (dk_at dksX3_add_0 0 rfl rfl)
theorem dX3_add_1 : decode cX3_add 1 = .ok (.getfield 17, 3) := dk_180 0 17 (dk_at dksX3_add_0 1 rfl rfl)
theorem dX3_add_4 : decode cX3_add 4 = .ok (.aload_n 0, 1) := dk_42 (dk_at dksX3_add_0 4 rfl rfl)
theorem dX3_add_5 : decode cX3_add 5 = .ok (.getfield 21, 3) := dk_180 0 21 (dk_at dksX3_add_0 5 rfl rfl)
theorem dX3_add_8 : decode cX3_add 8 = .ok (.aaload, 1) := dk_50 (dk_at dksX3_add_0 8 rfl rfl)
theorem dX3_add_9 : decode cX3_add 9 = .ok (.ifnonnull 19, 3) := dk_199 0 19 (dk_at dksX3_add_0 9 rfl rfl)
theorem dX3_add_12 : decode cX3_add 12 = .ok (.aload_n 0, 1) := dk_42 (dk_at dksX3_add_0 12 rfl rfl)
theorem dX3_add_13 : decode cX3_add 13 = .ok (.getfield 17, 3) := dk_180 0 17 (dk_at dksX3_add_0 13 rfl rfl)
theorem dX3_add_16 : decode cX3_add 16 = .ok (.aload_n 0, 1) := dk_42 (dk_at dksX3_add_0 16 rfl rfl)
theorem dX3_add_17 : decode cX3_add 17 = .ok (.getfield 21, 3) := dk_180 0 21 (dk_at dksX3_add_0 17 rfl rfl)
theorem dX3_add_20 : decode cX3_add 20 = .ok (.new 15, 3) := dk_187 0 15 (dk_at dksX3_add_0 20 rfl rfl)
theorem dX3_add_23 : decode cX3_add 23 = .ok (.dup, 1) := dk_89 (dk_at dksX3_add_0 23 rfl rfl)
theorem dX3_add_24 : decode cX3_add 24 = .ok (.invokespecial 40, 3) := dk_183 0 40 (dk_at dksX3_add_1 0 rfl rfl)
theorem dX3_add_27 : decode cX3_add 27 = .ok (.aastore, 1) := dk_83 (dk_at dksX3_add_1 3 rfl rfl)
theorem dX3_add_28 : decode cX3_add 28 = .ok (.aload_n 0, 1) := dk_42 (dk_at dksX3_add_1 4 rfl rfl)
theorem dX3_add_29 : decode cX3_add 29 = .ok (.getfield 17, 3) := dk_180 0 17 (dk_at dksX3_add_1 5 rfl rfl)
theorem dX3_add_32 : decode cX3_add 32 = .ok (.aload_n 0, 1) := dk_42 (dk_at dksX3_add_1 8 rfl rfl)
theorem dX3_add_33 : decode cX3_add 33 = .ok (.getfield 21, 3) := dk_180 0 21 (dk_at dksX3_add_1 9 rfl rfl)
theorem dX3_add_36 : decode cX3_add 36 = .ok (.aaload, 1) := dk_50 (dk_at dksX3_add_1 12 rfl rfl)
theorem dX3_add_37 : decode cX3_add 37 = .ok (.astore 4, 2) := dk_58 4 (dk_at dksX3_add_1 13 rfl rfl)
theorem dX3_add_39 : decode cX3_add 39 = .ok (.aload 4, 2) := dk_25 4 (dk_at dksX3_add_1 15 rfl rfl)
theorem dX3_add_41 : decode cX3_add 41 = .ok (.iload_n 1, 1) := dk_27 (dk_at dksX3_add_1 17 rfl rfl)
theorem dX3_add_42 : decode cX3_add 42 = .ok (.iload_n 2, 1) := dk_28 (dk_at dksX3_add_1 18 rfl rfl)
theorem dX3_add_43 : decode cX3_add 43 = .ok (.iload_n 3, 1) := dk_29 (dk_at dksX3_add_1 19 rfl rfl)
theorem dX3_add_44 : decode cX3_add 44 = .ok (.invokevirtual 41, 3) := dk_182 0 41 (dk_at dksX3_add_1 20 rfl rfl)
theorem dX3_add_47 : decode cX3_add 47 = .ok (.aload_n 0, 1) := dk_42 (dk_at dksX3_add_1 23 rfl rfl)
theorem dX3_add_48 : decode cX3_add 48 = .ok (.dup, 1) := dk_89 (dk_at dksX3_add_2 0 rfl rfl)
theorem dX3_add_49 : decode cX3_add 49 = .ok (.getfield 21, 3) := dk_180 0 21 (dk_at dksX3_add_2 1 rfl rfl)
theorem dX3_add_52 : decode cX3_add 52 = .ok (.iconst 1, 1) := dk_4 (dk_at dksX3_add_2 4 rfl rfl)
theorem dX3_add_53 : decode cX3_add 53 = .ok (.iadd, 1) := dk_96 (dk_at dksX3_add_2 5 rfl rfl)
theorem dX3_add_54 : decode cX3_add 54 = .ok (.putfield 21, 3) := dk_181 0 21 (dk_at dksX3_add_2 6 rfl rfl)
theorem dX3_add_57 : decode cX3_add 57 = .ok (.aload 4, 2) := dk_25 4 (dk_at dksX3_add_2 9 rfl rfl)
theorem dX3_add_59 : decode cX3_add 59 = .ok (.areturn, 1) := dk_176 (dk_at dksX3_add_2 11 rfl rfl)
abbrev cX3_copy : ByteArray := prog_15_method_7_code
def yX3_copy : MethodName := ⟨RX3, "copy", "(LHeadReckons$Head;)V"⟩
def dkwX3_copy_3 : List UInt8 := [182, 0, 36, 87, 132, 2, 1, 167, 255, 213, 177]
abbrev dktX3_copy_3 : List UInt8 := dkwX3_copy_3 ++ []
def dkwX3_copy_2 : List UInt8 := [50, 180, 0, 45, 43, 180, 0, 17, 28, 50, 180, 0, 48, 43, 180, 0, 17, 28, 50, 180, 0, 33]
abbrev dktX3_copy_2 : List UInt8 := dkwX3_copy_2 ++ dktX3_copy_3
def dkwX3_copy_1 : List UInt8 := [167, 255, 236, 42, 3, 181, 0, 21, 3, 61, 28, 43, 180, 0, 21, 162, 0, 41, 42, 43, 180, 0, 17, 28]
abbrev dktX3_copy_1 : List UInt8 := dkwX3_copy_1 ++ dktX3_copy_2
def dkwX3_copy_0 : List UInt8 := [3, 61, 28, 8, 162, 0, 21, 42, 180, 0, 9, 28, 43, 180, 0, 9, 28, 46, 79, 132, 2, 1]
abbrev dktX3_copy_0 : List UInt8 := dkwX3_copy_0 ++ dktX3_copy_1
theorem dksX3_copy_0 : cX3_copy.data.toList.drop 0 = dktX3_copy_0 := by decide +kernel
theorem dksX3_copy_1 : cX3_copy.data.toList.drop 22 = dktX3_copy_1 := dk_seg dksX3_copy_0 22 rfl rfl
theorem dksX3_copy_2 : cX3_copy.data.toList.drop 46 = dktX3_copy_2 := dk_seg dksX3_copy_1 24 rfl rfl
theorem dksX3_copy_3 : cX3_copy.data.toList.drop 68 = dktX3_copy_3 := dk_seg dksX3_copy_2 22 rfl rfl
theorem dX3_copy_0 : decode cX3_copy 0 = .ok (.iconst 0, 1) := dk_3 (dk_at dksX3_copy_0 0 rfl rfl)
theorem dX3_copy_1 : decode cX3_copy 1 = .ok (.istore_n 2, 1) := dk_61 (dk_at dksX3_copy_0 1 rfl rfl)
theorem dX3_copy_2 : decode cX3_copy 2 = .ok (.iload_n 2, 1) := dk_28 (dk_at dksX3_copy_0 2 rfl rfl)
theorem dX3_copy_3 : decode cX3_copy 3 = .ok (.iconst 5, 1) := dk_8 (dk_at dksX3_copy_0 3 rfl rfl)
theorem dX3_copy_4 : decode cX3_copy 4 = .ok (.if_icmp .ge 21, 3) := dk_162 0 21 (dk_at dksX3_copy_0 4 rfl rfl)
theorem dX3_copy_7 : decode cX3_copy 7 = .ok (.aload_n 0, 1) := dk_42 (dk_at dksX3_copy_0 7 rfl rfl)
theorem dX3_copy_8 : decode cX3_copy 8 = .ok (.getfield 9, 3) := dk_180 0 9 (dk_at dksX3_copy_0 8 rfl rfl)
theorem dX3_copy_11 : decode cX3_copy 11 = .ok (.iload_n 2, 1) := dk_28 (dk_at dksX3_copy_0 11 rfl rfl)
theorem dX3_copy_12 : decode cX3_copy 12 = .ok (.aload_n 1, 1) := dk_43 (dk_at dksX3_copy_0 12 rfl rfl)
theorem dX3_copy_13 : decode cX3_copy 13 = .ok (.getfield 9, 3) := dk_180 0 9 (dk_at dksX3_copy_0 13 rfl rfl)
theorem dX3_copy_16 : decode cX3_copy 16 = .ok (.iload_n 2, 1) := dk_28 (dk_at dksX3_copy_0 16 rfl rfl)
theorem dX3_copy_17 : decode cX3_copy 17 = .ok (.iaload, 1) := dk_46 (dk_at dksX3_copy_0 17 rfl rfl)
theorem dX3_copy_18 : decode cX3_copy 18 = .ok (.iastore, 1) := dk_79 (dk_at dksX3_copy_0 18 rfl rfl)
theorem dX3_copy_19 : decode cX3_copy 19 = .ok (.iinc 2 1, 3) := dk_132 2 1 (dk_at dksX3_copy_0 19 rfl rfl)
theorem dX3_copy_22 : decode cX3_copy 22 = .ok (.goto (-20), 3) := dk_167 255 236 (dk_at dksX3_copy_1 0 rfl rfl)
theorem dX3_copy_25 : decode cX3_copy 25 = .ok (.aload_n 0, 1) := dk_42 (dk_at dksX3_copy_1 3 rfl rfl)
theorem dX3_copy_26 : decode cX3_copy 26 = .ok (.iconst 0, 1) := dk_3 (dk_at dksX3_copy_1 4 rfl rfl)
theorem dX3_copy_27 : decode cX3_copy 27 = .ok (.putfield 21, 3) := dk_181 0 21 (dk_at dksX3_copy_1 5 rfl rfl)
theorem dX3_copy_30 : decode cX3_copy 30 = .ok (.iconst 0, 1) := dk_3 (dk_at dksX3_copy_1 8 rfl rfl)
theorem dX3_copy_31 : decode cX3_copy 31 = .ok (.istore_n 2, 1) := dk_61 (dk_at dksX3_copy_1 9 rfl rfl)
theorem dX3_copy_32 : decode cX3_copy 32 = .ok (.iload_n 2, 1) := dk_28 (dk_at dksX3_copy_1 10 rfl rfl)
theorem dX3_copy_33 : decode cX3_copy 33 = .ok (.aload_n 1, 1) := dk_43 (dk_at dksX3_copy_1 11 rfl rfl)
theorem dX3_copy_34 : decode cX3_copy 34 = .ok (.getfield 21, 3) := dk_180 0 21 (dk_at dksX3_copy_1 12 rfl rfl)
theorem dX3_copy_37 : decode cX3_copy 37 = .ok (.if_icmp .ge 41, 3) := dk_162 0 41 (dk_at dksX3_copy_1 15 rfl rfl)
theorem dX3_copy_40 : decode cX3_copy 40 = .ok (.aload_n 0, 1) := dk_42 (dk_at dksX3_copy_1 18 rfl rfl)
theorem dX3_copy_41 : decode cX3_copy 41 = .ok (.aload_n 1, 1) := dk_43 (dk_at dksX3_copy_1 19 rfl rfl)
theorem dX3_copy_42 : decode cX3_copy 42 = .ok (.getfield 17, 3) := dk_180 0 17 (dk_at dksX3_copy_1 20 rfl rfl)
theorem dX3_copy_45 : decode cX3_copy 45 = .ok (.iload_n 2, 1) := dk_28 (dk_at dksX3_copy_1 23 rfl rfl)
theorem dX3_copy_46 : decode cX3_copy 46 = .ok (.aaload, 1) := dk_50 (dk_at dksX3_copy_2 0 rfl rfl)
theorem dX3_copy_47 : decode cX3_copy 47 = .ok (.getfield 45, 3) := dk_180 0 45 (dk_at dksX3_copy_2 1 rfl rfl)
theorem dX3_copy_50 : decode cX3_copy 50 = .ok (.aload_n 1, 1) := dk_43 (dk_at dksX3_copy_2 4 rfl rfl)
theorem dX3_copy_51 : decode cX3_copy 51 = .ok (.getfield 17, 3) := dk_180 0 17 (dk_at dksX3_copy_2 5 rfl rfl)
theorem dX3_copy_54 : decode cX3_copy 54 = .ok (.iload_n 2, 1) := dk_28 (dk_at dksX3_copy_2 8 rfl rfl)
theorem dX3_copy_55 : decode cX3_copy 55 = .ok (.aaload, 1) := dk_50 (dk_at dksX3_copy_2 9 rfl rfl)
theorem dX3_copy_56 : decode cX3_copy 56 = .ok (.getfield 48, 3) := dk_180 0 48 (dk_at dksX3_copy_2 10 rfl rfl)
theorem dX3_copy_59 : decode cX3_copy 59 = .ok (.aload_n 1, 1) := dk_43 (dk_at dksX3_copy_2 13 rfl rfl)
theorem dX3_copy_60 : decode cX3_copy 60 = .ok (.getfield 17, 3) := dk_180 0 17 (dk_at dksX3_copy_2 14 rfl rfl)
theorem dX3_copy_63 : decode cX3_copy 63 = .ok (.iload_n 2, 1) := dk_28 (dk_at dksX3_copy_2 17 rfl rfl)
theorem dX3_copy_64 : decode cX3_copy 64 = .ok (.aaload, 1) := dk_50 (dk_at dksX3_copy_2 18 rfl rfl)
theorem dX3_copy_65 : decode cX3_copy 65 = .ok (.getfield 33, 3) := dk_180 0 33 (dk_at dksX3_copy_2 19 rfl rfl)
theorem dX3_copy_68 : decode cX3_copy 68 = .ok (.invokevirtual 36, 3) := dk_182 0 36 (dk_at dksX3_copy_3 0 rfl rfl)
theorem dX3_copy_71 : decode cX3_copy 71 = .ok (.pop, 1) := dk_87 (dk_at dksX3_copy_3 3 rfl rfl)
theorem dX3_copy_72 : decode cX3_copy 72 = .ok (.iinc 2 1, 3) := dk_132 2 1 (dk_at dksX3_copy_3 4 rfl rfl)
theorem dX3_copy_75 : decode cX3_copy 75 = .ok (.goto (-43), 3) := dk_167 255 213 (dk_at dksX3_copy_3 7 rfl rfl)
theorem dX3_copy_78 : decode cX3_copy 78 = .ok (.return_, 1) := dk_177 (dk_at dksX3_copy_3 10 rfl rfl)
theorem q95 : (Jvm.Cond.initialized "HeadReckons$Head") ∈ lw_all := lw_g (lw_at lw_m1 4 rfl) rfl
theorem q229 : (Jvm.Cond.instantiable "HeadReckons$Head" (3 : Nat)) ∈ lw_all := lw_g (lw_at lw_m1 138 rfl) rfl
theorem q231 : (Jvm.Cond.instanceMethod ({ cls := "HeadReckons$Head", name := "<init>", desc := "()V" } : Jvm.MethodName)) ∈ lw_all := lw_g (lw_at lw_m1 140 rfl) rfl
theorem q232 : (Jvm.Cond.code ({ cls := "HeadReckons$Head", name := "<init>", desc := "()V" } : Jvm.MethodName) prog_15_method_1_code (1 : Nat) (Option.none : Option Jvm.ClassFile.FieldType)) ∈ lw_all := lw_g (lw_at lw_m1 141 rfl) rfl
theorem q233 : (Jvm.Cond.methodLink "HeadReckons$Head" (3 : Nat) ({ cls := "java/lang/Object", name := "<init>", desc := "()V" } : Jvm.MethodName)) ∈ lw_all := lw_g (lw_at lw_m1 142 rfl) rfl
theorem q234 : (Jvm.Cond.classLink "HeadReckons$Head" (15 : Nat) "HeadReckons$Learnt") ∈ lw_all := lw_g (lw_at lw_m1 143 rfl) rfl
theorem q236 : (Jvm.Cond.fieldLink "HeadReckons$Head" (9 : Nat) "HeadReckons$Head" "told" "[I") ∈ lw_all := lw_g (lw_at lw_m1 145 rfl) rfl
theorem q239 : (Jvm.Cond.fieldLink "HeadReckons$Head" (17 : Nat) "HeadReckons$Head" "pairs" "[LHeadReckons$Learnt;") ∈ lw_all := lw_g (lw_at lw_m1 148 rfl) rfl
theorem q240 : (Jvm.Cond.fieldLink "HeadReckons$Head" (21 : Nat) "HeadReckons$Head" "pairMany" "I") ∈ lw_all := lw_g (lw_at lw_m1 149 rfl) rfl
theorem q241 : (Jvm.Cond.laysFinal "HeadReckons$Head" "HeadReckons$Head" "told" "[I") ∈ lw_all := lw_g (lw_at lw_m1 150 rfl) rfl
theorem q242 : (Jvm.Cond.soleField "HeadReckons$Head" "told") ∈ lw_all := lw_g (lw_at lw_m1 151 rfl) rfl
theorem q243 : (Jvm.Cond.laysFinal "HeadReckons$Head" "HeadReckons$Head" "pairs" "[LHeadReckons$Learnt;") ∈ lw_all := lw_g (lw_at lw_m1 152 rfl) rfl
theorem q244 : (Jvm.Cond.soleField "HeadReckons$Head" "pairs") ∈ lw_all := lw_g (lw_at lw_m1 153 rfl) rfl
theorem q245 : (Jvm.Cond.lays "HeadReckons$Head" "HeadReckons$Head" "pairMany" "I") ∈ lw_all := lw_g (lw_at lw_m1 154 rfl) rfl
theorem q246 : (Jvm.Cond.soleField "HeadReckons$Head" "pairMany") ∈ lw_all := lw_g (lw_at lw_m1 155 rfl) rfl
theorem q247 : (Jvm.Cond.superclass "HeadReckons$Head" "java/lang/Object") ∈ lw_all := lw_g (lw_at lw_m1 156 rfl) rfl
theorem q347 : (Jvm.Cond.instanceMethod ({ cls := "HeadReckons$Head", name := "learnt", desc := "()I" } : Jvm.MethodName)) ∈ lw_all := lw_g (lw_at lw_m2 16 rfl) rfl
theorem q348 : (Jvm.Cond.selects "HeadReckons$Head" ({ cls := "HeadReckons$Head", name := "learnt", desc := "()I" } : Jvm.MethodName) ({ cls := "HeadReckons$Head", name := "learnt", desc := "()I" } : Jvm.MethodName)) ∈ lw_all := lw_g (lw_at lw_m2 17 rfl) rfl
theorem q349 : (Jvm.Cond.code ({ cls := "HeadReckons$Head", name := "learnt", desc := "()I" } : Jvm.MethodName) prog_15_method_6_code (3 : Nat) (Option.some Jvm.ClassFile.FieldType.int)) ∈ lw_all := lw_g (lw_at lw_m2 18 rfl) rfl
theorem q653 : (Jvm.Cond.instanceMethod ({ cls := "HeadReckons$Head", name := "knows", desc := "(II)Z" } : Jvm.MethodName)) ∈ lw_all := lw_g (lw_at lw_m3 82 rfl) rfl
theorem q654 : (Jvm.Cond.selects "HeadReckons$Head" ({ cls := "HeadReckons$Head", name := "knows", desc := "(II)Z" } : Jvm.MethodName) ({ cls := "HeadReckons$Head", name := "knows", desc := "(II)Z" } : Jvm.MethodName)) ∈ lw_all := lw_g (lw_at lw_m3 83 rfl) rfl
theorem q655 : (Jvm.Cond.code ({ cls := "HeadReckons$Head", name := "knows", desc := "(II)Z" } : Jvm.MethodName) prog_15_method_3_code (4 : Nat) (Option.some Jvm.ClassFile.FieldType.boolean)) ∈ lw_all := lw_g (lw_at lw_m3 84 rfl) rfl
theorem q656 : (Jvm.Cond.methodLink "HeadReckons$Head" (29 : Nat) ({ cls := "HeadReckons$Head", name := "find", desc := "(II)LHeadReckons$Learnt;" } : Jvm.MethodName)) ∈ lw_all := lw_g (lw_at lw_m3 85 rfl) rfl
theorem q657 : (Jvm.Cond.instanceMethod ({ cls := "HeadReckons$Head", name := "find", desc := "(II)LHeadReckons$Learnt;" } : Jvm.MethodName)) ∈ lw_all := lw_g (lw_at lw_m3 86 rfl) rfl
theorem q658 : (Jvm.Cond.selects "HeadReckons$Head" ({ cls := "HeadReckons$Head", name := "find", desc := "(II)LHeadReckons$Learnt;" } : Jvm.MethodName) ({ cls := "HeadReckons$Head", name := "find", desc := "(II)LHeadReckons$Learnt;" } : Jvm.MethodName)) ∈ lw_all := lw_g (lw_at lw_m3 87 rfl) rfl
theorem q659 : (Jvm.Cond.code ({ cls := "HeadReckons$Head", name := "find", desc := "(II)LHeadReckons$Learnt;" } : Jvm.MethodName) prog_15_method_2_code (4 : Nat) (Option.some (Jvm.ClassFile.FieldType.object "HeadReckons$Learnt"))) ∈ lw_all := lw_g (lw_at lw_m3 88 rfl) rfl
theorem q660 : (Jvm.Cond.methodLink "HeadReckons$Head" (25 : Nat) ({ cls := "HeadReckons$Learnt", name := "is", desc := "(II)Z" } : Jvm.MethodName)) ∈ lw_all := lw_g (lw_at lw_m3 89 rfl) rfl
theorem q1028 : (Jvm.Cond.instanceMethod ({ cls := "HeadReckons$Head", name := "ask", desc := "(II)I" } : Jvm.MethodName)) ∈ lw_all := lw_g (lw_at lw_m4 217 rfl) rfl
theorem q1029 : (Jvm.Cond.selects "HeadReckons$Head" ({ cls := "HeadReckons$Head", name := "ask", desc := "(II)I" } : Jvm.MethodName) ({ cls := "HeadReckons$Head", name := "ask", desc := "(II)I" } : Jvm.MethodName)) ∈ lw_all := lw_g (lw_at lw_m4 218 rfl) rfl
theorem q1030 : (Jvm.Cond.code ({ cls := "HeadReckons$Head", name := "ask", desc := "(II)I" } : Jvm.MethodName) prog_15_method_4_code (4 : Nat) (Option.some Jvm.ClassFile.FieldType.int)) ∈ lw_all := lw_g (lw_at lw_m4 219 rfl) rfl
theorem q1031 : (Jvm.Cond.methodLink "HeadReckons$Head" (36 : Nat) ({ cls := "HeadReckons$Head", name := "add", desc := "(III)LHeadReckons$Learnt;" } : Jvm.MethodName)) ∈ lw_all := lw_g (lw_at lw_m4 220 rfl) rfl
theorem q1032 : (Jvm.Cond.privateMethod ({ cls := "HeadReckons$Head", name := "add", desc := "(III)LHeadReckons$Learnt;" } : Jvm.MethodName)) ∈ lw_tbl := lw_at lw_m4 221 rfl
theorem q1033 : (Jvm.Cond.instanceMethod ({ cls := "HeadReckons$Head", name := "add", desc := "(III)LHeadReckons$Learnt;" } : Jvm.MethodName)) ∈ lw_all := lw_g (lw_at lw_m4 222 rfl) rfl
theorem q1034 : (Jvm.Cond.code ({ cls := "HeadReckons$Head", name := "add", desc := "(III)LHeadReckons$Learnt;" } : Jvm.MethodName) prog_15_method_5_code (5 : Nat) (Option.some (Jvm.ClassFile.FieldType.object "HeadReckons$Learnt"))) ∈ lw_all := lw_g (lw_at lw_m4 223 rfl) rfl
theorem q1036 : (Jvm.Cond.methodLinkNest "HeadReckons$Head" (40 : Nat) ({ cls := "HeadReckons$Learnt", name := "<init>", desc := "()V" } : Jvm.MethodName) "HeadReckons") ∈ lw_tbl := lw_at lw_m4 225 rfl
theorem q1041 : (Jvm.Cond.fieldLinkNest "HeadReckons$Head" (45 : Nat) "HeadReckons$Learnt" "a" "I" "HeadReckons") ∈ lw_tbl := lw_at lw_m4 230 rfl
theorem q1043 : (Jvm.Cond.fieldLinkNest "HeadReckons$Head" (48 : Nat) "HeadReckons$Learnt" "b" "I" "HeadReckons") ∈ lw_tbl := lw_at lw_m4 232 rfl
theorem q1045 : (Jvm.Cond.fieldLinkNest "HeadReckons$Head" (33 : Nat) "HeadReckons$Learnt" "times" "I" "HeadReckons") ∈ lw_tbl := lw_at lw_m4 234 rfl
theorem q1053 : (Jvm.Cond.methodLink "HeadReckons$Head" (41 : Nat) ({ cls := "HeadReckons$Learnt", name := "become", desc := "(III)V" } : Jvm.MethodName)) ∈ lw_all := lw_g (lw_at lw_m5 2 rfl) rfl
theorem q1066 : (Jvm.Cond.instanceMethod ({ cls := "HeadReckons$Head", name := "copy", desc := "(LHeadReckons$Head;)V" } : Jvm.MethodName)) ∈ lw_all := lw_g (lw_at lw_m5 15 rfl) rfl
theorem q1067 : (Jvm.Cond.selects "HeadReckons$Head" ({ cls := "HeadReckons$Head", name := "copy", desc := "(LHeadReckons$Head;)V" } : Jvm.MethodName) ({ cls := "HeadReckons$Head", name := "copy", desc := "(LHeadReckons$Head;)V" } : Jvm.MethodName)) ∈ lw_all := lw_g (lw_at lw_m5 16 rfl) rfl
theorem q1068 : (Jvm.Cond.code ({ cls := "HeadReckons$Head", name := "copy", desc := "(LHeadReckons$Head;)V" } : Jvm.MethodName) prog_15_method_7_code (3 : Nat) (Option.none : Option Jvm.ClassFile.FieldType)) ∈ lw_all := lw_g (lw_at lw_m5 17 rfl) rfl
theorem in_X3 : ∀ w ∈ wsX30, w ∈ lw_all := lw_in wsX30 [241, 243, 245] (by decide +kernel) (by decide +kernel)

/-! HeadReckons$Change -/
set_option maxRecDepth 100000
def RX5 : String := "HeadReckons$Change"
def TX5 : u_T := fun k => match k with
  | 0 => ("HeadReckons$Change", "head", "LHeadReckons$Head;", true)
  | 1 => ("HeadReckons$Change", "what", "I", true)
  | 2 => ("HeadReckons$Change", "before", "I", true)
  | _ => ("HeadReckons$Change", "behind", "I", true)
def tyX5 : Nat → FieldType := fun k => match k with
  | 0 => .object "HeadReckons$Head"
  | 1 => .int
  | 2 => .int
  | _ => .int
abbrev wsX50 : List Cond := u_ws RX5 TX5 4
theorem nmX5 : ∀ a, a < 4 → ∀ b, b < 4 → a ≠ b → (TX5 a).2.1 ≠ (TX5 b).2.1 := by decide +kernel
theorem tyX5_ok : ∀ k, k < 4 → parseFieldDescriptor (TX5 k).2.2.1 = some (tyX5 k) := by decide +kernel
abbrev cX5_init : ByteArray := prog_8_method_1_code
def yX5_init : MethodName := ⟨RX5, "<init>", "(LHeadReckons$Head;III)V"⟩
def dkwX5_init_1 : List UInt8 := [181, 0, 20, 177]
abbrev dktX5_init_1 : List UInt8 := dkwX5_init_1 ++ []
def dkwX5_init_0 : List UInt8 := [42, 183, 0, 1, 42, 43, 181, 0, 7, 42, 28, 181, 0, 13, 42, 29, 181, 0, 17, 42, 21, 4]
abbrev dktX5_init_0 : List UInt8 := dkwX5_init_0 ++ dktX5_init_1
theorem dksX5_init_0 : cX5_init.data.toList.drop 0 = dktX5_init_0 := by decide +kernel
theorem dksX5_init_1 : cX5_init.data.toList.drop 22 = dktX5_init_1 := dk_seg dksX5_init_0 22 rfl rfl
theorem dX5_init_0 : decode cX5_init 0 = .ok (.aload_n 0, 1) := dk_42 (dk_at dksX5_init_0 0 rfl rfl)
theorem dX5_init_1 : decode cX5_init 1 = .ok (.invokespecial 1, 3) := dk_183 0 1 (dk_at dksX5_init_0 1 rfl rfl)
theorem dX5_init_4 : decode cX5_init 4 = .ok (.aload_n 0, 1) := dk_42 (dk_at dksX5_init_0 4 rfl rfl)
theorem dX5_init_5 : decode cX5_init 5 = .ok (.aload_n 1, 1) := dk_43 (dk_at dksX5_init_0 5 rfl rfl)
theorem dX5_init_6 : decode cX5_init 6 = .ok (.putfield 7, 3) := dk_181 0 7 (dk_at dksX5_init_0 6 rfl rfl)
theorem dX5_init_9 : decode cX5_init 9 = .ok (.aload_n 0, 1) := dk_42 (dk_at dksX5_init_0 9 rfl rfl)
theorem dX5_init_10 : decode cX5_init 10 = .ok (.iload_n 2, 1) := dk_28 (dk_at dksX5_init_0 10 rfl rfl)
theorem dX5_init_11 : decode cX5_init 11 = .ok (.putfield 13, 3) := dk_181 0 13 (dk_at dksX5_init_0 11 rfl rfl)
theorem dX5_init_14 : decode cX5_init 14 = .ok (.aload_n 0, 1) := dk_42 (dk_at dksX5_init_0 14 rfl rfl)
theorem dX5_init_15 : decode cX5_init 15 = .ok (.iload_n 3, 1) := dk_29 (dk_at dksX5_init_0 15 rfl rfl)
theorem dX5_init_16 : decode cX5_init 16 = .ok (.putfield 17, 3) := dk_181 0 17 (dk_at dksX5_init_0 16 rfl rfl)
theorem dX5_init_19 : decode cX5_init 19 = .ok (.aload_n 0, 1) := dk_42 (dk_at dksX5_init_0 19 rfl rfl)
theorem dX5_init_20 : decode cX5_init 20 = .ok (.iload 4, 2) := dk_21 4 (dk_at dksX5_init_0 20 rfl rfl)
theorem dX5_init_22 : decode cX5_init 22 = .ok (.putfield 20, 3) := dk_181 0 20 (dk_at dksX5_init_1 0 rfl rfl)
theorem dX5_init_25 : decode cX5_init 25 = .ok (.return_, 1) := dk_177 (dk_at dksX5_init_1 3 rfl rfl)
theorem q97 : (Jvm.Cond.initialized "HeadReckons$Change") ∈ lw_all := lw_g (lw_at lw_m1 6 rfl) rfl
theorem q354 : (Jvm.Cond.instantiable "HeadReckons$Change" (4 : Nat)) ∈ lw_all := lw_g (lw_at lw_m2 23 rfl) rfl
theorem q356 : (Jvm.Cond.instanceMethod ({ cls := "HeadReckons$Change", name := "<init>", desc := "(LHeadReckons$Head;III)V" } : Jvm.MethodName)) ∈ lw_all := lw_g (lw_at lw_m2 25 rfl) rfl
theorem q357 : (Jvm.Cond.code ({ cls := "HeadReckons$Change", name := "<init>", desc := "(LHeadReckons$Head;III)V" } : Jvm.MethodName) prog_8_method_1_code (5 : Nat) (Option.none : Option Jvm.ClassFile.FieldType)) ∈ lw_all := lw_g (lw_at lw_m2 26 rfl) rfl
theorem q358 : (Jvm.Cond.methodLink "HeadReckons$Change" (1 : Nat) ({ cls := "java/lang/Object", name := "<init>", desc := "()V" } : Jvm.MethodName)) ∈ lw_all := lw_g (lw_at lw_m2 27 rfl) rfl
theorem q359 : (Jvm.Cond.fieldLink "HeadReckons$Change" (7 : Nat) "HeadReckons$Change" "head" "LHeadReckons$Head;") ∈ lw_all := lw_g (lw_at lw_m2 28 rfl) rfl
theorem q361 : (Jvm.Cond.fieldLink "HeadReckons$Change" (13 : Nat) "HeadReckons$Change" "what" "I") ∈ lw_all := lw_g (lw_at lw_m2 30 rfl) rfl
theorem q363 : (Jvm.Cond.fieldLink "HeadReckons$Change" (17 : Nat) "HeadReckons$Change" "before" "I") ∈ lw_all := lw_g (lw_at lw_m2 32 rfl) rfl
theorem q365 : (Jvm.Cond.fieldLink "HeadReckons$Change" (20 : Nat) "HeadReckons$Change" "behind" "I") ∈ lw_all := lw_g (lw_at lw_m2 34 rfl) rfl
theorem q367 : (Jvm.Cond.laysFinal "HeadReckons$Change" "HeadReckons$Change" "head" "LHeadReckons$Head;") ∈ lw_all := lw_g (lw_at lw_m2 36 rfl) rfl
theorem q368 : (Jvm.Cond.soleField "HeadReckons$Change" "head") ∈ lw_all := lw_g (lw_at lw_m2 37 rfl) rfl
theorem q369 : (Jvm.Cond.laysFinal "HeadReckons$Change" "HeadReckons$Change" "what" "I") ∈ lw_all := lw_g (lw_at lw_m2 38 rfl) rfl
theorem q370 : (Jvm.Cond.soleField "HeadReckons$Change" "what") ∈ lw_all := lw_g (lw_at lw_m2 39 rfl) rfl
theorem q371 : (Jvm.Cond.laysFinal "HeadReckons$Change" "HeadReckons$Change" "before" "I") ∈ lw_all := lw_g (lw_at lw_m2 40 rfl) rfl
theorem q372 : (Jvm.Cond.soleField "HeadReckons$Change" "before") ∈ lw_all := lw_g (lw_at lw_m2 41 rfl) rfl
theorem q373 : (Jvm.Cond.laysFinal "HeadReckons$Change" "HeadReckons$Change" "behind" "I") ∈ lw_all := lw_g (lw_at lw_m2 42 rfl) rfl
theorem q374 : (Jvm.Cond.soleField "HeadReckons$Change" "behind") ∈ lw_all := lw_g (lw_at lw_m2 43 rfl) rfl
theorem q375 : (Jvm.Cond.superclass "HeadReckons$Change" "java/lang/Object") ∈ lw_all := lw_g (lw_at lw_m2 44 rfl) rfl
theorem in_X5 : ∀ w ∈ wsX50, w ∈ lw_all := lw_in wsX50 [367, 369, 371, 373] (by decide +kernel) (by decide +kernel)

/-! HeadReckons$Reader -/
set_option maxRecDepth 100000
def RX6 : String := "HeadReckons$Reader"
def TX6 : u_T := fun k => match k with
  | 0 => ("HeadReckons$Reader", "at", "I", false)
  | 1 => ("HeadReckons$Reader", "fault", "I", false)
  | 2 => ("HeadReckons$Reader", "open", "I", false)
  | _ => ("HeadReckons$Reader", "this$0", "LHeadReckons;", true)
def tyX6 : Nat → FieldType := fun k => match k with
  | 0 => .int
  | 1 => .int
  | 2 => .int
  | _ => .object "HeadReckons"
abbrev wsX60 : List Cond := u_ws RX6 TX6 4
theorem nmX6 : ∀ a, a < 4 → ∀ b, b < 4 → a ≠ b → (TX6 a).2.1 ≠ (TX6 b).2.1 := by decide +kernel
theorem tyX6_ok : ∀ k, k < 4 → parseFieldDescriptor (TX6 k).2.2.1 = some (tyX6 k) := by decide +kernel
abbrev cX6_init : ByteArray := prog_25_method_1_code
def yX6_init : MethodName := ⟨RX6, "<init>", "(LHeadReckons;)V"⟩
def dkwX6_init_0 : List UInt8 := [42, 43, 181, 0, 3, 42, 183, 0, 9, 42, 2, 181, 0, 15, 177]
abbrev dktX6_init_0 : List UInt8 := dkwX6_init_0 ++ []
theorem dksX6_init_0 : cX6_init.data.toList.drop 0 = dktX6_init_0 := by decide +kernel
theorem dX6_init_0 : decode cX6_init 0 = .ok (.aload_n 0, 1) := dk_42 (dk_at dksX6_init_0 0 rfl rfl)
theorem dX6_init_1 : decode cX6_init 1 = .ok (.aload_n 1, 1) := dk_43 (dk_at dksX6_init_0 1 rfl rfl)
theorem dX6_init_2 : decode cX6_init 2 = .ok (.putfield 3, 3) := dk_181 0 3 (dk_at dksX6_init_0 2 rfl rfl)
theorem dX6_init_5 : decode cX6_init 5 = .ok (.aload_n 0, 1) := dk_42 (dk_at dksX6_init_0 5 rfl rfl)
theorem dX6_init_6 : decode cX6_init 6 = .ok (.invokespecial 9, 3) := dk_183 0 9 (dk_at dksX6_init_0 6 rfl rfl)
theorem dX6_init_9 : decode cX6_init 9 = .ok (.aload_n 0, 1) := dk_42 (dk_at dksX6_init_0 9 rfl rfl)
theorem dX6_init_10 : decode cX6_init 10 = .ok (.iconst (-1), 1) := dk_2 (dk_at dksX6_init_0 10 rfl rfl)
theorem dX6_init_11 : decode cX6_init 11 = .ok (.putfield 15, 3) := dk_181 0 15 (dk_at dksX6_init_0 11 rfl rfl)
theorem dX6_init_14 : decode cX6_init 14 = .ok (.return_, 1) := dk_177 (dk_at dksX6_init_0 14 rfl rfl)
abbrev cX6_lines : ByteArray := prog_25_method_5_code
def yX6_lines : MethodName := ⟨RX6, "lines", "()LHeadReckons$Line;"⟩
def dkwX6_lines_3 : List UInt8 := [42, 42, 180, 0, 19, 181, 0, 15, 43, 176]
abbrev dktX6_lines_3 : List UInt8 := dkwX6_lines_3 ++ []
def dkwX6_lines_2 : List UInt8 := [167, 255, 217, 42, 180, 0, 15, 156, 0, 25, 42, 180, 0, 19, 42, 180, 0, 3, 180, 0, 22, 162, 0, 11]
abbrev dktX6_lines_2 : List UInt8 := dkwX6_lines_2 ++ dktX6_lines_3
def dkwX6_lines_1 : List UInt8 := [89, 180, 0, 19, 4, 96, 181, 0, 19, 44, 42, 182, 0, 39, 181, 0, 43, 44, 180, 0, 43, 77]
abbrev dktX6_lines_1 : List UInt8 := dkwX6_lines_1 ++ dktX6_lines_2
def dkwX6_lines_0 : List UInt8 := [42, 182, 0, 39, 76, 43, 77, 42, 180, 0, 15, 156, 0, 38, 42, 182, 0, 29, 16, 59, 160, 0, 29, 42]
abbrev dktX6_lines_0 : List UInt8 := dkwX6_lines_0 ++ dktX6_lines_1
theorem dksX6_lines_0 : cX6_lines.data.toList.drop 0 = dktX6_lines_0 := by decide +kernel
theorem dksX6_lines_1 : cX6_lines.data.toList.drop 24 = dktX6_lines_1 := dk_seg dksX6_lines_0 24 rfl rfl
theorem dksX6_lines_2 : cX6_lines.data.toList.drop 46 = dktX6_lines_2 := dk_seg dksX6_lines_1 22 rfl rfl
theorem dksX6_lines_3 : cX6_lines.data.toList.drop 70 = dktX6_lines_3 := dk_seg dksX6_lines_2 24 rfl rfl
theorem dX6_lines_0 : decode cX6_lines 0 = .ok (.aload_n 0, 1) := dk_42 (dk_at dksX6_lines_0 0 rfl rfl)
theorem dX6_lines_1 : decode cX6_lines 1 = .ok (.invokevirtual 39, 3) := dk_182 0 39 (dk_at dksX6_lines_0 1 rfl rfl)
theorem dX6_lines_4 : decode cX6_lines 4 = .ok (.astore_n 1, 1) := dk_76 (dk_at dksX6_lines_0 4 rfl rfl)
theorem dX6_lines_5 : decode cX6_lines 5 = .ok (.aload_n 1, 1) := dk_43 (dk_at dksX6_lines_0 5 rfl rfl)
theorem dX6_lines_6 : decode cX6_lines 6 = .ok (.astore_n 2, 1) := dk_77 (dk_at dksX6_lines_0 6 rfl rfl)
theorem dX6_lines_7 : decode cX6_lines 7 = .ok (.aload_n 0, 1) := dk_42 (dk_at dksX6_lines_0 7 rfl rfl)
theorem dX6_lines_8 : decode cX6_lines 8 = .ok (.getfield 15, 3) := dk_180 0 15 (dk_at dksX6_lines_0 8 rfl rfl)
theorem dX6_lines_11 : decode cX6_lines 11 = .ok (.ifCond .ge 38, 3) := dk_156 0 38 (dk_at dksX6_lines_0 11 rfl rfl)
theorem dX6_lines_14 : decode cX6_lines 14 = .ok (.aload_n 0, 1) := dk_42 (dk_at dksX6_lines_0 14 rfl rfl)
theorem dX6_lines_15 : decode cX6_lines 15 = .ok (.invokevirtual 29, 3) := dk_182 0 29 (dk_at dksX6_lines_0 15 rfl rfl)
theorem dX6_lines_18 : decode cX6_lines 18 = .ok (.bipush 59, 2) := dk_16 59 (dk_at dksX6_lines_0 18 rfl rfl)
theorem dX6_lines_20 : decode cX6_lines 20 = .ok (.if_icmp .ne 29, 3) := dk_160 0 29 (dk_at dksX6_lines_0 20 rfl rfl)
theorem dX6_lines_23 : decode cX6_lines 23 = .ok (.aload_n 0, 1) := dk_42 (dk_at dksX6_lines_0 23 rfl rfl)
theorem dX6_lines_24 : decode cX6_lines 24 = .ok (.dup, 1) := dk_89 (dk_at dksX6_lines_1 0 rfl rfl)
theorem dX6_lines_25 : decode cX6_lines 25 = .ok (.getfield 19, 3) := dk_180 0 19 (dk_at dksX6_lines_1 1 rfl rfl)
theorem dX6_lines_28 : decode cX6_lines 28 = .ok (.iconst 1, 1) := dk_4 (dk_at dksX6_lines_1 4 rfl rfl)
theorem dX6_lines_29 : decode cX6_lines 29 = .ok (.iadd, 1) := dk_96 (dk_at dksX6_lines_1 5 rfl rfl)
theorem dX6_lines_30 : decode cX6_lines 30 = .ok (.putfield 19, 3) := dk_181 0 19 (dk_at dksX6_lines_1 6 rfl rfl)
theorem dX6_lines_33 : decode cX6_lines 33 = .ok (.aload_n 2, 1) := dk_44 (dk_at dksX6_lines_1 9 rfl rfl)
theorem dX6_lines_34 : decode cX6_lines 34 = .ok (.aload_n 0, 1) := dk_42 (dk_at dksX6_lines_1 10 rfl rfl)
theorem dX6_lines_35 : decode cX6_lines 35 = .ok (.invokevirtual 39, 3) := dk_182 0 39 (dk_at dksX6_lines_1 11 rfl rfl)
theorem dX6_lines_38 : decode cX6_lines 38 = .ok (.putfield 43, 3) := dk_181 0 43 (dk_at dksX6_lines_1 14 rfl rfl)
theorem dX6_lines_41 : decode cX6_lines 41 = .ok (.aload_n 2, 1) := dk_44 (dk_at dksX6_lines_1 17 rfl rfl)
theorem dX6_lines_42 : decode cX6_lines 42 = .ok (.getfield 43, 3) := dk_180 0 43 (dk_at dksX6_lines_1 18 rfl rfl)
theorem dX6_lines_45 : decode cX6_lines 45 = .ok (.astore_n 2, 1) := dk_77 (dk_at dksX6_lines_1 21 rfl rfl)
theorem dX6_lines_46 : decode cX6_lines 46 = .ok (.goto (-39), 3) := dk_167 255 217 (dk_at dksX6_lines_2 0 rfl rfl)
theorem dX6_lines_49 : decode cX6_lines 49 = .ok (.aload_n 0, 1) := dk_42 (dk_at dksX6_lines_2 3 rfl rfl)
theorem dX6_lines_50 : decode cX6_lines 50 = .ok (.getfield 15, 3) := dk_180 0 15 (dk_at dksX6_lines_2 4 rfl rfl)
theorem dX6_lines_53 : decode cX6_lines 53 = .ok (.ifCond .ge 25, 3) := dk_156 0 25 (dk_at dksX6_lines_2 7 rfl rfl)
theorem dX6_lines_56 : decode cX6_lines 56 = .ok (.aload_n 0, 1) := dk_42 (dk_at dksX6_lines_2 10 rfl rfl)
theorem dX6_lines_57 : decode cX6_lines 57 = .ok (.getfield 19, 3) := dk_180 0 19 (dk_at dksX6_lines_2 11 rfl rfl)
theorem dX6_lines_60 : decode cX6_lines 60 = .ok (.aload_n 0, 1) := dk_42 (dk_at dksX6_lines_2 14 rfl rfl)
theorem dX6_lines_61 : decode cX6_lines 61 = .ok (.getfield 3, 3) := dk_180 0 3 (dk_at dksX6_lines_2 15 rfl rfl)
theorem dX6_lines_64 : decode cX6_lines 64 = .ok (.getfield 22, 3) := dk_180 0 22 (dk_at dksX6_lines_2 18 rfl rfl)
theorem dX6_lines_67 : decode cX6_lines 67 = .ok (.if_icmp .ge 11, 3) := dk_162 0 11 (dk_at dksX6_lines_2 21 rfl rfl)
theorem dX6_lines_70 : decode cX6_lines 70 = .ok (.aload_n 0, 1) := dk_42 (dk_at dksX6_lines_3 0 rfl rfl)
theorem dX6_lines_71 : decode cX6_lines 71 = .ok (.aload_n 0, 1) := dk_42 (dk_at dksX6_lines_3 1 rfl rfl)
theorem dX6_lines_72 : decode cX6_lines 72 = .ok (.getfield 19, 3) := dk_180 0 19 (dk_at dksX6_lines_3 2 rfl rfl)
theorem dX6_lines_75 : decode cX6_lines 75 = .ok (.putfield 15, 3) := dk_181 0 15 (dk_at dksX6_lines_3 5 rfl rfl)
theorem dX6_lines_78 : decode cX6_lines 78 = .ok (.aload_n 1, 1) := dk_43 (dk_at dksX6_lines_3 8 rfl rfl)
theorem dX6_lines_79 : decode cX6_lines 79 = .ok (.areturn, 1) := dk_176 (dk_at dksX6_lines_3 9 rfl rfl)
abbrev cX6_line : ByteArray := prog_25_method_6_code
def yX6_line : MethodName := ⟨RX6, "line", "()LHeadReckons$Line;"⟩
def dkwX6_line_2 : List UInt8 := [180, 0, 54, 181, 0, 58, 43, 42, 182, 0, 50, 181, 0, 54, 43, 176]
abbrev dktX6_line_2 : List UInt8 := dkwX6_line_2 ++ []
def dkwX6_line_1 : List UInt8 := [182, 0, 29, 16, 63, 159, 0, 5, 43, 176, 42, 89, 180, 0, 19, 4, 96, 181, 0, 19, 43, 43]
abbrev dktX6_line_1 : List UInt8 := dkwX6_line_1 ++ dktX6_line_2
def dkwX6_line_0 : List UInt8 := [187, 0, 44, 89, 183, 0, 49, 76, 43, 42, 182, 0, 50, 181, 0, 54, 42, 180, 0, 15, 156, 0, 12, 42]
abbrev dktX6_line_0 : List UInt8 := dkwX6_line_0 ++ dktX6_line_1
theorem dksX6_line_0 : cX6_line.data.toList.drop 0 = dktX6_line_0 := by decide +kernel
theorem dksX6_line_1 : cX6_line.data.toList.drop 24 = dktX6_line_1 := dk_seg dksX6_line_0 24 rfl rfl
theorem dksX6_line_2 : cX6_line.data.toList.drop 46 = dktX6_line_2 := dk_seg dksX6_line_1 22 rfl rfl
theorem dX6_line_0 : decode cX6_line 0 = .ok (.new 44, 3) := dk_187 0 44 (dk_at dksX6_line_0 0 rfl rfl)
theorem dX6_line_3 : decode cX6_line 3 = .ok (.dup, 1) := dk_89 (dk_at dksX6_line_0 3 rfl rfl)
theorem dX6_line_4 : decode cX6_line 4 = .ok (.invokespecial 49, 3) := dk_183 0 49 (dk_at dksX6_line_0 4 rfl rfl)
theorem dX6_line_7 : decode cX6_line 7 = .ok (.astore_n 1, 1) := dk_76 (dk_at dksX6_line_0 7 rfl rfl)
theorem dX6_line_8 : decode cX6_line 8 = .ok (.aload_n 1, 1) := dk_43 (dk_at dksX6_line_0 8 rfl rfl)
theorem dX6_line_9 : decode cX6_line 9 = .ok (.aload_n 0, 1) := dk_42 (dk_at dksX6_line_0 9 rfl rfl)
theorem dX6_line_10 : decode cX6_line 10 = .ok (.invokevirtual 50, 3) := dk_182 0 50 (dk_at dksX6_line_0 10 rfl rfl)
theorem dX6_line_13 : decode cX6_line 13 = .ok (.putfield 54, 3) := dk_181 0 54 (dk_at dksX6_line_0 13 rfl rfl)
theorem dX6_line_16 : decode cX6_line 16 = .ok (.aload_n 0, 1) := dk_42 (dk_at dksX6_line_0 16 rfl rfl)
theorem dX6_line_17 : decode cX6_line 17 = .ok (.getfield 15, 3) := dk_180 0 15 (dk_at dksX6_line_0 17 rfl rfl)
theorem dX6_line_20 : decode cX6_line 20 = .ok (.ifCond .ge 12, 3) := dk_156 0 12 (dk_at dksX6_line_0 20 rfl rfl)
theorem dX6_line_23 : decode cX6_line 23 = .ok (.aload_n 0, 1) := dk_42 (dk_at dksX6_line_0 23 rfl rfl)
theorem dX6_line_24 : decode cX6_line 24 = .ok (.invokevirtual 29, 3) := dk_182 0 29 (dk_at dksX6_line_1 0 rfl rfl)
theorem dX6_line_27 : decode cX6_line 27 = .ok (.bipush 63, 2) := dk_16 63 (dk_at dksX6_line_1 3 rfl rfl)
theorem dX6_line_29 : decode cX6_line 29 = .ok (.if_icmp .eq 5, 3) := dk_159 0 5 (dk_at dksX6_line_1 5 rfl rfl)
theorem dX6_line_32 : decode cX6_line 32 = .ok (.aload_n 1, 1) := dk_43 (dk_at dksX6_line_1 8 rfl rfl)
theorem dX6_line_33 : decode cX6_line 33 = .ok (.areturn, 1) := dk_176 (dk_at dksX6_line_1 9 rfl rfl)
theorem dX6_line_34 : decode cX6_line 34 = .ok (.aload_n 0, 1) := dk_42 (dk_at dksX6_line_1 10 rfl rfl)
theorem dX6_line_35 : decode cX6_line 35 = .ok (.dup, 1) := dk_89 (dk_at dksX6_line_1 11 rfl rfl)
theorem dX6_line_36 : decode cX6_line 36 = .ok (.getfield 19, 3) := dk_180 0 19 (dk_at dksX6_line_1 12 rfl rfl)
theorem dX6_line_39 : decode cX6_line 39 = .ok (.iconst 1, 1) := dk_4 (dk_at dksX6_line_1 15 rfl rfl)
theorem dX6_line_40 : decode cX6_line 40 = .ok (.iadd, 1) := dk_96 (dk_at dksX6_line_1 16 rfl rfl)
theorem dX6_line_41 : decode cX6_line 41 = .ok (.putfield 19, 3) := dk_181 0 19 (dk_at dksX6_line_1 17 rfl rfl)
theorem dX6_line_44 : decode cX6_line 44 = .ok (.aload_n 1, 1) := dk_43 (dk_at dksX6_line_1 20 rfl rfl)
theorem dX6_line_45 : decode cX6_line 45 = .ok (.aload_n 1, 1) := dk_43 (dk_at dksX6_line_1 21 rfl rfl)
theorem dX6_line_46 : decode cX6_line 46 = .ok (.getfield 54, 3) := dk_180 0 54 (dk_at dksX6_line_2 0 rfl rfl)
theorem dX6_line_49 : decode cX6_line 49 = .ok (.putfield 58, 3) := dk_181 0 58 (dk_at dksX6_line_2 3 rfl rfl)
theorem dX6_line_52 : decode cX6_line 52 = .ok (.aload_n 1, 1) := dk_43 (dk_at dksX6_line_2 6 rfl rfl)
theorem dX6_line_53 : decode cX6_line 53 = .ok (.aload_n 0, 1) := dk_42 (dk_at dksX6_line_2 7 rfl rfl)
theorem dX6_line_54 : decode cX6_line 54 = .ok (.invokevirtual 50, 3) := dk_182 0 50 (dk_at dksX6_line_2 8 rfl rfl)
theorem dX6_line_57 : decode cX6_line 57 = .ok (.putfield 54, 3) := dk_181 0 54 (dk_at dksX6_line_2 11 rfl rfl)
theorem dX6_line_60 : decode cX6_line 60 = .ok (.aload_n 1, 1) := dk_43 (dk_at dksX6_line_2 14 rfl rfl)
theorem dX6_line_61 : decode cX6_line 61 = .ok (.areturn, 1) := dk_176 (dk_at dksX6_line_2 15 rfl rfl)
abbrev cX6_either : ByteArray := prog_25_method_8_code
def yX6_either : MethodName := ⟨RX6, "either", "()LHeadReckons$Node;"⟩
def dkwX6_either_2 : List UInt8 := [176]
abbrev dktX6_either_2 : List UInt8 := dkwX6_either_2 ++ []
def dkwX6_either_1 : List UInt8 := [180, 0, 19, 4, 96, 181, 0, 19, 42, 16, 124, 43, 42, 182, 0, 66, 182, 0, 69, 76, 167, 255, 218, 43]
abbrev dktX6_either_1 : List UInt8 := dkwX6_either_1 ++ dktX6_either_2
def dkwX6_either_0 : List UInt8 := [42, 182, 0, 66, 76, 42, 180, 0, 15, 156, 0, 37, 42, 182, 0, 29, 16, 124, 160, 0, 28, 42, 89]
abbrev dktX6_either_0 : List UInt8 := dkwX6_either_0 ++ dktX6_either_1
theorem dksX6_either_0 : cX6_either.data.toList.drop 0 = dktX6_either_0 := by decide +kernel
theorem dksX6_either_1 : cX6_either.data.toList.drop 23 = dktX6_either_1 := dk_seg dksX6_either_0 23 rfl rfl
theorem dksX6_either_2 : cX6_either.data.toList.drop 47 = dktX6_either_2 := dk_seg dksX6_either_1 24 rfl rfl
theorem dX6_either_0 : decode cX6_either 0 = .ok (.aload_n 0, 1) := dk_42 (dk_at dksX6_either_0 0 rfl rfl)
theorem dX6_either_1 : decode cX6_either 1 = .ok (.invokevirtual 66, 3) := dk_182 0 66 (dk_at dksX6_either_0 1 rfl rfl)
theorem dX6_either_4 : decode cX6_either 4 = .ok (.astore_n 1, 1) := dk_76 (dk_at dksX6_either_0 4 rfl rfl)
theorem dX6_either_5 : decode cX6_either 5 = .ok (.aload_n 0, 1) := dk_42 (dk_at dksX6_either_0 5 rfl rfl)
theorem dX6_either_6 : decode cX6_either 6 = .ok (.getfield 15, 3) := dk_180 0 15 (dk_at dksX6_either_0 6 rfl rfl)
theorem dX6_either_9 : decode cX6_either 9 = .ok (.ifCond .ge 37, 3) := dk_156 0 37 (dk_at dksX6_either_0 9 rfl rfl)
theorem dX6_either_12 : decode cX6_either 12 = .ok (.aload_n 0, 1) := dk_42 (dk_at dksX6_either_0 12 rfl rfl)
theorem dX6_either_13 : decode cX6_either 13 = .ok (.invokevirtual 29, 3) := dk_182 0 29 (dk_at dksX6_either_0 13 rfl rfl)
theorem dX6_either_16 : decode cX6_either 16 = .ok (.bipush 124, 2) := dk_16 124 (dk_at dksX6_either_0 16 rfl rfl)
theorem dX6_either_18 : decode cX6_either 18 = .ok (.if_icmp .ne 28, 3) := dk_160 0 28 (dk_at dksX6_either_0 18 rfl rfl)
theorem dX6_either_21 : decode cX6_either 21 = .ok (.aload_n 0, 1) := dk_42 (dk_at dksX6_either_0 21 rfl rfl)
theorem dX6_either_22 : decode cX6_either 22 = .ok (.dup, 1) := dk_89 (dk_at dksX6_either_0 22 rfl rfl)
theorem dX6_either_23 : decode cX6_either 23 = .ok (.getfield 19, 3) := dk_180 0 19 (dk_at dksX6_either_1 0 rfl rfl)
theorem dX6_either_26 : decode cX6_either 26 = .ok (.iconst 1, 1) := dk_4 (dk_at dksX6_either_1 3 rfl rfl)
theorem dX6_either_27 : decode cX6_either 27 = .ok (.iadd, 1) := dk_96 (dk_at dksX6_either_1 4 rfl rfl)
theorem dX6_either_28 : decode cX6_either 28 = .ok (.putfield 19, 3) := dk_181 0 19 (dk_at dksX6_either_1 5 rfl rfl)
theorem dX6_either_31 : decode cX6_either 31 = .ok (.aload_n 0, 1) := dk_42 (dk_at dksX6_either_1 8 rfl rfl)
theorem dX6_either_32 : decode cX6_either 32 = .ok (.bipush 124, 2) := dk_16 124 (dk_at dksX6_either_1 9 rfl rfl)
theorem dX6_either_34 : decode cX6_either 34 = .ok (.aload_n 1, 1) := dk_43 (dk_at dksX6_either_1 11 rfl rfl)
theorem dX6_either_35 : decode cX6_either 35 = .ok (.aload_n 0, 1) := dk_42 (dk_at dksX6_either_1 12 rfl rfl)
theorem dX6_either_36 : decode cX6_either 36 = .ok (.invokevirtual 66, 3) := dk_182 0 66 (dk_at dksX6_either_1 13 rfl rfl)
theorem dX6_either_39 : decode cX6_either 39 = .ok (.invokevirtual 69, 3) := dk_182 0 69 (dk_at dksX6_either_1 16 rfl rfl)
theorem dX6_either_42 : decode cX6_either 42 = .ok (.astore_n 1, 1) := dk_76 (dk_at dksX6_either_1 19 rfl rfl)
theorem dX6_either_43 : decode cX6_either 43 = .ok (.goto (-38), 3) := dk_167 255 218 (dk_at dksX6_either_1 20 rfl rfl)
theorem dX6_either_46 : decode cX6_either 46 = .ok (.aload_n 1, 1) := dk_43 (dk_at dksX6_either_1 23 rfl rfl)
theorem dX6_either_47 : decode cX6_either 47 = .ok (.areturn, 1) := dk_176 (dk_at dksX6_either_2 0 rfl rfl)
abbrev cX6_all : ByteArray := prog_25_method_9_code
def yX6_all : MethodName := ⟨RX6, "all", "()LHeadReckons$Node;"⟩
def dkwX6_all_2 : List UInt8 := [176]
abbrev dktX6_all_2 : List UInt8 := dkwX6_all_2 ++ []
def dkwX6_all_1 : List UInt8 := [180, 0, 19, 4, 96, 181, 0, 19, 42, 16, 38, 43, 42, 182, 0, 73, 182, 0, 69, 76, 167, 255, 218, 43]
abbrev dktX6_all_1 : List UInt8 := dkwX6_all_1 ++ dktX6_all_2
def dkwX6_all_0 : List UInt8 := [42, 182, 0, 73, 76, 42, 180, 0, 15, 156, 0, 37, 42, 182, 0, 29, 16, 38, 160, 0, 28, 42, 89]
abbrev dktX6_all_0 : List UInt8 := dkwX6_all_0 ++ dktX6_all_1
theorem dksX6_all_0 : cX6_all.data.toList.drop 0 = dktX6_all_0 := by decide +kernel
theorem dksX6_all_1 : cX6_all.data.toList.drop 23 = dktX6_all_1 := dk_seg dksX6_all_0 23 rfl rfl
theorem dksX6_all_2 : cX6_all.data.toList.drop 47 = dktX6_all_2 := dk_seg dksX6_all_1 24 rfl rfl
theorem dX6_all_0 : decode cX6_all 0 = .ok (.aload_n 0, 1) := dk_42 (dk_at dksX6_all_0 0 rfl rfl)
theorem dX6_all_1 : decode cX6_all 1 = .ok (.invokevirtual 73, 3) := dk_182 0 73 (dk_at dksX6_all_0 1 rfl rfl)
theorem dX6_all_4 : decode cX6_all 4 = .ok (.astore_n 1, 1) := dk_76 (dk_at dksX6_all_0 4 rfl rfl)
theorem dX6_all_5 : decode cX6_all 5 = .ok (.aload_n 0, 1) := dk_42 (dk_at dksX6_all_0 5 rfl rfl)
theorem dX6_all_6 : decode cX6_all 6 = .ok (.getfield 15, 3) := dk_180 0 15 (dk_at dksX6_all_0 6 rfl rfl)
theorem dX6_all_9 : decode cX6_all 9 = .ok (.ifCond .ge 37, 3) := dk_156 0 37 (dk_at dksX6_all_0 9 rfl rfl)
theorem dX6_all_12 : decode cX6_all 12 = .ok (.aload_n 0, 1) := dk_42 (dk_at dksX6_all_0 12 rfl rfl)
theorem dX6_all_13 : decode cX6_all 13 = .ok (.invokevirtual 29, 3) := dk_182 0 29 (dk_at dksX6_all_0 13 rfl rfl)
theorem dX6_all_16 : decode cX6_all 16 = .ok (.bipush 38, 2) := dk_16 38 (dk_at dksX6_all_0 16 rfl rfl)
theorem dX6_all_18 : decode cX6_all 18 = .ok (.if_icmp .ne 28, 3) := dk_160 0 28 (dk_at dksX6_all_0 18 rfl rfl)
theorem dX6_all_21 : decode cX6_all 21 = .ok (.aload_n 0, 1) := dk_42 (dk_at dksX6_all_0 21 rfl rfl)
theorem dX6_all_22 : decode cX6_all 22 = .ok (.dup, 1) := dk_89 (dk_at dksX6_all_0 22 rfl rfl)
theorem dX6_all_23 : decode cX6_all 23 = .ok (.getfield 19, 3) := dk_180 0 19 (dk_at dksX6_all_1 0 rfl rfl)
theorem dX6_all_26 : decode cX6_all 26 = .ok (.iconst 1, 1) := dk_4 (dk_at dksX6_all_1 3 rfl rfl)
theorem dX6_all_27 : decode cX6_all 27 = .ok (.iadd, 1) := dk_96 (dk_at dksX6_all_1 4 rfl rfl)
theorem dX6_all_28 : decode cX6_all 28 = .ok (.putfield 19, 3) := dk_181 0 19 (dk_at dksX6_all_1 5 rfl rfl)
theorem dX6_all_31 : decode cX6_all 31 = .ok (.aload_n 0, 1) := dk_42 (dk_at dksX6_all_1 8 rfl rfl)
theorem dX6_all_32 : decode cX6_all 32 = .ok (.bipush 38, 2) := dk_16 38 (dk_at dksX6_all_1 9 rfl rfl)
theorem dX6_all_34 : decode cX6_all 34 = .ok (.aload_n 1, 1) := dk_43 (dk_at dksX6_all_1 11 rfl rfl)
theorem dX6_all_35 : decode cX6_all 35 = .ok (.aload_n 0, 1) := dk_42 (dk_at dksX6_all_1 12 rfl rfl)
theorem dX6_all_36 : decode cX6_all 36 = .ok (.invokevirtual 73, 3) := dk_182 0 73 (dk_at dksX6_all_1 13 rfl rfl)
theorem dX6_all_39 : decode cX6_all 39 = .ok (.invokevirtual 69, 3) := dk_182 0 69 (dk_at dksX6_all_1 16 rfl rfl)
theorem dX6_all_42 : decode cX6_all 42 = .ok (.astore_n 1, 1) := dk_76 (dk_at dksX6_all_1 19 rfl rfl)
theorem dX6_all_43 : decode cX6_all 43 = .ok (.goto (-38), 3) := dk_167 255 218 (dk_at dksX6_all_1 20 rfl rfl)
theorem dX6_all_46 : decode cX6_all 46 = .ok (.aload_n 1, 1) := dk_43 (dk_at dksX6_all_1 23 rfl rfl)
theorem dX6_all_47 : decode cX6_all 47 = .ok (.areturn, 1) := dk_176 (dk_at dksX6_all_2 0 rfl rfl)
abbrev cX6_compared : ByteArray := prog_25_method_10_code
def yX6_compared : MethodName := ⟨RX6, "compared", "()LHeadReckons$Node;"⟩
def dkwX6_compared_2 : List UInt8 := [176]
abbrev dktX6_compared_2 : List UInt8 := dkwX6_compared_2 ++ []
def dkwX6_compared_1 : List UInt8 := [182, 0, 29, 61, 42, 89, 180, 0, 19, 4, 96, 181, 0, 19, 42, 28, 43, 42, 182, 0, 76, 182, 0, 69]
abbrev dktX6_compared_1 : List UInt8 := dkwX6_compared_1 ++ dktX6_compared_2
def dkwX6_compared_0 : List UInt8 := [42, 182, 0, 76, 76, 42, 180, 0, 15, 156, 0, 12, 42, 18, 79, 182, 0, 81, 154, 0, 5, 43, 176, 42]
abbrev dktX6_compared_0 : List UInt8 := dkwX6_compared_0 ++ dktX6_compared_1
theorem dksX6_compared_0 : cX6_compared.data.toList.drop 0 = dktX6_compared_0 := by decide +kernel
theorem dksX6_compared_1 : cX6_compared.data.toList.drop 24 = dktX6_compared_1 := dk_seg dksX6_compared_0 24 rfl rfl
theorem dksX6_compared_2 : cX6_compared.data.toList.drop 48 = dktX6_compared_2 := dk_seg dksX6_compared_1 24 rfl rfl
theorem dX6_compared_0 : decode cX6_compared 0 = .ok (.aload_n 0, 1) := dk_42 (dk_at dksX6_compared_0 0 rfl rfl)
theorem dX6_compared_1 : decode cX6_compared 1 = .ok (.invokevirtual 76, 3) := dk_182 0 76 (dk_at dksX6_compared_0 1 rfl rfl)
theorem dX6_compared_4 : decode cX6_compared 4 = .ok (.astore_n 1, 1) := dk_76 (dk_at dksX6_compared_0 4 rfl rfl)
theorem dX6_compared_5 : decode cX6_compared 5 = .ok (.aload_n 0, 1) := dk_42 (dk_at dksX6_compared_0 5 rfl rfl)
theorem dX6_compared_6 : decode cX6_compared 6 = .ok (.getfield 15, 3) := dk_180 0 15 (dk_at dksX6_compared_0 6 rfl rfl)
theorem dX6_compared_9 : decode cX6_compared 9 = .ok (.ifCond .ge 12, 3) := dk_156 0 12 (dk_at dksX6_compared_0 9 rfl rfl)
theorem dX6_compared_12 : decode cX6_compared 12 = .ok (.aload_n 0, 1) := dk_42 (dk_at dksX6_compared_0 12 rfl rfl)
theorem dX6_compared_13 : decode cX6_compared 13 = .ok (.ldc 79, 2) := dk_18 79 (dk_at dksX6_compared_0 13 rfl rfl)
theorem dX6_compared_15 : decode cX6_compared 15 = .ok (.invokevirtual 81, 3) := dk_182 0 81 (dk_at dksX6_compared_0 15 rfl rfl)
theorem dX6_compared_18 : decode cX6_compared 18 = .ok (.ifCond .ne 5, 3) := dk_154 0 5 (dk_at dksX6_compared_0 18 rfl rfl)
theorem dX6_compared_21 : decode cX6_compared 21 = .ok (.aload_n 1, 1) := dk_43 (dk_at dksX6_compared_0 21 rfl rfl)
theorem dX6_compared_22 : decode cX6_compared 22 = .ok (.areturn, 1) := dk_176 (dk_at dksX6_compared_0 22 rfl rfl)
theorem dX6_compared_23 : decode cX6_compared 23 = .ok (.aload_n 0, 1) := dk_42 (dk_at dksX6_compared_0 23 rfl rfl)
theorem dX6_compared_24 : decode cX6_compared 24 = .ok (.invokevirtual 29, 3) := dk_182 0 29 (dk_at dksX6_compared_1 0 rfl rfl)
theorem dX6_compared_27 : decode cX6_compared 27 = .ok (.istore_n 2, 1) := dk_61 (dk_at dksX6_compared_1 3 rfl rfl)
theorem dX6_compared_28 : decode cX6_compared 28 = .ok (.aload_n 0, 1) := dk_42 (dk_at dksX6_compared_1 4 rfl rfl)
theorem dX6_compared_29 : decode cX6_compared 29 = .ok (.dup, 1) := dk_89 (dk_at dksX6_compared_1 5 rfl rfl)
theorem dX6_compared_30 : decode cX6_compared 30 = .ok (.getfield 19, 3) := dk_180 0 19 (dk_at dksX6_compared_1 6 rfl rfl)
theorem dX6_compared_33 : decode cX6_compared 33 = .ok (.iconst 1, 1) := dk_4 (dk_at dksX6_compared_1 9 rfl rfl)
theorem dX6_compared_34 : decode cX6_compared 34 = .ok (.iadd, 1) := dk_96 (dk_at dksX6_compared_1 10 rfl rfl)
theorem dX6_compared_35 : decode cX6_compared 35 = .ok (.putfield 19, 3) := dk_181 0 19 (dk_at dksX6_compared_1 11 rfl rfl)
theorem dX6_compared_38 : decode cX6_compared 38 = .ok (.aload_n 0, 1) := dk_42 (dk_at dksX6_compared_1 14 rfl rfl)
theorem dX6_compared_39 : decode cX6_compared 39 = .ok (.iload_n 2, 1) := dk_28 (dk_at dksX6_compared_1 15 rfl rfl)
theorem dX6_compared_40 : decode cX6_compared 40 = .ok (.aload_n 1, 1) := dk_43 (dk_at dksX6_compared_1 16 rfl rfl)
theorem dX6_compared_41 : decode cX6_compared 41 = .ok (.aload_n 0, 1) := dk_42 (dk_at dksX6_compared_1 17 rfl rfl)
theorem dX6_compared_42 : decode cX6_compared 42 = .ok (.invokevirtual 76, 3) := dk_182 0 76 (dk_at dksX6_compared_1 18 rfl rfl)
theorem dX6_compared_45 : decode cX6_compared 45 = .ok (.invokevirtual 69, 3) := dk_182 0 69 (dk_at dksX6_compared_1 21 rfl rfl)
theorem dX6_compared_48 : decode cX6_compared 48 = .ok (.areturn, 1) := dk_176 (dk_at dksX6_compared_2 0 rfl rfl)
abbrev cX6_sum : ByteArray := prog_25_method_11_code
def yX6_sum : MethodName := ⟨RX6, "sum", "()LHeadReckons$Node;"⟩
def dkwX6_sum_2 : List UInt8 := [76, 167, 255, 214, 43, 176]
abbrev dktX6_sum_2 : List UInt8 := dkwX6_sum_2 ++ []
def dkwX6_sum_1 : List UInt8 := [182, 0, 29, 61, 42, 89, 180, 0, 19, 4, 96, 181, 0, 19, 42, 28, 43, 42, 182, 0, 85, 182, 0, 69]
abbrev dktX6_sum_1 : List UInt8 := dkwX6_sum_1 ++ dktX6_sum_2
def dkwX6_sum_0 : List UInt8 := [42, 182, 0, 85, 76, 42, 180, 0, 15, 156, 0, 41, 42, 18, 88, 182, 0, 81, 153, 0, 32, 42]
abbrev dktX6_sum_0 : List UInt8 := dkwX6_sum_0 ++ dktX6_sum_1
theorem dksX6_sum_0 : cX6_sum.data.toList.drop 0 = dktX6_sum_0 := by decide +kernel
theorem dksX6_sum_1 : cX6_sum.data.toList.drop 22 = dktX6_sum_1 := dk_seg dksX6_sum_0 22 rfl rfl
theorem dksX6_sum_2 : cX6_sum.data.toList.drop 46 = dktX6_sum_2 := dk_seg dksX6_sum_1 24 rfl rfl
theorem dX6_sum_0 : decode cX6_sum 0 = .ok (.aload_n 0, 1) := dk_42 (dk_at dksX6_sum_0 0 rfl rfl)
theorem dX6_sum_1 : decode cX6_sum 1 = .ok (.invokevirtual 85, 3) := dk_182 0 85 (dk_at dksX6_sum_0 1 rfl rfl)
theorem dX6_sum_4 : decode cX6_sum 4 = .ok (.astore_n 1, 1) := dk_76 (dk_at dksX6_sum_0 4 rfl rfl)
theorem dX6_sum_5 : decode cX6_sum 5 = .ok (.aload_n 0, 1) := dk_42 (dk_at dksX6_sum_0 5 rfl rfl)
theorem dX6_sum_6 : decode cX6_sum 6 = .ok (.getfield 15, 3) := dk_180 0 15 (dk_at dksX6_sum_0 6 rfl rfl)
theorem dX6_sum_9 : decode cX6_sum 9 = .ok (.ifCond .ge 41, 3) := dk_156 0 41 (dk_at dksX6_sum_0 9 rfl rfl)
theorem dX6_sum_12 : decode cX6_sum 12 = .ok (.aload_n 0, 1) := dk_42 (dk_at dksX6_sum_0 12 rfl rfl)
theorem dX6_sum_13 : decode cX6_sum 13 = .ok (.ldc 88, 2) := dk_18 88 (dk_at dksX6_sum_0 13 rfl rfl)
theorem dX6_sum_15 : decode cX6_sum 15 = .ok (.invokevirtual 81, 3) := dk_182 0 81 (dk_at dksX6_sum_0 15 rfl rfl)
theorem dX6_sum_18 : decode cX6_sum 18 = .ok (.ifCond .eq 32, 3) := dk_153 0 32 (dk_at dksX6_sum_0 18 rfl rfl)
theorem dX6_sum_21 : decode cX6_sum 21 = .ok (.aload_n 0, 1) := dk_42 (dk_at dksX6_sum_0 21 rfl rfl)
theorem dX6_sum_22 : decode cX6_sum 22 = .ok (.invokevirtual 29, 3) := dk_182 0 29 (dk_at dksX6_sum_1 0 rfl rfl)
theorem dX6_sum_25 : decode cX6_sum 25 = .ok (.istore_n 2, 1) := dk_61 (dk_at dksX6_sum_1 3 rfl rfl)
theorem dX6_sum_26 : decode cX6_sum 26 = .ok (.aload_n 0, 1) := dk_42 (dk_at dksX6_sum_1 4 rfl rfl)
theorem dX6_sum_27 : decode cX6_sum 27 = .ok (.dup, 1) := dk_89 (dk_at dksX6_sum_1 5 rfl rfl)
theorem dX6_sum_28 : decode cX6_sum 28 = .ok (.getfield 19, 3) := dk_180 0 19 (dk_at dksX6_sum_1 6 rfl rfl)
theorem dX6_sum_31 : decode cX6_sum 31 = .ok (.iconst 1, 1) := dk_4 (dk_at dksX6_sum_1 9 rfl rfl)
theorem dX6_sum_32 : decode cX6_sum 32 = .ok (.iadd, 1) := dk_96 (dk_at dksX6_sum_1 10 rfl rfl)
theorem dX6_sum_33 : decode cX6_sum 33 = .ok (.putfield 19, 3) := dk_181 0 19 (dk_at dksX6_sum_1 11 rfl rfl)
theorem dX6_sum_36 : decode cX6_sum 36 = .ok (.aload_n 0, 1) := dk_42 (dk_at dksX6_sum_1 14 rfl rfl)
theorem dX6_sum_37 : decode cX6_sum 37 = .ok (.iload_n 2, 1) := dk_28 (dk_at dksX6_sum_1 15 rfl rfl)
theorem dX6_sum_38 : decode cX6_sum 38 = .ok (.aload_n 1, 1) := dk_43 (dk_at dksX6_sum_1 16 rfl rfl)
theorem dX6_sum_39 : decode cX6_sum 39 = .ok (.aload_n 0, 1) := dk_42 (dk_at dksX6_sum_1 17 rfl rfl)
theorem dX6_sum_40 : decode cX6_sum 40 = .ok (.invokevirtual 85, 3) := dk_182 0 85 (dk_at dksX6_sum_1 18 rfl rfl)
theorem dX6_sum_43 : decode cX6_sum 43 = .ok (.invokevirtual 69, 3) := dk_182 0 69 (dk_at dksX6_sum_1 21 rfl rfl)
theorem dX6_sum_46 : decode cX6_sum 46 = .ok (.astore_n 1, 1) := dk_76 (dk_at dksX6_sum_2 0 rfl rfl)
theorem dX6_sum_47 : decode cX6_sum 47 = .ok (.goto (-42), 3) := dk_167 255 214 (dk_at dksX6_sum_2 1 rfl rfl)
theorem dX6_sum_50 : decode cX6_sum 50 = .ok (.aload_n 1, 1) := dk_43 (dk_at dksX6_sum_2 4 rfl rfl)
theorem dX6_sum_51 : decode cX6_sum 51 = .ok (.areturn, 1) := dk_176 (dk_at dksX6_sum_2 5 rfl rfl)
abbrev cX6_product : ByteArray := prog_25_method_12_code
def yX6_product : MethodName := ⟨RX6, "product", "()LHeadReckons$Node;"⟩
def dkwX6_product_2 : List UInt8 := [76, 167, 255, 214, 43, 176]
abbrev dktX6_product_2 : List UInt8 := dkwX6_product_2 ++ []
def dkwX6_product_1 : List UInt8 := [182, 0, 29, 61, 42, 89, 180, 0, 19, 4, 96, 181, 0, 19, 42, 28, 43, 42, 182, 0, 90, 182, 0, 69]
abbrev dktX6_product_1 : List UInt8 := dkwX6_product_1 ++ dktX6_product_2
def dkwX6_product_0 : List UInt8 := [42, 182, 0, 90, 76, 42, 180, 0, 15, 156, 0, 41, 42, 18, 93, 182, 0, 81, 153, 0, 32, 42]
abbrev dktX6_product_0 : List UInt8 := dkwX6_product_0 ++ dktX6_product_1
theorem dksX6_product_0 : cX6_product.data.toList.drop 0 = dktX6_product_0 := by decide +kernel
theorem dksX6_product_1 : cX6_product.data.toList.drop 22 = dktX6_product_1 := dk_seg dksX6_product_0 22 rfl rfl
theorem dksX6_product_2 : cX6_product.data.toList.drop 46 = dktX6_product_2 := dk_seg dksX6_product_1 24 rfl rfl
theorem dX6_product_0 : decode cX6_product 0 = .ok (.aload_n 0, 1) := dk_42 (dk_at dksX6_product_0 0 rfl rfl)
theorem dX6_product_1 : decode cX6_product 1 = .ok (.invokevirtual 90, 3) := dk_182 0 90 (dk_at dksX6_product_0 1 rfl rfl)
theorem dX6_product_4 : decode cX6_product 4 = .ok (.astore_n 1, 1) := dk_76 (dk_at dksX6_product_0 4 rfl rfl)
theorem dX6_product_5 : decode cX6_product 5 = .ok (.aload_n 0, 1) := dk_42 (dk_at dksX6_product_0 5 rfl rfl)
theorem dX6_product_6 : decode cX6_product 6 = .ok (.getfield 15, 3) := dk_180 0 15 (dk_at dksX6_product_0 6 rfl rfl)
theorem dX6_product_9 : decode cX6_product 9 = .ok (.ifCond .ge 41, 3) := dk_156 0 41 (dk_at dksX6_product_0 9 rfl rfl)
theorem dX6_product_12 : decode cX6_product 12 = .ok (.aload_n 0, 1) := dk_42 (dk_at dksX6_product_0 12 rfl rfl)
theorem dX6_product_13 : decode cX6_product 13 = .ok (.ldc 93, 2) := dk_18 93 (dk_at dksX6_product_0 13 rfl rfl)
theorem dX6_product_15 : decode cX6_product 15 = .ok (.invokevirtual 81, 3) := dk_182 0 81 (dk_at dksX6_product_0 15 rfl rfl)
theorem dX6_product_18 : decode cX6_product 18 = .ok (.ifCond .eq 32, 3) := dk_153 0 32 (dk_at dksX6_product_0 18 rfl rfl)
theorem dX6_product_21 : decode cX6_product 21 = .ok (.aload_n 0, 1) := dk_42 (dk_at dksX6_product_0 21 rfl rfl)
theorem dX6_product_22 : decode cX6_product 22 = .ok (.invokevirtual 29, 3) := dk_182 0 29 (dk_at dksX6_product_1 0 rfl rfl)
theorem dX6_product_25 : decode cX6_product 25 = .ok (.istore_n 2, 1) := dk_61 (dk_at dksX6_product_1 3 rfl rfl)
theorem dX6_product_26 : decode cX6_product 26 = .ok (.aload_n 0, 1) := dk_42 (dk_at dksX6_product_1 4 rfl rfl)
theorem dX6_product_27 : decode cX6_product 27 = .ok (.dup, 1) := dk_89 (dk_at dksX6_product_1 5 rfl rfl)
theorem dX6_product_28 : decode cX6_product 28 = .ok (.getfield 19, 3) := dk_180 0 19 (dk_at dksX6_product_1 6 rfl rfl)
theorem dX6_product_31 : decode cX6_product 31 = .ok (.iconst 1, 1) := dk_4 (dk_at dksX6_product_1 9 rfl rfl)
theorem dX6_product_32 : decode cX6_product 32 = .ok (.iadd, 1) := dk_96 (dk_at dksX6_product_1 10 rfl rfl)
theorem dX6_product_33 : decode cX6_product 33 = .ok (.putfield 19, 3) := dk_181 0 19 (dk_at dksX6_product_1 11 rfl rfl)
theorem dX6_product_36 : decode cX6_product 36 = .ok (.aload_n 0, 1) := dk_42 (dk_at dksX6_product_1 14 rfl rfl)
theorem dX6_product_37 : decode cX6_product 37 = .ok (.iload_n 2, 1) := dk_28 (dk_at dksX6_product_1 15 rfl rfl)
theorem dX6_product_38 : decode cX6_product 38 = .ok (.aload_n 1, 1) := dk_43 (dk_at dksX6_product_1 16 rfl rfl)
theorem dX6_product_39 : decode cX6_product 39 = .ok (.aload_n 0, 1) := dk_42 (dk_at dksX6_product_1 17 rfl rfl)
theorem dX6_product_40 : decode cX6_product 40 = .ok (.invokevirtual 90, 3) := dk_182 0 90 (dk_at dksX6_product_1 18 rfl rfl)
theorem dX6_product_43 : decode cX6_product 43 = .ok (.invokevirtual 69, 3) := dk_182 0 69 (dk_at dksX6_product_1 21 rfl rfl)
theorem dX6_product_46 : decode cX6_product 46 = .ok (.astore_n 1, 1) := dk_76 (dk_at dksX6_product_2 0 rfl rfl)
theorem dX6_product_47 : decode cX6_product 47 = .ok (.goto (-42), 3) := dk_167 255 214 (dk_at dksX6_product_2 1 rfl rfl)
theorem dX6_product_50 : decode cX6_product 50 = .ok (.aload_n 1, 1) := dk_43 (dk_at dksX6_product_2 4 rfl rfl)
theorem dX6_product_51 : decode cX6_product 51 = .ok (.areturn, 1) := dk_176 (dk_at dksX6_product_2 5 rfl rfl)
abbrev cX6_operand : ByteArray := prog_25_method_14_code
def yX6_operand : MethodName := ⟨RX6, "operand", "()LHeadReckons$Node;"⟩
def dkwX6_operand_11 : List UInt8 := [89, 29, 183, 0, 126, 176]
abbrev dktX6_operand_11 : List UInt8 := dkwX6_operand_11 ++ []
def dkwX6_operand_10 : List UInt8 := [42, 182, 0, 29, 16, 48, 16, 57, 184, 0, 120, 153, 0, 10, 42, 182, 0, 109, 167, 0, 11, 187, 0, 124]
abbrev dktX6_operand_10 : List UInt8 := dkwX6_operand_10 ++ dktX6_operand_11
def dkwX6_operand_9 : List UInt8 := [16, 48, 100, 62, 132, 2, 1, 42, 89, 180, 0, 19, 4, 96, 181, 0, 19, 167, 255, 211, 28, 153, 0, 17]
abbrev dktX6_operand_9 : List UInt8 := dkwX6_operand_9 ++ dktX6_operand_10
def dkwX6_operand_8 : List UInt8 := [42, 182, 0, 29, 16, 48, 16, 57, 184, 0, 120, 153, 0, 32, 16, 10, 29, 104, 42, 182, 0, 29, 96]
abbrev dktX6_operand_8 : List UInt8 := dkwX6_operand_8 ++ dktX6_operand_9
def dkwX6_operand_7 : List UInt8 := [181, 0, 19, 42, 89, 180, 0, 95, 4, 100, 181, 0, 95, 44, 176, 3, 61, 3, 62, 28, 7, 162, 0, 46]
abbrev dktX6_operand_7 : List UInt8 := dkwX6_operand_7 ++ dktX6_operand_8
def dkwX6_operand_6 : List UInt8 := [176, 42, 182, 0, 29, 16, 41, 159, 0, 8, 42, 182, 0, 109, 176, 42, 89, 180, 0, 19, 4, 96]
abbrev dktX6_operand_6 : List UInt8 := dkwX6_operand_6 ++ dktX6_operand_7
def dkwX6_operand_5 : List UInt8 := [182, 0, 105, 154, 0, 8, 42, 182, 0, 109, 176, 42, 182, 0, 50, 77, 42, 180, 0, 15, 155, 0, 5, 1]
abbrev dktX6_operand_5 : List UInt8 := dkwX6_operand_5 ++ dktX6_operand_6
def dkwX6_operand_4 : List UInt8 := [183, 0, 114, 167, 0, 11, 187, 0, 117, 89, 44, 183, 0, 119, 176, 27, 16, 40, 160, 0, 65, 42]
abbrev dktX6_operand_4 : List UInt8 := dkwX6_operand_4 ++ dktX6_operand_5
def dkwX6_operand_3 : List UInt8 := [181, 0, 95, 42, 180, 0, 15, 155, 0, 5, 1, 176, 27, 16, 33, 160, 0, 14, 187, 0, 112, 89, 44]
abbrev dktX6_operand_3 : List UInt8 := dkwX6_operand_3 ++ dktX6_operand_4
def dkwX6_operand_2 : List UInt8 := [182, 0, 105, 154, 0, 8, 42, 182, 0, 109, 176, 42, 182, 0, 90, 77, 42, 89, 180, 0, 95, 4, 100]
abbrev dktX6_operand_2 : List UInt8 := dkwX6_operand_2 ++ dktX6_operand_3
def dkwX6_operand_1 : List UInt8 := [187, 0, 100, 89, 27, 183, 0, 102, 176, 27, 16, 33, 159, 0, 9, 27, 16, 45, 160, 0, 65, 42]
abbrev dktX6_operand_1 : List UInt8 := dkwX6_operand_1 ++ dktX6_operand_2
def dkwX6_operand_0 : List UInt8 := [42, 182, 0, 29, 60, 42, 18, 98, 182, 0, 81, 153, 0, 22, 42, 89, 180, 0, 19, 4, 96, 181, 0, 19]
abbrev dktX6_operand_0 : List UInt8 := dkwX6_operand_0 ++ dktX6_operand_1
theorem dksX6_operand_0 : cX6_operand.data.toList.drop 0 = dktX6_operand_0 := by decide +kernel
theorem dksX6_operand_1 : cX6_operand.data.toList.drop 24 = dktX6_operand_1 := dk_seg dksX6_operand_0 24 rfl rfl
theorem dksX6_operand_2 : cX6_operand.data.toList.drop 46 = dktX6_operand_2 := dk_seg dksX6_operand_1 22 rfl rfl
theorem dksX6_operand_3 : cX6_operand.data.toList.drop 69 = dktX6_operand_3 := dk_seg dksX6_operand_2 23 rfl rfl
theorem dksX6_operand_4 : cX6_operand.data.toList.drop 92 = dktX6_operand_4 := dk_seg dksX6_operand_3 23 rfl rfl
theorem dksX6_operand_5 : cX6_operand.data.toList.drop 114 = dktX6_operand_5 := dk_seg dksX6_operand_4 22 rfl rfl
theorem dksX6_operand_6 : cX6_operand.data.toList.drop 138 = dktX6_operand_6 := dk_seg dksX6_operand_5 24 rfl rfl
theorem dksX6_operand_7 : cX6_operand.data.toList.drop 160 = dktX6_operand_7 := dk_seg dksX6_operand_6 22 rfl rfl
theorem dksX6_operand_8 : cX6_operand.data.toList.drop 184 = dktX6_operand_8 := dk_seg dksX6_operand_7 24 rfl rfl
theorem dksX6_operand_9 : cX6_operand.data.toList.drop 207 = dktX6_operand_9 := dk_seg dksX6_operand_8 23 rfl rfl
theorem dksX6_operand_10 : cX6_operand.data.toList.drop 231 = dktX6_operand_10 := dk_seg dksX6_operand_9 24 rfl rfl
theorem dksX6_operand_11 : cX6_operand.data.toList.drop 255 = dktX6_operand_11 := dk_seg dksX6_operand_10 24 rfl rfl
theorem dX6_operand_0 : decode cX6_operand 0 = .ok (.aload_n 0, 1) := dk_42 (dk_at dksX6_operand_0 0 rfl rfl)
theorem dX6_operand_1 : decode cX6_operand 1 = .ok (.invokevirtual 29, 3) := dk_182 0 29 (dk_at dksX6_operand_0 1 rfl rfl)
theorem dX6_operand_4 : decode cX6_operand 4 = .ok (.istore_n 1, 1) := dk_60 (dk_at dksX6_operand_0 4 rfl rfl)
theorem dX6_operand_5 : decode cX6_operand 5 = .ok (.aload_n 0, 1) := dk_42 (dk_at dksX6_operand_0 5 rfl rfl)
theorem dX6_operand_6 : decode cX6_operand 6 = .ok (.ldc 98, 2) := dk_18 98 (dk_at dksX6_operand_0 6 rfl rfl)
theorem dX6_operand_8 : decode cX6_operand 8 = .ok (.invokevirtual 81, 3) := dk_182 0 81 (dk_at dksX6_operand_0 8 rfl rfl)
theorem dX6_operand_11 : decode cX6_operand 11 = .ok (.ifCond .eq 22, 3) := dk_153 0 22 (dk_at dksX6_operand_0 11 rfl rfl)
theorem dX6_operand_14 : decode cX6_operand 14 = .ok (.aload_n 0, 1) := dk_42 (dk_at dksX6_operand_0 14 rfl rfl)
theorem dX6_operand_15 : decode cX6_operand 15 = .ok (.dup, 1) := dk_89 (dk_at dksX6_operand_0 15 rfl rfl)
theorem dX6_operand_16 : decode cX6_operand 16 = .ok (.getfield 19, 3) := dk_180 0 19 (dk_at dksX6_operand_0 16 rfl rfl)
theorem dX6_operand_19 : decode cX6_operand 19 = .ok (.iconst 1, 1) := dk_4 (dk_at dksX6_operand_0 19 rfl rfl)
theorem dX6_operand_20 : decode cX6_operand 20 = .ok (.iadd, 1) := dk_96 (dk_at dksX6_operand_0 20 rfl rfl)
theorem dX6_operand_21 : decode cX6_operand 21 = .ok (.putfield 19, 3) := dk_181 0 19 (dk_at dksX6_operand_0 21 rfl rfl)
theorem dX6_operand_24 : decode cX6_operand 24 = .ok (.new 100, 3) := dk_187 0 100 (dk_at dksX6_operand_1 0 rfl rfl)
theorem dX6_operand_27 : decode cX6_operand 27 = .ok (.dup, 1) := dk_89 (dk_at dksX6_operand_1 3 rfl rfl)
theorem dX6_operand_28 : decode cX6_operand 28 = .ok (.iload_n 1, 1) := dk_27 (dk_at dksX6_operand_1 4 rfl rfl)
theorem dX6_operand_29 : decode cX6_operand 29 = .ok (.invokespecial 102, 3) := dk_183 0 102 (dk_at dksX6_operand_1 5 rfl rfl)
theorem dX6_operand_32 : decode cX6_operand 32 = .ok (.areturn, 1) := dk_176 (dk_at dksX6_operand_1 8 rfl rfl)
theorem dX6_operand_33 : decode cX6_operand 33 = .ok (.iload_n 1, 1) := dk_27 (dk_at dksX6_operand_1 9 rfl rfl)
theorem dX6_operand_34 : decode cX6_operand 34 = .ok (.bipush 33, 2) := dk_16 33 (dk_at dksX6_operand_1 10 rfl rfl)
theorem dX6_operand_36 : decode cX6_operand 36 = .ok (.if_icmp .eq 9, 3) := dk_159 0 9 (dk_at dksX6_operand_1 12 rfl rfl)
theorem dX6_operand_39 : decode cX6_operand 39 = .ok (.iload_n 1, 1) := dk_27 (dk_at dksX6_operand_1 15 rfl rfl)
theorem dX6_operand_40 : decode cX6_operand 40 = .ok (.bipush 45, 2) := dk_16 45 (dk_at dksX6_operand_1 16 rfl rfl)
theorem dX6_operand_42 : decode cX6_operand 42 = .ok (.if_icmp .ne 65, 3) := dk_160 0 65 (dk_at dksX6_operand_1 18 rfl rfl)
theorem dX6_operand_45 : decode cX6_operand 45 = .ok (.aload_n 0, 1) := dk_42 (dk_at dksX6_operand_1 21 rfl rfl)
theorem dX6_operand_46 : decode cX6_operand 46 = .ok (.invokevirtual 105, 3) := dk_182 0 105 (dk_at dksX6_operand_2 0 rfl rfl)
theorem dX6_operand_49 : decode cX6_operand 49 = .ok (.ifCond .ne 8, 3) := dk_154 0 8 (dk_at dksX6_operand_2 3 rfl rfl)
theorem dX6_operand_52 : decode cX6_operand 52 = .ok (.aload_n 0, 1) := dk_42 (dk_at dksX6_operand_2 6 rfl rfl)
theorem dX6_operand_53 : decode cX6_operand 53 = .ok (.invokevirtual 109, 3) := dk_182 0 109 (dk_at dksX6_operand_2 7 rfl rfl)
theorem dX6_operand_56 : decode cX6_operand 56 = .ok (.areturn, 1) := dk_176 (dk_at dksX6_operand_2 10 rfl rfl)
theorem dX6_operand_57 : decode cX6_operand 57 = .ok (.aload_n 0, 1) := dk_42 (dk_at dksX6_operand_2 11 rfl rfl)
theorem dX6_operand_58 : decode cX6_operand 58 = .ok (.invokevirtual 90, 3) := dk_182 0 90 (dk_at dksX6_operand_2 12 rfl rfl)
theorem dX6_operand_61 : decode cX6_operand 61 = .ok (.astore_n 2, 1) := dk_77 (dk_at dksX6_operand_2 15 rfl rfl)
theorem dX6_operand_62 : decode cX6_operand 62 = .ok (.aload_n 0, 1) := dk_42 (dk_at dksX6_operand_2 16 rfl rfl)
theorem dX6_operand_63 : decode cX6_operand 63 = .ok (.dup, 1) := dk_89 (dk_at dksX6_operand_2 17 rfl rfl)
theorem dX6_operand_64 : decode cX6_operand 64 = .ok (.getfield 95, 3) := dk_180 0 95 (dk_at dksX6_operand_2 18 rfl rfl)
theorem dX6_operand_67 : decode cX6_operand 67 = .ok (.iconst 1, 1) := dk_4 (dk_at dksX6_operand_2 21 rfl rfl)
theorem dX6_operand_68 : decode cX6_operand 68 = .ok (.isub, 1) := dk_100 (dk_at dksX6_operand_2 22 rfl rfl)
theorem dX6_operand_69 : decode cX6_operand 69 = .ok (.putfield 95, 3) := dk_181 0 95 (dk_at dksX6_operand_3 0 rfl rfl)
theorem dX6_operand_72 : decode cX6_operand 72 = .ok (.aload_n 0, 1) := dk_42 (dk_at dksX6_operand_3 3 rfl rfl)
theorem dX6_operand_73 : decode cX6_operand 73 = .ok (.getfield 15, 3) := dk_180 0 15 (dk_at dksX6_operand_3 4 rfl rfl)
theorem dX6_operand_76 : decode cX6_operand 76 = .ok (.ifCond .lt 5, 3) := dk_155 0 5 (dk_at dksX6_operand_3 7 rfl rfl)
theorem dX6_operand_79 : decode cX6_operand 79 = .ok (.aconst_null, 1) := dk_1 (dk_at dksX6_operand_3 10 rfl rfl)
theorem dX6_operand_80 : decode cX6_operand 80 = .ok (.areturn, 1) := dk_176 (dk_at dksX6_operand_3 11 rfl rfl)
theorem dX6_operand_81 : decode cX6_operand 81 = .ok (.iload_n 1, 1) := dk_27 (dk_at dksX6_operand_3 12 rfl rfl)
theorem dX6_operand_82 : decode cX6_operand 82 = .ok (.bipush 33, 2) := dk_16 33 (dk_at dksX6_operand_3 13 rfl rfl)
theorem dX6_operand_84 : decode cX6_operand 84 = .ok (.if_icmp .ne 14, 3) := dk_160 0 14 (dk_at dksX6_operand_3 15 rfl rfl)
theorem dX6_operand_87 : decode cX6_operand 87 = .ok (.new 112, 3) := dk_187 0 112 (dk_at dksX6_operand_3 18 rfl rfl)
theorem dX6_operand_90 : decode cX6_operand 90 = .ok (.dup, 1) := dk_89 (dk_at dksX6_operand_3 21 rfl rfl)
theorem dX6_operand_91 : decode cX6_operand 91 = .ok (.aload_n 2, 1) := dk_44 (dk_at dksX6_operand_3 22 rfl rfl)
theorem dX6_operand_92 : decode cX6_operand 92 = .ok (.invokespecial 114, 3) := dk_183 0 114 (dk_at dksX6_operand_4 0 rfl rfl)
theorem dX6_operand_95 : decode cX6_operand 95 = .ok (.goto 11, 3) := dk_167 0 11 (dk_at dksX6_operand_4 3 rfl rfl)
theorem dX6_operand_98 : decode cX6_operand 98 = .ok (.new 117, 3) := dk_187 0 117 (dk_at dksX6_operand_4 6 rfl rfl)
theorem dX6_operand_101 : decode cX6_operand 101 = .ok (.dup, 1) := dk_89 (dk_at dksX6_operand_4 9 rfl rfl)
theorem dX6_operand_102 : decode cX6_operand 102 = .ok (.aload_n 2, 1) := dk_44 (dk_at dksX6_operand_4 10 rfl rfl)
theorem dX6_operand_103 : decode cX6_operand 103 = .ok (.invokespecial 119, 3) := dk_183 0 119 (dk_at dksX6_operand_4 11 rfl rfl)
theorem dX6_operand_106 : decode cX6_operand 106 = .ok (.areturn, 1) := dk_176 (dk_at dksX6_operand_4 14 rfl rfl)
theorem dX6_operand_107 : decode cX6_operand 107 = .ok (.iload_n 1, 1) := dk_27 (dk_at dksX6_operand_4 15 rfl rfl)
theorem dX6_operand_108 : decode cX6_operand 108 = .ok (.bipush 40, 2) := dk_16 40 (dk_at dksX6_operand_4 16 rfl rfl)
theorem dX6_operand_110 : decode cX6_operand 110 = .ok (.if_icmp .ne 65, 3) := dk_160 0 65 (dk_at dksX6_operand_4 18 rfl rfl)
theorem dX6_operand_113 : decode cX6_operand 113 = .ok (.aload_n 0, 1) := dk_42 (dk_at dksX6_operand_4 21 rfl rfl)
theorem dX6_operand_114 : decode cX6_operand 114 = .ok (.invokevirtual 105, 3) := dk_182 0 105 (dk_at dksX6_operand_5 0 rfl rfl)
theorem dX6_operand_117 : decode cX6_operand 117 = .ok (.ifCond .ne 8, 3) := dk_154 0 8 (dk_at dksX6_operand_5 3 rfl rfl)
theorem dX6_operand_120 : decode cX6_operand 120 = .ok (.aload_n 0, 1) := dk_42 (dk_at dksX6_operand_5 6 rfl rfl)
theorem dX6_operand_121 : decode cX6_operand 121 = .ok (.invokevirtual 109, 3) := dk_182 0 109 (dk_at dksX6_operand_5 7 rfl rfl)
theorem dX6_operand_124 : decode cX6_operand 124 = .ok (.areturn, 1) := dk_176 (dk_at dksX6_operand_5 10 rfl rfl)
theorem dX6_operand_125 : decode cX6_operand 125 = .ok (.aload_n 0, 1) := dk_42 (dk_at dksX6_operand_5 11 rfl rfl)
theorem dX6_operand_126 : decode cX6_operand 126 = .ok (.invokevirtual 50, 3) := dk_182 0 50 (dk_at dksX6_operand_5 12 rfl rfl)
theorem dX6_operand_129 : decode cX6_operand 129 = .ok (.astore_n 2, 1) := dk_77 (dk_at dksX6_operand_5 15 rfl rfl)
theorem dX6_operand_130 : decode cX6_operand 130 = .ok (.aload_n 0, 1) := dk_42 (dk_at dksX6_operand_5 16 rfl rfl)
theorem dX6_operand_131 : decode cX6_operand 131 = .ok (.getfield 15, 3) := dk_180 0 15 (dk_at dksX6_operand_5 17 rfl rfl)
theorem dX6_operand_134 : decode cX6_operand 134 = .ok (.ifCond .lt 5, 3) := dk_155 0 5 (dk_at dksX6_operand_5 20 rfl rfl)
theorem dX6_operand_137 : decode cX6_operand 137 = .ok (.aconst_null, 1) := dk_1 (dk_at dksX6_operand_5 23 rfl rfl)
theorem dX6_operand_138 : decode cX6_operand 138 = .ok (.areturn, 1) := dk_176 (dk_at dksX6_operand_6 0 rfl rfl)
theorem dX6_operand_139 : decode cX6_operand 139 = .ok (.aload_n 0, 1) := dk_42 (dk_at dksX6_operand_6 1 rfl rfl)
theorem dX6_operand_140 : decode cX6_operand 140 = .ok (.invokevirtual 29, 3) := dk_182 0 29 (dk_at dksX6_operand_6 2 rfl rfl)
theorem dX6_operand_143 : decode cX6_operand 143 = .ok (.bipush 41, 2) := dk_16 41 (dk_at dksX6_operand_6 5 rfl rfl)
theorem dX6_operand_145 : decode cX6_operand 145 = .ok (.if_icmp .eq 8, 3) := dk_159 0 8 (dk_at dksX6_operand_6 7 rfl rfl)
theorem dX6_operand_148 : decode cX6_operand 148 = .ok (.aload_n 0, 1) := dk_42 (dk_at dksX6_operand_6 10 rfl rfl)
theorem dX6_operand_149 : decode cX6_operand 149 = .ok (.invokevirtual 109, 3) := dk_182 0 109 (dk_at dksX6_operand_6 11 rfl rfl)
theorem dX6_operand_152 : decode cX6_operand 152 = .ok (.areturn, 1) := dk_176 (dk_at dksX6_operand_6 14 rfl rfl)
theorem dX6_operand_153 : decode cX6_operand 153 = .ok (.aload_n 0, 1) := dk_42 (dk_at dksX6_operand_6 15 rfl rfl)
theorem dX6_operand_154 : decode cX6_operand 154 = .ok (.dup, 1) := dk_89 (dk_at dksX6_operand_6 16 rfl rfl)
theorem dX6_operand_155 : decode cX6_operand 155 = .ok (.getfield 19, 3) := dk_180 0 19 (dk_at dksX6_operand_6 17 rfl rfl)
theorem dX6_operand_158 : decode cX6_operand 158 = .ok (.iconst 1, 1) := dk_4 (dk_at dksX6_operand_6 20 rfl rfl)
theorem dX6_operand_159 : decode cX6_operand 159 = .ok (.iadd, 1) := dk_96 (dk_at dksX6_operand_6 21 rfl rfl)
theorem dX6_operand_160 : decode cX6_operand 160 = .ok (.putfield 19, 3) := dk_181 0 19 (dk_at dksX6_operand_7 0 rfl rfl)
theorem dX6_operand_163 : decode cX6_operand 163 = .ok (.aload_n 0, 1) := dk_42 (dk_at dksX6_operand_7 3 rfl rfl)
theorem dX6_operand_164 : decode cX6_operand 164 = .ok (.dup, 1) := dk_89 (dk_at dksX6_operand_7 4 rfl rfl)
theorem dX6_operand_165 : decode cX6_operand 165 = .ok (.getfield 95, 3) := dk_180 0 95 (dk_at dksX6_operand_7 5 rfl rfl)
theorem dX6_operand_168 : decode cX6_operand 168 = .ok (.iconst 1, 1) := dk_4 (dk_at dksX6_operand_7 8 rfl rfl)
theorem dX6_operand_169 : decode cX6_operand 169 = .ok (.isub, 1) := dk_100 (dk_at dksX6_operand_7 9 rfl rfl)
theorem dX6_operand_170 : decode cX6_operand 170 = .ok (.putfield 95, 3) := dk_181 0 95 (dk_at dksX6_operand_7 10 rfl rfl)
theorem dX6_operand_173 : decode cX6_operand 173 = .ok (.aload_n 2, 1) := dk_44 (dk_at dksX6_operand_7 13 rfl rfl)
theorem dX6_operand_174 : decode cX6_operand 174 = .ok (.areturn, 1) := dk_176 (dk_at dksX6_operand_7 14 rfl rfl)
theorem dX6_operand_175 : decode cX6_operand 175 = .ok (.iconst 0, 1) := dk_3 (dk_at dksX6_operand_7 15 rfl rfl)
theorem dX6_operand_176 : decode cX6_operand 176 = .ok (.istore_n 2, 1) := dk_61 (dk_at dksX6_operand_7 16 rfl rfl)
theorem dX6_operand_177 : decode cX6_operand 177 = .ok (.iconst 0, 1) := dk_3 (dk_at dksX6_operand_7 17 rfl rfl)
theorem dX6_operand_178 : decode cX6_operand 178 = .ok (.istore_n 3, 1) := dk_62 (dk_at dksX6_operand_7 18 rfl rfl)
theorem dX6_operand_179 : decode cX6_operand 179 = .ok (.iload_n 2, 1) := dk_28 (dk_at dksX6_operand_7 19 rfl rfl)
theorem dX6_operand_180 : decode cX6_operand 180 = .ok (.iconst 4, 1) := dk_7 (dk_at dksX6_operand_7 20 rfl rfl)
theorem dX6_operand_181 : decode cX6_operand 181 = .ok (.if_icmp .ge 46, 3) := dk_162 0 46 (dk_at dksX6_operand_7 21 rfl rfl)
theorem dX6_operand_184 : decode cX6_operand 184 = .ok (.aload_n 0, 1) := dk_42 (dk_at dksX6_operand_8 0 rfl rfl)
theorem dX6_operand_185 : decode cX6_operand 185 = .ok (.invokevirtual 29, 3) := dk_182 0 29 (dk_at dksX6_operand_8 1 rfl rfl)
theorem dX6_operand_188 : decode cX6_operand 188 = .ok (.bipush 48, 2) := dk_16 48 (dk_at dksX6_operand_8 4 rfl rfl)
theorem dX6_operand_190 : decode cX6_operand 190 = .ok (.bipush 57, 2) := dk_16 57 (dk_at dksX6_operand_8 6 rfl rfl)
theorem dX6_operand_192 : decode cX6_operand 192 = .ok (.invokestatic 120, 3) := dk_184 0 120 (dk_at dksX6_operand_8 8 rfl rfl)
theorem dX6_operand_195 : decode cX6_operand 195 = .ok (.ifCond .eq 32, 3) := dk_153 0 32 (dk_at dksX6_operand_8 11 rfl rfl)
theorem dX6_operand_198 : decode cX6_operand 198 = .ok (.bipush 10, 2) := dk_16 10 (dk_at dksX6_operand_8 14 rfl rfl)
theorem dX6_operand_200 : decode cX6_operand 200 = .ok (.iload_n 3, 1) := dk_29 (dk_at dksX6_operand_8 16 rfl rfl)
theorem dX6_operand_201 : decode cX6_operand 201 = .ok (.imul, 1) := dk_104 (dk_at dksX6_operand_8 17 rfl rfl)
theorem dX6_operand_202 : decode cX6_operand 202 = .ok (.aload_n 0, 1) := dk_42 (dk_at dksX6_operand_8 18 rfl rfl)
theorem dX6_operand_203 : decode cX6_operand 203 = .ok (.invokevirtual 29, 3) := dk_182 0 29 (dk_at dksX6_operand_8 19 rfl rfl)
theorem dX6_operand_206 : decode cX6_operand 206 = .ok (.iadd, 1) := dk_96 (dk_at dksX6_operand_8 22 rfl rfl)
theorem dX6_operand_207 : decode cX6_operand 207 = .ok (.bipush 48, 2) := dk_16 48 (dk_at dksX6_operand_9 0 rfl rfl)
theorem dX6_operand_209 : decode cX6_operand 209 = .ok (.isub, 1) := dk_100 (dk_at dksX6_operand_9 2 rfl rfl)
theorem dX6_operand_210 : decode cX6_operand 210 = .ok (.istore_n 3, 1) := dk_62 (dk_at dksX6_operand_9 3 rfl rfl)
theorem dX6_operand_211 : decode cX6_operand 211 = .ok (.iinc 2 1, 3) := dk_132 2 1 (dk_at dksX6_operand_9 4 rfl rfl)
theorem dX6_operand_214 : decode cX6_operand 214 = .ok (.aload_n 0, 1) := dk_42 (dk_at dksX6_operand_9 7 rfl rfl)
theorem dX6_operand_215 : decode cX6_operand 215 = .ok (.dup, 1) := dk_89 (dk_at dksX6_operand_9 8 rfl rfl)
theorem dX6_operand_216 : decode cX6_operand 216 = .ok (.getfield 19, 3) := dk_180 0 19 (dk_at dksX6_operand_9 9 rfl rfl)
theorem dX6_operand_219 : decode cX6_operand 219 = .ok (.iconst 1, 1) := dk_4 (dk_at dksX6_operand_9 12 rfl rfl)
theorem dX6_operand_220 : decode cX6_operand 220 = .ok (.iadd, 1) := dk_96 (dk_at dksX6_operand_9 13 rfl rfl)
theorem dX6_operand_221 : decode cX6_operand 221 = .ok (.putfield 19, 3) := dk_181 0 19 (dk_at dksX6_operand_9 14 rfl rfl)
theorem dX6_operand_224 : decode cX6_operand 224 = .ok (.goto (-45), 3) := dk_167 255 211 (dk_at dksX6_operand_9 17 rfl rfl)
theorem dX6_operand_227 : decode cX6_operand 227 = .ok (.iload_n 2, 1) := dk_28 (dk_at dksX6_operand_9 20 rfl rfl)
theorem dX6_operand_228 : decode cX6_operand 228 = .ok (.ifCond .eq 17, 3) := dk_153 0 17 (dk_at dksX6_operand_9 21 rfl rfl)
theorem dX6_operand_231 : decode cX6_operand 231 = .ok (.aload_n 0, 1) := dk_42 (dk_at dksX6_operand_10 0 rfl rfl)
theorem dX6_operand_232 : decode cX6_operand 232 = .ok (.invokevirtual 29, 3) := dk_182 0 29 (dk_at dksX6_operand_10 1 rfl rfl)
theorem dX6_operand_235 : decode cX6_operand 235 = .ok (.bipush 48, 2) := dk_16 48 (dk_at dksX6_operand_10 4 rfl rfl)
theorem dX6_operand_237 : decode cX6_operand 237 = .ok (.bipush 57, 2) := dk_16 57 (dk_at dksX6_operand_10 6 rfl rfl)
theorem dX6_operand_239 : decode cX6_operand 239 = .ok (.invokestatic 120, 3) := dk_184 0 120 (dk_at dksX6_operand_10 8 rfl rfl)
theorem dX6_operand_242 : decode cX6_operand 242 = .ok (.ifCond .eq 10, 3) := dk_153 0 10 (dk_at dksX6_operand_10 11 rfl rfl)
theorem dX6_operand_245 : decode cX6_operand 245 = .ok (.aload_n 0, 1) := dk_42 (dk_at dksX6_operand_10 14 rfl rfl)
theorem dX6_operand_246 : decode cX6_operand 246 = .ok (.invokevirtual 109, 3) := dk_182 0 109 (dk_at dksX6_operand_10 15 rfl rfl)
theorem dX6_operand_249 : decode cX6_operand 249 = .ok (.goto 11, 3) := dk_167 0 11 (dk_at dksX6_operand_10 18 rfl rfl)
theorem dX6_operand_252 : decode cX6_operand 252 = .ok (.new 124, 3) := dk_187 0 124 (dk_at dksX6_operand_10 21 rfl rfl)
theorem dX6_operand_255 : decode cX6_operand 255 = .ok (.dup, 1) := dk_89 (dk_at dksX6_operand_11 0 rfl rfl)
theorem dX6_operand_256 : decode cX6_operand 256 = .ok (.iload_n 3, 1) := dk_29 (dk_at dksX6_operand_11 1 rfl rfl)
theorem dX6_operand_257 : decode cX6_operand 257 = .ok (.invokespecial 126, 3) := dk_183 0 126 (dk_at dksX6_operand_11 2 rfl rfl)
theorem dX6_operand_260 : decode cX6_operand 260 = .ok (.areturn, 1) := dk_176 (dk_at dksX6_operand_11 5 rfl rfl)
abbrev cX6_here : ByteArray := prog_25_method_2_code
def yX6_here : MethodName := ⟨RX6, "here", "()I"⟩
def dkwX6_here_1 : List UInt8 := [180, 0, 19, 51, 167, 0, 4, 2, 172]
abbrev dktX6_here_1 : List UInt8 := dkwX6_here_1 ++ []
def dkwX6_here_0 : List UInt8 := [42, 180, 0, 19, 42, 180, 0, 3, 180, 0, 22, 162, 0, 18, 42, 180, 0, 3, 180, 0, 25, 42]
abbrev dktX6_here_0 : List UInt8 := dkwX6_here_0 ++ dktX6_here_1
theorem dksX6_here_0 : cX6_here.data.toList.drop 0 = dktX6_here_0 := by decide +kernel
theorem dksX6_here_1 : cX6_here.data.toList.drop 22 = dktX6_here_1 := dk_seg dksX6_here_0 22 rfl rfl
theorem dX6_here_0 : decode cX6_here 0 = .ok (.aload_n 0, 1) := dk_42 (dk_at dksX6_here_0 0 rfl rfl)
theorem dX6_here_1 : decode cX6_here 1 = .ok (.getfield 19, 3) := dk_180 0 19 (dk_at dksX6_here_0 1 rfl rfl)
theorem dX6_here_4 : decode cX6_here 4 = .ok (.aload_n 0, 1) := dk_42 (dk_at dksX6_here_0 4 rfl rfl)
theorem dX6_here_5 : decode cX6_here 5 = .ok (.getfield 3, 3) := dk_180 0 3 (dk_at dksX6_here_0 5 rfl rfl)
theorem dX6_here_8 : decode cX6_here 8 = .ok (.getfield 22, 3) := dk_180 0 22 (dk_at dksX6_here_0 8 rfl rfl)
theorem dX6_here_11 : decode cX6_here 11 = .ok (.if_icmp .ge 18, 3) := dk_162 0 18 (dk_at dksX6_here_0 11 rfl rfl)
theorem dX6_here_14 : decode cX6_here 14 = .ok (.aload_n 0, 1) := dk_42 (dk_at dksX6_here_0 14 rfl rfl)
theorem dX6_here_15 : decode cX6_here 15 = .ok (.getfield 3, 3) := dk_180 0 3 (dk_at dksX6_here_0 15 rfl rfl)
theorem dX6_here_18 : decode cX6_here 18 = .ok (.getfield 25, 3) := dk_180 0 25 (dk_at dksX6_here_0 18 rfl rfl)
theorem dX6_here_21 : decode cX6_here 21 = .ok (.aload_n 0, 1) := dk_42 (dk_at dksX6_here_0 21 rfl rfl)
theorem dX6_here_22 : decode cX6_here 22 = .ok (.getfield 19, 3) := dk_180 0 19 (dk_at dksX6_here_1 0 rfl rfl)
theorem dX6_here_25 : decode cX6_here 25 = .ok (.baload, 1) := dk_51 (dk_at dksX6_here_1 3 rfl rfl)
theorem dX6_here_26 : decode cX6_here 26 = .ok (.goto 4, 3) := dk_167 0 4 (dk_at dksX6_here_1 4 rfl rfl)
theorem dX6_here_29 : decode cX6_here 29 = .ok (.iconst (-1), 1) := dk_2 (dk_at dksX6_here_1 7 rfl rfl)
theorem dX6_here_30 : decode cX6_here 30 = .ok (.ireturn, 1) := dk_172 (dk_at dksX6_here_1 8 rfl rfl)
abbrev cX6_isOne : ByteArray := prog_25_method_3_code
def yX6_isOne : MethodName := ⟨RX6, "isOne", "(Ljava/lang/String;)Z"⟩
def dkwX6_isOne_0 : List UInt8 := [42, 182, 0, 29, 155, 0, 18, 43, 42, 182, 0, 29, 182, 0, 33, 155, 0, 7, 4, 167, 0, 4, 3, 172]
abbrev dktX6_isOne_0 : List UInt8 := dkwX6_isOne_0 ++ []
theorem dksX6_isOne_0 : cX6_isOne.data.toList.drop 0 = dktX6_isOne_0 := by decide +kernel
theorem dX6_isOne_0 : decode cX6_isOne 0 = .ok (.aload_n 0, 1) := dk_42 (dk_at dksX6_isOne_0 0 rfl rfl)
theorem dX6_isOne_1 : decode cX6_isOne 1 = .ok (.invokevirtual 29, 3) := dk_182 0 29 (dk_at dksX6_isOne_0 1 rfl rfl)
theorem dX6_isOne_4 : decode cX6_isOne 4 = .ok (.ifCond .lt 18, 3) := dk_155 0 18 (dk_at dksX6_isOne_0 4 rfl rfl)
theorem dX6_isOne_7 : decode cX6_isOne 7 = .ok (.aload_n 1, 1) := dk_43 (dk_at dksX6_isOne_0 7 rfl rfl)
theorem dX6_isOne_8 : decode cX6_isOne 8 = .ok (.aload_n 0, 1) := dk_42 (dk_at dksX6_isOne_0 8 rfl rfl)
theorem dX6_isOne_9 : decode cX6_isOne 9 = .ok (.invokevirtual 29, 3) := dk_182 0 29 (dk_at dksX6_isOne_0 9 rfl rfl)
theorem dX6_isOne_12 : decode cX6_isOne 12 = .ok (.invokevirtual 33, 3) := dk_182 0 33 (dk_at dksX6_isOne_0 12 rfl rfl)
theorem dX6_isOne_15 : decode cX6_isOne 15 = .ok (.ifCond .lt 7, 3) := dk_155 0 7 (dk_at dksX6_isOne_0 15 rfl rfl)
theorem dX6_isOne_18 : decode cX6_isOne 18 = .ok (.iconst 1, 1) := dk_4 (dk_at dksX6_isOne_0 18 rfl rfl)
theorem dX6_isOne_19 : decode cX6_isOne 19 = .ok (.goto 4, 3) := dk_167 0 4 (dk_at dksX6_isOne_0 19 rfl rfl)
theorem dX6_isOne_22 : decode cX6_isOne 22 = .ok (.iconst 0, 1) := dk_3 (dk_at dksX6_isOne_0 22 rfl rfl)
theorem dX6_isOne_23 : decode cX6_isOne 23 = .ok (.ireturn, 1) := dk_172 (dk_at dksX6_isOne_0 23 rfl rfl)
abbrev cX6_opens : ByteArray := prog_25_method_13_code
def yX6_opens : MethodName := ⟨RX6, "opens", "()Z"⟩
def dkwX6_opens_1 : List UInt8 := [180, 0, 19, 4, 96, 181, 0, 19, 4, 172]
abbrev dktX6_opens_1 : List UInt8 := dkwX6_opens_1 ++ []
def dkwX6_opens_0 : List UInt8 := [42, 180, 0, 95, 16, 6, 160, 0, 5, 3, 172, 42, 89, 180, 0, 95, 4, 96, 181, 0, 95, 42, 89]
abbrev dktX6_opens_0 : List UInt8 := dkwX6_opens_0 ++ dktX6_opens_1
theorem dksX6_opens_0 : cX6_opens.data.toList.drop 0 = dktX6_opens_0 := by decide +kernel
theorem dksX6_opens_1 : cX6_opens.data.toList.drop 23 = dktX6_opens_1 := dk_seg dksX6_opens_0 23 rfl rfl
theorem dX6_opens_0 : decode cX6_opens 0 = .ok (.aload_n 0, 1) := dk_42 (dk_at dksX6_opens_0 0 rfl rfl)
theorem dX6_opens_1 : decode cX6_opens 1 = .ok (.getfield 95, 3) := dk_180 0 95 (dk_at dksX6_opens_0 1 rfl rfl)
theorem dX6_opens_4 : decode cX6_opens 4 = .ok (.bipush 6, 2) := dk_16 6 (dk_at dksX6_opens_0 4 rfl rfl)
theorem dX6_opens_6 : decode cX6_opens 6 = .ok (.if_icmp .ne 5, 3) := dk_160 0 5 (dk_at dksX6_opens_0 6 rfl rfl)
theorem dX6_opens_9 : decode cX6_opens 9 = .ok (.iconst 0, 1) := dk_3 (dk_at dksX6_opens_0 9 rfl rfl)
theorem dX6_opens_10 : decode cX6_opens 10 = .ok (.ireturn, 1) := dk_172 (dk_at dksX6_opens_0 10 rfl rfl)
theorem dX6_opens_11 : decode cX6_opens 11 = .ok (.aload_n 0, 1) := dk_42 (dk_at dksX6_opens_0 11 rfl rfl)
theorem dX6_opens_12 : decode cX6_opens 12 = .ok (.dup, 1) := dk_89 (dk_at dksX6_opens_0 12 rfl rfl)
theorem dX6_opens_13 : decode cX6_opens 13 = .ok (.getfield 95, 3) := dk_180 0 95 (dk_at dksX6_opens_0 13 rfl rfl)
theorem dX6_opens_16 : decode cX6_opens 16 = .ok (.iconst 1, 1) := dk_4 (dk_at dksX6_opens_0 16 rfl rfl)
theorem dX6_opens_17 : decode cX6_opens 17 = .ok (.iadd, 1) := dk_96 (dk_at dksX6_opens_0 17 rfl rfl)
theorem dX6_opens_18 : decode cX6_opens 18 = .ok (.putfield 95, 3) := dk_181 0 95 (dk_at dksX6_opens_0 18 rfl rfl)
theorem dX6_opens_21 : decode cX6_opens 21 = .ok (.aload_n 0, 1) := dk_42 (dk_at dksX6_opens_0 21 rfl rfl)
theorem dX6_opens_22 : decode cX6_opens 22 = .ok (.dup, 1) := dk_89 (dk_at dksX6_opens_0 22 rfl rfl)
theorem dX6_opens_23 : decode cX6_opens 23 = .ok (.getfield 19, 3) := dk_180 0 19 (dk_at dksX6_opens_1 0 rfl rfl)
theorem dX6_opens_26 : decode cX6_opens 26 = .ok (.iconst 1, 1) := dk_4 (dk_at dksX6_opens_1 3 rfl rfl)
theorem dX6_opens_27 : decode cX6_opens 27 = .ok (.iadd, 1) := dk_96 (dk_at dksX6_opens_1 4 rfl rfl)
theorem dX6_opens_28 : decode cX6_opens 28 = .ok (.putfield 19, 3) := dk_181 0 19 (dk_at dksX6_opens_1 5 rfl rfl)
theorem dX6_opens_31 : decode cX6_opens 31 = .ok (.iconst 1, 1) := dk_4 (dk_at dksX6_opens_1 8 rfl rfl)
theorem dX6_opens_32 : decode cX6_opens 32 = .ok (.ireturn, 1) := dk_172 (dk_at dksX6_opens_1 9 rfl rfl)
abbrev cX6_wrong : ByteArray := prog_25_method_4_code
def yX6_wrong : MethodName := ⟨RX6, "wrong", "()LHeadReckons$Node;"⟩
def dkwX6_wrong_0 : List UInt8 := [42, 180, 0, 15, 156, 0, 11, 42, 42, 180, 0, 19, 181, 0, 15, 1, 176]
abbrev dktX6_wrong_0 : List UInt8 := dkwX6_wrong_0 ++ []
theorem dksX6_wrong_0 : cX6_wrong.data.toList.drop 0 = dktX6_wrong_0 := by decide +kernel
theorem dX6_wrong_0 : decode cX6_wrong 0 = .ok (.aload_n 0, 1) := dk_42 (dk_at dksX6_wrong_0 0 rfl rfl)
theorem dX6_wrong_1 : decode cX6_wrong 1 = .ok (.getfield 15, 3) := dk_180 0 15 (dk_at dksX6_wrong_0 1 rfl rfl)
theorem dX6_wrong_4 : decode cX6_wrong 4 = .ok (.ifCond .ge 11, 3) := dk_156 0 11 (dk_at dksX6_wrong_0 4 rfl rfl)
theorem dX6_wrong_7 : decode cX6_wrong 7 = .ok (.aload_n 0, 1) := dk_42 (dk_at dksX6_wrong_0 7 rfl rfl)
theorem dX6_wrong_8 : decode cX6_wrong 8 = .ok (.aload_n 0, 1) := dk_42 (dk_at dksX6_wrong_0 8 rfl rfl)
theorem dX6_wrong_9 : decode cX6_wrong 9 = .ok (.getfield 19, 3) := dk_180 0 19 (dk_at dksX6_wrong_0 9 rfl rfl)
theorem dX6_wrong_12 : decode cX6_wrong 12 = .ok (.putfield 15, 3) := dk_181 0 15 (dk_at dksX6_wrong_0 12 rfl rfl)
theorem dX6_wrong_15 : decode cX6_wrong 15 = .ok (.aconst_null, 1) := dk_1 (dk_at dksX6_wrong_0 15 rfl rfl)
theorem dX6_wrong_16 : decode cX6_wrong 16 = .ok (.areturn, 1) := dk_176 (dk_at dksX6_wrong_0 16 rfl rfl)
abbrev cX6_joined : ByteArray := prog_25_method_7_code
def yX6_joined : MethodName := ⟨RX6, "joined", "(ILHeadReckons$Node;LHeadReckons$Node;)LHeadReckons$Node;"⟩
def dkwX6_joined_0 : List UInt8 := [42, 180, 0, 15, 155, 0, 7, 1, 167, 0, 13, 187, 0, 61, 89, 27, 44, 45, 183, 0, 63, 176]
abbrev dktX6_joined_0 : List UInt8 := dkwX6_joined_0 ++ []
theorem dksX6_joined_0 : cX6_joined.data.toList.drop 0 = dktX6_joined_0 := by decide +kernel
theorem dX6_joined_0 : decode cX6_joined 0 = .ok (.aload_n 0, 1) := dk_42 (dk_at dksX6_joined_0 0 rfl rfl)
theorem dX6_joined_1 : decode cX6_joined 1 = .ok (.getfield 15, 3) := dk_180 0 15 (dk_at dksX6_joined_0 1 rfl rfl)
theorem dX6_joined_4 : decode cX6_joined 4 = .ok (.ifCond .lt 7, 3) := dk_155 0 7 (dk_at dksX6_joined_0 4 rfl rfl)
theorem dX6_joined_7 : decode cX6_joined 7 = .ok (.aconst_null, 1) := dk_1 (dk_at dksX6_joined_0 7 rfl rfl)
theorem dX6_joined_8 : decode cX6_joined 8 = .ok (.goto 13, 3) := dk_167 0 13 (dk_at dksX6_joined_0 8 rfl rfl)
theorem dX6_joined_11 : decode cX6_joined 11 = .ok (.new 61, 3) := dk_187 0 61 (dk_at dksX6_joined_0 11 rfl rfl)
theorem dX6_joined_14 : decode cX6_joined 14 = .ok (.dup, 1) := dk_89 (dk_at dksX6_joined_0 14 rfl rfl)
theorem dX6_joined_15 : decode cX6_joined 15 = .ok (.iload_n 1, 1) := dk_27 (dk_at dksX6_joined_0 15 rfl rfl)
theorem dX6_joined_16 : decode cX6_joined 16 = .ok (.aload_n 2, 1) := dk_44 (dk_at dksX6_joined_0 16 rfl rfl)
theorem dX6_joined_17 : decode cX6_joined 17 = .ok (.aload_n 3, 1) := dk_45 (dk_at dksX6_joined_0 17 rfl rfl)
theorem dX6_joined_18 : decode cX6_joined 18 = .ok (.invokespecial 63, 3) := dk_183 0 63 (dk_at dksX6_joined_0 18 rfl rfl)
theorem dX6_joined_21 : decode cX6_joined 21 = .ok (.areturn, 1) := dk_176 (dk_at dksX6_joined_0 21 rfl rfl)
theorem q98 : (Jvm.Cond.initialized "HeadReckons$Reader") ∈ lw_all := lw_g (lw_at lw_m1 7 rfl) rfl
theorem q253 : (Jvm.Cond.fieldLinkNest "HeadReckons$Reader" (25 : Nat) "HeadReckons" "tape" "[B" "HeadReckons") ∈ lw_tbl := lw_at lw_m1 162 rfl
theorem q254 : (Jvm.Cond.fieldLinkNest "HeadReckons$Reader" (22 : Nat) "HeadReckons" "taped" "I" "HeadReckons") ∈ lw_tbl := lw_at lw_m1 163 rfl
theorem q389 : (Jvm.Cond.instantiable "HeadReckons$Reader" (4 : Nat)) ∈ lw_all := lw_g (lw_at lw_m2 58 rfl) rfl
theorem q391 : (Jvm.Cond.instanceMethod ({ cls := "HeadReckons$Reader", name := "<init>", desc := "(LHeadReckons;)V" } : Jvm.MethodName)) ∈ lw_all := lw_g (lw_at lw_m2 60 rfl) rfl
theorem q392 : (Jvm.Cond.code ({ cls := "HeadReckons$Reader", name := "<init>", desc := "(LHeadReckons;)V" } : Jvm.MethodName) prog_25_method_1_code (2 : Nat) (Option.none : Option Jvm.ClassFile.FieldType)) ∈ lw_all := lw_g (lw_at lw_m2 61 rfl) rfl
theorem q393 : (Jvm.Cond.methodLink "HeadReckons$Reader" (9 : Nat) ({ cls := "java/lang/Object", name := "<init>", desc := "()V" } : Jvm.MethodName)) ∈ lw_all := lw_g (lw_at lw_m2 62 rfl) rfl
theorem q394 : (Jvm.Cond.fieldLink "HeadReckons$Reader" (19 : Nat) "HeadReckons$Reader" "at" "I") ∈ lw_all := lw_g (lw_at lw_m2 63 rfl) rfl
theorem q395 : (Jvm.Cond.fieldLink "HeadReckons$Reader" (15 : Nat) "HeadReckons$Reader" "fault" "I") ∈ lw_all := lw_g (lw_at lw_m2 64 rfl) rfl
theorem q397 : (Jvm.Cond.fieldLink "HeadReckons$Reader" (95 : Nat) "HeadReckons$Reader" "open" "I") ∈ lw_all := lw_g (lw_at lw_m2 66 rfl) rfl
theorem q398 : (Jvm.Cond.fieldLink "HeadReckons$Reader" (3 : Nat) "HeadReckons$Reader" "this$0" "LHeadReckons;") ∈ lw_all := lw_g (lw_at lw_m2 67 rfl) rfl
theorem q399 : (Jvm.Cond.lays "HeadReckons$Reader" "HeadReckons$Reader" "at" "I") ∈ lw_all := lw_g (lw_at lw_m2 68 rfl) rfl
theorem q400 : (Jvm.Cond.soleField "HeadReckons$Reader" "at") ∈ lw_all := lw_g (lw_at lw_m2 69 rfl) rfl
theorem q401 : (Jvm.Cond.lays "HeadReckons$Reader" "HeadReckons$Reader" "fault" "I") ∈ lw_all := lw_g (lw_at lw_m2 70 rfl) rfl
theorem q402 : (Jvm.Cond.soleField "HeadReckons$Reader" "fault") ∈ lw_all := lw_g (lw_at lw_m2 71 rfl) rfl
theorem q403 : (Jvm.Cond.lays "HeadReckons$Reader" "HeadReckons$Reader" "open" "I") ∈ lw_all := lw_g (lw_at lw_m2 72 rfl) rfl
theorem q404 : (Jvm.Cond.soleField "HeadReckons$Reader" "open") ∈ lw_all := lw_g (lw_at lw_m2 73 rfl) rfl
theorem q405 : (Jvm.Cond.laysFinal "HeadReckons$Reader" "HeadReckons$Reader" "this$0" "LHeadReckons;") ∈ lw_all := lw_g (lw_at lw_m2 74 rfl) rfl
theorem q406 : (Jvm.Cond.soleField "HeadReckons$Reader" "this$0") ∈ lw_all := lw_g (lw_at lw_m2 75 rfl) rfl
theorem q407 : (Jvm.Cond.superclass "HeadReckons$Reader" "java/lang/Object") ∈ lw_all := lw_g (lw_at lw_m2 76 rfl) rfl
theorem q409 : (Jvm.Cond.instanceMethod ({ cls := "HeadReckons$Reader", name := "lines", desc := "()LHeadReckons$Line;" } : Jvm.MethodName)) ∈ lw_all := lw_g (lw_at lw_m2 78 rfl) rfl
theorem q410 : (Jvm.Cond.selects "HeadReckons$Reader" ({ cls := "HeadReckons$Reader", name := "lines", desc := "()LHeadReckons$Line;" } : Jvm.MethodName) ({ cls := "HeadReckons$Reader", name := "lines", desc := "()LHeadReckons$Line;" } : Jvm.MethodName)) ∈ lw_all := lw_g (lw_at lw_m2 79 rfl) rfl
theorem q411 : (Jvm.Cond.code ({ cls := "HeadReckons$Reader", name := "lines", desc := "()LHeadReckons$Line;" } : Jvm.MethodName) prog_25_method_5_code (3 : Nat) (Option.some (Jvm.ClassFile.FieldType.object "HeadReckons$Line"))) ∈ lw_all := lw_g (lw_at lw_m2 80 rfl) rfl
theorem q412 : (Jvm.Cond.methodLink "HeadReckons$Reader" (39 : Nat) ({ cls := "HeadReckons$Reader", name := "line", desc := "()LHeadReckons$Line;" } : Jvm.MethodName)) ∈ lw_all := lw_g (lw_at lw_m2 81 rfl) rfl
theorem q413 : (Jvm.Cond.privateMethod ({ cls := "HeadReckons$Reader", name := "line", desc := "()LHeadReckons$Line;" } : Jvm.MethodName)) ∈ lw_tbl := lw_at lw_m2 82 rfl
theorem q414 : (Jvm.Cond.instanceMethod ({ cls := "HeadReckons$Reader", name := "line", desc := "()LHeadReckons$Line;" } : Jvm.MethodName)) ∈ lw_all := lw_g (lw_at lw_m2 83 rfl) rfl
theorem q415 : (Jvm.Cond.code ({ cls := "HeadReckons$Reader", name := "line", desc := "()LHeadReckons$Line;" } : Jvm.MethodName) prog_25_method_6_code (2 : Nat) (Option.some (Jvm.ClassFile.FieldType.object "HeadReckons$Line"))) ∈ lw_all := lw_g (lw_at lw_m2 84 rfl) rfl
theorem q416 : (Jvm.Cond.classLink "HeadReckons$Reader" (44 : Nat) "HeadReckons$Line") ∈ lw_all := lw_g (lw_at lw_m2 85 rfl) rfl
theorem q418 : (Jvm.Cond.methodLinkNest "HeadReckons$Reader" (49 : Nat) ({ cls := "HeadReckons$Line", name := "<init>", desc := "()V" } : Jvm.MethodName) "HeadReckons") ∈ lw_tbl := lw_at lw_m2 87 rfl
theorem q422 : (Jvm.Cond.fieldLinkNest "HeadReckons$Reader" (58 : Nat) "HeadReckons$Line" "test" "LHeadReckons$Node;" "HeadReckons") ∈ lw_tbl := lw_at lw_m2 91 rfl
theorem q424 : (Jvm.Cond.fieldLinkNest "HeadReckons$Reader" (54 : Nat) "HeadReckons$Line" "gives" "LHeadReckons$Node;" "HeadReckons") ∈ lw_tbl := lw_at lw_m2 93 rfl
theorem q426 : (Jvm.Cond.fieldLinkNest "HeadReckons$Reader" (43 : Nat) "HeadReckons$Line" "next" "LHeadReckons$Line;" "HeadReckons") ∈ lw_tbl := lw_at lw_m2 95 rfl
theorem q435 : (Jvm.Cond.methodLink "HeadReckons$Reader" (50 : Nat) ({ cls := "HeadReckons$Reader", name := "either", desc := "()LHeadReckons$Node;" } : Jvm.MethodName)) ∈ lw_all := lw_g (lw_at lw_m2 104 rfl) rfl
theorem q436 : (Jvm.Cond.privateMethod ({ cls := "HeadReckons$Reader", name := "either", desc := "()LHeadReckons$Node;" } : Jvm.MethodName)) ∈ lw_tbl := lw_at lw_m2 105 rfl
theorem q437 : (Jvm.Cond.instanceMethod ({ cls := "HeadReckons$Reader", name := "either", desc := "()LHeadReckons$Node;" } : Jvm.MethodName)) ∈ lw_all := lw_g (lw_at lw_m2 106 rfl) rfl
theorem q438 : (Jvm.Cond.code ({ cls := "HeadReckons$Reader", name := "either", desc := "()LHeadReckons$Node;" } : Jvm.MethodName) prog_25_method_8_code (2 : Nat) (Option.some (Jvm.ClassFile.FieldType.object "HeadReckons$Node"))) ∈ lw_all := lw_g (lw_at lw_m2 107 rfl) rfl
theorem q439 : (Jvm.Cond.methodLink "HeadReckons$Reader" (66 : Nat) ({ cls := "HeadReckons$Reader", name := "all", desc := "()LHeadReckons$Node;" } : Jvm.MethodName)) ∈ lw_all := lw_g (lw_at lw_m2 108 rfl) rfl
theorem q440 : (Jvm.Cond.privateMethod ({ cls := "HeadReckons$Reader", name := "all", desc := "()LHeadReckons$Node;" } : Jvm.MethodName)) ∈ lw_tbl := lw_at lw_m2 109 rfl
theorem q441 : (Jvm.Cond.instanceMethod ({ cls := "HeadReckons$Reader", name := "all", desc := "()LHeadReckons$Node;" } : Jvm.MethodName)) ∈ lw_all := lw_g (lw_at lw_m2 110 rfl) rfl
theorem q442 : (Jvm.Cond.code ({ cls := "HeadReckons$Reader", name := "all", desc := "()LHeadReckons$Node;" } : Jvm.MethodName) prog_25_method_9_code (2 : Nat) (Option.some (Jvm.ClassFile.FieldType.object "HeadReckons$Node"))) ∈ lw_all := lw_g (lw_at lw_m2 111 rfl) rfl
theorem q443 : (Jvm.Cond.methodLink "HeadReckons$Reader" (73 : Nat) ({ cls := "HeadReckons$Reader", name := "compared", desc := "()LHeadReckons$Node;" } : Jvm.MethodName)) ∈ lw_all := lw_g (lw_at lw_m2 112 rfl) rfl
theorem q444 : (Jvm.Cond.privateMethod ({ cls := "HeadReckons$Reader", name := "compared", desc := "()LHeadReckons$Node;" } : Jvm.MethodName)) ∈ lw_tbl := lw_at lw_m2 113 rfl
theorem q445 : (Jvm.Cond.instanceMethod ({ cls := "HeadReckons$Reader", name := "compared", desc := "()LHeadReckons$Node;" } : Jvm.MethodName)) ∈ lw_all := lw_g (lw_at lw_m2 114 rfl) rfl
theorem q446 : (Jvm.Cond.code ({ cls := "HeadReckons$Reader", name := "compared", desc := "()LHeadReckons$Node;" } : Jvm.MethodName) prog_25_method_10_code (3 : Nat) (Option.some (Jvm.ClassFile.FieldType.object "HeadReckons$Node"))) ∈ lw_all := lw_g (lw_at lw_m2 115 rfl) rfl
theorem q447 : (Jvm.Cond.methodLink "HeadReckons$Reader" (76 : Nat) ({ cls := "HeadReckons$Reader", name := "sum", desc := "()LHeadReckons$Node;" } : Jvm.MethodName)) ∈ lw_all := lw_g (lw_at lw_m2 116 rfl) rfl
theorem q448 : (Jvm.Cond.privateMethod ({ cls := "HeadReckons$Reader", name := "sum", desc := "()LHeadReckons$Node;" } : Jvm.MethodName)) ∈ lw_tbl := lw_at lw_m2 117 rfl
theorem q449 : (Jvm.Cond.instanceMethod ({ cls := "HeadReckons$Reader", name := "sum", desc := "()LHeadReckons$Node;" } : Jvm.MethodName)) ∈ lw_all := lw_g (lw_at lw_m2 118 rfl) rfl
theorem q450 : (Jvm.Cond.code ({ cls := "HeadReckons$Reader", name := "sum", desc := "()LHeadReckons$Node;" } : Jvm.MethodName) prog_25_method_11_code (3 : Nat) (Option.some (Jvm.ClassFile.FieldType.object "HeadReckons$Node"))) ∈ lw_all := lw_g (lw_at lw_m2 119 rfl) rfl
theorem q451 : (Jvm.Cond.methodLink "HeadReckons$Reader" (85 : Nat) ({ cls := "HeadReckons$Reader", name := "product", desc := "()LHeadReckons$Node;" } : Jvm.MethodName)) ∈ lw_all := lw_g (lw_at lw_m2 120 rfl) rfl
theorem q452 : (Jvm.Cond.privateMethod ({ cls := "HeadReckons$Reader", name := "product", desc := "()LHeadReckons$Node;" } : Jvm.MethodName)) ∈ lw_tbl := lw_at lw_m2 121 rfl
theorem q453 : (Jvm.Cond.instanceMethod ({ cls := "HeadReckons$Reader", name := "product", desc := "()LHeadReckons$Node;" } : Jvm.MethodName)) ∈ lw_all := lw_g (lw_at lw_m2 122 rfl) rfl
theorem q454 : (Jvm.Cond.code ({ cls := "HeadReckons$Reader", name := "product", desc := "()LHeadReckons$Node;" } : Jvm.MethodName) prog_25_method_12_code (3 : Nat) (Option.some (Jvm.ClassFile.FieldType.object "HeadReckons$Node"))) ∈ lw_all := lw_g (lw_at lw_m2 123 rfl) rfl
theorem q455 : (Jvm.Cond.methodLink "HeadReckons$Reader" (90 : Nat) ({ cls := "HeadReckons$Reader", name := "operand", desc := "()LHeadReckons$Node;" } : Jvm.MethodName)) ∈ lw_all := lw_g (lw_at lw_m2 124 rfl) rfl
theorem q456 : (Jvm.Cond.privateMethod ({ cls := "HeadReckons$Reader", name := "operand", desc := "()LHeadReckons$Node;" } : Jvm.MethodName)) ∈ lw_tbl := lw_at lw_m2 125 rfl
theorem q457 : (Jvm.Cond.instanceMethod ({ cls := "HeadReckons$Reader", name := "operand", desc := "()LHeadReckons$Node;" } : Jvm.MethodName)) ∈ lw_all := lw_g (lw_at lw_m2 126 rfl) rfl
theorem q458 : (Jvm.Cond.code ({ cls := "HeadReckons$Reader", name := "operand", desc := "()LHeadReckons$Node;" } : Jvm.MethodName) prog_25_method_14_code (4 : Nat) (Option.some (Jvm.ClassFile.FieldType.object "HeadReckons$Node"))) ∈ lw_all := lw_g (lw_at lw_m2 127 rfl) rfl
theorem q459 : (Jvm.Cond.methodLink "HeadReckons$Reader" (29 : Nat) ({ cls := "HeadReckons$Reader", name := "here", desc := "()I" } : Jvm.MethodName)) ∈ lw_all := lw_g (lw_at lw_m2 128 rfl) rfl
theorem q460 : (Jvm.Cond.privateMethod ({ cls := "HeadReckons$Reader", name := "here", desc := "()I" } : Jvm.MethodName)) ∈ lw_tbl := lw_at lw_m2 129 rfl
theorem q461 : (Jvm.Cond.instanceMethod ({ cls := "HeadReckons$Reader", name := "here", desc := "()I" } : Jvm.MethodName)) ∈ lw_all := lw_g (lw_at lw_m2 130 rfl) rfl
theorem q462 : (Jvm.Cond.code ({ cls := "HeadReckons$Reader", name := "here", desc := "()I" } : Jvm.MethodName) prog_25_method_2_code (1 : Nat) (Option.some Jvm.ClassFile.FieldType.int)) ∈ lw_all := lw_g (lw_at lw_m2 131 rfl) rfl
theorem q463 : (Jvm.Cond.stringRef "HeadReckons$Reader" (98 : Nat) "mnxydztc") ∈ lw_tbl := lw_at lw_m2 132 rfl
theorem q464 : (Jvm.Cond.methodLink "HeadReckons$Reader" (81 : Nat) ({ cls := "HeadReckons$Reader", name := "isOne", desc := "(Ljava/lang/String;)Z" } : Jvm.MethodName)) ∈ lw_all := lw_g (lw_at lw_m2 133 rfl) rfl
theorem q465 : (Jvm.Cond.privateMethod ({ cls := "HeadReckons$Reader", name := "isOne", desc := "(Ljava/lang/String;)Z" } : Jvm.MethodName)) ∈ lw_tbl := lw_at lw_m2 134 rfl
theorem q466 : (Jvm.Cond.instanceMethod ({ cls := "HeadReckons$Reader", name := "isOne", desc := "(Ljava/lang/String;)Z" } : Jvm.MethodName)) ∈ lw_all := lw_g (lw_at lw_m2 135 rfl) rfl
theorem q467 : (Jvm.Cond.code ({ cls := "HeadReckons$Reader", name := "isOne", desc := "(Ljava/lang/String;)Z" } : Jvm.MethodName) prog_25_method_3_code (2 : Nat) (Option.some Jvm.ClassFile.FieldType.boolean)) ∈ lw_all := lw_g (lw_at lw_m2 136 rfl) rfl
theorem q468 : (Jvm.Cond.methodLink "HeadReckons$Reader" (33 : Nat) ({ cls := "java/lang/String", name := "indexOf", desc := "(I)I" } : Jvm.MethodName)) ∈ lw_all := lw_g (lw_at lw_m2 137 rfl) rfl
theorem q554 : (Jvm.Cond.classLink "HeadReckons$Reader" (100 : Nat) "HeadReckons$Name") ∈ lw_all := lw_g (lw_at lw_m2 223 rfl) rfl
theorem q556 : (Jvm.Cond.methodLink "HeadReckons$Reader" (102 : Nat) ({ cls := "HeadReckons$Name", name := "<init>", desc := "(I)V" } : Jvm.MethodName)) ∈ lw_all := lw_g (lw_at lw_m2 225 rfl) rfl
theorem q567 : (Jvm.Cond.methodLink "HeadReckons$Reader" (105 : Nat) ({ cls := "HeadReckons$Reader", name := "opens", desc := "()Z" } : Jvm.MethodName)) ∈ lw_all := lw_g (lw_at lw_m2 236 rfl) rfl
theorem q568 : (Jvm.Cond.privateMethod ({ cls := "HeadReckons$Reader", name := "opens", desc := "()Z" } : Jvm.MethodName)) ∈ lw_tbl := lw_at lw_m2 237 rfl
theorem q569 : (Jvm.Cond.instanceMethod ({ cls := "HeadReckons$Reader", name := "opens", desc := "()Z" } : Jvm.MethodName)) ∈ lw_all := lw_g (lw_at lw_m2 238 rfl) rfl
theorem q570 : (Jvm.Cond.code ({ cls := "HeadReckons$Reader", name := "opens", desc := "()Z" } : Jvm.MethodName) prog_25_method_13_code (1 : Nat) (Option.some Jvm.ClassFile.FieldType.boolean)) ∈ lw_all := lw_g (lw_at lw_m2 239 rfl) rfl
theorem q571 : (Jvm.Cond.methodLink "HeadReckons$Reader" (109 : Nat) ({ cls := "HeadReckons$Reader", name := "wrong", desc := "()LHeadReckons$Node;" } : Jvm.MethodName)) ∈ lw_all := lw_g (lw_at lw_m3 0 rfl) rfl
theorem q572 : (Jvm.Cond.privateMethod ({ cls := "HeadReckons$Reader", name := "wrong", desc := "()LHeadReckons$Node;" } : Jvm.MethodName)) ∈ lw_tbl := lw_at lw_m3 1 rfl
theorem q573 : (Jvm.Cond.instanceMethod ({ cls := "HeadReckons$Reader", name := "wrong", desc := "()LHeadReckons$Node;" } : Jvm.MethodName)) ∈ lw_all := lw_g (lw_at lw_m3 2 rfl) rfl
theorem q574 : (Jvm.Cond.code ({ cls := "HeadReckons$Reader", name := "wrong", desc := "()LHeadReckons$Node;" } : Jvm.MethodName) prog_25_method_4_code (1 : Nat) (Option.some (Jvm.ClassFile.FieldType.object "HeadReckons$Node"))) ∈ lw_all := lw_g (lw_at lw_m3 3 rfl) rfl
theorem q575 : (Jvm.Cond.classLink "HeadReckons$Reader" (112 : Nat) "HeadReckons$Denied") ∈ lw_all := lw_g (lw_at lw_m3 4 rfl) rfl
theorem q577 : (Jvm.Cond.methodLink "HeadReckons$Reader" (114 : Nat) ({ cls := "HeadReckons$Denied", name := "<init>", desc := "(LHeadReckons$Node;)V" } : Jvm.MethodName)) ∈ lw_all := lw_g (lw_at lw_m3 6 rfl) rfl
theorem q585 : (Jvm.Cond.classLink "HeadReckons$Reader" (117 : Nat) "HeadReckons$Turned") ∈ lw_all := lw_g (lw_at lw_m3 14 rfl) rfl
theorem q587 : (Jvm.Cond.methodLink "HeadReckons$Reader" (119 : Nat) ({ cls := "HeadReckons$Turned", name := "<init>", desc := "(LHeadReckons$Node;)V" } : Jvm.MethodName)) ∈ lw_all := lw_g (lw_at lw_m3 16 rfl) rfl
theorem q595 : (Jvm.Cond.methodLinkNest "HeadReckons$Reader" (120 : Nat) ({ cls := "HeadReckons", name := "in", desc := "(III)Z" } : Jvm.MethodName) "HeadReckons") ∈ lw_tbl := lw_at lw_m3 24 rfl
theorem q596 : (Jvm.Cond.classLink "HeadReckons$Reader" (124 : Nat) "HeadReckons$Leaf") ∈ lw_all := lw_g (lw_at lw_m3 25 rfl) rfl
theorem q598 : (Jvm.Cond.methodLink "HeadReckons$Reader" (126 : Nat) ({ cls := "HeadReckons$Leaf", name := "<init>", desc := "(I)V" } : Jvm.MethodName)) ∈ lw_all := lw_g (lw_at lw_m3 27 rfl) rfl
theorem q606 : (Jvm.Cond.stringRef "HeadReckons$Reader" (93 : Nat) "*/%") ∈ lw_tbl := lw_at lw_m3 35 rfl
theorem q607 : (Jvm.Cond.methodLink "HeadReckons$Reader" (69 : Nat) ({ cls := "HeadReckons$Reader", name := "joined", desc := "(ILHeadReckons$Node;LHeadReckons$Node;)LHeadReckons$Node;" } : Jvm.MethodName)) ∈ lw_all := lw_g (lw_at lw_m3 36 rfl) rfl
theorem q608 : (Jvm.Cond.privateMethod ({ cls := "HeadReckons$Reader", name := "joined", desc := "(ILHeadReckons$Node;LHeadReckons$Node;)LHeadReckons$Node;" } : Jvm.MethodName)) ∈ lw_tbl := lw_at lw_m3 37 rfl
theorem q609 : (Jvm.Cond.instanceMethod ({ cls := "HeadReckons$Reader", name := "joined", desc := "(ILHeadReckons$Node;LHeadReckons$Node;)LHeadReckons$Node;" } : Jvm.MethodName)) ∈ lw_all := lw_g (lw_at lw_m3 38 rfl) rfl
theorem q610 : (Jvm.Cond.code ({ cls := "HeadReckons$Reader", name := "joined", desc := "(ILHeadReckons$Node;LHeadReckons$Node;)LHeadReckons$Node;" } : Jvm.MethodName) prog_25_method_7_code (4 : Nat) (Option.some (Jvm.ClassFile.FieldType.object "HeadReckons$Node"))) ∈ lw_all := lw_g (lw_at lw_m3 39 rfl) rfl
theorem q611 : (Jvm.Cond.classLink "HeadReckons$Reader" (61 : Nat) "HeadReckons$Pair") ∈ lw_all := lw_g (lw_at lw_m3 40 rfl) rfl
theorem q613 : (Jvm.Cond.methodLink "HeadReckons$Reader" (63 : Nat) ({ cls := "HeadReckons$Pair", name := "<init>", desc := "(ILHeadReckons$Node;LHeadReckons$Node;)V" } : Jvm.MethodName)) ∈ lw_all := lw_g (lw_at lw_m3 42 rfl) rfl
theorem q627 : (Jvm.Cond.stringRef "HeadReckons$Reader" (88 : Nat) "+-") ∈ lw_tbl := lw_at lw_m3 56 rfl
theorem q628 : (Jvm.Cond.stringRef "HeadReckons$Reader" (79 : Nat) "<=>") ∈ lw_tbl := lw_at lw_m3 57 rfl
theorem in_X6 : ∀ w ∈ wsX60, w ∈ lw_all := lw_in wsX60 [399, 401, 403, 405] (by decide +kernel) (by decide +kernel)

/-! HeadReckons$Line -/
set_option maxRecDepth 100000
def RX7 : String := "HeadReckons$Line"
def TX7 : u_T := fun k => match k with
  | 0 => ("HeadReckons$Line", "test", "LHeadReckons$Node;", false)
  | 1 => ("HeadReckons$Line", "gives", "LHeadReckons$Node;", false)
  | _ => ("HeadReckons$Line", "next", "LHeadReckons$Line;", false)
def tyX7 : Nat → FieldType := fun k => match k with
  | 0 => .object "HeadReckons$Node"
  | 1 => .object "HeadReckons$Node"
  | _ => .object "HeadReckons$Line"
abbrev wsX70 : List Cond := u_ws RX7 TX7 3
theorem nmX7 : ∀ a, a < 3 → ∀ b, b < 3 → a ≠ b → (TX7 a).2.1 ≠ (TX7 b).2.1 := by decide +kernel
theorem tyX7_ok : ∀ k, k < 3 → parseFieldDescriptor (TX7 k).2.2.1 = some (tyX7 k) := by decide +kernel
abbrev cX7_init : ByteArray := prog_20_method_1_code
def yX7_init : MethodName := ⟨RX7, "<init>", "()V"⟩
theorem dX7_init_0 : decode cX7_init 0 = .ok (.aload_n 0, 1) := by decide +kernel
theorem dX7_init_1 : decode cX7_init 1 = .ok (.invokespecial 1, 3) := by decide +kernel
theorem dX7_init_4 : decode cX7_init 4 = .ok (.return_, 1) := by decide +kernel
theorem q99 : (Jvm.Cond.initialized "HeadReckons$Line") ∈ lw_all := lw_g (lw_at lw_m1 8 rfl) rfl
theorem q417 : (Jvm.Cond.instantiable "HeadReckons$Line" (3 : Nat)) ∈ lw_all := lw_g (lw_at lw_m2 86 rfl) rfl
theorem q419 : (Jvm.Cond.instanceMethod ({ cls := "HeadReckons$Line", name := "<init>", desc := "()V" } : Jvm.MethodName)) ∈ lw_all := lw_g (lw_at lw_m2 88 rfl) rfl
theorem q420 : (Jvm.Cond.code ({ cls := "HeadReckons$Line", name := "<init>", desc := "()V" } : Jvm.MethodName) prog_20_method_1_code (1 : Nat) (Option.none : Option Jvm.ClassFile.FieldType)) ∈ lw_all := lw_g (lw_at lw_m2 89 rfl) rfl
theorem q421 : (Jvm.Cond.methodLink "HeadReckons$Line" (1 : Nat) ({ cls := "java/lang/Object", name := "<init>", desc := "()V" } : Jvm.MethodName)) ∈ lw_all := lw_g (lw_at lw_m2 90 rfl) rfl
theorem q428 : (Jvm.Cond.lays "HeadReckons$Line" "HeadReckons$Line" "test" "LHeadReckons$Node;") ∈ lw_all := lw_g (lw_at lw_m2 97 rfl) rfl
theorem q429 : (Jvm.Cond.soleField "HeadReckons$Line" "test") ∈ lw_all := lw_g (lw_at lw_m2 98 rfl) rfl
theorem q430 : (Jvm.Cond.lays "HeadReckons$Line" "HeadReckons$Line" "gives" "LHeadReckons$Node;") ∈ lw_all := lw_g (lw_at lw_m2 99 rfl) rfl
theorem q431 : (Jvm.Cond.soleField "HeadReckons$Line" "gives") ∈ lw_all := lw_g (lw_at lw_m2 100 rfl) rfl
theorem q432 : (Jvm.Cond.lays "HeadReckons$Line" "HeadReckons$Line" "next" "LHeadReckons$Line;") ∈ lw_all := lw_g (lw_at lw_m2 101 rfl) rfl
theorem q433 : (Jvm.Cond.soleField "HeadReckons$Line" "next") ∈ lw_all := lw_g (lw_at lw_m2 102 rfl) rfl
theorem q434 : (Jvm.Cond.superclass "HeadReckons$Line" "java/lang/Object") ∈ lw_all := lw_g (lw_at lw_m2 103 rfl) rfl
theorem in_X7 : ∀ w ∈ wsX70, w ∈ lw_all := lw_in wsX70 [428, 430, 432] (by decide +kernel) (by decide +kernel)

/-! HeadReckons$Node -/
set_option maxRecDepth 100000
def RX8 : String := "HeadReckons$Node"
abbrev cX8_init : ByteArray := prog_23_method_1_code
def yX8_init : MethodName := ⟨RX8, "<init>", "()V"⟩
theorem dX8_init_0 : decode cX8_init 0 = .ok (.aload_n 0, 1) := by decide +kernel
theorem dX8_init_1 : decode cX8_init 1 = .ok (.invokespecial 1, 3) := by decide +kernel
theorem dX8_init_4 : decode cX8_init 4 = .ok (.return_, 1) := by decide +kernel
theorem q106 : (Jvm.Cond.initialized "HeadReckons$Node") ∈ lw_all := lw_g (lw_at lw_m1 15 rfl) rfl
theorem q560 : (Jvm.Cond.instanceMethod ({ cls := "HeadReckons$Node", name := "<init>", desc := "()V" } : Jvm.MethodName)) ∈ lw_all := lw_g (lw_at lw_m2 229 rfl) rfl
theorem q561 : (Jvm.Cond.code ({ cls := "HeadReckons$Node", name := "<init>", desc := "()V" } : Jvm.MethodName) prog_23_method_1_code (1 : Nat) (Option.none : Option Jvm.ClassFile.FieldType)) ∈ lw_all := lw_g (lw_at lw_m2 230 rfl) rfl
theorem q562 : (Jvm.Cond.methodLink "HeadReckons$Node" (1 : Nat) ({ cls := "java/lang/Object", name := "<init>", desc := "()V" } : Jvm.MethodName)) ∈ lw_all := lw_g (lw_at lw_m2 231 rfl) rfl
theorem q741 : (Jvm.Cond.declares ({ cls := "HeadReckons$Node", name := "value", desc := "(LHeadReckons$Facts;)I" } : Jvm.MethodName)) ∈ lw_tbl := lw_at lw_m3 170 rfl
theorem q742 : (Jvm.Cond.sameMethod "HeadReckons$Node" "HeadReckons$Node" "value" "(LHeadReckons$Facts;)I") ∈ lw_all := lw_g (lw_at lw_m3 171 rfl) rfl

/-! HeadReckons$Name -/
set_option maxRecDepth 100000
def RX9 : String := "HeadReckons$Name"
def TX9 : u_T := fun k => match k with
  | _ => ("HeadReckons$Name", "letter", "I", true)
def tyX9 : Nat → FieldType := fun k => match k with
  | _ => .int
abbrev wsX90 : List Cond := u_ws RX9 TX9 1
theorem nmX9 : ∀ a, a < 1 → ∀ b, b < 1 → a ≠ b → (TX9 a).2.1 ≠ (TX9 b).2.1 := by decide +kernel
theorem tyX9_ok : ∀ k, k < 1 → parseFieldDescriptor (TX9 k).2.2.1 = some (tyX9 k) := by decide +kernel
abbrev cX9_init : ByteArray := prog_22_method_1_code
def yX9_init : MethodName := ⟨RX9, "<init>", "(I)V"⟩
def dkwX9_init_0 : List UInt8 := [42, 183, 0, 1, 42, 27, 181, 0, 7, 177]
abbrev dktX9_init_0 : List UInt8 := dkwX9_init_0 ++ []
theorem dksX9_init_0 : cX9_init.data.toList.drop 0 = dktX9_init_0 := by decide +kernel
theorem dX9_init_0 : decode cX9_init 0 = .ok (.aload_n 0, 1) := dk_42 (dk_at dksX9_init_0 0 rfl rfl)
theorem dX9_init_1 : decode cX9_init 1 = .ok (.invokespecial 1, 3) := dk_183 0 1 (dk_at dksX9_init_0 1 rfl rfl)
theorem dX9_init_4 : decode cX9_init 4 = .ok (.aload_n 0, 1) := dk_42 (dk_at dksX9_init_0 4 rfl rfl)
theorem dX9_init_5 : decode cX9_init 5 = .ok (.iload_n 1, 1) := dk_27 (dk_at dksX9_init_0 5 rfl rfl)
theorem dX9_init_6 : decode cX9_init 6 = .ok (.putfield 7, 3) := dk_181 0 7 (dk_at dksX9_init_0 6 rfl rfl)
theorem dX9_init_9 : decode cX9_init 9 = .ok (.return_, 1) := dk_177 (dk_at dksX9_init_0 9 rfl rfl)
abbrev cX9_value : ByteArray := prog_22_method_2_code
def yX9_value : MethodName := ⟨RX9, "value", "(LHeadReckons$Facts;)I"⟩
def dkwX9_value_0 : List UInt8 := [43, 180, 0, 13, 42, 180, 0, 7, 46, 172]
abbrev dktX9_value_0 : List UInt8 := dkwX9_value_0 ++ []
theorem dksX9_value_0 : cX9_value.data.toList.drop 0 = dktX9_value_0 := by decide +kernel
theorem dX9_value_0 : decode cX9_value 0 = .ok (.aload_n 1, 1) := dk_43 (dk_at dksX9_value_0 0 rfl rfl)
theorem dX9_value_1 : decode cX9_value 1 = .ok (.getfield 13, 3) := dk_180 0 13 (dk_at dksX9_value_0 1 rfl rfl)
theorem dX9_value_4 : decode cX9_value 4 = .ok (.aload_n 0, 1) := dk_42 (dk_at dksX9_value_0 4 rfl rfl)
theorem dX9_value_5 : decode cX9_value 5 = .ok (.getfield 7, 3) := dk_180 0 7 (dk_at dksX9_value_0 5 rfl rfl)
theorem dX9_value_8 : decode cX9_value 8 = .ok (.iaload, 1) := dk_46 (dk_at dksX9_value_0 8 rfl rfl)
theorem dX9_value_9 : decode cX9_value 9 = .ok (.ireturn, 1) := dk_172 (dk_at dksX9_value_0 9 rfl rfl)
theorem q107 : (Jvm.Cond.initialized "HeadReckons$Name") ∈ lw_all := lw_g (lw_at lw_m1 16 rfl) rfl
theorem q157 : (Jvm.Cond.fieldLinkNest "HeadReckons$Name" (13 : Nat) "HeadReckons$Facts" "named" "[I" "HeadReckons") ∈ lw_tbl := lw_at lw_m1 66 rfl
theorem q555 : (Jvm.Cond.instantiable "HeadReckons$Name" (1 : Nat)) ∈ lw_all := lw_g (lw_at lw_m2 224 rfl) rfl
theorem q557 : (Jvm.Cond.instanceMethod ({ cls := "HeadReckons$Name", name := "<init>", desc := "(I)V" } : Jvm.MethodName)) ∈ lw_all := lw_g (lw_at lw_m2 226 rfl) rfl
theorem q558 : (Jvm.Cond.code ({ cls := "HeadReckons$Name", name := "<init>", desc := "(I)V" } : Jvm.MethodName) prog_22_method_1_code (2 : Nat) (Option.none : Option Jvm.ClassFile.FieldType)) ∈ lw_all := lw_g (lw_at lw_m2 227 rfl) rfl
theorem q559 : (Jvm.Cond.methodLinkNest "HeadReckons$Name" (1 : Nat) ({ cls := "HeadReckons$Node", name := "<init>", desc := "()V" } : Jvm.MethodName) "HeadReckons") ∈ lw_tbl := lw_at lw_m2 228 rfl
theorem q563 : (Jvm.Cond.fieldLink "HeadReckons$Name" (7 : Nat) "HeadReckons$Name" "letter" "I") ∈ lw_all := lw_g (lw_at lw_m2 232 rfl) rfl
theorem q564 : (Jvm.Cond.laysFinal "HeadReckons$Name" "HeadReckons$Name" "letter" "I") ∈ lw_all := lw_g (lw_at lw_m2 233 rfl) rfl
theorem q565 : (Jvm.Cond.soleField "HeadReckons$Name" "letter") ∈ lw_all := lw_g (lw_at lw_m2 234 rfl) rfl
theorem q566 : (Jvm.Cond.superclass "HeadReckons$Name" "HeadReckons$Node") ∈ lw_all := lw_g (lw_at lw_m2 235 rfl) rfl
theorem q749 : (Jvm.Cond.instanceMethod ({ cls := "HeadReckons$Name", name := "value", desc := "(LHeadReckons$Facts;)I" } : Jvm.MethodName)) ∈ lw_all := lw_g (lw_at lw_m3 178 rfl) rfl
theorem q750 : (Jvm.Cond.code ({ cls := "HeadReckons$Name", name := "value", desc := "(LHeadReckons$Facts;)I" } : Jvm.MethodName) prog_22_method_2_code (2 : Nat) (Option.some Jvm.ClassFile.FieldType.int)) ∈ lw_all := lw_g (lw_at lw_m3 179 rfl) rfl
theorem q761 : (Jvm.Cond.selects "HeadReckons$Name" ({ cls := "HeadReckons$Node", name := "value", desc := "(LHeadReckons$Facts;)I" } : Jvm.MethodName) ({ cls := "HeadReckons$Name", name := "value", desc := "(LHeadReckons$Facts;)I" } : Jvm.MethodName)) ∈ lw_all := lw_g (lw_at lw_m3 190 rfl) rfl
theorem in_X9 : ∀ w ∈ wsX90, w ∈ lw_all := lw_in wsX90 [564] (by decide +kernel) (by decide +kernel)

/-! HeadReckons$Denied -/
set_option maxRecDepth 100000
def RX10 : String := "HeadReckons$Denied"
def TX10 : u_T := fun k => match k with
  | _ => ("HeadReckons$Denied", "of", "LHeadReckons$Node;", true)
def tyX10 : Nat → FieldType := fun k => match k with
  | _ => .object "HeadReckons$Node"
abbrev wsX100 : List Cond := u_ws RX10 TX10 1
theorem nmX10 : ∀ a, a < 1 → ∀ b, b < 1 → a ≠ b → (TX10 a).2.1 ≠ (TX10 b).2.1 := by decide +kernel
theorem tyX10_ok : ∀ k, k < 1 → parseFieldDescriptor (TX10 k).2.2.1 = some (tyX10 k) := by decide +kernel
abbrev cX10_init : ByteArray := prog_11_method_1_code
def yX10_init : MethodName := ⟨RX10, "<init>", "(LHeadReckons$Node;)V"⟩
def dkwX10_init_0 : List UInt8 := [42, 183, 0, 1, 42, 43, 181, 0, 7, 177]
abbrev dktX10_init_0 : List UInt8 := dkwX10_init_0 ++ []
theorem dksX10_init_0 : cX10_init.data.toList.drop 0 = dktX10_init_0 := by decide +kernel
theorem dX10_init_0 : decode cX10_init 0 = .ok (.aload_n 0, 1) := dk_42 (dk_at dksX10_init_0 0 rfl rfl)
theorem dX10_init_1 : decode cX10_init 1 = .ok (.invokespecial 1, 3) := dk_183 0 1 (dk_at dksX10_init_0 1 rfl rfl)
theorem dX10_init_4 : decode cX10_init 4 = .ok (.aload_n 0, 1) := dk_42 (dk_at dksX10_init_0 4 rfl rfl)
theorem dX10_init_5 : decode cX10_init 5 = .ok (.aload_n 1, 1) := dk_43 (dk_at dksX10_init_0 5 rfl rfl)
theorem dX10_init_6 : decode cX10_init 6 = .ok (.putfield 7, 3) := dk_181 0 7 (dk_at dksX10_init_0 6 rfl rfl)
theorem dX10_init_9 : decode cX10_init 9 = .ok (.return_, 1) := dk_177 (dk_at dksX10_init_0 9 rfl rfl)
abbrev cX10_value : ByteArray := prog_11_method_2_code
def yX10_value : MethodName := ⟨RX10, "value", "(LHeadReckons$Facts;)I"⟩
def dkwX10_value_0 : List UInt8 := [42, 180, 0, 7, 43, 182, 0, 13, 154, 0, 7, 4, 167, 0, 4, 3, 172]
abbrev dktX10_value_0 : List UInt8 := dkwX10_value_0 ++ []
theorem dksX10_value_0 : cX10_value.data.toList.drop 0 = dktX10_value_0 := by decide +kernel
theorem dX10_value_0 : decode cX10_value 0 = .ok (.aload_n 0, 1) := dk_42 (dk_at dksX10_value_0 0 rfl rfl)
theorem dX10_value_1 : decode cX10_value 1 = .ok (.getfield 7, 3) := dk_180 0 7 (dk_at dksX10_value_0 1 rfl rfl)
theorem dX10_value_4 : decode cX10_value 4 = .ok (.aload_n 1, 1) := dk_43 (dk_at dksX10_value_0 4 rfl rfl)
theorem dX10_value_5 : decode cX10_value 5 = .ok (.invokevirtual 13, 3) := dk_182 0 13 (dk_at dksX10_value_0 5 rfl rfl)
theorem dX10_value_8 : decode cX10_value 8 = .ok (.ifCond .ne 7, 3) := dk_154 0 7 (dk_at dksX10_value_0 8 rfl rfl)
theorem dX10_value_11 : decode cX10_value 11 = .ok (.iconst 1, 1) := dk_4 (dk_at dksX10_value_0 11 rfl rfl)
theorem dX10_value_12 : decode cX10_value 12 = .ok (.goto 4, 3) := dk_167 0 4 (dk_at dksX10_value_0 12 rfl rfl)
theorem dX10_value_15 : decode cX10_value 15 = .ok (.iconst 0, 1) := dk_3 (dk_at dksX10_value_0 15 rfl rfl)
theorem dX10_value_16 : decode cX10_value 16 = .ok (.ireturn, 1) := dk_172 (dk_at dksX10_value_0 16 rfl rfl)
theorem q108 : (Jvm.Cond.initialized "HeadReckons$Denied") ∈ lw_all := lw_g (lw_at lw_m1 17 rfl) rfl
theorem q576 : (Jvm.Cond.instantiable "HeadReckons$Denied" (1 : Nat)) ∈ lw_all := lw_g (lw_at lw_m3 5 rfl) rfl
theorem q578 : (Jvm.Cond.instanceMethod ({ cls := "HeadReckons$Denied", name := "<init>", desc := "(LHeadReckons$Node;)V" } : Jvm.MethodName)) ∈ lw_all := lw_g (lw_at lw_m3 7 rfl) rfl
theorem q579 : (Jvm.Cond.code ({ cls := "HeadReckons$Denied", name := "<init>", desc := "(LHeadReckons$Node;)V" } : Jvm.MethodName) prog_11_method_1_code (2 : Nat) (Option.none : Option Jvm.ClassFile.FieldType)) ∈ lw_all := lw_g (lw_at lw_m3 8 rfl) rfl
theorem q580 : (Jvm.Cond.methodLinkNest "HeadReckons$Denied" (1 : Nat) ({ cls := "HeadReckons$Node", name := "<init>", desc := "()V" } : Jvm.MethodName) "HeadReckons") ∈ lw_tbl := lw_at lw_m3 9 rfl
theorem q581 : (Jvm.Cond.fieldLink "HeadReckons$Denied" (7 : Nat) "HeadReckons$Denied" "of" "LHeadReckons$Node;") ∈ lw_all := lw_g (lw_at lw_m3 10 rfl) rfl
theorem q582 : (Jvm.Cond.laysFinal "HeadReckons$Denied" "HeadReckons$Denied" "of" "LHeadReckons$Node;") ∈ lw_all := lw_g (lw_at lw_m3 11 rfl) rfl
theorem q583 : (Jvm.Cond.soleField "HeadReckons$Denied" "of") ∈ lw_all := lw_g (lw_at lw_m3 12 rfl) rfl
theorem q584 : (Jvm.Cond.superclass "HeadReckons$Denied" "HeadReckons$Node") ∈ lw_all := lw_g (lw_at lw_m3 13 rfl) rfl
theorem q743 : (Jvm.Cond.selects "HeadReckons$Denied" ({ cls := "HeadReckons$Node", name := "value", desc := "(LHeadReckons$Facts;)I" } : Jvm.MethodName) ({ cls := "HeadReckons$Denied", name := "value", desc := "(LHeadReckons$Facts;)I" } : Jvm.MethodName)) ∈ lw_all := lw_g (lw_at lw_m3 172 rfl) rfl
theorem q744 : (Jvm.Cond.instanceMethod ({ cls := "HeadReckons$Denied", name := "value", desc := "(LHeadReckons$Facts;)I" } : Jvm.MethodName)) ∈ lw_all := lw_g (lw_at lw_m3 173 rfl) rfl
theorem q745 : (Jvm.Cond.code ({ cls := "HeadReckons$Denied", name := "value", desc := "(LHeadReckons$Facts;)I" } : Jvm.MethodName) prog_11_method_2_code (2 : Nat) (Option.some Jvm.ClassFile.FieldType.int)) ∈ lw_all := lw_g (lw_at lw_m3 174 rfl) rfl
theorem q746 : (Jvm.Cond.methodLink "HeadReckons$Denied" (13 : Nat) ({ cls := "HeadReckons$Node", name := "value", desc := "(LHeadReckons$Facts;)I" } : Jvm.MethodName)) ∈ lw_all := lw_g (lw_at lw_m3 175 rfl) rfl
theorem in_X10 : ∀ w ∈ wsX100, w ∈ lw_all := lw_in wsX100 [582] (by decide +kernel) (by decide +kernel)

/-! HeadReckons$Turned -/
set_option maxRecDepth 100000
def RX11 : String := "HeadReckons$Turned"
def TX11 : u_T := fun k => match k with
  | _ => ("HeadReckons$Turned", "of", "LHeadReckons$Node;", true)
def tyX11 : Nat → FieldType := fun k => match k with
  | _ => .object "HeadReckons$Node"
abbrev wsX110 : List Cond := u_ws RX11 TX11 1
theorem nmX11 : ∀ a, a < 1 → ∀ b, b < 1 → a ≠ b → (TX11 a).2.1 ≠ (TX11 b).2.1 := by decide +kernel
theorem tyX11_ok : ∀ k, k < 1 → parseFieldDescriptor (TX11 k).2.2.1 = some (tyX11 k) := by decide +kernel
abbrev cX11_init : ByteArray := prog_31_method_1_code
def yX11_init : MethodName := ⟨RX11, "<init>", "(LHeadReckons$Node;)V"⟩
def dkwX11_init_0 : List UInt8 := [42, 183, 0, 1, 42, 43, 181, 0, 7, 177]
abbrev dktX11_init_0 : List UInt8 := dkwX11_init_0 ++ []
theorem dksX11_init_0 : cX11_init.data.toList.drop 0 = dktX11_init_0 := by decide +kernel
theorem dX11_init_0 : decode cX11_init 0 = .ok (.aload_n 0, 1) := dk_42 (dk_at dksX11_init_0 0 rfl rfl)
theorem dX11_init_1 : decode cX11_init 1 = .ok (.invokespecial 1, 3) := dk_183 0 1 (dk_at dksX11_init_0 1 rfl rfl)
theorem dX11_init_4 : decode cX11_init 4 = .ok (.aload_n 0, 1) := dk_42 (dk_at dksX11_init_0 4 rfl rfl)
theorem dX11_init_5 : decode cX11_init 5 = .ok (.aload_n 1, 1) := dk_43 (dk_at dksX11_init_0 5 rfl rfl)
theorem dX11_init_6 : decode cX11_init 6 = .ok (.putfield 7, 3) := dk_181 0 7 (dk_at dksX11_init_0 6 rfl rfl)
theorem dX11_init_9 : decode cX11_init 9 = .ok (.return_, 1) := dk_177 (dk_at dksX11_init_0 9 rfl rfl)
abbrev cX11_value : ByteArray := prog_31_method_2_code
def yX11_value : MethodName := ⟨RX11, "value", "(LHeadReckons$Facts;)I"⟩
def dkwX11_value_0 : List UInt8 := [42, 180, 0, 7, 43, 182, 0, 13, 116, 172]
abbrev dktX11_value_0 : List UInt8 := dkwX11_value_0 ++ []
theorem dksX11_value_0 : cX11_value.data.toList.drop 0 = dktX11_value_0 := by decide +kernel
theorem dX11_value_0 : decode cX11_value 0 = .ok (.aload_n 0, 1) := dk_42 (dk_at dksX11_value_0 0 rfl rfl)
theorem dX11_value_1 : decode cX11_value 1 = .ok (.getfield 7, 3) := dk_180 0 7 (dk_at dksX11_value_0 1 rfl rfl)
theorem dX11_value_4 : decode cX11_value 4 = .ok (.aload_n 1, 1) := dk_43 (dk_at dksX11_value_0 4 rfl rfl)
theorem dX11_value_5 : decode cX11_value 5 = .ok (.invokevirtual 13, 3) := dk_182 0 13 (dk_at dksX11_value_0 5 rfl rfl)
theorem dX11_value_8 : decode cX11_value 8 = .ok (.ineg, 1) := dk_116 (dk_at dksX11_value_0 8 rfl rfl)
theorem dX11_value_9 : decode cX11_value 9 = .ok (.ireturn, 1) := dk_172 (dk_at dksX11_value_0 9 rfl rfl)
theorem q109 : (Jvm.Cond.initialized "HeadReckons$Turned") ∈ lw_all := lw_g (lw_at lw_m1 18 rfl) rfl
theorem q586 : (Jvm.Cond.instantiable "HeadReckons$Turned" (1 : Nat)) ∈ lw_all := lw_g (lw_at lw_m3 15 rfl) rfl
theorem q588 : (Jvm.Cond.instanceMethod ({ cls := "HeadReckons$Turned", name := "<init>", desc := "(LHeadReckons$Node;)V" } : Jvm.MethodName)) ∈ lw_all := lw_g (lw_at lw_m3 17 rfl) rfl
theorem q589 : (Jvm.Cond.code ({ cls := "HeadReckons$Turned", name := "<init>", desc := "(LHeadReckons$Node;)V" } : Jvm.MethodName) prog_31_method_1_code (2 : Nat) (Option.none : Option Jvm.ClassFile.FieldType)) ∈ lw_all := lw_g (lw_at lw_m3 18 rfl) rfl
theorem q590 : (Jvm.Cond.methodLinkNest "HeadReckons$Turned" (1 : Nat) ({ cls := "HeadReckons$Node", name := "<init>", desc := "()V" } : Jvm.MethodName) "HeadReckons") ∈ lw_tbl := lw_at lw_m3 19 rfl
theorem q591 : (Jvm.Cond.fieldLink "HeadReckons$Turned" (7 : Nat) "HeadReckons$Turned" "of" "LHeadReckons$Node;") ∈ lw_all := lw_g (lw_at lw_m3 20 rfl) rfl
theorem q592 : (Jvm.Cond.laysFinal "HeadReckons$Turned" "HeadReckons$Turned" "of" "LHeadReckons$Node;") ∈ lw_all := lw_g (lw_at lw_m3 21 rfl) rfl
theorem q593 : (Jvm.Cond.soleField "HeadReckons$Turned" "of") ∈ lw_all := lw_g (lw_at lw_m3 22 rfl) rfl
theorem q594 : (Jvm.Cond.superclass "HeadReckons$Turned" "HeadReckons$Node") ∈ lw_all := lw_g (lw_at lw_m3 23 rfl) rfl
theorem q754 : (Jvm.Cond.instanceMethod ({ cls := "HeadReckons$Turned", name := "value", desc := "(LHeadReckons$Facts;)I" } : Jvm.MethodName)) ∈ lw_all := lw_g (lw_at lw_m3 183 rfl) rfl
theorem q755 : (Jvm.Cond.code ({ cls := "HeadReckons$Turned", name := "value", desc := "(LHeadReckons$Facts;)I" } : Jvm.MethodName) prog_31_method_2_code (2 : Nat) (Option.some Jvm.ClassFile.FieldType.int)) ∈ lw_all := lw_g (lw_at lw_m3 184 rfl) rfl
theorem q756 : (Jvm.Cond.methodLink "HeadReckons$Turned" (13 : Nat) ({ cls := "HeadReckons$Node", name := "value", desc := "(LHeadReckons$Facts;)I" } : Jvm.MethodName)) ∈ lw_all := lw_g (lw_at lw_m3 185 rfl) rfl
theorem q763 : (Jvm.Cond.selects "HeadReckons$Turned" ({ cls := "HeadReckons$Node", name := "value", desc := "(LHeadReckons$Facts;)I" } : Jvm.MethodName) ({ cls := "HeadReckons$Turned", name := "value", desc := "(LHeadReckons$Facts;)I" } : Jvm.MethodName)) ∈ lw_all := lw_g (lw_at lw_m3 192 rfl) rfl
theorem in_X11 : ∀ w ∈ wsX110, w ∈ lw_all := lw_in wsX110 [592] (by decide +kernel) (by decide +kernel)

/-! HeadReckons$Leaf -/
set_option maxRecDepth 100000
def RX12 : String := "HeadReckons$Leaf"
def TX12 : u_T := fun k => match k with
  | _ => ("HeadReckons$Leaf", "number", "I", true)
def tyX12 : Nat → FieldType := fun k => match k with
  | _ => .int
abbrev wsX120 : List Cond := u_ws RX12 TX12 1
theorem nmX12 : ∀ a, a < 1 → ∀ b, b < 1 → a ≠ b → (TX12 a).2.1 ≠ (TX12 b).2.1 := by decide +kernel
theorem tyX12_ok : ∀ k, k < 1 → parseFieldDescriptor (TX12 k).2.2.1 = some (tyX12 k) := by decide +kernel
abbrev cX12_init : ByteArray := prog_18_method_1_code
def yX12_init : MethodName := ⟨RX12, "<init>", "(I)V"⟩
def dkwX12_init_0 : List UInt8 := [42, 183, 0, 1, 42, 27, 181, 0, 7, 177]
abbrev dktX12_init_0 : List UInt8 := dkwX12_init_0 ++ []
theorem dksX12_init_0 : cX12_init.data.toList.drop 0 = dktX12_init_0 := by decide +kernel
theorem dX12_init_0 : decode cX12_init 0 = .ok (.aload_n 0, 1) := dk_42 (dk_at dksX12_init_0 0 rfl rfl)
theorem dX12_init_1 : decode cX12_init 1 = .ok (.invokespecial 1, 3) := dk_183 0 1 (dk_at dksX12_init_0 1 rfl rfl)
theorem dX12_init_4 : decode cX12_init 4 = .ok (.aload_n 0, 1) := dk_42 (dk_at dksX12_init_0 4 rfl rfl)
theorem dX12_init_5 : decode cX12_init 5 = .ok (.iload_n 1, 1) := dk_27 (dk_at dksX12_init_0 5 rfl rfl)
theorem dX12_init_6 : decode cX12_init 6 = .ok (.putfield 7, 3) := dk_181 0 7 (dk_at dksX12_init_0 6 rfl rfl)
theorem dX12_init_9 : decode cX12_init 9 = .ok (.return_, 1) := dk_177 (dk_at dksX12_init_0 9 rfl rfl)
abbrev cX12_value : ByteArray := prog_18_method_2_code
def yX12_value : MethodName := ⟨RX12, "value", "(LHeadReckons$Facts;)I"⟩
theorem dX12_value_0 : decode cX12_value 0 = .ok (.aload_n 0, 1) := by decide +kernel
theorem dX12_value_1 : decode cX12_value 1 = .ok (.getfield 7, 3) := by decide +kernel
theorem dX12_value_4 : decode cX12_value 4 = .ok (.ireturn, 1) := by decide +kernel
theorem q110 : (Jvm.Cond.initialized "HeadReckons$Leaf") ∈ lw_all := lw_g (lw_at lw_m1 19 rfl) rfl
theorem q597 : (Jvm.Cond.instantiable "HeadReckons$Leaf" (1 : Nat)) ∈ lw_all := lw_g (lw_at lw_m3 26 rfl) rfl
theorem q599 : (Jvm.Cond.instanceMethod ({ cls := "HeadReckons$Leaf", name := "<init>", desc := "(I)V" } : Jvm.MethodName)) ∈ lw_all := lw_g (lw_at lw_m3 28 rfl) rfl
theorem q600 : (Jvm.Cond.code ({ cls := "HeadReckons$Leaf", name := "<init>", desc := "(I)V" } : Jvm.MethodName) prog_18_method_1_code (2 : Nat) (Option.none : Option Jvm.ClassFile.FieldType)) ∈ lw_all := lw_g (lw_at lw_m3 29 rfl) rfl
theorem q601 : (Jvm.Cond.methodLinkNest "HeadReckons$Leaf" (1 : Nat) ({ cls := "HeadReckons$Node", name := "<init>", desc := "()V" } : Jvm.MethodName) "HeadReckons") ∈ lw_tbl := lw_at lw_m3 30 rfl
theorem q602 : (Jvm.Cond.fieldLink "HeadReckons$Leaf" (7 : Nat) "HeadReckons$Leaf" "number" "I") ∈ lw_all := lw_g (lw_at lw_m3 31 rfl) rfl
theorem q603 : (Jvm.Cond.laysFinal "HeadReckons$Leaf" "HeadReckons$Leaf" "number" "I") ∈ lw_all := lw_g (lw_at lw_m3 32 rfl) rfl
theorem q604 : (Jvm.Cond.soleField "HeadReckons$Leaf" "number") ∈ lw_all := lw_g (lw_at lw_m3 33 rfl) rfl
theorem q605 : (Jvm.Cond.superclass "HeadReckons$Leaf" "HeadReckons$Node") ∈ lw_all := lw_g (lw_at lw_m3 34 rfl) rfl
theorem q747 : (Jvm.Cond.instanceMethod ({ cls := "HeadReckons$Leaf", name := "value", desc := "(LHeadReckons$Facts;)I" } : Jvm.MethodName)) ∈ lw_all := lw_g (lw_at lw_m3 176 rfl) rfl
theorem q748 : (Jvm.Cond.code ({ cls := "HeadReckons$Leaf", name := "value", desc := "(LHeadReckons$Facts;)I" } : Jvm.MethodName) prog_18_method_2_code (2 : Nat) (Option.some Jvm.ClassFile.FieldType.int)) ∈ lw_all := lw_g (lw_at lw_m3 177 rfl) rfl
theorem q760 : (Jvm.Cond.selects "HeadReckons$Leaf" ({ cls := "HeadReckons$Node", name := "value", desc := "(LHeadReckons$Facts;)I" } : Jvm.MethodName) ({ cls := "HeadReckons$Leaf", name := "value", desc := "(LHeadReckons$Facts;)I" } : Jvm.MethodName)) ∈ lw_all := lw_g (lw_at lw_m3 189 rfl) rfl
theorem in_X12 : ∀ w ∈ wsX120, w ∈ lw_all := lw_in wsX120 [603] (by decide +kernel) (by decide +kernel)

/-! HeadReckons$Pair -/
set_option maxRecDepth 100000
def RX13 : String := "HeadReckons$Pair"
def TX13 : u_T := fun k => match k with
  | 0 => ("HeadReckons$Pair", "sign", "I", true)
  | 1 => ("HeadReckons$Pair", "left", "LHeadReckons$Node;", true)
  | _ => ("HeadReckons$Pair", "right", "LHeadReckons$Node;", true)
def tyX13 : Nat → FieldType := fun k => match k with
  | 0 => .int
  | 1 => .object "HeadReckons$Node"
  | _ => .object "HeadReckons$Node"
abbrev wsX130 : List Cond := u_ws RX13 TX13 3
theorem nmX13 : ∀ a, a < 3 → ∀ b, b < 3 → a ≠ b → (TX13 a).2.1 ≠ (TX13 b).2.1 := by decide +kernel
theorem tyX13_ok : ∀ k, k < 3 → parseFieldDescriptor (TX13 k).2.2.1 = some (tyX13 k) := by decide +kernel
abbrev cX13_init : ByteArray := prog_24_method_1_code
def yX13_init : MethodName := ⟨RX13, "<init>", "(ILHeadReckons$Node;LHeadReckons$Node;)V"⟩
def dkwX13_init_0 : List UInt8 := [42, 183, 0, 1, 42, 27, 181, 0, 7, 42, 44, 181, 0, 13, 42, 45, 181, 0, 17, 177]
abbrev dktX13_init_0 : List UInt8 := dkwX13_init_0 ++ []
theorem dksX13_init_0 : cX13_init.data.toList.drop 0 = dktX13_init_0 := by decide +kernel
theorem dX13_init_0 : decode cX13_init 0 = .ok (.aload_n 0, 1) := dk_42 (dk_at dksX13_init_0 0 rfl rfl)
theorem dX13_init_1 : decode cX13_init 1 = .ok (.invokespecial 1, 3) := dk_183 0 1 (dk_at dksX13_init_0 1 rfl rfl)
theorem dX13_init_4 : decode cX13_init 4 = .ok (.aload_n 0, 1) := dk_42 (dk_at dksX13_init_0 4 rfl rfl)
theorem dX13_init_5 : decode cX13_init 5 = .ok (.iload_n 1, 1) := dk_27 (dk_at dksX13_init_0 5 rfl rfl)
theorem dX13_init_6 : decode cX13_init 6 = .ok (.putfield 7, 3) := dk_181 0 7 (dk_at dksX13_init_0 6 rfl rfl)
theorem dX13_init_9 : decode cX13_init 9 = .ok (.aload_n 0, 1) := dk_42 (dk_at dksX13_init_0 9 rfl rfl)
theorem dX13_init_10 : decode cX13_init 10 = .ok (.aload_n 2, 1) := dk_44 (dk_at dksX13_init_0 10 rfl rfl)
theorem dX13_init_11 : decode cX13_init 11 = .ok (.putfield 13, 3) := dk_181 0 13 (dk_at dksX13_init_0 11 rfl rfl)
theorem dX13_init_14 : decode cX13_init 14 = .ok (.aload_n 0, 1) := dk_42 (dk_at dksX13_init_0 14 rfl rfl)
theorem dX13_init_15 : decode cX13_init 15 = .ok (.aload_n 3, 1) := dk_45 (dk_at dksX13_init_0 15 rfl rfl)
theorem dX13_init_16 : decode cX13_init 16 = .ok (.putfield 17, 3) := dk_181 0 17 (dk_at dksX13_init_0 16 rfl rfl)
theorem dX13_init_19 : decode cX13_init 19 = .ok (.return_, 1) := dk_177 (dk_at dksX13_init_0 19 rfl rfl)
abbrev cX13_value : ByteArray := prog_24_method_3_code
def yX13_value : MethodName := ⟨RX13, "value", "(LHeadReckons$Facts;)I"⟩
def dkwX13_value_7 : List UInt8 := [154, 0, 7, 29, 153, 0, 7, 4, 167, 0, 4, 3, 184, 0, 24, 172]
abbrev dktX13_value_7 : List UInt8 := dkwX13_value_7 ++ []
def dkwX13_value_6 : List UInt8 := [184, 0, 24, 172, 28, 153, 0, 11, 29, 153, 0, 7, 4, 167, 0, 4, 3, 184, 0, 24, 172, 28]
abbrev dktX13_value_6 : List UInt8 := dkwX13_value_6 ++ dktX13_value_7
def dkwX13_value_5 : List UInt8 := [160, 0, 7, 4, 167, 0, 4, 3, 184, 0, 24, 172, 28, 29, 164, 0, 7, 4, 167, 0, 4, 3]
abbrev dktX13_value_5 : List UInt8 := dkwX13_value_5 ++ dktX13_value_6
def dkwX13_value_4 : List UInt8 := [167, 0, 6, 28, 29, 112, 172, 28, 29, 162, 0, 7, 4, 167, 0, 4, 3, 184, 0, 24, 172, 28, 29]
abbrev dktX13_value_4 : List UInt8 := dkwX13_value_4 ++ dktX13_value_5
def dkwX13_value_3 : List UInt8 := [160, 0, 8, 28, 116, 167, 0, 6, 28, 29, 108, 172, 29, 153, 0, 8, 29, 2, 160, 0, 7, 3]
abbrev dktX13_value_3 : List UInt8 := dkwX13_value_3 ++ dktX13_value_4
def dkwX13_value_2 : List UInt8 := [28, 29, 96, 172, 28, 29, 100, 172, 28, 29, 104, 172, 29, 154, 0, 7, 3, 167, 0, 16, 29, 2]
abbrev dktX13_value_2 : List UInt8 := dkwX13_value_2 ++ dktX13_value_3
def dkwX13_value_1 : List UInt8 := [170, 0, 0, 0, 0, 228, 0, 0, 0, 37, 0, 0, 0, 62, 0, 0, 0, 152, 0, 0, 0, 211, 0, 0, 0, 228, 0, 0, 0, 228, 0, 0, 0, 228, 0, 0, 0, 126, 0, 0, 0, 118, 0, 0, 0, 228, 0, 0, 0, 122, 0, 0, 0, 228, 0, 0, 0, 130, 0, 0, 0, 228, 0, 0, 0, 228, 0, 0, 0, 228, 0, 0, 0, 228, 0, 0, 0, 228, 0, 0, 0, 228, 0, 0, 0, 228, 0, 0, 0, 228, 0, 0, 0, 228, 0, 0, 0, 228, 0, 0, 0, 228, 0, 0, 0, 228, 0, 0, 0, 169, 0, 0, 0, 183, 0, 0, 0, 197]
abbrev dktX13_value_1 : List UInt8 := dkwX13_value_1 ++ dktX13_value_2
def dkwX13_value_0 : List UInt8 := [42, 180, 0, 13, 43, 182, 0, 20, 61, 42, 180, 0, 17, 43, 182, 0, 20, 62, 42, 180, 0, 7]
abbrev dktX13_value_0 : List UInt8 := dkwX13_value_0 ++ dktX13_value_1
theorem dksX13_value_0 : cX13_value.data.toList.drop 0 = dktX13_value_0 := by decide +kernel
theorem dksX13_value_1 : cX13_value.data.toList.drop 22 = dktX13_value_1 := dk_seg dksX13_value_0 22 rfl rfl
theorem dksX13_value_2 : cX13_value.data.toList.drop 140 = dktX13_value_2 := dk_seg dksX13_value_1 118 rfl rfl
theorem dksX13_value_3 : cX13_value.data.toList.drop 162 = dktX13_value_3 := dk_seg dksX13_value_2 22 rfl rfl
theorem dksX13_value_4 : cX13_value.data.toList.drop 184 = dktX13_value_4 := dk_seg dksX13_value_3 22 rfl rfl
theorem dksX13_value_5 : cX13_value.data.toList.drop 207 = dktX13_value_5 := dk_seg dksX13_value_4 23 rfl rfl
theorem dksX13_value_6 : cX13_value.data.toList.drop 229 = dktX13_value_6 := dk_seg dksX13_value_5 22 rfl rfl
theorem dksX13_value_7 : cX13_value.data.toList.drop 251 = dktX13_value_7 := dk_seg dksX13_value_6 22 rfl rfl
theorem dX13_value_0 : decode cX13_value 0 = .ok (.aload_n 0, 1) := dk_42 (dk_at dksX13_value_0 0 rfl rfl)
theorem dX13_value_1 : decode cX13_value 1 = .ok (.getfield 13, 3) := dk_180 0 13 (dk_at dksX13_value_0 1 rfl rfl)
theorem dX13_value_4 : decode cX13_value 4 = .ok (.aload_n 1, 1) := dk_43 (dk_at dksX13_value_0 4 rfl rfl)
theorem dX13_value_5 : decode cX13_value 5 = .ok (.invokevirtual 20, 3) := dk_182 0 20 (dk_at dksX13_value_0 5 rfl rfl)
theorem dX13_value_8 : decode cX13_value 8 = .ok (.istore_n 2, 1) := dk_61 (dk_at dksX13_value_0 8 rfl rfl)
theorem dX13_value_9 : decode cX13_value 9 = .ok (.aload_n 0, 1) := dk_42 (dk_at dksX13_value_0 9 rfl rfl)
theorem dX13_value_10 : decode cX13_value 10 = .ok (.getfield 17, 3) := dk_180 0 17 (dk_at dksX13_value_0 10 rfl rfl)
theorem dX13_value_13 : decode cX13_value 13 = .ok (.aload_n 1, 1) := dk_43 (dk_at dksX13_value_0 13 rfl rfl)
theorem dX13_value_14 : decode cX13_value 14 = .ok (.invokevirtual 20, 3) := dk_182 0 20 (dk_at dksX13_value_0 14 rfl rfl)
theorem dX13_value_17 : decode cX13_value 17 = .ok (.istore_n 3, 1) := dk_62 (dk_at dksX13_value_0 17 rfl rfl)
theorem dX13_value_18 : decode cX13_value 18 = .ok (.aload_n 0, 1) := dk_42 (dk_at dksX13_value_0 18 rfl rfl)
theorem dX13_value_19 : decode cX13_value 19 = .ok (.getfield 7, 3) := dk_180 0 7 (dk_at dksX13_value_0 19 rfl rfl)
theorem dX13_value_22 : decode cX13_value 22 = .ok (.tableswitch 228 37 62 #[152, 211, 228, 228, 228, 126, 118, 228, 122, 228, 130, 228, 228, 228, 228, 228, 228, 228, 228, 228, 228, 228, 228, 169, 183, 197], 118) := by decide +kernel
theorem dX13_value_140 : decode cX13_value 140 = .ok (.iload_n 2, 1) := dk_28 (dk_at dksX13_value_2 0 rfl rfl)
theorem dX13_value_141 : decode cX13_value 141 = .ok (.iload_n 3, 1) := dk_29 (dk_at dksX13_value_2 1 rfl rfl)
theorem dX13_value_142 : decode cX13_value 142 = .ok (.iadd, 1) := dk_96 (dk_at dksX13_value_2 2 rfl rfl)
theorem dX13_value_143 : decode cX13_value 143 = .ok (.ireturn, 1) := dk_172 (dk_at dksX13_value_2 3 rfl rfl)
theorem dX13_value_144 : decode cX13_value 144 = .ok (.iload_n 2, 1) := dk_28 (dk_at dksX13_value_2 4 rfl rfl)
theorem dX13_value_145 : decode cX13_value 145 = .ok (.iload_n 3, 1) := dk_29 (dk_at dksX13_value_2 5 rfl rfl)
theorem dX13_value_146 : decode cX13_value 146 = .ok (.isub, 1) := dk_100 (dk_at dksX13_value_2 6 rfl rfl)
theorem dX13_value_147 : decode cX13_value 147 = .ok (.ireturn, 1) := dk_172 (dk_at dksX13_value_2 7 rfl rfl)
theorem dX13_value_148 : decode cX13_value 148 = .ok (.iload_n 2, 1) := dk_28 (dk_at dksX13_value_2 8 rfl rfl)
theorem dX13_value_149 : decode cX13_value 149 = .ok (.iload_n 3, 1) := dk_29 (dk_at dksX13_value_2 9 rfl rfl)
theorem dX13_value_150 : decode cX13_value 150 = .ok (.imul, 1) := dk_104 (dk_at dksX13_value_2 10 rfl rfl)
theorem dX13_value_151 : decode cX13_value 151 = .ok (.ireturn, 1) := dk_172 (dk_at dksX13_value_2 11 rfl rfl)
theorem dX13_value_152 : decode cX13_value 152 = .ok (.iload_n 3, 1) := dk_29 (dk_at dksX13_value_2 12 rfl rfl)
theorem dX13_value_153 : decode cX13_value 153 = .ok (.ifCond .ne 7, 3) := dk_154 0 7 (dk_at dksX13_value_2 13 rfl rfl)
theorem dX13_value_156 : decode cX13_value 156 = .ok (.iconst 0, 1) := dk_3 (dk_at dksX13_value_2 16 rfl rfl)
theorem dX13_value_157 : decode cX13_value 157 = .ok (.goto 16, 3) := dk_167 0 16 (dk_at dksX13_value_2 17 rfl rfl)
theorem dX13_value_160 : decode cX13_value 160 = .ok (.iload_n 3, 1) := dk_29 (dk_at dksX13_value_2 20 rfl rfl)
theorem dX13_value_161 : decode cX13_value 161 = .ok (.iconst (-1), 1) := dk_2 (dk_at dksX13_value_2 21 rfl rfl)
theorem dX13_value_162 : decode cX13_value 162 = .ok (.if_icmp .ne 8, 3) := dk_160 0 8 (dk_at dksX13_value_3 0 rfl rfl)
theorem dX13_value_165 : decode cX13_value 165 = .ok (.iload_n 2, 1) := dk_28 (dk_at dksX13_value_3 3 rfl rfl)
theorem dX13_value_166 : decode cX13_value 166 = .ok (.ineg, 1) := dk_116 (dk_at dksX13_value_3 4 rfl rfl)
theorem dX13_value_167 : decode cX13_value 167 = .ok (.goto 6, 3) := dk_167 0 6 (dk_at dksX13_value_3 5 rfl rfl)
theorem dX13_value_170 : decode cX13_value 170 = .ok (.iload_n 2, 1) := dk_28 (dk_at dksX13_value_3 8 rfl rfl)
theorem dX13_value_171 : decode cX13_value 171 = .ok (.iload_n 3, 1) := dk_29 (dk_at dksX13_value_3 9 rfl rfl)
theorem dX13_value_172 : decode cX13_value 172 = .ok (.idiv, 1) := dk_108 (dk_at dksX13_value_3 10 rfl rfl)
theorem dX13_value_173 : decode cX13_value 173 = .ok (.ireturn, 1) := dk_172 (dk_at dksX13_value_3 11 rfl rfl)
theorem dX13_value_174 : decode cX13_value 174 = .ok (.iload_n 3, 1) := dk_29 (dk_at dksX13_value_3 12 rfl rfl)
theorem dX13_value_175 : decode cX13_value 175 = .ok (.ifCond .eq 8, 3) := dk_153 0 8 (dk_at dksX13_value_3 13 rfl rfl)
theorem dX13_value_178 : decode cX13_value 178 = .ok (.iload_n 3, 1) := dk_29 (dk_at dksX13_value_3 16 rfl rfl)
theorem dX13_value_179 : decode cX13_value 179 = .ok (.iconst (-1), 1) := dk_2 (dk_at dksX13_value_3 17 rfl rfl)
theorem dX13_value_180 : decode cX13_value 180 = .ok (.if_icmp .ne 7, 3) := dk_160 0 7 (dk_at dksX13_value_3 18 rfl rfl)
theorem dX13_value_183 : decode cX13_value 183 = .ok (.iconst 0, 1) := dk_3 (dk_at dksX13_value_3 21 rfl rfl)
theorem dX13_value_184 : decode cX13_value 184 = .ok (.goto 6, 3) := dk_167 0 6 (dk_at dksX13_value_4 0 rfl rfl)
theorem dX13_value_187 : decode cX13_value 187 = .ok (.iload_n 2, 1) := dk_28 (dk_at dksX13_value_4 3 rfl rfl)
theorem dX13_value_188 : decode cX13_value 188 = .ok (.iload_n 3, 1) := dk_29 (dk_at dksX13_value_4 4 rfl rfl)
theorem dX13_value_189 : decode cX13_value 189 = .ok (.irem, 1) := dk_112 (dk_at dksX13_value_4 5 rfl rfl)
theorem dX13_value_190 : decode cX13_value 190 = .ok (.ireturn, 1) := dk_172 (dk_at dksX13_value_4 6 rfl rfl)
theorem dX13_value_191 : decode cX13_value 191 = .ok (.iload_n 2, 1) := dk_28 (dk_at dksX13_value_4 7 rfl rfl)
theorem dX13_value_192 : decode cX13_value 192 = .ok (.iload_n 3, 1) := dk_29 (dk_at dksX13_value_4 8 rfl rfl)
theorem dX13_value_193 : decode cX13_value 193 = .ok (.if_icmp .ge 7, 3) := dk_162 0 7 (dk_at dksX13_value_4 9 rfl rfl)
theorem dX13_value_196 : decode cX13_value 196 = .ok (.iconst 1, 1) := dk_4 (dk_at dksX13_value_4 12 rfl rfl)
theorem dX13_value_197 : decode cX13_value 197 = .ok (.goto 4, 3) := dk_167 0 4 (dk_at dksX13_value_4 13 rfl rfl)
theorem dX13_value_200 : decode cX13_value 200 = .ok (.iconst 0, 1) := dk_3 (dk_at dksX13_value_4 16 rfl rfl)
theorem dX13_value_201 : decode cX13_value 201 = .ok (.invokestatic 24, 3) := dk_184 0 24 (dk_at dksX13_value_4 17 rfl rfl)
theorem dX13_value_204 : decode cX13_value 204 = .ok (.ireturn, 1) := dk_172 (dk_at dksX13_value_4 20 rfl rfl)
theorem dX13_value_205 : decode cX13_value 205 = .ok (.iload_n 2, 1) := dk_28 (dk_at dksX13_value_4 21 rfl rfl)
theorem dX13_value_206 : decode cX13_value 206 = .ok (.iload_n 3, 1) := dk_29 (dk_at dksX13_value_4 22 rfl rfl)
theorem dX13_value_207 : decode cX13_value 207 = .ok (.if_icmp .ne 7, 3) := dk_160 0 7 (dk_at dksX13_value_5 0 rfl rfl)
theorem dX13_value_210 : decode cX13_value 210 = .ok (.iconst 1, 1) := dk_4 (dk_at dksX13_value_5 3 rfl rfl)
theorem dX13_value_211 : decode cX13_value 211 = .ok (.goto 4, 3) := dk_167 0 4 (dk_at dksX13_value_5 4 rfl rfl)
theorem dX13_value_214 : decode cX13_value 214 = .ok (.iconst 0, 1) := dk_3 (dk_at dksX13_value_5 7 rfl rfl)
theorem dX13_value_215 : decode cX13_value 215 = .ok (.invokestatic 24, 3) := dk_184 0 24 (dk_at dksX13_value_5 8 rfl rfl)
theorem dX13_value_218 : decode cX13_value 218 = .ok (.ireturn, 1) := dk_172 (dk_at dksX13_value_5 11 rfl rfl)
theorem dX13_value_219 : decode cX13_value 219 = .ok (.iload_n 2, 1) := dk_28 (dk_at dksX13_value_5 12 rfl rfl)
theorem dX13_value_220 : decode cX13_value 220 = .ok (.iload_n 3, 1) := dk_29 (dk_at dksX13_value_5 13 rfl rfl)
theorem dX13_value_221 : decode cX13_value 221 = .ok (.if_icmp .le 7, 3) := dk_164 0 7 (dk_at dksX13_value_5 14 rfl rfl)
theorem dX13_value_224 : decode cX13_value 224 = .ok (.iconst 1, 1) := dk_4 (dk_at dksX13_value_5 17 rfl rfl)
theorem dX13_value_225 : decode cX13_value 225 = .ok (.goto 4, 3) := dk_167 0 4 (dk_at dksX13_value_5 18 rfl rfl)
theorem dX13_value_228 : decode cX13_value 228 = .ok (.iconst 0, 1) := dk_3 (dk_at dksX13_value_5 21 rfl rfl)
theorem dX13_value_229 : decode cX13_value 229 = .ok (.invokestatic 24, 3) := dk_184 0 24 (dk_at dksX13_value_6 0 rfl rfl)
theorem dX13_value_232 : decode cX13_value 232 = .ok (.ireturn, 1) := dk_172 (dk_at dksX13_value_6 3 rfl rfl)
theorem dX13_value_233 : decode cX13_value 233 = .ok (.iload_n 2, 1) := dk_28 (dk_at dksX13_value_6 4 rfl rfl)
theorem dX13_value_234 : decode cX13_value 234 = .ok (.ifCond .eq 11, 3) := dk_153 0 11 (dk_at dksX13_value_6 5 rfl rfl)
theorem dX13_value_237 : decode cX13_value 237 = .ok (.iload_n 3, 1) := dk_29 (dk_at dksX13_value_6 8 rfl rfl)
theorem dX13_value_238 : decode cX13_value 238 = .ok (.ifCond .eq 7, 3) := dk_153 0 7 (dk_at dksX13_value_6 9 rfl rfl)
theorem dX13_value_241 : decode cX13_value 241 = .ok (.iconst 1, 1) := dk_4 (dk_at dksX13_value_6 12 rfl rfl)
theorem dX13_value_242 : decode cX13_value 242 = .ok (.goto 4, 3) := dk_167 0 4 (dk_at dksX13_value_6 13 rfl rfl)
theorem dX13_value_245 : decode cX13_value 245 = .ok (.iconst 0, 1) := dk_3 (dk_at dksX13_value_6 16 rfl rfl)
theorem dX13_value_246 : decode cX13_value 246 = .ok (.invokestatic 24, 3) := dk_184 0 24 (dk_at dksX13_value_6 17 rfl rfl)
theorem dX13_value_249 : decode cX13_value 249 = .ok (.ireturn, 1) := dk_172 (dk_at dksX13_value_6 20 rfl rfl)
theorem dX13_value_250 : decode cX13_value 250 = .ok (.iload_n 2, 1) := dk_28 (dk_at dksX13_value_6 21 rfl rfl)
theorem dX13_value_251 : decode cX13_value 251 = .ok (.ifCond .ne 7, 3) := dk_154 0 7 (dk_at dksX13_value_7 0 rfl rfl)
theorem dX13_value_254 : decode cX13_value 254 = .ok (.iload_n 3, 1) := dk_29 (dk_at dksX13_value_7 3 rfl rfl)
theorem dX13_value_255 : decode cX13_value 255 = .ok (.ifCond .eq 7, 3) := dk_153 0 7 (dk_at dksX13_value_7 4 rfl rfl)
theorem dX13_value_258 : decode cX13_value 258 = .ok (.iconst 1, 1) := dk_4 (dk_at dksX13_value_7 7 rfl rfl)
theorem dX13_value_259 : decode cX13_value 259 = .ok (.goto 4, 3) := dk_167 0 4 (dk_at dksX13_value_7 8 rfl rfl)
theorem dX13_value_262 : decode cX13_value 262 = .ok (.iconst 0, 1) := dk_3 (dk_at dksX13_value_7 11 rfl rfl)
theorem dX13_value_263 : decode cX13_value 263 = .ok (.invokestatic 24, 3) := dk_184 0 24 (dk_at dksX13_value_7 12 rfl rfl)
theorem dX13_value_266 : decode cX13_value 266 = .ok (.ireturn, 1) := dk_172 (dk_at dksX13_value_7 15 rfl rfl)
abbrev cX13_is : ByteArray := prog_24_method_2_code
def yX13_is : MethodName := ⟨RX13, "is", "(Z)I"⟩
def dkwX13_is_0 : List UInt8 := [26, 153, 0, 7, 4, 167, 0, 4, 3, 172]
abbrev dktX13_is_0 : List UInt8 := dkwX13_is_0 ++ []
theorem dksX13_is_0 : cX13_is.data.toList.drop 0 = dktX13_is_0 := by decide +kernel
theorem dX13_is_0 : decode cX13_is 0 = .ok (.iload_n 0, 1) := dk_26 (dk_at dksX13_is_0 0 rfl rfl)
theorem dX13_is_1 : decode cX13_is 1 = .ok (.ifCond .eq 7, 3) := dk_153 0 7 (dk_at dksX13_is_0 1 rfl rfl)
theorem dX13_is_4 : decode cX13_is 4 = .ok (.iconst 1, 1) := dk_4 (dk_at dksX13_is_0 4 rfl rfl)
theorem dX13_is_5 : decode cX13_is 5 = .ok (.goto 4, 3) := dk_167 0 4 (dk_at dksX13_is_0 5 rfl rfl)
theorem dX13_is_8 : decode cX13_is 8 = .ok (.iconst 0, 1) := dk_3 (dk_at dksX13_is_0 8 rfl rfl)
theorem dX13_is_9 : decode cX13_is 9 = .ok (.ireturn, 1) := dk_172 (dk_at dksX13_is_0 9 rfl rfl)
theorem q111 : (Jvm.Cond.initialized "HeadReckons$Pair") ∈ lw_all := lw_g (lw_at lw_m1 20 rfl) rfl
theorem q612 : (Jvm.Cond.instantiable "HeadReckons$Pair" (3 : Nat)) ∈ lw_all := lw_g (lw_at lw_m3 41 rfl) rfl
theorem q614 : (Jvm.Cond.instanceMethod ({ cls := "HeadReckons$Pair", name := "<init>", desc := "(ILHeadReckons$Node;LHeadReckons$Node;)V" } : Jvm.MethodName)) ∈ lw_all := lw_g (lw_at lw_m3 43 rfl) rfl
theorem q615 : (Jvm.Cond.code ({ cls := "HeadReckons$Pair", name := "<init>", desc := "(ILHeadReckons$Node;LHeadReckons$Node;)V" } : Jvm.MethodName) prog_24_method_1_code (4 : Nat) (Option.none : Option Jvm.ClassFile.FieldType)) ∈ lw_all := lw_g (lw_at lw_m3 44 rfl) rfl
theorem q616 : (Jvm.Cond.methodLinkNest "HeadReckons$Pair" (1 : Nat) ({ cls := "HeadReckons$Node", name := "<init>", desc := "()V" } : Jvm.MethodName) "HeadReckons") ∈ lw_tbl := lw_at lw_m3 45 rfl
theorem q617 : (Jvm.Cond.fieldLink "HeadReckons$Pair" (7 : Nat) "HeadReckons$Pair" "sign" "I") ∈ lw_all := lw_g (lw_at lw_m3 46 rfl) rfl
theorem q618 : (Jvm.Cond.fieldLink "HeadReckons$Pair" (13 : Nat) "HeadReckons$Pair" "left" "LHeadReckons$Node;") ∈ lw_all := lw_g (lw_at lw_m3 47 rfl) rfl
theorem q619 : (Jvm.Cond.fieldLink "HeadReckons$Pair" (17 : Nat) "HeadReckons$Pair" "right" "LHeadReckons$Node;") ∈ lw_all := lw_g (lw_at lw_m3 48 rfl) rfl
theorem q620 : (Jvm.Cond.laysFinal "HeadReckons$Pair" "HeadReckons$Pair" "sign" "I") ∈ lw_all := lw_g (lw_at lw_m3 49 rfl) rfl
theorem q621 : (Jvm.Cond.soleField "HeadReckons$Pair" "sign") ∈ lw_all := lw_g (lw_at lw_m3 50 rfl) rfl
theorem q622 : (Jvm.Cond.laysFinal "HeadReckons$Pair" "HeadReckons$Pair" "left" "LHeadReckons$Node;") ∈ lw_all := lw_g (lw_at lw_m3 51 rfl) rfl
theorem q623 : (Jvm.Cond.soleField "HeadReckons$Pair" "left") ∈ lw_all := lw_g (lw_at lw_m3 52 rfl) rfl
theorem q624 : (Jvm.Cond.laysFinal "HeadReckons$Pair" "HeadReckons$Pair" "right" "LHeadReckons$Node;") ∈ lw_all := lw_g (lw_at lw_m3 53 rfl) rfl
theorem q625 : (Jvm.Cond.soleField "HeadReckons$Pair" "right") ∈ lw_all := lw_g (lw_at lw_m3 54 rfl) rfl
theorem q626 : (Jvm.Cond.superclass "HeadReckons$Pair" "HeadReckons$Node") ∈ lw_all := lw_g (lw_at lw_m3 55 rfl) rfl
theorem q751 : (Jvm.Cond.instanceMethod ({ cls := "HeadReckons$Pair", name := "value", desc := "(LHeadReckons$Facts;)I" } : Jvm.MethodName)) ∈ lw_all := lw_g (lw_at lw_m3 180 rfl) rfl
theorem q752 : (Jvm.Cond.code ({ cls := "HeadReckons$Pair", name := "value", desc := "(LHeadReckons$Facts;)I" } : Jvm.MethodName) prog_24_method_3_code (4 : Nat) (Option.some Jvm.ClassFile.FieldType.int)) ∈ lw_all := lw_g (lw_at lw_m3 181 rfl) rfl
theorem q753 : (Jvm.Cond.methodLink "HeadReckons$Pair" (20 : Nat) ({ cls := "HeadReckons$Node", name := "value", desc := "(LHeadReckons$Facts;)I" } : Jvm.MethodName)) ∈ lw_all := lw_g (lw_at lw_m3 182 rfl) rfl
theorem q757 : (Jvm.Cond.methodLink "HeadReckons$Pair" (24 : Nat) ({ cls := "HeadReckons$Pair", name := "is", desc := "(Z)I" } : Jvm.MethodName)) ∈ lw_all := lw_g (lw_at lw_m3 186 rfl) rfl
theorem q758 : (Jvm.Cond.static ({ cls := "HeadReckons$Pair", name := "is", desc := "(Z)I" } : Jvm.MethodName)) ∈ lw_all := lw_g (lw_at lw_m3 187 rfl) rfl
theorem q759 : (Jvm.Cond.code ({ cls := "HeadReckons$Pair", name := "is", desc := "(Z)I" } : Jvm.MethodName) prog_24_method_2_code (1 : Nat) (Option.some Jvm.ClassFile.FieldType.int)) ∈ lw_all := lw_g (lw_at lw_m3 188 rfl) rfl
theorem q762 : (Jvm.Cond.selects "HeadReckons$Pair" ({ cls := "HeadReckons$Node", name := "value", desc := "(LHeadReckons$Facts;)I" } : Jvm.MethodName) ({ cls := "HeadReckons$Pair", name := "value", desc := "(LHeadReckons$Facts;)I" } : Jvm.MethodName)) ∈ lw_all := lw_g (lw_at lw_m3 191 rfl) rfl
theorem in_X13 : ∀ w ∈ wsX130, w ∈ lw_all := lw_in wsX130 [620, 622, 624] (by decide +kernel) (by decide +kernel)

/-! HeadReckons$Seen -/
set_option maxRecDepth 100000
def RX14 : String := "HeadReckons$Seen"
def TX14 : u_T := fun k => match k with
  | 0 => ("HeadReckons$Seen", "a", "I", true)
  | 1 => ("HeadReckons$Seen", "b", "I", true)
  | 2 => ("HeadReckons$Seen", "tenths", "I", true)
  | _ => ("HeadReckons$Seen", "answer", "I", true)
def tyX14 : Nat → FieldType := fun k => match k with
  | 0 => .int
  | 1 => .int
  | 2 => .int
  | _ => .int
abbrev wsX140 : List Cond := u_ws RX14 TX14 4
theorem nmX14 : ∀ a, a < 4 → ∀ b, b < 4 → a ≠ b → (TX14 a).2.1 ≠ (TX14 b).2.1 := by decide +kernel
theorem tyX14_ok : ∀ k, k < 4 → parseFieldDescriptor (TX14 k).2.2.1 = some (tyX14 k) := by decide +kernel
abbrev cX14_init : ByteArray := prog_28_method_1_code
def yX14_init : MethodName := ⟨RX14, "<init>", "(III)V"⟩
def dkwX14_init_1 : List UInt8 := [181, 0, 16, 42, 29, 181, 0, 19, 177]
abbrev dktX14_init_1 : List UInt8 := dkwX14_init_1 ++ []
def dkwX14_init_0 : List UInt8 := [42, 183, 0, 1, 42, 27, 17, 39, 16, 108, 181, 0, 7, 42, 27, 17, 39, 16, 112, 181, 0, 13, 42, 28]
abbrev dktX14_init_0 : List UInt8 := dkwX14_init_0 ++ dktX14_init_1
theorem dksX14_init_0 : cX14_init.data.toList.drop 0 = dktX14_init_0 := by decide +kernel
theorem dksX14_init_1 : cX14_init.data.toList.drop 24 = dktX14_init_1 := dk_seg dksX14_init_0 24 rfl rfl
theorem dX14_init_0 : decode cX14_init 0 = .ok (.aload_n 0, 1) := dk_42 (dk_at dksX14_init_0 0 rfl rfl)
theorem dX14_init_1 : decode cX14_init 1 = .ok (.invokespecial 1, 3) := dk_183 0 1 (dk_at dksX14_init_0 1 rfl rfl)
theorem dX14_init_4 : decode cX14_init 4 = .ok (.aload_n 0, 1) := dk_42 (dk_at dksX14_init_0 4 rfl rfl)
theorem dX14_init_5 : decode cX14_init 5 = .ok (.iload_n 1, 1) := dk_27 (dk_at dksX14_init_0 5 rfl rfl)
theorem dX14_init_6 : decode cX14_init 6 = .ok (.sipush 10000, 3) := dk_17 39 16 (dk_at dksX14_init_0 6 rfl rfl)
theorem dX14_init_9 : decode cX14_init 9 = .ok (.idiv, 1) := dk_108 (dk_at dksX14_init_0 9 rfl rfl)
theorem dX14_init_10 : decode cX14_init 10 = .ok (.putfield 7, 3) := dk_181 0 7 (dk_at dksX14_init_0 10 rfl rfl)
theorem dX14_init_13 : decode cX14_init 13 = .ok (.aload_n 0, 1) := dk_42 (dk_at dksX14_init_0 13 rfl rfl)
theorem dX14_init_14 : decode cX14_init 14 = .ok (.iload_n 1, 1) := dk_27 (dk_at dksX14_init_0 14 rfl rfl)
theorem dX14_init_15 : decode cX14_init 15 = .ok (.sipush 10000, 3) := dk_17 39 16 (dk_at dksX14_init_0 15 rfl rfl)
theorem dX14_init_18 : decode cX14_init 18 = .ok (.irem, 1) := dk_112 (dk_at dksX14_init_0 18 rfl rfl)
theorem dX14_init_19 : decode cX14_init 19 = .ok (.putfield 13, 3) := dk_181 0 13 (dk_at dksX14_init_0 19 rfl rfl)
theorem dX14_init_22 : decode cX14_init 22 = .ok (.aload_n 0, 1) := dk_42 (dk_at dksX14_init_0 22 rfl rfl)
theorem dX14_init_23 : decode cX14_init 23 = .ok (.iload_n 2, 1) := dk_28 (dk_at dksX14_init_0 23 rfl rfl)
theorem dX14_init_24 : decode cX14_init 24 = .ok (.putfield 16, 3) := dk_181 0 16 (dk_at dksX14_init_1 0 rfl rfl)
theorem dX14_init_27 : decode cX14_init 27 = .ok (.aload_n 0, 1) := dk_42 (dk_at dksX14_init_1 3 rfl rfl)
theorem dX14_init_28 : decode cX14_init 28 = .ok (.iload_n 3, 1) := dk_29 (dk_at dksX14_init_1 4 rfl rfl)
theorem dX14_init_29 : decode cX14_init 29 = .ok (.putfield 19, 3) := dk_181 0 19 (dk_at dksX14_init_1 5 rfl rfl)
theorem dX14_init_32 : decode cX14_init 32 = .ok (.return_, 1) := dk_177 (dk_at dksX14_init_1 8 rfl rfl)
abbrev cX14_off : ByteArray := prog_28_method_2_code
def yX14_off : MethodName := ⟨RX14, "off", "()J"⟩
def dkwX14_off_0 : List UInt8 := [42, 180, 0, 19, 133, 42, 180, 0, 7, 133, 42, 180, 0, 13, 133, 105, 101, 173]
abbrev dktX14_off_0 : List UInt8 := dkwX14_off_0 ++ []
theorem dksX14_off_0 : cX14_off.data.toList.drop 0 = dktX14_off_0 := by decide +kernel
theorem dX14_off_0 : decode cX14_off 0 = .ok (.aload_n 0, 1) := dk_42 (dk_at dksX14_off_0 0 rfl rfl)
theorem dX14_off_1 : decode cX14_off 1 = .ok (.getfield 19, 3) := dk_180 0 19 (dk_at dksX14_off_0 1 rfl rfl)
theorem dX14_off_4 : decode cX14_off 4 = .ok (.i2l, 1) := dk_133 (dk_at dksX14_off_0 4 rfl rfl)
theorem dX14_off_5 : decode cX14_off 5 = .ok (.aload_n 0, 1) := dk_42 (dk_at dksX14_off_0 5 rfl rfl)
theorem dX14_off_6 : decode cX14_off 6 = .ok (.getfield 7, 3) := dk_180 0 7 (dk_at dksX14_off_0 6 rfl rfl)
theorem dX14_off_9 : decode cX14_off 9 = .ok (.i2l, 1) := dk_133 (dk_at dksX14_off_0 9 rfl rfl)
theorem dX14_off_10 : decode cX14_off 10 = .ok (.aload_n 0, 1) := dk_42 (dk_at dksX14_off_0 10 rfl rfl)
theorem dX14_off_11 : decode cX14_off 11 = .ok (.getfield 13, 3) := dk_180 0 13 (dk_at dksX14_off_0 11 rfl rfl)
theorem dX14_off_14 : decode cX14_off 14 = .ok (.i2l, 1) := dk_133 (dk_at dksX14_off_0 14 rfl rfl)
theorem dX14_off_15 : decode cX14_off 15 = .ok (.lmul, 1) := dk_105 (dk_at dksX14_off_0 15 rfl rfl)
theorem dX14_off_16 : decode cX14_off 16 = .ok (.lsub, 1) := dk_101 (dk_at dksX14_off_0 16 rfl rfl)
theorem dX14_off_17 : decode cX14_off 17 = .ok (.lreturn, 1) := dk_173 (dk_at dksX14_off_0 17 rfl rfl)
theorem q112 : (Jvm.Cond.initialized "HeadReckons$Seen") ∈ lw_all := lw_g (lw_at lw_m1 21 rfl) rfl
theorem q799 : (Jvm.Cond.instantiable "HeadReckons$Seen" (4 : Nat)) ∈ lw_all := lw_g (lw_at lw_m3 228 rfl) rfl
theorem q801 : (Jvm.Cond.instanceMethod ({ cls := "HeadReckons$Seen", name := "<init>", desc := "(III)V" } : Jvm.MethodName)) ∈ lw_all := lw_g (lw_at lw_m3 230 rfl) rfl
theorem q802 : (Jvm.Cond.code ({ cls := "HeadReckons$Seen", name := "<init>", desc := "(III)V" } : Jvm.MethodName) prog_28_method_1_code (4 : Nat) (Option.none : Option Jvm.ClassFile.FieldType)) ∈ lw_all := lw_g (lw_at lw_m3 231 rfl) rfl
theorem q803 : (Jvm.Cond.methodLink "HeadReckons$Seen" (1 : Nat) ({ cls := "java/lang/Object", name := "<init>", desc := "()V" } : Jvm.MethodName)) ∈ lw_all := lw_g (lw_at lw_m3 232 rfl) rfl
theorem q804 : (Jvm.Cond.fieldLink "HeadReckons$Seen" (7 : Nat) "HeadReckons$Seen" "a" "I") ∈ lw_all := lw_g (lw_at lw_m3 233 rfl) rfl
theorem q806 : (Jvm.Cond.fieldLink "HeadReckons$Seen" (13 : Nat) "HeadReckons$Seen" "b" "I") ∈ lw_all := lw_g (lw_at lw_m3 235 rfl) rfl
theorem q808 : (Jvm.Cond.fieldLink "HeadReckons$Seen" (16 : Nat) "HeadReckons$Seen" "tenths" "I") ∈ lw_all := lw_g (lw_at lw_m3 237 rfl) rfl
theorem q810 : (Jvm.Cond.fieldLink "HeadReckons$Seen" (19 : Nat) "HeadReckons$Seen" "answer" "I") ∈ lw_all := lw_g (lw_at lw_m3 239 rfl) rfl
theorem q811 : (Jvm.Cond.laysFinal "HeadReckons$Seen" "HeadReckons$Seen" "a" "I") ∈ lw_all := lw_g (lw_at lw_m4 0 rfl) rfl
theorem q812 : (Jvm.Cond.soleField "HeadReckons$Seen" "a") ∈ lw_all := lw_g (lw_at lw_m4 1 rfl) rfl
theorem q813 : (Jvm.Cond.laysFinal "HeadReckons$Seen" "HeadReckons$Seen" "b" "I") ∈ lw_all := lw_g (lw_at lw_m4 2 rfl) rfl
theorem q814 : (Jvm.Cond.soleField "HeadReckons$Seen" "b") ∈ lw_all := lw_g (lw_at lw_m4 3 rfl) rfl
theorem q815 : (Jvm.Cond.laysFinal "HeadReckons$Seen" "HeadReckons$Seen" "tenths" "I") ∈ lw_all := lw_g (lw_at lw_m4 4 rfl) rfl
theorem q816 : (Jvm.Cond.soleField "HeadReckons$Seen" "tenths") ∈ lw_all := lw_g (lw_at lw_m4 5 rfl) rfl
theorem q817 : (Jvm.Cond.laysFinal "HeadReckons$Seen" "HeadReckons$Seen" "answer" "I") ∈ lw_all := lw_g (lw_at lw_m4 6 rfl) rfl
theorem q818 : (Jvm.Cond.soleField "HeadReckons$Seen" "answer") ∈ lw_all := lw_g (lw_at lw_m4 7 rfl) rfl
theorem q819 : (Jvm.Cond.superclass "HeadReckons$Seen" "java/lang/Object") ∈ lw_all := lw_g (lw_at lw_m4 8 rfl) rfl
theorem q970 : (Jvm.Cond.instanceMethod ({ cls := "HeadReckons$Seen", name := "off", desc := "()J" } : Jvm.MethodName)) ∈ lw_all := lw_g (lw_at lw_m4 159 rfl) rfl
theorem q971 : (Jvm.Cond.selects "HeadReckons$Seen" ({ cls := "HeadReckons$Seen", name := "off", desc := "()J" } : Jvm.MethodName) ({ cls := "HeadReckons$Seen", name := "off", desc := "()J" } : Jvm.MethodName)) ∈ lw_all := lw_g (lw_at lw_m4 160 rfl) rfl
theorem q972 : (Jvm.Cond.code ({ cls := "HeadReckons$Seen", name := "off", desc := "()J" } : Jvm.MethodName) prog_28_method_2_code (1 : Nat) (Option.some Jvm.ClassFile.FieldType.long)) ∈ lw_all := lw_g (lw_at lw_m4 161 rfl) rfl
theorem in_X14 : ∀ w ∈ wsX140, w ∈ lw_all := lw_in wsX140 [811, 813, 815, 817] (by decide +kernel) (by decide +kernel)

/-! HeadReckons$Learnt -/
set_option maxRecDepth 100000
def RX15 : String := "HeadReckons$Learnt"
def TX15 : u_T := fun k => match k with
  | 0 => ("HeadReckons$Learnt", "a", "I", false)
  | 1 => ("HeadReckons$Learnt", "b", "I", false)
  | _ => ("HeadReckons$Learnt", "times", "I", false)
def tyX15 : Nat → FieldType := fun k => match k with
  | 0 => .int
  | 1 => .int
  | _ => .int
abbrev wsX150 : List Cond := u_ws RX15 TX15 3
theorem nmX15 : ∀ a, a < 3 → ∀ b, b < 3 → a ≠ b → (TX15 a).2.1 ≠ (TX15 b).2.1 := by decide +kernel
theorem tyX15_ok : ∀ k, k < 3 → parseFieldDescriptor (TX15 k).2.2.1 = some (tyX15 k) := by decide +kernel
abbrev cX15_is : ByteArray := prog_19_method_3_code
def yX15_is : MethodName := ⟨RX15, "is", "(II)Z"⟩
def dkwX15_is_1 : List UInt8 := [42, 180, 0, 13, 27, 160, 0, 7, 4, 167, 0, 4, 3, 172]
abbrev dktX15_is_1 : List UInt8 := dkwX15_is_1 ++ []
def dkwX15_is_0 : List UInt8 := [42, 180, 0, 7, 27, 160, 0, 11, 42, 180, 0, 13, 28, 159, 0, 19, 42, 180, 0, 7, 28, 160, 0, 15]
abbrev dktX15_is_0 : List UInt8 := dkwX15_is_0 ++ dktX15_is_1
theorem dksX15_is_0 : cX15_is.data.toList.drop 0 = dktX15_is_0 := by decide +kernel
theorem dksX15_is_1 : cX15_is.data.toList.drop 24 = dktX15_is_1 := dk_seg dksX15_is_0 24 rfl rfl
theorem dX15_is_0 : decode cX15_is 0 = .ok (.aload_n 0, 1) := dk_42 (dk_at dksX15_is_0 0 rfl rfl)
theorem dX15_is_1 : decode cX15_is 1 = .ok (.getfield 7, 3) := dk_180 0 7 (dk_at dksX15_is_0 1 rfl rfl)
theorem dX15_is_4 : decode cX15_is 4 = .ok (.iload_n 1, 1) := dk_27 (dk_at dksX15_is_0 4 rfl rfl)
theorem dX15_is_5 : decode cX15_is 5 = .ok (.if_icmp .ne 11, 3) := dk_160 0 11 (dk_at dksX15_is_0 5 rfl rfl)
theorem dX15_is_8 : decode cX15_is 8 = .ok (.aload_n 0, 1) := dk_42 (dk_at dksX15_is_0 8 rfl rfl)
theorem dX15_is_9 : decode cX15_is 9 = .ok (.getfield 13, 3) := dk_180 0 13 (dk_at dksX15_is_0 9 rfl rfl)
theorem dX15_is_12 : decode cX15_is 12 = .ok (.iload_n 2, 1) := dk_28 (dk_at dksX15_is_0 12 rfl rfl)
theorem dX15_is_13 : decode cX15_is 13 = .ok (.if_icmp .eq 19, 3) := dk_159 0 19 (dk_at dksX15_is_0 13 rfl rfl)
theorem dX15_is_16 : decode cX15_is 16 = .ok (.aload_n 0, 1) := dk_42 (dk_at dksX15_is_0 16 rfl rfl)
theorem dX15_is_17 : decode cX15_is 17 = .ok (.getfield 7, 3) := dk_180 0 7 (dk_at dksX15_is_0 17 rfl rfl)
theorem dX15_is_20 : decode cX15_is 20 = .ok (.iload_n 2, 1) := dk_28 (dk_at dksX15_is_0 20 rfl rfl)
theorem dX15_is_21 : decode cX15_is 21 = .ok (.if_icmp .ne 15, 3) := dk_160 0 15 (dk_at dksX15_is_0 21 rfl rfl)
theorem dX15_is_24 : decode cX15_is 24 = .ok (.aload_n 0, 1) := dk_42 (dk_at dksX15_is_1 0 rfl rfl)
theorem dX15_is_25 : decode cX15_is 25 = .ok (.getfield 13, 3) := dk_180 0 13 (dk_at dksX15_is_1 1 rfl rfl)
theorem dX15_is_28 : decode cX15_is 28 = .ok (.iload_n 1, 1) := dk_27 (dk_at dksX15_is_1 4 rfl rfl)
theorem dX15_is_29 : decode cX15_is 29 = .ok (.if_icmp .ne 7, 3) := dk_160 0 7 (dk_at dksX15_is_1 5 rfl rfl)
theorem dX15_is_32 : decode cX15_is 32 = .ok (.iconst 1, 1) := dk_4 (dk_at dksX15_is_1 8 rfl rfl)
theorem dX15_is_33 : decode cX15_is 33 = .ok (.goto 4, 3) := dk_167 0 4 (dk_at dksX15_is_1 9 rfl rfl)
theorem dX15_is_36 : decode cX15_is 36 = .ok (.iconst 0, 1) := dk_3 (dk_at dksX15_is_1 12 rfl rfl)
theorem dX15_is_37 : decode cX15_is 37 = .ok (.ireturn, 1) := dk_172 (dk_at dksX15_is_1 13 rfl rfl)
abbrev cX15_init : ByteArray := prog_19_method_1_code
def yX15_init : MethodName := ⟨RX15, "<init>", "()V"⟩
theorem dX15_init_0 : decode cX15_init 0 = .ok (.aload_n 0, 1) := by decide +kernel
theorem dX15_init_1 : decode cX15_init 1 = .ok (.invokespecial 1, 3) := by decide +kernel
theorem dX15_init_4 : decode cX15_init 4 = .ok (.return_, 1) := by decide +kernel
abbrev cX15_become : ByteArray := prog_19_method_2_code
def yX15_become : MethodName := ⟨RX15, "become", "(III)V"⟩
def dkwX15_become_0 : List UInt8 := [42, 27, 181, 0, 7, 42, 28, 181, 0, 13, 42, 29, 181, 0, 16, 177]
abbrev dktX15_become_0 : List UInt8 := dkwX15_become_0 ++ []
theorem dksX15_become_0 : cX15_become.data.toList.drop 0 = dktX15_become_0 := by decide +kernel
theorem dX15_become_0 : decode cX15_become 0 = .ok (.aload_n 0, 1) := dk_42 (dk_at dksX15_become_0 0 rfl rfl)
theorem dX15_become_1 : decode cX15_become 1 = .ok (.iload_n 1, 1) := dk_27 (dk_at dksX15_become_0 1 rfl rfl)
theorem dX15_become_2 : decode cX15_become 2 = .ok (.putfield 7, 3) := dk_181 0 7 (dk_at dksX15_become_0 2 rfl rfl)
theorem dX15_become_5 : decode cX15_become 5 = .ok (.aload_n 0, 1) := dk_42 (dk_at dksX15_become_0 5 rfl rfl)
theorem dX15_become_6 : decode cX15_become 6 = .ok (.iload_n 2, 1) := dk_28 (dk_at dksX15_become_0 6 rfl rfl)
theorem dX15_become_7 : decode cX15_become 7 = .ok (.putfield 13, 3) := dk_181 0 13 (dk_at dksX15_become_0 7 rfl rfl)
theorem dX15_become_10 : decode cX15_become 10 = .ok (.aload_n 0, 1) := dk_42 (dk_at dksX15_become_0 10 rfl rfl)
theorem dX15_become_11 : decode cX15_become 11 = .ok (.iload_n 3, 1) := dk_29 (dk_at dksX15_become_0 11 rfl rfl)
theorem dX15_become_12 : decode cX15_become 12 = .ok (.putfield 16, 3) := dk_181 0 16 (dk_at dksX15_become_0 12 rfl rfl)
theorem dX15_become_15 : decode cX15_become 15 = .ok (.return_, 1) := dk_177 (dk_at dksX15_become_0 15 rfl rfl)
theorem q120 : (Jvm.Cond.initialized "HeadReckons$Learnt") ∈ lw_all := lw_g (lw_at lw_m1 29 rfl) rfl
theorem q661 : (Jvm.Cond.instanceMethod ({ cls := "HeadReckons$Learnt", name := "is", desc := "(II)Z" } : Jvm.MethodName)) ∈ lw_all := lw_g (lw_at lw_m3 90 rfl) rfl
theorem q662 : (Jvm.Cond.selects "HeadReckons$Learnt" ({ cls := "HeadReckons$Learnt", name := "is", desc := "(II)Z" } : Jvm.MethodName) ({ cls := "HeadReckons$Learnt", name := "is", desc := "(II)Z" } : Jvm.MethodName)) ∈ lw_all := lw_g (lw_at lw_m3 91 rfl) rfl
theorem q663 : (Jvm.Cond.code ({ cls := "HeadReckons$Learnt", name := "is", desc := "(II)Z" } : Jvm.MethodName) prog_19_method_3_code (3 : Nat) (Option.some Jvm.ClassFile.FieldType.boolean)) ∈ lw_all := lw_g (lw_at lw_m3 92 rfl) rfl
theorem q1035 : (Jvm.Cond.instantiable "HeadReckons$Learnt" (3 : Nat)) ∈ lw_all := lw_g (lw_at lw_m4 224 rfl) rfl
theorem q1037 : (Jvm.Cond.instanceMethod ({ cls := "HeadReckons$Learnt", name := "<init>", desc := "()V" } : Jvm.MethodName)) ∈ lw_all := lw_g (lw_at lw_m4 226 rfl) rfl
theorem q1038 : (Jvm.Cond.code ({ cls := "HeadReckons$Learnt", name := "<init>", desc := "()V" } : Jvm.MethodName) prog_19_method_1_code (1 : Nat) (Option.none : Option Jvm.ClassFile.FieldType)) ∈ lw_all := lw_g (lw_at lw_m4 227 rfl) rfl
theorem q1039 : (Jvm.Cond.methodLink "HeadReckons$Learnt" (1 : Nat) ({ cls := "java/lang/Object", name := "<init>", desc := "()V" } : Jvm.MethodName)) ∈ lw_all := lw_g (lw_at lw_m4 228 rfl) rfl
theorem q1040 : (Jvm.Cond.fieldLink "HeadReckons$Learnt" (7 : Nat) "HeadReckons$Learnt" "a" "I") ∈ lw_all := lw_g (lw_at lw_m4 229 rfl) rfl
theorem q1042 : (Jvm.Cond.fieldLink "HeadReckons$Learnt" (13 : Nat) "HeadReckons$Learnt" "b" "I") ∈ lw_all := lw_g (lw_at lw_m4 231 rfl) rfl
theorem q1044 : (Jvm.Cond.fieldLink "HeadReckons$Learnt" (16 : Nat) "HeadReckons$Learnt" "times" "I") ∈ lw_all := lw_g (lw_at lw_m4 233 rfl) rfl
theorem q1046 : (Jvm.Cond.lays "HeadReckons$Learnt" "HeadReckons$Learnt" "a" "I") ∈ lw_all := lw_g (lw_at lw_m4 235 rfl) rfl
theorem q1047 : (Jvm.Cond.soleField "HeadReckons$Learnt" "a") ∈ lw_all := lw_g (lw_at lw_m4 236 rfl) rfl
theorem q1048 : (Jvm.Cond.lays "HeadReckons$Learnt" "HeadReckons$Learnt" "b" "I") ∈ lw_all := lw_g (lw_at lw_m4 237 rfl) rfl
theorem q1049 : (Jvm.Cond.soleField "HeadReckons$Learnt" "b") ∈ lw_all := lw_g (lw_at lw_m4 238 rfl) rfl
theorem q1050 : (Jvm.Cond.lays "HeadReckons$Learnt" "HeadReckons$Learnt" "times" "I") ∈ lw_all := lw_g (lw_at lw_m4 239 rfl) rfl
theorem q1051 : (Jvm.Cond.soleField "HeadReckons$Learnt" "times") ∈ lw_all := lw_g (lw_at lw_m5 0 rfl) rfl
theorem q1052 : (Jvm.Cond.superclass "HeadReckons$Learnt" "java/lang/Object") ∈ lw_all := lw_g (lw_at lw_m5 1 rfl) rfl
theorem q1054 : (Jvm.Cond.instanceMethod ({ cls := "HeadReckons$Learnt", name := "become", desc := "(III)V" } : Jvm.MethodName)) ∈ lw_all := lw_g (lw_at lw_m5 3 rfl) rfl
theorem q1055 : (Jvm.Cond.selects "HeadReckons$Learnt" ({ cls := "HeadReckons$Learnt", name := "become", desc := "(III)V" } : Jvm.MethodName) ({ cls := "HeadReckons$Learnt", name := "become", desc := "(III)V" } : Jvm.MethodName)) ∈ lw_all := lw_g (lw_at lw_m5 4 rfl) rfl
theorem q1056 : (Jvm.Cond.code ({ cls := "HeadReckons$Learnt", name := "become", desc := "(III)V" } : Jvm.MethodName) prog_19_method_2_code (4 : Nat) (Option.none : Option Jvm.ClassFile.FieldType)) ∈ lw_all := lw_g (lw_at lw_m5 5 rfl) rfl
theorem in_X15 : ∀ w ∈ wsX150, w ∈ lw_all := lw_in wsX150 [1046, 1048, 1050] (by decide +kernel) (by decide +kernel)

/-! HeadReckons$Held -/
set_option maxRecDepth 100000
def RX16 : String := "HeadReckons$Held"
abbrev cX16_init : ByteArray := prog_16_method_1_code
def yX16_init : MethodName := ⟨RX16, "<init>", "()V"⟩
theorem dX16_init_0 : decode cX16_init 0 = .ok (.aload_n 0, 1) := by decide +kernel
theorem dX16_init_1 : decode cX16_init 1 = .ok (.invokespecial 1, 3) := by decide +kernel
theorem dX16_init_4 : decode cX16_init 4 = .ok (.return_, 1) := by decide +kernel
theorem q121 : (Jvm.Cond.initialized "HeadReckons$Held") ∈ lw_all := lw_g (lw_at lw_m1 30 rfl) rfl
theorem q1136 : (Jvm.Cond.instanceMethod ({ cls := "HeadReckons$Held", name := "<init>", desc := "()V" } : Jvm.MethodName)) ∈ lw_all := lw_g (lw_at lw_m5 85 rfl) rfl
theorem q1137 : (Jvm.Cond.code ({ cls := "HeadReckons$Held", name := "<init>", desc := "()V" } : Jvm.MethodName) prog_16_method_1_code (1 : Nat) (Option.none : Option Jvm.ClassFile.FieldType)) ∈ lw_all := lw_g (lw_at lw_m5 86 rfl) rfl
theorem q1138 : (Jvm.Cond.methodLink "HeadReckons$Held" (1 : Nat) ({ cls := "java/lang/Object", name := "<init>", desc := "()V" } : Jvm.MethodName)) ∈ lw_all := lw_g (lw_at lw_m5 87 rfl) rfl

/-! java/lang/Math -/
set_option maxRecDepth 100000
def RJ2 : String := "java/lang/Math"
abbrev cJ2_max : ByteArray := prog_40_method_65_code
def yJ2_max : MethodName := ⟨RJ2, "max", "(II)I"⟩
def dkwJ2_max_0 : List UInt8 := [26, 27, 161, 0, 7, 26, 167, 0, 4, 27, 172]
abbrev dktJ2_max_0 : List UInt8 := dkwJ2_max_0 ++ []
theorem dksJ2_max_0 : cJ2_max.data.toList.drop 0 = dktJ2_max_0 := by decide +kernel
theorem dJ2_max_0 : decode cJ2_max 0 = .ok (.iload_n 0, 1) := dk_26 (dk_at dksJ2_max_0 0 rfl rfl)
theorem dJ2_max_1 : decode cJ2_max 1 = .ok (.iload_n 1, 1) := dk_27 (dk_at dksJ2_max_0 1 rfl rfl)
theorem dJ2_max_2 : decode cJ2_max 2 = .ok (.if_icmp .lt 7, 3) := dk_161 0 7 (dk_at dksJ2_max_0 2 rfl rfl)
theorem dJ2_max_5 : decode cJ2_max 5 = .ok (.iload_n 0, 1) := dk_26 (dk_at dksJ2_max_0 5 rfl rfl)
theorem dJ2_max_6 : decode cJ2_max 6 = .ok (.goto 4, 3) := dk_167 0 4 (dk_at dksJ2_max_0 6 rfl rfl)
theorem dJ2_max_9 : decode cJ2_max 9 = .ok (.iload_n 1, 1) := dk_27 (dk_at dksJ2_max_0 9 rfl rfl)
theorem dJ2_max_10 : decode cJ2_max 10 = .ok (.ireturn, 1) := dk_172 (dk_at dksJ2_max_0 10 rfl rfl)
abbrev cJ2_min : ByteArray := prog_40_method_69_code
def yJ2_min : MethodName := ⟨RJ2, "min", "(II)I"⟩
def dkwJ2_min_0 : List UInt8 := [26, 27, 163, 0, 7, 26, 167, 0, 4, 27, 172]
abbrev dktJ2_min_0 : List UInt8 := dkwJ2_min_0 ++ []
theorem dksJ2_min_0 : cJ2_min.data.toList.drop 0 = dktJ2_min_0 := by decide +kernel
theorem dJ2_min_0 : decode cJ2_min 0 = .ok (.iload_n 0, 1) := dk_26 (dk_at dksJ2_min_0 0 rfl rfl)
theorem dJ2_min_1 : decode cJ2_min 1 = .ok (.iload_n 1, 1) := dk_27 (dk_at dksJ2_min_0 1 rfl rfl)
theorem dJ2_min_2 : decode cJ2_min 2 = .ok (.if_icmp .gt 7, 3) := dk_163 0 7 (dk_at dksJ2_min_0 2 rfl rfl)
theorem dJ2_min_5 : decode cJ2_min 5 = .ok (.iload_n 0, 1) := dk_26 (dk_at dksJ2_min_0 5 rfl rfl)
theorem dJ2_min_6 : decode cJ2_min 6 = .ok (.goto 4, 3) := dk_167 0 4 (dk_at dksJ2_min_0 6 rfl rfl)
theorem dJ2_min_9 : decode cJ2_min 9 = .ok (.iload_n 1, 1) := dk_27 (dk_at dksJ2_min_0 9 rfl rfl)
theorem dJ2_min_10 : decode cJ2_min 10 = .ok (.ireturn, 1) := dk_172 (dk_at dksJ2_min_0 10 rfl rfl)
abbrev cJ2_min_2 : ByteArray := prog_40_method_70_code
def yJ2_min_2 : MethodName := ⟨RJ2, "min", "(JJ)J"⟩
def dkwJ2_min_2_0 : List UInt8 := [30, 32, 148, 157, 0, 7, 30, 167, 0, 4, 32, 173]
abbrev dktJ2_min_2_0 : List UInt8 := dkwJ2_min_2_0 ++ []
theorem dksJ2_min_2_0 : cJ2_min_2.data.toList.drop 0 = dktJ2_min_2_0 := by decide +kernel
theorem dJ2_min_2_0 : decode cJ2_min_2 0 = .ok (.lload_n 0, 1) := dk_30 (dk_at dksJ2_min_2_0 0 rfl rfl)
theorem dJ2_min_2_1 : decode cJ2_min_2 1 = .ok (.lload_n 2, 1) := dk_32 (dk_at dksJ2_min_2_0 1 rfl rfl)
theorem dJ2_min_2_2 : decode cJ2_min_2 2 = .ok (.lcmp, 1) := dk_148 (dk_at dksJ2_min_2_0 2 rfl rfl)
theorem dJ2_min_2_3 : decode cJ2_min_2 3 = .ok (.ifCond .gt 7, 3) := dk_157 0 7 (dk_at dksJ2_min_2_0 3 rfl rfl)
theorem dJ2_min_2_6 : decode cJ2_min_2 6 = .ok (.lload_n 0, 1) := dk_30 (dk_at dksJ2_min_2_0 6 rfl rfl)
theorem dJ2_min_2_7 : decode cJ2_min_2 7 = .ok (.goto 4, 3) := dk_167 0 4 (dk_at dksJ2_min_2_0 7 rfl rfl)
theorem dJ2_min_2_10 : decode cJ2_min_2 10 = .ok (.lload_n 2, 1) := dk_32 (dk_at dksJ2_min_2_0 10 rfl rfl)
theorem dJ2_min_2_11 : decode cJ2_min_2 11 = .ok (.lreturn, 1) := dk_173 (dk_at dksJ2_min_2_0 11 rfl rfl)
abbrev cJ2_abs : ByteArray := prog_40_method_61_code
def yJ2_abs : MethodName := ⟨RJ2, "abs", "(J)J"⟩
def dkwJ2_abs_0 : List UInt8 := [30, 9, 148, 156, 0, 8, 30, 117, 167, 0, 4, 30, 173]
abbrev dktJ2_abs_0 : List UInt8 := dkwJ2_abs_0 ++ []
theorem dksJ2_abs_0 : cJ2_abs.data.toList.drop 0 = dktJ2_abs_0 := by decide +kernel
theorem dJ2_abs_0 : decode cJ2_abs 0 = .ok (.lload_n 0, 1) := dk_30 (dk_at dksJ2_abs_0 0 rfl rfl)
theorem dJ2_abs_1 : decode cJ2_abs 1 = .ok (.lconst 0, 1) := dk_9 (dk_at dksJ2_abs_0 1 rfl rfl)
theorem dJ2_abs_2 : decode cJ2_abs 2 = .ok (.lcmp, 1) := dk_148 (dk_at dksJ2_abs_0 2 rfl rfl)
theorem dJ2_abs_3 : decode cJ2_abs 3 = .ok (.ifCond .ge 8, 3) := dk_156 0 8 (dk_at dksJ2_abs_0 3 rfl rfl)
theorem dJ2_abs_6 : decode cJ2_abs 6 = .ok (.lload_n 0, 1) := dk_30 (dk_at dksJ2_abs_0 6 rfl rfl)
theorem dJ2_abs_7 : decode cJ2_abs 7 = .ok (.lneg, 1) := dk_117 (dk_at dksJ2_abs_0 7 rfl rfl)
theorem dJ2_abs_8 : decode cJ2_abs 8 = .ok (.goto 4, 3) := dk_167 0 4 (dk_at dksJ2_abs_0 8 rfl rfl)
theorem dJ2_abs_11 : decode cJ2_abs 11 = .ok (.lload_n 0, 1) := dk_30 (dk_at dksJ2_abs_0 11 rfl rfl)
theorem dJ2_abs_12 : decode cJ2_abs 12 = .ok (.lreturn, 1) := dk_173 (dk_at dksJ2_abs_0 12 rfl rfl)
abbrev cJ2_abs_2 : ByteArray := prog_40_method_59_code
def yJ2_abs_2 : MethodName := ⟨RJ2, "abs", "(I)I"⟩
def dkwJ2_abs_2_0 : List UInt8 := [26, 156, 0, 8, 26, 116, 167, 0, 4, 26, 172]
abbrev dktJ2_abs_2_0 : List UInt8 := dkwJ2_abs_2_0 ++ []
theorem dksJ2_abs_2_0 : cJ2_abs_2.data.toList.drop 0 = dktJ2_abs_2_0 := by decide +kernel
theorem dJ2_abs_2_0 : decode cJ2_abs_2 0 = .ok (.iload_n 0, 1) := dk_26 (dk_at dksJ2_abs_2_0 0 rfl rfl)
theorem dJ2_abs_2_1 : decode cJ2_abs_2 1 = .ok (.ifCond .ge 8, 3) := dk_156 0 8 (dk_at dksJ2_abs_2_0 1 rfl rfl)
theorem dJ2_abs_2_4 : decode cJ2_abs_2 4 = .ok (.iload_n 0, 1) := dk_26 (dk_at dksJ2_abs_2_0 4 rfl rfl)
theorem dJ2_abs_2_5 : decode cJ2_abs_2 5 = .ok (.ineg, 1) := dk_116 (dk_at dksJ2_abs_2_0 5 rfl rfl)
theorem dJ2_abs_2_6 : decode cJ2_abs_2 6 = .ok (.goto 4, 3) := dk_167 0 4 (dk_at dksJ2_abs_2_0 6 rfl rfl)
theorem dJ2_abs_2_9 : decode cJ2_abs_2 9 = .ok (.iload_n 0, 1) := dk_26 (dk_at dksJ2_abs_2_0 9 rfl rfl)
theorem dJ2_abs_2_10 : decode cJ2_abs_2 10 = .ok (.ireturn, 1) := dk_172 (dk_at dksJ2_abs_2_0 10 rfl rfl)
abbrev cJ2_floorMod : ByteArray := prog_40_method_52_code
def yJ2_floorMod : MethodName := ⟨RJ2, "floorMod", "(JJ)J"⟩
def dkwJ2_floorMod_1 : List UInt8 := [173, 22, 4, 173]
abbrev dktJ2_floorMod_1 : List UInt8 := dkwJ2_floorMod_1 ++ []
def dkwJ2_floorMod_0 : List UInt8 := [30, 32, 113, 55, 4, 30, 32, 131, 9, 148, 156, 0, 15, 22, 4, 9, 148, 153, 0, 8, 22, 4, 32, 97]
abbrev dktJ2_floorMod_0 : List UInt8 := dkwJ2_floorMod_0 ++ dktJ2_floorMod_1
theorem dksJ2_floorMod_0 : cJ2_floorMod.data.toList.drop 0 = dktJ2_floorMod_0 := by decide +kernel
theorem dksJ2_floorMod_1 : cJ2_floorMod.data.toList.drop 24 = dktJ2_floorMod_1 := dk_seg dksJ2_floorMod_0 24 rfl rfl
theorem dJ2_floorMod_0 : decode cJ2_floorMod 0 = .ok (.lload_n 0, 1) := dk_30 (dk_at dksJ2_floorMod_0 0 rfl rfl)
theorem dJ2_floorMod_1 : decode cJ2_floorMod 1 = .ok (.lload_n 2, 1) := dk_32 (dk_at dksJ2_floorMod_0 1 rfl rfl)
theorem dJ2_floorMod_2 : decode cJ2_floorMod 2 = .ok (.lrem, 1) := dk_113 (dk_at dksJ2_floorMod_0 2 rfl rfl)
theorem dJ2_floorMod_3 : decode cJ2_floorMod 3 = .ok (.lstore 4, 2) := dk_55 4 (dk_at dksJ2_floorMod_0 3 rfl rfl)
theorem dJ2_floorMod_5 : decode cJ2_floorMod 5 = .ok (.lload_n 0, 1) := dk_30 (dk_at dksJ2_floorMod_0 5 rfl rfl)
theorem dJ2_floorMod_6 : decode cJ2_floorMod 6 = .ok (.lload_n 2, 1) := dk_32 (dk_at dksJ2_floorMod_0 6 rfl rfl)
theorem dJ2_floorMod_7 : decode cJ2_floorMod 7 = .ok (.lxor, 1) := dk_131 (dk_at dksJ2_floorMod_0 7 rfl rfl)
theorem dJ2_floorMod_8 : decode cJ2_floorMod 8 = .ok (.lconst 0, 1) := dk_9 (dk_at dksJ2_floorMod_0 8 rfl rfl)
theorem dJ2_floorMod_9 : decode cJ2_floorMod 9 = .ok (.lcmp, 1) := dk_148 (dk_at dksJ2_floorMod_0 9 rfl rfl)
theorem dJ2_floorMod_10 : decode cJ2_floorMod 10 = .ok (.ifCond .ge 15, 3) := dk_156 0 15 (dk_at dksJ2_floorMod_0 10 rfl rfl)
theorem dJ2_floorMod_13 : decode cJ2_floorMod 13 = .ok (.lload 4, 2) := dk_22 4 (dk_at dksJ2_floorMod_0 13 rfl rfl)
theorem dJ2_floorMod_15 : decode cJ2_floorMod 15 = .ok (.lconst 0, 1) := dk_9 (dk_at dksJ2_floorMod_0 15 rfl rfl)
theorem dJ2_floorMod_16 : decode cJ2_floorMod 16 = .ok (.lcmp, 1) := dk_148 (dk_at dksJ2_floorMod_0 16 rfl rfl)
theorem dJ2_floorMod_17 : decode cJ2_floorMod 17 = .ok (.ifCond .eq 8, 3) := dk_153 0 8 (dk_at dksJ2_floorMod_0 17 rfl rfl)
theorem dJ2_floorMod_20 : decode cJ2_floorMod 20 = .ok (.lload 4, 2) := dk_22 4 (dk_at dksJ2_floorMod_0 20 rfl rfl)
theorem dJ2_floorMod_22 : decode cJ2_floorMod 22 = .ok (.lload_n 2, 1) := dk_32 (dk_at dksJ2_floorMod_0 22 rfl rfl)
theorem dJ2_floorMod_23 : decode cJ2_floorMod 23 = .ok (.ladd, 1) := dk_97 (dk_at dksJ2_floorMod_0 23 rfl rfl)
theorem dJ2_floorMod_24 : decode cJ2_floorMod 24 = .ok (.lreturn, 1) := dk_173 (dk_at dksJ2_floorMod_1 0 rfl rfl)
theorem dJ2_floorMod_25 : decode cJ2_floorMod 25 = .ok (.lload 4, 2) := dk_22 4 (dk_at dksJ2_floorMod_1 1 rfl rfl)
theorem dJ2_floorMod_27 : decode cJ2_floorMod 27 = .ok (.lreturn, 1) := dk_173 (dk_at dksJ2_floorMod_1 3 rfl rfl)
theorem q102 : (Jvm.Cond.initialized "java/lang/Math") ∈ lw_all := lw_g (lw_at lw_m1 11 rfl) rfl
theorem q497 : (Jvm.Cond.static ({ cls := "java/lang/Math", name := "max", desc := "(II)I" } : Jvm.MethodName)) ∈ lw_all := lw_g (lw_at lw_m2 166 rfl) rfl
theorem q498 : (Jvm.Cond.code ({ cls := "java/lang/Math", name := "max", desc := "(II)I" } : Jvm.MethodName) prog_40_method_65_code (2 : Nat) (Option.some Jvm.ClassFile.FieldType.int)) ∈ lw_all := lw_g (lw_at lw_m2 167 rfl) rfl
theorem q500 : (Jvm.Cond.static ({ cls := "java/lang/Math", name := "min", desc := "(II)I" } : Jvm.MethodName)) ∈ lw_all := lw_g (lw_at lw_m2 169 rfl) rfl
theorem q501 : (Jvm.Cond.code ({ cls := "java/lang/Math", name := "min", desc := "(II)I" } : Jvm.MethodName) prog_40_method_69_code (2 : Nat) (Option.some Jvm.ClassFile.FieldType.int)) ∈ lw_all := lw_g (lw_at lw_m2 170 rfl) rfl
theorem q669 : (Jvm.Cond.static ({ cls := "java/lang/Math", name := "min", desc := "(JJ)J" } : Jvm.MethodName)) ∈ lw_all := lw_g (lw_at lw_m3 98 rfl) rfl
theorem q670 : (Jvm.Cond.code ({ cls := "java/lang/Math", name := "min", desc := "(JJ)J" } : Jvm.MethodName) prog_40_method_70_code (4 : Nat) (Option.some Jvm.ClassFile.FieldType.long)) ∈ lw_all := lw_g (lw_at lw_m3 99 rfl) rfl
theorem q706 : (Jvm.Cond.static ({ cls := "java/lang/Math", name := "abs", desc := "(J)J" } : Jvm.MethodName)) ∈ lw_all := lw_g (lw_at lw_m3 135 rfl) rfl
theorem q707 : (Jvm.Cond.code ({ cls := "java/lang/Math", name := "abs", desc := "(J)J" } : Jvm.MethodName) prog_40_method_61_code (2 : Nat) (Option.some Jvm.ClassFile.FieldType.long)) ∈ lw_all := lw_g (lw_at lw_m3 136 rfl) rfl
theorem q731 : (Jvm.Cond.static ({ cls := "java/lang/Math", name := "abs", desc := "(I)I" } : Jvm.MethodName)) ∈ lw_all := lw_g (lw_at lw_m3 160 rfl) rfl
theorem q732 : (Jvm.Cond.code ({ cls := "java/lang/Math", name := "abs", desc := "(I)I" } : Jvm.MethodName) prog_40_method_59_code (1 : Nat) (Option.some Jvm.ClassFile.FieldType.int)) ∈ lw_all := lw_g (lw_at lw_m3 161 rfl) rfl
theorem q1113 : (Jvm.Cond.static ({ cls := "java/lang/Math", name := "floorMod", desc := "(JJ)J" } : Jvm.MethodName)) ∈ lw_all := lw_g (lw_at lw_m5 62 rfl) rfl
theorem q1114 : (Jvm.Cond.code ({ cls := "java/lang/Math", name := "floorMod", desc := "(JJ)J" } : Jvm.MethodName) prog_40_method_52_code (6 : Nat) (Option.some Jvm.ClassFile.FieldType.long)) ∈ lw_all := lw_g (lw_at lw_m5 63 rfl) rfl

/-! java/lang/Object -/
set_option maxRecDepth 100000
def RJ14 : String := "java/lang/Object"
abbrev cJ14_init : ByteArray := object_method_1_code
def yJ14_init : MethodName := ⟨RJ14, "<init>", "()V"⟩
theorem dJ14_init_0 : decode cJ14_init 0 = .ok (.return_, 1) := by decide +kernel
theorem q144 : (Jvm.Cond.instanceMethod ({ cls := "java/lang/Object", name := "<init>", desc := "()V" } : Jvm.MethodName)) ∈ lw_all := lw_g (lw_at lw_m1 53 rfl) rfl
theorem q145 : (Jvm.Cond.code ({ cls := "java/lang/Object", name := "<init>", desc := "()V" } : Jvm.MethodName) object_method_1_code (1 : Nat) (Option.none : Option Jvm.ClassFile.FieldType)) ∈ lw_all := lw_g (lw_at lw_m1 54 rfl) rfl
