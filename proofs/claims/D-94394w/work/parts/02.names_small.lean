/-! DECODE ROWS BY BYTES: one lemma an opcode; a method's code is cut into short pieces once, and a row reads its own piece alone. -/
set_option maxRecDepth 100000
/-- the code has just these bytes from pc on -/
def DkAt (code : ByteArray) (pc : Nat) (bs : List UInt8) : Prop := ∀ (j : Nat) (b : UInt8), bs[j]? = some b → code.data.toList[pc + j]? = some b
/-- the piece W has the bytes bs from its place j on -/
def dkIn (W : List UInt8) (j : Nat) (bs : List UInt8) : Bool := decide ((W.drop j).take bs.length = bs)
theorem dk_seg {l W T : List UInt8} {o o2 : Nat} (h : l.drop o = W ++ T) (n : Nat) (hn : W.length = n) (ho : o + n = o2) : l.drop o2 = T := by
  subst ho
  rw [← List.drop_drop, h, List.drop_left' hn]
theorem dk_at {code : ByteArray} {W T bs : List UInt8} {o pc : Nat} (h : code.data.toList.drop o = W ++ T) (j : Nat) (hp : o + j = pc) (hw : dkIn W j bs = true) : DkAt code pc bs := by
  subst hp
  intro i b e
  have h1 := of_decide_eq_true hw
  have h2 : i < bs.length := (List.getElem?_eq_some_iff.mp e).1
  have h3 : W[j + i]? = some b := by
    rw [← h1, List.getElem?_take, if_pos h2, List.getElem?_drop] at e
    exact e
  have h4 : j + i < W.length := (List.getElem?_eq_some_iff.mp h3).1
  have h5 : (code.data.toList.drop o)[j + i]? = some b := by
    rw [h, List.getElem?_append_left h4]
    exact h3
  rw [List.getElem?_drop, ← Nat.add_assoc] at h5
  exact h5
theorem dk_u1 {A : ByteArray} {p : Nat} {b : UInt8} (h : A.data.toList[p]? = some b) : (Reader.u1 : Reader DecodeError Nat) A p = .ok (b.toNat, p + 1) := by
  obtain ⟨h1, h2⟩ := List.getElem?_eq_some_iff.mp h
  have h3 : p < A.size := by simpa using h1
  have h4 : A[p]'h3 = b := h2
  have e : (Reader.u1 : Reader DecodeError Nat) A p = (if h : p < A.size then .ok (A[p].toNat, p + 1) else .error (HasTruncated.truncated p)) := by
    show (do if h : p < A.size then do set (p + 1); Pure.pure A[p].toNat else MonadExcept.throw (HasTruncated.truncated p) : Reader DecodeError Nat) A p = _
    by_cases hi : p < A.size
    · rw [dif_pos hi, dif_pos hi]; rfl
    · rw [dif_neg hi, dif_neg hi]; rfl
  rw [e, dif_pos h3, h4]
theorem dk_bind {α β : Type} {r : Reader DecodeError α} {f : α → Reader DecodeError β} {A : ByteArray} {p s : Nat} {a : α} (h : r A p = .ok (a, s)) : (r >>= f) A p = f a A s := by
  show (do let (a, s) ← r A p; f a A s : Except DecodeError (β × Nat)) = _
  rw [h]
  rfl
theorem dk_map {α β : Type} {r : Reader DecodeError α} {g : α → β} {A : ByteArray} {p s : Nat} {a : α} (h : r A p = .ok (a, s)) : (g <$> r) A p = .ok (g a, s) := by
  show (do let (a, s) ← r A p; .ok (g a, s) : Except DecodeError (β × Nat)) = _
  rw [h]
  rfl
theorem dk_u2 {A : ByteArray} {p : Nat} {a b : UInt8} (h : A.data.toList[p]? = some a) (h2 : A.data.toList[p + 1]? = some b) : (Reader.u2 : Reader DecodeError Nat) A p = .ok (a.toNat * 256 + b.toNat, p + 2) := by
  show (Reader.u1 >>= fun hi => Reader.u1 >>= fun lo => Pure.pure (hi * 256 + lo) : Reader DecodeError Nat) A p = _
  rw [dk_bind (dk_u1 h), dk_bind (dk_u1 h2)]
  rfl
theorem dk_of {code : ByteArray} {pc n : Nat} {i : Instr} (h : Decoder.instr pc code pc = .ok (i, pc + n)) : decode code pc = .ok (i, n) := by
  have e : decode code pc = (match Decoder.instr pc code pc with | .error x => .error x | .ok (j, s) => .ok (j, s - pc)) := by
    show (do let (j, s) ← Decoder.instr pc code pc; Pure.pure (j, s - pc) : Except DecodeError (Instr × Nat)) = _
    cases Decoder.instr pc code pc <;> rfl
  rw [e, h]
  show Except.ok (i, pc + n - pc) = _
  rw [Nat.add_sub_cancel_left]
theorem dk_1 {code : ByteArray} {pc : Nat} (h : DkAt code pc [1]) : decode code pc = .ok (.aconst_null, 1) := dk_of ((dk_bind (dk_u1 (h 0 _ rfl))).trans rfl)
theorem dk_2 {code : ByteArray} {pc : Nat} (h : DkAt code pc [2]) : decode code pc = .ok (.iconst (-1), 1) := dk_of ((dk_bind (dk_u1 (h 0 _ rfl))).trans rfl)
theorem dk_3 {code : ByteArray} {pc : Nat} (h : DkAt code pc [3]) : decode code pc = .ok (.iconst 0, 1) := dk_of ((dk_bind (dk_u1 (h 0 _ rfl))).trans rfl)
theorem dk_4 {code : ByteArray} {pc : Nat} (h : DkAt code pc [4]) : decode code pc = .ok (.iconst 1, 1) := dk_of ((dk_bind (dk_u1 (h 0 _ rfl))).trans rfl)
theorem dk_5 {code : ByteArray} {pc : Nat} (h : DkAt code pc [5]) : decode code pc = .ok (.iconst 2, 1) := dk_of ((dk_bind (dk_u1 (h 0 _ rfl))).trans rfl)
theorem dk_6 {code : ByteArray} {pc : Nat} (h : DkAt code pc [6]) : decode code pc = .ok (.iconst 3, 1) := dk_of ((dk_bind (dk_u1 (h 0 _ rfl))).trans rfl)
theorem dk_7 {code : ByteArray} {pc : Nat} (h : DkAt code pc [7]) : decode code pc = .ok (.iconst 4, 1) := dk_of ((dk_bind (dk_u1 (h 0 _ rfl))).trans rfl)
theorem dk_8 {code : ByteArray} {pc : Nat} (h : DkAt code pc [8]) : decode code pc = .ok (.iconst 5, 1) := dk_of ((dk_bind (dk_u1 (h 0 _ rfl))).trans rfl)
theorem dk_9 {code : ByteArray} {pc : Nat} (h : DkAt code pc [9]) : decode code pc = .ok (.lconst 0, 1) := dk_of ((dk_bind (dk_u1 (h 0 _ rfl))).trans rfl)
theorem dk_10 {code : ByteArray} {pc : Nat} (h : DkAt code pc [10]) : decode code pc = .ok (.lconst 1, 1) := dk_of ((dk_bind (dk_u1 (h 0 _ rfl))).trans rfl)
theorem dk_16 {code : ByteArray} {pc : Nat} (a : UInt8) (h : DkAt code pc [16, a]) : decode code pc = .ok (.bipush (Reader.signed 8 a.toNat), 2) := dk_of ((dk_bind (dk_u1 (h 0 _ rfl))).trans ((dk_bind (dk_map (dk_u1 (h 1 _ rfl)))).trans rfl))
theorem dk_17 {code : ByteArray} {pc : Nat} (a b : UInt8) (h : DkAt code pc [17, a, b]) : decode code pc = .ok (.sipush (Reader.signed 16 (a.toNat * 256 + b.toNat)), 3) := dk_of ((dk_bind (dk_u1 (h 0 _ rfl))).trans ((dk_bind (dk_map (dk_u2 (h 1 _ rfl) (h 2 _ rfl)))).trans rfl))
theorem dk_18 {code : ByteArray} {pc : Nat} (a : UInt8) (h : DkAt code pc [18, a]) : decode code pc = .ok (.ldc a.toNat, 2) := dk_of ((dk_bind (dk_u1 (h 0 _ rfl))).trans ((dk_bind (dk_u1 (h 1 _ rfl))).trans rfl))
theorem dk_19 {code : ByteArray} {pc : Nat} (a b : UInt8) (h : DkAt code pc [19, a, b]) : decode code pc = .ok (.ldc_w (a.toNat * 256 + b.toNat), 3) := dk_of ((dk_bind (dk_u1 (h 0 _ rfl))).trans ((dk_bind (dk_u2 (h 1 _ rfl) (h 2 _ rfl))).trans rfl))
theorem dk_20 {code : ByteArray} {pc : Nat} (a b : UInt8) (h : DkAt code pc [20, a, b]) : decode code pc = .ok (.ldc2_w (a.toNat * 256 + b.toNat), 3) := dk_of ((dk_bind (dk_u1 (h 0 _ rfl))).trans ((dk_bind (dk_u2 (h 1 _ rfl) (h 2 _ rfl))).trans rfl))
theorem dk_21 {code : ByteArray} {pc : Nat} (a : UInt8) (h : DkAt code pc [21, a]) : decode code pc = .ok (.iload a.toNat, 2) := dk_of ((dk_bind (dk_u1 (h 0 _ rfl))).trans ((dk_bind (dk_u1 (h 1 _ rfl))).trans rfl))
theorem dk_22 {code : ByteArray} {pc : Nat} (a : UInt8) (h : DkAt code pc [22, a]) : decode code pc = .ok (.lload a.toNat, 2) := dk_of ((dk_bind (dk_u1 (h 0 _ rfl))).trans ((dk_bind (dk_u1 (h 1 _ rfl))).trans rfl))
theorem dk_25 {code : ByteArray} {pc : Nat} (a : UInt8) (h : DkAt code pc [25, a]) : decode code pc = .ok (.aload a.toNat, 2) := dk_of ((dk_bind (dk_u1 (h 0 _ rfl))).trans ((dk_bind (dk_u1 (h 1 _ rfl))).trans rfl))
theorem dk_26 {code : ByteArray} {pc : Nat} (h : DkAt code pc [26]) : decode code pc = .ok (.iload_n 0, 1) := dk_of ((dk_bind (dk_u1 (h 0 _ rfl))).trans rfl)
theorem dk_27 {code : ByteArray} {pc : Nat} (h : DkAt code pc [27]) : decode code pc = .ok (.iload_n 1, 1) := dk_of ((dk_bind (dk_u1 (h 0 _ rfl))).trans rfl)
theorem dk_28 {code : ByteArray} {pc : Nat} (h : DkAt code pc [28]) : decode code pc = .ok (.iload_n 2, 1) := dk_of ((dk_bind (dk_u1 (h 0 _ rfl))).trans rfl)
theorem dk_29 {code : ByteArray} {pc : Nat} (h : DkAt code pc [29]) : decode code pc = .ok (.iload_n 3, 1) := dk_of ((dk_bind (dk_u1 (h 0 _ rfl))).trans rfl)
theorem dk_30 {code : ByteArray} {pc : Nat} (h : DkAt code pc [30]) : decode code pc = .ok (.lload_n 0, 1) := dk_of ((dk_bind (dk_u1 (h 0 _ rfl))).trans rfl)
theorem dk_31 {code : ByteArray} {pc : Nat} (h : DkAt code pc [31]) : decode code pc = .ok (.lload_n 1, 1) := dk_of ((dk_bind (dk_u1 (h 0 _ rfl))).trans rfl)
theorem dk_32 {code : ByteArray} {pc : Nat} (h : DkAt code pc [32]) : decode code pc = .ok (.lload_n 2, 1) := dk_of ((dk_bind (dk_u1 (h 0 _ rfl))).trans rfl)
theorem dk_33 {code : ByteArray} {pc : Nat} (h : DkAt code pc [33]) : decode code pc = .ok (.lload_n 3, 1) := dk_of ((dk_bind (dk_u1 (h 0 _ rfl))).trans rfl)
theorem dk_42 {code : ByteArray} {pc : Nat} (h : DkAt code pc [42]) : decode code pc = .ok (.aload_n 0, 1) := dk_of ((dk_bind (dk_u1 (h 0 _ rfl))).trans rfl)
theorem dk_43 {code : ByteArray} {pc : Nat} (h : DkAt code pc [43]) : decode code pc = .ok (.aload_n 1, 1) := dk_of ((dk_bind (dk_u1 (h 0 _ rfl))).trans rfl)
theorem dk_44 {code : ByteArray} {pc : Nat} (h : DkAt code pc [44]) : decode code pc = .ok (.aload_n 2, 1) := dk_of ((dk_bind (dk_u1 (h 0 _ rfl))).trans rfl)
theorem dk_45 {code : ByteArray} {pc : Nat} (h : DkAt code pc [45]) : decode code pc = .ok (.aload_n 3, 1) := dk_of ((dk_bind (dk_u1 (h 0 _ rfl))).trans rfl)
theorem dk_46 {code : ByteArray} {pc : Nat} (h : DkAt code pc [46]) : decode code pc = .ok (.iaload, 1) := dk_of ((dk_bind (dk_u1 (h 0 _ rfl))).trans rfl)
theorem dk_47 {code : ByteArray} {pc : Nat} (h : DkAt code pc [47]) : decode code pc = .ok (.laload, 1) := dk_of ((dk_bind (dk_u1 (h 0 _ rfl))).trans rfl)
theorem dk_50 {code : ByteArray} {pc : Nat} (h : DkAt code pc [50]) : decode code pc = .ok (.aaload, 1) := dk_of ((dk_bind (dk_u1 (h 0 _ rfl))).trans rfl)
theorem dk_51 {code : ByteArray} {pc : Nat} (h : DkAt code pc [51]) : decode code pc = .ok (.baload, 1) := dk_of ((dk_bind (dk_u1 (h 0 _ rfl))).trans rfl)
theorem dk_53 {code : ByteArray} {pc : Nat} (h : DkAt code pc [53]) : decode code pc = .ok (.saload, 1) := dk_of ((dk_bind (dk_u1 (h 0 _ rfl))).trans rfl)
theorem dk_54 {code : ByteArray} {pc : Nat} (a : UInt8) (h : DkAt code pc [54, a]) : decode code pc = .ok (.istore a.toNat, 2) := dk_of ((dk_bind (dk_u1 (h 0 _ rfl))).trans ((dk_bind (dk_u1 (h 1 _ rfl))).trans rfl))
theorem dk_55 {code : ByteArray} {pc : Nat} (a : UInt8) (h : DkAt code pc [55, a]) : decode code pc = .ok (.lstore a.toNat, 2) := dk_of ((dk_bind (dk_u1 (h 0 _ rfl))).trans ((dk_bind (dk_u1 (h 1 _ rfl))).trans rfl))
theorem dk_58 {code : ByteArray} {pc : Nat} (a : UInt8) (h : DkAt code pc [58, a]) : decode code pc = .ok (.astore a.toNat, 2) := dk_of ((dk_bind (dk_u1 (h 0 _ rfl))).trans ((dk_bind (dk_u1 (h 1 _ rfl))).trans rfl))
theorem dk_59 {code : ByteArray} {pc : Nat} (h : DkAt code pc [59]) : decode code pc = .ok (.istore_n 0, 1) := dk_of ((dk_bind (dk_u1 (h 0 _ rfl))).trans rfl)
theorem dk_60 {code : ByteArray} {pc : Nat} (h : DkAt code pc [60]) : decode code pc = .ok (.istore_n 1, 1) := dk_of ((dk_bind (dk_u1 (h 0 _ rfl))).trans rfl)
theorem dk_61 {code : ByteArray} {pc : Nat} (h : DkAt code pc [61]) : decode code pc = .ok (.istore_n 2, 1) := dk_of ((dk_bind (dk_u1 (h 0 _ rfl))).trans rfl)
theorem dk_62 {code : ByteArray} {pc : Nat} (h : DkAt code pc [62]) : decode code pc = .ok (.istore_n 3, 1) := dk_of ((dk_bind (dk_u1 (h 0 _ rfl))).trans rfl)
theorem dk_64 {code : ByteArray} {pc : Nat} (h : DkAt code pc [64]) : decode code pc = .ok (.lstore_n 1, 1) := dk_of ((dk_bind (dk_u1 (h 0 _ rfl))).trans rfl)
theorem dk_65 {code : ByteArray} {pc : Nat} (h : DkAt code pc [65]) : decode code pc = .ok (.lstore_n 2, 1) := dk_of ((dk_bind (dk_u1 (h 0 _ rfl))).trans rfl)
theorem dk_66 {code : ByteArray} {pc : Nat} (h : DkAt code pc [66]) : decode code pc = .ok (.lstore_n 3, 1) := dk_of ((dk_bind (dk_u1 (h 0 _ rfl))).trans rfl)
theorem dk_76 {code : ByteArray} {pc : Nat} (h : DkAt code pc [76]) : decode code pc = .ok (.astore_n 1, 1) := dk_of ((dk_bind (dk_u1 (h 0 _ rfl))).trans rfl)
theorem dk_77 {code : ByteArray} {pc : Nat} (h : DkAt code pc [77]) : decode code pc = .ok (.astore_n 2, 1) := dk_of ((dk_bind (dk_u1 (h 0 _ rfl))).trans rfl)
theorem dk_78 {code : ByteArray} {pc : Nat} (h : DkAt code pc [78]) : decode code pc = .ok (.astore_n 3, 1) := dk_of ((dk_bind (dk_u1 (h 0 _ rfl))).trans rfl)
theorem dk_79 {code : ByteArray} {pc : Nat} (h : DkAt code pc [79]) : decode code pc = .ok (.iastore, 1) := dk_of ((dk_bind (dk_u1 (h 0 _ rfl))).trans rfl)
theorem dk_80 {code : ByteArray} {pc : Nat} (h : DkAt code pc [80]) : decode code pc = .ok (.lastore, 1) := dk_of ((dk_bind (dk_u1 (h 0 _ rfl))).trans rfl)
theorem dk_83 {code : ByteArray} {pc : Nat} (h : DkAt code pc [83]) : decode code pc = .ok (.aastore, 1) := dk_of ((dk_bind (dk_u1 (h 0 _ rfl))).trans rfl)
theorem dk_84 {code : ByteArray} {pc : Nat} (h : DkAt code pc [84]) : decode code pc = .ok (.bastore, 1) := dk_of ((dk_bind (dk_u1 (h 0 _ rfl))).trans rfl)
theorem dk_86 {code : ByteArray} {pc : Nat} (h : DkAt code pc [86]) : decode code pc = .ok (.sastore, 1) := dk_of ((dk_bind (dk_u1 (h 0 _ rfl))).trans rfl)
theorem dk_87 {code : ByteArray} {pc : Nat} (h : DkAt code pc [87]) : decode code pc = .ok (.pop, 1) := dk_of ((dk_bind (dk_u1 (h 0 _ rfl))).trans rfl)
theorem dk_89 {code : ByteArray} {pc : Nat} (h : DkAt code pc [89]) : decode code pc = .ok (.dup, 1) := dk_of ((dk_bind (dk_u1 (h 0 _ rfl))).trans rfl)
theorem dk_92 {code : ByteArray} {pc : Nat} (h : DkAt code pc [92]) : decode code pc = .ok (.dup2, 1) := dk_of ((dk_bind (dk_u1 (h 0 _ rfl))).trans rfl)
theorem dk_96 {code : ByteArray} {pc : Nat} (h : DkAt code pc [96]) : decode code pc = .ok (.iadd, 1) := dk_of ((dk_bind (dk_u1 (h 0 _ rfl))).trans rfl)
theorem dk_97 {code : ByteArray} {pc : Nat} (h : DkAt code pc [97]) : decode code pc = .ok (.ladd, 1) := dk_of ((dk_bind (dk_u1 (h 0 _ rfl))).trans rfl)
theorem dk_100 {code : ByteArray} {pc : Nat} (h : DkAt code pc [100]) : decode code pc = .ok (.isub, 1) := dk_of ((dk_bind (dk_u1 (h 0 _ rfl))).trans rfl)
theorem dk_101 {code : ByteArray} {pc : Nat} (h : DkAt code pc [101]) : decode code pc = .ok (.lsub, 1) := dk_of ((dk_bind (dk_u1 (h 0 _ rfl))).trans rfl)
theorem dk_104 {code : ByteArray} {pc : Nat} (h : DkAt code pc [104]) : decode code pc = .ok (.imul, 1) := dk_of ((dk_bind (dk_u1 (h 0 _ rfl))).trans rfl)
theorem dk_105 {code : ByteArray} {pc : Nat} (h : DkAt code pc [105]) : decode code pc = .ok (.lmul, 1) := dk_of ((dk_bind (dk_u1 (h 0 _ rfl))).trans rfl)
theorem dk_108 {code : ByteArray} {pc : Nat} (h : DkAt code pc [108]) : decode code pc = .ok (.idiv, 1) := dk_of ((dk_bind (dk_u1 (h 0 _ rfl))).trans rfl)
theorem dk_109 {code : ByteArray} {pc : Nat} (h : DkAt code pc [109]) : decode code pc = .ok (.ldiv, 1) := dk_of ((dk_bind (dk_u1 (h 0 _ rfl))).trans rfl)
theorem dk_112 {code : ByteArray} {pc : Nat} (h : DkAt code pc [112]) : decode code pc = .ok (.irem, 1) := dk_of ((dk_bind (dk_u1 (h 0 _ rfl))).trans rfl)
theorem dk_113 {code : ByteArray} {pc : Nat} (h : DkAt code pc [113]) : decode code pc = .ok (.lrem, 1) := dk_of ((dk_bind (dk_u1 (h 0 _ rfl))).trans rfl)
theorem dk_117 {code : ByteArray} {pc : Nat} (h : DkAt code pc [117]) : decode code pc = .ok (.lneg, 1) := dk_of ((dk_bind (dk_u1 (h 0 _ rfl))).trans rfl)
theorem dk_120 {code : ByteArray} {pc : Nat} (h : DkAt code pc [120]) : decode code pc = .ok (.ishl, 1) := dk_of ((dk_bind (dk_u1 (h 0 _ rfl))).trans rfl)
theorem dk_121 {code : ByteArray} {pc : Nat} (h : DkAt code pc [121]) : decode code pc = .ok (.lshl, 1) := dk_of ((dk_bind (dk_u1 (h 0 _ rfl))).trans rfl)
theorem dk_122 {code : ByteArray} {pc : Nat} (h : DkAt code pc [122]) : decode code pc = .ok (.ishr, 1) := dk_of ((dk_bind (dk_u1 (h 0 _ rfl))).trans rfl)
theorem dk_123 {code : ByteArray} {pc : Nat} (h : DkAt code pc [123]) : decode code pc = .ok (.lshr, 1) := dk_of ((dk_bind (dk_u1 (h 0 _ rfl))).trans rfl)
theorem dk_124 {code : ByteArray} {pc : Nat} (h : DkAt code pc [124]) : decode code pc = .ok (.iushr, 1) := dk_of ((dk_bind (dk_u1 (h 0 _ rfl))).trans rfl)
theorem dk_125 {code : ByteArray} {pc : Nat} (h : DkAt code pc [125]) : decode code pc = .ok (.lushr, 1) := dk_of ((dk_bind (dk_u1 (h 0 _ rfl))).trans rfl)
theorem dk_126 {code : ByteArray} {pc : Nat} (h : DkAt code pc [126]) : decode code pc = .ok (.iand, 1) := dk_of ((dk_bind (dk_u1 (h 0 _ rfl))).trans rfl)
theorem dk_127 {code : ByteArray} {pc : Nat} (h : DkAt code pc [127]) : decode code pc = .ok (.land, 1) := dk_of ((dk_bind (dk_u1 (h 0 _ rfl))).trans rfl)
theorem dk_128 {code : ByteArray} {pc : Nat} (h : DkAt code pc [128]) : decode code pc = .ok (.ior, 1) := dk_of ((dk_bind (dk_u1 (h 0 _ rfl))).trans rfl)
theorem dk_129 {code : ByteArray} {pc : Nat} (h : DkAt code pc [129]) : decode code pc = .ok (.lor, 1) := dk_of ((dk_bind (dk_u1 (h 0 _ rfl))).trans rfl)
theorem dk_130 {code : ByteArray} {pc : Nat} (h : DkAt code pc [130]) : decode code pc = .ok (.ixor, 1) := dk_of ((dk_bind (dk_u1 (h 0 _ rfl))).trans rfl)
theorem dk_131 {code : ByteArray} {pc : Nat} (h : DkAt code pc [131]) : decode code pc = .ok (.lxor, 1) := dk_of ((dk_bind (dk_u1 (h 0 _ rfl))).trans rfl)
theorem dk_132 {code : ByteArray} {pc : Nat} (a b : UInt8) (h : DkAt code pc [132, a, b]) : decode code pc = .ok (.iinc a.toNat (Reader.signed 8 b.toNat), 3) := dk_of ((dk_bind (dk_u1 (h 0 _ rfl))).trans ((dk_bind (dk_u1 (h 1 _ rfl))).trans ((dk_bind (dk_map (dk_u1 (h 2 _ rfl)))).trans rfl)))
theorem dk_133 {code : ByteArray} {pc : Nat} (h : DkAt code pc [133]) : decode code pc = .ok (.i2l, 1) := dk_of ((dk_bind (dk_u1 (h 0 _ rfl))).trans rfl)
theorem dk_136 {code : ByteArray} {pc : Nat} (h : DkAt code pc [136]) : decode code pc = .ok (.l2i, 1) := dk_of ((dk_bind (dk_u1 (h 0 _ rfl))).trans rfl)
theorem dk_145 {code : ByteArray} {pc : Nat} (h : DkAt code pc [145]) : decode code pc = .ok (.i2b, 1) := dk_of ((dk_bind (dk_u1 (h 0 _ rfl))).trans rfl)
theorem dk_146 {code : ByteArray} {pc : Nat} (h : DkAt code pc [146]) : decode code pc = .ok (.i2c, 1) := dk_of ((dk_bind (dk_u1 (h 0 _ rfl))).trans rfl)
theorem dk_147 {code : ByteArray} {pc : Nat} (h : DkAt code pc [147]) : decode code pc = .ok (.i2s, 1) := dk_of ((dk_bind (dk_u1 (h 0 _ rfl))).trans rfl)
theorem dk_148 {code : ByteArray} {pc : Nat} (h : DkAt code pc [148]) : decode code pc = .ok (.lcmp, 1) := dk_of ((dk_bind (dk_u1 (h 0 _ rfl))).trans rfl)
theorem dk_153 {code : ByteArray} {pc : Nat} (a b : UInt8) (h : DkAt code pc [153, a, b]) : decode code pc = .ok (.ifCond .eq (Reader.signed 16 (a.toNat * 256 + b.toNat)), 3) := dk_of ((dk_bind (dk_u1 (h 0 _ rfl))).trans ((dk_bind (dk_map (dk_u2 (h 1 _ rfl) (h 2 _ rfl)))).trans rfl))
theorem dk_154 {code : ByteArray} {pc : Nat} (a b : UInt8) (h : DkAt code pc [154, a, b]) : decode code pc = .ok (.ifCond .ne (Reader.signed 16 (a.toNat * 256 + b.toNat)), 3) := dk_of ((dk_bind (dk_u1 (h 0 _ rfl))).trans ((dk_bind (dk_map (dk_u2 (h 1 _ rfl) (h 2 _ rfl)))).trans rfl))
theorem dk_155 {code : ByteArray} {pc : Nat} (a b : UInt8) (h : DkAt code pc [155, a, b]) : decode code pc = .ok (.ifCond .lt (Reader.signed 16 (a.toNat * 256 + b.toNat)), 3) := dk_of ((dk_bind (dk_u1 (h 0 _ rfl))).trans ((dk_bind (dk_map (dk_u2 (h 1 _ rfl) (h 2 _ rfl)))).trans rfl))
theorem dk_156 {code : ByteArray} {pc : Nat} (a b : UInt8) (h : DkAt code pc [156, a, b]) : decode code pc = .ok (.ifCond .ge (Reader.signed 16 (a.toNat * 256 + b.toNat)), 3) := dk_of ((dk_bind (dk_u1 (h 0 _ rfl))).trans ((dk_bind (dk_map (dk_u2 (h 1 _ rfl) (h 2 _ rfl)))).trans rfl))
theorem dk_157 {code : ByteArray} {pc : Nat} (a b : UInt8) (h : DkAt code pc [157, a, b]) : decode code pc = .ok (.ifCond .gt (Reader.signed 16 (a.toNat * 256 + b.toNat)), 3) := dk_of ((dk_bind (dk_u1 (h 0 _ rfl))).trans ((dk_bind (dk_map (dk_u2 (h 1 _ rfl) (h 2 _ rfl)))).trans rfl))
theorem dk_158 {code : ByteArray} {pc : Nat} (a b : UInt8) (h : DkAt code pc [158, a, b]) : decode code pc = .ok (.ifCond .le (Reader.signed 16 (a.toNat * 256 + b.toNat)), 3) := dk_of ((dk_bind (dk_u1 (h 0 _ rfl))).trans ((dk_bind (dk_map (dk_u2 (h 1 _ rfl) (h 2 _ rfl)))).trans rfl))
theorem dk_159 {code : ByteArray} {pc : Nat} (a b : UInt8) (h : DkAt code pc [159, a, b]) : decode code pc = .ok (.if_icmp .eq (Reader.signed 16 (a.toNat * 256 + b.toNat)), 3) := dk_of ((dk_bind (dk_u1 (h 0 _ rfl))).trans ((dk_bind (dk_map (dk_u2 (h 1 _ rfl) (h 2 _ rfl)))).trans rfl))
theorem dk_160 {code : ByteArray} {pc : Nat} (a b : UInt8) (h : DkAt code pc [160, a, b]) : decode code pc = .ok (.if_icmp .ne (Reader.signed 16 (a.toNat * 256 + b.toNat)), 3) := dk_of ((dk_bind (dk_u1 (h 0 _ rfl))).trans ((dk_bind (dk_map (dk_u2 (h 1 _ rfl) (h 2 _ rfl)))).trans rfl))
theorem dk_161 {code : ByteArray} {pc : Nat} (a b : UInt8) (h : DkAt code pc [161, a, b]) : decode code pc = .ok (.if_icmp .lt (Reader.signed 16 (a.toNat * 256 + b.toNat)), 3) := dk_of ((dk_bind (dk_u1 (h 0 _ rfl))).trans ((dk_bind (dk_map (dk_u2 (h 1 _ rfl) (h 2 _ rfl)))).trans rfl))
theorem dk_162 {code : ByteArray} {pc : Nat} (a b : UInt8) (h : DkAt code pc [162, a, b]) : decode code pc = .ok (.if_icmp .ge (Reader.signed 16 (a.toNat * 256 + b.toNat)), 3) := dk_of ((dk_bind (dk_u1 (h 0 _ rfl))).trans ((dk_bind (dk_map (dk_u2 (h 1 _ rfl) (h 2 _ rfl)))).trans rfl))
theorem dk_163 {code : ByteArray} {pc : Nat} (a b : UInt8) (h : DkAt code pc [163, a, b]) : decode code pc = .ok (.if_icmp .gt (Reader.signed 16 (a.toNat * 256 + b.toNat)), 3) := dk_of ((dk_bind (dk_u1 (h 0 _ rfl))).trans ((dk_bind (dk_map (dk_u2 (h 1 _ rfl) (h 2 _ rfl)))).trans rfl))
theorem dk_164 {code : ByteArray} {pc : Nat} (a b : UInt8) (h : DkAt code pc [164, a, b]) : decode code pc = .ok (.if_icmp .le (Reader.signed 16 (a.toNat * 256 + b.toNat)), 3) := dk_of ((dk_bind (dk_u1 (h 0 _ rfl))).trans ((dk_bind (dk_map (dk_u2 (h 1 _ rfl) (h 2 _ rfl)))).trans rfl))
theorem dk_167 {code : ByteArray} {pc : Nat} (a b : UInt8) (h : DkAt code pc [167, a, b]) : decode code pc = .ok (.goto (Reader.signed 16 (a.toNat * 256 + b.toNat)), 3) := dk_of ((dk_bind (dk_u1 (h 0 _ rfl))).trans ((dk_bind (dk_map (dk_u2 (h 1 _ rfl) (h 2 _ rfl)))).trans rfl))
theorem dk_172 {code : ByteArray} {pc : Nat} (h : DkAt code pc [172]) : decode code pc = .ok (.ireturn, 1) := dk_of ((dk_bind (dk_u1 (h 0 _ rfl))).trans rfl)
theorem dk_173 {code : ByteArray} {pc : Nat} (h : DkAt code pc [173]) : decode code pc = .ok (.lreturn, 1) := dk_of ((dk_bind (dk_u1 (h 0 _ rfl))).trans rfl)
theorem dk_176 {code : ByteArray} {pc : Nat} (h : DkAt code pc [176]) : decode code pc = .ok (.areturn, 1) := dk_of ((dk_bind (dk_u1 (h 0 _ rfl))).trans rfl)
theorem dk_177 {code : ByteArray} {pc : Nat} (h : DkAt code pc [177]) : decode code pc = .ok (.return_, 1) := dk_of ((dk_bind (dk_u1 (h 0 _ rfl))).trans rfl)
theorem dk_178 {code : ByteArray} {pc : Nat} (a b : UInt8) (h : DkAt code pc [178, a, b]) : decode code pc = .ok (.getstatic (a.toNat * 256 + b.toNat), 3) := dk_of ((dk_bind (dk_u1 (h 0 _ rfl))).trans ((dk_bind (dk_u2 (h 1 _ rfl) (h 2 _ rfl))).trans rfl))
theorem dk_180 {code : ByteArray} {pc : Nat} (a b : UInt8) (h : DkAt code pc [180, a, b]) : decode code pc = .ok (.getfield (a.toNat * 256 + b.toNat), 3) := dk_of ((dk_bind (dk_u1 (h 0 _ rfl))).trans ((dk_bind (dk_u2 (h 1 _ rfl) (h 2 _ rfl))).trans rfl))
theorem dk_181 {code : ByteArray} {pc : Nat} (a b : UInt8) (h : DkAt code pc [181, a, b]) : decode code pc = .ok (.putfield (a.toNat * 256 + b.toNat), 3) := dk_of ((dk_bind (dk_u1 (h 0 _ rfl))).trans ((dk_bind (dk_u2 (h 1 _ rfl) (h 2 _ rfl))).trans rfl))
theorem dk_182 {code : ByteArray} {pc : Nat} (a b : UInt8) (h : DkAt code pc [182, a, b]) : decode code pc = .ok (.invokevirtual (a.toNat * 256 + b.toNat), 3) := dk_of ((dk_bind (dk_u1 (h 0 _ rfl))).trans ((dk_bind (dk_u2 (h 1 _ rfl) (h 2 _ rfl))).trans rfl))
theorem dk_183 {code : ByteArray} {pc : Nat} (a b : UInt8) (h : DkAt code pc [183, a, b]) : decode code pc = .ok (.invokespecial (a.toNat * 256 + b.toNat), 3) := dk_of ((dk_bind (dk_u1 (h 0 _ rfl))).trans ((dk_bind (dk_u2 (h 1 _ rfl) (h 2 _ rfl))).trans rfl))
theorem dk_184 {code : ByteArray} {pc : Nat} (a b : UInt8) (h : DkAt code pc [184, a, b]) : decode code pc = .ok (.invokestatic (a.toNat * 256 + b.toNat), 3) := dk_of ((dk_bind (dk_u1 (h 0 _ rfl))).trans ((dk_bind (dk_u2 (h 1 _ rfl) (h 2 _ rfl))).trans rfl))
theorem dk_187 {code : ByteArray} {pc : Nat} (a b : UInt8) (h : DkAt code pc [187, a, b]) : decode code pc = .ok (.new (a.toNat * 256 + b.toNat), 3) := dk_of ((dk_bind (dk_u1 (h 0 _ rfl))).trans ((dk_bind (dk_u2 (h 1 _ rfl) (h 2 _ rfl))).trans rfl))
theorem dk_188_4 {code : ByteArray} {pc : Nat} (h : DkAt code pc [188, 4]) : decode code pc = .ok (.newarray .boolean, 2) := dk_of ((dk_bind (dk_u1 (h 0 _ rfl))).trans ((dk_bind (dk_u1 (h 1 _ rfl))).trans rfl))
theorem dk_188_8 {code : ByteArray} {pc : Nat} (h : DkAt code pc [188, 8]) : decode code pc = .ok (.newarray .byte, 2) := dk_of ((dk_bind (dk_u1 (h 0 _ rfl))).trans ((dk_bind (dk_u1 (h 1 _ rfl))).trans rfl))
theorem dk_188_9 {code : ByteArray} {pc : Nat} (h : DkAt code pc [188, 9]) : decode code pc = .ok (.newarray .short, 2) := dk_of ((dk_bind (dk_u1 (h 0 _ rfl))).trans ((dk_bind (dk_u1 (h 1 _ rfl))).trans rfl))
theorem dk_188_10 {code : ByteArray} {pc : Nat} (h : DkAt code pc [188, 10]) : decode code pc = .ok (.newarray .int, 2) := dk_of ((dk_bind (dk_u1 (h 0 _ rfl))).trans ((dk_bind (dk_u1 (h 1 _ rfl))).trans rfl))
theorem dk_188_11 {code : ByteArray} {pc : Nat} (h : DkAt code pc [188, 11]) : decode code pc = .ok (.newarray .long, 2) := dk_of ((dk_bind (dk_u1 (h 0 _ rfl))).trans ((dk_bind (dk_u1 (h 1 _ rfl))).trans rfl))
theorem dk_189 {code : ByteArray} {pc : Nat} (a b : UInt8) (h : DkAt code pc [189, a, b]) : decode code pc = .ok (.anewarray (a.toNat * 256 + b.toNat), 3) := dk_of ((dk_bind (dk_u1 (h 0 _ rfl))).trans ((dk_bind (dk_u2 (h 1 _ rfl) (h 2 _ rfl))).trans rfl))
theorem dk_190 {code : ByteArray} {pc : Nat} (h : DkAt code pc [190]) : decode code pc = .ok (.arraylength, 1) := dk_of ((dk_bind (dk_u1 (h 0 _ rfl))).trans rfl)
theorem dk_191 {code : ByteArray} {pc : Nat} (h : DkAt code pc [191]) : decode code pc = .ok (.athrow, 1) := dk_of ((dk_bind (dk_u1 (h 0 _ rfl))).trans rfl)
theorem dk_192 {code : ByteArray} {pc : Nat} (a b : UInt8) (h : DkAt code pc [192, a, b]) : decode code pc = .ok (.checkcast (a.toNat * 256 + b.toNat), 3) := dk_of ((dk_bind (dk_u1 (h 0 _ rfl))).trans ((dk_bind (dk_u2 (h 1 _ rfl) (h 2 _ rfl))).trans rfl))
theorem dk_193 {code : ByteArray} {pc : Nat} (a b : UInt8) (h : DkAt code pc [193, a, b]) : decode code pc = .ok (.instanceof (a.toNat * 256 + b.toNat), 3) := dk_of ((dk_bind (dk_u1 (h 0 _ rfl))).trans ((dk_bind (dk_u2 (h 1 _ rfl) (h 2 _ rfl))).trans rfl))
theorem dk_198 {code : ByteArray} {pc : Nat} (a b : UInt8) (h : DkAt code pc [198, a, b]) : decode code pc = .ok (.ifnull (Reader.signed 16 (a.toNat * 256 + b.toNat)), 3) := dk_of ((dk_bind (dk_u1 (h 0 _ rfl))).trans ((dk_bind (dk_map (dk_u2 (h 1 _ rfl) (h 2 _ rfl)))).trans rfl))
theorem dk_199 {code : ByteArray} {pc : Nat} (a b : UInt8) (h : DkAt code pc [199, a, b]) : decode code pc = .ok (.ifnonnull (Reader.signed 16 (a.toNat * 256 + b.toNat)), 3) := dk_of ((dk_bind (dk_u1 (h 0 _ rfl))).trans ((dk_bind (dk_map (dk_u2 (h 1 _ rfl) (h 2 _ rfl)))).trans rfl))
theorem q205 : (Jvm.Cond.arrayOver (Jvm.ClassFile.FieldType.object "AskingCourt$Tray")) ∈ lw_tbl := lw_at lw_m1 42 rfl
set_option maxRecDepth 100000
theorem q285 : (Jvm.Cond.arrayClass Jvm.ClassFile.FieldType.byte) ∈ lw_all := lw_g (lw_at lw_m1 122 rfl) rfl
theorem q336 : (Jvm.Cond.arrayClass Jvm.ClassFile.FieldType.long) ∈ lw_all := lw_g (lw_at lw_m1 173 rfl) rfl
theorem q337 : (Jvm.Cond.arrayClass Jvm.ClassFile.FieldType.int) ∈ lw_all := lw_g (lw_at lw_m1 174 rfl) rfl
theorem q338 : (Jvm.Cond.arrayOver (Jvm.ClassFile.FieldType.object "AskingCourt$Worlds")) ∈ lw_tbl := lw_at lw_m1 175 rfl
theorem q340 : (Jvm.Cond.arrayOver (Jvm.ClassFile.FieldType.object "AskingCourt$Witness")) ∈ lw_tbl := lw_at lw_m1 177 rfl
theorem q483 : (Jvm.Cond.arrayOver (Jvm.ClassFile.FieldType.object "AskingCourt$House")) ∈ lw_tbl := lw_at lw_m2 80 rfl
theorem q514 : (Jvm.Cond.arrayClass Jvm.ClassFile.FieldType.short) ∈ lw_all := lw_g (lw_at lw_m2 111 rfl) rfl
theorem q1099 : (Jvm.Cond.arrayOver (Jvm.ClassFile.FieldType.object "AskingCourt$Step")) ∈ lw_tbl := lw_at lw_m4 216 rfl
theorem q1791 : (Jvm.Cond.arrayClass Jvm.ClassFile.FieldType.boolean) ∈ lw_all := lw_g (lw_at lw_m7 188 rfl) rfl
theorem q163 : (Jvm.Cond.initialized "AskingCourtLaw") ∈ lw_all := lw_g (lw_at lw_m1 0 rfl) rfl
set_option maxRecDepth 100000
theorem q196 : (Jvm.Cond.classLink "AskingCourtLaw" (7 : Nat) "AskingCourt") ∈ lw_all := lw_g (lw_at lw_m1 33 rfl) rfl
theorem q198 : (Jvm.Cond.methodLink "AskingCourtLaw" (9 : Nat) ({ cls := "AskingCourt", name := "<init>", desc := "()V" } : Jvm.MethodName)) ∈ lw_all := lw_g (lw_at lw_m1 35 rfl) rfl
theorem q592 : (Jvm.Cond.methodLink "AskingCourtLaw" (13 : Nat) ({ cls := "AskingCourt", name := "status", desc := "()I" } : Jvm.MethodName)) ∈ lw_all := lw_g (lw_at lw_m2 189 rfl) rfl
theorem q596 : (Jvm.Cond.methodLink "AskingCourtLaw" (18 : Nat) ({ cls := "AskingCourt", name := "top", desc := "()J" } : Jvm.MethodName)) ∈ lw_all := lw_g (lw_at lw_m2 193 rfl) rfl
theorem q600 : (Jvm.Cond.methodLink "AskingCourtLaw" (23 : Nat) ({ cls := "AskingCourt", name := "bottom", desc := "()J" } : Jvm.MethodName)) ∈ lw_all := lw_g (lw_at lw_m2 197 rfl) rfl
theorem q604 : (Jvm.Cond.methodLink "AskingCourtLaw" (27 : Nat) ({ cls := "AskingCourt", name := "tray", desc := "(III)Z" } : Jvm.MethodName)) ∈ lw_all := lw_g (lw_at lw_m2 201 rfl) rfl
theorem q652 : (Jvm.Cond.methodLink "AskingCourtLaw" (34 : Nat) ({ cls := "AskingCourt", name := "write", desc := "(IIJ)Z" } : Jvm.MethodName)) ∈ lw_all := lw_g (lw_at lw_m3 9 rfl) rfl
theorem q686 : (Jvm.Cond.methodLink "AskingCourtLaw" (39 : Nat) ({ cls := "AskingCourt", name := "read", desc := "(II)J" } : Jvm.MethodName)) ∈ lw_all := lw_g (lw_at lw_m3 43 rfl) rfl
theorem q698 : (Jvm.Cond.methodLink "AskingCourtLaw" (44 : Nat) ({ cls := "AskingCourt", name := "pour", desc := "(IIIII)Z" } : Jvm.MethodName)) ∈ lw_all := lw_g (lw_at lw_m3 55 rfl) rfl
theorem q709 : (Jvm.Cond.methodLink "AskingCourtLaw" (49 : Nat) ({ cls := "AskingCourt", name := "feed", desc := "(IIIII)I" } : Jvm.MethodName)) ∈ lw_all := lw_g (lw_at lw_m3 66 rfl) rfl
theorem q717 : (Jvm.Cond.methodLink "AskingCourtLaw" (54 : Nat) ({ cls := "AskingCourt", name := "court", desc := "(I)I" } : Jvm.MethodName)) ∈ lw_all := lw_g (lw_at lw_m3 74 rfl) rfl
theorem q1085 : (Jvm.Cond.methodLink "AskingCourtLaw" (59 : Nat) ({ cls := "AskingCourt", name := "plan", desc := "(I)I" } : Jvm.MethodName)) ∈ lw_all := lw_g (lw_at lw_m4 202 rfl) rfl
theorem q1195 : (Jvm.Cond.methodLink "AskingCourtLaw" (63 : Nat) ({ cls := "AskingCourt", name := "fault", desc := "(I)I" } : Jvm.MethodName)) ∈ lw_all := lw_g (lw_at lw_m5 72 rfl) rfl
theorem q1199 : (Jvm.Cond.methodLink "AskingCourtLaw" (67 : Nat) ({ cls := "AskingCourt", name := "told", desc := "(I)I" } : Jvm.MethodName)) ∈ lw_all := lw_g (lw_at lw_m5 76 rfl) rfl
theorem q1211 : (Jvm.Cond.methodLink "AskingCourtLaw" (71 : Nat) ({ cls := "AskingCourt", name := "value", desc := "(II)I" } : Jvm.MethodName)) ∈ lw_all := lw_g (lw_at lw_m5 88 rfl) rfl
theorem q1215 : (Jvm.Cond.methodLink "AskingCourtLaw" (76 : Nat) ({ cls := "AskingCourt", name := "world", desc := "(II)I" } : Jvm.MethodName)) ∈ lw_all := lw_g (lw_at lw_m5 92 rfl) rfl
theorem q1224 : (Jvm.Cond.methodLink "AskingCourtLaw" (80 : Nat) ({ cls := "AskingCourt", name := "possible", desc := "(I)I" } : Jvm.MethodName)) ∈ lw_all := lw_g (lw_at lw_m5 101 rfl) rfl
theorem q1229 : (Jvm.Cond.methodLink "AskingCourtLaw" (84 : Nat) ({ cls := "AskingCourt", name := "holds", desc := "(II)I" } : Jvm.MethodName)) ∈ lw_all := lw_g (lw_at lw_m5 106 rfl) rfl
theorem q1237 : (Jvm.Cond.methodLink "AskingCourtLaw" (88 : Nat) ({ cls := "AskingCourt", name := "fee", desc := "(I)I" } : Jvm.MethodName)) ∈ lw_all := lw_g (lw_at lw_m5 114 rfl) rfl
theorem q1241 : (Jvm.Cond.methodLink "AskingCourtLaw" (92 : Nat) ({ cls := "AskingCourt", name := "witness", desc := "(II)I" } : Jvm.MethodName)) ∈ lw_all := lw_g (lw_at lw_m5 118 rfl) rfl
theorem q1250 : (Jvm.Cond.methodLink "AskingCourtLaw" (96 : Nat) ({ cls := "AskingCourt", name := "answer", desc := "(IIII)I" } : Jvm.MethodName)) ∈ lw_all := lw_g (lw_at lw_m5 127 rfl) rfl
theorem q1262 : (Jvm.Cond.methodLink "AskingCourtLaw" (101 : Nat) ({ cls := "AskingCourt", name := "hear", desc := "(III)Z" } : Jvm.MethodName)) ∈ lw_all := lw_g (lw_at lw_m5 139 rfl) rfl
theorem q1274 : (Jvm.Cond.methodLink "AskingCourtLaw" (105 : Nat) ({ cls := "AskingCourt", name := "unsay", desc := "()I" } : Jvm.MethodName)) ∈ lw_all := lw_g (lw_at lw_m5 151 rfl) rfl
theorem q1278 : (Jvm.Cond.methodLink "AskingCourtLaw" (109 : Nat) ({ cls := "AskingCourt", name := "nextDay", desc := "()I" } : Jvm.MethodName)) ∈ lw_all := lw_g (lw_at lw_m5 155 rfl) rfl
theorem q1282 : (Jvm.Cond.methodLink "AskingCourtLaw" (113 : Nat) ({ cls := "AskingCourt", name := "heard", desc := "(II)I" } : Jvm.MethodName)) ∈ lw_all := lw_g (lw_at lw_m5 159 rfl) rfl
theorem q1286 : (Jvm.Cond.methodLink "AskingCourtLaw" (117 : Nat) ({ cls := "AskingCourt", name := "left", desc := "()I" } : Jvm.MethodName)) ∈ lw_all := lw_g (lw_at lw_m5 163 rfl) rfl
theorem q1316 : (Jvm.Cond.methodLink "AskingCourtLaw" (121 : Nat) ({ cls := "AskingCourt", name := "isLeft", desc := "(I)I" } : Jvm.MethodName)) ∈ lw_all := lw_g (lw_at lw_m5 193 rfl) rfl
theorem q1321 : (Jvm.Cond.methodLink "AskingCourtLaw" (125 : Nat) ({ cls := "AskingCourt", name := "fits", desc := "(III)I" } : Jvm.MethodName)) ∈ lw_all := lw_g (lw_at lw_m5 198 rfl) rfl
theorem q1327 : (Jvm.Cond.methodLink "AskingCourtLaw" (130 : Nat) ({ cls := "AskingCourt", name := "sure", desc := "(I)I" } : Jvm.MethodName)) ∈ lw_all := lw_g (lw_at lw_m5 204 rfl) rfl
theorem q1335 : (Jvm.Cond.methodLink "AskingCourtLaw" (134 : Nat) ({ cls := "AskingCourt", name := "chance", desc := "(I)Z" } : Jvm.MethodName)) ∈ lw_all := lw_g (lw_at lw_m5 212 rfl) rfl
theorem q1366 : (Jvm.Cond.methodLink "AskingCourtLaw" (139 : Nat) ({ cls := "AskingCourt", name := "trust", desc := "(II)Z" } : Jvm.MethodName)) ∈ lw_all := lw_g (lw_at lw_m6 3 rfl) rfl
theorem q1370 : (Jvm.Cond.methodLink "AskingCourtLaw" (144 : Nat) ({ cls := "AskingCourt", name := "because", desc := "(I)I" } : Jvm.MethodName)) ∈ lw_all := lw_g (lw_at lw_m6 7 rfl) rfl
theorem q1389 : (Jvm.Cond.methodLink "AskingCourtLaw" (148 : Nat) ({ cls := "AskingCourt", name := "gave", desc := "(I)I" } : Jvm.MethodName)) ∈ lw_all := lw_g (lw_at lw_m6 26 rfl) rfl
theorem q1393 : (Jvm.Cond.methodLink "AskingCourtLaw" (152 : Nat) ({ cls := "AskingCourt", name := "fees", desc := "()I" } : Jvm.MethodName)) ∈ lw_all := lw_g (lw_at lw_m6 30 rfl) rfl
theorem q1401 : (Jvm.Cond.methodLink "AskingCourtLaw" (156 : Nat) ({ cls := "AskingCourt", name := "worst", desc := "(II)I" } : Jvm.MethodName)) ∈ lw_all := lw_g (lw_at lw_m6 38 rfl) rfl
theorem q1424 : (Jvm.Cond.methodLink "AskingCourtLaw" (160 : Nat) ({ cls := "AskingCourt", name := "best", desc := "(I)I" } : Jvm.MethodName)) ∈ lw_all := lw_g (lw_at lw_m6 61 rfl) rfl
theorem q1432 : (Jvm.Cond.methodLink "AskingCourtLaw" (164 : Nat) ({ cls := "AskingCourt", name := "shortest", desc := "(II)I" } : Jvm.MethodName)) ∈ lw_all := lw_g (lw_at lw_m6 69 rfl) rfl
theorem q1448 : (Jvm.Cond.methodLink "AskingCourtLaw" (168 : Nat) ({ cls := "AskingCourt", name := "shortestFirst", desc := "(I)I" } : Jvm.MethodName)) ∈ lw_all := lw_g (lw_at lw_m6 85 rfl) rfl
theorem q1452 : (Jvm.Cond.methodLink "AskingCourtLaw" (172 : Nat) ({ cls := "AskingCourt", name := "settled", desc := "()I" } : Jvm.MethodName)) ∈ lw_all := lw_g (lw_at lw_m6 89 rfl) rfl
theorem q1456 : (Jvm.Cond.methodLink "AskingCourtLaw" (176 : Nat) ({ cls := "AskingCourt", name := "bench", desc := "()I" } : Jvm.MethodName)) ∈ lw_all := lw_g (lw_at lw_m6 93 rfl) rfl
theorem q1464 : (Jvm.Cond.methodLink "AskingCourtLaw" (180 : Nat) ({ cls := "AskingCourt", name := "clash", desc := "()I" } : Jvm.MethodName)) ∈ lw_all := lw_g (lw_at lw_m6 101 rfl) rfl
theorem q1468 : (Jvm.Cond.methodLink "AskingCourtLaw" (184 : Nat) ({ cls := "AskingCourt", name := "liars", desc := "()I" } : Jvm.MethodName)) ∈ lw_all := lw_g (lw_at lw_m6 105 rfl) rfl
theorem q1472 : (Jvm.Cond.methodLink "AskingCourtLaw" (188 : Nat) ({ cls := "AskingCourt", name := "sit", desc := "(I)I" } : Jvm.MethodName)) ∈ lw_all := lw_g (lw_at lw_m6 109 rfl) rfl
theorem q1560 : (Jvm.Cond.methodLink "AskingCourtLaw" (192 : Nat) ({ cls := "AskingCourt", name := "sat", desc := "(I)I" } : Jvm.MethodName)) ∈ lw_all := lw_g (lw_at lw_m6 197 rfl) rfl
theorem q1564 : (Jvm.Cond.methodLink "AskingCourtLaw" (196 : Nat) ({ cls := "AskingCourt", name := "tally", desc := "(III)I" } : Jvm.MethodName)) ∈ lw_all := lw_g (lw_at lw_m6 201 rfl) rfl
theorem q1570 : (Jvm.Cond.methodLink "AskingCourtLaw" (200 : Nat) ({ cls := "AskingCourt", name := "mark", desc := "()I" } : Jvm.MethodName)) ∈ lw_all := lw_g (lw_at lw_m6 207 rfl) rfl
theorem q1583 : (Jvm.Cond.methodLink "AskingCourtLaw" (204 : Nat) ({ cls := "AskingCourt", name := "back", desc := "()I" } : Jvm.MethodName)) ∈ lw_all := lw_g (lw_at lw_m6 220 rfl) rfl
theorem q1587 : (Jvm.Cond.classLink "AskingCourtLaw" (10 : Nat) "AskingCourtModel") ∈ lw_all := lw_g (lw_at lw_m6 224 rfl) rfl
theorem q1589 : (Jvm.Cond.methodLink "AskingCourtLaw" (12 : Nat) ({ cls := "AskingCourtModel", name := "<init>", desc := "()V" } : Jvm.MethodName)) ∈ lw_all := lw_g (lw_at lw_m6 226 rfl) rfl
theorem q1792 : (Jvm.Cond.methodLink "AskingCourtLaw" (17 : Nat) ({ cls := "AskingCourtModel", name := "status", desc := "()I" } : Jvm.MethodName)) ∈ lw_all := lw_g (lw_at lw_m7 189 rfl) rfl
theorem q1796 : (Jvm.Cond.methodLink "AskingCourtLaw" (22 : Nat) ({ cls := "AskingCourtModel", name := "top", desc := "()J" } : Jvm.MethodName)) ∈ lw_all := lw_g (lw_at lw_m7 193 rfl) rfl
theorem q1800 : (Jvm.Cond.methodLink "AskingCourtLaw" (26 : Nat) ({ cls := "AskingCourtModel", name := "bottom", desc := "()J" } : Jvm.MethodName)) ∈ lw_all := lw_g (lw_at lw_m7 197 rfl) rfl
theorem q1804 : (Jvm.Cond.methodLink "AskingCourtLaw" (31 : Nat) ({ cls := "AskingCourtModel", name := "tray", desc := "(III)Z" } : Jvm.MethodName)) ∈ lw_all := lw_g (lw_at lw_m7 201 rfl) rfl
theorem q1815 : (Jvm.Cond.methodLink "AskingCourtLaw" (38 : Nat) ({ cls := "AskingCourtModel", name := "write", desc := "(IIJ)Z" } : Jvm.MethodName)) ∈ lw_all := lw_g (lw_at lw_m7 212 rfl) rfl
theorem q1826 : (Jvm.Cond.methodLink "AskingCourtLaw" (43 : Nat) ({ cls := "AskingCourtModel", name := "read", desc := "(II)J" } : Jvm.MethodName)) ∈ lw_all := lw_g (lw_at lw_m7 223 rfl) rfl
theorem q1830 : (Jvm.Cond.methodLink "AskingCourtLaw" (48 : Nat) ({ cls := "AskingCourtModel", name := "pour", desc := "(IIIII)Z" } : Jvm.MethodName)) ∈ lw_all := lw_g (lw_at lw_m7 227 rfl) rfl
theorem q1834 : (Jvm.Cond.methodLink "AskingCourtLaw" (53 : Nat) ({ cls := "AskingCourtModel", name := "feed", desc := "(IIIII)I" } : Jvm.MethodName)) ∈ lw_all := lw_g (lw_at lw_m7 231 rfl) rfl
theorem q1842 : (Jvm.Cond.methodLink "AskingCourtLaw" (66 : Nat) ({ cls := "AskingCourtModel", name := "fault", desc := "(I)I" } : Jvm.MethodName)) ∈ lw_all := lw_g (lw_at lw_m7 239 rfl) rfl
theorem q1846 : (Jvm.Cond.methodLink "AskingCourtLaw" (58 : Nat) ({ cls := "AskingCourtModel", name := "court", desc := "(I)I" } : Jvm.MethodName)) ∈ lw_all := lw_g (lw_at lw_m8 3 rfl) rfl
theorem q1997 : (Jvm.Cond.methodLink "AskingCourtLaw" (62 : Nat) ({ cls := "AskingCourtModel", name := "plan", desc := "(I)I" } : Jvm.MethodName)) ∈ lw_all := lw_g (lw_at lw_m8 154 rfl) rfl
theorem q2013 : (Jvm.Cond.methodLink "AskingCourtLaw" (70 : Nat) ({ cls := "AskingCourtModel", name := "told", desc := "(I)I" } : Jvm.MethodName)) ∈ lw_all := lw_g (lw_at lw_m8 170 rfl) rfl
theorem q2025 : (Jvm.Cond.methodLink "AskingCourtLaw" (75 : Nat) ({ cls := "AskingCourtModel", name := "value", desc := "(II)I" } : Jvm.MethodName)) ∈ lw_all := lw_g (lw_at lw_m8 182 rfl) rfl
theorem q2029 : (Jvm.Cond.methodLink "AskingCourtLaw" (79 : Nat) ({ cls := "AskingCourtModel", name := "world", desc := "(II)I" } : Jvm.MethodName)) ∈ lw_all := lw_g (lw_at lw_m8 186 rfl) rfl
theorem q2037 : (Jvm.Cond.methodLink "AskingCourtLaw" (83 : Nat) ({ cls := "AskingCourtModel", name := "possible", desc := "(I)I" } : Jvm.MethodName)) ∈ lw_all := lw_g (lw_at lw_m8 194 rfl) rfl
theorem q2041 : (Jvm.Cond.methodLink "AskingCourtLaw" (87 : Nat) ({ cls := "AskingCourtModel", name := "holds", desc := "(II)I" } : Jvm.MethodName)) ∈ lw_all := lw_g (lw_at lw_m8 198 rfl) rfl
theorem q2053 : (Jvm.Cond.methodLink "AskingCourtLaw" (91 : Nat) ({ cls := "AskingCourtModel", name := "fee", desc := "(I)I" } : Jvm.MethodName)) ∈ lw_all := lw_g (lw_at lw_m8 210 rfl) rfl
theorem q2057 : (Jvm.Cond.methodLink "AskingCourtLaw" (95 : Nat) ({ cls := "AskingCourtModel", name := "witness", desc := "(II)I" } : Jvm.MethodName)) ∈ lw_all := lw_g (lw_at lw_m8 214 rfl) rfl
theorem q2065 : (Jvm.Cond.methodLink "AskingCourtLaw" (100 : Nat) ({ cls := "AskingCourtModel", name := "answer", desc := "(IIII)I" } : Jvm.MethodName)) ∈ lw_all := lw_g (lw_at lw_m8 222 rfl) rfl
theorem q2076 : (Jvm.Cond.methodLink "AskingCourtLaw" (104 : Nat) ({ cls := "AskingCourtModel", name := "hear", desc := "(III)Z" } : Jvm.MethodName)) ∈ lw_all := lw_g (lw_at lw_m8 233 rfl) rfl
theorem q2084 : (Jvm.Cond.methodLink "AskingCourtLaw" (108 : Nat) ({ cls := "AskingCourtModel", name := "unsay", desc := "()I" } : Jvm.MethodName)) ∈ lw_all := lw_g (lw_at lw_m9 1 rfl) rfl
theorem q2088 : (Jvm.Cond.methodLink "AskingCourtLaw" (112 : Nat) ({ cls := "AskingCourtModel", name := "nextDay", desc := "()I" } : Jvm.MethodName)) ∈ lw_all := lw_g (lw_at lw_m9 5 rfl) rfl
theorem q2092 : (Jvm.Cond.methodLink "AskingCourtLaw" (116 : Nat) ({ cls := "AskingCourtModel", name := "heard", desc := "(II)I" } : Jvm.MethodName)) ∈ lw_all := lw_g (lw_at lw_m9 9 rfl) rfl
theorem q2096 : (Jvm.Cond.methodLink "AskingCourtLaw" (120 : Nat) ({ cls := "AskingCourtModel", name := "left", desc := "()I" } : Jvm.MethodName)) ∈ lw_all := lw_g (lw_at lw_m9 13 rfl) rfl
theorem q2124 : (Jvm.Cond.methodLink "AskingCourtLaw" (124 : Nat) ({ cls := "AskingCourtModel", name := "isLeft", desc := "(I)I" } : Jvm.MethodName)) ∈ lw_all := lw_g (lw_at lw_m9 41 rfl) rfl
theorem q2128 : (Jvm.Cond.methodLink "AskingCourtLaw" (129 : Nat) ({ cls := "AskingCourtModel", name := "fits", desc := "(III)I" } : Jvm.MethodName)) ∈ lw_all := lw_g (lw_at lw_m9 45 rfl) rfl
theorem q2132 : (Jvm.Cond.methodLink "AskingCourtLaw" (133 : Nat) ({ cls := "AskingCourtModel", name := "sure", desc := "(I)I" } : Jvm.MethodName)) ∈ lw_all := lw_g (lw_at lw_m9 49 rfl) rfl
theorem q2140 : (Jvm.Cond.methodLink "AskingCourtLaw" (138 : Nat) ({ cls := "AskingCourtModel", name := "chance", desc := "(I)Z" } : Jvm.MethodName)) ∈ lw_all := lw_g (lw_at lw_m9 57 rfl) rfl
theorem q2160 : (Jvm.Cond.methodLink "AskingCourtLaw" (143 : Nat) ({ cls := "AskingCourtModel", name := "trust", desc := "(II)Z" } : Jvm.MethodName)) ∈ lw_all := lw_g (lw_at lw_m9 77 rfl) rfl
theorem q2164 : (Jvm.Cond.methodLink "AskingCourtLaw" (147 : Nat) ({ cls := "AskingCourtModel", name := "because", desc := "(I)I" } : Jvm.MethodName)) ∈ lw_all := lw_g (lw_at lw_m9 81 rfl) rfl
theorem q2175 : (Jvm.Cond.methodLink "AskingCourtLaw" (151 : Nat) ({ cls := "AskingCourtModel", name := "gave", desc := "(I)I" } : Jvm.MethodName)) ∈ lw_all := lw_g (lw_at lw_m9 92 rfl) rfl
theorem q2179 : (Jvm.Cond.methodLink "AskingCourtLaw" (155 : Nat) ({ cls := "AskingCourtModel", name := "fees", desc := "()I" } : Jvm.MethodName)) ∈ lw_all := lw_g (lw_at lw_m9 96 rfl) rfl
theorem q2187 : (Jvm.Cond.methodLink "AskingCourtLaw" (159 : Nat) ({ cls := "AskingCourtModel", name := "worst", desc := "(II)I" } : Jvm.MethodName)) ∈ lw_all := lw_g (lw_at lw_m9 104 rfl) rfl
theorem q2200 : (Jvm.Cond.methodLink "AskingCourtLaw" (163 : Nat) ({ cls := "AskingCourtModel", name := "best", desc := "(I)I" } : Jvm.MethodName)) ∈ lw_all := lw_g (lw_at lw_m9 117 rfl) rfl
theorem q2208 : (Jvm.Cond.methodLink "AskingCourtLaw" (167 : Nat) ({ cls := "AskingCourtModel", name := "shortest", desc := "(II)I" } : Jvm.MethodName)) ∈ lw_all := lw_g (lw_at lw_m9 125 rfl) rfl
theorem q2240 : (Jvm.Cond.methodLink "AskingCourtLaw" (171 : Nat) ({ cls := "AskingCourtModel", name := "shortestFirst", desc := "(I)I" } : Jvm.MethodName)) ∈ lw_all := lw_g (lw_at lw_m9 157 rfl) rfl
theorem q2244 : (Jvm.Cond.methodLink "AskingCourtLaw" (175 : Nat) ({ cls := "AskingCourtModel", name := "settled", desc := "()I" } : Jvm.MethodName)) ∈ lw_all := lw_g (lw_at lw_m9 161 rfl) rfl
theorem q2248 : (Jvm.Cond.methodLink "AskingCourtLaw" (179 : Nat) ({ cls := "AskingCourtModel", name := "bench", desc := "()I" } : Jvm.MethodName)) ∈ lw_all := lw_g (lw_at lw_m9 165 rfl) rfl
theorem q2256 : (Jvm.Cond.methodLink "AskingCourtLaw" (183 : Nat) ({ cls := "AskingCourtModel", name := "clash", desc := "()I" } : Jvm.MethodName)) ∈ lw_all := lw_g (lw_at lw_m9 173 rfl) rfl
theorem q2260 : (Jvm.Cond.methodLink "AskingCourtLaw" (187 : Nat) ({ cls := "AskingCourtModel", name := "liars", desc := "()I" } : Jvm.MethodName)) ∈ lw_all := lw_g (lw_at lw_m9 177 rfl) rfl
theorem q2268 : (Jvm.Cond.methodLink "AskingCourtLaw" (191 : Nat) ({ cls := "AskingCourtModel", name := "sit", desc := "(I)I" } : Jvm.MethodName)) ∈ lw_all := lw_g (lw_at lw_m9 185 rfl) rfl
theorem q2311 : (Jvm.Cond.methodLink "AskingCourtLaw" (195 : Nat) ({ cls := "AskingCourtModel", name := "sat", desc := "(I)I" } : Jvm.MethodName)) ∈ lw_all := lw_g (lw_at lw_m9 228 rfl) rfl
theorem q2315 : (Jvm.Cond.methodLink "AskingCourtLaw" (199 : Nat) ({ cls := "AskingCourtModel", name := "tally", desc := "(III)I" } : Jvm.MethodName)) ∈ lw_all := lw_g (lw_at lw_m9 232 rfl) rfl
theorem q2320 : (Jvm.Cond.methodLink "AskingCourtLaw" (203 : Nat) ({ cls := "AskingCourtModel", name := "mark", desc := "()I" } : Jvm.MethodName)) ∈ lw_all := lw_g (lw_at lw_m9 237 rfl) rfl
theorem q2328 : (Jvm.Cond.methodLink "AskingCourtLaw" (207 : Nat) ({ cls := "AskingCourtModel", name := "back", desc := "()I" } : Jvm.MethodName)) ∈ lw_all := lw_g (lw_at lw_m10 5 rfl) rfl
theorem q2332 : (Jvm.Cond.constantLong "AskingCourtLaw" (32 : Nat) (4294967295 : Int64)) ∈ lw_all := lw_g (lw_at lw_m10 9 rfl) rfl
theorem q181 : (Jvm.Cond.initialized "java/lang/System") ∈ lw_all := lw_g (lw_at lw_m1 18 rfl) rfl
set_option maxRecDepth 100000
theorem q707 : (Jvm.Cond.static ({ cls := "java/lang/System", name := "arraycopy", desc := "(Ljava/lang/Object;ILjava/lang/Object;II)V" } : Jvm.MethodName)) ∈ lw_all := lw_g (lw_at lw_m3 64 rfl) rfl
theorem q708 : (Jvm.Cond.native ({ cls := "java/lang/System", name := "arraycopy", desc := "(Ljava/lang/Object;ILjava/lang/Object;II)V" } : Jvm.MethodName)) ∈ lw_all := lw_g (lw_at lw_m3 65 rfl) rfl
/-! java/lang/Object -/
set_option maxRecDepth 100000
def RJ13 : String := "java/lang/Object"
abbrev cJ13_init : ByteArray := object_method_1_code
def yJ13_init : MethodName := ⟨RJ13, "<init>", "()V"⟩
theorem dJ13_init_0 : decode cJ13_init 0 = .ok (.return_, 1) := by decide +kernel
theorem q202 : (Jvm.Cond.instanceMethod ({ cls := "java/lang/Object", name := "<init>", desc := "()V" } : Jvm.MethodName)) ∈ lw_all := lw_g (lw_at lw_m1 39 rfl) rfl
theorem q203 : (Jvm.Cond.code ({ cls := "java/lang/Object", name := "<init>", desc := "()V" } : Jvm.MethodName) object_method_1_code (1 : Nat) (Option.none : Option Jvm.ClassFile.FieldType)) ∈ lw_all := lw_g (lw_at lw_m1 40 rfl) rfl
/-! java/lang/Throwable -/
set_option maxRecDepth 100000
def RJ0 : String := "java/lang/Throwable"
def TJ0 : u_T := fun k => match k with
  | 0 => ("java/lang/Throwable", "cause", "Ljava/lang/Throwable;", false)
  | 1 => ("java/lang/Throwable", "stackTrace", "[Ljava/lang/StackTraceElement;", false)
  | 2 => ("java/lang/Throwable", "suppressedExceptions", "Ljava/util/List;", false)
  | 3 => ("java/lang/Throwable", "detailMessage", "Ljava/lang/String;", false)
  | _ => ("java/lang/Throwable", "backtrace", "Ljava/lang/Object;", false)
def tyJ0 : Nat → FieldType := fun k => match k with
  | 0 => .object "java/lang/Throwable"
  | 1 => .array (.object "java/lang/StackTraceElement")
  | 2 => .object "java/util/List"
  | 3 => .object "java/lang/String"
  | _ => .object "java/lang/Object"
abbrev wsJ00 : List Cond := u_ws RJ0 TJ0 5
theorem nmJ0 : ∀ a, a < 5 → ∀ b, b < 5 → a ≠ b → (TJ0 a).2.1 ≠ (TJ0 b).2.1 := by decide +kernel
theorem tyJ0_ok : ∀ k, k < 5 → parseFieldDescriptor (TJ0 k).2.2.1 = some (tyJ0 k) := by decide +kernel
abbrev cJ0_init : ByteArray := prog_32_method_1_code
def yJ0_init : MethodName := ⟨RJ0, "<init>", "()V"⟩
def dkwJ0_init_1 : List UInt8 := [182, 0, 27, 87, 177]
abbrev dktJ0_init_1 : List UInt8 := dkwJ0_init_1 ++ []
def dkwJ0_init_0 : List UInt8 := [42, 183, 0, 1, 42, 42, 181, 0, 7, 42, 178, 0, 13, 181, 0, 17, 42, 178, 0, 20, 181, 0, 24, 42]
abbrev dktJ0_init_0 : List UInt8 := dkwJ0_init_0 ++ dktJ0_init_1
theorem dksJ0_init_0 : cJ0_init.data.toList.drop 0 = dktJ0_init_0 := by decide +kernel
theorem dksJ0_init_1 : cJ0_init.data.toList.drop 24 = dktJ0_init_1 := dk_seg dksJ0_init_0 24 rfl rfl
theorem dJ0_init_0 : decode cJ0_init 0 = .ok (.aload_n 0, 1) := dk_42 (dk_at dksJ0_init_0 0 rfl rfl)
theorem dJ0_init_1 : decode cJ0_init 1 = .ok (.invokespecial 1, 3) := dk_183 0 1 (dk_at dksJ0_init_0 1 rfl rfl)
theorem dJ0_init_4 : decode cJ0_init 4 = .ok (.aload_n 0, 1) := dk_42 (dk_at dksJ0_init_0 4 rfl rfl)
theorem dJ0_init_5 : decode cJ0_init 5 = .ok (.aload_n 0, 1) := dk_42 (dk_at dksJ0_init_0 5 rfl rfl)
theorem dJ0_init_6 : decode cJ0_init 6 = .ok (.putfield 7, 3) := dk_181 0 7 (dk_at dksJ0_init_0 6 rfl rfl)
theorem dJ0_init_9 : decode cJ0_init 9 = .ok (.aload_n 0, 1) := dk_42 (dk_at dksJ0_init_0 9 rfl rfl)
theorem dJ0_init_10 : decode cJ0_init 10 = .ok (.getstatic 13, 3) := dk_178 0 13 (dk_at dksJ0_init_0 10 rfl rfl)
theorem dJ0_init_13 : decode cJ0_init 13 = .ok (.putfield 17, 3) := dk_181 0 17 (dk_at dksJ0_init_0 13 rfl rfl)
theorem dJ0_init_16 : decode cJ0_init 16 = .ok (.aload_n 0, 1) := dk_42 (dk_at dksJ0_init_0 16 rfl rfl)
theorem dJ0_init_17 : decode cJ0_init 17 = .ok (.getstatic 20, 3) := dk_178 0 20 (dk_at dksJ0_init_0 17 rfl rfl)
theorem dJ0_init_20 : decode cJ0_init 20 = .ok (.putfield 24, 3) := dk_181 0 24 (dk_at dksJ0_init_0 20 rfl rfl)
theorem dJ0_init_23 : decode cJ0_init 23 = .ok (.aload_n 0, 1) := dk_42 (dk_at dksJ0_init_0 23 rfl rfl)
theorem dJ0_init_24 : decode cJ0_init 24 = .ok (.invokevirtual 27, 3) := dk_182 0 27 (dk_at dksJ0_init_1 0 rfl rfl)
theorem dJ0_init_27 : decode cJ0_init 27 = .ok (.pop, 1) := dk_87 (dk_at dksJ0_init_1 3 rfl rfl)
theorem dJ0_init_28 : decode cJ0_init 28 = .ok (.return_, 1) := dk_177 (dk_at dksJ0_init_1 4 rfl rfl)
abbrev cJ0_init_2 : ByteArray := prog_32_method_5_code
def yJ0_init_2 : MethodName := ⟨RJ0, "<init>", "(Ljava/lang/String;Ljava/lang/Throwable;ZZ)V"⟩
def dkwJ0_init_2_2 : List UInt8 := [44, 181, 0, 7, 29, 154, 0, 8, 42, 1, 181, 0, 24, 177]
abbrev dktJ0_init_2_2 : List UInt8 := dkwJ0_init_2_2 ++ []
def dkwJ0_init_2_1 : List UInt8 := [21, 4, 153, 0, 11, 42, 182, 0, 27, 87, 167, 0, 8, 42, 1, 181, 0, 17, 42, 43, 181, 0, 31, 42]
abbrev dktJ0_init_2_1 : List UInt8 := dkwJ0_init_2_1 ++ dktJ0_init_2_2
def dkwJ0_init_2_0 : List UInt8 := [42, 183, 0, 1, 42, 42, 181, 0, 7, 42, 178, 0, 13, 181, 0, 17, 42, 178, 0, 20, 181, 0, 24]
abbrev dktJ0_init_2_0 : List UInt8 := dkwJ0_init_2_0 ++ dktJ0_init_2_1
theorem dksJ0_init_2_0 : cJ0_init_2.data.toList.drop 0 = dktJ0_init_2_0 := by decide +kernel
theorem dksJ0_init_2_1 : cJ0_init_2.data.toList.drop 23 = dktJ0_init_2_1 := dk_seg dksJ0_init_2_0 23 rfl rfl
theorem dksJ0_init_2_2 : cJ0_init_2.data.toList.drop 47 = dktJ0_init_2_2 := dk_seg dksJ0_init_2_1 24 rfl rfl
theorem dJ0_init_2_0 : decode cJ0_init_2 0 = .ok (.aload_n 0, 1) := dk_42 (dk_at dksJ0_init_2_0 0 rfl rfl)
theorem dJ0_init_2_1 : decode cJ0_init_2 1 = .ok (.invokespecial 1, 3) := dk_183 0 1 (dk_at dksJ0_init_2_0 1 rfl rfl)
theorem dJ0_init_2_4 : decode cJ0_init_2 4 = .ok (.aload_n 0, 1) := dk_42 (dk_at dksJ0_init_2_0 4 rfl rfl)
theorem dJ0_init_2_5 : decode cJ0_init_2 5 = .ok (.aload_n 0, 1) := dk_42 (dk_at dksJ0_init_2_0 5 rfl rfl)
theorem dJ0_init_2_6 : decode cJ0_init_2 6 = .ok (.putfield 7, 3) := dk_181 0 7 (dk_at dksJ0_init_2_0 6 rfl rfl)
theorem dJ0_init_2_9 : decode cJ0_init_2 9 = .ok (.aload_n 0, 1) := dk_42 (dk_at dksJ0_init_2_0 9 rfl rfl)
theorem dJ0_init_2_10 : decode cJ0_init_2 10 = .ok (.getstatic 13, 3) := dk_178 0 13 (dk_at dksJ0_init_2_0 10 rfl rfl)
theorem dJ0_init_2_13 : decode cJ0_init_2 13 = .ok (.putfield 17, 3) := dk_181 0 17 (dk_at dksJ0_init_2_0 13 rfl rfl)
theorem dJ0_init_2_16 : decode cJ0_init_2 16 = .ok (.aload_n 0, 1) := dk_42 (dk_at dksJ0_init_2_0 16 rfl rfl)
theorem dJ0_init_2_17 : decode cJ0_init_2 17 = .ok (.getstatic 20, 3) := dk_178 0 20 (dk_at dksJ0_init_2_0 17 rfl rfl)
theorem dJ0_init_2_20 : decode cJ0_init_2 20 = .ok (.putfield 24, 3) := dk_181 0 24 (dk_at dksJ0_init_2_0 20 rfl rfl)
theorem dJ0_init_2_23 : decode cJ0_init_2 23 = .ok (.iload 4, 2) := dk_21 4 (dk_at dksJ0_init_2_1 0 rfl rfl)
theorem dJ0_init_2_25 : decode cJ0_init_2 25 = .ok (.ifCond .eq 11, 3) := dk_153 0 11 (dk_at dksJ0_init_2_1 2 rfl rfl)
theorem dJ0_init_2_28 : decode cJ0_init_2 28 = .ok (.aload_n 0, 1) := dk_42 (dk_at dksJ0_init_2_1 5 rfl rfl)
theorem dJ0_init_2_29 : decode cJ0_init_2 29 = .ok (.invokevirtual 27, 3) := dk_182 0 27 (dk_at dksJ0_init_2_1 6 rfl rfl)
theorem dJ0_init_2_32 : decode cJ0_init_2 32 = .ok (.pop, 1) := dk_87 (dk_at dksJ0_init_2_1 9 rfl rfl)
theorem dJ0_init_2_33 : decode cJ0_init_2 33 = .ok (.goto 8, 3) := dk_167 0 8 (dk_at dksJ0_init_2_1 10 rfl rfl)
theorem dJ0_init_2_36 : decode cJ0_init_2 36 = .ok (.aload_n 0, 1) := dk_42 (dk_at dksJ0_init_2_1 13 rfl rfl)
theorem dJ0_init_2_37 : decode cJ0_init_2 37 = .ok (.aconst_null, 1) := dk_1 (dk_at dksJ0_init_2_1 14 rfl rfl)
theorem dJ0_init_2_38 : decode cJ0_init_2 38 = .ok (.putfield 17, 3) := dk_181 0 17 (dk_at dksJ0_init_2_1 15 rfl rfl)
theorem dJ0_init_2_41 : decode cJ0_init_2 41 = .ok (.aload_n 0, 1) := dk_42 (dk_at dksJ0_init_2_1 18 rfl rfl)
theorem dJ0_init_2_42 : decode cJ0_init_2 42 = .ok (.aload_n 1, 1) := dk_43 (dk_at dksJ0_init_2_1 19 rfl rfl)
theorem dJ0_init_2_43 : decode cJ0_init_2 43 = .ok (.putfield 31, 3) := dk_181 0 31 (dk_at dksJ0_init_2_1 20 rfl rfl)
theorem dJ0_init_2_46 : decode cJ0_init_2 46 = .ok (.aload_n 0, 1) := dk_42 (dk_at dksJ0_init_2_1 23 rfl rfl)
theorem dJ0_init_2_47 : decode cJ0_init_2 47 = .ok (.aload_n 2, 1) := dk_44 (dk_at dksJ0_init_2_2 0 rfl rfl)
theorem dJ0_init_2_48 : decode cJ0_init_2 48 = .ok (.putfield 7, 3) := dk_181 0 7 (dk_at dksJ0_init_2_2 1 rfl rfl)
theorem dJ0_init_2_51 : decode cJ0_init_2 51 = .ok (.iload_n 3, 1) := dk_29 (dk_at dksJ0_init_2_2 4 rfl rfl)
theorem dJ0_init_2_52 : decode cJ0_init_2 52 = .ok (.ifCond .ne 8, 3) := dk_154 0 8 (dk_at dksJ0_init_2_2 5 rfl rfl)
theorem dJ0_init_2_55 : decode cJ0_init_2 55 = .ok (.aload_n 0, 1) := dk_42 (dk_at dksJ0_init_2_2 8 rfl rfl)
theorem dJ0_init_2_56 : decode cJ0_init_2 56 = .ok (.aconst_null, 1) := dk_1 (dk_at dksJ0_init_2_2 9 rfl rfl)
theorem dJ0_init_2_57 : decode cJ0_init_2 57 = .ok (.putfield 24, 3) := dk_181 0 24 (dk_at dksJ0_init_2_2 10 rfl rfl)
theorem dJ0_init_2_60 : decode cJ0_init_2 60 = .ok (.return_, 1) := dk_177 (dk_at dksJ0_init_2_2 13 rfl rfl)
abbrev cJ0_init_3 : ByteArray := prog_32_method_2_code
def yJ0_init_3 : MethodName := ⟨RJ0, "<init>", "(Ljava/lang/String;)V"⟩
def dkwJ0_init_3_1 : List UInt8 := [182, 0, 27, 87, 42, 43, 181, 0, 31, 177]
abbrev dktJ0_init_3_1 : List UInt8 := dkwJ0_init_3_1 ++ []
def dkwJ0_init_3_0 : List UInt8 := [42, 183, 0, 1, 42, 42, 181, 0, 7, 42, 178, 0, 13, 181, 0, 17, 42, 178, 0, 20, 181, 0, 24, 42]
abbrev dktJ0_init_3_0 : List UInt8 := dkwJ0_init_3_0 ++ dktJ0_init_3_1
theorem dksJ0_init_3_0 : cJ0_init_3.data.toList.drop 0 = dktJ0_init_3_0 := by decide +kernel
theorem dksJ0_init_3_1 : cJ0_init_3.data.toList.drop 24 = dktJ0_init_3_1 := dk_seg dksJ0_init_3_0 24 rfl rfl
theorem dJ0_init_3_0 : decode cJ0_init_3 0 = .ok (.aload_n 0, 1) := dk_42 (dk_at dksJ0_init_3_0 0 rfl rfl)
theorem dJ0_init_3_1 : decode cJ0_init_3 1 = .ok (.invokespecial 1, 3) := dk_183 0 1 (dk_at dksJ0_init_3_0 1 rfl rfl)
theorem dJ0_init_3_4 : decode cJ0_init_3 4 = .ok (.aload_n 0, 1) := dk_42 (dk_at dksJ0_init_3_0 4 rfl rfl)
theorem dJ0_init_3_5 : decode cJ0_init_3 5 = .ok (.aload_n 0, 1) := dk_42 (dk_at dksJ0_init_3_0 5 rfl rfl)
theorem dJ0_init_3_6 : decode cJ0_init_3 6 = .ok (.putfield 7, 3) := dk_181 0 7 (dk_at dksJ0_init_3_0 6 rfl rfl)
theorem dJ0_init_3_9 : decode cJ0_init_3 9 = .ok (.aload_n 0, 1) := dk_42 (dk_at dksJ0_init_3_0 9 rfl rfl)
theorem dJ0_init_3_10 : decode cJ0_init_3 10 = .ok (.getstatic 13, 3) := dk_178 0 13 (dk_at dksJ0_init_3_0 10 rfl rfl)
theorem dJ0_init_3_13 : decode cJ0_init_3 13 = .ok (.putfield 17, 3) := dk_181 0 17 (dk_at dksJ0_init_3_0 13 rfl rfl)
theorem dJ0_init_3_16 : decode cJ0_init_3 16 = .ok (.aload_n 0, 1) := dk_42 (dk_at dksJ0_init_3_0 16 rfl rfl)
theorem dJ0_init_3_17 : decode cJ0_init_3 17 = .ok (.getstatic 20, 3) := dk_178 0 20 (dk_at dksJ0_init_3_0 17 rfl rfl)
theorem dJ0_init_3_20 : decode cJ0_init_3 20 = .ok (.putfield 24, 3) := dk_181 0 24 (dk_at dksJ0_init_3_0 20 rfl rfl)
theorem dJ0_init_3_23 : decode cJ0_init_3 23 = .ok (.aload_n 0, 1) := dk_42 (dk_at dksJ0_init_3_0 23 rfl rfl)
theorem dJ0_init_3_24 : decode cJ0_init_3 24 = .ok (.invokevirtual 27, 3) := dk_182 0 27 (dk_at dksJ0_init_3_1 0 rfl rfl)
theorem dJ0_init_3_27 : decode cJ0_init_3 27 = .ok (.pop, 1) := dk_87 (dk_at dksJ0_init_3_1 3 rfl rfl)
theorem dJ0_init_3_28 : decode cJ0_init_3 28 = .ok (.aload_n 0, 1) := dk_42 (dk_at dksJ0_init_3_1 4 rfl rfl)
theorem dJ0_init_3_29 : decode cJ0_init_3 29 = .ok (.aload_n 1, 1) := dk_43 (dk_at dksJ0_init_3_1 5 rfl rfl)
theorem dJ0_init_3_30 : decode cJ0_init_3 30 = .ok (.putfield 31, 3) := dk_181 0 31 (dk_at dksJ0_init_3_1 6 rfl rfl)
theorem dJ0_init_3_33 : decode cJ0_init_3 33 = .ok (.return_, 1) := dk_177 (dk_at dksJ0_init_3_1 9 rfl rfl)
theorem q166 : (Jvm.Cond.initialized "java/lang/Throwable") ∈ lw_all := lw_g (lw_at lw_m1 3 rfl) rfl
theorem q220 : (Jvm.Cond.declares ({ cls := "java/lang/Throwable", name := "<init>", desc := "()V" } : Jvm.MethodName)) ∈ lw_tbl := lw_at lw_m1 57 rfl
theorem q221 : (Jvm.Cond.declares ({ cls := "java/lang/Throwable", name := "<init>", desc := "(Ljava/lang/String;)V" } : Jvm.MethodName)) ∈ lw_tbl := lw_at lw_m1 58 rfl
theorem q225 : (Jvm.Cond.lays "java/lang/Throwable" "java/lang/Throwable" "cause" "Ljava/lang/Throwable;") ∈ lw_all := lw_g (lw_at lw_m1 62 rfl) rfl
theorem q227 : (Jvm.Cond.lays "java/lang/Throwable" "java/lang/Throwable" "stackTrace" "[Ljava/lang/StackTraceElement;") ∈ lw_all := lw_g (lw_at lw_m1 64 rfl) rfl
theorem q229 : (Jvm.Cond.lays "java/lang/Throwable" "java/lang/Throwable" "suppressedExceptions" "Ljava/util/List;") ∈ lw_all := lw_g (lw_at lw_m1 66 rfl) rfl
theorem q231 : (Jvm.Cond.lays "java/lang/Throwable" "java/lang/Throwable" "detailMessage" "Ljava/lang/String;") ∈ lw_all := lw_g (lw_at lw_m1 68 rfl) rfl
theorem q233 : (Jvm.Cond.lays "java/lang/Throwable" "java/lang/Throwable" "backtrace" "Ljava/lang/Object;") ∈ lw_all := lw_g (lw_at lw_m1 70 rfl) rfl
theorem q234 : (Jvm.Cond.fieldLink "java/lang/Throwable" (198 : Nat) "java/lang/Throwable" "backtrace" "Ljava/lang/Object;") ∈ lw_all := lw_g (lw_at lw_m1 71 rfl) rfl
theorem q235 : (Jvm.Cond.superclass "java/lang/Throwable" "java/lang/Object") ∈ lw_all := lw_g (lw_at lw_m1 72 rfl) rfl
theorem q236 : (Jvm.Cond.instanceMethod ({ cls := "java/lang/Throwable", name := "<init>", desc := "()V" } : Jvm.MethodName)) ∈ lw_all := lw_g (lw_at lw_m1 73 rfl) rfl
theorem q237 : (Jvm.Cond.code ({ cls := "java/lang/Throwable", name := "<init>", desc := "()V" } : Jvm.MethodName) prog_32_method_1_code (1 : Nat) (Option.none : Option Jvm.ClassFile.FieldType)) ∈ lw_all := lw_g (lw_at lw_m1 74 rfl) rfl
theorem q238 : (Jvm.Cond.methodLink "java/lang/Throwable" (1 : Nat) ({ cls := "java/lang/Object", name := "<init>", desc := "()V" } : Jvm.MethodName)) ∈ lw_all := lw_g (lw_at lw_m1 75 rfl) rfl
theorem q239 : (Jvm.Cond.fieldLink "java/lang/Throwable" (13 : Nat) "java/lang/Throwable" "UNASSIGNED_STACK" "[Ljava/lang/StackTraceElement;") ∈ lw_all := lw_g (lw_at lw_m1 76 rfl) rfl
theorem q240 : (Jvm.Cond.laysStatic "java/lang/Throwable" "UNASSIGNED_STACK" "[Ljava/lang/StackTraceElement;") ∈ lw_tbl := lw_at lw_m1 77 rfl
theorem q241 : (Jvm.Cond.fieldLink "java/lang/Throwable" (20 : Nat) "java/lang/Throwable" "SUPPRESSED_SENTINEL" "Ljava/util/List;") ∈ lw_all := lw_g (lw_at lw_m1 78 rfl) rfl
theorem q242 : (Jvm.Cond.laysStatic "java/lang/Throwable" "SUPPRESSED_SENTINEL" "Ljava/util/List;") ∈ lw_tbl := lw_at lw_m1 79 rfl
theorem q243 : (Jvm.Cond.methodLink "java/lang/Throwable" (27 : Nat) ({ cls := "java/lang/Throwable", name := "fillInStackTrace", desc := "()Ljava/lang/Throwable;" } : Jvm.MethodName)) ∈ lw_all := lw_g (lw_at lw_m1 80 rfl) rfl
theorem q244 : (Jvm.Cond.instanceMethod ({ cls := "java/lang/Throwable", name := "fillInStackTrace", desc := "()Ljava/lang/Throwable;" } : Jvm.MethodName)) ∈ lw_all := lw_g (lw_at lw_m1 81 rfl) rfl
theorem q245 : (Jvm.Cond.sameMethod "java/lang/Throwable" "java/lang/Throwable" "fillInStackTrace" "()Ljava/lang/Throwable;") ∈ lw_all := lw_g (lw_at lw_m1 82 rfl) rfl
theorem q249 : (Jvm.Cond.codeSync ({ cls := "java/lang/Throwable", name := "fillInStackTrace", desc := "()Ljava/lang/Throwable;" } : Jvm.MethodName) prog_32_method_18_code (1 : Nat) (Option.some (Jvm.ClassFile.FieldType.object "java/lang/Throwable"))) ∈ lw_all := lw_g (lw_at lw_m1 86 rfl) rfl
theorem q250 : (Jvm.Cond.methodLink "java/lang/Throwable" (202 : Nat) ({ cls := "java/lang/Throwable", name := "fillInStackTrace", desc := "(I)Ljava/lang/Throwable;" } : Jvm.MethodName)) ∈ lw_all := lw_g (lw_at lw_m1 87 rfl) rfl
theorem q251 : (Jvm.Cond.privateMethod ({ cls := "java/lang/Throwable", name := "fillInStackTrace", desc := "(I)Ljava/lang/Throwable;" } : Jvm.MethodName)) ∈ lw_tbl := lw_at lw_m1 88 rfl
theorem q252 : (Jvm.Cond.instanceMethod ({ cls := "java/lang/Throwable", name := "fillInStackTrace", desc := "(I)Ljava/lang/Throwable;" } : Jvm.MethodName)) ∈ lw_all := lw_g (lw_at lw_m1 89 rfl) rfl
theorem q253 : (Jvm.Cond.instantiable "java/lang/Throwable" (6 : Nat)) ∈ lw_all := lw_g (lw_at lw_m1 90 rfl) rfl
theorem q254 : (Jvm.Cond.native ({ cls := "java/lang/Throwable", name := "fillInStackTrace", desc := "(I)Ljava/lang/Throwable;" } : Jvm.MethodName)) ∈ lw_all := lw_g (lw_at lw_m1 91 rfl) rfl
theorem q262 : (Jvm.Cond.instanceMethod ({ cls := "java/lang/Throwable", name := "<init>", desc := "(Ljava/lang/String;Ljava/lang/Throwable;ZZ)V" } : Jvm.MethodName)) ∈ lw_all := lw_g (lw_at lw_m1 99 rfl) rfl
theorem q263 : (Jvm.Cond.code ({ cls := "java/lang/Throwable", name := "<init>", desc := "(Ljava/lang/String;Ljava/lang/Throwable;ZZ)V" } : Jvm.MethodName) prog_32_method_5_code (5 : Nat) (Option.none : Option Jvm.ClassFile.FieldType)) ∈ lw_all := lw_g (lw_at lw_m1 100 rfl) rfl
theorem q268 : (Jvm.Cond.fieldLink "java/lang/Throwable" (198 : Nat) "java/lang/Throwable" "backtrace" "Ljava/lang/Object;") ∈ lw_all := lw_g (lw_at lw_m1 105 rfl) rfl
theorem q269 : (Jvm.Cond.fieldLink "java/lang/Throwable" (31 : Nat) "java/lang/Throwable" "detailMessage" "Ljava/lang/String;") ∈ lw_all := lw_g (lw_at lw_m1 106 rfl) rfl
theorem q270 : (Jvm.Cond.fieldLink "java/lang/Throwable" (7 : Nat) "java/lang/Throwable" "cause" "Ljava/lang/Throwable;") ∈ lw_all := lw_g (lw_at lw_m1 107 rfl) rfl
theorem q271 : (Jvm.Cond.fieldLink "java/lang/Throwable" (17 : Nat) "java/lang/Throwable" "stackTrace" "[Ljava/lang/StackTraceElement;") ∈ lw_all := lw_g (lw_at lw_m1 108 rfl) rfl
theorem q272 : (Jvm.Cond.fieldLink "java/lang/Throwable" (24 : Nat) "java/lang/Throwable" "suppressedExceptions" "Ljava/util/List;") ∈ lw_all := lw_g (lw_at lw_m1 109 rfl) rfl
theorem q277 : (Jvm.Cond.soleField "java/lang/Throwable" "backtrace") ∈ lw_all := lw_g (lw_at lw_m1 114 rfl) rfl
theorem q278 : (Jvm.Cond.soleField "java/lang/Throwable" "detailMessage") ∈ lw_all := lw_g (lw_at lw_m1 115 rfl) rfl
theorem q279 : (Jvm.Cond.soleField "java/lang/Throwable" "cause") ∈ lw_all := lw_g (lw_at lw_m1 116 rfl) rfl
theorem q280 : (Jvm.Cond.soleField "java/lang/Throwable" "stackTrace") ∈ lw_all := lw_g (lw_at lw_m1 117 rfl) rfl
theorem q282 : (Jvm.Cond.soleField "java/lang/Throwable" "depth") ∈ lw_all := lw_g (lw_at lw_m1 119 rfl) rfl
theorem q283 : (Jvm.Cond.soleField "java/lang/Throwable" "suppressedExceptions") ∈ lw_all := lw_g (lw_at lw_m1 120 rfl) rfl
theorem q619 : (Jvm.Cond.instanceMethod ({ cls := "java/lang/Throwable", name := "<init>", desc := "(Ljava/lang/String;)V" } : Jvm.MethodName)) ∈ lw_all := lw_g (lw_at lw_m2 216 rfl) rfl
theorem q620 : (Jvm.Cond.code ({ cls := "java/lang/Throwable", name := "<init>", desc := "(Ljava/lang/String;)V" } : Jvm.MethodName) prog_32_method_2_code (2 : Nat) (Option.none : Option Jvm.ClassFile.FieldType)) ∈ lw_all := lw_g (lw_at lw_m2 217 rfl) rfl
theorem q2333 : (Jvm.Cond.sameMethod "java/lang/Throwable" "java/lang/Throwable" "fillInStackTrace" "(I)Ljava/lang/Throwable;") ∈ lw_all := lw_g (lw_at lw_m10 10 rfl) rfl
theorem in_J0 : ∀ w ∈ wsJ00, w ∈ lw_all := lw_in wsJ00 [225, 227, 229, 231, 233] (by decide +kernel) (by decide +kernel)
/-! java/lang/Exception -/
set_option maxRecDepth 100000
def RJ1 : String := "java/lang/Exception"
abbrev cJ1_init : ByteArray := prog_21_method_5_code
def yJ1_init : MethodName := ⟨RJ1, "<init>", "(Ljava/lang/String;Ljava/lang/Throwable;ZZ)V"⟩
def dkwJ1_init_0 : List UInt8 := [42, 43, 44, 29, 21, 4, 183, 0, 16, 177]
abbrev dktJ1_init_0 : List UInt8 := dkwJ1_init_0 ++ []
theorem dksJ1_init_0 : cJ1_init.data.toList.drop 0 = dktJ1_init_0 := by decide +kernel
theorem dJ1_init_0 : decode cJ1_init 0 = .ok (.aload_n 0, 1) := dk_42 (dk_at dksJ1_init_0 0 rfl rfl)
theorem dJ1_init_1 : decode cJ1_init 1 = .ok (.aload_n 1, 1) := dk_43 (dk_at dksJ1_init_0 1 rfl rfl)
theorem dJ1_init_2 : decode cJ1_init 2 = .ok (.aload_n 2, 1) := dk_44 (dk_at dksJ1_init_0 2 rfl rfl)
theorem dJ1_init_3 : decode cJ1_init 3 = .ok (.iload_n 3, 1) := dk_29 (dk_at dksJ1_init_0 3 rfl rfl)
theorem dJ1_init_4 : decode cJ1_init 4 = .ok (.iload 4, 2) := dk_21 4 (dk_at dksJ1_init_0 4 rfl rfl)
theorem dJ1_init_6 : decode cJ1_init 6 = .ok (.invokespecial 16, 3) := dk_183 0 16 (dk_at dksJ1_init_0 6 rfl rfl)
theorem dJ1_init_9 : decode cJ1_init 9 = .ok (.return_, 1) := dk_177 (dk_at dksJ1_init_0 9 rfl rfl)
abbrev cJ1_init_2 : ByteArray := prog_21_method_2_code
def yJ1_init_2 : MethodName := ⟨RJ1, "<init>", "(Ljava/lang/String;)V"⟩
def dkwJ1_init_2_0 : List UInt8 := [42, 43, 183, 0, 7, 177]
abbrev dktJ1_init_2_0 : List UInt8 := dkwJ1_init_2_0 ++ []
theorem dksJ1_init_2_0 : cJ1_init_2.data.toList.drop 0 = dktJ1_init_2_0 := by decide +kernel
theorem dJ1_init_2_0 : decode cJ1_init_2 0 = .ok (.aload_n 0, 1) := dk_42 (dk_at dksJ1_init_2_0 0 rfl rfl)
theorem dJ1_init_2_1 : decode cJ1_init_2 1 = .ok (.aload_n 1, 1) := dk_43 (dk_at dksJ1_init_2_0 1 rfl rfl)
theorem dJ1_init_2_2 : decode cJ1_init_2 2 = .ok (.invokespecial 7, 3) := dk_183 0 7 (dk_at dksJ1_init_2_0 2 rfl rfl)
theorem dJ1_init_2_5 : decode cJ1_init_2 5 = .ok (.return_, 1) := dk_177 (dk_at dksJ1_init_2_0 5 rfl rfl)
theorem q167 : (Jvm.Cond.initialized "java/lang/Exception") ∈ lw_all := lw_g (lw_at lw_m1 4 rfl) rfl
theorem q218 : (Jvm.Cond.declares ({ cls := "java/lang/Exception", name := "<init>", desc := "()V" } : Jvm.MethodName)) ∈ lw_tbl := lw_at lw_m1 55 rfl
theorem q219 : (Jvm.Cond.declares ({ cls := "java/lang/Exception", name := "<init>", desc := "(Ljava/lang/String;)V" } : Jvm.MethodName)) ∈ lw_tbl := lw_at lw_m1 56 rfl
theorem q259 : (Jvm.Cond.instanceMethod ({ cls := "java/lang/Exception", name := "<init>", desc := "(Ljava/lang/String;Ljava/lang/Throwable;ZZ)V" } : Jvm.MethodName)) ∈ lw_all := lw_g (lw_at lw_m1 96 rfl) rfl
theorem q260 : (Jvm.Cond.code ({ cls := "java/lang/Exception", name := "<init>", desc := "(Ljava/lang/String;Ljava/lang/Throwable;ZZ)V" } : Jvm.MethodName) prog_21_method_5_code (5 : Nat) (Option.none : Option Jvm.ClassFile.FieldType)) ∈ lw_all := lw_g (lw_at lw_m1 97 rfl) rfl
theorem q261 : (Jvm.Cond.methodLink "java/lang/Exception" (16 : Nat) ({ cls := "java/lang/Throwable", name := "<init>", desc := "(Ljava/lang/String;Ljava/lang/Throwable;ZZ)V" } : Jvm.MethodName)) ∈ lw_all := lw_g (lw_at lw_m1 98 rfl) rfl
theorem q616 : (Jvm.Cond.instanceMethod ({ cls := "java/lang/Exception", name := "<init>", desc := "(Ljava/lang/String;)V" } : Jvm.MethodName)) ∈ lw_all := lw_g (lw_at lw_m2 213 rfl) rfl
theorem q617 : (Jvm.Cond.code ({ cls := "java/lang/Exception", name := "<init>", desc := "(Ljava/lang/String;)V" } : Jvm.MethodName) prog_21_method_2_code (2 : Nat) (Option.none : Option Jvm.ClassFile.FieldType)) ∈ lw_all := lw_g (lw_at lw_m2 214 rfl) rfl
theorem q618 : (Jvm.Cond.methodLink "java/lang/Exception" (7 : Nat) ({ cls := "java/lang/Throwable", name := "<init>", desc := "(Ljava/lang/String;)V" } : Jvm.MethodName)) ∈ lw_all := lw_g (lw_at lw_m2 215 rfl) rfl
/-! java/lang/RuntimeException -/
set_option maxRecDepth 100000
def RJ2 : String := "java/lang/RuntimeException"
abbrev cJ2_init : ByteArray := prog_27_method_2_code
def yJ2_init : MethodName := ⟨RJ2, "<init>", "(Ljava/lang/String;)V"⟩
def dkwJ2_init_0 : List UInt8 := [42, 43, 183, 0, 7, 177]
abbrev dktJ2_init_0 : List UInt8 := dkwJ2_init_0 ++ []
theorem dksJ2_init_0 : cJ2_init.data.toList.drop 0 = dktJ2_init_0 := by decide +kernel
theorem dJ2_init_0 : decode cJ2_init 0 = .ok (.aload_n 0, 1) := dk_42 (dk_at dksJ2_init_0 0 rfl rfl)
theorem dJ2_init_1 : decode cJ2_init 1 = .ok (.aload_n 1, 1) := dk_43 (dk_at dksJ2_init_0 1 rfl rfl)
theorem dJ2_init_2 : decode cJ2_init 2 = .ok (.invokespecial 7, 3) := dk_183 0 7 (dk_at dksJ2_init_0 2 rfl rfl)
theorem dJ2_init_5 : decode cJ2_init 5 = .ok (.return_, 1) := dk_177 (dk_at dksJ2_init_0 5 rfl rfl)
theorem q176 : (Jvm.Cond.initialized "java/lang/RuntimeException") ∈ lw_all := lw_g (lw_at lw_m1 13 rfl) rfl
theorem q613 : (Jvm.Cond.instanceMethod ({ cls := "java/lang/RuntimeException", name := "<init>", desc := "(Ljava/lang/String;)V" } : Jvm.MethodName)) ∈ lw_all := lw_g (lw_at lw_m2 210 rfl) rfl
theorem q614 : (Jvm.Cond.code ({ cls := "java/lang/RuntimeException", name := "<init>", desc := "(Ljava/lang/String;)V" } : Jvm.MethodName) prog_27_method_2_code (2 : Nat) (Option.none : Option Jvm.ClassFile.FieldType)) ∈ lw_all := lw_g (lw_at lw_m2 211 rfl) rfl
theorem q615 : (Jvm.Cond.methodLink "java/lang/RuntimeException" (7 : Nat) ({ cls := "java/lang/Exception", name := "<init>", desc := "(Ljava/lang/String;)V" } : Jvm.MethodName)) ∈ lw_all := lw_g (lw_at lw_m2 212 rfl) rfl
theorem q629 : (Jvm.Cond.declares ({ cls := "java/lang/RuntimeException", name := "<init>", desc := "()V" } : Jvm.MethodName)) ∈ lw_tbl := lw_at lw_m2 226 rfl
theorem q630 : (Jvm.Cond.declares ({ cls := "java/lang/RuntimeException", name := "<init>", desc := "(Ljava/lang/String;)V" } : Jvm.MethodName)) ∈ lw_tbl := lw_at lw_m2 227 rfl
/-! java/lang/NegativeArraySizeException -/
set_option maxRecDepth 100000
def RJ3 : String := "java/lang/NegativeArraySizeException"
def TJ3 : u_T := fun k => match k with
  | 0 => ("java/lang/Throwable", "backtrace", "Ljava/lang/Object;", false)
  | 1 => ("java/lang/Throwable", "detailMessage", "Ljava/lang/String;", false)
  | 2 => ("java/lang/Throwable", "cause", "Ljava/lang/Throwable;", false)
  | 3 => ("java/lang/Throwable", "stackTrace", "[Ljava/lang/StackTraceElement;", false)
  | 4 => ("java/lang/Throwable", "depth", "I", false)
  | _ => ("java/lang/Throwable", "suppressedExceptions", "Ljava/util/List;", false)
def tyJ3 : Nat → FieldType := fun k => match k with
  | 0 => .object "java/lang/Object"
  | 1 => .object "java/lang/String"
  | 2 => .object "java/lang/Throwable"
  | 3 => .array (.object "java/lang/StackTraceElement")
  | 4 => .int
  | _ => .object "java/util/List"
abbrev wsJ30 : List Cond := u_ws RJ3 TJ3 6
theorem nmJ3 : ∀ a, a < 6 → ∀ b, b < 6 → a ≠ b → (TJ3 a).2.1 ≠ (TJ3 b).2.1 := by decide +kernel
theorem tyJ3_ok : ∀ k, k < 6 → parseFieldDescriptor (TJ3 k).2.2.1 = some (tyJ3 k) := by decide +kernel
abbrev cJ3_init : ByteArray := prog_26_method_2_code
def yJ3_init : MethodName := ⟨RJ3, "<init>", "(Ljava/lang/String;)V"⟩
def dkwJ3_init_0 : List UInt8 := [42, 43, 183, 0, 7, 177]
abbrev dktJ3_init_0 : List UInt8 := dkwJ3_init_0 ++ []
theorem dksJ3_init_0 : cJ3_init.data.toList.drop 0 = dktJ3_init_0 := by decide +kernel
theorem dJ3_init_0 : decode cJ3_init 0 = .ok (.aload_n 0, 1) := dk_42 (dk_at dksJ3_init_0 0 rfl rfl)
theorem dJ3_init_1 : decode cJ3_init 1 = .ok (.aload_n 1, 1) := dk_43 (dk_at dksJ3_init_0 1 rfl rfl)
theorem dJ3_init_2 : decode cJ3_init 2 = .ok (.invokespecial 7, 3) := dk_183 0 7 (dk_at dksJ3_init_0 2 rfl rfl)
theorem dJ3_init_5 : decode cJ3_init 5 = .ok (.return_, 1) := dk_177 (dk_at dksJ3_init_0 5 rfl rfl)
theorem q177 : (Jvm.Cond.initialized "java/lang/NegativeArraySizeException") ∈ lw_all := lw_g (lw_at lw_m1 14 rfl) rfl
theorem q248 : (Jvm.Cond.selects "java/lang/NegativeArraySizeException" ({ cls := "java/lang/Throwable", name := "fillInStackTrace", desc := "()Ljava/lang/Throwable;" } : Jvm.MethodName) ({ cls := "java/lang/Throwable", name := "fillInStackTrace", desc := "()Ljava/lang/Throwable;" } : Jvm.MethodName)) ∈ lw_all := lw_g (lw_at lw_m1 85 rfl) rfl
theorem q609 : (Jvm.Cond.instantiable "java/lang/NegativeArraySizeException" (6 : Nat)) ∈ lw_all := lw_g (lw_at lw_m2 206 rfl) rfl
theorem q610 : (Jvm.Cond.instanceMethod ({ cls := "java/lang/NegativeArraySizeException", name := "<init>", desc := "(Ljava/lang/String;)V" } : Jvm.MethodName)) ∈ lw_all := lw_g (lw_at lw_m2 207 rfl) rfl
theorem q611 : (Jvm.Cond.code ({ cls := "java/lang/NegativeArraySizeException", name := "<init>", desc := "(Ljava/lang/String;)V" } : Jvm.MethodName) prog_26_method_2_code (2 : Nat) (Option.none : Option Jvm.ClassFile.FieldType)) ∈ lw_all := lw_g (lw_at lw_m2 208 rfl) rfl
theorem q612 : (Jvm.Cond.methodLink "java/lang/NegativeArraySizeException" (7 : Nat) ({ cls := "java/lang/RuntimeException", name := "<init>", desc := "(Ljava/lang/String;)V" } : Jvm.MethodName)) ∈ lw_all := lw_g (lw_at lw_m2 209 rfl) rfl
theorem q621 : (Jvm.Cond.lays "java/lang/NegativeArraySizeException" "java/lang/Throwable" "backtrace" "Ljava/lang/Object;") ∈ lw_all := lw_g (lw_at lw_m2 218 rfl) rfl
theorem q622 : (Jvm.Cond.lays "java/lang/NegativeArraySizeException" "java/lang/Throwable" "detailMessage" "Ljava/lang/String;") ∈ lw_all := lw_g (lw_at lw_m2 219 rfl) rfl
theorem q623 : (Jvm.Cond.lays "java/lang/NegativeArraySizeException" "java/lang/Throwable" "cause" "Ljava/lang/Throwable;") ∈ lw_all := lw_g (lw_at lw_m2 220 rfl) rfl
theorem q624 : (Jvm.Cond.lays "java/lang/NegativeArraySizeException" "java/lang/Throwable" "stackTrace" "[Ljava/lang/StackTraceElement;") ∈ lw_all := lw_g (lw_at lw_m2 221 rfl) rfl
theorem q625 : (Jvm.Cond.lays "java/lang/NegativeArraySizeException" "java/lang/Throwable" "depth" "I") ∈ lw_all := lw_g (lw_at lw_m2 222 rfl) rfl
theorem q626 : (Jvm.Cond.lays "java/lang/NegativeArraySizeException" "java/lang/Throwable" "suppressedExceptions" "Ljava/util/List;") ∈ lw_all := lw_g (lw_at lw_m2 223 rfl) rfl
theorem q627 : (Jvm.Cond.superclass "java/lang/NegativeArraySizeException" "java/lang/RuntimeException") ∈ lw_all := lw_g (lw_at lw_m2 224 rfl) rfl
theorem q628 : (Jvm.Cond.castable "java/lang/NegativeArraySizeException" "java/lang/NegativeArraySizeException") ∈ lw_tbl := lw_at lw_m2 225 rfl
theorem q631 : (Jvm.Cond.selects "java/lang/NegativeArraySizeException" ({ cls := "java/lang/Throwable", name := "fillInStackTrace", desc := "(I)Ljava/lang/Throwable;" } : Jvm.MethodName) ({ cls := "java/lang/Throwable", name := "fillInStackTrace", desc := "(I)Ljava/lang/Throwable;" } : Jvm.MethodName)) ∈ lw_all := lw_g (lw_at lw_m2 228 rfl) rfl
theorem in_J3 : ∀ w ∈ wsJ30, w ∈ lw_all := lw_in wsJ30 [621, 622, 623, 624, 625, 626] (by decide +kernel) (by decide +kernel)
/-! java/lang/String -/
set_option maxRecDepth 100000
def RJ4 : String := "java/lang/String"
def TJ4 : u_T := fun k => match k with
  | 0 => ("java/lang/String", "value", "[B", true)
  | _ => ("java/lang/String", "coder", "B", true)
def tyJ4 : Nat → FieldType := fun k => match k with
  | 0 => .array .byte
  | _ => .byte
abbrev wsJ40 : List Cond := u_ws RJ4 TJ4 2
theorem nmJ4 : ∀ a, a < 2 → ∀ b, b < 2 → a ≠ b → (TJ4 a).2.1 ≠ (TJ4 b).2.1 := by decide +kernel
theorem tyJ4_ok : ∀ k, k < 2 → parseFieldDescriptor (TJ4 k).2.2.1 = some (tyJ4 k) := by decide +kernel
abbrev cJ4_length : ByteArray := prog_28_method_54_code
def yJ4_length : MethodName := ⟨RJ4, "length", "()I"⟩
def dkwJ4_length_0 : List UInt8 := [42, 180, 0, 9, 190, 42, 182, 1, 79, 122, 172]
abbrev dktJ4_length_0 : List UInt8 := dkwJ4_length_0 ++ []
theorem dksJ4_length_0 : cJ4_length.data.toList.drop 0 = dktJ4_length_0 := by decide +kernel
theorem dJ4_length_0 : decode cJ4_length 0 = .ok (.aload_n 0, 1) := dk_42 (dk_at dksJ4_length_0 0 rfl rfl)
theorem dJ4_length_1 : decode cJ4_length 1 = .ok (.getfield 9, 3) := dk_180 0 9 (dk_at dksJ4_length_0 1 rfl rfl)
theorem dJ4_length_4 : decode cJ4_length 4 = .ok (.arraylength, 1) := dk_190 (dk_at dksJ4_length_0 4 rfl rfl)
theorem dJ4_length_5 : decode cJ4_length 5 = .ok (.aload_n 0, 1) := dk_42 (dk_at dksJ4_length_0 5 rfl rfl)
theorem dJ4_length_6 : decode cJ4_length 6 = .ok (.invokevirtual 335, 3) := dk_182 1 79 (dk_at dksJ4_length_0 6 rfl rfl)
theorem dJ4_length_9 : decode cJ4_length 9 = .ok (.ishr, 1) := dk_122 (dk_at dksJ4_length_0 9 rfl rfl)
theorem dJ4_length_10 : decode cJ4_length 10 = .ok (.ireturn, 1) := dk_172 (dk_at dksJ4_length_0 10 rfl rfl)
abbrev cJ4_coder : ByteArray := prog_28_method_152_code
def yJ4_coder : MethodName := ⟨RJ4, "coder", "()B"⟩
def dkwJ4_coder_0 : List UInt8 := [178, 0, 38, 153, 0, 10, 42, 180, 0, 15, 167, 0, 4, 4, 172]
abbrev dktJ4_coder_0 : List UInt8 := dkwJ4_coder_0 ++ []
theorem dksJ4_coder_0 : cJ4_coder.data.toList.drop 0 = dktJ4_coder_0 := by decide +kernel
theorem dJ4_coder_0 : decode cJ4_coder 0 = .ok (.getstatic 38, 3) := dk_178 0 38 (dk_at dksJ4_coder_0 0 rfl rfl)
theorem dJ4_coder_3 : decode cJ4_coder 3 = .ok (.ifCond .eq 10, 3) := dk_153 0 10 (dk_at dksJ4_coder_0 3 rfl rfl)
theorem dJ4_coder_6 : decode cJ4_coder 6 = .ok (.aload_n 0, 1) := dk_42 (dk_at dksJ4_coder_0 6 rfl rfl)
theorem dJ4_coder_7 : decode cJ4_coder 7 = .ok (.getfield 15, 3) := dk_180 0 15 (dk_at dksJ4_coder_0 7 rfl rfl)
theorem dJ4_coder_10 : decode cJ4_coder 10 = .ok (.goto 4, 3) := dk_167 0 4 (dk_at dksJ4_coder_0 10 rfl rfl)
theorem dJ4_coder_13 : decode cJ4_coder 13 = .ok (.iconst 1, 1) := dk_4 (dk_at dksJ4_coder_0 13 rfl rfl)
theorem dJ4_coder_14 : decode cJ4_coder 14 = .ok (.ireturn, 1) := dk_172 (dk_at dksJ4_coder_0 14 rfl rfl)
abbrev cJ4_charAt : ByteArray := prog_28_method_56_code
def yJ4_charAt : MethodName := ⟨RJ4, "charAt", "(I)C"⟩
def dkwJ4_charAt_1 : List UInt8 := [172]
abbrev dktJ4_charAt_1 : List UInt8 := dkwJ4_charAt_1 ++ []
def dkwJ4_charAt_0 : List UInt8 := [42, 182, 1, 236, 153, 0, 12, 42, 180, 0, 9, 27, 184, 1, 239, 172, 42, 180, 0, 9, 27, 184, 1, 242]
abbrev dktJ4_charAt_0 : List UInt8 := dkwJ4_charAt_0 ++ dktJ4_charAt_1
theorem dksJ4_charAt_0 : cJ4_charAt.data.toList.drop 0 = dktJ4_charAt_0 := by decide +kernel
theorem dksJ4_charAt_1 : cJ4_charAt.data.toList.drop 24 = dktJ4_charAt_1 := dk_seg dksJ4_charAt_0 24 rfl rfl
theorem dJ4_charAt_0 : decode cJ4_charAt 0 = .ok (.aload_n 0, 1) := dk_42 (dk_at dksJ4_charAt_0 0 rfl rfl)
theorem dJ4_charAt_1 : decode cJ4_charAt 1 = .ok (.invokevirtual 492, 3) := dk_182 1 236 (dk_at dksJ4_charAt_0 1 rfl rfl)
theorem dJ4_charAt_4 : decode cJ4_charAt 4 = .ok (.ifCond .eq 12, 3) := dk_153 0 12 (dk_at dksJ4_charAt_0 4 rfl rfl)
theorem dJ4_charAt_7 : decode cJ4_charAt 7 = .ok (.aload_n 0, 1) := dk_42 (dk_at dksJ4_charAt_0 7 rfl rfl)
theorem dJ4_charAt_8 : decode cJ4_charAt 8 = .ok (.getfield 9, 3) := dk_180 0 9 (dk_at dksJ4_charAt_0 8 rfl rfl)
theorem dJ4_charAt_11 : decode cJ4_charAt 11 = .ok (.iload_n 1, 1) := dk_27 (dk_at dksJ4_charAt_0 11 rfl rfl)
theorem dJ4_charAt_12 : decode cJ4_charAt 12 = .ok (.invokestatic 495, 3) := dk_184 1 239 (dk_at dksJ4_charAt_0 12 rfl rfl)
theorem dJ4_charAt_15 : decode cJ4_charAt 15 = .ok (.ireturn, 1) := dk_172 (dk_at dksJ4_charAt_0 15 rfl rfl)
theorem dJ4_charAt_16 : decode cJ4_charAt 16 = .ok (.aload_n 0, 1) := dk_42 (dk_at dksJ4_charAt_0 16 rfl rfl)
theorem dJ4_charAt_17 : decode cJ4_charAt 17 = .ok (.getfield 9, 3) := dk_180 0 9 (dk_at dksJ4_charAt_0 17 rfl rfl)
theorem dJ4_charAt_20 : decode cJ4_charAt 20 = .ok (.iload_n 1, 1) := dk_27 (dk_at dksJ4_charAt_0 20 rfl rfl)
theorem dJ4_charAt_21 : decode cJ4_charAt 21 = .ok (.invokestatic 498, 3) := dk_184 1 242 (dk_at dksJ4_charAt_0 21 rfl rfl)
theorem dJ4_charAt_24 : decode cJ4_charAt 24 = .ok (.ireturn, 1) := dk_172 (dk_at dksJ4_charAt_1 0 rfl rfl)
abbrev cJ4_isLatin1 : ByteArray := prog_28_method_154_code
def yJ4_isLatin1 : MethodName := ⟨RJ4, "isLatin1", "()Z"⟩
def dkwJ4_isLatin1_0 : List UInt8 := [178, 0, 38, 153, 0, 14, 42, 180, 0, 15, 154, 0, 7, 4, 167, 0, 4, 3, 172]
abbrev dktJ4_isLatin1_0 : List UInt8 := dkwJ4_isLatin1_0 ++ []
theorem dksJ4_isLatin1_0 : cJ4_isLatin1.data.toList.drop 0 = dktJ4_isLatin1_0 := by decide +kernel
theorem dJ4_isLatin1_0 : decode cJ4_isLatin1 0 = .ok (.getstatic 38, 3) := dk_178 0 38 (dk_at dksJ4_isLatin1_0 0 rfl rfl)
theorem dJ4_isLatin1_3 : decode cJ4_isLatin1 3 = .ok (.ifCond .eq 14, 3) := dk_153 0 14 (dk_at dksJ4_isLatin1_0 3 rfl rfl)
theorem dJ4_isLatin1_6 : decode cJ4_isLatin1 6 = .ok (.aload_n 0, 1) := dk_42 (dk_at dksJ4_isLatin1_0 6 rfl rfl)
theorem dJ4_isLatin1_7 : decode cJ4_isLatin1 7 = .ok (.getfield 15, 3) := dk_180 0 15 (dk_at dksJ4_isLatin1_0 7 rfl rfl)
theorem dJ4_isLatin1_10 : decode cJ4_isLatin1 10 = .ok (.ifCond .ne 7, 3) := dk_154 0 7 (dk_at dksJ4_isLatin1_0 10 rfl rfl)
theorem dJ4_isLatin1_13 : decode cJ4_isLatin1 13 = .ok (.iconst 1, 1) := dk_4 (dk_at dksJ4_isLatin1_0 13 rfl rfl)
theorem dJ4_isLatin1_14 : decode cJ4_isLatin1 14 = .ok (.goto 4, 3) := dk_167 0 4 (dk_at dksJ4_isLatin1_0 14 rfl rfl)
theorem dJ4_isLatin1_17 : decode cJ4_isLatin1 17 = .ok (.iconst 0, 1) := dk_3 (dk_at dksJ4_isLatin1_0 17 rfl rfl)
theorem dJ4_isLatin1_18 : decode cJ4_isLatin1 18 = .ok (.ireturn, 1) := dk_172 (dk_at dksJ4_isLatin1_0 18 rfl rfl)
abbrev cJ4_checkIndex : ByteArray := prog_28_method_155_code
def yJ4_checkIndex : MethodName := ⟨RJ4, "checkIndex", "(II)V"⟩
def dkwJ4_checkIndex_0 : List UInt8 := [26, 27, 178, 4, 29, 184, 4, 35, 87, 177]
abbrev dktJ4_checkIndex_0 : List UInt8 := dkwJ4_checkIndex_0 ++ []
theorem dksJ4_checkIndex_0 : cJ4_checkIndex.data.toList.drop 0 = dktJ4_checkIndex_0 := by decide +kernel
theorem dJ4_checkIndex_0 : decode cJ4_checkIndex 0 = .ok (.iload_n 0, 1) := dk_26 (dk_at dksJ4_checkIndex_0 0 rfl rfl)
theorem dJ4_checkIndex_1 : decode cJ4_checkIndex 1 = .ok (.iload_n 1, 1) := dk_27 (dk_at dksJ4_checkIndex_0 1 rfl rfl)
theorem dJ4_checkIndex_2 : decode cJ4_checkIndex 2 = .ok (.getstatic 1053, 3) := dk_178 4 29 (dk_at dksJ4_checkIndex_0 2 rfl rfl)
theorem dJ4_checkIndex_5 : decode cJ4_checkIndex 5 = .ok (.invokestatic 1059, 3) := dk_184 4 35 (dk_at dksJ4_checkIndex_0 5 rfl rfl)
theorem dJ4_checkIndex_8 : decode cJ4_checkIndex 8 = .ok (.pop, 1) := dk_87 (dk_at dksJ4_checkIndex_0 8 rfl rfl)
theorem dJ4_checkIndex_9 : decode cJ4_checkIndex 9 = .ok (.return_, 1) := dk_177 (dk_at dksJ4_checkIndex_0 9 rfl rfl)
theorem q178 : (Jvm.Cond.initialized "java/lang/String") ∈ lw_all := lw_g (lw_at lw_m1 15 rfl) rfl
theorem q632 : (Jvm.Cond.instantiable "java/lang/String" (4 : Nat)) ∈ lw_all := lw_g (lw_at lw_m2 229 rfl) rfl
theorem q633 : (Jvm.Cond.laysFinal "java/lang/String" "java/lang/String" "value" "[B") ∈ lw_all := lw_g (lw_at lw_m2 230 rfl) rfl
theorem q634 : (Jvm.Cond.soleField "java/lang/String" "value") ∈ lw_all := lw_g (lw_at lw_m2 231 rfl) rfl
theorem q635 : (Jvm.Cond.laysFinal "java/lang/String" "java/lang/String" "coder" "B") ∈ lw_all := lw_g (lw_at lw_m2 232 rfl) rfl
theorem q636 : (Jvm.Cond.soleField "java/lang/String" "coder") ∈ lw_all := lw_g (lw_at lw_m2 233 rfl) rfl
theorem q778 : (Jvm.Cond.instanceMethod ({ cls := "java/lang/String", name := "length", desc := "()I" } : Jvm.MethodName)) ∈ lw_all := lw_g (lw_at lw_m3 135 rfl) rfl
theorem q779 : (Jvm.Cond.selects "java/lang/String" ({ cls := "java/lang/String", name := "length", desc := "()I" } : Jvm.MethodName) ({ cls := "java/lang/String", name := "length", desc := "()I" } : Jvm.MethodName)) ∈ lw_all := lw_g (lw_at lw_m3 136 rfl) rfl
theorem q780 : (Jvm.Cond.code ({ cls := "java/lang/String", name := "length", desc := "()I" } : Jvm.MethodName) prog_28_method_54_code (1 : Nat) (Option.some Jvm.ClassFile.FieldType.int)) ∈ lw_all := lw_g (lw_at lw_m3 137 rfl) rfl
theorem q781 : (Jvm.Cond.methodLink "java/lang/String" (335 : Nat) ({ cls := "java/lang/String", name := "coder", desc := "()B" } : Jvm.MethodName)) ∈ lw_all := lw_g (lw_at lw_m3 138 rfl) rfl
theorem q782 : (Jvm.Cond.instanceMethod ({ cls := "java/lang/String", name := "coder", desc := "()B" } : Jvm.MethodName)) ∈ lw_all := lw_g (lw_at lw_m3 139 rfl) rfl
theorem q783 : (Jvm.Cond.selects "java/lang/String" ({ cls := "java/lang/String", name := "coder", desc := "()B" } : Jvm.MethodName) ({ cls := "java/lang/String", name := "coder", desc := "()B" } : Jvm.MethodName)) ∈ lw_all := lw_g (lw_at lw_m3 140 rfl) rfl
theorem q784 : (Jvm.Cond.code ({ cls := "java/lang/String", name := "coder", desc := "()B" } : Jvm.MethodName) prog_28_method_152_code (1 : Nat) (Option.some Jvm.ClassFile.FieldType.byte)) ∈ lw_all := lw_g (lw_at lw_m3 141 rfl) rfl
theorem q785 : (Jvm.Cond.fieldLink "java/lang/String" (38 : Nat) "java/lang/String" "COMPACT_STRINGS" "Z") ∈ lw_all := lw_g (lw_at lw_m3 142 rfl) rfl
theorem q786 : (Jvm.Cond.laysStatic "java/lang/String" "COMPACT_STRINGS" "Z") ∈ lw_tbl := lw_at lw_m3 143 rfl
theorem q788 : (Jvm.Cond.instanceMethod ({ cls := "java/lang/String", name := "charAt", desc := "(I)C" } : Jvm.MethodName)) ∈ lw_all := lw_g (lw_at lw_m3 145 rfl) rfl
theorem q789 : (Jvm.Cond.selects "java/lang/String" ({ cls := "java/lang/String", name := "charAt", desc := "(I)C" } : Jvm.MethodName) ({ cls := "java/lang/String", name := "charAt", desc := "(I)C" } : Jvm.MethodName)) ∈ lw_all := lw_g (lw_at lw_m3 146 rfl) rfl
theorem q790 : (Jvm.Cond.code ({ cls := "java/lang/String", name := "charAt", desc := "(I)C" } : Jvm.MethodName) prog_28_method_56_code (2 : Nat) (Option.some Jvm.ClassFile.FieldType.char)) ∈ lw_all := lw_g (lw_at lw_m3 147 rfl) rfl
theorem q791 : (Jvm.Cond.methodLink "java/lang/String" (492 : Nat) ({ cls := "java/lang/String", name := "isLatin1", desc := "()Z" } : Jvm.MethodName)) ∈ lw_all := lw_g (lw_at lw_m3 148 rfl) rfl
theorem q792 : (Jvm.Cond.instanceMethod ({ cls := "java/lang/String", name := "isLatin1", desc := "()Z" } : Jvm.MethodName)) ∈ lw_all := lw_g (lw_at lw_m3 149 rfl) rfl
theorem q793 : (Jvm.Cond.selects "java/lang/String" ({ cls := "java/lang/String", name := "isLatin1", desc := "()Z" } : Jvm.MethodName) ({ cls := "java/lang/String", name := "isLatin1", desc := "()Z" } : Jvm.MethodName)) ∈ lw_all := lw_g (lw_at lw_m3 150 rfl) rfl
theorem q794 : (Jvm.Cond.code ({ cls := "java/lang/String", name := "isLatin1", desc := "()Z" } : Jvm.MethodName) prog_28_method_154_code (1 : Nat) (Option.some Jvm.ClassFile.FieldType.boolean)) ∈ lw_all := lw_g (lw_at lw_m3 151 rfl) rfl
theorem q795 : (Jvm.Cond.methodLink "java/lang/String" (495 : Nat) ({ cls := "java/lang/StringLatin1", name := "charAt", desc := "([BI)C" } : Jvm.MethodName)) ∈ lw_all := lw_g (lw_at lw_m3 152 rfl) rfl
theorem q799 : (Jvm.Cond.static ({ cls := "java/lang/String", name := "checkIndex", desc := "(II)V" } : Jvm.MethodName)) ∈ lw_all := lw_g (lw_at lw_m3 156 rfl) rfl
theorem q800 : (Jvm.Cond.code ({ cls := "java/lang/String", name := "checkIndex", desc := "(II)V" } : Jvm.MethodName) prog_28_method_155_code (2 : Nat) (Option.none : Option Jvm.ClassFile.FieldType)) ∈ lw_all := lw_g (lw_at lw_m3 157 rfl) rfl
theorem q801 : (Jvm.Cond.fieldLink "java/lang/String" (1053 : Nat) "jdk/internal/util/Preconditions" "SIOOBE_FORMATTER" "Ljava/util/function/BiFunction;") ∈ lw_all := lw_g (lw_at lw_m3 158 rfl) rfl
theorem q803 : (Jvm.Cond.methodLink "java/lang/String" (1059 : Nat) ({ cls := "jdk/internal/util/Preconditions", name := "checkIndex", desc := "(IILjava/util/function/BiFunction;)I" } : Jvm.MethodName)) ∈ lw_all := lw_g (lw_at lw_m3 160 rfl) rfl
theorem q806 : (Jvm.Cond.methodLink "java/lang/String" (498 : Nat) ({ cls := "java/lang/StringUTF16", name := "charAt", desc := "([BI)C" } : Jvm.MethodName)) ∈ lw_all := lw_g (lw_at lw_m3 163 rfl) rfl
theorem q2340 : (Jvm.Cond.fieldLink "java/lang/String" (9 : Nat) "java/lang/String" "value" "[B") ∈ lw_all := lw_g (lw_at lw_m10 17 rfl) rfl
theorem q2341 : (Jvm.Cond.fieldLink "java/lang/String" (15 : Nat) "java/lang/String" "coder" "B") ∈ lw_all := lw_g (lw_at lw_m10 18 rfl) rfl
theorem in_J4 : ∀ w ∈ wsJ40, w ∈ lw_all := lw_in wsJ40 [633, 635] (by decide +kernel) (by decide +kernel)
/-! java/lang/IndexOutOfBoundsException -/
set_option maxRecDepth 100000
def RJ5 : String := "java/lang/IndexOutOfBoundsException"
abbrev cJ5_init : ByteArray := prog_22_method_2_code
def yJ5_init : MethodName := ⟨RJ5, "<init>", "(Ljava/lang/String;)V"⟩
def dkwJ5_init_0 : List UInt8 := [42, 43, 183, 0, 7, 177]
abbrev dktJ5_init_0 : List UInt8 := dkwJ5_init_0 ++ []
theorem dksJ5_init_0 : cJ5_init.data.toList.drop 0 = dktJ5_init_0 := by decide +kernel
theorem dJ5_init_0 : decode cJ5_init 0 = .ok (.aload_n 0, 1) := dk_42 (dk_at dksJ5_init_0 0 rfl rfl)
theorem dJ5_init_1 : decode cJ5_init 1 = .ok (.aload_n 1, 1) := dk_43 (dk_at dksJ5_init_0 1 rfl rfl)
theorem dJ5_init_2 : decode cJ5_init 2 = .ok (.invokespecial 7, 3) := dk_183 0 7 (dk_at dksJ5_init_0 2 rfl rfl)
theorem dJ5_init_5 : decode cJ5_init 5 = .ok (.return_, 1) := dk_177 (dk_at dksJ5_init_0 5 rfl rfl)
theorem q179 : (Jvm.Cond.initialized "java/lang/IndexOutOfBoundsException") ∈ lw_all := lw_g (lw_at lw_m1 16 rfl) rfl
theorem q661 : (Jvm.Cond.instanceMethod ({ cls := "java/lang/IndexOutOfBoundsException", name := "<init>", desc := "(Ljava/lang/String;)V" } : Jvm.MethodName)) ∈ lw_all := lw_g (lw_at lw_m3 18 rfl) rfl
theorem q662 : (Jvm.Cond.code ({ cls := "java/lang/IndexOutOfBoundsException", name := "<init>", desc := "(Ljava/lang/String;)V" } : Jvm.MethodName) prog_22_method_2_code (2 : Nat) (Option.none : Option Jvm.ClassFile.FieldType)) ∈ lw_all := lw_g (lw_at lw_m3 19 rfl) rfl
theorem q663 : (Jvm.Cond.methodLink "java/lang/IndexOutOfBoundsException" (7 : Nat) ({ cls := "java/lang/RuntimeException", name := "<init>", desc := "(Ljava/lang/String;)V" } : Jvm.MethodName)) ∈ lw_all := lw_g (lw_at lw_m3 20 rfl) rfl
theorem q672 : (Jvm.Cond.declares ({ cls := "java/lang/IndexOutOfBoundsException", name := "<init>", desc := "()V" } : Jvm.MethodName)) ∈ lw_tbl := lw_at lw_m3 29 rfl
theorem q673 : (Jvm.Cond.declares ({ cls := "java/lang/IndexOutOfBoundsException", name := "<init>", desc := "(Ljava/lang/String;)V" } : Jvm.MethodName)) ∈ lw_tbl := lw_at lw_m3 30 rfl
/-! java/lang/ArrayIndexOutOfBoundsException -/
set_option maxRecDepth 100000
def RJ6 : String := "java/lang/ArrayIndexOutOfBoundsException"
def TJ6 : u_T := fun k => match k with
  | 0 => ("java/lang/Throwable", "backtrace", "Ljava/lang/Object;", false)
  | 1 => ("java/lang/Throwable", "detailMessage", "Ljava/lang/String;", false)
  | 2 => ("java/lang/Throwable", "cause", "Ljava/lang/Throwable;", false)
  | 3 => ("java/lang/Throwable", "stackTrace", "[Ljava/lang/StackTraceElement;", false)
  | 4 => ("java/lang/Throwable", "depth", "I", false)
  | _ => ("java/lang/Throwable", "suppressedExceptions", "Ljava/util/List;", false)
def tyJ6 : Nat → FieldType := fun k => match k with
  | 0 => .object "java/lang/Object"
  | 1 => .object "java/lang/String"
  | 2 => .object "java/lang/Throwable"
  | 3 => .array (.object "java/lang/StackTraceElement")
  | 4 => .int
  | _ => .object "java/util/List"
abbrev wsJ60 : List Cond := u_ws RJ6 TJ6 6
theorem nmJ6 : ∀ a, a < 6 → ∀ b, b < 6 → a ≠ b → (TJ6 a).2.1 ≠ (TJ6 b).2.1 := by decide +kernel
theorem tyJ6_ok : ∀ k, k < 6 → parseFieldDescriptor (TJ6 k).2.2.1 = some (tyJ6 k) := by decide +kernel
abbrev cJ6_init : ByteArray := prog_20_method_2_code
def yJ6_init : MethodName := ⟨RJ6, "<init>", "(Ljava/lang/String;)V"⟩
def dkwJ6_init_0 : List UInt8 := [42, 43, 183, 0, 7, 177]
abbrev dktJ6_init_0 : List UInt8 := dkwJ6_init_0 ++ []
theorem dksJ6_init_0 : cJ6_init.data.toList.drop 0 = dktJ6_init_0 := by decide +kernel
theorem dJ6_init_0 : decode cJ6_init 0 = .ok (.aload_n 0, 1) := dk_42 (dk_at dksJ6_init_0 0 rfl rfl)
theorem dJ6_init_1 : decode cJ6_init 1 = .ok (.aload_n 1, 1) := dk_43 (dk_at dksJ6_init_0 1 rfl rfl)
theorem dJ6_init_2 : decode cJ6_init 2 = .ok (.invokespecial 7, 3) := dk_183 0 7 (dk_at dksJ6_init_0 2 rfl rfl)
theorem dJ6_init_5 : decode cJ6_init 5 = .ok (.return_, 1) := dk_177 (dk_at dksJ6_init_0 5 rfl rfl)
theorem q180 : (Jvm.Cond.initialized "java/lang/ArrayIndexOutOfBoundsException") ∈ lw_all := lw_g (lw_at lw_m1 17 rfl) rfl
theorem q247 : (Jvm.Cond.selects "java/lang/ArrayIndexOutOfBoundsException" ({ cls := "java/lang/Throwable", name := "fillInStackTrace", desc := "()Ljava/lang/Throwable;" } : Jvm.MethodName) ({ cls := "java/lang/Throwable", name := "fillInStackTrace", desc := "()Ljava/lang/Throwable;" } : Jvm.MethodName)) ∈ lw_all := lw_g (lw_at lw_m1 84 rfl) rfl
theorem q657 : (Jvm.Cond.instantiable "java/lang/ArrayIndexOutOfBoundsException" (6 : Nat)) ∈ lw_all := lw_g (lw_at lw_m3 14 rfl) rfl
theorem q658 : (Jvm.Cond.instanceMethod ({ cls := "java/lang/ArrayIndexOutOfBoundsException", name := "<init>", desc := "(Ljava/lang/String;)V" } : Jvm.MethodName)) ∈ lw_all := lw_g (lw_at lw_m3 15 rfl) rfl
theorem q659 : (Jvm.Cond.code ({ cls := "java/lang/ArrayIndexOutOfBoundsException", name := "<init>", desc := "(Ljava/lang/String;)V" } : Jvm.MethodName) prog_20_method_2_code (2 : Nat) (Option.none : Option Jvm.ClassFile.FieldType)) ∈ lw_all := lw_g (lw_at lw_m3 16 rfl) rfl
theorem q660 : (Jvm.Cond.methodLink "java/lang/ArrayIndexOutOfBoundsException" (7 : Nat) ({ cls := "java/lang/IndexOutOfBoundsException", name := "<init>", desc := "(Ljava/lang/String;)V" } : Jvm.MethodName)) ∈ lw_all := lw_g (lw_at lw_m3 17 rfl) rfl
theorem q664 : (Jvm.Cond.lays "java/lang/ArrayIndexOutOfBoundsException" "java/lang/Throwable" "backtrace" "Ljava/lang/Object;") ∈ lw_all := lw_g (lw_at lw_m3 21 rfl) rfl
theorem q665 : (Jvm.Cond.lays "java/lang/ArrayIndexOutOfBoundsException" "java/lang/Throwable" "detailMessage" "Ljava/lang/String;") ∈ lw_all := lw_g (lw_at lw_m3 22 rfl) rfl
theorem q666 : (Jvm.Cond.lays "java/lang/ArrayIndexOutOfBoundsException" "java/lang/Throwable" "cause" "Ljava/lang/Throwable;") ∈ lw_all := lw_g (lw_at lw_m3 23 rfl) rfl
theorem q667 : (Jvm.Cond.lays "java/lang/ArrayIndexOutOfBoundsException" "java/lang/Throwable" "stackTrace" "[Ljava/lang/StackTraceElement;") ∈ lw_all := lw_g (lw_at lw_m3 24 rfl) rfl
theorem q668 : (Jvm.Cond.lays "java/lang/ArrayIndexOutOfBoundsException" "java/lang/Throwable" "depth" "I") ∈ lw_all := lw_g (lw_at lw_m3 25 rfl) rfl
theorem q669 : (Jvm.Cond.lays "java/lang/ArrayIndexOutOfBoundsException" "java/lang/Throwable" "suppressedExceptions" "Ljava/util/List;") ∈ lw_all := lw_g (lw_at lw_m3 26 rfl) rfl
theorem q670 : (Jvm.Cond.superclass "java/lang/ArrayIndexOutOfBoundsException" "java/lang/IndexOutOfBoundsException") ∈ lw_all := lw_g (lw_at lw_m3 27 rfl) rfl
theorem q671 : (Jvm.Cond.castable "java/lang/ArrayIndexOutOfBoundsException" "java/lang/ArrayIndexOutOfBoundsException") ∈ lw_tbl := lw_at lw_m3 28 rfl
theorem q674 : (Jvm.Cond.selects "java/lang/ArrayIndexOutOfBoundsException" ({ cls := "java/lang/Throwable", name := "fillInStackTrace", desc := "(I)Ljava/lang/Throwable;" } : Jvm.MethodName) ({ cls := "java/lang/Throwable", name := "fillInStackTrace", desc := "(I)Ljava/lang/Throwable;" } : Jvm.MethodName)) ∈ lw_all := lw_g (lw_at lw_m3 31 rfl) rfl
theorem q2334 : (Jvm.Cond.castable "java/lang/ArrayIndexOutOfBoundsException" "java/lang/IndexOutOfBoundsException") ∈ lw_tbl := lw_at lw_m10 11 rfl
theorem in_J6 : ∀ w ∈ wsJ60, w ∈ lw_all := lw_in wsJ60 [664, 665, 666, 667, 668, 669] (by decide +kernel) (by decide +kernel)
/-! java/lang/StringLatin1 -/
set_option maxRecDepth 100000
def RJ7 : String := "java/lang/StringLatin1"
abbrev cJ7_charAt : ByteArray := prog_29_method_2_code
def yJ7_charAt : MethodName := ⟨RJ7, "charAt", "([BI)C"⟩
def dkwJ7_charAt_0 : List UInt8 := [27, 42, 190, 184, 0, 9, 42, 27, 51, 17, 0, 255, 126, 146, 172]
abbrev dktJ7_charAt_0 : List UInt8 := dkwJ7_charAt_0 ++ []
theorem dksJ7_charAt_0 : cJ7_charAt.data.toList.drop 0 = dktJ7_charAt_0 := by decide +kernel
theorem dJ7_charAt_0 : decode cJ7_charAt 0 = .ok (.iload_n 1, 1) := dk_27 (dk_at dksJ7_charAt_0 0 rfl rfl)
theorem dJ7_charAt_1 : decode cJ7_charAt 1 = .ok (.aload_n 0, 1) := dk_42 (dk_at dksJ7_charAt_0 1 rfl rfl)
theorem dJ7_charAt_2 : decode cJ7_charAt 2 = .ok (.arraylength, 1) := dk_190 (dk_at dksJ7_charAt_0 2 rfl rfl)
theorem dJ7_charAt_3 : decode cJ7_charAt 3 = .ok (.invokestatic 9, 3) := dk_184 0 9 (dk_at dksJ7_charAt_0 3 rfl rfl)
theorem dJ7_charAt_6 : decode cJ7_charAt 6 = .ok (.aload_n 0, 1) := dk_42 (dk_at dksJ7_charAt_0 6 rfl rfl)
theorem dJ7_charAt_7 : decode cJ7_charAt 7 = .ok (.iload_n 1, 1) := dk_27 (dk_at dksJ7_charAt_0 7 rfl rfl)
theorem dJ7_charAt_8 : decode cJ7_charAt 8 = .ok (.baload, 1) := dk_51 (dk_at dksJ7_charAt_0 8 rfl rfl)
theorem dJ7_charAt_9 : decode cJ7_charAt 9 = .ok (.sipush 255, 3) := dk_17 0 255 (dk_at dksJ7_charAt_0 9 rfl rfl)
theorem dJ7_charAt_12 : decode cJ7_charAt 12 = .ok (.iand, 1) := dk_126 (dk_at dksJ7_charAt_0 12 rfl rfl)
theorem dJ7_charAt_13 : decode cJ7_charAt 13 = .ok (.i2c, 1) := dk_146 (dk_at dksJ7_charAt_0 13 rfl rfl)
theorem dJ7_charAt_14 : decode cJ7_charAt 14 = .ok (.ireturn, 1) := dk_172 (dk_at dksJ7_charAt_0 14 rfl rfl)
theorem q183 : (Jvm.Cond.initialized "java/lang/StringLatin1") ∈ lw_all := lw_g (lw_at lw_m1 20 rfl) rfl
theorem q796 : (Jvm.Cond.static ({ cls := "java/lang/StringLatin1", name := "charAt", desc := "([BI)C" } : Jvm.MethodName)) ∈ lw_all := lw_g (lw_at lw_m3 153 rfl) rfl
theorem q797 : (Jvm.Cond.code ({ cls := "java/lang/StringLatin1", name := "charAt", desc := "([BI)C" } : Jvm.MethodName) prog_29_method_2_code (2 : Nat) (Option.some Jvm.ClassFile.FieldType.char)) ∈ lw_all := lw_g (lw_at lw_m3 154 rfl) rfl
theorem q798 : (Jvm.Cond.methodLink "java/lang/StringLatin1" (9 : Nat) ({ cls := "java/lang/String", name := "checkIndex", desc := "(II)V" } : Jvm.MethodName)) ∈ lw_all := lw_g (lw_at lw_m3 155 rfl) rfl
/-! jdk/internal/util/Preconditions -/
set_option maxRecDepth 100000
def RJ8 : String := "jdk/internal/util/Preconditions"
abbrev cJ8_checkIndex : ByteArray := prog_33_method_11_code
def yJ8_checkIndex : MethodName := ⟨RJ8, "checkIndex", "(IILjava/util/function/BiFunction;)I"⟩
def dkwJ8_checkIndex_0 : List UInt8 := [26, 155, 0, 8, 26, 27, 161, 0, 10, 44, 26, 27, 184, 0, 95, 191, 26, 172]
abbrev dktJ8_checkIndex_0 : List UInt8 := dkwJ8_checkIndex_0 ++ []
theorem dksJ8_checkIndex_0 : cJ8_checkIndex.data.toList.drop 0 = dktJ8_checkIndex_0 := by decide +kernel
theorem dJ8_checkIndex_0 : decode cJ8_checkIndex 0 = .ok (.iload_n 0, 1) := dk_26 (dk_at dksJ8_checkIndex_0 0 rfl rfl)
theorem dJ8_checkIndex_1 : decode cJ8_checkIndex 1 = .ok (.ifCond .lt 8, 3) := dk_155 0 8 (dk_at dksJ8_checkIndex_0 1 rfl rfl)
theorem dJ8_checkIndex_4 : decode cJ8_checkIndex 4 = .ok (.iload_n 0, 1) := dk_26 (dk_at dksJ8_checkIndex_0 4 rfl rfl)
theorem dJ8_checkIndex_5 : decode cJ8_checkIndex 5 = .ok (.iload_n 1, 1) := dk_27 (dk_at dksJ8_checkIndex_0 5 rfl rfl)
theorem dJ8_checkIndex_6 : decode cJ8_checkIndex 6 = .ok (.if_icmp .lt 10, 3) := dk_161 0 10 (dk_at dksJ8_checkIndex_0 6 rfl rfl)
theorem dJ8_checkIndex_9 : decode cJ8_checkIndex 9 = .ok (.aload_n 2, 1) := dk_44 (dk_at dksJ8_checkIndex_0 9 rfl rfl)
theorem dJ8_checkIndex_10 : decode cJ8_checkIndex 10 = .ok (.iload_n 0, 1) := dk_26 (dk_at dksJ8_checkIndex_0 10 rfl rfl)
theorem dJ8_checkIndex_11 : decode cJ8_checkIndex 11 = .ok (.iload_n 1, 1) := dk_27 (dk_at dksJ8_checkIndex_0 11 rfl rfl)
theorem dJ8_checkIndex_12 : decode cJ8_checkIndex 12 = .ok (.invokestatic 95, 3) := dk_184 0 95 (dk_at dksJ8_checkIndex_0 12 rfl rfl)
theorem dJ8_checkIndex_15 : decode cJ8_checkIndex 15 = .ok (.athrow, 1) := dk_191 (dk_at dksJ8_checkIndex_0 15 rfl rfl)
theorem dJ8_checkIndex_16 : decode cJ8_checkIndex 16 = .ok (.iload_n 0, 1) := dk_26 (dk_at dksJ8_checkIndex_0 16 rfl rfl)
theorem dJ8_checkIndex_17 : decode cJ8_checkIndex 17 = .ok (.ireturn, 1) := dk_172 (dk_at dksJ8_checkIndex_0 17 rfl rfl)
theorem q184 : (Jvm.Cond.initialized "jdk/internal/util/Preconditions") ∈ lw_all := lw_g (lw_at lw_m1 21 rfl) rfl
theorem q802 : (Jvm.Cond.laysStatic "jdk/internal/util/Preconditions" "SIOOBE_FORMATTER" "Ljava/util/function/BiFunction;") ∈ lw_tbl := lw_at lw_m3 159 rfl
theorem q804 : (Jvm.Cond.static ({ cls := "jdk/internal/util/Preconditions", name := "checkIndex", desc := "(IILjava/util/function/BiFunction;)I" } : Jvm.MethodName)) ∈ lw_all := lw_g (lw_at lw_m3 161 rfl) rfl
theorem q805 : (Jvm.Cond.code ({ cls := "jdk/internal/util/Preconditions", name := "checkIndex", desc := "(IILjava/util/function/BiFunction;)I" } : Jvm.MethodName) prog_33_method_11_code (3 : Nat) (Option.some Jvm.ClassFile.FieldType.int)) ∈ lw_all := lw_g (lw_at lw_m3 162 rfl) rfl
/-! java/lang/StringUTF16 -/
set_option maxRecDepth 100000
def RJ9 : String := "java/lang/StringUTF16"
abbrev cJ9_charAt : ByteArray := prog_30_method_83_code
def yJ9_charAt : MethodName := ⟨RJ9, "charAt", "([BI)C"⟩
def dkwJ9_charAt_0 : List UInt8 := [27, 42, 184, 0, 67, 42, 27, 184, 0, 71, 172]
abbrev dktJ9_charAt_0 : List UInt8 := dkwJ9_charAt_0 ++ []
theorem dksJ9_charAt_0 : cJ9_charAt.data.toList.drop 0 = dktJ9_charAt_0 := by decide +kernel
theorem dJ9_charAt_0 : decode cJ9_charAt 0 = .ok (.iload_n 1, 1) := dk_27 (dk_at dksJ9_charAt_0 0 rfl rfl)
theorem dJ9_charAt_1 : decode cJ9_charAt 1 = .ok (.aload_n 0, 1) := dk_42 (dk_at dksJ9_charAt_0 1 rfl rfl)
theorem dJ9_charAt_2 : decode cJ9_charAt 2 = .ok (.invokestatic 67, 3) := dk_184 0 67 (dk_at dksJ9_charAt_0 2 rfl rfl)
theorem dJ9_charAt_5 : decode cJ9_charAt 5 = .ok (.aload_n 0, 1) := dk_42 (dk_at dksJ9_charAt_0 5 rfl rfl)
theorem dJ9_charAt_6 : decode cJ9_charAt 6 = .ok (.iload_n 1, 1) := dk_27 (dk_at dksJ9_charAt_0 6 rfl rfl)
theorem dJ9_charAt_7 : decode cJ9_charAt 7 = .ok (.invokestatic 71, 3) := dk_184 0 71 (dk_at dksJ9_charAt_0 7 rfl rfl)
theorem dJ9_charAt_10 : decode cJ9_charAt 10 = .ok (.ireturn, 1) := dk_172 (dk_at dksJ9_charAt_0 10 rfl rfl)
abbrev cJ9_checkIndex : ByteArray := prog_30_method_91_code
def yJ9_checkIndex : MethodName := ⟨RJ9, "checkIndex", "(I[B)V"⟩
def dkwJ9_checkIndex_0 : List UInt8 := [26, 43, 184, 0, 48, 184, 1, 158, 177]
abbrev dktJ9_checkIndex_0 : List UInt8 := dkwJ9_checkIndex_0 ++ []
theorem dksJ9_checkIndex_0 : cJ9_checkIndex.data.toList.drop 0 = dktJ9_checkIndex_0 := by decide +kernel
theorem dJ9_checkIndex_0 : decode cJ9_checkIndex 0 = .ok (.iload_n 0, 1) := dk_26 (dk_at dksJ9_checkIndex_0 0 rfl rfl)
theorem dJ9_checkIndex_1 : decode cJ9_checkIndex 1 = .ok (.aload_n 1, 1) := dk_43 (dk_at dksJ9_checkIndex_0 1 rfl rfl)
theorem dJ9_checkIndex_2 : decode cJ9_checkIndex 2 = .ok (.invokestatic 48, 3) := dk_184 0 48 (dk_at dksJ9_checkIndex_0 2 rfl rfl)
theorem dJ9_checkIndex_5 : decode cJ9_checkIndex 5 = .ok (.invokestatic 414, 3) := dk_184 1 158 (dk_at dksJ9_checkIndex_0 5 rfl rfl)
theorem dJ9_checkIndex_8 : decode cJ9_checkIndex 8 = .ok (.return_, 1) := dk_177 (dk_at dksJ9_checkIndex_0 8 rfl rfl)
abbrev cJ9_length : ByteArray := prog_30_method_6_code
def yJ9_length : MethodName := ⟨RJ9, "length", "([B)I"⟩
def dkwJ9_length_0 : List UInt8 := [42, 190, 4, 122, 172]
abbrev dktJ9_length_0 : List UInt8 := dkwJ9_length_0 ++ []
theorem dksJ9_length_0 : cJ9_length.data.toList.drop 0 = dktJ9_length_0 := by decide +kernel
theorem dJ9_length_0 : decode cJ9_length 0 = .ok (.aload_n 0, 1) := dk_42 (dk_at dksJ9_length_0 0 rfl rfl)
theorem dJ9_length_1 : decode cJ9_length 1 = .ok (.arraylength, 1) := dk_190 (dk_at dksJ9_length_0 1 rfl rfl)
theorem dJ9_length_2 : decode cJ9_length 2 = .ok (.iconst 1, 1) := dk_4 (dk_at dksJ9_length_0 2 rfl rfl)
theorem dJ9_length_3 : decode cJ9_length 3 = .ok (.ishr, 1) := dk_122 (dk_at dksJ9_length_0 3 rfl rfl)
theorem dJ9_length_4 : decode cJ9_length 4 = .ok (.ireturn, 1) := dk_172 (dk_at dksJ9_length_0 4 rfl rfl)
abbrev cJ9_getChar : ByteArray := prog_30_method_5_code
def yJ9_getChar : MethodName := ⟨RJ9, "getChar", "([BI)C"⟩
def dkwJ9_getChar_2 : List UInt8 := [51, 17, 0, 255, 126, 178, 0, 63, 120, 128, 146, 172]
abbrev dktJ9_getChar_2 : List UInt8 := dkwJ9_getChar_2 ++ []
def dkwJ9_getChar_1 : List UInt8 := [183, 0, 56, 191, 27, 4, 120, 60, 42, 27, 132, 1, 1, 51, 17, 0, 255, 126, 178, 0, 59, 120, 42, 27]
abbrev dktJ9_getChar_1 : List UInt8 := dkwJ9_getChar_1 ++ dktJ9_getChar_2
def dkwJ9_getChar_0 : List UInt8 := [178, 0, 44, 154, 0, 25, 27, 155, 0, 11, 27, 42, 184, 0, 48, 161, 0, 13, 187, 0, 52, 89, 18, 54]
abbrev dktJ9_getChar_0 : List UInt8 := dkwJ9_getChar_0 ++ dktJ9_getChar_1
theorem dksJ9_getChar_0 : cJ9_getChar.data.toList.drop 0 = dktJ9_getChar_0 := by decide +kernel
theorem dksJ9_getChar_1 : cJ9_getChar.data.toList.drop 24 = dktJ9_getChar_1 := dk_seg dksJ9_getChar_0 24 rfl rfl
theorem dksJ9_getChar_2 : cJ9_getChar.data.toList.drop 48 = dktJ9_getChar_2 := dk_seg dksJ9_getChar_1 24 rfl rfl
theorem dJ9_getChar_0 : decode cJ9_getChar 0 = .ok (.getstatic 44, 3) := dk_178 0 44 (dk_at dksJ9_getChar_0 0 rfl rfl)
theorem dJ9_getChar_3 : decode cJ9_getChar 3 = .ok (.ifCond .ne 25, 3) := dk_154 0 25 (dk_at dksJ9_getChar_0 3 rfl rfl)
theorem dJ9_getChar_6 : decode cJ9_getChar 6 = .ok (.iload_n 1, 1) := dk_27 (dk_at dksJ9_getChar_0 6 rfl rfl)
theorem dJ9_getChar_7 : decode cJ9_getChar 7 = .ok (.ifCond .lt 11, 3) := dk_155 0 11 (dk_at dksJ9_getChar_0 7 rfl rfl)
theorem dJ9_getChar_10 : decode cJ9_getChar 10 = .ok (.iload_n 1, 1) := dk_27 (dk_at dksJ9_getChar_0 10 rfl rfl)
theorem dJ9_getChar_11 : decode cJ9_getChar 11 = .ok (.aload_n 0, 1) := dk_42 (dk_at dksJ9_getChar_0 11 rfl rfl)
theorem dJ9_getChar_12 : decode cJ9_getChar 12 = .ok (.invokestatic 48, 3) := dk_184 0 48 (dk_at dksJ9_getChar_0 12 rfl rfl)
theorem dJ9_getChar_15 : decode cJ9_getChar 15 = .ok (.if_icmp .lt 13, 3) := dk_161 0 13 (dk_at dksJ9_getChar_0 15 rfl rfl)
theorem dJ9_getChar_18 : decode cJ9_getChar 18 = .ok (.new 52, 3) := dk_187 0 52 (dk_at dksJ9_getChar_0 18 rfl rfl)
theorem dJ9_getChar_21 : decode cJ9_getChar 21 = .ok (.dup, 1) := dk_89 (dk_at dksJ9_getChar_0 21 rfl rfl)
theorem dJ9_getChar_22 : decode cJ9_getChar 22 = .ok (.ldc 54, 2) := dk_18 54 (dk_at dksJ9_getChar_0 22 rfl rfl)
theorem dJ9_getChar_24 : decode cJ9_getChar 24 = .ok (.invokespecial 56, 3) := dk_183 0 56 (dk_at dksJ9_getChar_1 0 rfl rfl)
theorem dJ9_getChar_27 : decode cJ9_getChar 27 = .ok (.athrow, 1) := dk_191 (dk_at dksJ9_getChar_1 3 rfl rfl)
theorem dJ9_getChar_28 : decode cJ9_getChar 28 = .ok (.iload_n 1, 1) := dk_27 (dk_at dksJ9_getChar_1 4 rfl rfl)
theorem dJ9_getChar_29 : decode cJ9_getChar 29 = .ok (.iconst 1, 1) := dk_4 (dk_at dksJ9_getChar_1 5 rfl rfl)
theorem dJ9_getChar_30 : decode cJ9_getChar 30 = .ok (.ishl, 1) := dk_120 (dk_at dksJ9_getChar_1 6 rfl rfl)
theorem dJ9_getChar_31 : decode cJ9_getChar 31 = .ok (.istore_n 1, 1) := dk_60 (dk_at dksJ9_getChar_1 7 rfl rfl)
theorem dJ9_getChar_32 : decode cJ9_getChar 32 = .ok (.aload_n 0, 1) := dk_42 (dk_at dksJ9_getChar_1 8 rfl rfl)
theorem dJ9_getChar_33 : decode cJ9_getChar 33 = .ok (.iload_n 1, 1) := dk_27 (dk_at dksJ9_getChar_1 9 rfl rfl)
theorem dJ9_getChar_34 : decode cJ9_getChar 34 = .ok (.iinc 1 1, 3) := dk_132 1 1 (dk_at dksJ9_getChar_1 10 rfl rfl)
theorem dJ9_getChar_37 : decode cJ9_getChar 37 = .ok (.baload, 1) := dk_51 (dk_at dksJ9_getChar_1 13 rfl rfl)
theorem dJ9_getChar_38 : decode cJ9_getChar 38 = .ok (.sipush 255, 3) := dk_17 0 255 (dk_at dksJ9_getChar_1 14 rfl rfl)
theorem dJ9_getChar_41 : decode cJ9_getChar 41 = .ok (.iand, 1) := dk_126 (dk_at dksJ9_getChar_1 17 rfl rfl)
theorem dJ9_getChar_42 : decode cJ9_getChar 42 = .ok (.getstatic 59, 3) := dk_178 0 59 (dk_at dksJ9_getChar_1 18 rfl rfl)
theorem dJ9_getChar_45 : decode cJ9_getChar 45 = .ok (.ishl, 1) := dk_120 (dk_at dksJ9_getChar_1 21 rfl rfl)
theorem dJ9_getChar_46 : decode cJ9_getChar 46 = .ok (.aload_n 0, 1) := dk_42 (dk_at dksJ9_getChar_1 22 rfl rfl)
theorem dJ9_getChar_47 : decode cJ9_getChar 47 = .ok (.iload_n 1, 1) := dk_27 (dk_at dksJ9_getChar_1 23 rfl rfl)
theorem dJ9_getChar_48 : decode cJ9_getChar 48 = .ok (.baload, 1) := dk_51 (dk_at dksJ9_getChar_2 0 rfl rfl)
theorem dJ9_getChar_49 : decode cJ9_getChar 49 = .ok (.sipush 255, 3) := dk_17 0 255 (dk_at dksJ9_getChar_2 1 rfl rfl)
theorem dJ9_getChar_52 : decode cJ9_getChar 52 = .ok (.iand, 1) := dk_126 (dk_at dksJ9_getChar_2 4 rfl rfl)
theorem dJ9_getChar_53 : decode cJ9_getChar 53 = .ok (.getstatic 63, 3) := dk_178 0 63 (dk_at dksJ9_getChar_2 5 rfl rfl)
theorem dJ9_getChar_56 : decode cJ9_getChar 56 = .ok (.ishl, 1) := dk_120 (dk_at dksJ9_getChar_2 8 rfl rfl)
theorem dJ9_getChar_57 : decode cJ9_getChar 57 = .ok (.ior, 1) := dk_128 (dk_at dksJ9_getChar_2 9 rfl rfl)
theorem dJ9_getChar_58 : decode cJ9_getChar 58 = .ok (.i2c, 1) := dk_146 (dk_at dksJ9_getChar_2 10 rfl rfl)
theorem dJ9_getChar_59 : decode cJ9_getChar 59 = .ok (.ireturn, 1) := dk_172 (dk_at dksJ9_getChar_2 11 rfl rfl)
theorem q185 : (Jvm.Cond.initialized "java/lang/StringUTF16") ∈ lw_all := lw_g (lw_at lw_m1 22 rfl) rfl
theorem q807 : (Jvm.Cond.static ({ cls := "java/lang/StringUTF16", name := "charAt", desc := "([BI)C" } : Jvm.MethodName)) ∈ lw_all := lw_g (lw_at lw_m3 164 rfl) rfl
theorem q808 : (Jvm.Cond.code ({ cls := "java/lang/StringUTF16", name := "charAt", desc := "([BI)C" } : Jvm.MethodName) prog_30_method_83_code (2 : Nat) (Option.some Jvm.ClassFile.FieldType.char)) ∈ lw_all := lw_g (lw_at lw_m3 165 rfl) rfl
theorem q809 : (Jvm.Cond.methodLink "java/lang/StringUTF16" (67 : Nat) ({ cls := "java/lang/StringUTF16", name := "checkIndex", desc := "(I[B)V" } : Jvm.MethodName)) ∈ lw_all := lw_g (lw_at lw_m3 166 rfl) rfl
theorem q810 : (Jvm.Cond.static ({ cls := "java/lang/StringUTF16", name := "checkIndex", desc := "(I[B)V" } : Jvm.MethodName)) ∈ lw_all := lw_g (lw_at lw_m3 167 rfl) rfl
theorem q811 : (Jvm.Cond.code ({ cls := "java/lang/StringUTF16", name := "checkIndex", desc := "(I[B)V" } : Jvm.MethodName) prog_30_method_91_code (2 : Nat) (Option.none : Option Jvm.ClassFile.FieldType)) ∈ lw_all := lw_g (lw_at lw_m3 168 rfl) rfl
theorem q812 : (Jvm.Cond.methodLink "java/lang/StringUTF16" (48 : Nat) ({ cls := "java/lang/StringUTF16", name := "length", desc := "([B)I" } : Jvm.MethodName)) ∈ lw_all := lw_g (lw_at lw_m3 169 rfl) rfl
theorem q813 : (Jvm.Cond.static ({ cls := "java/lang/StringUTF16", name := "length", desc := "([B)I" } : Jvm.MethodName)) ∈ lw_all := lw_g (lw_at lw_m3 170 rfl) rfl
theorem q814 : (Jvm.Cond.code ({ cls := "java/lang/StringUTF16", name := "length", desc := "([B)I" } : Jvm.MethodName) prog_30_method_6_code (1 : Nat) (Option.some Jvm.ClassFile.FieldType.int)) ∈ lw_all := lw_g (lw_at lw_m3 171 rfl) rfl
theorem q815 : (Jvm.Cond.methodLink "java/lang/StringUTF16" (414 : Nat) ({ cls := "java/lang/String", name := "checkIndex", desc := "(II)V" } : Jvm.MethodName)) ∈ lw_all := lw_g (lw_at lw_m3 172 rfl) rfl
theorem q816 : (Jvm.Cond.methodLink "java/lang/StringUTF16" (71 : Nat) ({ cls := "java/lang/StringUTF16", name := "getChar", desc := "([BI)C" } : Jvm.MethodName)) ∈ lw_all := lw_g (lw_at lw_m3 173 rfl) rfl
theorem q817 : (Jvm.Cond.static ({ cls := "java/lang/StringUTF16", name := "getChar", desc := "([BI)C" } : Jvm.MethodName)) ∈ lw_all := lw_g (lw_at lw_m3 174 rfl) rfl
theorem q818 : (Jvm.Cond.code ({ cls := "java/lang/StringUTF16", name := "getChar", desc := "([BI)C" } : Jvm.MethodName) prog_30_method_5_code (2 : Nat) (Option.some Jvm.ClassFile.FieldType.char)) ∈ lw_all := lw_g (lw_at lw_m3 175 rfl) rfl
theorem q819 : (Jvm.Cond.fieldLink "java/lang/StringUTF16" (44 : Nat) "java/lang/StringUTF16" "$assertionsDisabled" "Z") ∈ lw_all := lw_g (lw_at lw_m3 176 rfl) rfl
theorem q820 : (Jvm.Cond.laysStatic "java/lang/StringUTF16" "$assertionsDisabled" "Z") ∈ lw_tbl := lw_at lw_m3 177 rfl
theorem q821 : (Jvm.Cond.fieldLink "java/lang/StringUTF16" (59 : Nat) "java/lang/StringUTF16" "HI_BYTE_SHIFT" "I") ∈ lw_all := lw_g (lw_at lw_m3 178 rfl) rfl
theorem q822 : (Jvm.Cond.laysStatic "java/lang/StringUTF16" "HI_BYTE_SHIFT" "I") ∈ lw_tbl := lw_at lw_m3 179 rfl
theorem q823 : (Jvm.Cond.fieldLink "java/lang/StringUTF16" (63 : Nat) "java/lang/StringUTF16" "LO_BYTE_SHIFT" "I") ∈ lw_all := lw_g (lw_at lw_m3 180 rfl) rfl
theorem q824 : (Jvm.Cond.laysStatic "java/lang/StringUTF16" "LO_BYTE_SHIFT" "I") ∈ lw_tbl := lw_at lw_m3 181 rfl
/-! java/lang/Math -/
set_option maxRecDepth 100000
def RJ10 : String := "java/lang/Math"
abbrev cJ10_abs : ByteArray := prog_25_method_61_code
def yJ10_abs : MethodName := ⟨RJ10, "abs", "(J)J"⟩
def dkwJ10_abs_0 : List UInt8 := [30, 9, 148, 156, 0, 8, 30, 117, 167, 0, 4, 30, 173]
abbrev dktJ10_abs_0 : List UInt8 := dkwJ10_abs_0 ++ []
theorem dksJ10_abs_0 : cJ10_abs.data.toList.drop 0 = dktJ10_abs_0 := by decide +kernel
theorem dJ10_abs_0 : decode cJ10_abs 0 = .ok (.lload_n 0, 1) := dk_30 (dk_at dksJ10_abs_0 0 rfl rfl)
theorem dJ10_abs_1 : decode cJ10_abs 1 = .ok (.lconst 0, 1) := dk_9 (dk_at dksJ10_abs_0 1 rfl rfl)
theorem dJ10_abs_2 : decode cJ10_abs 2 = .ok (.lcmp, 1) := dk_148 (dk_at dksJ10_abs_0 2 rfl rfl)
theorem dJ10_abs_3 : decode cJ10_abs 3 = .ok (.ifCond .ge 8, 3) := dk_156 0 8 (dk_at dksJ10_abs_0 3 rfl rfl)
theorem dJ10_abs_6 : decode cJ10_abs 6 = .ok (.lload_n 0, 1) := dk_30 (dk_at dksJ10_abs_0 6 rfl rfl)
theorem dJ10_abs_7 : decode cJ10_abs 7 = .ok (.lneg, 1) := dk_117 (dk_at dksJ10_abs_0 7 rfl rfl)
theorem dJ10_abs_8 : decode cJ10_abs 8 = .ok (.goto 4, 3) := dk_167 0 4 (dk_at dksJ10_abs_0 8 rfl rfl)
theorem dJ10_abs_11 : decode cJ10_abs 11 = .ok (.lload_n 0, 1) := dk_30 (dk_at dksJ10_abs_0 11 rfl rfl)
theorem dJ10_abs_12 : decode cJ10_abs 12 = .ok (.lreturn, 1) := dk_173 (dk_at dksJ10_abs_0 12 rfl rfl)
abbrev cJ10_max : ByteArray := prog_25_method_65_code
def yJ10_max : MethodName := ⟨RJ10, "max", "(II)I"⟩
def dkwJ10_max_0 : List UInt8 := [26, 27, 161, 0, 7, 26, 167, 0, 4, 27, 172]
abbrev dktJ10_max_0 : List UInt8 := dkwJ10_max_0 ++ []
theorem dksJ10_max_0 : cJ10_max.data.toList.drop 0 = dktJ10_max_0 := by decide +kernel
theorem dJ10_max_0 : decode cJ10_max 0 = .ok (.iload_n 0, 1) := dk_26 (dk_at dksJ10_max_0 0 rfl rfl)
theorem dJ10_max_1 : decode cJ10_max 1 = .ok (.iload_n 1, 1) := dk_27 (dk_at dksJ10_max_0 1 rfl rfl)
theorem dJ10_max_2 : decode cJ10_max 2 = .ok (.if_icmp .lt 7, 3) := dk_161 0 7 (dk_at dksJ10_max_0 2 rfl rfl)
theorem dJ10_max_5 : decode cJ10_max 5 = .ok (.iload_n 0, 1) := dk_26 (dk_at dksJ10_max_0 5 rfl rfl)
theorem dJ10_max_6 : decode cJ10_max 6 = .ok (.goto 4, 3) := dk_167 0 4 (dk_at dksJ10_max_0 6 rfl rfl)
theorem dJ10_max_9 : decode cJ10_max 9 = .ok (.iload_n 1, 1) := dk_27 (dk_at dksJ10_max_0 9 rfl rfl)
theorem dJ10_max_10 : decode cJ10_max 10 = .ok (.ireturn, 1) := dk_172 (dk_at dksJ10_max_0 10 rfl rfl)
abbrev cJ10_min : ByteArray := prog_25_method_69_code
def yJ10_min : MethodName := ⟨RJ10, "min", "(II)I"⟩
def dkwJ10_min_0 : List UInt8 := [26, 27, 163, 0, 7, 26, 167, 0, 4, 27, 172]
abbrev dktJ10_min_0 : List UInt8 := dkwJ10_min_0 ++ []
theorem dksJ10_min_0 : cJ10_min.data.toList.drop 0 = dktJ10_min_0 := by decide +kernel
theorem dJ10_min_0 : decode cJ10_min 0 = .ok (.iload_n 0, 1) := dk_26 (dk_at dksJ10_min_0 0 rfl rfl)
theorem dJ10_min_1 : decode cJ10_min 1 = .ok (.iload_n 1, 1) := dk_27 (dk_at dksJ10_min_0 1 rfl rfl)
theorem dJ10_min_2 : decode cJ10_min 2 = .ok (.if_icmp .gt 7, 3) := dk_163 0 7 (dk_at dksJ10_min_0 2 rfl rfl)
theorem dJ10_min_5 : decode cJ10_min 5 = .ok (.iload_n 0, 1) := dk_26 (dk_at dksJ10_min_0 5 rfl rfl)
theorem dJ10_min_6 : decode cJ10_min 6 = .ok (.goto 4, 3) := dk_167 0 4 (dk_at dksJ10_min_0 6 rfl rfl)
theorem dJ10_min_9 : decode cJ10_min 9 = .ok (.iload_n 1, 1) := dk_27 (dk_at dksJ10_min_0 9 rfl rfl)
theorem dJ10_min_10 : decode cJ10_min 10 = .ok (.ireturn, 1) := dk_172 (dk_at dksJ10_min_0 10 rfl rfl)
theorem q187 : (Jvm.Cond.initialized "java/lang/Math") ∈ lw_all := lw_g (lw_at lw_m1 24 rfl) rfl
theorem q1361 : (Jvm.Cond.static ({ cls := "java/lang/Math", name := "abs", desc := "(J)J" } : Jvm.MethodName)) ∈ lw_all := lw_g (lw_at lw_m5 238 rfl) rfl
theorem q1362 : (Jvm.Cond.code ({ cls := "java/lang/Math", name := "abs", desc := "(J)J" } : Jvm.MethodName) prog_25_method_61_code (2 : Nat) (Option.some Jvm.ClassFile.FieldType.long)) ∈ lw_all := lw_g (lw_at lw_m5 239 rfl) rfl
theorem q1422 : (Jvm.Cond.static ({ cls := "java/lang/Math", name := "max", desc := "(II)I" } : Jvm.MethodName)) ∈ lw_all := lw_g (lw_at lw_m6 59 rfl) rfl
theorem q1423 : (Jvm.Cond.code ({ cls := "java/lang/Math", name := "max", desc := "(II)I" } : Jvm.MethodName) prog_25_method_65_code (2 : Nat) (Option.some Jvm.ClassFile.FieldType.int)) ∈ lw_all := lw_g (lw_at lw_m6 60 rfl) rfl
theorem q1546 : (Jvm.Cond.static ({ cls := "java/lang/Math", name := "min", desc := "(II)I" } : Jvm.MethodName)) ∈ lw_all := lw_g (lw_at lw_m6 183 rfl) rfl
theorem q1547 : (Jvm.Cond.code ({ cls := "java/lang/Math", name := "min", desc := "(II)I" } : Jvm.MethodName) prog_25_method_69_code (2 : Nat) (Option.some Jvm.ClassFile.FieldType.int)) ∈ lw_all := lw_g (lw_at lw_m6 184 rfl) rfl
/-! java/lang/Long -/
set_option maxRecDepth 100000
def RJ11 : String := "java/lang/Long"
abbrev cJ11_signum : ByteArray := prog_24_method_57_code
def yJ11_signum : MethodName := ⟨RJ11, "signum", "(J)I"⟩
def dkwJ11_signum_0 : List UInt8 := [30, 16, 63, 123, 30, 117, 16, 63, 125, 129, 136, 172]
abbrev dktJ11_signum_0 : List UInt8 := dkwJ11_signum_0 ++ []
theorem dksJ11_signum_0 : cJ11_signum.data.toList.drop 0 = dktJ11_signum_0 := by decide +kernel
theorem dJ11_signum_0 : decode cJ11_signum 0 = .ok (.lload_n 0, 1) := dk_30 (dk_at dksJ11_signum_0 0 rfl rfl)
theorem dJ11_signum_1 : decode cJ11_signum 1 = .ok (.bipush 63, 2) := dk_16 63 (dk_at dksJ11_signum_0 1 rfl rfl)
theorem dJ11_signum_3 : decode cJ11_signum 3 = .ok (.lshr, 1) := dk_123 (dk_at dksJ11_signum_0 3 rfl rfl)
theorem dJ11_signum_4 : decode cJ11_signum 4 = .ok (.lload_n 0, 1) := dk_30 (dk_at dksJ11_signum_0 4 rfl rfl)
theorem dJ11_signum_5 : decode cJ11_signum 5 = .ok (.lneg, 1) := dk_117 (dk_at dksJ11_signum_0 5 rfl rfl)
theorem dJ11_signum_6 : decode cJ11_signum 6 = .ok (.bipush 63, 2) := dk_16 63 (dk_at dksJ11_signum_0 6 rfl rfl)
theorem dJ11_signum_8 : decode cJ11_signum 8 = .ok (.lushr, 1) := dk_125 (dk_at dksJ11_signum_0 8 rfl rfl)
theorem dJ11_signum_9 : decode cJ11_signum 9 = .ok (.lor, 1) := dk_129 (dk_at dksJ11_signum_0 9 rfl rfl)
theorem dJ11_signum_10 : decode cJ11_signum 10 = .ok (.l2i, 1) := dk_136 (dk_at dksJ11_signum_0 10 rfl rfl)
theorem dJ11_signum_11 : decode cJ11_signum 11 = .ok (.ireturn, 1) := dk_172 (dk_at dksJ11_signum_0 11 rfl rfl)
theorem q194 : (Jvm.Cond.initialized "java/lang/Long") ∈ lw_all := lw_g (lw_at lw_m1 31 rfl) rfl
theorem q1364 : (Jvm.Cond.static ({ cls := "java/lang/Long", name := "signum", desc := "(J)I" } : Jvm.MethodName)) ∈ lw_all := lw_g (lw_at lw_m6 1 rfl) rfl
theorem q1365 : (Jvm.Cond.code ({ cls := "java/lang/Long", name := "signum", desc := "(J)I" } : Jvm.MethodName) prog_24_method_57_code (2 : Nat) (Option.some Jvm.ClassFile.FieldType.int)) ∈ lw_all := lw_g (lw_at lw_m6 2 rfl) rfl
/-! java/lang/Integer -/
set_option maxRecDepth 100000
def RJ12 : String := "java/lang/Integer"
abbrev cJ12_bitCount : ByteArray := prog_23_method_49_code
def yJ12_bitCount : MethodName := ⟨RJ12, "bitCount", "(I)I"⟩
def dkwJ12_bitCount_2 : List UInt8 := [26, 16, 63, 126, 172]
abbrev dktJ12_bitCount_2 : List UInt8 := dkwJ12_bitCount_2 ++ []
def dkwJ12_bitCount_1 : List UInt8 := [26, 26, 7, 124, 96, 19, 1, 11, 126, 59, 26, 26, 16, 8, 124, 96, 59, 26, 26, 16, 16, 124, 96, 59]
abbrev dktJ12_bitCount_1 : List UInt8 := dkwJ12_bitCount_1 ++ dktJ12_bitCount_2
def dkwJ12_bitCount_0 : List UInt8 := [26, 26, 4, 124, 19, 1, 9, 126, 100, 59, 26, 19, 1, 10, 126, 26, 5, 124, 19, 1, 10, 126, 96, 59]
abbrev dktJ12_bitCount_0 : List UInt8 := dkwJ12_bitCount_0 ++ dktJ12_bitCount_1
theorem dksJ12_bitCount_0 : cJ12_bitCount.data.toList.drop 0 = dktJ12_bitCount_0 := by decide +kernel
theorem dksJ12_bitCount_1 : cJ12_bitCount.data.toList.drop 24 = dktJ12_bitCount_1 := dk_seg dksJ12_bitCount_0 24 rfl rfl
theorem dksJ12_bitCount_2 : cJ12_bitCount.data.toList.drop 48 = dktJ12_bitCount_2 := dk_seg dksJ12_bitCount_1 24 rfl rfl
theorem dJ12_bitCount_0 : decode cJ12_bitCount 0 = .ok (.iload_n 0, 1) := dk_26 (dk_at dksJ12_bitCount_0 0 rfl rfl)
theorem dJ12_bitCount_1 : decode cJ12_bitCount 1 = .ok (.iload_n 0, 1) := dk_26 (dk_at dksJ12_bitCount_0 1 rfl rfl)
theorem dJ12_bitCount_2 : decode cJ12_bitCount 2 = .ok (.iconst 1, 1) := dk_4 (dk_at dksJ12_bitCount_0 2 rfl rfl)
theorem dJ12_bitCount_3 : decode cJ12_bitCount 3 = .ok (.iushr, 1) := dk_124 (dk_at dksJ12_bitCount_0 3 rfl rfl)
theorem dJ12_bitCount_4 : decode cJ12_bitCount 4 = .ok (.ldc_w 265, 3) := dk_19 1 9 (dk_at dksJ12_bitCount_0 4 rfl rfl)
theorem dJ12_bitCount_7 : decode cJ12_bitCount 7 = .ok (.iand, 1) := dk_126 (dk_at dksJ12_bitCount_0 7 rfl rfl)
theorem dJ12_bitCount_8 : decode cJ12_bitCount 8 = .ok (.isub, 1) := dk_100 (dk_at dksJ12_bitCount_0 8 rfl rfl)
theorem dJ12_bitCount_9 : decode cJ12_bitCount 9 = .ok (.istore_n 0, 1) := dk_59 (dk_at dksJ12_bitCount_0 9 rfl rfl)
theorem dJ12_bitCount_10 : decode cJ12_bitCount 10 = .ok (.iload_n 0, 1) := dk_26 (dk_at dksJ12_bitCount_0 10 rfl rfl)
theorem dJ12_bitCount_11 : decode cJ12_bitCount 11 = .ok (.ldc_w 266, 3) := dk_19 1 10 (dk_at dksJ12_bitCount_0 11 rfl rfl)
theorem dJ12_bitCount_14 : decode cJ12_bitCount 14 = .ok (.iand, 1) := dk_126 (dk_at dksJ12_bitCount_0 14 rfl rfl)
theorem dJ12_bitCount_15 : decode cJ12_bitCount 15 = .ok (.iload_n 0, 1) := dk_26 (dk_at dksJ12_bitCount_0 15 rfl rfl)
theorem dJ12_bitCount_16 : decode cJ12_bitCount 16 = .ok (.iconst 2, 1) := dk_5 (dk_at dksJ12_bitCount_0 16 rfl rfl)
theorem dJ12_bitCount_17 : decode cJ12_bitCount 17 = .ok (.iushr, 1) := dk_124 (dk_at dksJ12_bitCount_0 17 rfl rfl)
theorem dJ12_bitCount_18 : decode cJ12_bitCount 18 = .ok (.ldc_w 266, 3) := dk_19 1 10 (dk_at dksJ12_bitCount_0 18 rfl rfl)
theorem dJ12_bitCount_21 : decode cJ12_bitCount 21 = .ok (.iand, 1) := dk_126 (dk_at dksJ12_bitCount_0 21 rfl rfl)
theorem dJ12_bitCount_22 : decode cJ12_bitCount 22 = .ok (.iadd, 1) := dk_96 (dk_at dksJ12_bitCount_0 22 rfl rfl)
theorem dJ12_bitCount_23 : decode cJ12_bitCount 23 = .ok (.istore_n 0, 1) := dk_59 (dk_at dksJ12_bitCount_0 23 rfl rfl)
theorem dJ12_bitCount_24 : decode cJ12_bitCount 24 = .ok (.iload_n 0, 1) := dk_26 (dk_at dksJ12_bitCount_1 0 rfl rfl)
theorem dJ12_bitCount_25 : decode cJ12_bitCount 25 = .ok (.iload_n 0, 1) := dk_26 (dk_at dksJ12_bitCount_1 1 rfl rfl)
theorem dJ12_bitCount_26 : decode cJ12_bitCount 26 = .ok (.iconst 4, 1) := dk_7 (dk_at dksJ12_bitCount_1 2 rfl rfl)
theorem dJ12_bitCount_27 : decode cJ12_bitCount 27 = .ok (.iushr, 1) := dk_124 (dk_at dksJ12_bitCount_1 3 rfl rfl)
theorem dJ12_bitCount_28 : decode cJ12_bitCount 28 = .ok (.iadd, 1) := dk_96 (dk_at dksJ12_bitCount_1 4 rfl rfl)
theorem dJ12_bitCount_29 : decode cJ12_bitCount 29 = .ok (.ldc_w 267, 3) := dk_19 1 11 (dk_at dksJ12_bitCount_1 5 rfl rfl)
theorem dJ12_bitCount_32 : decode cJ12_bitCount 32 = .ok (.iand, 1) := dk_126 (dk_at dksJ12_bitCount_1 8 rfl rfl)
theorem dJ12_bitCount_33 : decode cJ12_bitCount 33 = .ok (.istore_n 0, 1) := dk_59 (dk_at dksJ12_bitCount_1 9 rfl rfl)
theorem dJ12_bitCount_34 : decode cJ12_bitCount 34 = .ok (.iload_n 0, 1) := dk_26 (dk_at dksJ12_bitCount_1 10 rfl rfl)
theorem dJ12_bitCount_35 : decode cJ12_bitCount 35 = .ok (.iload_n 0, 1) := dk_26 (dk_at dksJ12_bitCount_1 11 rfl rfl)
theorem dJ12_bitCount_36 : decode cJ12_bitCount 36 = .ok (.bipush 8, 2) := dk_16 8 (dk_at dksJ12_bitCount_1 12 rfl rfl)
theorem dJ12_bitCount_38 : decode cJ12_bitCount 38 = .ok (.iushr, 1) := dk_124 (dk_at dksJ12_bitCount_1 14 rfl rfl)
theorem dJ12_bitCount_39 : decode cJ12_bitCount 39 = .ok (.iadd, 1) := dk_96 (dk_at dksJ12_bitCount_1 15 rfl rfl)
theorem dJ12_bitCount_40 : decode cJ12_bitCount 40 = .ok (.istore_n 0, 1) := dk_59 (dk_at dksJ12_bitCount_1 16 rfl rfl)
theorem dJ12_bitCount_41 : decode cJ12_bitCount 41 = .ok (.iload_n 0, 1) := dk_26 (dk_at dksJ12_bitCount_1 17 rfl rfl)
theorem dJ12_bitCount_42 : decode cJ12_bitCount 42 = .ok (.iload_n 0, 1) := dk_26 (dk_at dksJ12_bitCount_1 18 rfl rfl)
theorem dJ12_bitCount_43 : decode cJ12_bitCount 43 = .ok (.bipush 16, 2) := dk_16 16 (dk_at dksJ12_bitCount_1 19 rfl rfl)
theorem dJ12_bitCount_45 : decode cJ12_bitCount 45 = .ok (.iushr, 1) := dk_124 (dk_at dksJ12_bitCount_1 21 rfl rfl)
theorem dJ12_bitCount_46 : decode cJ12_bitCount 46 = .ok (.iadd, 1) := dk_96 (dk_at dksJ12_bitCount_1 22 rfl rfl)
theorem dJ12_bitCount_47 : decode cJ12_bitCount 47 = .ok (.istore_n 0, 1) := dk_59 (dk_at dksJ12_bitCount_1 23 rfl rfl)
theorem dJ12_bitCount_48 : decode cJ12_bitCount 48 = .ok (.iload_n 0, 1) := dk_26 (dk_at dksJ12_bitCount_2 0 rfl rfl)
theorem dJ12_bitCount_49 : decode cJ12_bitCount 49 = .ok (.bipush 63, 2) := dk_16 63 (dk_at dksJ12_bitCount_2 1 rfl rfl)
theorem dJ12_bitCount_51 : decode cJ12_bitCount 51 = .ok (.iand, 1) := dk_126 (dk_at dksJ12_bitCount_2 3 rfl rfl)
theorem dJ12_bitCount_52 : decode cJ12_bitCount 52 = .ok (.ireturn, 1) := dk_172 (dk_at dksJ12_bitCount_2 4 rfl rfl)
theorem q195 : (Jvm.Cond.initialized "java/lang/Integer") ∈ lw_all := lw_g (lw_at lw_m1 32 rfl) rfl
theorem q1376 : (Jvm.Cond.static ({ cls := "java/lang/Integer", name := "bitCount", desc := "(I)I" } : Jvm.MethodName)) ∈ lw_all := lw_g (lw_at lw_m6 13 rfl) rfl
theorem q1377 : (Jvm.Cond.code ({ cls := "java/lang/Integer", name := "bitCount", desc := "(I)I" } : Jvm.MethodName) prog_23_method_49_code (1 : Nat) (Option.some Jvm.ClassFile.FieldType.int)) ∈ lw_all := lw_g (lw_at lw_m6 14 rfl) rfl
theorem q1378 : (Jvm.Cond.constant "java/lang/Integer" (265 : Nat) (1431655765 : Int32)) ∈ lw_all := lw_g (lw_at lw_m6 15 rfl) rfl
theorem q1379 : (Jvm.Cond.constant "java/lang/Integer" (266 : Nat) (858993459 : Int32)) ∈ lw_all := lw_g (lw_at lw_m6 16 rfl) rfl
theorem q1380 : (Jvm.Cond.constant "java/lang/Integer" (267 : Nat) (252645135 : Int32)) ∈ lw_all := lw_g (lw_at lw_m6 17 rfl) rfl
/-! AskingCourt$Tray -/
set_option maxRecDepth 100000
def RX1 : String := "AskingCourt$Tray"
def TX1 : u_T := fun k => match k with
  | _ => ("AskingCourt$Tray", "row", "Ljava/lang/Object;", false)
def tyX1 : Nat → FieldType := fun k => match k with
  | _ => .object "java/lang/Object"
abbrev wsX10 : List Cond := u_ws RX1 TX1 1
theorem nmX1 : ∀ a, a < 1 → ∀ b, b < 1 → a ≠ b → (TX1 a).2.1 ≠ (TX1 b).2.1 := by decide +kernel
theorem tyX1_ok : ∀ k, k < 1 → parseFieldDescriptor (TX1 k).2.2.1 = some (tyX1 k) := by decide +kernel
abbrev cX1_init : ByteArray := prog_14_method_1_code
def yX1_init : MethodName := ⟨RX1, "<init>", "()V"⟩
theorem dX1_init_0 : decode cX1_init 0 = .ok (.aload_n 0, 1) := by decide +kernel
theorem dX1_init_1 : decode cX1_init 1 = .ok (.invokespecial 1, 3) := by decide +kernel
theorem dX1_init_4 : decode cX1_init 4 = .ok (.return_, 1) := by decide +kernel
theorem q165 : (Jvm.Cond.initialized "AskingCourt$Tray") ∈ lw_all := lw_g (lw_at lw_m1 2 rfl) rfl
theorem q206 : (Jvm.Cond.instantiable "AskingCourt$Tray" (1 : Nat)) ∈ lw_all := lw_g (lw_at lw_m1 43 rfl) rfl
theorem q208 : (Jvm.Cond.instanceMethod ({ cls := "AskingCourt$Tray", name := "<init>", desc := "()V" } : Jvm.MethodName)) ∈ lw_all := lw_g (lw_at lw_m1 45 rfl) rfl
theorem q209 : (Jvm.Cond.code ({ cls := "AskingCourt$Tray", name := "<init>", desc := "()V" } : Jvm.MethodName) prog_14_method_1_code (1 : Nat) (Option.none : Option Jvm.ClassFile.FieldType)) ∈ lw_all := lw_g (lw_at lw_m1 46 rfl) rfl
theorem q210 : (Jvm.Cond.methodLink "AskingCourt$Tray" (1 : Nat) ({ cls := "java/lang/Object", name := "<init>", desc := "()V" } : Jvm.MethodName)) ∈ lw_all := lw_g (lw_at lw_m1 47 rfl) rfl
theorem q212 : (Jvm.Cond.lays "AskingCourt$Tray" "AskingCourt$Tray" "row" "Ljava/lang/Object;") ∈ lw_all := lw_g (lw_at lw_m1 49 rfl) rfl
theorem q213 : (Jvm.Cond.soleField "AskingCourt$Tray" "row") ∈ lw_all := lw_g (lw_at lw_m1 50 rfl) rfl
theorem q214 : (Jvm.Cond.superclass "AskingCourt$Tray" "java/lang/Object") ∈ lw_all := lw_g (lw_at lw_m1 51 rfl) rfl
theorem in_X1 : ∀ w ∈ wsX10, w ∈ lw_all := lw_in wsX10 [212] (by decide +kernel) (by decide +kernel)
/-! AskingCourt$Bad -/
set_option maxRecDepth 100000
def RX2 : String := "AskingCourt$Bad"
def TX2 : u_T := fun k => match k with
  | 0 => ("java/lang/Throwable", "cause", "Ljava/lang/Throwable;", false)
  | 1 => ("java/lang/Throwable", "stackTrace", "[Ljava/lang/StackTraceElement;", false)
  | 2 => ("java/lang/Throwable", "suppressedExceptions", "Ljava/util/List;", false)
  | 3 => ("java/lang/Throwable", "detailMessage", "Ljava/lang/String;", false)
  | 4 => ("java/lang/Throwable", "backtrace", "Ljava/lang/Object;", false)
  | 5 => ("java/lang/Throwable", "depth", "I", false)
  | 6 => ("AskingCourt$Bad", "kind", "I", false)
  | _ => ("AskingCourt$Bad", "place", "I", false)
def tyX2 : Nat → FieldType := fun k => match k with
  | 0 => .object "java/lang/Throwable"
  | 1 => .array (.object "java/lang/StackTraceElement")
  | 2 => .object "java/util/List"
  | 3 => .object "java/lang/String"
  | 4 => .object "java/lang/Object"
  | 5 => .int
  | 6 => .int
  | _ => .int
abbrev wsX20 : List Cond := u_ws RX2 TX2 8
theorem nmX2 : ∀ a, a < 8 → ∀ b, b < 8 → a ≠ b → (TX2 a).2.1 ≠ (TX2 b).2.1 := by decide +kernel
theorem tyX2_ok : ∀ k, k < 8 → parseFieldDescriptor (TX2 k).2.2.1 = some (tyX2 k) := by decide +kernel
abbrev cX2_init : ByteArray := prog_3_method_1_code
def yX2_init : MethodName := ⟨RX2, "<init>", "()V"⟩
def dkwX2_init_0 : List UInt8 := [42, 1, 1, 3, 3, 183, 0, 1, 177]
abbrev dktX2_init_0 : List UInt8 := dkwX2_init_0 ++ []
theorem dksX2_init_0 : cX2_init.data.toList.drop 0 = dktX2_init_0 := by decide +kernel
theorem dX2_init_0 : decode cX2_init 0 = .ok (.aload_n 0, 1) := dk_42 (dk_at dksX2_init_0 0 rfl rfl)
theorem dX2_init_1 : decode cX2_init 1 = .ok (.aconst_null, 1) := dk_1 (dk_at dksX2_init_0 1 rfl rfl)
theorem dX2_init_2 : decode cX2_init 2 = .ok (.aconst_null, 1) := dk_1 (dk_at dksX2_init_0 2 rfl rfl)
theorem dX2_init_3 : decode cX2_init 3 = .ok (.iconst 0, 1) := dk_3 (dk_at dksX2_init_0 3 rfl rfl)
theorem dX2_init_4 : decode cX2_init 4 = .ok (.iconst 0, 1) := dk_3 (dk_at dksX2_init_0 4 rfl rfl)
theorem dX2_init_5 : decode cX2_init 5 = .ok (.invokespecial 1, 3) := dk_183 0 1 (dk_at dksX2_init_0 5 rfl rfl)
theorem dX2_init_8 : decode cX2_init 8 = .ok (.return_, 1) := dk_177 (dk_at dksX2_init_0 8 rfl rfl)
abbrev cX2_at : ByteArray := prog_3_method_2_code
def yX2_at : MethodName := ⟨RX2, "at", "(II)LAskingCourt$Bad;"⟩
def dkwX2_at_0 : List UInt8 := [42, 27, 181, 0, 7, 42, 28, 181, 0, 13, 42, 176]
abbrev dktX2_at_0 : List UInt8 := dkwX2_at_0 ++ []
theorem dksX2_at_0 : cX2_at.data.toList.drop 0 = dktX2_at_0 := by decide +kernel
theorem dX2_at_0 : decode cX2_at 0 = .ok (.aload_n 0, 1) := dk_42 (dk_at dksX2_at_0 0 rfl rfl)
theorem dX2_at_1 : decode cX2_at 1 = .ok (.iload_n 1, 1) := dk_27 (dk_at dksX2_at_0 1 rfl rfl)
theorem dX2_at_2 : decode cX2_at 2 = .ok (.putfield 7, 3) := dk_181 0 7 (dk_at dksX2_at_0 2 rfl rfl)
theorem dX2_at_5 : decode cX2_at 5 = .ok (.aload_n 0, 1) := dk_42 (dk_at dksX2_at_0 5 rfl rfl)
theorem dX2_at_6 : decode cX2_at 6 = .ok (.iload_n 2, 1) := dk_28 (dk_at dksX2_at_0 6 rfl rfl)
theorem dX2_at_7 : decode cX2_at 7 = .ok (.putfield 13, 3) := dk_181 0 13 (dk_at dksX2_at_0 7 rfl rfl)
theorem dX2_at_10 : decode cX2_at 10 = .ok (.aload_n 0, 1) := dk_42 (dk_at dksX2_at_0 10 rfl rfl)
theorem dX2_at_11 : decode cX2_at 11 = .ok (.areturn, 1) := dk_176 (dk_at dksX2_at_0 11 rfl rfl)
theorem q168 : (Jvm.Cond.initialized "AskingCourt$Bad") ∈ lw_all := lw_g (lw_at lw_m1 5 rfl) rfl
theorem q216 : (Jvm.Cond.instantiable "AskingCourt$Bad" (8 : Nat)) ∈ lw_all := lw_g (lw_at lw_m1 53 rfl) rfl
theorem q217 : (Jvm.Cond.castable "AskingCourt$Bad" "AskingCourt$Bad") ∈ lw_tbl := lw_at lw_m1 54 rfl
theorem q222 : (Jvm.Cond.selects "AskingCourt$Bad" ({ cls := "java/lang/Throwable", name := "fillInStackTrace", desc := "(I)Ljava/lang/Throwable;" } : Jvm.MethodName) ({ cls := "java/lang/Throwable", name := "fillInStackTrace", desc := "(I)Ljava/lang/Throwable;" } : Jvm.MethodName)) ∈ lw_all := lw_g (lw_at lw_m1 59 rfl) rfl
theorem q223 : (Jvm.Cond.selects "AskingCourt$Bad" ({ cls := "java/lang/Throwable", name := "fillInStackTrace", desc := "()Ljava/lang/Throwable;" } : Jvm.MethodName) ({ cls := "java/lang/Throwable", name := "fillInStackTrace", desc := "()Ljava/lang/Throwable;" } : Jvm.MethodName)) ∈ lw_all := lw_g (lw_at lw_m1 60 rfl) rfl
theorem q224 : (Jvm.Cond.lays "AskingCourt$Bad" "java/lang/Throwable" "cause" "Ljava/lang/Throwable;") ∈ lw_all := lw_g (lw_at lw_m1 61 rfl) rfl
theorem q226 : (Jvm.Cond.lays "AskingCourt$Bad" "java/lang/Throwable" "stackTrace" "[Ljava/lang/StackTraceElement;") ∈ lw_all := lw_g (lw_at lw_m1 63 rfl) rfl
theorem q228 : (Jvm.Cond.lays "AskingCourt$Bad" "java/lang/Throwable" "suppressedExceptions" "Ljava/util/List;") ∈ lw_all := lw_g (lw_at lw_m1 65 rfl) rfl
theorem q230 : (Jvm.Cond.lays "AskingCourt$Bad" "java/lang/Throwable" "detailMessage" "Ljava/lang/String;") ∈ lw_all := lw_g (lw_at lw_m1 67 rfl) rfl
theorem q232 : (Jvm.Cond.lays "AskingCourt$Bad" "java/lang/Throwable" "backtrace" "Ljava/lang/Object;") ∈ lw_all := lw_g (lw_at lw_m1 69 rfl) rfl
theorem q256 : (Jvm.Cond.instanceMethod ({ cls := "AskingCourt$Bad", name := "<init>", desc := "()V" } : Jvm.MethodName)) ∈ lw_all := lw_g (lw_at lw_m1 93 rfl) rfl
theorem q257 : (Jvm.Cond.code ({ cls := "AskingCourt$Bad", name := "<init>", desc := "()V" } : Jvm.MethodName) prog_3_method_1_code (1 : Nat) (Option.none : Option Jvm.ClassFile.FieldType)) ∈ lw_all := lw_g (lw_at lw_m1 94 rfl) rfl
theorem q258 : (Jvm.Cond.methodLink "AskingCourt$Bad" (1 : Nat) ({ cls := "java/lang/Exception", name := "<init>", desc := "(Ljava/lang/String;Ljava/lang/Throwable;ZZ)V" } : Jvm.MethodName)) ∈ lw_all := lw_g (lw_at lw_m1 95 rfl) rfl
theorem q264 : (Jvm.Cond.fieldLink "AskingCourt$Bad" (7 : Nat) "AskingCourt$Bad" "kind" "I") ∈ lw_all := lw_g (lw_at lw_m1 101 rfl) rfl
theorem q266 : (Jvm.Cond.fieldLink "AskingCourt$Bad" (13 : Nat) "AskingCourt$Bad" "place" "I") ∈ lw_all := lw_g (lw_at lw_m1 103 rfl) rfl
theorem q273 : (Jvm.Cond.lays "AskingCourt$Bad" "AskingCourt$Bad" "kind" "I") ∈ lw_all := lw_g (lw_at lw_m1 110 rfl) rfl
theorem q274 : (Jvm.Cond.soleField "AskingCourt$Bad" "kind") ∈ lw_all := lw_g (lw_at lw_m1 111 rfl) rfl
theorem q275 : (Jvm.Cond.lays "AskingCourt$Bad" "AskingCourt$Bad" "place" "I") ∈ lw_all := lw_g (lw_at lw_m1 112 rfl) rfl
theorem q276 : (Jvm.Cond.soleField "AskingCourt$Bad" "place") ∈ lw_all := lw_g (lw_at lw_m1 113 rfl) rfl
theorem q281 : (Jvm.Cond.lays "AskingCourt$Bad" "java/lang/Throwable" "depth" "I") ∈ lw_all := lw_g (lw_at lw_m1 118 rfl) rfl
theorem q284 : (Jvm.Cond.superclass "AskingCourt$Bad" "java/lang/Exception") ∈ lw_all := lw_g (lw_at lw_m1 121 rfl) rfl
theorem q830 : (Jvm.Cond.instanceMethod ({ cls := "AskingCourt$Bad", name := "at", desc := "(II)LAskingCourt$Bad;" } : Jvm.MethodName)) ∈ lw_all := lw_g (lw_at lw_m3 187 rfl) rfl
theorem q831 : (Jvm.Cond.selects "AskingCourt$Bad" ({ cls := "AskingCourt$Bad", name := "at", desc := "(II)LAskingCourt$Bad;" } : Jvm.MethodName) ({ cls := "AskingCourt$Bad", name := "at", desc := "(II)LAskingCourt$Bad;" } : Jvm.MethodName)) ∈ lw_all := lw_g (lw_at lw_m3 188 rfl) rfl
theorem q832 : (Jvm.Cond.code ({ cls := "AskingCourt$Bad", name := "at", desc := "(II)LAskingCourt$Bad;" } : Jvm.MethodName) prog_3_method_2_code (3 : Nat) (Option.some (Jvm.ClassFile.FieldType.object "AskingCourt$Bad"))) ∈ lw_all := lw_g (lw_at lw_m3 189 rfl) rfl
theorem in_X2 : ∀ w ∈ wsX20, w ∈ lw_all := lw_in wsX20 [224, 226, 228, 230, 232, 281, 273, 275] (by decide +kernel) (by decide +kernel)
/-! AskingCourt$Refused -/
set_option maxRecDepth 100000
def RX3 : String := "AskingCourt$Refused"
def TX3 : u_T := fun k => match k with
  | 0 => ("java/lang/Throwable", "cause", "Ljava/lang/Throwable;", false)
  | 1 => ("java/lang/Throwable", "stackTrace", "[Ljava/lang/StackTraceElement;", false)
  | 2 => ("java/lang/Throwable", "suppressedExceptions", "Ljava/util/List;", false)
  | 3 => ("java/lang/Throwable", "detailMessage", "Ljava/lang/String;", false)
  | 4 => ("java/lang/Throwable", "backtrace", "Ljava/lang/Object;", false)
  | 5 => ("java/lang/Throwable", "depth", "I", false)
  | _ => ("AskingCourt$Refused", "why", "I", false)
def tyX3 : Nat → FieldType := fun k => match k with
  | 0 => .object "java/lang/Throwable"
  | 1 => .array (.object "java/lang/StackTraceElement")
  | 2 => .object "java/util/List"
  | 3 => .object "java/lang/String"
  | 4 => .object "java/lang/Object"
  | 5 => .int
  | _ => .int
abbrev wsX30 : List Cond := u_ws RX3 TX3 7
theorem nmX3 : ∀ a, a < 7 → ∀ b, b < 7 → a ≠ b → (TX3 a).2.1 ≠ (TX3 b).2.1 := by decide +kernel
theorem tyX3_ok : ∀ k, k < 7 → parseFieldDescriptor (TX3 k).2.2.1 = some (tyX3 k) := by decide +kernel
abbrev cX3_init : ByteArray := prog_10_method_1_code
def yX3_init : MethodName := ⟨RX3, "<init>", "()V"⟩
def dkwX3_init_0 : List UInt8 := [42, 1, 1, 3, 3, 183, 0, 1, 177]
abbrev dktX3_init_0 : List UInt8 := dkwX3_init_0 ++ []
theorem dksX3_init_0 : cX3_init.data.toList.drop 0 = dktX3_init_0 := by decide +kernel
theorem dX3_init_0 : decode cX3_init 0 = .ok (.aload_n 0, 1) := dk_42 (dk_at dksX3_init_0 0 rfl rfl)
theorem dX3_init_1 : decode cX3_init 1 = .ok (.aconst_null, 1) := dk_1 (dk_at dksX3_init_0 1 rfl rfl)
theorem dX3_init_2 : decode cX3_init 2 = .ok (.aconst_null, 1) := dk_1 (dk_at dksX3_init_0 2 rfl rfl)
theorem dX3_init_3 : decode cX3_init 3 = .ok (.iconst 0, 1) := dk_3 (dk_at dksX3_init_0 3 rfl rfl)
theorem dX3_init_4 : decode cX3_init 4 = .ok (.iconst 0, 1) := dk_3 (dk_at dksX3_init_0 4 rfl rfl)
theorem dX3_init_5 : decode cX3_init 5 = .ok (.invokespecial 1, 3) := dk_183 0 1 (dk_at dksX3_init_0 5 rfl rfl)
theorem dX3_init_8 : decode cX3_init 8 = .ok (.return_, 1) := dk_177 (dk_at dksX3_init_0 8 rfl rfl)
abbrev cX3_by : ByteArray := prog_10_method_2_code
def yX3_by : MethodName := ⟨RX3, "by", "(I)LAskingCourt$Refused;"⟩
def dkwX3_by_0 : List UInt8 := [42, 27, 181, 0, 7, 42, 176]
abbrev dktX3_by_0 : List UInt8 := dkwX3_by_0 ++ []
theorem dksX3_by_0 : cX3_by.data.toList.drop 0 = dktX3_by_0 := by decide +kernel
theorem dX3_by_0 : decode cX3_by 0 = .ok (.aload_n 0, 1) := dk_42 (dk_at dksX3_by_0 0 rfl rfl)
theorem dX3_by_1 : decode cX3_by 1 = .ok (.iload_n 1, 1) := dk_27 (dk_at dksX3_by_0 1 rfl rfl)
theorem dX3_by_2 : decode cX3_by 2 = .ok (.putfield 7, 3) := dk_181 0 7 (dk_at dksX3_by_0 2 rfl rfl)
theorem dX3_by_5 : decode cX3_by 5 = .ok (.aload_n 0, 1) := dk_42 (dk_at dksX3_by_0 5 rfl rfl)
theorem dX3_by_6 : decode cX3_by 6 = .ok (.areturn, 1) := dk_176 (dk_at dksX3_by_0 6 rfl rfl)
theorem q169 : (Jvm.Cond.initialized "AskingCourt$Refused") ∈ lw_all := lw_g (lw_at lw_m1 6 rfl) rfl
theorem q246 : (Jvm.Cond.selects "AskingCourt$Refused" ({ cls := "java/lang/Throwable", name := "fillInStackTrace", desc := "()Ljava/lang/Throwable;" } : Jvm.MethodName) ({ cls := "java/lang/Throwable", name := "fillInStackTrace", desc := "()Ljava/lang/Throwable;" } : Jvm.MethodName)) ∈ lw_all := lw_g (lw_at lw_m1 83 rfl) rfl
theorem q287 : (Jvm.Cond.instantiable "AskingCourt$Refused" (7 : Nat)) ∈ lw_all := lw_g (lw_at lw_m1 124 rfl) rfl
theorem q288 : (Jvm.Cond.castable "AskingCourt$Refused" "AskingCourt$Refused") ∈ lw_tbl := lw_at lw_m1 125 rfl
theorem q289 : (Jvm.Cond.selects "AskingCourt$Refused" ({ cls := "java/lang/Throwable", name := "fillInStackTrace", desc := "(I)Ljava/lang/Throwable;" } : Jvm.MethodName) ({ cls := "java/lang/Throwable", name := "fillInStackTrace", desc := "(I)Ljava/lang/Throwable;" } : Jvm.MethodName)) ∈ lw_all := lw_g (lw_at lw_m1 126 rfl) rfl
theorem q290 : (Jvm.Cond.lays "AskingCourt$Refused" "java/lang/Throwable" "cause" "Ljava/lang/Throwable;") ∈ lw_all := lw_g (lw_at lw_m1 127 rfl) rfl
theorem q291 : (Jvm.Cond.lays "AskingCourt$Refused" "java/lang/Throwable" "stackTrace" "[Ljava/lang/StackTraceElement;") ∈ lw_all := lw_g (lw_at lw_m1 128 rfl) rfl
theorem q292 : (Jvm.Cond.lays "AskingCourt$Refused" "java/lang/Throwable" "suppressedExceptions" "Ljava/util/List;") ∈ lw_all := lw_g (lw_at lw_m1 129 rfl) rfl
theorem q293 : (Jvm.Cond.lays "AskingCourt$Refused" "java/lang/Throwable" "detailMessage" "Ljava/lang/String;") ∈ lw_all := lw_g (lw_at lw_m1 130 rfl) rfl
theorem q294 : (Jvm.Cond.lays "AskingCourt$Refused" "java/lang/Throwable" "backtrace" "Ljava/lang/Object;") ∈ lw_all := lw_g (lw_at lw_m1 131 rfl) rfl
theorem q296 : (Jvm.Cond.instanceMethod ({ cls := "AskingCourt$Refused", name := "<init>", desc := "()V" } : Jvm.MethodName)) ∈ lw_all := lw_g (lw_at lw_m1 133 rfl) rfl
theorem q297 : (Jvm.Cond.code ({ cls := "AskingCourt$Refused", name := "<init>", desc := "()V" } : Jvm.MethodName) prog_10_method_1_code (1 : Nat) (Option.none : Option Jvm.ClassFile.FieldType)) ∈ lw_all := lw_g (lw_at lw_m1 134 rfl) rfl
theorem q298 : (Jvm.Cond.methodLink "AskingCourt$Refused" (1 : Nat) ({ cls := "java/lang/Exception", name := "<init>", desc := "(Ljava/lang/String;Ljava/lang/Throwable;ZZ)V" } : Jvm.MethodName)) ∈ lw_all := lw_g (lw_at lw_m1 135 rfl) rfl
theorem q299 : (Jvm.Cond.fieldLink "AskingCourt$Refused" (7 : Nat) "AskingCourt$Refused" "why" "I") ∈ lw_all := lw_g (lw_at lw_m1 136 rfl) rfl
theorem q301 : (Jvm.Cond.lays "AskingCourt$Refused" "AskingCourt$Refused" "why" "I") ∈ lw_all := lw_g (lw_at lw_m1 138 rfl) rfl
theorem q302 : (Jvm.Cond.soleField "AskingCourt$Refused" "why") ∈ lw_all := lw_g (lw_at lw_m1 139 rfl) rfl
theorem q303 : (Jvm.Cond.lays "AskingCourt$Refused" "java/lang/Throwable" "depth" "I") ∈ lw_all := lw_g (lw_at lw_m1 140 rfl) rfl
theorem q304 : (Jvm.Cond.superclass "AskingCourt$Refused" "java/lang/Exception") ∈ lw_all := lw_g (lw_at lw_m1 141 rfl) rfl
theorem q642 : (Jvm.Cond.instanceMethod ({ cls := "AskingCourt$Refused", name := "by", desc := "(I)LAskingCourt$Refused;" } : Jvm.MethodName)) ∈ lw_all := lw_g (lw_at lw_m2 239 rfl) rfl
theorem q643 : (Jvm.Cond.selects "AskingCourt$Refused" ({ cls := "AskingCourt$Refused", name := "by", desc := "(I)LAskingCourt$Refused;" } : Jvm.MethodName) ({ cls := "AskingCourt$Refused", name := "by", desc := "(I)LAskingCourt$Refused;" } : Jvm.MethodName)) ∈ lw_all := lw_g (lw_at lw_m3 0 rfl) rfl
theorem q644 : (Jvm.Cond.code ({ cls := "AskingCourt$Refused", name := "by", desc := "(I)LAskingCourt$Refused;" } : Jvm.MethodName) prog_10_method_2_code (2 : Nat) (Option.some (Jvm.ClassFile.FieldType.object "AskingCourt$Refused"))) ∈ lw_all := lw_g (lw_at lw_m3 1 rfl) rfl
theorem in_X3 : ∀ w ∈ wsX30, w ∈ lw_all := lw_in wsX30 [290, 291, 292, 293, 294, 303, 301] (by decide +kernel) (by decide +kernel)
/-! AskingCourt$House -/
set_option maxRecDepth 100000
def RX4 : String := "AskingCourt$House"
def TX4 : u_T := fun k => match k with
  | 0 => ("AskingCourt$House", "court", "LAskingCourt$Case;", false)
  | 1 => ("AskingCourt$House", "record", "LAskingCourt$Record;", true)
  | _ => ("AskingCourt$House", "plan", "LAskingCourt$Block;", false)
def tyX4 : Nat → FieldType := fun k => match k with
  | 0 => .object "AskingCourt$Case"
  | 1 => .object "AskingCourt$Record"
  | _ => .object "AskingCourt$Block"
abbrev wsX40 : List Cond := u_ws RX4 TX4 3
theorem nmX4 : ∀ a, a < 3 → ∀ b, b < 3 → a ≠ b → (TX4 a).2.1 ≠ (TX4 b).2.1 := by decide +kernel
theorem tyX4_ok : ∀ k, k < 3 → parseFieldDescriptor (TX4 k).2.2.1 = some (tyX4 k) := by decide +kernel
abbrev cX4_init : ByteArray := prog_6_method_1_code
def yX4_init : MethodName := ⟨RX4, "<init>", "()V"⟩
def dkwX4_init_1 : List UInt8 := [181, 0, 19, 177]
abbrev dktX4_init_1 : List UInt8 := dkwX4_init_1 ++ []
def dkwX4_init_0 : List UInt8 := [42, 183, 0, 1, 42, 187, 0, 7, 89, 183, 0, 9, 181, 0, 10, 42, 187, 0, 16, 89, 183, 0, 18]
abbrev dktX4_init_0 : List UInt8 := dkwX4_init_0 ++ dktX4_init_1
theorem dksX4_init_0 : cX4_init.data.toList.drop 0 = dktX4_init_0 := by decide +kernel
theorem dksX4_init_1 : cX4_init.data.toList.drop 23 = dktX4_init_1 := dk_seg dksX4_init_0 23 rfl rfl
theorem dX4_init_0 : decode cX4_init 0 = .ok (.aload_n 0, 1) := dk_42 (dk_at dksX4_init_0 0 rfl rfl)
theorem dX4_init_1 : decode cX4_init 1 = .ok (.invokespecial 1, 3) := dk_183 0 1 (dk_at dksX4_init_0 1 rfl rfl)
theorem dX4_init_4 : decode cX4_init 4 = .ok (.aload_n 0, 1) := dk_42 (dk_at dksX4_init_0 4 rfl rfl)
theorem dX4_init_5 : decode cX4_init 5 = .ok (.new 7, 3) := dk_187 0 7 (dk_at dksX4_init_0 5 rfl rfl)
theorem dX4_init_8 : decode cX4_init 8 = .ok (.dup, 1) := dk_89 (dk_at dksX4_init_0 8 rfl rfl)
theorem dX4_init_9 : decode cX4_init 9 = .ok (.invokespecial 9, 3) := dk_183 0 9 (dk_at dksX4_init_0 9 rfl rfl)
theorem dX4_init_12 : decode cX4_init 12 = .ok (.putfield 10, 3) := dk_181 0 10 (dk_at dksX4_init_0 12 rfl rfl)
theorem dX4_init_15 : decode cX4_init 15 = .ok (.aload_n 0, 1) := dk_42 (dk_at dksX4_init_0 15 rfl rfl)
theorem dX4_init_16 : decode cX4_init 16 = .ok (.new 16, 3) := dk_187 0 16 (dk_at dksX4_init_0 16 rfl rfl)
theorem dX4_init_19 : decode cX4_init 19 = .ok (.dup, 1) := dk_89 (dk_at dksX4_init_0 19 rfl rfl)
theorem dX4_init_20 : decode cX4_init 20 = .ok (.invokespecial 18, 3) := dk_183 0 18 (dk_at dksX4_init_0 20 rfl rfl)
theorem dX4_init_23 : decode cX4_init 23 = .ok (.putfield 19, 3) := dk_181 0 19 (dk_at dksX4_init_1 0 rfl rfl)
theorem dX4_init_26 : decode cX4_init 26 = .ok (.return_, 1) := dk_177 (dk_at dksX4_init_1 3 rfl rfl)
abbrev cX4_be : ByteArray := prog_6_method_2_code
def yX4_be : MethodName := ⟨RX4, "be", "(LAskingCourt$House;)V"⟩
def dkwX4_be_1 : List UInt8 := [181, 0, 27, 177]
abbrev dktX4_be_1 : List UInt8 := dkwX4_be_1 ++ []
def dkwX4_be_0 : List UInt8 := [42, 43, 180, 0, 10, 181, 0, 10, 42, 180, 0, 19, 43, 180, 0, 19, 182, 0, 23, 42, 43, 180, 0, 27]
abbrev dktX4_be_0 : List UInt8 := dkwX4_be_0 ++ dktX4_be_1
theorem dksX4_be_0 : cX4_be.data.toList.drop 0 = dktX4_be_0 := by decide +kernel
theorem dksX4_be_1 : cX4_be.data.toList.drop 24 = dktX4_be_1 := dk_seg dksX4_be_0 24 rfl rfl
theorem dX4_be_0 : decode cX4_be 0 = .ok (.aload_n 0, 1) := dk_42 (dk_at dksX4_be_0 0 rfl rfl)
theorem dX4_be_1 : decode cX4_be 1 = .ok (.aload_n 1, 1) := dk_43 (dk_at dksX4_be_0 1 rfl rfl)
theorem dX4_be_2 : decode cX4_be 2 = .ok (.getfield 10, 3) := dk_180 0 10 (dk_at dksX4_be_0 2 rfl rfl)
theorem dX4_be_5 : decode cX4_be 5 = .ok (.putfield 10, 3) := dk_181 0 10 (dk_at dksX4_be_0 5 rfl rfl)
theorem dX4_be_8 : decode cX4_be 8 = .ok (.aload_n 0, 1) := dk_42 (dk_at dksX4_be_0 8 rfl rfl)
theorem dX4_be_9 : decode cX4_be 9 = .ok (.getfield 19, 3) := dk_180 0 19 (dk_at dksX4_be_0 9 rfl rfl)
theorem dX4_be_12 : decode cX4_be 12 = .ok (.aload_n 1, 1) := dk_43 (dk_at dksX4_be_0 12 rfl rfl)
theorem dX4_be_13 : decode cX4_be 13 = .ok (.getfield 19, 3) := dk_180 0 19 (dk_at dksX4_be_0 13 rfl rfl)
theorem dX4_be_16 : decode cX4_be 16 = .ok (.invokevirtual 23, 3) := dk_182 0 23 (dk_at dksX4_be_0 16 rfl rfl)
theorem dX4_be_19 : decode cX4_be 19 = .ok (.aload_n 0, 1) := dk_42 (dk_at dksX4_be_0 19 rfl rfl)
theorem dX4_be_20 : decode cX4_be 20 = .ok (.aload_n 1, 1) := dk_43 (dk_at dksX4_be_0 20 rfl rfl)
theorem dX4_be_21 : decode cX4_be 21 = .ok (.getfield 27, 3) := dk_180 0 27 (dk_at dksX4_be_0 21 rfl rfl)
theorem dX4_be_24 : decode cX4_be 24 = .ok (.putfield 27, 3) := dk_181 0 27 (dk_at dksX4_be_1 0 rfl rfl)
theorem dX4_be_27 : decode cX4_be 27 = .ok (.return_, 1) := dk_177 (dk_at dksX4_be_1 3 rfl rfl)
theorem q170 : (Jvm.Cond.initialized "AskingCourt$House") ∈ lw_all := lw_g (lw_at lw_m1 7 rfl) rfl
theorem q306 : (Jvm.Cond.instantiable "AskingCourt$House" (3 : Nat)) ∈ lw_all := lw_g (lw_at lw_m1 143 rfl) rfl
theorem q308 : (Jvm.Cond.instanceMethod ({ cls := "AskingCourt$House", name := "<init>", desc := "()V" } : Jvm.MethodName)) ∈ lw_all := lw_g (lw_at lw_m1 145 rfl) rfl
theorem q309 : (Jvm.Cond.code ({ cls := "AskingCourt$House", name := "<init>", desc := "()V" } : Jvm.MethodName) prog_6_method_1_code (1 : Nat) (Option.none : Option Jvm.ClassFile.FieldType)) ∈ lw_all := lw_g (lw_at lw_m1 146 rfl) rfl
theorem q310 : (Jvm.Cond.methodLink "AskingCourt$House" (1 : Nat) ({ cls := "java/lang/Object", name := "<init>", desc := "()V" } : Jvm.MethodName)) ∈ lw_all := lw_g (lw_at lw_m1 147 rfl) rfl
theorem q311 : (Jvm.Cond.classLink "AskingCourt$House" (7 : Nat) "AskingCourt$Case") ∈ lw_all := lw_g (lw_at lw_m1 148 rfl) rfl
theorem q313 : (Jvm.Cond.methodLink "AskingCourt$House" (9 : Nat) ({ cls := "AskingCourt$Case", name := "<init>", desc := "()V" } : Jvm.MethodName)) ∈ lw_all := lw_g (lw_at lw_m1 150 rfl) rfl
theorem q436 : (Jvm.Cond.classLink "AskingCourt$House" (16 : Nat) "AskingCourt$Record") ∈ lw_all := lw_g (lw_at lw_m2 33 rfl) rfl
theorem q438 : (Jvm.Cond.methodLinkNest "AskingCourt$House" (18 : Nat) ({ cls := "AskingCourt$Record", name := "<init>", desc := "()V" } : Jvm.MethodName) "AskingCourt") ∈ lw_tbl := lw_at lw_m2 35 rfl
theorem q468 : (Jvm.Cond.fieldLink "AskingCourt$House" (10 : Nat) "AskingCourt$House" "court" "LAskingCourt$Case;") ∈ lw_all := lw_g (lw_at lw_m2 65 rfl) rfl
theorem q472 : (Jvm.Cond.fieldLink "AskingCourt$House" (19 : Nat) "AskingCourt$House" "record" "LAskingCourt$Record;") ∈ lw_all := lw_g (lw_at lw_m2 69 rfl) rfl
theorem q474 : (Jvm.Cond.fieldLink "AskingCourt$House" (27 : Nat) "AskingCourt$House" "plan" "LAskingCourt$Block;") ∈ lw_all := lw_g (lw_at lw_m2 71 rfl) rfl
theorem q476 : (Jvm.Cond.lays "AskingCourt$House" "AskingCourt$House" "court" "LAskingCourt$Case;") ∈ lw_all := lw_g (lw_at lw_m2 73 rfl) rfl
theorem q477 : (Jvm.Cond.soleField "AskingCourt$House" "court") ∈ lw_all := lw_g (lw_at lw_m2 74 rfl) rfl
theorem q478 : (Jvm.Cond.laysFinal "AskingCourt$House" "AskingCourt$House" "record" "LAskingCourt$Record;") ∈ lw_all := lw_g (lw_at lw_m2 75 rfl) rfl
theorem q479 : (Jvm.Cond.soleField "AskingCourt$House" "record") ∈ lw_all := lw_g (lw_at lw_m2 76 rfl) rfl
theorem q480 : (Jvm.Cond.lays "AskingCourt$House" "AskingCourt$House" "plan" "LAskingCourt$Block;") ∈ lw_all := lw_g (lw_at lw_m2 77 rfl) rfl
theorem q481 : (Jvm.Cond.soleField "AskingCourt$House" "plan") ∈ lw_all := lw_g (lw_at lw_m2 78 rfl) rfl
theorem q482 : (Jvm.Cond.superclass "AskingCourt$House" "java/lang/Object") ∈ lw_all := lw_g (lw_at lw_m2 79 rfl) rfl
theorem q1575 : (Jvm.Cond.instanceMethod ({ cls := "AskingCourt$House", name := "be", desc := "(LAskingCourt$House;)V" } : Jvm.MethodName)) ∈ lw_all := lw_g (lw_at lw_m6 212 rfl) rfl
theorem q1576 : (Jvm.Cond.selects "AskingCourt$House" ({ cls := "AskingCourt$House", name := "be", desc := "(LAskingCourt$House;)V" } : Jvm.MethodName) ({ cls := "AskingCourt$House", name := "be", desc := "(LAskingCourt$House;)V" } : Jvm.MethodName)) ∈ lw_all := lw_g (lw_at lw_m6 213 rfl) rfl
theorem q1577 : (Jvm.Cond.code ({ cls := "AskingCourt$House", name := "be", desc := "(LAskingCourt$House;)V" } : Jvm.MethodName) prog_6_method_2_code (2 : Nat) (Option.none : Option Jvm.ClassFile.FieldType)) ∈ lw_all := lw_g (lw_at lw_m6 214 rfl) rfl
theorem q1578 : (Jvm.Cond.methodLink "AskingCourt$House" (23 : Nat) ({ cls := "AskingCourt$Record", name := "be", desc := "(LAskingCourt$Record;)V" } : Jvm.MethodName)) ∈ lw_all := lw_g (lw_at lw_m6 215 rfl) rfl
theorem in_X4 : ∀ w ∈ wsX40, w ∈ lw_all := lw_in wsX40 [476, 478, 480] (by decide +kernel) (by decide +kernel)
/-! AskingCourt$Witness -/
set_option maxRecDepth 100000
def RX11 : String := "AskingCourt$Witness"
def TX11 : u_T := fun k => match k with
  | 0 => ("AskingCourt$Witness", "knows", "I", false)
  | 1 => ("AskingCourt$Witness", "hides", "I", false)
  | _ => ("AskingCourt$Witness", "may", "[I", true)
def tyX11 : Nat → FieldType := fun k => match k with
  | 0 => .int
  | 1 => .int
  | _ => .array .int
abbrev wsX110 : List Cond := u_ws RX11 TX11 3
theorem nmX11 : ∀ a, a < 3 → ∀ b, b < 3 → a ≠ b → (TX11 a).2.1 ≠ (TX11 b).2.1 := by decide +kernel
theorem tyX11_ok : ∀ k, k < 3 → parseFieldDescriptor (TX11 k).2.2.1 = some (tyX11 k) := by decide +kernel
abbrev cX11_init : ByteArray := prog_16_method_1_code
def yX11_init : MethodName := ⟨RX11, "<init>", "()V"⟩
def dkwX11_init_0 : List UInt8 := [42, 183, 0, 3, 42, 7, 188, 10, 181, 0, 9, 177]
abbrev dktX11_init_0 : List UInt8 := dkwX11_init_0 ++ []
theorem dksX11_init_0 : cX11_init.data.toList.drop 0 = dktX11_init_0 := by decide +kernel
theorem dX11_init_0 : decode cX11_init 0 = .ok (.aload_n 0, 1) := dk_42 (dk_at dksX11_init_0 0 rfl rfl)
theorem dX11_init_1 : decode cX11_init 1 = .ok (.invokespecial 3, 3) := dk_183 0 3 (dk_at dksX11_init_0 1 rfl rfl)
theorem dX11_init_4 : decode cX11_init 4 = .ok (.aload_n 0, 1) := dk_42 (dk_at dksX11_init_0 4 rfl rfl)
theorem dX11_init_5 : decode cX11_init 5 = .ok (.iconst 4, 1) := dk_7 (dk_at dksX11_init_0 5 rfl rfl)
theorem dX11_init_6 : decode cX11_init 6 = .ok (.newarray .int, 2) := dk_188_10 (dk_at dksX11_init_0 6 rfl rfl)
theorem dX11_init_8 : decode cX11_init 8 = .ok (.putfield 9, 3) := dk_181 0 9 (dk_at dksX11_init_0 8 rfl rfl)
theorem dX11_init_11 : decode cX11_init 11 = .ok (.return_, 1) := dk_177 (dk_at dksX11_init_0 11 rfl rfl)
abbrev cX11_mayBe : ByteArray := prog_16_method_2_code
def yX11_mayBe : MethodName := ⟨RX11, "mayBe", "()I"⟩
def dkwX11_mayBe_1 : List UInt8 := [167, 0, 4, 3, 128, 60, 132, 2, 1, 167, 255, 229, 27, 172]
abbrev dktX11_mayBe_1 : List UInt8 := dkwX11_mayBe_1 ++ []
def dkwX11_mayBe_0 : List UInt8 := [3, 60, 3, 61, 28, 7, 162, 0, 28, 27, 42, 180, 0, 9, 28, 46, 158, 0, 9, 4, 28, 120]
abbrev dktX11_mayBe_0 : List UInt8 := dkwX11_mayBe_0 ++ dktX11_mayBe_1
theorem dksX11_mayBe_0 : cX11_mayBe.data.toList.drop 0 = dktX11_mayBe_0 := by decide +kernel
theorem dksX11_mayBe_1 : cX11_mayBe.data.toList.drop 22 = dktX11_mayBe_1 := dk_seg dksX11_mayBe_0 22 rfl rfl
theorem dX11_mayBe_0 : decode cX11_mayBe 0 = .ok (.iconst 0, 1) := dk_3 (dk_at dksX11_mayBe_0 0 rfl rfl)
theorem dX11_mayBe_1 : decode cX11_mayBe 1 = .ok (.istore_n 1, 1) := dk_60 (dk_at dksX11_mayBe_0 1 rfl rfl)
theorem dX11_mayBe_2 : decode cX11_mayBe 2 = .ok (.iconst 0, 1) := dk_3 (dk_at dksX11_mayBe_0 2 rfl rfl)
theorem dX11_mayBe_3 : decode cX11_mayBe 3 = .ok (.istore_n 2, 1) := dk_61 (dk_at dksX11_mayBe_0 3 rfl rfl)
theorem dX11_mayBe_4 : decode cX11_mayBe 4 = .ok (.iload_n 2, 1) := dk_28 (dk_at dksX11_mayBe_0 4 rfl rfl)
theorem dX11_mayBe_5 : decode cX11_mayBe 5 = .ok (.iconst 4, 1) := dk_7 (dk_at dksX11_mayBe_0 5 rfl rfl)
theorem dX11_mayBe_6 : decode cX11_mayBe 6 = .ok (.if_icmp .ge 28, 3) := dk_162 0 28 (dk_at dksX11_mayBe_0 6 rfl rfl)
theorem dX11_mayBe_9 : decode cX11_mayBe 9 = .ok (.iload_n 1, 1) := dk_27 (dk_at dksX11_mayBe_0 9 rfl rfl)
theorem dX11_mayBe_10 : decode cX11_mayBe 10 = .ok (.aload_n 0, 1) := dk_42 (dk_at dksX11_mayBe_0 10 rfl rfl)
theorem dX11_mayBe_11 : decode cX11_mayBe 11 = .ok (.getfield 9, 3) := dk_180 0 9 (dk_at dksX11_mayBe_0 11 rfl rfl)
theorem dX11_mayBe_14 : decode cX11_mayBe 14 = .ok (.iload_n 2, 1) := dk_28 (dk_at dksX11_mayBe_0 14 rfl rfl)
theorem dX11_mayBe_15 : decode cX11_mayBe 15 = .ok (.iaload, 1) := dk_46 (dk_at dksX11_mayBe_0 15 rfl rfl)
theorem dX11_mayBe_16 : decode cX11_mayBe 16 = .ok (.ifCond .le 9, 3) := dk_158 0 9 (dk_at dksX11_mayBe_0 16 rfl rfl)
theorem dX11_mayBe_19 : decode cX11_mayBe 19 = .ok (.iconst 1, 1) := dk_4 (dk_at dksX11_mayBe_0 19 rfl rfl)
theorem dX11_mayBe_20 : decode cX11_mayBe 20 = .ok (.iload_n 2, 1) := dk_28 (dk_at dksX11_mayBe_0 20 rfl rfl)
theorem dX11_mayBe_21 : decode cX11_mayBe 21 = .ok (.ishl, 1) := dk_120 (dk_at dksX11_mayBe_0 21 rfl rfl)
theorem dX11_mayBe_22 : decode cX11_mayBe 22 = .ok (.goto 4, 3) := dk_167 0 4 (dk_at dksX11_mayBe_1 0 rfl rfl)
theorem dX11_mayBe_25 : decode cX11_mayBe 25 = .ok (.iconst 0, 1) := dk_3 (dk_at dksX11_mayBe_1 3 rfl rfl)
theorem dX11_mayBe_26 : decode cX11_mayBe 26 = .ok (.ior, 1) := dk_128 (dk_at dksX11_mayBe_1 4 rfl rfl)
theorem dX11_mayBe_27 : decode cX11_mayBe 27 = .ok (.istore_n 1, 1) := dk_60 (dk_at dksX11_mayBe_1 5 rfl rfl)
theorem dX11_mayBe_28 : decode cX11_mayBe 28 = .ok (.iinc 2 1, 3) := dk_132 2 1 (dk_at dksX11_mayBe_1 6 rfl rfl)
theorem dX11_mayBe_31 : decode cX11_mayBe 31 = .ok (.goto (-27), 3) := dk_167 255 229 (dk_at dksX11_mayBe_1 9 rfl rfl)
theorem dX11_mayBe_34 : decode cX11_mayBe 34 = .ok (.iload_n 1, 1) := dk_27 (dk_at dksX11_mayBe_1 12 rfl rfl)
theorem dX11_mayBe_35 : decode cX11_mayBe 35 = .ok (.ireturn, 1) := dk_172 (dk_at dksX11_mayBe_1 13 rfl rfl)
theorem q186 : (Jvm.Cond.initialized "AskingCourt$Witness") ∈ lw_all := lw_g (lw_at lw_m1 23 rfl) rfl
theorem q1006 : (Jvm.Cond.instantiable "AskingCourt$Witness" (3 : Nat)) ∈ lw_all := lw_g (lw_at lw_m4 123 rfl) rfl
theorem q1008 : (Jvm.Cond.instanceMethod ({ cls := "AskingCourt$Witness", name := "<init>", desc := "()V" } : Jvm.MethodName)) ∈ lw_all := lw_g (lw_at lw_m4 125 rfl) rfl
theorem q1009 : (Jvm.Cond.code ({ cls := "AskingCourt$Witness", name := "<init>", desc := "()V" } : Jvm.MethodName) prog_16_method_1_code (1 : Nat) (Option.none : Option Jvm.ClassFile.FieldType)) ∈ lw_all := lw_g (lw_at lw_m4 126 rfl) rfl
theorem q1010 : (Jvm.Cond.methodLink "AskingCourt$Witness" (3 : Nat) ({ cls := "java/lang/Object", name := "<init>", desc := "()V" } : Jvm.MethodName)) ∈ lw_all := lw_g (lw_at lw_m4 127 rfl) rfl
theorem q1017 : (Jvm.Cond.fieldLink "AskingCourt$Witness" (9 : Nat) "AskingCourt$Witness" "may" "[I") ∈ lw_all := lw_g (lw_at lw_m4 134 rfl) rfl
theorem q1021 : (Jvm.Cond.lays "AskingCourt$Witness" "AskingCourt$Witness" "knows" "I") ∈ lw_all := lw_g (lw_at lw_m4 138 rfl) rfl
theorem q1022 : (Jvm.Cond.soleField "AskingCourt$Witness" "knows") ∈ lw_all := lw_g (lw_at lw_m4 139 rfl) rfl
theorem q1023 : (Jvm.Cond.lays "AskingCourt$Witness" "AskingCourt$Witness" "hides" "I") ∈ lw_all := lw_g (lw_at lw_m4 140 rfl) rfl
theorem q1024 : (Jvm.Cond.soleField "AskingCourt$Witness" "hides") ∈ lw_all := lw_g (lw_at lw_m4 141 rfl) rfl
theorem q1025 : (Jvm.Cond.laysFinal "AskingCourt$Witness" "AskingCourt$Witness" "may" "[I") ∈ lw_all := lw_g (lw_at lw_m4 142 rfl) rfl
theorem q1026 : (Jvm.Cond.soleField "AskingCourt$Witness" "may") ∈ lw_all := lw_g (lw_at lw_m4 143 rfl) rfl
theorem q1027 : (Jvm.Cond.superclass "AskingCourt$Witness" "java/lang/Object") ∈ lw_all := lw_g (lw_at lw_m4 144 rfl) rfl
theorem q1313 : (Jvm.Cond.instanceMethod ({ cls := "AskingCourt$Witness", name := "mayBe", desc := "()I" } : Jvm.MethodName)) ∈ lw_all := lw_g (lw_at lw_m5 190 rfl) rfl
theorem q1314 : (Jvm.Cond.selects "AskingCourt$Witness" ({ cls := "AskingCourt$Witness", name := "mayBe", desc := "()I" } : Jvm.MethodName) ({ cls := "AskingCourt$Witness", name := "mayBe", desc := "()I" } : Jvm.MethodName)) ∈ lw_all := lw_g (lw_at lw_m5 191 rfl) rfl
theorem q1315 : (Jvm.Cond.code ({ cls := "AskingCourt$Witness", name := "mayBe", desc := "()I" } : Jvm.MethodName) prog_16_method_2_code (3 : Nat) (Option.some Jvm.ClassFile.FieldType.int)) ∈ lw_all := lw_g (lw_at lw_m5 192 rfl) rfl
theorem in_X11 : ∀ w ∈ wsX110, w ∈ lw_all := lw_in wsX110 [1021, 1023, 1025] (by decide +kernel) (by decide +kernel)
/-! AskingCourt$Step -/
set_option maxRecDepth 100000
def RX12 : String := "AskingCourt$Step"
abbrev cX12_init : ByteArray := prog_13_method_1_code
def yX12_init : MethodName := ⟨RX12, "<init>", "()V"⟩
theorem dX12_init_0 : decode cX12_init 0 = .ok (.aload_n 0, 1) := by decide +kernel
theorem dX12_init_1 : decode cX12_init 1 = .ok (.invokespecial 1, 3) := by decide +kernel
theorem dX12_init_4 : decode cX12_init 4 = .ok (.return_, 1) := by decide +kernel
theorem q188 : (Jvm.Cond.initialized "AskingCourt$Step") ∈ lw_all := lw_g (lw_at lw_m1 25 rfl) rfl
theorem q1095 : (Jvm.Cond.instanceMethod ({ cls := "AskingCourt$Step", name := "<init>", desc := "()V" } : Jvm.MethodName)) ∈ lw_all := lw_g (lw_at lw_m4 212 rfl) rfl
theorem q1096 : (Jvm.Cond.code ({ cls := "AskingCourt$Step", name := "<init>", desc := "()V" } : Jvm.MethodName) prog_13_method_1_code (1 : Nat) (Option.none : Option Jvm.ClassFile.FieldType)) ∈ lw_all := lw_g (lw_at lw_m4 213 rfl) rfl
theorem q1097 : (Jvm.Cond.methodLink "AskingCourt$Step" (1 : Nat) ({ cls := "java/lang/Object", name := "<init>", desc := "()V" } : Jvm.MethodName)) ∈ lw_all := lw_g (lw_at lw_m4 214 rfl) rfl
theorem q1522 : (Jvm.Cond.declares ({ cls := "AskingCourt$Step", name := "go", desc := "(LAskingCourt$Sitting;)V" } : Jvm.MethodName)) ∈ lw_tbl := lw_at lw_m6 159 rfl
theorem q1523 : (Jvm.Cond.sameMethod "AskingCourt$Step" "AskingCourt$Step" "go" "(LAskingCourt$Sitting;)V") ∈ lw_all := lw_g (lw_at lw_m6 160 rfl) rfl
/-! AskingCourt$Block -/
set_option maxRecDepth 100000
def RX13 : String := "AskingCourt$Block"
def TX13 : u_T := fun k => match k with
  | 0 => ("AskingCourt$Block", "steps", "[LAskingCourt$Step;", false)
  | _ => ("AskingCourt$Block", "size", "I", false)
def tyX13 : Nat → FieldType := fun k => match k with
  | 0 => .array (.object "AskingCourt$Step")
  | _ => .int
abbrev wsX130 : List Cond := u_ws RX13 TX13 2
theorem nmX13 : ∀ a, a < 2 → ∀ b, b < 2 → a ≠ b → (TX13 a).2.1 ≠ (TX13 b).2.1 := by decide +kernel
theorem tyX13_ok : ∀ k, k < 2 → parseFieldDescriptor (TX13 k).2.2.1 = some (tyX13 k) := by decide +kernel
abbrev cX13_init : ByteArray := prog_4_method_1_code
def yX13_init : MethodName := ⟨RX13, "<init>", "()V"⟩
def dkwX13_init_0 : List UInt8 := [42, 183, 0, 1, 42, 7, 189, 0, 2, 181, 0, 7, 177]
abbrev dktX13_init_0 : List UInt8 := dkwX13_init_0 ++ []
theorem dksX13_init_0 : cX13_init.data.toList.drop 0 = dktX13_init_0 := by decide +kernel
theorem dX13_init_0 : decode cX13_init 0 = .ok (.aload_n 0, 1) := dk_42 (dk_at dksX13_init_0 0 rfl rfl)
theorem dX13_init_1 : decode cX13_init 1 = .ok (.invokespecial 1, 3) := dk_183 0 1 (dk_at dksX13_init_0 1 rfl rfl)
theorem dX13_init_4 : decode cX13_init 4 = .ok (.aload_n 0, 1) := dk_42 (dk_at dksX13_init_0 4 rfl rfl)
theorem dX13_init_5 : decode cX13_init 5 = .ok (.iconst 4, 1) := dk_7 (dk_at dksX13_init_0 5 rfl rfl)
theorem dX13_init_6 : decode cX13_init 6 = .ok (.anewarray 2, 3) := dk_189 0 2 (dk_at dksX13_init_0 6 rfl rfl)
theorem dX13_init_9 : decode cX13_init 9 = .ok (.putfield 7, 3) := dk_181 0 7 (dk_at dksX13_init_0 9 rfl rfl)
theorem dX13_init_12 : decode cX13_init 12 = .ok (.return_, 1) := dk_177 (dk_at dksX13_init_0 12 rfl rfl)
abbrev cX13_add : ByteArray := prog_4_method_2_code
def yX13_add : MethodName := ⟨RX13, "add", "(LAskingCourt$Step;)V"⟩
def dkwX13_add_2 : List UInt8 := [180, 0, 13, 43, 83, 42, 89, 180, 0, 13, 4, 96, 181, 0, 13, 177]
abbrev dktX13_add_2 : List UInt8 := dkwX13_add_2 ++ []
def dkwX13_add_1 : List UInt8 := [180, 0, 7, 3, 44, 3, 42, 180, 0, 13, 184, 0, 17, 42, 44, 181, 0, 7, 42, 180, 0, 7, 42]
abbrev dktX13_add_1 : List UInt8 := dkwX13_add_1 ++ dktX13_add_2
def dkwX13_add_0 : List UInt8 := [42, 180, 0, 13, 42, 180, 0, 7, 190, 160, 0, 32, 5, 42, 180, 0, 13, 104, 189, 0, 2, 77, 42]
abbrev dktX13_add_0 : List UInt8 := dkwX13_add_0 ++ dktX13_add_1
theorem dksX13_add_0 : cX13_add.data.toList.drop 0 = dktX13_add_0 := by decide +kernel
theorem dksX13_add_1 : cX13_add.data.toList.drop 23 = dktX13_add_1 := dk_seg dksX13_add_0 23 rfl rfl
theorem dksX13_add_2 : cX13_add.data.toList.drop 46 = dktX13_add_2 := dk_seg dksX13_add_1 23 rfl rfl
theorem dX13_add_0 : decode cX13_add 0 = .ok (.aload_n 0, 1) := dk_42 (dk_at dksX13_add_0 0 rfl rfl)
theorem dX13_add_1 : decode cX13_add 1 = .ok (.getfield 13, 3) := dk_180 0 13 (dk_at dksX13_add_0 1 rfl rfl)
theorem dX13_add_4 : decode cX13_add 4 = .ok (.aload_n 0, 1) := dk_42 (dk_at dksX13_add_0 4 rfl rfl)
theorem dX13_add_5 : decode cX13_add 5 = .ok (.getfield 7, 3) := dk_180 0 7 (dk_at dksX13_add_0 5 rfl rfl)
theorem dX13_add_8 : decode cX13_add 8 = .ok (.arraylength, 1) := dk_190 (dk_at dksX13_add_0 8 rfl rfl)
theorem dX13_add_9 : decode cX13_add 9 = .ok (.if_icmp .ne 32, 3) := dk_160 0 32 (dk_at dksX13_add_0 9 rfl rfl)
theorem dX13_add_12 : decode cX13_add 12 = .ok (.iconst 2, 1) := dk_5 (dk_at dksX13_add_0 12 rfl rfl)
theorem dX13_add_13 : decode cX13_add 13 = .ok (.aload_n 0, 1) := dk_42 (dk_at dksX13_add_0 13 rfl rfl)
theorem dX13_add_14 : decode cX13_add 14 = .ok (.getfield 13, 3) := dk_180 0 13 (dk_at dksX13_add_0 14 rfl rfl)
theorem dX13_add_17 : decode cX13_add 17 = .ok (.imul, 1) := dk_104 (dk_at dksX13_add_0 17 rfl rfl)
theorem dX13_add_18 : decode cX13_add 18 = .ok (.anewarray 2, 3) := dk_189 0 2 (dk_at dksX13_add_0 18 rfl rfl)
theorem dX13_add_21 : decode cX13_add 21 = .ok (.astore_n 2, 1) := dk_77 (dk_at dksX13_add_0 21 rfl rfl)
theorem dX13_add_22 : decode cX13_add 22 = .ok (.aload_n 0, 1) := dk_42 (dk_at dksX13_add_0 22 rfl rfl)
theorem dX13_add_23 : decode cX13_add 23 = .ok (.getfield 7, 3) := dk_180 0 7 (dk_at dksX13_add_1 0 rfl rfl)
theorem dX13_add_26 : decode cX13_add 26 = .ok (.iconst 0, 1) := dk_3 (dk_at dksX13_add_1 3 rfl rfl)
theorem dX13_add_27 : decode cX13_add 27 = .ok (.aload_n 2, 1) := dk_44 (dk_at dksX13_add_1 4 rfl rfl)
theorem dX13_add_28 : decode cX13_add 28 = .ok (.iconst 0, 1) := dk_3 (dk_at dksX13_add_1 5 rfl rfl)
theorem dX13_add_29 : decode cX13_add 29 = .ok (.aload_n 0, 1) := dk_42 (dk_at dksX13_add_1 6 rfl rfl)
theorem dX13_add_30 : decode cX13_add 30 = .ok (.getfield 13, 3) := dk_180 0 13 (dk_at dksX13_add_1 7 rfl rfl)
theorem dX13_add_33 : decode cX13_add 33 = .ok (.invokestatic 17, 3) := dk_184 0 17 (dk_at dksX13_add_1 10 rfl rfl)
theorem dX13_add_36 : decode cX13_add 36 = .ok (.aload_n 0, 1) := dk_42 (dk_at dksX13_add_1 13 rfl rfl)
theorem dX13_add_37 : decode cX13_add 37 = .ok (.aload_n 2, 1) := dk_44 (dk_at dksX13_add_1 14 rfl rfl)
theorem dX13_add_38 : decode cX13_add 38 = .ok (.putfield 7, 3) := dk_181 0 7 (dk_at dksX13_add_1 15 rfl rfl)
theorem dX13_add_41 : decode cX13_add 41 = .ok (.aload_n 0, 1) := dk_42 (dk_at dksX13_add_1 18 rfl rfl)
theorem dX13_add_42 : decode cX13_add 42 = .ok (.getfield 7, 3) := dk_180 0 7 (dk_at dksX13_add_1 19 rfl rfl)
theorem dX13_add_45 : decode cX13_add 45 = .ok (.aload_n 0, 1) := dk_42 (dk_at dksX13_add_1 22 rfl rfl)
theorem dX13_add_46 : decode cX13_add 46 = .ok (.getfield 13, 3) := dk_180 0 13 (dk_at dksX13_add_2 0 rfl rfl)
theorem dX13_add_49 : decode cX13_add 49 = .ok (.aload_n 1, 1) := dk_43 (dk_at dksX13_add_2 3 rfl rfl)
theorem dX13_add_50 : decode cX13_add 50 = .ok (.aastore, 1) := dk_83 (dk_at dksX13_add_2 4 rfl rfl)
theorem dX13_add_51 : decode cX13_add 51 = .ok (.aload_n 0, 1) := dk_42 (dk_at dksX13_add_2 5 rfl rfl)
theorem dX13_add_52 : decode cX13_add 52 = .ok (.dup, 1) := dk_89 (dk_at dksX13_add_2 6 rfl rfl)
theorem dX13_add_53 : decode cX13_add 53 = .ok (.getfield 13, 3) := dk_180 0 13 (dk_at dksX13_add_2 7 rfl rfl)
theorem dX13_add_56 : decode cX13_add 56 = .ok (.iconst 1, 1) := dk_4 (dk_at dksX13_add_2 10 rfl rfl)
theorem dX13_add_57 : decode cX13_add 57 = .ok (.iadd, 1) := dk_96 (dk_at dksX13_add_2 11 rfl rfl)
theorem dX13_add_58 : decode cX13_add 58 = .ok (.putfield 13, 3) := dk_181 0 13 (dk_at dksX13_add_2 12 rfl rfl)
theorem dX13_add_61 : decode cX13_add 61 = .ok (.return_, 1) := dk_177 (dk_at dksX13_add_2 15 rfl rfl)
abbrev cX13_go : ByteArray := prog_4_method_3_code
def yX13_go : MethodName := ⟨RX13, "go", "(LAskingCourt$Sitting;)V"⟩
def dkwX13_go_1 : List UInt8 := [182, 0, 29, 132, 2, 1, 167, 255, 228, 177]
abbrev dktX13_go_1 : List UInt8 := dkwX13_go_1 ++ []
def dkwX13_go_0 : List UInt8 := [3, 61, 28, 42, 180, 0, 13, 162, 0, 26, 43, 182, 0, 23, 153, 0, 19, 42, 180, 0, 7, 28, 50, 43]
abbrev dktX13_go_0 : List UInt8 := dkwX13_go_0 ++ dktX13_go_1
theorem dksX13_go_0 : cX13_go.data.toList.drop 0 = dktX13_go_0 := by decide +kernel
theorem dksX13_go_1 : cX13_go.data.toList.drop 24 = dktX13_go_1 := dk_seg dksX13_go_0 24 rfl rfl
theorem dX13_go_0 : decode cX13_go 0 = .ok (.iconst 0, 1) := dk_3 (dk_at dksX13_go_0 0 rfl rfl)
theorem dX13_go_1 : decode cX13_go 1 = .ok (.istore_n 2, 1) := dk_61 (dk_at dksX13_go_0 1 rfl rfl)
theorem dX13_go_2 : decode cX13_go 2 = .ok (.iload_n 2, 1) := dk_28 (dk_at dksX13_go_0 2 rfl rfl)
theorem dX13_go_3 : decode cX13_go 3 = .ok (.aload_n 0, 1) := dk_42 (dk_at dksX13_go_0 3 rfl rfl)
theorem dX13_go_4 : decode cX13_go 4 = .ok (.getfield 13, 3) := dk_180 0 13 (dk_at dksX13_go_0 4 rfl rfl)
theorem dX13_go_7 : decode cX13_go 7 = .ok (.if_icmp .ge 26, 3) := dk_162 0 26 (dk_at dksX13_go_0 7 rfl rfl)
theorem dX13_go_10 : decode cX13_go 10 = .ok (.aload_n 1, 1) := dk_43 (dk_at dksX13_go_0 10 rfl rfl)
theorem dX13_go_11 : decode cX13_go 11 = .ok (.invokevirtual 23, 3) := dk_182 0 23 (dk_at dksX13_go_0 11 rfl rfl)
theorem dX13_go_14 : decode cX13_go 14 = .ok (.ifCond .eq 19, 3) := dk_153 0 19 (dk_at dksX13_go_0 14 rfl rfl)
theorem dX13_go_17 : decode cX13_go 17 = .ok (.aload_n 0, 1) := dk_42 (dk_at dksX13_go_0 17 rfl rfl)
theorem dX13_go_18 : decode cX13_go 18 = .ok (.getfield 7, 3) := dk_180 0 7 (dk_at dksX13_go_0 18 rfl rfl)
theorem dX13_go_21 : decode cX13_go 21 = .ok (.iload_n 2, 1) := dk_28 (dk_at dksX13_go_0 21 rfl rfl)
theorem dX13_go_22 : decode cX13_go 22 = .ok (.aaload, 1) := dk_50 (dk_at dksX13_go_0 22 rfl rfl)
theorem dX13_go_23 : decode cX13_go 23 = .ok (.aload_n 1, 1) := dk_43 (dk_at dksX13_go_0 23 rfl rfl)
theorem dX13_go_24 : decode cX13_go 24 = .ok (.invokevirtual 29, 3) := dk_182 0 29 (dk_at dksX13_go_1 0 rfl rfl)
theorem dX13_go_27 : decode cX13_go 27 = .ok (.iinc 2 1, 3) := dk_132 2 1 (dk_at dksX13_go_1 3 rfl rfl)
theorem dX13_go_30 : decode cX13_go 30 = .ok (.goto (-28), 3) := dk_167 255 228 (dk_at dksX13_go_1 6 rfl rfl)
theorem dX13_go_33 : decode cX13_go 33 = .ok (.return_, 1) := dk_177 (dk_at dksX13_go_1 9 rfl rfl)
theorem q189 : (Jvm.Cond.initialized "AskingCourt$Block") ∈ lw_all := lw_g (lw_at lw_m1 26 rfl) rfl
theorem q1090 : (Jvm.Cond.instantiable "AskingCourt$Block" (2 : Nat)) ∈ lw_all := lw_g (lw_at lw_m4 207 rfl) rfl
theorem q1092 : (Jvm.Cond.instanceMethod ({ cls := "AskingCourt$Block", name := "<init>", desc := "()V" } : Jvm.MethodName)) ∈ lw_all := lw_g (lw_at lw_m4 209 rfl) rfl
theorem q1093 : (Jvm.Cond.code ({ cls := "AskingCourt$Block", name := "<init>", desc := "()V" } : Jvm.MethodName) prog_4_method_1_code (1 : Nat) (Option.none : Option Jvm.ClassFile.FieldType)) ∈ lw_all := lw_g (lw_at lw_m4 210 rfl) rfl
theorem q1094 : (Jvm.Cond.methodLinkNest "AskingCourt$Block" (1 : Nat) ({ cls := "AskingCourt$Step", name := "<init>", desc := "()V" } : Jvm.MethodName) "AskingCourt") ∈ lw_tbl := lw_at lw_m4 211 rfl
theorem q1098 : (Jvm.Cond.classLink "AskingCourt$Block" (2 : Nat) "AskingCourt$Step") ∈ lw_all := lw_g (lw_at lw_m4 215 rfl) rfl
theorem q1100 : (Jvm.Cond.fieldLink "AskingCourt$Block" (7 : Nat) "AskingCourt$Block" "steps" "[LAskingCourt$Step;") ∈ lw_all := lw_g (lw_at lw_m4 217 rfl) rfl
theorem q1101 : (Jvm.Cond.fieldLink "AskingCourt$Block" (13 : Nat) "AskingCourt$Block" "size" "I") ∈ lw_all := lw_g (lw_at lw_m4 218 rfl) rfl
theorem q1102 : (Jvm.Cond.lays "AskingCourt$Block" "AskingCourt$Block" "steps" "[LAskingCourt$Step;") ∈ lw_all := lw_g (lw_at lw_m4 219 rfl) rfl
theorem q1103 : (Jvm.Cond.soleField "AskingCourt$Block" "steps") ∈ lw_all := lw_g (lw_at lw_m4 220 rfl) rfl
theorem q1104 : (Jvm.Cond.lays "AskingCourt$Block" "AskingCourt$Block" "size" "I") ∈ lw_all := lw_g (lw_at lw_m4 221 rfl) rfl
theorem q1105 : (Jvm.Cond.soleField "AskingCourt$Block" "size") ∈ lw_all := lw_g (lw_at lw_m4 222 rfl) rfl
theorem q1106 : (Jvm.Cond.superclass "AskingCourt$Block" "AskingCourt$Step") ∈ lw_all := lw_g (lw_at lw_m4 223 rfl) rfl
theorem q1189 : (Jvm.Cond.instanceMethod ({ cls := "AskingCourt$Block", name := "add", desc := "(LAskingCourt$Step;)V" } : Jvm.MethodName)) ∈ lw_all := lw_g (lw_at lw_m5 66 rfl) rfl
theorem q1190 : (Jvm.Cond.selects "AskingCourt$Block" ({ cls := "AskingCourt$Block", name := "add", desc := "(LAskingCourt$Step;)V" } : Jvm.MethodName) ({ cls := "AskingCourt$Block", name := "add", desc := "(LAskingCourt$Step;)V" } : Jvm.MethodName)) ∈ lw_all := lw_g (lw_at lw_m5 67 rfl) rfl
theorem q1191 : (Jvm.Cond.sameMethod "AskingCourt$Block" "AskingCourt$Block" "add" "(LAskingCourt$Step;)V") ∈ lw_all := lw_g (lw_at lw_m5 68 rfl) rfl
theorem q1193 : (Jvm.Cond.code ({ cls := "AskingCourt$Block", name := "add", desc := "(LAskingCourt$Step;)V" } : Jvm.MethodName) prog_4_method_2_code (3 : Nat) (Option.none : Option Jvm.ClassFile.FieldType)) ∈ lw_all := lw_g (lw_at lw_m5 70 rfl) rfl
theorem q1194 : (Jvm.Cond.methodLink "AskingCourt$Block" (17 : Nat) ({ cls := "java/lang/System", name := "arraycopy", desc := "(Ljava/lang/Object;ILjava/lang/Object;II)V" } : Jvm.MethodName)) ∈ lw_all := lw_g (lw_at lw_m5 71 rfl) rfl
theorem q1497 : (Jvm.Cond.instanceMethod ({ cls := "AskingCourt$Block", name := "go", desc := "(LAskingCourt$Sitting;)V" } : Jvm.MethodName)) ∈ lw_all := lw_g (lw_at lw_m6 134 rfl) rfl
theorem q1498 : (Jvm.Cond.selects "AskingCourt$Block" ({ cls := "AskingCourt$Block", name := "go", desc := "(LAskingCourt$Sitting;)V" } : Jvm.MethodName) ({ cls := "AskingCourt$Block", name := "go", desc := "(LAskingCourt$Sitting;)V" } : Jvm.MethodName)) ∈ lw_all := lw_g (lw_at lw_m6 135 rfl) rfl
theorem q1499 : (Jvm.Cond.sameMethod "AskingCourt$Block" "AskingCourt$Block" "go" "(LAskingCourt$Sitting;)V") ∈ lw_all := lw_g (lw_at lw_m6 136 rfl) rfl
theorem q1516 : (Jvm.Cond.code ({ cls := "AskingCourt$Block", name := "go", desc := "(LAskingCourt$Sitting;)V" } : Jvm.MethodName) prog_4_method_3_code (3 : Nat) (Option.none : Option Jvm.ClassFile.FieldType)) ∈ lw_all := lw_g (lw_at lw_m6 153 rfl) rfl
theorem q1517 : (Jvm.Cond.methodLink "AskingCourt$Block" (23 : Nat) ({ cls := "AskingCourt$Sitting", name := "goesOn", desc := "()Z" } : Jvm.MethodName)) ∈ lw_all := lw_g (lw_at lw_m6 154 rfl) rfl
theorem q1521 : (Jvm.Cond.methodLink "AskingCourt$Block" (29 : Nat) ({ cls := "AskingCourt$Step", name := "go", desc := "(LAskingCourt$Sitting;)V" } : Jvm.MethodName)) ∈ lw_all := lw_g (lw_at lw_m6 158 rfl) rfl
theorem q1541 : (Jvm.Cond.selects "AskingCourt$Block" ({ cls := "AskingCourt$Step", name := "go", desc := "(LAskingCourt$Sitting;)V" } : Jvm.MethodName) ({ cls := "AskingCourt$Block", name := "go", desc := "(LAskingCourt$Sitting;)V" } : Jvm.MethodName)) ∈ lw_all := lw_g (lw_at lw_m6 178 rfl) rfl
theorem q2335 : (Jvm.Cond.castable "AskingCourt$Block" "AskingCourt$Step") ∈ lw_tbl := lw_at lw_m10 12 rfl
theorem in_X13 : ∀ w ∈ wsX130, w ∈ lw_all := lw_in wsX130 [1102, 1104] (by decide +kernel) (by decide +kernel)
/-! AskingCourt$When -/
set_option maxRecDepth 100000
def RX14 : String := "AskingCourt$When"
def TX14 : u_T := fun k => match k with
  | 0 => ("AskingCourt$Block", "steps", "[LAskingCourt$Step;", false)
  | 1 => ("AskingCourt$Block", "size", "I", false)
  | 2 => ("AskingCourt$When", "test", "I", true)
  | 3 => ("AskingCourt$When", "number", "I", true)
  | _ => ("AskingCourt$When", "this$0", "LAskingCourt;", true)
def tyX14 : Nat → FieldType := fun k => match k with
  | 0 => .array (.object "AskingCourt$Step")
  | 1 => .int
  | 2 => .int
  | 3 => .int
  | _ => .object "AskingCourt"
abbrev wsX140 : List Cond := u_ws RX14 TX14 5
theorem nmX14 : ∀ a, a < 5 → ∀ b, b < 5 → a ≠ b → (TX14 a).2.1 ≠ (TX14 b).2.1 := by decide +kernel
theorem tyX14_ok : ∀ k, k < 5 → parseFieldDescriptor (TX14 k).2.2.1 = some (tyX14 k) := by decide +kernel
abbrev cX14_init : ByteArray := prog_15_method_1_code
def yX14_init : MethodName := ⟨RX14, "<init>", "(LAskingCourt;II)V"⟩
def dkwX14_init_0 : List UInt8 := [42, 43, 181, 0, 3, 42, 183, 0, 9, 42, 28, 181, 0, 15, 42, 29, 181, 0, 19, 177]
abbrev dktX14_init_0 : List UInt8 := dkwX14_init_0 ++ []
theorem dksX14_init_0 : cX14_init.data.toList.drop 0 = dktX14_init_0 := by decide +kernel
theorem dX14_init_0 : decode cX14_init 0 = .ok (.aload_n 0, 1) := dk_42 (dk_at dksX14_init_0 0 rfl rfl)
theorem dX14_init_1 : decode cX14_init 1 = .ok (.aload_n 1, 1) := dk_43 (dk_at dksX14_init_0 1 rfl rfl)
theorem dX14_init_2 : decode cX14_init 2 = .ok (.putfield 3, 3) := dk_181 0 3 (dk_at dksX14_init_0 2 rfl rfl)
theorem dX14_init_5 : decode cX14_init 5 = .ok (.aload_n 0, 1) := dk_42 (dk_at dksX14_init_0 5 rfl rfl)
theorem dX14_init_6 : decode cX14_init 6 = .ok (.invokespecial 9, 3) := dk_183 0 9 (dk_at dksX14_init_0 6 rfl rfl)
theorem dX14_init_9 : decode cX14_init 9 = .ok (.aload_n 0, 1) := dk_42 (dk_at dksX14_init_0 9 rfl rfl)
theorem dX14_init_10 : decode cX14_init 10 = .ok (.iload_n 2, 1) := dk_28 (dk_at dksX14_init_0 10 rfl rfl)
theorem dX14_init_11 : decode cX14_init 11 = .ok (.putfield 15, 3) := dk_181 0 15 (dk_at dksX14_init_0 11 rfl rfl)
theorem dX14_init_14 : decode cX14_init 14 = .ok (.aload_n 0, 1) := dk_42 (dk_at dksX14_init_0 14 rfl rfl)
theorem dX14_init_15 : decode cX14_init 15 = .ok (.iload_n 3, 1) := dk_29 (dk_at dksX14_init_0 15 rfl rfl)
theorem dX14_init_16 : decode cX14_init 16 = .ok (.putfield 19, 3) := dk_181 0 19 (dk_at dksX14_init_0 16 rfl rfl)
theorem dX14_init_19 : decode cX14_init 19 = .ok (.return_, 1) := dk_177 (dk_at dksX14_init_0 19 rfl rfl)
abbrev cX14_go : ByteArray := prog_15_method_3_code
def yX14_go : MethodName := ⟨RX14, "go", "(LAskingCourt$Sitting;)V"⟩
def dkwX14_go_0 : List UInt8 := [42, 43, 182, 0, 52, 153, 0, 8, 42, 43, 183, 0, 56, 177]
abbrev dktX14_go_0 : List UInt8 := dkwX14_go_0 ++ []
theorem dksX14_go_0 : cX14_go.data.toList.drop 0 = dktX14_go_0 := by decide +kernel
theorem dX14_go_0 : decode cX14_go 0 = .ok (.aload_n 0, 1) := dk_42 (dk_at dksX14_go_0 0 rfl rfl)
theorem dX14_go_1 : decode cX14_go 1 = .ok (.aload_n 1, 1) := dk_43 (dk_at dksX14_go_0 1 rfl rfl)
theorem dX14_go_2 : decode cX14_go 2 = .ok (.invokevirtual 52, 3) := dk_182 0 52 (dk_at dksX14_go_0 2 rfl rfl)
theorem dX14_go_5 : decode cX14_go 5 = .ok (.ifCond .eq 8, 3) := dk_153 0 8 (dk_at dksX14_go_0 5 rfl rfl)
theorem dX14_go_8 : decode cX14_go 8 = .ok (.aload_n 0, 1) := dk_42 (dk_at dksX14_go_0 8 rfl rfl)
theorem dX14_go_9 : decode cX14_go 9 = .ok (.aload_n 1, 1) := dk_43 (dk_at dksX14_go_0 9 rfl rfl)
theorem dX14_go_10 : decode cX14_go 10 = .ok (.invokespecial 56, 3) := dk_183 0 56 (dk_at dksX14_go_0 10 rfl rfl)
theorem dX14_go_13 : decode cX14_go 13 = .ok (.return_, 1) := dk_177 (dk_at dksX14_go_0 13 rfl rfl)
abbrev cX14_isSo : ByteArray := prog_15_method_2_code
def yX14_isSo : MethodName := ⟨RX14, "isSo", "(LAskingCourt$Sitting;)Z"⟩
def dkwX14_isSo_5 : List UInt8 := [182, 0, 42, 182, 0, 48, 42, 180, 0, 19, 163, 0, 7, 4, 167, 0, 4, 3, 172]
abbrev dktX14_isSo_5 : List UInt8 := dkwX14_isSo_5 ++ []
def dkwX14_isSo_4 : List UInt8 := [4, 167, 0, 4, 3, 172, 43, 180, 0, 28, 42, 180, 0, 3, 180, 0, 32, 180, 0, 36, 43, 180, 0, 28]
abbrev dktX14_isSo_4 : List UInt8 := dkwX14_isSo_4 ++ dktX14_isSo_5
def dkwX14_isSo_3 : List UInt8 := [182, 0, 22, 4, 160, 0, 7, 4, 167, 0, 4, 3, 172, 43, 42, 180, 0, 19, 182, 0, 22, 154, 0, 7]
abbrev dktX14_isSo_3 : List UInt8 := dkwX14_isSo_3 ++ dktX14_isSo_4
def dkwX14_isSo_2 : List UInt8 := [43, 42, 180, 0, 19, 182, 0, 22, 155, 0, 7, 4, 167, 0, 4, 3, 172, 43, 42, 180, 0, 19]
abbrev dktX14_isSo_2 : List UInt8 := dkwX14_isSo_2 ++ dktX14_isSo_3
def dkwX14_isSo_1 : List UInt8 := [170, 0, 0, 0, 0, 0, 0, 80, 0, 0, 0, 0, 0, 0, 0, 2, 0, 0, 0, 28, 0, 0, 0, 45, 0, 0, 0, 63]
abbrev dktX14_isSo_1 : List UInt8 := dkwX14_isSo_1 ++ dktX14_isSo_2
def dkwX14_isSo_0 : List UInt8 := [42, 180, 0, 15]
abbrev dktX14_isSo_0 : List UInt8 := dkwX14_isSo_0 ++ dktX14_isSo_1
theorem dksX14_isSo_0 : cX14_isSo.data.toList.drop 0 = dktX14_isSo_0 := by decide +kernel
theorem dksX14_isSo_1 : cX14_isSo.data.toList.drop 4 = dktX14_isSo_1 := dk_seg dksX14_isSo_0 4 rfl rfl
theorem dksX14_isSo_2 : cX14_isSo.data.toList.drop 32 = dktX14_isSo_2 := dk_seg dksX14_isSo_1 28 rfl rfl
theorem dksX14_isSo_3 : cX14_isSo.data.toList.drop 54 = dktX14_isSo_3 := dk_seg dksX14_isSo_2 22 rfl rfl
theorem dksX14_isSo_4 : cX14_isSo.data.toList.drop 78 = dktX14_isSo_4 := dk_seg dksX14_isSo_3 24 rfl rfl
theorem dksX14_isSo_5 : cX14_isSo.data.toList.drop 102 = dktX14_isSo_5 := dk_seg dksX14_isSo_4 24 rfl rfl
theorem dX14_isSo_0 : decode cX14_isSo 0 = .ok (.aload_n 0, 1) := dk_42 (dk_at dksX14_isSo_0 0 rfl rfl)
theorem dX14_isSo_1 : decode cX14_isSo 1 = .ok (.getfield 15, 3) := dk_180 0 15 (dk_at dksX14_isSo_0 1 rfl rfl)
theorem dX14_isSo_4 : decode cX14_isSo 4 = .ok (.tableswitch 80 0 2 #[28, 45, 63], 28) := by decide +kernel
theorem dX14_isSo_32 : decode cX14_isSo 32 = .ok (.aload_n 1, 1) := dk_43 (dk_at dksX14_isSo_2 0 rfl rfl)
theorem dX14_isSo_33 : decode cX14_isSo 33 = .ok (.aload_n 0, 1) := dk_42 (dk_at dksX14_isSo_2 1 rfl rfl)
theorem dX14_isSo_34 : decode cX14_isSo 34 = .ok (.getfield 19, 3) := dk_180 0 19 (dk_at dksX14_isSo_2 2 rfl rfl)
theorem dX14_isSo_37 : decode cX14_isSo 37 = .ok (.invokevirtual 22, 3) := dk_182 0 22 (dk_at dksX14_isSo_2 5 rfl rfl)
theorem dX14_isSo_40 : decode cX14_isSo 40 = .ok (.ifCond .lt 7, 3) := dk_155 0 7 (dk_at dksX14_isSo_2 8 rfl rfl)
theorem dX14_isSo_43 : decode cX14_isSo 43 = .ok (.iconst 1, 1) := dk_4 (dk_at dksX14_isSo_2 11 rfl rfl)
theorem dX14_isSo_44 : decode cX14_isSo 44 = .ok (.goto 4, 3) := dk_167 0 4 (dk_at dksX14_isSo_2 12 rfl rfl)
theorem dX14_isSo_47 : decode cX14_isSo 47 = .ok (.iconst 0, 1) := dk_3 (dk_at dksX14_isSo_2 15 rfl rfl)
theorem dX14_isSo_48 : decode cX14_isSo 48 = .ok (.ireturn, 1) := dk_172 (dk_at dksX14_isSo_2 16 rfl rfl)
theorem dX14_isSo_49 : decode cX14_isSo 49 = .ok (.aload_n 1, 1) := dk_43 (dk_at dksX14_isSo_2 17 rfl rfl)
theorem dX14_isSo_50 : decode cX14_isSo 50 = .ok (.aload_n 0, 1) := dk_42 (dk_at dksX14_isSo_2 18 rfl rfl)
theorem dX14_isSo_51 : decode cX14_isSo 51 = .ok (.getfield 19, 3) := dk_180 0 19 (dk_at dksX14_isSo_2 19 rfl rfl)
theorem dX14_isSo_54 : decode cX14_isSo 54 = .ok (.invokevirtual 22, 3) := dk_182 0 22 (dk_at dksX14_isSo_3 0 rfl rfl)
theorem dX14_isSo_57 : decode cX14_isSo 57 = .ok (.iconst 1, 1) := dk_4 (dk_at dksX14_isSo_3 3 rfl rfl)
theorem dX14_isSo_58 : decode cX14_isSo 58 = .ok (.if_icmp .ne 7, 3) := dk_160 0 7 (dk_at dksX14_isSo_3 4 rfl rfl)
theorem dX14_isSo_61 : decode cX14_isSo 61 = .ok (.iconst 1, 1) := dk_4 (dk_at dksX14_isSo_3 7 rfl rfl)
theorem dX14_isSo_62 : decode cX14_isSo 62 = .ok (.goto 4, 3) := dk_167 0 4 (dk_at dksX14_isSo_3 8 rfl rfl)
theorem dX14_isSo_65 : decode cX14_isSo 65 = .ok (.iconst 0, 1) := dk_3 (dk_at dksX14_isSo_3 11 rfl rfl)
theorem dX14_isSo_66 : decode cX14_isSo 66 = .ok (.ireturn, 1) := dk_172 (dk_at dksX14_isSo_3 12 rfl rfl)
theorem dX14_isSo_67 : decode cX14_isSo 67 = .ok (.aload_n 1, 1) := dk_43 (dk_at dksX14_isSo_3 13 rfl rfl)
theorem dX14_isSo_68 : decode cX14_isSo 68 = .ok (.aload_n 0, 1) := dk_42 (dk_at dksX14_isSo_3 14 rfl rfl)
theorem dX14_isSo_69 : decode cX14_isSo 69 = .ok (.getfield 19, 3) := dk_180 0 19 (dk_at dksX14_isSo_3 15 rfl rfl)
theorem dX14_isSo_72 : decode cX14_isSo 72 = .ok (.invokevirtual 22, 3) := dk_182 0 22 (dk_at dksX14_isSo_3 18 rfl rfl)
theorem dX14_isSo_75 : decode cX14_isSo 75 = .ok (.ifCond .ne 7, 3) := dk_154 0 7 (dk_at dksX14_isSo_3 21 rfl rfl)
theorem dX14_isSo_78 : decode cX14_isSo 78 = .ok (.iconst 1, 1) := dk_4 (dk_at dksX14_isSo_4 0 rfl rfl)
theorem dX14_isSo_79 : decode cX14_isSo 79 = .ok (.goto 4, 3) := dk_167 0 4 (dk_at dksX14_isSo_4 1 rfl rfl)
theorem dX14_isSo_82 : decode cX14_isSo 82 = .ok (.iconst 0, 1) := dk_3 (dk_at dksX14_isSo_4 4 rfl rfl)
theorem dX14_isSo_83 : decode cX14_isSo 83 = .ok (.ireturn, 1) := dk_172 (dk_at dksX14_isSo_4 5 rfl rfl)
theorem dX14_isSo_84 : decode cX14_isSo 84 = .ok (.aload_n 1, 1) := dk_43 (dk_at dksX14_isSo_4 6 rfl rfl)
theorem dX14_isSo_85 : decode cX14_isSo 85 = .ok (.getfield 28, 3) := dk_180 0 28 (dk_at dksX14_isSo_4 7 rfl rfl)
theorem dX14_isSo_88 : decode cX14_isSo 88 = .ok (.aload_n 0, 1) := dk_42 (dk_at dksX14_isSo_4 10 rfl rfl)
theorem dX14_isSo_89 : decode cX14_isSo 89 = .ok (.getfield 3, 3) := dk_180 0 3 (dk_at dksX14_isSo_4 11 rfl rfl)
theorem dX14_isSo_92 : decode cX14_isSo 92 = .ok (.getfield 32, 3) := dk_180 0 32 (dk_at dksX14_isSo_4 14 rfl rfl)
theorem dX14_isSo_95 : decode cX14_isSo 95 = .ok (.getfield 36, 3) := dk_180 0 36 (dk_at dksX14_isSo_4 17 rfl rfl)
theorem dX14_isSo_98 : decode cX14_isSo 98 = .ok (.aload_n 1, 1) := dk_43 (dk_at dksX14_isSo_4 20 rfl rfl)
theorem dX14_isSo_99 : decode cX14_isSo 99 = .ok (.getfield 28, 3) := dk_180 0 28 (dk_at dksX14_isSo_4 21 rfl rfl)
theorem dX14_isSo_102 : decode cX14_isSo 102 = .ok (.invokevirtual 42, 3) := dk_182 0 42 (dk_at dksX14_isSo_5 0 rfl rfl)
theorem dX14_isSo_105 : decode cX14_isSo 105 = .ok (.invokevirtual 48, 3) := dk_182 0 48 (dk_at dksX14_isSo_5 3 rfl rfl)
theorem dX14_isSo_108 : decode cX14_isSo 108 = .ok (.aload_n 0, 1) := dk_42 (dk_at dksX14_isSo_5 6 rfl rfl)
theorem dX14_isSo_109 : decode cX14_isSo 109 = .ok (.getfield 19, 3) := dk_180 0 19 (dk_at dksX14_isSo_5 7 rfl rfl)
theorem dX14_isSo_112 : decode cX14_isSo 112 = .ok (.if_icmp .gt 7, 3) := dk_163 0 7 (dk_at dksX14_isSo_5 10 rfl rfl)
theorem dX14_isSo_115 : decode cX14_isSo 115 = .ok (.iconst 1, 1) := dk_4 (dk_at dksX14_isSo_5 13 rfl rfl)
theorem dX14_isSo_116 : decode cX14_isSo 116 = .ok (.goto 4, 3) := dk_167 0 4 (dk_at dksX14_isSo_5 14 rfl rfl)
theorem dX14_isSo_119 : decode cX14_isSo 119 = .ok (.iconst 0, 1) := dk_3 (dk_at dksX14_isSo_5 17 rfl rfl)
theorem dX14_isSo_120 : decode cX14_isSo 120 = .ok (.ireturn, 1) := dk_172 (dk_at dksX14_isSo_5 18 rfl rfl)
theorem q190 : (Jvm.Cond.initialized "AskingCourt$When") ∈ lw_all := lw_g (lw_at lw_m1 27 rfl) rfl
theorem q469 : (Jvm.Cond.fieldLinkNest "AskingCourt$When" (36 : Nat) "AskingCourt$House" "court" "LAskingCourt$Case;" "AskingCourt") ∈ lw_tbl := lw_at lw_m2 66 rfl
theorem q494 : (Jvm.Cond.fieldLinkNest "AskingCourt$When" (28 : Nat) "AskingCourt$Sitting" "record" "LAskingCourt$Record;" "AskingCourt") ∈ lw_tbl := lw_at lw_m2 91 rfl
theorem q527 : (Jvm.Cond.fieldLinkNest "AskingCourt$When" (32 : Nat) "AskingCourt" "now" "LAskingCourt$House;" "AskingCourt") ∈ lw_tbl := lw_at lw_m2 124 rfl
theorem q1128 : (Jvm.Cond.instantiable "AskingCourt$When" (5 : Nat)) ∈ lw_all := lw_g (lw_at lw_m5 5 rfl) rfl
theorem q1134 : (Jvm.Cond.instanceMethod ({ cls := "AskingCourt$When", name := "<init>", desc := "(LAskingCourt;II)V" } : Jvm.MethodName)) ∈ lw_all := lw_g (lw_at lw_m5 11 rfl) rfl
theorem q1135 : (Jvm.Cond.code ({ cls := "AskingCourt$When", name := "<init>", desc := "(LAskingCourt;II)V" } : Jvm.MethodName) prog_15_method_1_code (4 : Nat) (Option.none : Option Jvm.ClassFile.FieldType)) ∈ lw_all := lw_g (lw_at lw_m5 12 rfl) rfl
theorem q1136 : (Jvm.Cond.methodLinkNest "AskingCourt$When" (9 : Nat) ({ cls := "AskingCourt$Block", name := "<init>", desc := "()V" } : Jvm.MethodName) "AskingCourt") ∈ lw_tbl := lw_at lw_m5 13 rfl
theorem q1137 : (Jvm.Cond.fieldLink "AskingCourt$When" (15 : Nat) "AskingCourt$When" "test" "I") ∈ lw_all := lw_g (lw_at lw_m5 14 rfl) rfl
theorem q1138 : (Jvm.Cond.fieldLink "AskingCourt$When" (19 : Nat) "AskingCourt$When" "number" "I") ∈ lw_all := lw_g (lw_at lw_m5 15 rfl) rfl
theorem q1139 : (Jvm.Cond.fieldLink "AskingCourt$When" (3 : Nat) "AskingCourt$When" "this$0" "LAskingCourt;") ∈ lw_all := lw_g (lw_at lw_m5 16 rfl) rfl
theorem q1140 : (Jvm.Cond.laysFinal "AskingCourt$When" "AskingCourt$When" "test" "I") ∈ lw_all := lw_g (lw_at lw_m5 17 rfl) rfl
theorem q1141 : (Jvm.Cond.soleField "AskingCourt$When" "test") ∈ lw_all := lw_g (lw_at lw_m5 18 rfl) rfl
theorem q1142 : (Jvm.Cond.laysFinal "AskingCourt$When" "AskingCourt$When" "number" "I") ∈ lw_all := lw_g (lw_at lw_m5 19 rfl) rfl
theorem q1143 : (Jvm.Cond.soleField "AskingCourt$When" "number") ∈ lw_all := lw_g (lw_at lw_m5 20 rfl) rfl
theorem q1144 : (Jvm.Cond.laysFinal "AskingCourt$When" "AskingCourt$When" "this$0" "LAskingCourt;") ∈ lw_all := lw_g (lw_at lw_m5 21 rfl) rfl
theorem q1145 : (Jvm.Cond.soleField "AskingCourt$When" "this$0") ∈ lw_all := lw_g (lw_at lw_m5 22 rfl) rfl
theorem q1146 : (Jvm.Cond.lays "AskingCourt$When" "AskingCourt$Block" "steps" "[LAskingCourt$Step;") ∈ lw_all := lw_g (lw_at lw_m5 23 rfl) rfl
theorem q1147 : (Jvm.Cond.lays "AskingCourt$When" "AskingCourt$Block" "size" "I") ∈ lw_all := lw_g (lw_at lw_m5 24 rfl) rfl
theorem q1148 : (Jvm.Cond.superclass "AskingCourt$When" "AskingCourt$Block") ∈ lw_all := lw_g (lw_at lw_m5 25 rfl) rfl
theorem q1192 : (Jvm.Cond.selects "AskingCourt$When" ({ cls := "AskingCourt$Block", name := "add", desc := "(LAskingCourt$Step;)V" } : Jvm.MethodName) ({ cls := "AskingCourt$Block", name := "add", desc := "(LAskingCourt$Step;)V" } : Jvm.MethodName)) ∈ lw_all := lw_g (lw_at lw_m5 69 rfl) rfl
theorem q1500 : (Jvm.Cond.selects "AskingCourt$When" ({ cls := "AskingCourt$Block", name := "go", desc := "(LAskingCourt$Sitting;)V" } : Jvm.MethodName) ({ cls := "AskingCourt$When", name := "go", desc := "(LAskingCourt$Sitting;)V" } : Jvm.MethodName)) ∈ lw_all := lw_g (lw_at lw_m6 137 rfl) rfl
theorem q1501 : (Jvm.Cond.instanceMethod ({ cls := "AskingCourt$When", name := "go", desc := "(LAskingCourt$Sitting;)V" } : Jvm.MethodName)) ∈ lw_all := lw_g (lw_at lw_m6 138 rfl) rfl
theorem q1502 : (Jvm.Cond.code ({ cls := "AskingCourt$When", name := "go", desc := "(LAskingCourt$Sitting;)V" } : Jvm.MethodName) prog_15_method_3_code (2 : Nat) (Option.none : Option Jvm.ClassFile.FieldType)) ∈ lw_all := lw_g (lw_at lw_m6 139 rfl) rfl
theorem q1503 : (Jvm.Cond.methodLink "AskingCourt$When" (52 : Nat) ({ cls := "AskingCourt$When", name := "isSo", desc := "(LAskingCourt$Sitting;)Z" } : Jvm.MethodName)) ∈ lw_all := lw_g (lw_at lw_m6 140 rfl) rfl
theorem q1504 : (Jvm.Cond.privateMethod ({ cls := "AskingCourt$When", name := "isSo", desc := "(LAskingCourt$Sitting;)Z" } : Jvm.MethodName)) ∈ lw_tbl := lw_at lw_m6 141 rfl
theorem q1505 : (Jvm.Cond.instanceMethod ({ cls := "AskingCourt$When", name := "isSo", desc := "(LAskingCourt$Sitting;)Z" } : Jvm.MethodName)) ∈ lw_all := lw_g (lw_at lw_m6 142 rfl) rfl
theorem q1506 : (Jvm.Cond.code ({ cls := "AskingCourt$When", name := "isSo", desc := "(LAskingCourt$Sitting;)Z" } : Jvm.MethodName) prog_15_method_2_code (2 : Nat) (Option.some Jvm.ClassFile.FieldType.boolean)) ∈ lw_all := lw_g (lw_at lw_m6 143 rfl) rfl
theorem q1507 : (Jvm.Cond.methodLink "AskingCourt$When" (22 : Nat) ({ cls := "AskingCourt$Sitting", name := "sure", desc := "(I)I" } : Jvm.MethodName)) ∈ lw_all := lw_g (lw_at lw_m6 144 rfl) rfl
theorem q1513 : (Jvm.Cond.methodLink "AskingCourt$When" (42 : Nat) ({ cls := "AskingCourt$Record", name := "all", desc := "()I" } : Jvm.MethodName)) ∈ lw_all := lw_g (lw_at lw_m6 150 rfl) rfl
theorem q1514 : (Jvm.Cond.methodLink "AskingCourt$When" (48 : Nat) ({ cls := "AskingCourt$Record", name := "left", desc := "(LAskingCourt$Case;I)I" } : Jvm.MethodName)) ∈ lw_all := lw_g (lw_at lw_m6 151 rfl) rfl
theorem q1515 : (Jvm.Cond.methodLink "AskingCourt$When" (56 : Nat) ({ cls := "AskingCourt$Block", name := "go", desc := "(LAskingCourt$Sitting;)V" } : Jvm.MethodName)) ∈ lw_all := lw_g (lw_at lw_m6 152 rfl) rfl
theorem q1559 : (Jvm.Cond.selects "AskingCourt$When" ({ cls := "AskingCourt$Step", name := "go", desc := "(LAskingCourt$Sitting;)V" } : Jvm.MethodName) ({ cls := "AskingCourt$When", name := "go", desc := "(LAskingCourt$Sitting;)V" } : Jvm.MethodName)) ∈ lw_all := lw_g (lw_at lw_m6 196 rfl) rfl
theorem q2336 : (Jvm.Cond.castable "AskingCourt$When" "AskingCourt$Step") ∈ lw_tbl := lw_at lw_m10 13 rfl
theorem in_X14 : ∀ w ∈ wsX140, w ∈ lw_all := lw_in wsX140 [1146, 1147, 1140, 1142, 1144] (by decide +kernel) (by decide +kernel)
/-! AskingCourt$Ask -/
set_option maxRecDepth 100000
def RX15 : String := "AskingCourt$Ask"
def TX15 : u_T := fun k => match k with
  | 0 => ("AskingCourt$Ask", "who", "I", true)
  | _ => ("AskingCourt$Ask", "question", "I", true)
def tyX15 : Nat → FieldType := fun k => match k with
  | 0 => .int
  | _ => .int
abbrev wsX150 : List Cond := u_ws RX15 TX15 2
theorem nmX15 : ∀ a, a < 2 → ∀ b, b < 2 → a ≠ b → (TX15 a).2.1 ≠ (TX15 b).2.1 := by decide +kernel
theorem tyX15_ok : ∀ k, k < 2 → parseFieldDescriptor (TX15 k).2.2.1 = some (tyX15 k) := by decide +kernel
abbrev cX15_init : ByteArray := prog_2_method_1_code
def yX15_init : MethodName := ⟨RX15, "<init>", "(II)V"⟩
def dkwX15_init_0 : List UInt8 := [42, 183, 0, 1, 42, 27, 181, 0, 7, 42, 28, 181, 0, 13, 177]
abbrev dktX15_init_0 : List UInt8 := dkwX15_init_0 ++ []
theorem dksX15_init_0 : cX15_init.data.toList.drop 0 = dktX15_init_0 := by decide +kernel
theorem dX15_init_0 : decode cX15_init 0 = .ok (.aload_n 0, 1) := dk_42 (dk_at dksX15_init_0 0 rfl rfl)
theorem dX15_init_1 : decode cX15_init 1 = .ok (.invokespecial 1, 3) := dk_183 0 1 (dk_at dksX15_init_0 1 rfl rfl)
theorem dX15_init_4 : decode cX15_init 4 = .ok (.aload_n 0, 1) := dk_42 (dk_at dksX15_init_0 4 rfl rfl)
theorem dX15_init_5 : decode cX15_init 5 = .ok (.iload_n 1, 1) := dk_27 (dk_at dksX15_init_0 5 rfl rfl)
theorem dX15_init_6 : decode cX15_init 6 = .ok (.putfield 7, 3) := dk_181 0 7 (dk_at dksX15_init_0 6 rfl rfl)
theorem dX15_init_9 : decode cX15_init 9 = .ok (.aload_n 0, 1) := dk_42 (dk_at dksX15_init_0 9 rfl rfl)
theorem dX15_init_10 : decode cX15_init 10 = .ok (.iload_n 2, 1) := dk_28 (dk_at dksX15_init_0 10 rfl rfl)
theorem dX15_init_11 : decode cX15_init 11 = .ok (.putfield 13, 3) := dk_181 0 13 (dk_at dksX15_init_0 11 rfl rfl)
theorem dX15_init_14 : decode cX15_init 14 = .ok (.return_, 1) := dk_177 (dk_at dksX15_init_0 14 rfl rfl)
abbrev cX15_go : ByteArray := prog_2_method_2_code
def yX15_go : MethodName := ⟨RX15, "go", "(LAskingCourt$Sitting;)V"⟩
def dkwX15_go_1 : List UInt8 := [180, 0, 13, 182, 0, 22, 177]
abbrev dktX15_go_1 : List UInt8 := dkwX15_go_1 ++ []
def dkwX15_go_0 : List UInt8 := [42, 180, 0, 13, 156, 0, 14, 43, 42, 180, 0, 7, 182, 0, 16, 167, 0, 15, 43, 42, 180, 0, 7, 42]
abbrev dktX15_go_0 : List UInt8 := dkwX15_go_0 ++ dktX15_go_1
theorem dksX15_go_0 : cX15_go.data.toList.drop 0 = dktX15_go_0 := by decide +kernel
theorem dksX15_go_1 : cX15_go.data.toList.drop 24 = dktX15_go_1 := dk_seg dksX15_go_0 24 rfl rfl
theorem dX15_go_0 : decode cX15_go 0 = .ok (.aload_n 0, 1) := dk_42 (dk_at dksX15_go_0 0 rfl rfl)
theorem dX15_go_1 : decode cX15_go 1 = .ok (.getfield 13, 3) := dk_180 0 13 (dk_at dksX15_go_0 1 rfl rfl)
theorem dX15_go_4 : decode cX15_go 4 = .ok (.ifCond .ge 14, 3) := dk_156 0 14 (dk_at dksX15_go_0 4 rfl rfl)
theorem dX15_go_7 : decode cX15_go 7 = .ok (.aload_n 1, 1) := dk_43 (dk_at dksX15_go_0 7 rfl rfl)
theorem dX15_go_8 : decode cX15_go 8 = .ok (.aload_n 0, 1) := dk_42 (dk_at dksX15_go_0 8 rfl rfl)
theorem dX15_go_9 : decode cX15_go 9 = .ok (.getfield 7, 3) := dk_180 0 7 (dk_at dksX15_go_0 9 rfl rfl)
theorem dX15_go_12 : decode cX15_go 12 = .ok (.invokevirtual 16, 3) := dk_182 0 16 (dk_at dksX15_go_0 12 rfl rfl)
theorem dX15_go_15 : decode cX15_go 15 = .ok (.goto 15, 3) := dk_167 0 15 (dk_at dksX15_go_0 15 rfl rfl)
theorem dX15_go_18 : decode cX15_go 18 = .ok (.aload_n 1, 1) := dk_43 (dk_at dksX15_go_0 18 rfl rfl)
theorem dX15_go_19 : decode cX15_go 19 = .ok (.aload_n 0, 1) := dk_42 (dk_at dksX15_go_0 19 rfl rfl)
theorem dX15_go_20 : decode cX15_go 20 = .ok (.getfield 7, 3) := dk_180 0 7 (dk_at dksX15_go_0 20 rfl rfl)
theorem dX15_go_23 : decode cX15_go 23 = .ok (.aload_n 0, 1) := dk_42 (dk_at dksX15_go_0 23 rfl rfl)
theorem dX15_go_24 : decode cX15_go 24 = .ok (.getfield 13, 3) := dk_180 0 13 (dk_at dksX15_go_1 0 rfl rfl)
theorem dX15_go_27 : decode cX15_go 27 = .ok (.invokevirtual 22, 3) := dk_182 0 22 (dk_at dksX15_go_1 3 rfl rfl)
theorem dX15_go_30 : decode cX15_go 30 = .ok (.return_, 1) := dk_177 (dk_at dksX15_go_1 6 rfl rfl)
theorem q191 : (Jvm.Cond.initialized "AskingCourt$Ask") ∈ lw_all := lw_g (lw_at lw_m1 28 rfl) rfl
theorem q1159 : (Jvm.Cond.instantiable "AskingCourt$Ask" (2 : Nat)) ∈ lw_all := lw_g (lw_at lw_m5 36 rfl) rfl
theorem q1161 : (Jvm.Cond.instanceMethod ({ cls := "AskingCourt$Ask", name := "<init>", desc := "(II)V" } : Jvm.MethodName)) ∈ lw_all := lw_g (lw_at lw_m5 38 rfl) rfl
theorem q1162 : (Jvm.Cond.code ({ cls := "AskingCourt$Ask", name := "<init>", desc := "(II)V" } : Jvm.MethodName) prog_2_method_1_code (3 : Nat) (Option.none : Option Jvm.ClassFile.FieldType)) ∈ lw_all := lw_g (lw_at lw_m5 39 rfl) rfl
theorem q1163 : (Jvm.Cond.methodLinkNest "AskingCourt$Ask" (1 : Nat) ({ cls := "AskingCourt$Step", name := "<init>", desc := "()V" } : Jvm.MethodName) "AskingCourt") ∈ lw_tbl := lw_at lw_m5 40 rfl
theorem q1164 : (Jvm.Cond.fieldLink "AskingCourt$Ask" (7 : Nat) "AskingCourt$Ask" "who" "I") ∈ lw_all := lw_g (lw_at lw_m5 41 rfl) rfl
theorem q1165 : (Jvm.Cond.fieldLink "AskingCourt$Ask" (13 : Nat) "AskingCourt$Ask" "question" "I") ∈ lw_all := lw_g (lw_at lw_m5 42 rfl) rfl
theorem q1166 : (Jvm.Cond.laysFinal "AskingCourt$Ask" "AskingCourt$Ask" "who" "I") ∈ lw_all := lw_g (lw_at lw_m5 43 rfl) rfl
theorem q1167 : (Jvm.Cond.soleField "AskingCourt$Ask" "who") ∈ lw_all := lw_g (lw_at lw_m5 44 rfl) rfl
theorem q1168 : (Jvm.Cond.laysFinal "AskingCourt$Ask" "AskingCourt$Ask" "question" "I") ∈ lw_all := lw_g (lw_at lw_m5 45 rfl) rfl
theorem q1169 : (Jvm.Cond.soleField "AskingCourt$Ask" "question") ∈ lw_all := lw_g (lw_at lw_m5 46 rfl) rfl
theorem q1170 : (Jvm.Cond.superclass "AskingCourt$Ask" "AskingCourt$Step") ∈ lw_all := lw_g (lw_at lw_m5 47 rfl) rfl
theorem q1524 : (Jvm.Cond.selects "AskingCourt$Ask" ({ cls := "AskingCourt$Step", name := "go", desc := "(LAskingCourt$Sitting;)V" } : Jvm.MethodName) ({ cls := "AskingCourt$Ask", name := "go", desc := "(LAskingCourt$Sitting;)V" } : Jvm.MethodName)) ∈ lw_all := lw_g (lw_at lw_m6 161 rfl) rfl
theorem q1525 : (Jvm.Cond.instanceMethod ({ cls := "AskingCourt$Ask", name := "go", desc := "(LAskingCourt$Sitting;)V" } : Jvm.MethodName)) ∈ lw_all := lw_g (lw_at lw_m6 162 rfl) rfl
theorem q1526 : (Jvm.Cond.code ({ cls := "AskingCourt$Ask", name := "go", desc := "(LAskingCourt$Sitting;)V" } : Jvm.MethodName) prog_2_method_2_code (2 : Nat) (Option.none : Option Jvm.ClassFile.FieldType)) ∈ lw_all := lw_g (lw_at lw_m6 163 rfl) rfl
theorem q1527 : (Jvm.Cond.methodLink "AskingCourt$Ask" (16 : Nat) ({ cls := "AskingCourt$Sitting", name := "best", desc := "(I)V" } : Jvm.MethodName)) ∈ lw_all := lw_g (lw_at lw_m6 164 rfl) rfl
theorem q1540 : (Jvm.Cond.methodLink "AskingCourt$Ask" (22 : Nat) ({ cls := "AskingCourt$Sitting", name := "ask", desc := "(II)V" } : Jvm.MethodName)) ∈ lw_all := lw_g (lw_at lw_m6 177 rfl) rfl
theorem q2337 : (Jvm.Cond.castable "AskingCourt$Ask" "AskingCourt$Step") ∈ lw_tbl := lw_at lw_m10 14 rfl
theorem in_X15 : ∀ w ∈ wsX150, w ∈ lw_all := lw_in wsX150 [1166, 1168] (by decide +kernel) (by decide +kernel)
/-! AskingCourt$Rule -/
set_option maxRecDepth 100000
def RX16 : String := "AskingCourt$Rule"
def TX16 : u_T := fun k => match k with
  | _ => ("AskingCourt$Rule", "question", "I", true)
def tyX16 : Nat → FieldType := fun k => match k with
  | _ => .int
abbrev wsX160 : List Cond := u_ws RX16 TX16 1
theorem nmX16 : ∀ a, a < 1 → ∀ b, b < 1 → a ≠ b → (TX16 a).2.1 ≠ (TX16 b).2.1 := by decide +kernel
theorem tyX16_ok : ∀ k, k < 1 → parseFieldDescriptor (TX16 k).2.2.1 = some (tyX16 k) := by decide +kernel
abbrev cX16_init : ByteArray := prog_11_method_1_code
def yX16_init : MethodName := ⟨RX16, "<init>", "(I)V"⟩
def dkwX16_init_0 : List UInt8 := [42, 183, 0, 1, 42, 27, 181, 0, 7, 177]
abbrev dktX16_init_0 : List UInt8 := dkwX16_init_0 ++ []
theorem dksX16_init_0 : cX16_init.data.toList.drop 0 = dktX16_init_0 := by decide +kernel
theorem dX16_init_0 : decode cX16_init 0 = .ok (.aload_n 0, 1) := dk_42 (dk_at dksX16_init_0 0 rfl rfl)
theorem dX16_init_1 : decode cX16_init 1 = .ok (.invokespecial 1, 3) := dk_183 0 1 (dk_at dksX16_init_0 1 rfl rfl)
theorem dX16_init_4 : decode cX16_init 4 = .ok (.aload_n 0, 1) := dk_42 (dk_at dksX16_init_0 4 rfl rfl)
theorem dX16_init_5 : decode cX16_init 5 = .ok (.iload_n 1, 1) := dk_27 (dk_at dksX16_init_0 5 rfl rfl)
theorem dX16_init_6 : decode cX16_init 6 = .ok (.putfield 7, 3) := dk_181 0 7 (dk_at dksX16_init_0 6 rfl rfl)
theorem dX16_init_9 : decode cX16_init 9 = .ok (.return_, 1) := dk_177 (dk_at dksX16_init_0 9 rfl rfl)
abbrev cX16_go : ByteArray := prog_11_method_2_code
def yX16_go : MethodName := ⟨RX16, "go", "(LAskingCourt$Sitting;)V"⟩
def dkwX16_go_0 : List UInt8 := [43, 42, 180, 0, 7, 182, 0, 13, 177]
abbrev dktX16_go_0 : List UInt8 := dkwX16_go_0 ++ []
theorem dksX16_go_0 : cX16_go.data.toList.drop 0 = dktX16_go_0 := by decide +kernel
theorem dX16_go_0 : decode cX16_go 0 = .ok (.aload_n 1, 1) := dk_43 (dk_at dksX16_go_0 0 rfl rfl)
theorem dX16_go_1 : decode cX16_go 1 = .ok (.aload_n 0, 1) := dk_42 (dk_at dksX16_go_0 1 rfl rfl)
theorem dX16_go_2 : decode cX16_go 2 = .ok (.getfield 7, 3) := dk_180 0 7 (dk_at dksX16_go_0 2 rfl rfl)
theorem dX16_go_5 : decode cX16_go 5 = .ok (.invokevirtual 13, 3) := dk_182 0 13 (dk_at dksX16_go_0 5 rfl rfl)
theorem dX16_go_8 : decode cX16_go 8 = .ok (.return_, 1) := dk_177 (dk_at dksX16_go_0 8 rfl rfl)
theorem q192 : (Jvm.Cond.initialized "AskingCourt$Rule") ∈ lw_all := lw_g (lw_at lw_m1 29 rfl) rfl
theorem q1172 : (Jvm.Cond.instantiable "AskingCourt$Rule" (1 : Nat)) ∈ lw_all := lw_g (lw_at lw_m5 49 rfl) rfl
theorem q1174 : (Jvm.Cond.instanceMethod ({ cls := "AskingCourt$Rule", name := "<init>", desc := "(I)V" } : Jvm.MethodName)) ∈ lw_all := lw_g (lw_at lw_m5 51 rfl) rfl
theorem q1175 : (Jvm.Cond.code ({ cls := "AskingCourt$Rule", name := "<init>", desc := "(I)V" } : Jvm.MethodName) prog_11_method_1_code (2 : Nat) (Option.none : Option Jvm.ClassFile.FieldType)) ∈ lw_all := lw_g (lw_at lw_m5 52 rfl) rfl
theorem q1176 : (Jvm.Cond.methodLinkNest "AskingCourt$Rule" (1 : Nat) ({ cls := "AskingCourt$Step", name := "<init>", desc := "()V" } : Jvm.MethodName) "AskingCourt") ∈ lw_tbl := lw_at lw_m5 53 rfl
theorem q1177 : (Jvm.Cond.fieldLink "AskingCourt$Rule" (7 : Nat) "AskingCourt$Rule" "question" "I") ∈ lw_all := lw_g (lw_at lw_m5 54 rfl) rfl
theorem q1178 : (Jvm.Cond.laysFinal "AskingCourt$Rule" "AskingCourt$Rule" "question" "I") ∈ lw_all := lw_g (lw_at lw_m5 55 rfl) rfl
theorem q1179 : (Jvm.Cond.soleField "AskingCourt$Rule" "question") ∈ lw_all := lw_g (lw_at lw_m5 56 rfl) rfl
theorem q1180 : (Jvm.Cond.superclass "AskingCourt$Rule" "AskingCourt$Step") ∈ lw_all := lw_g (lw_at lw_m5 57 rfl) rfl
theorem q1548 : (Jvm.Cond.selects "AskingCourt$Rule" ({ cls := "AskingCourt$Step", name := "go", desc := "(LAskingCourt$Sitting;)V" } : Jvm.MethodName) ({ cls := "AskingCourt$Rule", name := "go", desc := "(LAskingCourt$Sitting;)V" } : Jvm.MethodName)) ∈ lw_all := lw_g (lw_at lw_m6 185 rfl) rfl
theorem q1549 : (Jvm.Cond.instanceMethod ({ cls := "AskingCourt$Rule", name := "go", desc := "(LAskingCourt$Sitting;)V" } : Jvm.MethodName)) ∈ lw_all := lw_g (lw_at lw_m6 186 rfl) rfl
theorem q1550 : (Jvm.Cond.code ({ cls := "AskingCourt$Rule", name := "go", desc := "(LAskingCourt$Sitting;)V" } : Jvm.MethodName) prog_11_method_2_code (2 : Nat) (Option.none : Option Jvm.ClassFile.FieldType)) ∈ lw_all := lw_g (lw_at lw_m6 187 rfl) rfl
theorem q1551 : (Jvm.Cond.methodLink "AskingCourt$Rule" (13 : Nat) ({ cls := "AskingCourt$Sitting", name := "rule", desc := "(I)V" } : Jvm.MethodName)) ∈ lw_all := lw_g (lw_at lw_m6 188 rfl) rfl
theorem q2338 : (Jvm.Cond.castable "AskingCourt$Rule" "AskingCourt$Step") ∈ lw_tbl := lw_at lw_m10 15 rfl
theorem in_X16 : ∀ w ∈ wsX160, w ∈ lw_all := lw_in wsX160 [1178] (by decide +kernel) (by decide +kernel)
/-! AskingCourt$NextDay -/
set_option maxRecDepth 100000
def RX17 : String := "AskingCourt$NextDay"
abbrev cX17_init : ByteArray := prog_7_method_1_code
def yX17_init : MethodName := ⟨RX17, "<init>", "()V"⟩
theorem dX17_init_0 : decode cX17_init 0 = .ok (.aload_n 0, 1) := by decide +kernel
theorem dX17_init_1 : decode cX17_init 1 = .ok (.invokespecial 3, 3) := by decide +kernel
theorem dX17_init_4 : decode cX17_init 4 = .ok (.return_, 1) := by decide +kernel
abbrev cX17_go : ByteArray := prog_7_method_2_code
def yX17_go : MethodName := ⟨RX17, "go", "(LAskingCourt$Sitting;)V"⟩
def dkwX17_go_0 : List UInt8 := [43, 180, 0, 9, 16, 99, 43, 180, 0, 9, 180, 0, 15, 4, 96, 184, 0, 21, 181, 0, 15, 177]
abbrev dktX17_go_0 : List UInt8 := dkwX17_go_0 ++ []
theorem dksX17_go_0 : cX17_go.data.toList.drop 0 = dktX17_go_0 := by decide +kernel
theorem dX17_go_0 : decode cX17_go 0 = .ok (.aload_n 1, 1) := dk_43 (dk_at dksX17_go_0 0 rfl rfl)
theorem dX17_go_1 : decode cX17_go 1 = .ok (.getfield 9, 3) := dk_180 0 9 (dk_at dksX17_go_0 1 rfl rfl)
theorem dX17_go_4 : decode cX17_go 4 = .ok (.bipush 99, 2) := dk_16 99 (dk_at dksX17_go_0 4 rfl rfl)
theorem dX17_go_6 : decode cX17_go 6 = .ok (.aload_n 1, 1) := dk_43 (dk_at dksX17_go_0 6 rfl rfl)
theorem dX17_go_7 : decode cX17_go 7 = .ok (.getfield 9, 3) := dk_180 0 9 (dk_at dksX17_go_0 7 rfl rfl)
theorem dX17_go_10 : decode cX17_go 10 = .ok (.getfield 15, 3) := dk_180 0 15 (dk_at dksX17_go_0 10 rfl rfl)
theorem dX17_go_13 : decode cX17_go 13 = .ok (.iconst 1, 1) := dk_4 (dk_at dksX17_go_0 13 rfl rfl)
theorem dX17_go_14 : decode cX17_go 14 = .ok (.iadd, 1) := dk_96 (dk_at dksX17_go_0 14 rfl rfl)
theorem dX17_go_15 : decode cX17_go 15 = .ok (.invokestatic 21, 3) := dk_184 0 21 (dk_at dksX17_go_0 15 rfl rfl)
theorem dX17_go_18 : decode cX17_go 18 = .ok (.putfield 15, 3) := dk_181 0 15 (dk_at dksX17_go_0 18 rfl rfl)
theorem dX17_go_21 : decode cX17_go 21 = .ok (.return_, 1) := dk_177 (dk_at dksX17_go_0 21 rfl rfl)
theorem q193 : (Jvm.Cond.initialized "AskingCourt$NextDay") ∈ lw_all := lw_g (lw_at lw_m1 30 rfl) rfl
theorem q453 : (Jvm.Cond.fieldLinkNest "AskingCourt$NextDay" (15 : Nat) "AskingCourt$Record" "day" "I" "AskingCourt") ∈ lw_tbl := lw_at lw_m2 50 rfl
theorem q493 : (Jvm.Cond.fieldLinkNest "AskingCourt$NextDay" (9 : Nat) "AskingCourt$Sitting" "record" "LAskingCourt$Record;" "AskingCourt") ∈ lw_tbl := lw_at lw_m2 90 rfl
theorem q1182 : (Jvm.Cond.instantiable "AskingCourt$NextDay" (0 : Nat)) ∈ lw_all := lw_g (lw_at lw_m5 59 rfl) rfl
theorem q1184 : (Jvm.Cond.instanceMethod ({ cls := "AskingCourt$NextDay", name := "<init>", desc := "()V" } : Jvm.MethodName)) ∈ lw_all := lw_g (lw_at lw_m5 61 rfl) rfl
theorem q1185 : (Jvm.Cond.code ({ cls := "AskingCourt$NextDay", name := "<init>", desc := "()V" } : Jvm.MethodName) prog_7_method_1_code (1 : Nat) (Option.none : Option Jvm.ClassFile.FieldType)) ∈ lw_all := lw_g (lw_at lw_m5 62 rfl) rfl
theorem q1186 : (Jvm.Cond.methodLinkNest "AskingCourt$NextDay" (3 : Nat) ({ cls := "AskingCourt$Step", name := "<init>", desc := "()V" } : Jvm.MethodName) "AskingCourt") ∈ lw_tbl := lw_at lw_m5 63 rfl
theorem q1187 : (Jvm.Cond.superclass "AskingCourt$NextDay" "AskingCourt$Step") ∈ lw_all := lw_g (lw_at lw_m5 64 rfl) rfl
theorem q1542 : (Jvm.Cond.selects "AskingCourt$NextDay" ({ cls := "AskingCourt$Step", name := "go", desc := "(LAskingCourt$Sitting;)V" } : Jvm.MethodName) ({ cls := "AskingCourt$NextDay", name := "go", desc := "(LAskingCourt$Sitting;)V" } : Jvm.MethodName)) ∈ lw_all := lw_g (lw_at lw_m6 179 rfl) rfl
theorem q1543 : (Jvm.Cond.instanceMethod ({ cls := "AskingCourt$NextDay", name := "go", desc := "(LAskingCourt$Sitting;)V" } : Jvm.MethodName)) ∈ lw_all := lw_g (lw_at lw_m6 180 rfl) rfl
theorem q1544 : (Jvm.Cond.code ({ cls := "AskingCourt$NextDay", name := "go", desc := "(LAskingCourt$Sitting;)V" } : Jvm.MethodName) prog_7_method_2_code (2 : Nat) (Option.none : Option Jvm.ClassFile.FieldType)) ∈ lw_all := lw_g (lw_at lw_m6 181 rfl) rfl
theorem q1545 : (Jvm.Cond.methodLink "AskingCourt$NextDay" (21 : Nat) ({ cls := "java/lang/Math", name := "min", desc := "(II)I" } : Jvm.MethodName)) ∈ lw_all := lw_g (lw_at lw_m6 182 rfl) rfl
theorem q2339 : (Jvm.Cond.castable "AskingCourt$NextDay" "AskingCourt$Step") ∈ lw_tbl := lw_at lw_m10 16 rfl
/-! AskingCourt$Sitting -/
set_option maxRecDepth 100000
def RX8 : String := "AskingCourt$Sitting"
def TX8 : u_T := fun k => match k with
  | 0 => ("AskingCourt$Sitting", "record", "LAskingCourt$Record;", true)
  | 1 => ("AskingCourt$Sitting", "kinds", "[I", true)
  | 2 => ("AskingCourt$Sitting", "world", "I", false)
  | 3 => ("AskingCourt$Sitting", "verdict", "I", false)
  | _ => ("AskingCourt$Sitting", "this$0", "LAskingCourt;", true)
def tyX8 : Nat → FieldType := fun k => match k with
  | 0 => .object "AskingCourt$Record"
  | 1 => .array .int
  | 2 => .int
  | 3 => .int
  | _ => .object "AskingCourt"
abbrev wsX80 : List Cond := u_ws RX8 TX8 5
theorem nmX8 : ∀ a, a < 5 → ∀ b, b < 5 → a ≠ b → (TX8 a).2.1 ≠ (TX8 b).2.1 := by decide +kernel
theorem tyX8_ok : ∀ k, k < 5 → parseFieldDescriptor (TX8 k).2.2.1 = some (tyX8 k) := by decide +kernel
abbrev cX8_init : ByteArray := prog_12_method_1_code
def yX8_init : MethodName := ⟨RX8, "<init>", "(LAskingCourt;)V"⟩
def dkwX8_init_1 : List UInt8 := [181, 0, 22, 177]
abbrev dktX8_init_1 : List UInt8 := dkwX8_init_1 ++ []
def dkwX8_init_0 : List UInt8 := [42, 43, 181, 0, 3, 42, 183, 0, 9, 42, 187, 0, 15, 89, 183, 0, 17, 181, 0, 18, 42, 7, 188, 10]
abbrev dktX8_init_0 : List UInt8 := dkwX8_init_0 ++ dktX8_init_1
theorem dksX8_init_0 : cX8_init.data.toList.drop 0 = dktX8_init_0 := by decide +kernel
theorem dksX8_init_1 : cX8_init.data.toList.drop 24 = dktX8_init_1 := dk_seg dksX8_init_0 24 rfl rfl
theorem dX8_init_0 : decode cX8_init 0 = .ok (.aload_n 0, 1) := dk_42 (dk_at dksX8_init_0 0 rfl rfl)
theorem dX8_init_1 : decode cX8_init 1 = .ok (.aload_n 1, 1) := dk_43 (dk_at dksX8_init_0 1 rfl rfl)
theorem dX8_init_2 : decode cX8_init 2 = .ok (.putfield 3, 3) := dk_181 0 3 (dk_at dksX8_init_0 2 rfl rfl)
theorem dX8_init_5 : decode cX8_init 5 = .ok (.aload_n 0, 1) := dk_42 (dk_at dksX8_init_0 5 rfl rfl)
theorem dX8_init_6 : decode cX8_init 6 = .ok (.invokespecial 9, 3) := dk_183 0 9 (dk_at dksX8_init_0 6 rfl rfl)
theorem dX8_init_9 : decode cX8_init 9 = .ok (.aload_n 0, 1) := dk_42 (dk_at dksX8_init_0 9 rfl rfl)
theorem dX8_init_10 : decode cX8_init 10 = .ok (.new 15, 3) := dk_187 0 15 (dk_at dksX8_init_0 10 rfl rfl)
theorem dX8_init_13 : decode cX8_init 13 = .ok (.dup, 1) := dk_89 (dk_at dksX8_init_0 13 rfl rfl)
theorem dX8_init_14 : decode cX8_init 14 = .ok (.invokespecial 17, 3) := dk_183 0 17 (dk_at dksX8_init_0 14 rfl rfl)
theorem dX8_init_17 : decode cX8_init 17 = .ok (.putfield 18, 3) := dk_181 0 18 (dk_at dksX8_init_0 17 rfl rfl)
theorem dX8_init_20 : decode cX8_init 20 = .ok (.aload_n 0, 1) := dk_42 (dk_at dksX8_init_0 20 rfl rfl)
theorem dX8_init_21 : decode cX8_init 21 = .ok (.iconst 4, 1) := dk_7 (dk_at dksX8_init_0 21 rfl rfl)
theorem dX8_init_22 : decode cX8_init 22 = .ok (.newarray .int, 2) := dk_188_10 (dk_at dksX8_init_0 22 rfl rfl)
theorem dX8_init_24 : decode cX8_init 24 = .ok (.putfield 22, 3) := dk_181 0 22 (dk_at dksX8_init_1 0 rfl rfl)
theorem dX8_init_27 : decode cX8_init 27 = .ok (.return_, 1) := dk_177 (dk_at dksX8_init_1 3 rfl rfl)
abbrev cX8_sure : ByteArray := prog_12_method_5_code
def yX8_sure : MethodName := ⟨RX8, "sure", "(I)I"⟩
def dkwX8_sure_1 : List UInt8 := [182, 0, 72, 172]
abbrev dktX8_sure_1 : List UInt8 := dkwX8_sure_1 ++ []
def dkwX8_sure_0 : List UInt8 := [42, 180, 0, 18, 42, 180, 0, 3, 180, 0, 38, 180, 0, 42, 27, 42, 180, 0, 18, 182, 0, 69]
abbrev dktX8_sure_0 : List UInt8 := dkwX8_sure_0 ++ dktX8_sure_1
theorem dksX8_sure_0 : cX8_sure.data.toList.drop 0 = dktX8_sure_0 := by decide +kernel
theorem dksX8_sure_1 : cX8_sure.data.toList.drop 22 = dktX8_sure_1 := dk_seg dksX8_sure_0 22 rfl rfl
theorem dX8_sure_0 : decode cX8_sure 0 = .ok (.aload_n 0, 1) := dk_42 (dk_at dksX8_sure_0 0 rfl rfl)
theorem dX8_sure_1 : decode cX8_sure 1 = .ok (.getfield 18, 3) := dk_180 0 18 (dk_at dksX8_sure_0 1 rfl rfl)
theorem dX8_sure_4 : decode cX8_sure 4 = .ok (.aload_n 0, 1) := dk_42 (dk_at dksX8_sure_0 4 rfl rfl)
theorem dX8_sure_5 : decode cX8_sure 5 = .ok (.getfield 3, 3) := dk_180 0 3 (dk_at dksX8_sure_0 5 rfl rfl)
theorem dX8_sure_8 : decode cX8_sure 8 = .ok (.getfield 38, 3) := dk_180 0 38 (dk_at dksX8_sure_0 8 rfl rfl)
theorem dX8_sure_11 : decode cX8_sure 11 = .ok (.getfield 42, 3) := dk_180 0 42 (dk_at dksX8_sure_0 11 rfl rfl)
theorem dX8_sure_14 : decode cX8_sure 14 = .ok (.iload_n 1, 1) := dk_27 (dk_at dksX8_sure_0 14 rfl rfl)
theorem dX8_sure_15 : decode cX8_sure 15 = .ok (.aload_n 0, 1) := dk_42 (dk_at dksX8_sure_0 15 rfl rfl)
theorem dX8_sure_16 : decode cX8_sure 16 = .ok (.getfield 18, 3) := dk_180 0 18 (dk_at dksX8_sure_0 16 rfl rfl)
theorem dX8_sure_19 : decode cX8_sure 19 = .ok (.invokevirtual 69, 3) := dk_182 0 69 (dk_at dksX8_sure_0 19 rfl rfl)
theorem dX8_sure_22 : decode cX8_sure 22 = .ok (.invokevirtual 72, 3) := dk_182 0 72 (dk_at dksX8_sure_1 0 rfl rfl)
theorem dX8_sure_25 : decode cX8_sure 25 = .ok (.ireturn, 1) := dk_172 (dk_at dksX8_sure_1 3 rfl rfl)
abbrev cX8_goesOn : ByteArray := prog_12_method_2_code
def yX8_goesOn : MethodName := ⟨RX8, "goesOn", "()Z"⟩
def dkwX8_goesOn_0 : List UInt8 := [42, 180, 0, 26, 156, 0, 7, 4, 167, 0, 4, 3, 172]
abbrev dktX8_goesOn_0 : List UInt8 := dkwX8_goesOn_0 ++ []
theorem dksX8_goesOn_0 : cX8_goesOn.data.toList.drop 0 = dktX8_goesOn_0 := by decide +kernel
theorem dX8_goesOn_0 : decode cX8_goesOn 0 = .ok (.aload_n 0, 1) := dk_42 (dk_at dksX8_goesOn_0 0 rfl rfl)
theorem dX8_goesOn_1 : decode cX8_goesOn 1 = .ok (.getfield 26, 3) := dk_180 0 26 (dk_at dksX8_goesOn_0 1 rfl rfl)
theorem dX8_goesOn_4 : decode cX8_goesOn 4 = .ok (.ifCond .ge 7, 3) := dk_156 0 7 (dk_at dksX8_goesOn_0 4 rfl rfl)
theorem dX8_goesOn_7 : decode cX8_goesOn 7 = .ok (.iconst 1, 1) := dk_4 (dk_at dksX8_goesOn_0 7 rfl rfl)
theorem dX8_goesOn_8 : decode cX8_goesOn 8 = .ok (.goto 4, 3) := dk_167 0 4 (dk_at dksX8_goesOn_0 8 rfl rfl)
theorem dX8_goesOn_11 : decode cX8_goesOn 11 = .ok (.iconst 0, 1) := dk_3 (dk_at dksX8_goesOn_0 11 rfl rfl)
theorem dX8_goesOn_12 : decode cX8_goesOn 12 = .ok (.ireturn, 1) := dk_172 (dk_at dksX8_goesOn_0 12 rfl rfl)
abbrev cX8_best : ByteArray := prog_12_method_4_code
def yX8_best : MethodName := ⟨RX8, "best", "(I)V"⟩
def dkwX8_best_1 : List UInt8 := [182, 0, 61, 61, 28, 155, 0, 9, 42, 27, 28, 182, 0, 65, 177]
abbrev dktX8_best_1 : List UInt8 := dkwX8_best_1 ++ []
def dkwX8_best_0 : List UInt8 := [42, 180, 0, 18, 182, 0, 34, 16, 9, 160, 0, 4, 177, 42, 180, 0, 3, 42, 180, 0, 18, 27]
abbrev dktX8_best_0 : List UInt8 := dkwX8_best_0 ++ dktX8_best_1
theorem dksX8_best_0 : cX8_best.data.toList.drop 0 = dktX8_best_0 := by decide +kernel
theorem dksX8_best_1 : cX8_best.data.toList.drop 22 = dktX8_best_1 := dk_seg dksX8_best_0 22 rfl rfl
theorem dX8_best_0 : decode cX8_best 0 = .ok (.aload_n 0, 1) := dk_42 (dk_at dksX8_best_0 0 rfl rfl)
theorem dX8_best_1 : decode cX8_best 1 = .ok (.getfield 18, 3) := dk_180 0 18 (dk_at dksX8_best_0 1 rfl rfl)
theorem dX8_best_4 : decode cX8_best 4 = .ok (.invokevirtual 34, 3) := dk_182 0 34 (dk_at dksX8_best_0 4 rfl rfl)
theorem dX8_best_7 : decode cX8_best 7 = .ok (.bipush 9, 2) := dk_16 9 (dk_at dksX8_best_0 7 rfl rfl)
theorem dX8_best_9 : decode cX8_best 9 = .ok (.if_icmp .ne 4, 3) := dk_160 0 4 (dk_at dksX8_best_0 9 rfl rfl)
theorem dX8_best_12 : decode cX8_best 12 = .ok (.return_, 1) := dk_177 (dk_at dksX8_best_0 12 rfl rfl)
theorem dX8_best_13 : decode cX8_best 13 = .ok (.aload_n 0, 1) := dk_42 (dk_at dksX8_best_0 13 rfl rfl)
theorem dX8_best_14 : decode cX8_best 14 = .ok (.getfield 3, 3) := dk_180 0 3 (dk_at dksX8_best_0 14 rfl rfl)
theorem dX8_best_17 : decode cX8_best 17 = .ok (.aload_n 0, 1) := dk_42 (dk_at dksX8_best_0 17 rfl rfl)
theorem dX8_best_18 : decode cX8_best 18 = .ok (.getfield 18, 3) := dk_180 0 18 (dk_at dksX8_best_0 18 rfl rfl)
theorem dX8_best_21 : decode cX8_best 21 = .ok (.iload_n 1, 1) := dk_27 (dk_at dksX8_best_0 21 rfl rfl)
theorem dX8_best_22 : decode cX8_best 22 = .ok (.invokevirtual 61, 3) := dk_182 0 61 (dk_at dksX8_best_1 0 rfl rfl)
theorem dX8_best_25 : decode cX8_best 25 = .ok (.istore_n 2, 1) := dk_61 (dk_at dksX8_best_1 3 rfl rfl)
theorem dX8_best_26 : decode cX8_best 26 = .ok (.iload_n 2, 1) := dk_28 (dk_at dksX8_best_1 4 rfl rfl)
theorem dX8_best_27 : decode cX8_best 27 = .ok (.ifCond .lt 9, 3) := dk_155 0 9 (dk_at dksX8_best_1 5 rfl rfl)
theorem dX8_best_30 : decode cX8_best 30 = .ok (.aload_n 0, 1) := dk_42 (dk_at dksX8_best_1 8 rfl rfl)
theorem dX8_best_31 : decode cX8_best 31 = .ok (.iload_n 1, 1) := dk_27 (dk_at dksX8_best_1 9 rfl rfl)
theorem dX8_best_32 : decode cX8_best 32 = .ok (.iload_n 2, 1) := dk_28 (dk_at dksX8_best_1 10 rfl rfl)
theorem dX8_best_33 : decode cX8_best 33 = .ok (.invokevirtual 65, 3) := dk_182 0 65 (dk_at dksX8_best_1 11 rfl rfl)
theorem dX8_best_36 : decode cX8_best 36 = .ok (.return_, 1) := dk_177 (dk_at dksX8_best_1 14 rfl rfl)
abbrev cX8_ask : ByteArray := prog_12_method_3_code
def yX8_ask : MethodName := ⟨RX8, "ask", "(II)V"⟩
def dkwX8_ask_2 : List UInt8 := [42, 180, 0, 48, 182, 0, 51, 182, 0, 57, 177]
abbrev dktX8_ask_2 : List UInt8 := dkwX8_ask_2 ++ []
def dkwX8_ask_1 : List UInt8 := [42, 180, 0, 18, 27, 28, 42, 180, 0, 3, 180, 0, 38, 180, 0, 42, 27, 42, 180, 0, 22, 27, 46, 28]
abbrev dktX8_ask_1 : List UInt8 := dkwX8_ask_1 ++ dktX8_ask_2
def dkwX8_ask_0 : List UInt8 := [42, 180, 0, 18, 28, 182, 0, 30, 154, 0, 15, 42, 180, 0, 18, 182, 0, 34, 16, 9, 160, 0, 4, 177]
abbrev dktX8_ask_0 : List UInt8 := dkwX8_ask_0 ++ dktX8_ask_1
theorem dksX8_ask_0 : cX8_ask.data.toList.drop 0 = dktX8_ask_0 := by decide +kernel
theorem dksX8_ask_1 : cX8_ask.data.toList.drop 24 = dktX8_ask_1 := dk_seg dksX8_ask_0 24 rfl rfl
theorem dksX8_ask_2 : cX8_ask.data.toList.drop 48 = dktX8_ask_2 := dk_seg dksX8_ask_1 24 rfl rfl
theorem dX8_ask_0 : decode cX8_ask 0 = .ok (.aload_n 0, 1) := dk_42 (dk_at dksX8_ask_0 0 rfl rfl)
theorem dX8_ask_1 : decode cX8_ask 1 = .ok (.getfield 18, 3) := dk_180 0 18 (dk_at dksX8_ask_0 1 rfl rfl)
theorem dX8_ask_4 : decode cX8_ask 4 = .ok (.iload_n 2, 1) := dk_28 (dk_at dksX8_ask_0 4 rfl rfl)
theorem dX8_ask_5 : decode cX8_ask 5 = .ok (.invokevirtual 30, 3) := dk_182 0 30 (dk_at dksX8_ask_0 5 rfl rfl)
theorem dX8_ask_8 : decode cX8_ask 8 = .ok (.ifCond .ne 15, 3) := dk_154 0 15 (dk_at dksX8_ask_0 8 rfl rfl)
theorem dX8_ask_11 : decode cX8_ask 11 = .ok (.aload_n 0, 1) := dk_42 (dk_at dksX8_ask_0 11 rfl rfl)
theorem dX8_ask_12 : decode cX8_ask 12 = .ok (.getfield 18, 3) := dk_180 0 18 (dk_at dksX8_ask_0 12 rfl rfl)
theorem dX8_ask_15 : decode cX8_ask 15 = .ok (.invokevirtual 34, 3) := dk_182 0 34 (dk_at dksX8_ask_0 15 rfl rfl)
theorem dX8_ask_18 : decode cX8_ask 18 = .ok (.bipush 9, 2) := dk_16 9 (dk_at dksX8_ask_0 18 rfl rfl)
theorem dX8_ask_20 : decode cX8_ask 20 = .ok (.if_icmp .ne 4, 3) := dk_160 0 4 (dk_at dksX8_ask_0 20 rfl rfl)
theorem dX8_ask_23 : decode cX8_ask 23 = .ok (.return_, 1) := dk_177 (dk_at dksX8_ask_0 23 rfl rfl)
theorem dX8_ask_24 : decode cX8_ask 24 = .ok (.aload_n 0, 1) := dk_42 (dk_at dksX8_ask_1 0 rfl rfl)
theorem dX8_ask_25 : decode cX8_ask 25 = .ok (.getfield 18, 3) := dk_180 0 18 (dk_at dksX8_ask_1 1 rfl rfl)
theorem dX8_ask_28 : decode cX8_ask 28 = .ok (.iload_n 1, 1) := dk_27 (dk_at dksX8_ask_1 4 rfl rfl)
theorem dX8_ask_29 : decode cX8_ask 29 = .ok (.iload_n 2, 1) := dk_28 (dk_at dksX8_ask_1 5 rfl rfl)
theorem dX8_ask_30 : decode cX8_ask 30 = .ok (.aload_n 0, 1) := dk_42 (dk_at dksX8_ask_1 6 rfl rfl)
theorem dX8_ask_31 : decode cX8_ask 31 = .ok (.getfield 3, 3) := dk_180 0 3 (dk_at dksX8_ask_1 7 rfl rfl)
theorem dX8_ask_34 : decode cX8_ask 34 = .ok (.getfield 38, 3) := dk_180 0 38 (dk_at dksX8_ask_1 10 rfl rfl)
theorem dX8_ask_37 : decode cX8_ask 37 = .ok (.getfield 42, 3) := dk_180 0 42 (dk_at dksX8_ask_1 13 rfl rfl)
theorem dX8_ask_40 : decode cX8_ask 40 = .ok (.iload_n 1, 1) := dk_27 (dk_at dksX8_ask_1 16 rfl rfl)
theorem dX8_ask_41 : decode cX8_ask 41 = .ok (.aload_n 0, 1) := dk_42 (dk_at dksX8_ask_1 17 rfl rfl)
theorem dX8_ask_42 : decode cX8_ask 42 = .ok (.getfield 22, 3) := dk_180 0 22 (dk_at dksX8_ask_1 18 rfl rfl)
theorem dX8_ask_45 : decode cX8_ask 45 = .ok (.iload_n 1, 1) := dk_27 (dk_at dksX8_ask_1 21 rfl rfl)
theorem dX8_ask_46 : decode cX8_ask 46 = .ok (.iaload, 1) := dk_46 (dk_at dksX8_ask_1 22 rfl rfl)
theorem dX8_ask_47 : decode cX8_ask 47 = .ok (.iload_n 2, 1) := dk_28 (dk_at dksX8_ask_1 23 rfl rfl)
theorem dX8_ask_48 : decode cX8_ask 48 = .ok (.aload_n 0, 1) := dk_42 (dk_at dksX8_ask_2 0 rfl rfl)
theorem dX8_ask_49 : decode cX8_ask 49 = .ok (.getfield 48, 3) := dk_180 0 48 (dk_at dksX8_ask_2 1 rfl rfl)
theorem dX8_ask_52 : decode cX8_ask 52 = .ok (.invokevirtual 51, 3) := dk_182 0 51 (dk_at dksX8_ask_2 4 rfl rfl)
theorem dX8_ask_55 : decode cX8_ask 55 = .ok (.invokevirtual 57, 3) := dk_182 0 57 (dk_at dksX8_ask_2 7 rfl rfl)
theorem dX8_ask_58 : decode cX8_ask 58 = .ok (.return_, 1) := dk_177 (dk_at dksX8_ask_2 10 rfl rfl)
abbrev cX8_rule : ByteArray := prog_12_method_6_code
def yX8_rule : MethodName := ⟨RX8, "rule", "(I)V"⟩
def dkwX8_rule_3 : List UInt8 := [180, 0, 48, 182, 0, 89, 160, 0, 7, 3, 167, 0, 4, 4, 181, 0, 26, 177]
abbrev dktX8_rule_3 : List UInt8 := dkwX8_rule_3 ++ []
def dkwX8_rule_2 : List UInt8 := [4, 167, 0, 4, 3, 62, 42, 29, 42, 180, 0, 3, 180, 0, 38, 180, 0, 42, 180, 0, 85, 27, 50, 42]
abbrev dktX8_rule_2 : List UInt8 := dkwX8_rule_2 ++ dktX8_rule_3
def dkwX8_rule_1 : List UInt8 := [180, 0, 18, 27, 182, 0, 81, 105, 42, 180, 0, 3, 42, 180, 0, 18, 2, 182, 0, 81, 148, 155, 0, 7]
abbrev dktX8_rule_1 : List UInt8 := dkwX8_rule_1 ++ dktX8_rule_2
def dkwX8_rule_0 : List UInt8 := [42, 27, 182, 0, 76, 61, 28, 4, 159, 0, 39, 28, 156, 0, 39, 20, 0, 79, 42, 180, 0, 3, 42]
abbrev dktX8_rule_0 : List UInt8 := dkwX8_rule_0 ++ dktX8_rule_1
theorem dksX8_rule_0 : cX8_rule.data.toList.drop 0 = dktX8_rule_0 := by decide +kernel
theorem dksX8_rule_1 : cX8_rule.data.toList.drop 23 = dktX8_rule_1 := dk_seg dksX8_rule_0 23 rfl rfl
theorem dksX8_rule_2 : cX8_rule.data.toList.drop 47 = dktX8_rule_2 := dk_seg dksX8_rule_1 24 rfl rfl
theorem dksX8_rule_3 : cX8_rule.data.toList.drop 71 = dktX8_rule_3 := dk_seg dksX8_rule_2 24 rfl rfl
theorem dX8_rule_0 : decode cX8_rule 0 = .ok (.aload_n 0, 1) := dk_42 (dk_at dksX8_rule_0 0 rfl rfl)
theorem dX8_rule_1 : decode cX8_rule 1 = .ok (.iload_n 1, 1) := dk_27 (dk_at dksX8_rule_0 1 rfl rfl)
theorem dX8_rule_2 : decode cX8_rule 2 = .ok (.invokevirtual 76, 3) := dk_182 0 76 (dk_at dksX8_rule_0 2 rfl rfl)
theorem dX8_rule_5 : decode cX8_rule 5 = .ok (.istore_n 2, 1) := dk_61 (dk_at dksX8_rule_0 5 rfl rfl)
theorem dX8_rule_6 : decode cX8_rule 6 = .ok (.iload_n 2, 1) := dk_28 (dk_at dksX8_rule_0 6 rfl rfl)
theorem dX8_rule_7 : decode cX8_rule 7 = .ok (.iconst 1, 1) := dk_4 (dk_at dksX8_rule_0 7 rfl rfl)
theorem dX8_rule_8 : decode cX8_rule 8 = .ok (.if_icmp .eq 39, 3) := dk_159 0 39 (dk_at dksX8_rule_0 8 rfl rfl)
theorem dX8_rule_11 : decode cX8_rule 11 = .ok (.iload_n 2, 1) := dk_28 (dk_at dksX8_rule_0 11 rfl rfl)
theorem dX8_rule_12 : decode cX8_rule 12 = .ok (.ifCond .ge 39, 3) := dk_156 0 39 (dk_at dksX8_rule_0 12 rfl rfl)
theorem dX8_rule_15 : decode cX8_rule 15 = .ok (.ldc2_w 79, 3) := dk_20 0 79 (dk_at dksX8_rule_0 15 rfl rfl)
theorem dX8_rule_18 : decode cX8_rule 18 = .ok (.aload_n 0, 1) := dk_42 (dk_at dksX8_rule_0 18 rfl rfl)
theorem dX8_rule_19 : decode cX8_rule 19 = .ok (.getfield 3, 3) := dk_180 0 3 (dk_at dksX8_rule_0 19 rfl rfl)
theorem dX8_rule_22 : decode cX8_rule 22 = .ok (.aload_n 0, 1) := dk_42 (dk_at dksX8_rule_0 22 rfl rfl)
theorem dX8_rule_23 : decode cX8_rule 23 = .ok (.getfield 18, 3) := dk_180 0 18 (dk_at dksX8_rule_1 0 rfl rfl)
theorem dX8_rule_26 : decode cX8_rule 26 = .ok (.iload_n 1, 1) := dk_27 (dk_at dksX8_rule_1 3 rfl rfl)
theorem dX8_rule_27 : decode cX8_rule 27 = .ok (.invokevirtual 81, 3) := dk_182 0 81 (dk_at dksX8_rule_1 4 rfl rfl)
theorem dX8_rule_30 : decode cX8_rule 30 = .ok (.lmul, 1) := dk_105 (dk_at dksX8_rule_1 7 rfl rfl)
theorem dX8_rule_31 : decode cX8_rule 31 = .ok (.aload_n 0, 1) := dk_42 (dk_at dksX8_rule_1 8 rfl rfl)
theorem dX8_rule_32 : decode cX8_rule 32 = .ok (.getfield 3, 3) := dk_180 0 3 (dk_at dksX8_rule_1 9 rfl rfl)
theorem dX8_rule_35 : decode cX8_rule 35 = .ok (.aload_n 0, 1) := dk_42 (dk_at dksX8_rule_1 12 rfl rfl)
theorem dX8_rule_36 : decode cX8_rule 36 = .ok (.getfield 18, 3) := dk_180 0 18 (dk_at dksX8_rule_1 13 rfl rfl)
theorem dX8_rule_39 : decode cX8_rule 39 = .ok (.iconst (-1), 1) := dk_2 (dk_at dksX8_rule_1 16 rfl rfl)
theorem dX8_rule_40 : decode cX8_rule 40 = .ok (.invokevirtual 81, 3) := dk_182 0 81 (dk_at dksX8_rule_1 17 rfl rfl)
theorem dX8_rule_43 : decode cX8_rule 43 = .ok (.lcmp, 1) := dk_148 (dk_at dksX8_rule_1 20 rfl rfl)
theorem dX8_rule_44 : decode cX8_rule 44 = .ok (.ifCond .lt 7, 3) := dk_155 0 7 (dk_at dksX8_rule_1 21 rfl rfl)
theorem dX8_rule_47 : decode cX8_rule 47 = .ok (.iconst 1, 1) := dk_4 (dk_at dksX8_rule_2 0 rfl rfl)
theorem dX8_rule_48 : decode cX8_rule 48 = .ok (.goto 4, 3) := dk_167 0 4 (dk_at dksX8_rule_2 1 rfl rfl)
theorem dX8_rule_51 : decode cX8_rule 51 = .ok (.iconst 0, 1) := dk_3 (dk_at dksX8_rule_2 4 rfl rfl)
theorem dX8_rule_52 : decode cX8_rule 52 = .ok (.istore_n 3, 1) := dk_62 (dk_at dksX8_rule_2 5 rfl rfl)
theorem dX8_rule_53 : decode cX8_rule 53 = .ok (.aload_n 0, 1) := dk_42 (dk_at dksX8_rule_2 6 rfl rfl)
theorem dX8_rule_54 : decode cX8_rule 54 = .ok (.iload_n 3, 1) := dk_29 (dk_at dksX8_rule_2 7 rfl rfl)
theorem dX8_rule_55 : decode cX8_rule 55 = .ok (.aload_n 0, 1) := dk_42 (dk_at dksX8_rule_2 8 rfl rfl)
theorem dX8_rule_56 : decode cX8_rule 56 = .ok (.getfield 3, 3) := dk_180 0 3 (dk_at dksX8_rule_2 9 rfl rfl)
theorem dX8_rule_59 : decode cX8_rule 59 = .ok (.getfield 38, 3) := dk_180 0 38 (dk_at dksX8_rule_2 12 rfl rfl)
theorem dX8_rule_62 : decode cX8_rule 62 = .ok (.getfield 42, 3) := dk_180 0 42 (dk_at dksX8_rule_2 15 rfl rfl)
theorem dX8_rule_65 : decode cX8_rule 65 = .ok (.getfield 85, 3) := dk_180 0 85 (dk_at dksX8_rule_2 18 rfl rfl)
theorem dX8_rule_68 : decode cX8_rule 68 = .ok (.iload_n 1, 1) := dk_27 (dk_at dksX8_rule_2 21 rfl rfl)
theorem dX8_rule_69 : decode cX8_rule 69 = .ok (.aaload, 1) := dk_50 (dk_at dksX8_rule_2 22 rfl rfl)
theorem dX8_rule_70 : decode cX8_rule 70 = .ok (.aload_n 0, 1) := dk_42 (dk_at dksX8_rule_2 23 rfl rfl)
theorem dX8_rule_71 : decode cX8_rule 71 = .ok (.getfield 48, 3) := dk_180 0 48 (dk_at dksX8_rule_3 0 rfl rfl)
theorem dX8_rule_74 : decode cX8_rule 74 = .ok (.invokevirtual 89, 3) := dk_182 0 89 (dk_at dksX8_rule_3 3 rfl rfl)
theorem dX8_rule_77 : decode cX8_rule 77 = .ok (.if_icmp .ne 7, 3) := dk_160 0 7 (dk_at dksX8_rule_3 6 rfl rfl)
theorem dX8_rule_80 : decode cX8_rule 80 = .ok (.iconst 0, 1) := dk_3 (dk_at dksX8_rule_3 9 rfl rfl)
theorem dX8_rule_81 : decode cX8_rule 81 = .ok (.goto 4, 3) := dk_167 0 4 (dk_at dksX8_rule_3 10 rfl rfl)
theorem dX8_rule_84 : decode cX8_rule 84 = .ok (.iconst 1, 1) := dk_4 (dk_at dksX8_rule_3 13 rfl rfl)
theorem dX8_rule_85 : decode cX8_rule 85 = .ok (.putfield 26, 3) := dk_181 0 26 (dk_at dksX8_rule_3 14 rfl rfl)
theorem dX8_rule_88 : decode cX8_rule 88 = .ok (.return_, 1) := dk_177 (dk_at dksX8_rule_3 17 rfl rfl)
theorem q174 : (Jvm.Cond.initialized "AskingCourt$Sitting") ∈ lw_all := lw_g (lw_at lw_m1 11 rfl) rfl
theorem q390 : (Jvm.Cond.fieldLinkNest "AskingCourt$Sitting" (85 : Nat) "AskingCourt$Case" "meant" "[LAskingCourt$Worlds;" "AskingCourt") ∈ lw_tbl := lw_at lw_m1 227 rfl
theorem q470 : (Jvm.Cond.fieldLinkNest "AskingCourt$Sitting" (42 : Nat) "AskingCourt$House" "court" "LAskingCourt$Case;" "AskingCourt") ∈ lw_tbl := lw_at lw_m2 67 rfl
theorem q485 : (Jvm.Cond.instantiable "AskingCourt$Sitting" (5 : Nat)) ∈ lw_all := lw_g (lw_at lw_m2 82 rfl) rfl
theorem q487 : (Jvm.Cond.instanceMethod ({ cls := "AskingCourt$Sitting", name := "<init>", desc := "(LAskingCourt;)V" } : Jvm.MethodName)) ∈ lw_all := lw_g (lw_at lw_m2 84 rfl) rfl
theorem q488 : (Jvm.Cond.code ({ cls := "AskingCourt$Sitting", name := "<init>", desc := "(LAskingCourt;)V" } : Jvm.MethodName) prog_12_method_1_code (2 : Nat) (Option.none : Option Jvm.ClassFile.FieldType)) ∈ lw_all := lw_g (lw_at lw_m2 85 rfl) rfl
theorem q489 : (Jvm.Cond.methodLink "AskingCourt$Sitting" (9 : Nat) ({ cls := "java/lang/Object", name := "<init>", desc := "()V" } : Jvm.MethodName)) ∈ lw_all := lw_g (lw_at lw_m2 86 rfl) rfl
theorem q490 : (Jvm.Cond.classLink "AskingCourt$Sitting" (15 : Nat) "AskingCourt$Record") ∈ lw_all := lw_g (lw_at lw_m2 87 rfl) rfl
theorem q491 : (Jvm.Cond.methodLinkNest "AskingCourt$Sitting" (17 : Nat) ({ cls := "AskingCourt$Record", name := "<init>", desc := "()V" } : Jvm.MethodName) "AskingCourt") ∈ lw_tbl := lw_at lw_m2 88 rfl
theorem q492 : (Jvm.Cond.fieldLink "AskingCourt$Sitting" (18 : Nat) "AskingCourt$Sitting" "record" "LAskingCourt$Record;") ∈ lw_all := lw_g (lw_at lw_m2 89 rfl) rfl
theorem q496 : (Jvm.Cond.fieldLink "AskingCourt$Sitting" (22 : Nat) "AskingCourt$Sitting" "kinds" "[I") ∈ lw_all := lw_g (lw_at lw_m2 93 rfl) rfl
theorem q498 : (Jvm.Cond.fieldLink "AskingCourt$Sitting" (48 : Nat) "AskingCourt$Sitting" "world" "I") ∈ lw_all := lw_g (lw_at lw_m2 95 rfl) rfl
theorem q500 : (Jvm.Cond.fieldLink "AskingCourt$Sitting" (26 : Nat) "AskingCourt$Sitting" "verdict" "I") ∈ lw_all := lw_g (lw_at lw_m2 97 rfl) rfl
theorem q502 : (Jvm.Cond.fieldLink "AskingCourt$Sitting" (3 : Nat) "AskingCourt$Sitting" "this$0" "LAskingCourt;") ∈ lw_all := lw_g (lw_at lw_m2 99 rfl) rfl
theorem q503 : (Jvm.Cond.laysFinal "AskingCourt$Sitting" "AskingCourt$Sitting" "record" "LAskingCourt$Record;") ∈ lw_all := lw_g (lw_at lw_m2 100 rfl) rfl
theorem q504 : (Jvm.Cond.soleField "AskingCourt$Sitting" "record") ∈ lw_all := lw_g (lw_at lw_m2 101 rfl) rfl
theorem q505 : (Jvm.Cond.laysFinal "AskingCourt$Sitting" "AskingCourt$Sitting" "kinds" "[I") ∈ lw_all := lw_g (lw_at lw_m2 102 rfl) rfl
theorem q506 : (Jvm.Cond.soleField "AskingCourt$Sitting" "kinds") ∈ lw_all := lw_g (lw_at lw_m2 103 rfl) rfl
theorem q507 : (Jvm.Cond.lays "AskingCourt$Sitting" "AskingCourt$Sitting" "world" "I") ∈ lw_all := lw_g (lw_at lw_m2 104 rfl) rfl
theorem q508 : (Jvm.Cond.soleField "AskingCourt$Sitting" "world") ∈ lw_all := lw_g (lw_at lw_m2 105 rfl) rfl
theorem q509 : (Jvm.Cond.lays "AskingCourt$Sitting" "AskingCourt$Sitting" "verdict" "I") ∈ lw_all := lw_g (lw_at lw_m2 106 rfl) rfl
theorem q510 : (Jvm.Cond.soleField "AskingCourt$Sitting" "verdict") ∈ lw_all := lw_g (lw_at lw_m2 107 rfl) rfl
theorem q511 : (Jvm.Cond.laysFinal "AskingCourt$Sitting" "AskingCourt$Sitting" "this$0" "LAskingCourt;") ∈ lw_all := lw_g (lw_at lw_m2 108 rfl) rfl
theorem q512 : (Jvm.Cond.soleField "AskingCourt$Sitting" "this$0") ∈ lw_all := lw_g (lw_at lw_m2 109 rfl) rfl
theorem q513 : (Jvm.Cond.superclass "AskingCourt$Sitting" "java/lang/Object") ∈ lw_all := lw_g (lw_at lw_m2 110 rfl) rfl
theorem q528 : (Jvm.Cond.fieldLinkNest "AskingCourt$Sitting" (38 : Nat) "AskingCourt" "now" "LAskingCourt$House;" "AskingCourt") ∈ lw_tbl := lw_at lw_m2 125 rfl
theorem q1508 : (Jvm.Cond.instanceMethod ({ cls := "AskingCourt$Sitting", name := "sure", desc := "(I)I" } : Jvm.MethodName)) ∈ lw_all := lw_g (lw_at lw_m6 145 rfl) rfl
theorem q1509 : (Jvm.Cond.selects "AskingCourt$Sitting" ({ cls := "AskingCourt$Sitting", name := "sure", desc := "(I)I" } : Jvm.MethodName) ({ cls := "AskingCourt$Sitting", name := "sure", desc := "(I)I" } : Jvm.MethodName)) ∈ lw_all := lw_g (lw_at lw_m6 146 rfl) rfl
theorem q1510 : (Jvm.Cond.code ({ cls := "AskingCourt$Sitting", name := "sure", desc := "(I)I" } : Jvm.MethodName) prog_12_method_5_code (2 : Nat) (Option.some Jvm.ClassFile.FieldType.int)) ∈ lw_all := lw_g (lw_at lw_m6 147 rfl) rfl
theorem q1511 : (Jvm.Cond.methodLink "AskingCourt$Sitting" (69 : Nat) ({ cls := "AskingCourt$Record", name := "all", desc := "()I" } : Jvm.MethodName)) ∈ lw_all := lw_g (lw_at lw_m6 148 rfl) rfl
theorem q1512 : (Jvm.Cond.methodLink "AskingCourt$Sitting" (72 : Nat) ({ cls := "AskingCourt$Record", name := "sure", desc := "(LAskingCourt$Case;II)I" } : Jvm.MethodName)) ∈ lw_all := lw_g (lw_at lw_m6 149 rfl) rfl
theorem q1518 : (Jvm.Cond.instanceMethod ({ cls := "AskingCourt$Sitting", name := "goesOn", desc := "()Z" } : Jvm.MethodName)) ∈ lw_all := lw_g (lw_at lw_m6 155 rfl) rfl
theorem q1519 : (Jvm.Cond.selects "AskingCourt$Sitting" ({ cls := "AskingCourt$Sitting", name := "goesOn", desc := "()Z" } : Jvm.MethodName) ({ cls := "AskingCourt$Sitting", name := "goesOn", desc := "()Z" } : Jvm.MethodName)) ∈ lw_all := lw_g (lw_at lw_m6 156 rfl) rfl
theorem q1520 : (Jvm.Cond.code ({ cls := "AskingCourt$Sitting", name := "goesOn", desc := "()Z" } : Jvm.MethodName) prog_12_method_2_code (1 : Nat) (Option.some Jvm.ClassFile.FieldType.boolean)) ∈ lw_all := lw_g (lw_at lw_m6 157 rfl) rfl
theorem q1528 : (Jvm.Cond.instanceMethod ({ cls := "AskingCourt$Sitting", name := "best", desc := "(I)V" } : Jvm.MethodName)) ∈ lw_all := lw_g (lw_at lw_m6 165 rfl) rfl
theorem q1529 : (Jvm.Cond.selects "AskingCourt$Sitting" ({ cls := "AskingCourt$Sitting", name := "best", desc := "(I)V" } : Jvm.MethodName) ({ cls := "AskingCourt$Sitting", name := "best", desc := "(I)V" } : Jvm.MethodName)) ∈ lw_all := lw_g (lw_at lw_m6 166 rfl) rfl
theorem q1530 : (Jvm.Cond.code ({ cls := "AskingCourt$Sitting", name := "best", desc := "(I)V" } : Jvm.MethodName) prog_12_method_4_code (3 : Nat) (Option.none : Option Jvm.ClassFile.FieldType)) ∈ lw_all := lw_g (lw_at lw_m6 167 rfl) rfl
theorem q1531 : (Jvm.Cond.methodLink "AskingCourt$Sitting" (34 : Nat) ({ cls := "AskingCourt$Record", name := "putToday", desc := "()I" } : Jvm.MethodName)) ∈ lw_all := lw_g (lw_at lw_m6 168 rfl) rfl
theorem q1532 : (Jvm.Cond.methodLinkNest "AskingCourt$Sitting" (61 : Nat) ({ cls := "AskingCourt", name := "bestOf", desc := "(LAskingCourt$Record;I)I" } : Jvm.MethodName) "AskingCourt") ∈ lw_tbl := lw_at lw_m6 169 rfl
theorem q1533 : (Jvm.Cond.methodLink "AskingCourt$Sitting" (65 : Nat) ({ cls := "AskingCourt$Sitting", name := "ask", desc := "(II)V" } : Jvm.MethodName)) ∈ lw_all := lw_g (lw_at lw_m6 170 rfl) rfl
theorem q1534 : (Jvm.Cond.instanceMethod ({ cls := "AskingCourt$Sitting", name := "ask", desc := "(II)V" } : Jvm.MethodName)) ∈ lw_all := lw_g (lw_at lw_m6 171 rfl) rfl
theorem q1535 : (Jvm.Cond.selects "AskingCourt$Sitting" ({ cls := "AskingCourt$Sitting", name := "ask", desc := "(II)V" } : Jvm.MethodName) ({ cls := "AskingCourt$Sitting", name := "ask", desc := "(II)V" } : Jvm.MethodName)) ∈ lw_all := lw_g (lw_at lw_m6 172 rfl) rfl
theorem q1536 : (Jvm.Cond.code ({ cls := "AskingCourt$Sitting", name := "ask", desc := "(II)V" } : Jvm.MethodName) prog_12_method_3_code (3 : Nat) (Option.none : Option Jvm.ClassFile.FieldType)) ∈ lw_all := lw_g (lw_at lw_m6 173 rfl) rfl
theorem q1537 : (Jvm.Cond.methodLink "AskingCourt$Sitting" (30 : Nat) ({ cls := "AskingCourt$Record", name := "wasPut", desc := "(I)Z" } : Jvm.MethodName)) ∈ lw_all := lw_g (lw_at lw_m6 174 rfl) rfl
theorem q1538 : (Jvm.Cond.methodLink "AskingCourt$Sitting" (51 : Nat) ({ cls := "AskingCourt$Case", name := "answer", desc := "(IIII)I" } : Jvm.MethodName)) ∈ lw_all := lw_g (lw_at lw_m6 175 rfl) rfl
theorem q1539 : (Jvm.Cond.methodLink "AskingCourt$Sitting" (57 : Nat) ({ cls := "AskingCourt$Record", name := "hear", desc := "(III)V" } : Jvm.MethodName)) ∈ lw_all := lw_g (lw_at lw_m6 176 rfl) rfl
theorem q1552 : (Jvm.Cond.instanceMethod ({ cls := "AskingCourt$Sitting", name := "rule", desc := "(I)V" } : Jvm.MethodName)) ∈ lw_all := lw_g (lw_at lw_m6 189 rfl) rfl
theorem q1553 : (Jvm.Cond.selects "AskingCourt$Sitting" ({ cls := "AskingCourt$Sitting", name := "rule", desc := "(I)V" } : Jvm.MethodName) ({ cls := "AskingCourt$Sitting", name := "rule", desc := "(I)V" } : Jvm.MethodName)) ∈ lw_all := lw_g (lw_at lw_m6 190 rfl) rfl
theorem q1554 : (Jvm.Cond.code ({ cls := "AskingCourt$Sitting", name := "rule", desc := "(I)V" } : Jvm.MethodName) prog_12_method_6_code (4 : Nat) (Option.none : Option Jvm.ClassFile.FieldType)) ∈ lw_all := lw_g (lw_at lw_m6 191 rfl) rfl
theorem q1555 : (Jvm.Cond.methodLink "AskingCourt$Sitting" (76 : Nat) ({ cls := "AskingCourt$Sitting", name := "sure", desc := "(I)I" } : Jvm.MethodName)) ∈ lw_all := lw_g (lw_at lw_m6 192 rfl) rfl
theorem q1556 : (Jvm.Cond.constantLong "AskingCourt$Sitting" (79 : Nat) (2 : Int64)) ∈ lw_all := lw_g (lw_at lw_m6 193 rfl) rfl
theorem q1557 : (Jvm.Cond.methodLinkNest "AskingCourt$Sitting" (81 : Nat) ({ cls := "AskingCourt", name := "weightOf", desc := "(LAskingCourt$Record;I)J" } : Jvm.MethodName) "AskingCourt") ∈ lw_tbl := lw_at lw_m6 194 rfl
theorem q1558 : (Jvm.Cond.methodLink "AskingCourt$Sitting" (89 : Nat) ({ cls := "AskingCourt$Worlds", name := "has", desc := "(I)Z" } : Jvm.MethodName)) ∈ lw_all := lw_g (lw_at lw_m6 195 rfl) rfl
theorem in_X8 : ∀ w ∈ wsX80, w ∈ lw_all := lw_in wsX80 [503, 505, 507, 509, 511] (by decide +kernel) (by decide +kernel)
/-! AskingCourt$Worlds -/
set_option maxRecDepth 100000
def RX6 : String := "AskingCourt$Worlds"
def TX6 : u_T := fun k => match k with
  | 0 => ("AskingCourt$Worlds", "a", "J", false)
  | 1 => ("AskingCourt$Worlds", "b", "J", false)
  | 2 => ("AskingCourt$Worlds", "c", "J", false)
  | _ => ("AskingCourt$Worlds", "d", "J", false)
def tyX6 : Nat → FieldType := fun k => match k with
  | 0 => .long
  | 1 => .long
  | 2 => .long
  | _ => .long
abbrev wsX60 : List Cond := u_ws RX6 TX6 4
theorem nmX6 : ∀ a, a < 4 → ∀ b, b < 4 → a ≠ b → (TX6 a).2.1 ≠ (TX6 b).2.1 := by decide +kernel
theorem tyX6_ok : ∀ k, k < 4 → parseFieldDescriptor (TX6 k).2.2.1 = some (tyX6 k) := by decide +kernel
abbrev cX6_init : ByteArray := prog_17_method_1_code
def yX6_init : MethodName := ⟨RX6, "<init>", "()V"⟩
theorem dX6_init_0 : decode cX6_init 0 = .ok (.aload_n 0, 1) := by decide +kernel
theorem dX6_init_1 : decode cX6_init 1 = .ok (.invokespecial 1, 3) := by decide +kernel
theorem dX6_init_4 : decode cX6_init 4 = .ok (.return_, 1) := by decide +kernel
abbrev cX6_add : ByteArray := prog_17_method_3_code
def yX6_add : MethodName := ⟨RX6, "add", "(I)V"⟩
def dkwX6_add_3 : List UInt8 := [180, 0, 19, 10, 27, 121, 129, 181, 0, 19, 177]
abbrev dktX6_add_3 : List UInt8 := dkwX6_add_3 ++ []
def dkwX6_add_2 : List UInt8 := [17, 0, 192, 162, 0, 18, 42, 89, 180, 0, 16, 10, 27, 121, 129, 181, 0, 16, 167, 0, 15, 42, 89]
abbrev dktX6_add_2 : List UInt8 := dkwX6_add_2 ++ dktX6_add_3
def dkwX6_add_1 : List UInt8 := [17, 0, 128, 162, 0, 18, 42, 89, 180, 0, 13, 10, 27, 121, 129, 181, 0, 13, 167, 0, 37, 27]
abbrev dktX6_add_1 : List UInt8 := dkwX6_add_1 ++ dktX6_add_2
def dkwX6_add_0 : List UInt8 := [27, 16, 64, 162, 0, 18, 42, 89, 180, 0, 7, 10, 27, 121, 129, 181, 0, 7, 167, 0, 59, 27]
abbrev dktX6_add_0 : List UInt8 := dkwX6_add_0 ++ dktX6_add_1
theorem dksX6_add_0 : cX6_add.data.toList.drop 0 = dktX6_add_0 := by decide +kernel
theorem dksX6_add_1 : cX6_add.data.toList.drop 22 = dktX6_add_1 := dk_seg dksX6_add_0 22 rfl rfl
theorem dksX6_add_2 : cX6_add.data.toList.drop 44 = dktX6_add_2 := dk_seg dksX6_add_1 22 rfl rfl
theorem dksX6_add_3 : cX6_add.data.toList.drop 67 = dktX6_add_3 := dk_seg dksX6_add_2 23 rfl rfl
theorem dX6_add_0 : decode cX6_add 0 = .ok (.iload_n 1, 1) := dk_27 (dk_at dksX6_add_0 0 rfl rfl)
theorem dX6_add_1 : decode cX6_add 1 = .ok (.bipush 64, 2) := dk_16 64 (dk_at dksX6_add_0 1 rfl rfl)
theorem dX6_add_3 : decode cX6_add 3 = .ok (.if_icmp .ge 18, 3) := dk_162 0 18 (dk_at dksX6_add_0 3 rfl rfl)
theorem dX6_add_6 : decode cX6_add 6 = .ok (.aload_n 0, 1) := dk_42 (dk_at dksX6_add_0 6 rfl rfl)
theorem dX6_add_7 : decode cX6_add 7 = .ok (.dup, 1) := dk_89 (dk_at dksX6_add_0 7 rfl rfl)
theorem dX6_add_8 : decode cX6_add 8 = .ok (.getfield 7, 3) := dk_180 0 7 (dk_at dksX6_add_0 8 rfl rfl)
theorem dX6_add_11 : decode cX6_add 11 = .ok (.lconst 1, 1) := dk_10 (dk_at dksX6_add_0 11 rfl rfl)
theorem dX6_add_12 : decode cX6_add 12 = .ok (.iload_n 1, 1) := dk_27 (dk_at dksX6_add_0 12 rfl rfl)
theorem dX6_add_13 : decode cX6_add 13 = .ok (.lshl, 1) := dk_121 (dk_at dksX6_add_0 13 rfl rfl)
theorem dX6_add_14 : decode cX6_add 14 = .ok (.lor, 1) := dk_129 (dk_at dksX6_add_0 14 rfl rfl)
theorem dX6_add_15 : decode cX6_add 15 = .ok (.putfield 7, 3) := dk_181 0 7 (dk_at dksX6_add_0 15 rfl rfl)
theorem dX6_add_18 : decode cX6_add 18 = .ok (.goto 59, 3) := dk_167 0 59 (dk_at dksX6_add_0 18 rfl rfl)
theorem dX6_add_21 : decode cX6_add 21 = .ok (.iload_n 1, 1) := dk_27 (dk_at dksX6_add_0 21 rfl rfl)
theorem dX6_add_22 : decode cX6_add 22 = .ok (.sipush 128, 3) := dk_17 0 128 (dk_at dksX6_add_1 0 rfl rfl)
theorem dX6_add_25 : decode cX6_add 25 = .ok (.if_icmp .ge 18, 3) := dk_162 0 18 (dk_at dksX6_add_1 3 rfl rfl)
theorem dX6_add_28 : decode cX6_add 28 = .ok (.aload_n 0, 1) := dk_42 (dk_at dksX6_add_1 6 rfl rfl)
theorem dX6_add_29 : decode cX6_add 29 = .ok (.dup, 1) := dk_89 (dk_at dksX6_add_1 7 rfl rfl)
theorem dX6_add_30 : decode cX6_add 30 = .ok (.getfield 13, 3) := dk_180 0 13 (dk_at dksX6_add_1 8 rfl rfl)
theorem dX6_add_33 : decode cX6_add 33 = .ok (.lconst 1, 1) := dk_10 (dk_at dksX6_add_1 11 rfl rfl)
theorem dX6_add_34 : decode cX6_add 34 = .ok (.iload_n 1, 1) := dk_27 (dk_at dksX6_add_1 12 rfl rfl)
theorem dX6_add_35 : decode cX6_add 35 = .ok (.lshl, 1) := dk_121 (dk_at dksX6_add_1 13 rfl rfl)
theorem dX6_add_36 : decode cX6_add 36 = .ok (.lor, 1) := dk_129 (dk_at dksX6_add_1 14 rfl rfl)
theorem dX6_add_37 : decode cX6_add 37 = .ok (.putfield 13, 3) := dk_181 0 13 (dk_at dksX6_add_1 15 rfl rfl)
theorem dX6_add_40 : decode cX6_add 40 = .ok (.goto 37, 3) := dk_167 0 37 (dk_at dksX6_add_1 18 rfl rfl)
theorem dX6_add_43 : decode cX6_add 43 = .ok (.iload_n 1, 1) := dk_27 (dk_at dksX6_add_1 21 rfl rfl)
theorem dX6_add_44 : decode cX6_add 44 = .ok (.sipush 192, 3) := dk_17 0 192 (dk_at dksX6_add_2 0 rfl rfl)
theorem dX6_add_47 : decode cX6_add 47 = .ok (.if_icmp .ge 18, 3) := dk_162 0 18 (dk_at dksX6_add_2 3 rfl rfl)
theorem dX6_add_50 : decode cX6_add 50 = .ok (.aload_n 0, 1) := dk_42 (dk_at dksX6_add_2 6 rfl rfl)
theorem dX6_add_51 : decode cX6_add 51 = .ok (.dup, 1) := dk_89 (dk_at dksX6_add_2 7 rfl rfl)
theorem dX6_add_52 : decode cX6_add 52 = .ok (.getfield 16, 3) := dk_180 0 16 (dk_at dksX6_add_2 8 rfl rfl)
theorem dX6_add_55 : decode cX6_add 55 = .ok (.lconst 1, 1) := dk_10 (dk_at dksX6_add_2 11 rfl rfl)
theorem dX6_add_56 : decode cX6_add 56 = .ok (.iload_n 1, 1) := dk_27 (dk_at dksX6_add_2 12 rfl rfl)
theorem dX6_add_57 : decode cX6_add 57 = .ok (.lshl, 1) := dk_121 (dk_at dksX6_add_2 13 rfl rfl)
theorem dX6_add_58 : decode cX6_add 58 = .ok (.lor, 1) := dk_129 (dk_at dksX6_add_2 14 rfl rfl)
theorem dX6_add_59 : decode cX6_add 59 = .ok (.putfield 16, 3) := dk_181 0 16 (dk_at dksX6_add_2 15 rfl rfl)
theorem dX6_add_62 : decode cX6_add 62 = .ok (.goto 15, 3) := dk_167 0 15 (dk_at dksX6_add_2 18 rfl rfl)
theorem dX6_add_65 : decode cX6_add 65 = .ok (.aload_n 0, 1) := dk_42 (dk_at dksX6_add_2 21 rfl rfl)
theorem dX6_add_66 : decode cX6_add 66 = .ok (.dup, 1) := dk_89 (dk_at dksX6_add_2 22 rfl rfl)
theorem dX6_add_67 : decode cX6_add 67 = .ok (.getfield 19, 3) := dk_180 0 19 (dk_at dksX6_add_3 0 rfl rfl)
theorem dX6_add_70 : decode cX6_add 70 = .ok (.lconst 1, 1) := dk_10 (dk_at dksX6_add_3 3 rfl rfl)
theorem dX6_add_71 : decode cX6_add 71 = .ok (.iload_n 1, 1) := dk_27 (dk_at dksX6_add_3 4 rfl rfl)
theorem dX6_add_72 : decode cX6_add 72 = .ok (.lshl, 1) := dk_121 (dk_at dksX6_add_3 5 rfl rfl)
theorem dX6_add_73 : decode cX6_add 73 = .ok (.lor, 1) := dk_129 (dk_at dksX6_add_3 6 rfl rfl)
theorem dX6_add_74 : decode cX6_add 74 = .ok (.putfield 19, 3) := dk_181 0 19 (dk_at dksX6_add_3 7 rfl rfl)
theorem dX6_add_77 : decode cX6_add 77 = .ok (.return_, 1) := dk_177 (dk_at dksX6_add_3 10 rfl rfl)
abbrev cX6_be : ByteArray := prog_17_method_4_code
def yX6_be : MethodName := ⟨RX6, "be", "(LAskingCourt$Worlds;)LAskingCourt$Worlds;"⟩
def dkwX6_be_1 : List UInt8 := [42, 43, 180, 0, 19, 181, 0, 19, 42, 176]
abbrev dktX6_be_1 : List UInt8 := dkwX6_be_1 ++ []
def dkwX6_be_0 : List UInt8 := [42, 43, 180, 0, 7, 181, 0, 7, 42, 43, 180, 0, 13, 181, 0, 13, 42, 43, 180, 0, 16, 181, 0, 16]
abbrev dktX6_be_0 : List UInt8 := dkwX6_be_0 ++ dktX6_be_1
theorem dksX6_be_0 : cX6_be.data.toList.drop 0 = dktX6_be_0 := by decide +kernel
theorem dksX6_be_1 : cX6_be.data.toList.drop 24 = dktX6_be_1 := dk_seg dksX6_be_0 24 rfl rfl
theorem dX6_be_0 : decode cX6_be 0 = .ok (.aload_n 0, 1) := dk_42 (dk_at dksX6_be_0 0 rfl rfl)
theorem dX6_be_1 : decode cX6_be 1 = .ok (.aload_n 1, 1) := dk_43 (dk_at dksX6_be_0 1 rfl rfl)
theorem dX6_be_2 : decode cX6_be 2 = .ok (.getfield 7, 3) := dk_180 0 7 (dk_at dksX6_be_0 2 rfl rfl)
theorem dX6_be_5 : decode cX6_be 5 = .ok (.putfield 7, 3) := dk_181 0 7 (dk_at dksX6_be_0 5 rfl rfl)
theorem dX6_be_8 : decode cX6_be 8 = .ok (.aload_n 0, 1) := dk_42 (dk_at dksX6_be_0 8 rfl rfl)
theorem dX6_be_9 : decode cX6_be 9 = .ok (.aload_n 1, 1) := dk_43 (dk_at dksX6_be_0 9 rfl rfl)
theorem dX6_be_10 : decode cX6_be 10 = .ok (.getfield 13, 3) := dk_180 0 13 (dk_at dksX6_be_0 10 rfl rfl)
theorem dX6_be_13 : decode cX6_be 13 = .ok (.putfield 13, 3) := dk_181 0 13 (dk_at dksX6_be_0 13 rfl rfl)
theorem dX6_be_16 : decode cX6_be 16 = .ok (.aload_n 0, 1) := dk_42 (dk_at dksX6_be_0 16 rfl rfl)
theorem dX6_be_17 : decode cX6_be 17 = .ok (.aload_n 1, 1) := dk_43 (dk_at dksX6_be_0 17 rfl rfl)
theorem dX6_be_18 : decode cX6_be 18 = .ok (.getfield 16, 3) := dk_180 0 16 (dk_at dksX6_be_0 18 rfl rfl)
theorem dX6_be_21 : decode cX6_be 21 = .ok (.putfield 16, 3) := dk_181 0 16 (dk_at dksX6_be_0 21 rfl rfl)
theorem dX6_be_24 : decode cX6_be 24 = .ok (.aload_n 0, 1) := dk_42 (dk_at dksX6_be_1 0 rfl rfl)
theorem dX6_be_25 : decode cX6_be 25 = .ok (.aload_n 1, 1) := dk_43 (dk_at dksX6_be_1 1 rfl rfl)
theorem dX6_be_26 : decode cX6_be 26 = .ok (.getfield 19, 3) := dk_180 0 19 (dk_at dksX6_be_1 2 rfl rfl)
theorem dX6_be_29 : decode cX6_be 29 = .ok (.putfield 19, 3) := dk_181 0 19 (dk_at dksX6_be_1 5 rfl rfl)
theorem dX6_be_32 : decode cX6_be 32 = .ok (.aload_n 0, 1) := dk_42 (dk_at dksX6_be_1 8 rfl rfl)
theorem dX6_be_33 : decode cX6_be 33 = .ok (.areturn, 1) := dk_176 (dk_at dksX6_be_1 9 rfl rfl)
abbrev cX6_clear : ByteArray := prog_17_method_5_code
def yX6_clear : MethodName := ⟨RX6, "clear", "()V"⟩
def dkwX6_clear_0 : List UInt8 := [42, 9, 181, 0, 7, 42, 9, 181, 0, 13, 42, 9, 181, 0, 16, 42, 9, 181, 0, 19, 177]
abbrev dktX6_clear_0 : List UInt8 := dkwX6_clear_0 ++ []
theorem dksX6_clear_0 : cX6_clear.data.toList.drop 0 = dktX6_clear_0 := by decide +kernel
theorem dX6_clear_0 : decode cX6_clear 0 = .ok (.aload_n 0, 1) := dk_42 (dk_at dksX6_clear_0 0 rfl rfl)
theorem dX6_clear_1 : decode cX6_clear 1 = .ok (.lconst 0, 1) := dk_9 (dk_at dksX6_clear_0 1 rfl rfl)
theorem dX6_clear_2 : decode cX6_clear 2 = .ok (.putfield 7, 3) := dk_181 0 7 (dk_at dksX6_clear_0 2 rfl rfl)
theorem dX6_clear_5 : decode cX6_clear 5 = .ok (.aload_n 0, 1) := dk_42 (dk_at dksX6_clear_0 5 rfl rfl)
theorem dX6_clear_6 : decode cX6_clear 6 = .ok (.lconst 0, 1) := dk_9 (dk_at dksX6_clear_0 6 rfl rfl)
theorem dX6_clear_7 : decode cX6_clear 7 = .ok (.putfield 13, 3) := dk_181 0 13 (dk_at dksX6_clear_0 7 rfl rfl)
theorem dX6_clear_10 : decode cX6_clear 10 = .ok (.aload_n 0, 1) := dk_42 (dk_at dksX6_clear_0 10 rfl rfl)
theorem dX6_clear_11 : decode cX6_clear 11 = .ok (.lconst 0, 1) := dk_9 (dk_at dksX6_clear_0 11 rfl rfl)
theorem dX6_clear_12 : decode cX6_clear 12 = .ok (.putfield 16, 3) := dk_181 0 16 (dk_at dksX6_clear_0 12 rfl rfl)
theorem dX6_clear_15 : decode cX6_clear 15 = .ok (.aload_n 0, 1) := dk_42 (dk_at dksX6_clear_0 15 rfl rfl)
theorem dX6_clear_16 : decode cX6_clear 16 = .ok (.lconst 0, 1) := dk_9 (dk_at dksX6_clear_0 16 rfl rfl)
theorem dX6_clear_17 : decode cX6_clear 17 = .ok (.putfield 19, 3) := dk_181 0 19 (dk_at dksX6_clear_0 17 rfl rfl)
theorem dX6_clear_20 : decode cX6_clear 20 = .ok (.return_, 1) := dk_177 (dk_at dksX6_clear_0 20 rfl rfl)
abbrev cX6_has : ByteArray := prog_17_method_2_code
def yX6_has : MethodName := ⟨RX6, "has", "(I)Z"⟩
def dkwX6_has_2 : List UInt8 := [127, 10, 148, 154, 0, 7, 4, 167, 0, 4, 3, 172]
abbrev dktX6_has_2 : List UInt8 := dkwX6_has_2 ++ []
def dkwX6_has_1 : List UInt8 := [167, 0, 21, 27, 17, 0, 192, 162, 0, 10, 42, 180, 0, 16, 167, 0, 7, 42, 180, 0, 19, 27, 123, 10]
abbrev dktX6_has_1 : List UInt8 := dkwX6_has_1 ++ dktX6_has_2
def dkwX6_has_0 : List UInt8 := [27, 16, 64, 162, 0, 10, 42, 180, 0, 7, 167, 0, 35, 27, 17, 0, 128, 162, 0, 10, 42, 180, 0, 13]
abbrev dktX6_has_0 : List UInt8 := dkwX6_has_0 ++ dktX6_has_1
theorem dksX6_has_0 : cX6_has.data.toList.drop 0 = dktX6_has_0 := by decide +kernel
theorem dksX6_has_1 : cX6_has.data.toList.drop 24 = dktX6_has_1 := dk_seg dksX6_has_0 24 rfl rfl
theorem dksX6_has_2 : cX6_has.data.toList.drop 48 = dktX6_has_2 := dk_seg dksX6_has_1 24 rfl rfl
theorem dX6_has_0 : decode cX6_has 0 = .ok (.iload_n 1, 1) := dk_27 (dk_at dksX6_has_0 0 rfl rfl)
theorem dX6_has_1 : decode cX6_has 1 = .ok (.bipush 64, 2) := dk_16 64 (dk_at dksX6_has_0 1 rfl rfl)
theorem dX6_has_3 : decode cX6_has 3 = .ok (.if_icmp .ge 10, 3) := dk_162 0 10 (dk_at dksX6_has_0 3 rfl rfl)
theorem dX6_has_6 : decode cX6_has 6 = .ok (.aload_n 0, 1) := dk_42 (dk_at dksX6_has_0 6 rfl rfl)
theorem dX6_has_7 : decode cX6_has 7 = .ok (.getfield 7, 3) := dk_180 0 7 (dk_at dksX6_has_0 7 rfl rfl)
theorem dX6_has_10 : decode cX6_has 10 = .ok (.goto 35, 3) := dk_167 0 35 (dk_at dksX6_has_0 10 rfl rfl)
theorem dX6_has_13 : decode cX6_has 13 = .ok (.iload_n 1, 1) := dk_27 (dk_at dksX6_has_0 13 rfl rfl)
theorem dX6_has_14 : decode cX6_has 14 = .ok (.sipush 128, 3) := dk_17 0 128 (dk_at dksX6_has_0 14 rfl rfl)
theorem dX6_has_17 : decode cX6_has 17 = .ok (.if_icmp .ge 10, 3) := dk_162 0 10 (dk_at dksX6_has_0 17 rfl rfl)
theorem dX6_has_20 : decode cX6_has 20 = .ok (.aload_n 0, 1) := dk_42 (dk_at dksX6_has_0 20 rfl rfl)
theorem dX6_has_21 : decode cX6_has 21 = .ok (.getfield 13, 3) := dk_180 0 13 (dk_at dksX6_has_0 21 rfl rfl)
theorem dX6_has_24 : decode cX6_has 24 = .ok (.goto 21, 3) := dk_167 0 21 (dk_at dksX6_has_1 0 rfl rfl)
theorem dX6_has_27 : decode cX6_has 27 = .ok (.iload_n 1, 1) := dk_27 (dk_at dksX6_has_1 3 rfl rfl)
theorem dX6_has_28 : decode cX6_has 28 = .ok (.sipush 192, 3) := dk_17 0 192 (dk_at dksX6_has_1 4 rfl rfl)
theorem dX6_has_31 : decode cX6_has 31 = .ok (.if_icmp .ge 10, 3) := dk_162 0 10 (dk_at dksX6_has_1 7 rfl rfl)
theorem dX6_has_34 : decode cX6_has 34 = .ok (.aload_n 0, 1) := dk_42 (dk_at dksX6_has_1 10 rfl rfl)
theorem dX6_has_35 : decode cX6_has 35 = .ok (.getfield 16, 3) := dk_180 0 16 (dk_at dksX6_has_1 11 rfl rfl)
theorem dX6_has_38 : decode cX6_has 38 = .ok (.goto 7, 3) := dk_167 0 7 (dk_at dksX6_has_1 14 rfl rfl)
theorem dX6_has_41 : decode cX6_has 41 = .ok (.aload_n 0, 1) := dk_42 (dk_at dksX6_has_1 17 rfl rfl)
theorem dX6_has_42 : decode cX6_has 42 = .ok (.getfield 19, 3) := dk_180 0 19 (dk_at dksX6_has_1 18 rfl rfl)
theorem dX6_has_45 : decode cX6_has 45 = .ok (.iload_n 1, 1) := dk_27 (dk_at dksX6_has_1 21 rfl rfl)
theorem dX6_has_46 : decode cX6_has 46 = .ok (.lshr, 1) := dk_123 (dk_at dksX6_has_1 22 rfl rfl)
theorem dX6_has_47 : decode cX6_has 47 = .ok (.lconst 1, 1) := dk_10 (dk_at dksX6_has_1 23 rfl rfl)
theorem dX6_has_48 : decode cX6_has 48 = .ok (.land, 1) := dk_127 (dk_at dksX6_has_2 0 rfl rfl)
theorem dX6_has_49 : decode cX6_has 49 = .ok (.lconst 1, 1) := dk_10 (dk_at dksX6_has_2 1 rfl rfl)
theorem dX6_has_50 : decode cX6_has 50 = .ok (.lcmp, 1) := dk_148 (dk_at dksX6_has_2 2 rfl rfl)
theorem dX6_has_51 : decode cX6_has 51 = .ok (.ifCond .ne 7, 3) := dk_154 0 7 (dk_at dksX6_has_2 3 rfl rfl)
theorem dX6_has_54 : decode cX6_has 54 = .ok (.iconst 1, 1) := dk_4 (dk_at dksX6_has_2 6 rfl rfl)
theorem dX6_has_55 : decode cX6_has 55 = .ok (.goto 4, 3) := dk_167 0 4 (dk_at dksX6_has_2 7 rfl rfl)
theorem dX6_has_58 : decode cX6_has 58 = .ok (.iconst 0, 1) := dk_3 (dk_at dksX6_has_2 10 rfl rfl)
theorem dX6_has_59 : decode cX6_has 59 = .ok (.ireturn, 1) := dk_172 (dk_at dksX6_has_2 11 rfl rfl)
abbrev cX6_drop : ByteArray := prog_17_method_8_code
def yX6_drop : MethodName := ⟨RX6, "drop", "(LAskingCourt$Worlds;)V"⟩
def dkwX6_drop_2 : List UInt8 := [127, 181, 0, 16, 42, 42, 180, 0, 19, 43, 180, 0, 19, 20, 0, 22, 131, 127, 181, 0, 19, 177]
abbrev dktX6_drop_2 : List UInt8 := dkwX6_drop_2 ++ []
def dkwX6_drop_1 : List UInt8 := [180, 0, 13, 20, 0, 22, 131, 127, 181, 0, 13, 42, 42, 180, 0, 16, 43, 180, 0, 16, 20, 0, 22, 131]
abbrev dktX6_drop_1 : List UInt8 := dkwX6_drop_1 ++ dktX6_drop_2
def dkwX6_drop_0 : List UInt8 := [42, 42, 180, 0, 7, 43, 180, 0, 7, 20, 0, 22, 131, 127, 181, 0, 7, 42, 42, 180, 0, 13, 43]
abbrev dktX6_drop_0 : List UInt8 := dkwX6_drop_0 ++ dktX6_drop_1
theorem dksX6_drop_0 : cX6_drop.data.toList.drop 0 = dktX6_drop_0 := by decide +kernel
theorem dksX6_drop_1 : cX6_drop.data.toList.drop 23 = dktX6_drop_1 := dk_seg dksX6_drop_0 23 rfl rfl
theorem dksX6_drop_2 : cX6_drop.data.toList.drop 47 = dktX6_drop_2 := dk_seg dksX6_drop_1 24 rfl rfl
theorem dX6_drop_0 : decode cX6_drop 0 = .ok (.aload_n 0, 1) := dk_42 (dk_at dksX6_drop_0 0 rfl rfl)
theorem dX6_drop_1 : decode cX6_drop 1 = .ok (.aload_n 0, 1) := dk_42 (dk_at dksX6_drop_0 1 rfl rfl)
theorem dX6_drop_2 : decode cX6_drop 2 = .ok (.getfield 7, 3) := dk_180 0 7 (dk_at dksX6_drop_0 2 rfl rfl)
theorem dX6_drop_5 : decode cX6_drop 5 = .ok (.aload_n 1, 1) := dk_43 (dk_at dksX6_drop_0 5 rfl rfl)
theorem dX6_drop_6 : decode cX6_drop 6 = .ok (.getfield 7, 3) := dk_180 0 7 (dk_at dksX6_drop_0 6 rfl rfl)
theorem dX6_drop_9 : decode cX6_drop 9 = .ok (.ldc2_w 22, 3) := dk_20 0 22 (dk_at dksX6_drop_0 9 rfl rfl)
theorem dX6_drop_12 : decode cX6_drop 12 = .ok (.lxor, 1) := dk_131 (dk_at dksX6_drop_0 12 rfl rfl)
theorem dX6_drop_13 : decode cX6_drop 13 = .ok (.land, 1) := dk_127 (dk_at dksX6_drop_0 13 rfl rfl)
theorem dX6_drop_14 : decode cX6_drop 14 = .ok (.putfield 7, 3) := dk_181 0 7 (dk_at dksX6_drop_0 14 rfl rfl)
theorem dX6_drop_17 : decode cX6_drop 17 = .ok (.aload_n 0, 1) := dk_42 (dk_at dksX6_drop_0 17 rfl rfl)
theorem dX6_drop_18 : decode cX6_drop 18 = .ok (.aload_n 0, 1) := dk_42 (dk_at dksX6_drop_0 18 rfl rfl)
theorem dX6_drop_19 : decode cX6_drop 19 = .ok (.getfield 13, 3) := dk_180 0 13 (dk_at dksX6_drop_0 19 rfl rfl)
theorem dX6_drop_22 : decode cX6_drop 22 = .ok (.aload_n 1, 1) := dk_43 (dk_at dksX6_drop_0 22 rfl rfl)
theorem dX6_drop_23 : decode cX6_drop 23 = .ok (.getfield 13, 3) := dk_180 0 13 (dk_at dksX6_drop_1 0 rfl rfl)
theorem dX6_drop_26 : decode cX6_drop 26 = .ok (.ldc2_w 22, 3) := dk_20 0 22 (dk_at dksX6_drop_1 3 rfl rfl)
theorem dX6_drop_29 : decode cX6_drop 29 = .ok (.lxor, 1) := dk_131 (dk_at dksX6_drop_1 6 rfl rfl)
theorem dX6_drop_30 : decode cX6_drop 30 = .ok (.land, 1) := dk_127 (dk_at dksX6_drop_1 7 rfl rfl)
theorem dX6_drop_31 : decode cX6_drop 31 = .ok (.putfield 13, 3) := dk_181 0 13 (dk_at dksX6_drop_1 8 rfl rfl)
theorem dX6_drop_34 : decode cX6_drop 34 = .ok (.aload_n 0, 1) := dk_42 (dk_at dksX6_drop_1 11 rfl rfl)
theorem dX6_drop_35 : decode cX6_drop 35 = .ok (.aload_n 0, 1) := dk_42 (dk_at dksX6_drop_1 12 rfl rfl)
theorem dX6_drop_36 : decode cX6_drop 36 = .ok (.getfield 16, 3) := dk_180 0 16 (dk_at dksX6_drop_1 13 rfl rfl)
theorem dX6_drop_39 : decode cX6_drop 39 = .ok (.aload_n 1, 1) := dk_43 (dk_at dksX6_drop_1 16 rfl rfl)
theorem dX6_drop_40 : decode cX6_drop 40 = .ok (.getfield 16, 3) := dk_180 0 16 (dk_at dksX6_drop_1 17 rfl rfl)
theorem dX6_drop_43 : decode cX6_drop 43 = .ok (.ldc2_w 22, 3) := dk_20 0 22 (dk_at dksX6_drop_1 20 rfl rfl)
theorem dX6_drop_46 : decode cX6_drop 46 = .ok (.lxor, 1) := dk_131 (dk_at dksX6_drop_1 23 rfl rfl)
theorem dX6_drop_47 : decode cX6_drop 47 = .ok (.land, 1) := dk_127 (dk_at dksX6_drop_2 0 rfl rfl)
theorem dX6_drop_48 : decode cX6_drop 48 = .ok (.putfield 16, 3) := dk_181 0 16 (dk_at dksX6_drop_2 1 rfl rfl)
theorem dX6_drop_51 : decode cX6_drop 51 = .ok (.aload_n 0, 1) := dk_42 (dk_at dksX6_drop_2 4 rfl rfl)
theorem dX6_drop_52 : decode cX6_drop 52 = .ok (.aload_n 0, 1) := dk_42 (dk_at dksX6_drop_2 5 rfl rfl)
theorem dX6_drop_53 : decode cX6_drop 53 = .ok (.getfield 19, 3) := dk_180 0 19 (dk_at dksX6_drop_2 6 rfl rfl)
theorem dX6_drop_56 : decode cX6_drop 56 = .ok (.aload_n 1, 1) := dk_43 (dk_at dksX6_drop_2 9 rfl rfl)
theorem dX6_drop_57 : decode cX6_drop 57 = .ok (.getfield 19, 3) := dk_180 0 19 (dk_at dksX6_drop_2 10 rfl rfl)
theorem dX6_drop_60 : decode cX6_drop 60 = .ok (.ldc2_w 22, 3) := dk_20 0 22 (dk_at dksX6_drop_2 13 rfl rfl)
theorem dX6_drop_63 : decode cX6_drop 63 = .ok (.lxor, 1) := dk_131 (dk_at dksX6_drop_2 16 rfl rfl)
theorem dX6_drop_64 : decode cX6_drop 64 = .ok (.land, 1) := dk_127 (dk_at dksX6_drop_2 17 rfl rfl)
theorem dX6_drop_65 : decode cX6_drop 65 = .ok (.putfield 19, 3) := dk_181 0 19 (dk_at dksX6_drop_2 18 rfl rfl)
theorem dX6_drop_68 : decode cX6_drop 68 = .ok (.return_, 1) := dk_177 (dk_at dksX6_drop_2 21 rfl rfl)
abbrev cX6_keep : ByteArray := prog_17_method_7_code
def yX6_keep : MethodName := ⟨RX6, "keep", "(LAskingCourt$Worlds;)V"⟩
def dkwX6_keep_2 : List UInt8 := [180, 0, 19, 127, 181, 0, 19, 177]
abbrev dktX6_keep_2 : List UInt8 := dkwX6_keep_2 ++ []
def dkwX6_keep_1 : List UInt8 := [181, 0, 13, 42, 89, 180, 0, 16, 43, 180, 0, 16, 127, 181, 0, 16, 42, 89, 180, 0, 19, 43]
abbrev dktX6_keep_1 : List UInt8 := dkwX6_keep_1 ++ dktX6_keep_2
def dkwX6_keep_0 : List UInt8 := [42, 89, 180, 0, 7, 43, 180, 0, 7, 127, 181, 0, 7, 42, 89, 180, 0, 13, 43, 180, 0, 13, 127]
abbrev dktX6_keep_0 : List UInt8 := dkwX6_keep_0 ++ dktX6_keep_1
theorem dksX6_keep_0 : cX6_keep.data.toList.drop 0 = dktX6_keep_0 := by decide +kernel
theorem dksX6_keep_1 : cX6_keep.data.toList.drop 23 = dktX6_keep_1 := dk_seg dksX6_keep_0 23 rfl rfl
theorem dksX6_keep_2 : cX6_keep.data.toList.drop 45 = dktX6_keep_2 := dk_seg dksX6_keep_1 22 rfl rfl
theorem dX6_keep_0 : decode cX6_keep 0 = .ok (.aload_n 0, 1) := dk_42 (dk_at dksX6_keep_0 0 rfl rfl)
theorem dX6_keep_1 : decode cX6_keep 1 = .ok (.dup, 1) := dk_89 (dk_at dksX6_keep_0 1 rfl rfl)
theorem dX6_keep_2 : decode cX6_keep 2 = .ok (.getfield 7, 3) := dk_180 0 7 (dk_at dksX6_keep_0 2 rfl rfl)
theorem dX6_keep_5 : decode cX6_keep 5 = .ok (.aload_n 1, 1) := dk_43 (dk_at dksX6_keep_0 5 rfl rfl)
theorem dX6_keep_6 : decode cX6_keep 6 = .ok (.getfield 7, 3) := dk_180 0 7 (dk_at dksX6_keep_0 6 rfl rfl)
theorem dX6_keep_9 : decode cX6_keep 9 = .ok (.land, 1) := dk_127 (dk_at dksX6_keep_0 9 rfl rfl)
theorem dX6_keep_10 : decode cX6_keep 10 = .ok (.putfield 7, 3) := dk_181 0 7 (dk_at dksX6_keep_0 10 rfl rfl)
theorem dX6_keep_13 : decode cX6_keep 13 = .ok (.aload_n 0, 1) := dk_42 (dk_at dksX6_keep_0 13 rfl rfl)
theorem dX6_keep_14 : decode cX6_keep 14 = .ok (.dup, 1) := dk_89 (dk_at dksX6_keep_0 14 rfl rfl)
theorem dX6_keep_15 : decode cX6_keep 15 = .ok (.getfield 13, 3) := dk_180 0 13 (dk_at dksX6_keep_0 15 rfl rfl)
theorem dX6_keep_18 : decode cX6_keep 18 = .ok (.aload_n 1, 1) := dk_43 (dk_at dksX6_keep_0 18 rfl rfl)
theorem dX6_keep_19 : decode cX6_keep 19 = .ok (.getfield 13, 3) := dk_180 0 13 (dk_at dksX6_keep_0 19 rfl rfl)
theorem dX6_keep_22 : decode cX6_keep 22 = .ok (.land, 1) := dk_127 (dk_at dksX6_keep_0 22 rfl rfl)
theorem dX6_keep_23 : decode cX6_keep 23 = .ok (.putfield 13, 3) := dk_181 0 13 (dk_at dksX6_keep_1 0 rfl rfl)
theorem dX6_keep_26 : decode cX6_keep 26 = .ok (.aload_n 0, 1) := dk_42 (dk_at dksX6_keep_1 3 rfl rfl)
theorem dX6_keep_27 : decode cX6_keep 27 = .ok (.dup, 1) := dk_89 (dk_at dksX6_keep_1 4 rfl rfl)
theorem dX6_keep_28 : decode cX6_keep 28 = .ok (.getfield 16, 3) := dk_180 0 16 (dk_at dksX6_keep_1 5 rfl rfl)
theorem dX6_keep_31 : decode cX6_keep 31 = .ok (.aload_n 1, 1) := dk_43 (dk_at dksX6_keep_1 8 rfl rfl)
theorem dX6_keep_32 : decode cX6_keep 32 = .ok (.getfield 16, 3) := dk_180 0 16 (dk_at dksX6_keep_1 9 rfl rfl)
theorem dX6_keep_35 : decode cX6_keep 35 = .ok (.land, 1) := dk_127 (dk_at dksX6_keep_1 12 rfl rfl)
theorem dX6_keep_36 : decode cX6_keep 36 = .ok (.putfield 16, 3) := dk_181 0 16 (dk_at dksX6_keep_1 13 rfl rfl)
theorem dX6_keep_39 : decode cX6_keep 39 = .ok (.aload_n 0, 1) := dk_42 (dk_at dksX6_keep_1 16 rfl rfl)
theorem dX6_keep_40 : decode cX6_keep 40 = .ok (.dup, 1) := dk_89 (dk_at dksX6_keep_1 17 rfl rfl)
theorem dX6_keep_41 : decode cX6_keep 41 = .ok (.getfield 19, 3) := dk_180 0 19 (dk_at dksX6_keep_1 18 rfl rfl)
theorem dX6_keep_44 : decode cX6_keep 44 = .ok (.aload_n 1, 1) := dk_43 (dk_at dksX6_keep_1 21 rfl rfl)
theorem dX6_keep_45 : decode cX6_keep 45 = .ok (.getfield 19, 3) := dk_180 0 19 (dk_at dksX6_keep_2 0 rfl rfl)
theorem dX6_keep_48 : decode cX6_keep 48 = .ok (.land, 1) := dk_127 (dk_at dksX6_keep_2 3 rfl rfl)
theorem dX6_keep_49 : decode cX6_keep 49 = .ok (.putfield 19, 3) := dk_181 0 19 (dk_at dksX6_keep_2 4 rfl rfl)
theorem dX6_keep_52 : decode cX6_keep 52 = .ok (.return_, 1) := dk_177 (dk_at dksX6_keep_2 7 rfl rfl)
abbrev cX6_join : ByteArray := prog_17_method_6_code
def yX6_join : MethodName := ⟨RX6, "join", "(LAskingCourt$Worlds;)V"⟩
def dkwX6_join_2 : List UInt8 := [180, 0, 19, 129, 181, 0, 19, 177]
abbrev dktX6_join_2 : List UInt8 := dkwX6_join_2 ++ []
def dkwX6_join_1 : List UInt8 := [181, 0, 13, 42, 89, 180, 0, 16, 43, 180, 0, 16, 129, 181, 0, 16, 42, 89, 180, 0, 19, 43]
abbrev dktX6_join_1 : List UInt8 := dkwX6_join_1 ++ dktX6_join_2
def dkwX6_join_0 : List UInt8 := [42, 89, 180, 0, 7, 43, 180, 0, 7, 129, 181, 0, 7, 42, 89, 180, 0, 13, 43, 180, 0, 13, 129]
abbrev dktX6_join_0 : List UInt8 := dkwX6_join_0 ++ dktX6_join_1
theorem dksX6_join_0 : cX6_join.data.toList.drop 0 = dktX6_join_0 := by decide +kernel
theorem dksX6_join_1 : cX6_join.data.toList.drop 23 = dktX6_join_1 := dk_seg dksX6_join_0 23 rfl rfl
theorem dksX6_join_2 : cX6_join.data.toList.drop 45 = dktX6_join_2 := dk_seg dksX6_join_1 22 rfl rfl
theorem dX6_join_0 : decode cX6_join 0 = .ok (.aload_n 0, 1) := dk_42 (dk_at dksX6_join_0 0 rfl rfl)
theorem dX6_join_1 : decode cX6_join 1 = .ok (.dup, 1) := dk_89 (dk_at dksX6_join_0 1 rfl rfl)
theorem dX6_join_2 : decode cX6_join 2 = .ok (.getfield 7, 3) := dk_180 0 7 (dk_at dksX6_join_0 2 rfl rfl)
theorem dX6_join_5 : decode cX6_join 5 = .ok (.aload_n 1, 1) := dk_43 (dk_at dksX6_join_0 5 rfl rfl)
theorem dX6_join_6 : decode cX6_join 6 = .ok (.getfield 7, 3) := dk_180 0 7 (dk_at dksX6_join_0 6 rfl rfl)
theorem dX6_join_9 : decode cX6_join 9 = .ok (.lor, 1) := dk_129 (dk_at dksX6_join_0 9 rfl rfl)
theorem dX6_join_10 : decode cX6_join 10 = .ok (.putfield 7, 3) := dk_181 0 7 (dk_at dksX6_join_0 10 rfl rfl)
theorem dX6_join_13 : decode cX6_join 13 = .ok (.aload_n 0, 1) := dk_42 (dk_at dksX6_join_0 13 rfl rfl)
theorem dX6_join_14 : decode cX6_join 14 = .ok (.dup, 1) := dk_89 (dk_at dksX6_join_0 14 rfl rfl)
theorem dX6_join_15 : decode cX6_join 15 = .ok (.getfield 13, 3) := dk_180 0 13 (dk_at dksX6_join_0 15 rfl rfl)
theorem dX6_join_18 : decode cX6_join 18 = .ok (.aload_n 1, 1) := dk_43 (dk_at dksX6_join_0 18 rfl rfl)
theorem dX6_join_19 : decode cX6_join 19 = .ok (.getfield 13, 3) := dk_180 0 13 (dk_at dksX6_join_0 19 rfl rfl)
theorem dX6_join_22 : decode cX6_join 22 = .ok (.lor, 1) := dk_129 (dk_at dksX6_join_0 22 rfl rfl)
theorem dX6_join_23 : decode cX6_join 23 = .ok (.putfield 13, 3) := dk_181 0 13 (dk_at dksX6_join_1 0 rfl rfl)
theorem dX6_join_26 : decode cX6_join 26 = .ok (.aload_n 0, 1) := dk_42 (dk_at dksX6_join_1 3 rfl rfl)
theorem dX6_join_27 : decode cX6_join 27 = .ok (.dup, 1) := dk_89 (dk_at dksX6_join_1 4 rfl rfl)
theorem dX6_join_28 : decode cX6_join 28 = .ok (.getfield 16, 3) := dk_180 0 16 (dk_at dksX6_join_1 5 rfl rfl)
theorem dX6_join_31 : decode cX6_join 31 = .ok (.aload_n 1, 1) := dk_43 (dk_at dksX6_join_1 8 rfl rfl)
theorem dX6_join_32 : decode cX6_join 32 = .ok (.getfield 16, 3) := dk_180 0 16 (dk_at dksX6_join_1 9 rfl rfl)
theorem dX6_join_35 : decode cX6_join 35 = .ok (.lor, 1) := dk_129 (dk_at dksX6_join_1 12 rfl rfl)
theorem dX6_join_36 : decode cX6_join 36 = .ok (.putfield 16, 3) := dk_181 0 16 (dk_at dksX6_join_1 13 rfl rfl)
theorem dX6_join_39 : decode cX6_join 39 = .ok (.aload_n 0, 1) := dk_42 (dk_at dksX6_join_1 16 rfl rfl)
theorem dX6_join_40 : decode cX6_join 40 = .ok (.dup, 1) := dk_89 (dk_at dksX6_join_1 17 rfl rfl)
theorem dX6_join_41 : decode cX6_join 41 = .ok (.getfield 19, 3) := dk_180 0 19 (dk_at dksX6_join_1 18 rfl rfl)
theorem dX6_join_44 : decode cX6_join 44 = .ok (.aload_n 1, 1) := dk_43 (dk_at dksX6_join_1 21 rfl rfl)
theorem dX6_join_45 : decode cX6_join 45 = .ok (.getfield 19, 3) := dk_180 0 19 (dk_at dksX6_join_2 0 rfl rfl)
theorem dX6_join_48 : decode cX6_join 48 = .ok (.lor, 1) := dk_129 (dk_at dksX6_join_2 3 rfl rfl)
theorem dX6_join_49 : decode cX6_join 49 = .ok (.putfield 19, 3) := dk_181 0 19 (dk_at dksX6_join_2 4 rfl rfl)
theorem dX6_join_52 : decode cX6_join 52 = .ok (.return_, 1) := dk_177 (dk_at dksX6_join_2 7 rfl rfl)
abbrev cX6_isWithin : ByteArray := prog_17_method_9_code
def yX6_isWithin : MethodName := ⟨RX6, "isWithin", "(LAskingCourt$Worlds;)Z"⟩
def dkwX6_isWithin_2 : List UInt8 := [180, 0, 19, 20, 0, 22, 131, 127, 129, 9, 148, 154, 0, 7, 4, 167, 0, 4, 3, 172]
abbrev dktX6_isWithin_2 : List UInt8 := dkwX6_isWithin_2 ++ []
def dkwX6_isWithin_1 : List UInt8 := [131, 127, 129, 42, 180, 0, 16, 43, 180, 0, 16, 20, 0, 22, 131, 127, 129, 42, 180, 0, 19, 43]
abbrev dktX6_isWithin_1 : List UInt8 := dkwX6_isWithin_1 ++ dktX6_isWithin_2
def dkwX6_isWithin_0 : List UInt8 := [42, 180, 0, 7, 43, 180, 0, 7, 20, 0, 22, 131, 127, 42, 180, 0, 13, 43, 180, 0, 13, 20, 0, 22]
abbrev dktX6_isWithin_0 : List UInt8 := dkwX6_isWithin_0 ++ dktX6_isWithin_1
theorem dksX6_isWithin_0 : cX6_isWithin.data.toList.drop 0 = dktX6_isWithin_0 := by decide +kernel
theorem dksX6_isWithin_1 : cX6_isWithin.data.toList.drop 24 = dktX6_isWithin_1 := dk_seg dksX6_isWithin_0 24 rfl rfl
theorem dksX6_isWithin_2 : cX6_isWithin.data.toList.drop 46 = dktX6_isWithin_2 := dk_seg dksX6_isWithin_1 22 rfl rfl
theorem dX6_isWithin_0 : decode cX6_isWithin 0 = .ok (.aload_n 0, 1) := dk_42 (dk_at dksX6_isWithin_0 0 rfl rfl)
theorem dX6_isWithin_1 : decode cX6_isWithin 1 = .ok (.getfield 7, 3) := dk_180 0 7 (dk_at dksX6_isWithin_0 1 rfl rfl)
theorem dX6_isWithin_4 : decode cX6_isWithin 4 = .ok (.aload_n 1, 1) := dk_43 (dk_at dksX6_isWithin_0 4 rfl rfl)
theorem dX6_isWithin_5 : decode cX6_isWithin 5 = .ok (.getfield 7, 3) := dk_180 0 7 (dk_at dksX6_isWithin_0 5 rfl rfl)
theorem dX6_isWithin_8 : decode cX6_isWithin 8 = .ok (.ldc2_w 22, 3) := dk_20 0 22 (dk_at dksX6_isWithin_0 8 rfl rfl)
theorem dX6_isWithin_11 : decode cX6_isWithin 11 = .ok (.lxor, 1) := dk_131 (dk_at dksX6_isWithin_0 11 rfl rfl)
theorem dX6_isWithin_12 : decode cX6_isWithin 12 = .ok (.land, 1) := dk_127 (dk_at dksX6_isWithin_0 12 rfl rfl)
theorem dX6_isWithin_13 : decode cX6_isWithin 13 = .ok (.aload_n 0, 1) := dk_42 (dk_at dksX6_isWithin_0 13 rfl rfl)
theorem dX6_isWithin_14 : decode cX6_isWithin 14 = .ok (.getfield 13, 3) := dk_180 0 13 (dk_at dksX6_isWithin_0 14 rfl rfl)
theorem dX6_isWithin_17 : decode cX6_isWithin 17 = .ok (.aload_n 1, 1) := dk_43 (dk_at dksX6_isWithin_0 17 rfl rfl)
theorem dX6_isWithin_18 : decode cX6_isWithin 18 = .ok (.getfield 13, 3) := dk_180 0 13 (dk_at dksX6_isWithin_0 18 rfl rfl)
theorem dX6_isWithin_21 : decode cX6_isWithin 21 = .ok (.ldc2_w 22, 3) := dk_20 0 22 (dk_at dksX6_isWithin_0 21 rfl rfl)
theorem dX6_isWithin_24 : decode cX6_isWithin 24 = .ok (.lxor, 1) := dk_131 (dk_at dksX6_isWithin_1 0 rfl rfl)
theorem dX6_isWithin_25 : decode cX6_isWithin 25 = .ok (.land, 1) := dk_127 (dk_at dksX6_isWithin_1 1 rfl rfl)
theorem dX6_isWithin_26 : decode cX6_isWithin 26 = .ok (.lor, 1) := dk_129 (dk_at dksX6_isWithin_1 2 rfl rfl)
theorem dX6_isWithin_27 : decode cX6_isWithin 27 = .ok (.aload_n 0, 1) := dk_42 (dk_at dksX6_isWithin_1 3 rfl rfl)
theorem dX6_isWithin_28 : decode cX6_isWithin 28 = .ok (.getfield 16, 3) := dk_180 0 16 (dk_at dksX6_isWithin_1 4 rfl rfl)
theorem dX6_isWithin_31 : decode cX6_isWithin 31 = .ok (.aload_n 1, 1) := dk_43 (dk_at dksX6_isWithin_1 7 rfl rfl)
theorem dX6_isWithin_32 : decode cX6_isWithin 32 = .ok (.getfield 16, 3) := dk_180 0 16 (dk_at dksX6_isWithin_1 8 rfl rfl)
theorem dX6_isWithin_35 : decode cX6_isWithin 35 = .ok (.ldc2_w 22, 3) := dk_20 0 22 (dk_at dksX6_isWithin_1 11 rfl rfl)
theorem dX6_isWithin_38 : decode cX6_isWithin 38 = .ok (.lxor, 1) := dk_131 (dk_at dksX6_isWithin_1 14 rfl rfl)
theorem dX6_isWithin_39 : decode cX6_isWithin 39 = .ok (.land, 1) := dk_127 (dk_at dksX6_isWithin_1 15 rfl rfl)
theorem dX6_isWithin_40 : decode cX6_isWithin 40 = .ok (.lor, 1) := dk_129 (dk_at dksX6_isWithin_1 16 rfl rfl)
theorem dX6_isWithin_41 : decode cX6_isWithin 41 = .ok (.aload_n 0, 1) := dk_42 (dk_at dksX6_isWithin_1 17 rfl rfl)
theorem dX6_isWithin_42 : decode cX6_isWithin 42 = .ok (.getfield 19, 3) := dk_180 0 19 (dk_at dksX6_isWithin_1 18 rfl rfl)
theorem dX6_isWithin_45 : decode cX6_isWithin 45 = .ok (.aload_n 1, 1) := dk_43 (dk_at dksX6_isWithin_1 21 rfl rfl)
theorem dX6_isWithin_46 : decode cX6_isWithin 46 = .ok (.getfield 19, 3) := dk_180 0 19 (dk_at dksX6_isWithin_2 0 rfl rfl)
theorem dX6_isWithin_49 : decode cX6_isWithin 49 = .ok (.ldc2_w 22, 3) := dk_20 0 22 (dk_at dksX6_isWithin_2 3 rfl rfl)
theorem dX6_isWithin_52 : decode cX6_isWithin 52 = .ok (.lxor, 1) := dk_131 (dk_at dksX6_isWithin_2 6 rfl rfl)
theorem dX6_isWithin_53 : decode cX6_isWithin 53 = .ok (.land, 1) := dk_127 (dk_at dksX6_isWithin_2 7 rfl rfl)
theorem dX6_isWithin_54 : decode cX6_isWithin 54 = .ok (.lor, 1) := dk_129 (dk_at dksX6_isWithin_2 8 rfl rfl)
theorem dX6_isWithin_55 : decode cX6_isWithin 55 = .ok (.lconst 0, 1) := dk_9 (dk_at dksX6_isWithin_2 9 rfl rfl)
theorem dX6_isWithin_56 : decode cX6_isWithin 56 = .ok (.lcmp, 1) := dk_148 (dk_at dksX6_isWithin_2 10 rfl rfl)
theorem dX6_isWithin_57 : decode cX6_isWithin 57 = .ok (.ifCond .ne 7, 3) := dk_154 0 7 (dk_at dksX6_isWithin_2 11 rfl rfl)
theorem dX6_isWithin_60 : decode cX6_isWithin 60 = .ok (.iconst 1, 1) := dk_4 (dk_at dksX6_isWithin_2 14 rfl rfl)
theorem dX6_isWithin_61 : decode cX6_isWithin 61 = .ok (.goto 4, 3) := dk_167 0 4 (dk_at dksX6_isWithin_2 15 rfl rfl)
theorem dX6_isWithin_64 : decode cX6_isWithin 64 = .ok (.iconst 0, 1) := dk_3 (dk_at dksX6_isWithin_2 18 rfl rfl)
theorem dX6_isWithin_65 : decode cX6_isWithin 65 = .ok (.ireturn, 1) := dk_172 (dk_at dksX6_isWithin_2 19 rfl rfl)
abbrev cX6_meets : ByteArray := prog_17_method_10_code
def yX6_meets : MethodName := ⟨RX6, "meets", "(LAskingCourt$Worlds;)Z"⟩
def dkwX6_meets_2 : List UInt8 := [3, 172]
abbrev dktX6_meets_2 : List UInt8 := dkwX6_meets_2 ++ []
def dkwX6_meets_1 : List UInt8 := [180, 0, 16, 127, 129, 42, 180, 0, 19, 43, 180, 0, 19, 127, 129, 9, 148, 153, 0, 7, 4, 167, 0, 4]
abbrev dktX6_meets_1 : List UInt8 := dkwX6_meets_1 ++ dktX6_meets_2
def dkwX6_meets_0 : List UInt8 := [42, 180, 0, 7, 43, 180, 0, 7, 127, 42, 180, 0, 13, 43, 180, 0, 13, 127, 129, 42, 180, 0, 16, 43]
abbrev dktX6_meets_0 : List UInt8 := dkwX6_meets_0 ++ dktX6_meets_1
theorem dksX6_meets_0 : cX6_meets.data.toList.drop 0 = dktX6_meets_0 := by decide +kernel
theorem dksX6_meets_1 : cX6_meets.data.toList.drop 24 = dktX6_meets_1 := dk_seg dksX6_meets_0 24 rfl rfl
theorem dksX6_meets_2 : cX6_meets.data.toList.drop 48 = dktX6_meets_2 := dk_seg dksX6_meets_1 24 rfl rfl
theorem dX6_meets_0 : decode cX6_meets 0 = .ok (.aload_n 0, 1) := dk_42 (dk_at dksX6_meets_0 0 rfl rfl)
theorem dX6_meets_1 : decode cX6_meets 1 = .ok (.getfield 7, 3) := dk_180 0 7 (dk_at dksX6_meets_0 1 rfl rfl)
theorem dX6_meets_4 : decode cX6_meets 4 = .ok (.aload_n 1, 1) := dk_43 (dk_at dksX6_meets_0 4 rfl rfl)
theorem dX6_meets_5 : decode cX6_meets 5 = .ok (.getfield 7, 3) := dk_180 0 7 (dk_at dksX6_meets_0 5 rfl rfl)
theorem dX6_meets_8 : decode cX6_meets 8 = .ok (.land, 1) := dk_127 (dk_at dksX6_meets_0 8 rfl rfl)
theorem dX6_meets_9 : decode cX6_meets 9 = .ok (.aload_n 0, 1) := dk_42 (dk_at dksX6_meets_0 9 rfl rfl)
theorem dX6_meets_10 : decode cX6_meets 10 = .ok (.getfield 13, 3) := dk_180 0 13 (dk_at dksX6_meets_0 10 rfl rfl)
theorem dX6_meets_13 : decode cX6_meets 13 = .ok (.aload_n 1, 1) := dk_43 (dk_at dksX6_meets_0 13 rfl rfl)
theorem dX6_meets_14 : decode cX6_meets 14 = .ok (.getfield 13, 3) := dk_180 0 13 (dk_at dksX6_meets_0 14 rfl rfl)
theorem dX6_meets_17 : decode cX6_meets 17 = .ok (.land, 1) := dk_127 (dk_at dksX6_meets_0 17 rfl rfl)
theorem dX6_meets_18 : decode cX6_meets 18 = .ok (.lor, 1) := dk_129 (dk_at dksX6_meets_0 18 rfl rfl)
theorem dX6_meets_19 : decode cX6_meets 19 = .ok (.aload_n 0, 1) := dk_42 (dk_at dksX6_meets_0 19 rfl rfl)
theorem dX6_meets_20 : decode cX6_meets 20 = .ok (.getfield 16, 3) := dk_180 0 16 (dk_at dksX6_meets_0 20 rfl rfl)
theorem dX6_meets_23 : decode cX6_meets 23 = .ok (.aload_n 1, 1) := dk_43 (dk_at dksX6_meets_0 23 rfl rfl)
theorem dX6_meets_24 : decode cX6_meets 24 = .ok (.getfield 16, 3) := dk_180 0 16 (dk_at dksX6_meets_1 0 rfl rfl)
theorem dX6_meets_27 : decode cX6_meets 27 = .ok (.land, 1) := dk_127 (dk_at dksX6_meets_1 3 rfl rfl)
theorem dX6_meets_28 : decode cX6_meets 28 = .ok (.lor, 1) := dk_129 (dk_at dksX6_meets_1 4 rfl rfl)
theorem dX6_meets_29 : decode cX6_meets 29 = .ok (.aload_n 0, 1) := dk_42 (dk_at dksX6_meets_1 5 rfl rfl)
theorem dX6_meets_30 : decode cX6_meets 30 = .ok (.getfield 19, 3) := dk_180 0 19 (dk_at dksX6_meets_1 6 rfl rfl)
theorem dX6_meets_33 : decode cX6_meets 33 = .ok (.aload_n 1, 1) := dk_43 (dk_at dksX6_meets_1 9 rfl rfl)
theorem dX6_meets_34 : decode cX6_meets 34 = .ok (.getfield 19, 3) := dk_180 0 19 (dk_at dksX6_meets_1 10 rfl rfl)
theorem dX6_meets_37 : decode cX6_meets 37 = .ok (.land, 1) := dk_127 (dk_at dksX6_meets_1 13 rfl rfl)
theorem dX6_meets_38 : decode cX6_meets 38 = .ok (.lor, 1) := dk_129 (dk_at dksX6_meets_1 14 rfl rfl)
theorem dX6_meets_39 : decode cX6_meets 39 = .ok (.lconst 0, 1) := dk_9 (dk_at dksX6_meets_1 15 rfl rfl)
theorem dX6_meets_40 : decode cX6_meets 40 = .ok (.lcmp, 1) := dk_148 (dk_at dksX6_meets_1 16 rfl rfl)
theorem dX6_meets_41 : decode cX6_meets 41 = .ok (.ifCond .eq 7, 3) := dk_153 0 7 (dk_at dksX6_meets_1 17 rfl rfl)
theorem dX6_meets_44 : decode cX6_meets 44 = .ok (.iconst 1, 1) := dk_4 (dk_at dksX6_meets_1 20 rfl rfl)
theorem dX6_meets_45 : decode cX6_meets 45 = .ok (.goto 4, 3) := dk_167 0 4 (dk_at dksX6_meets_1 21 rfl rfl)
theorem dX6_meets_48 : decode cX6_meets 48 = .ok (.iconst 0, 1) := dk_3 (dk_at dksX6_meets_2 0 rfl rfl)
theorem dX6_meets_49 : decode cX6_meets 49 = .ok (.ireturn, 1) := dk_172 (dk_at dksX6_meets_2 1 rfl rfl)
theorem q172 : (Jvm.Cond.initialized "AskingCourt$Worlds") ∈ lw_all := lw_g (lw_at lw_m1 9 rfl) rfl
theorem q318 : (Jvm.Cond.instantiable "AskingCourt$Worlds" (4 : Nat)) ∈ lw_all := lw_g (lw_at lw_m1 155 rfl) rfl
theorem q320 : (Jvm.Cond.instanceMethod ({ cls := "AskingCourt$Worlds", name := "<init>", desc := "()V" } : Jvm.MethodName)) ∈ lw_all := lw_g (lw_at lw_m1 157 rfl) rfl
theorem q321 : (Jvm.Cond.code ({ cls := "AskingCourt$Worlds", name := "<init>", desc := "()V" } : Jvm.MethodName) prog_17_method_1_code (1 : Nat) (Option.none : Option Jvm.ClassFile.FieldType)) ∈ lw_all := lw_g (lw_at lw_m1 158 rfl) rfl
theorem q322 : (Jvm.Cond.methodLink "AskingCourt$Worlds" (1 : Nat) ({ cls := "java/lang/Object", name := "<init>", desc := "()V" } : Jvm.MethodName)) ∈ lw_all := lw_g (lw_at lw_m1 159 rfl) rfl
theorem q323 : (Jvm.Cond.fieldLink "AskingCourt$Worlds" (7 : Nat) "AskingCourt$Worlds" "a" "J") ∈ lw_all := lw_g (lw_at lw_m1 160 rfl) rfl
theorem q324 : (Jvm.Cond.fieldLink "AskingCourt$Worlds" (13 : Nat) "AskingCourt$Worlds" "b" "J") ∈ lw_all := lw_g (lw_at lw_m1 161 rfl) rfl
theorem q325 : (Jvm.Cond.fieldLink "AskingCourt$Worlds" (16 : Nat) "AskingCourt$Worlds" "c" "J") ∈ lw_all := lw_g (lw_at lw_m1 162 rfl) rfl
theorem q326 : (Jvm.Cond.fieldLink "AskingCourt$Worlds" (19 : Nat) "AskingCourt$Worlds" "d" "J") ∈ lw_all := lw_g (lw_at lw_m1 163 rfl) rfl
theorem q327 : (Jvm.Cond.lays "AskingCourt$Worlds" "AskingCourt$Worlds" "a" "J") ∈ lw_all := lw_g (lw_at lw_m1 164 rfl) rfl
theorem q328 : (Jvm.Cond.soleField "AskingCourt$Worlds" "a") ∈ lw_all := lw_g (lw_at lw_m1 165 rfl) rfl
theorem q329 : (Jvm.Cond.lays "AskingCourt$Worlds" "AskingCourt$Worlds" "b" "J") ∈ lw_all := lw_g (lw_at lw_m1 166 rfl) rfl
theorem q330 : (Jvm.Cond.soleField "AskingCourt$Worlds" "b") ∈ lw_all := lw_g (lw_at lw_m1 167 rfl) rfl
theorem q331 : (Jvm.Cond.lays "AskingCourt$Worlds" "AskingCourt$Worlds" "c" "J") ∈ lw_all := lw_g (lw_at lw_m1 168 rfl) rfl
theorem q332 : (Jvm.Cond.soleField "AskingCourt$Worlds" "c") ∈ lw_all := lw_g (lw_at lw_m1 169 rfl) rfl
theorem q333 : (Jvm.Cond.lays "AskingCourt$Worlds" "AskingCourt$Worlds" "d" "J") ∈ lw_all := lw_g (lw_at lw_m1 170 rfl) rfl
theorem q334 : (Jvm.Cond.soleField "AskingCourt$Worlds" "d") ∈ lw_all := lw_g (lw_at lw_m1 171 rfl) rfl
theorem q335 : (Jvm.Cond.superclass "AskingCourt$Worlds" "java/lang/Object") ∈ lw_all := lw_g (lw_at lw_m1 172 rfl) rfl
theorem q343 : (Jvm.Cond.instanceMethod ({ cls := "AskingCourt$Worlds", name := "add", desc := "(I)V" } : Jvm.MethodName)) ∈ lw_all := lw_g (lw_at lw_m1 180 rfl) rfl
theorem q344 : (Jvm.Cond.selects "AskingCourt$Worlds" ({ cls := "AskingCourt$Worlds", name := "add", desc := "(I)V" } : Jvm.MethodName) ({ cls := "AskingCourt$Worlds", name := "add", desc := "(I)V" } : Jvm.MethodName)) ∈ lw_all := lw_g (lw_at lw_m1 181 rfl) rfl
theorem q345 : (Jvm.Cond.code ({ cls := "AskingCourt$Worlds", name := "add", desc := "(I)V" } : Jvm.MethodName) prog_17_method_3_code (2 : Nat) (Option.none : Option Jvm.ClassFile.FieldType)) ∈ lw_all := lw_g (lw_at lw_m1 182 rfl) rfl
theorem q927 : (Jvm.Cond.instanceMethod ({ cls := "AskingCourt$Worlds", name := "be", desc := "(LAskingCourt$Worlds;)LAskingCourt$Worlds;" } : Jvm.MethodName)) ∈ lw_all := lw_g (lw_at lw_m4 44 rfl) rfl
theorem q928 : (Jvm.Cond.selects "AskingCourt$Worlds" ({ cls := "AskingCourt$Worlds", name := "be", desc := "(LAskingCourt$Worlds;)LAskingCourt$Worlds;" } : Jvm.MethodName) ({ cls := "AskingCourt$Worlds", name := "be", desc := "(LAskingCourt$Worlds;)LAskingCourt$Worlds;" } : Jvm.MethodName)) ∈ lw_all := lw_g (lw_at lw_m4 45 rfl) rfl
theorem q929 : (Jvm.Cond.code ({ cls := "AskingCourt$Worlds", name := "be", desc := "(LAskingCourt$Worlds;)LAskingCourt$Worlds;" } : Jvm.MethodName) prog_17_method_4_code (2 : Nat) (Option.some (Jvm.ClassFile.FieldType.object "AskingCourt$Worlds"))) ∈ lw_all := lw_g (lw_at lw_m4 46 rfl) rfl
theorem q935 : (Jvm.Cond.instanceMethod ({ cls := "AskingCourt$Worlds", name := "clear", desc := "()V" } : Jvm.MethodName)) ∈ lw_all := lw_g (lw_at lw_m4 52 rfl) rfl
theorem q936 : (Jvm.Cond.selects "AskingCourt$Worlds" ({ cls := "AskingCourt$Worlds", name := "clear", desc := "()V" } : Jvm.MethodName) ({ cls := "AskingCourt$Worlds", name := "clear", desc := "()V" } : Jvm.MethodName)) ∈ lw_all := lw_g (lw_at lw_m4 53 rfl) rfl
theorem q937 : (Jvm.Cond.code ({ cls := "AskingCourt$Worlds", name := "clear", desc := "()V" } : Jvm.MethodName) prog_17_method_5_code (1 : Nat) (Option.none : Option Jvm.ClassFile.FieldType)) ∈ lw_all := lw_g (lw_at lw_m4 54 rfl) rfl
theorem q939 : (Jvm.Cond.instanceMethod ({ cls := "AskingCourt$Worlds", name := "has", desc := "(I)Z" } : Jvm.MethodName)) ∈ lw_all := lw_g (lw_at lw_m4 56 rfl) rfl
theorem q940 : (Jvm.Cond.selects "AskingCourt$Worlds" ({ cls := "AskingCourt$Worlds", name := "has", desc := "(I)Z" } : Jvm.MethodName) ({ cls := "AskingCourt$Worlds", name := "has", desc := "(I)Z" } : Jvm.MethodName)) ∈ lw_all := lw_g (lw_at lw_m4 57 rfl) rfl
theorem q941 : (Jvm.Cond.code ({ cls := "AskingCourt$Worlds", name := "has", desc := "(I)Z" } : Jvm.MethodName) prog_17_method_2_code (2 : Nat) (Option.some Jvm.ClassFile.FieldType.boolean)) ∈ lw_all := lw_g (lw_at lw_m4 58 rfl) rfl
theorem q948 : (Jvm.Cond.instanceMethod ({ cls := "AskingCourt$Worlds", name := "drop", desc := "(LAskingCourt$Worlds;)V" } : Jvm.MethodName)) ∈ lw_all := lw_g (lw_at lw_m4 65 rfl) rfl
theorem q949 : (Jvm.Cond.selects "AskingCourt$Worlds" ({ cls := "AskingCourt$Worlds", name := "drop", desc := "(LAskingCourt$Worlds;)V" } : Jvm.MethodName) ({ cls := "AskingCourt$Worlds", name := "drop", desc := "(LAskingCourt$Worlds;)V" } : Jvm.MethodName)) ∈ lw_all := lw_g (lw_at lw_m4 66 rfl) rfl
theorem q950 : (Jvm.Cond.code ({ cls := "AskingCourt$Worlds", name := "drop", desc := "(LAskingCourt$Worlds;)V" } : Jvm.MethodName) prog_17_method_8_code (2 : Nat) (Option.none : Option Jvm.ClassFile.FieldType)) ∈ lw_all := lw_g (lw_at lw_m4 67 rfl) rfl
theorem q951 : (Jvm.Cond.constantLong "AskingCourt$Worlds" (22 : Nat) (-1 : Int64)) ∈ lw_all := lw_g (lw_at lw_m4 68 rfl) rfl
theorem q994 : (Jvm.Cond.instanceMethod ({ cls := "AskingCourt$Worlds", name := "keep", desc := "(LAskingCourt$Worlds;)V" } : Jvm.MethodName)) ∈ lw_all := lw_g (lw_at lw_m4 111 rfl) rfl
theorem q995 : (Jvm.Cond.selects "AskingCourt$Worlds" ({ cls := "AskingCourt$Worlds", name := "keep", desc := "(LAskingCourt$Worlds;)V" } : Jvm.MethodName) ({ cls := "AskingCourt$Worlds", name := "keep", desc := "(LAskingCourt$Worlds;)V" } : Jvm.MethodName)) ∈ lw_all := lw_g (lw_at lw_m4 112 rfl) rfl
theorem q996 : (Jvm.Cond.code ({ cls := "AskingCourt$Worlds", name := "keep", desc := "(LAskingCourt$Worlds;)V" } : Jvm.MethodName) prog_17_method_7_code (2 : Nat) (Option.none : Option Jvm.ClassFile.FieldType)) ∈ lw_all := lw_g (lw_at lw_m4 113 rfl) rfl
theorem q998 : (Jvm.Cond.instanceMethod ({ cls := "AskingCourt$Worlds", name := "join", desc := "(LAskingCourt$Worlds;)V" } : Jvm.MethodName)) ∈ lw_all := lw_g (lw_at lw_m4 115 rfl) rfl
theorem q999 : (Jvm.Cond.selects "AskingCourt$Worlds" ({ cls := "AskingCourt$Worlds", name := "join", desc := "(LAskingCourt$Worlds;)V" } : Jvm.MethodName) ({ cls := "AskingCourt$Worlds", name := "join", desc := "(LAskingCourt$Worlds;)V" } : Jvm.MethodName)) ∈ lw_all := lw_g (lw_at lw_m4 116 rfl) rfl
theorem q1000 : (Jvm.Cond.code ({ cls := "AskingCourt$Worlds", name := "join", desc := "(LAskingCourt$Worlds;)V" } : Jvm.MethodName) prog_17_method_6_code (2 : Nat) (Option.none : Option Jvm.ClassFile.FieldType)) ∈ lw_all := lw_g (lw_at lw_m4 117 rfl) rfl
theorem q1052 : (Jvm.Cond.instanceMethod ({ cls := "AskingCourt$Worlds", name := "isWithin", desc := "(LAskingCourt$Worlds;)Z" } : Jvm.MethodName)) ∈ lw_all := lw_g (lw_at lw_m4 169 rfl) rfl
theorem q1053 : (Jvm.Cond.selects "AskingCourt$Worlds" ({ cls := "AskingCourt$Worlds", name := "isWithin", desc := "(LAskingCourt$Worlds;)Z" } : Jvm.MethodName) ({ cls := "AskingCourt$Worlds", name := "isWithin", desc := "(LAskingCourt$Worlds;)Z" } : Jvm.MethodName)) ∈ lw_all := lw_g (lw_at lw_m4 170 rfl) rfl
theorem q1054 : (Jvm.Cond.code ({ cls := "AskingCourt$Worlds", name := "isWithin", desc := "(LAskingCourt$Worlds;)Z" } : Jvm.MethodName) prog_17_method_9_code (2 : Nat) (Option.some Jvm.ClassFile.FieldType.boolean)) ∈ lw_all := lw_g (lw_at lw_m4 171 rfl) rfl
theorem q1056 : (Jvm.Cond.instanceMethod ({ cls := "AskingCourt$Worlds", name := "meets", desc := "(LAskingCourt$Worlds;)Z" } : Jvm.MethodName)) ∈ lw_all := lw_g (lw_at lw_m4 173 rfl) rfl
theorem q1057 : (Jvm.Cond.selects "AskingCourt$Worlds" ({ cls := "AskingCourt$Worlds", name := "meets", desc := "(LAskingCourt$Worlds;)Z" } : Jvm.MethodName) ({ cls := "AskingCourt$Worlds", name := "meets", desc := "(LAskingCourt$Worlds;)Z" } : Jvm.MethodName)) ∈ lw_all := lw_g (lw_at lw_m4 174 rfl) rfl
theorem q1058 : (Jvm.Cond.code ({ cls := "AskingCourt$Worlds", name := "meets", desc := "(LAskingCourt$Worlds;)Z" } : Jvm.MethodName) prog_17_method_10_code (2 : Nat) (Option.some Jvm.ClassFile.FieldType.boolean)) ∈ lw_all := lw_g (lw_at lw_m4 175 rfl) rfl
theorem in_X6 : ∀ w ∈ wsX60, w ∈ lw_all := lw_in wsX60 [327, 329, 331, 333] (by decide +kernel) (by decide +kernel)
