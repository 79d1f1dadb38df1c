/-! DECODE ROWS BY BYTES: one lemma an opcode; a method's code is cut into short pieces once, and a row reads its own piece alone. -/
set_option maxRecDepth 100000
/-- the code has just these bytes from pc on -/
def DkAt (code : ByteArray) (pc : Nat) (bs : List UInt8) : Prop := ∀ (j : Nat) (b : UInt8), bs[j]? = some b → code.data.toList[pc + j]? = some b
/-- the piece W has the bytes bs from its place j on -/
def dkIn (W : List UInt8) (j : Nat) (bs : List UInt8) : Bool := decide ((W.drop j).take bs.length = bs)
theorem dk_seg {l W T : List UInt8} {o o2 : Nat} (h : l.drop o = W ++ T) (n : Nat) (hn : W.length = n) (ho : o + n = o2) : l.drop o2 = T := by
  subst ho
  rw [← List.drop_drop, h, List.drop_left' hn]
theorem dk_at {code : ByteArray} {W T bs : List UInt8} {o pc : Nat} (h : code.data.toList.drop o = W ++ T) (j : Nat) (hp : o + j = pc) (hw : dkIn W j bs = true) : DkAt code pc bs := by
  subst hp
  intro i b e
  have h1 := of_decide_eq_true hw
  have h2 : i < bs.length := (List.getElem?_eq_some_iff.mp e).1
  have h3 : W[j + i]? = some b := by
    rw [← h1, List.getElem?_take, if_pos h2, List.getElem?_drop] at e
    exact e
  have h4 : j + i < W.length := (List.getElem?_eq_some_iff.mp h3).1
  have h5 : (code.data.toList.drop o)[j + i]? = some b := by
    rw [h, List.getElem?_append_left h4]
    exact h3
  rw [List.getElem?_drop, ← Nat.add_assoc] at h5
  exact h5
theorem dk_u1 {A : ByteArray} {p : Nat} {b : UInt8} (h : A.data.toList[p]? = some b) : (Reader.u1 : Reader DecodeError Nat) A p = .ok (b.toNat, p + 1) := by
  obtain ⟨h1, h2⟩ := List.getElem?_eq_some_iff.mp h
  have h3 : p < A.size := by simpa using h1
  have h4 : A[p]'h3 = b := h2
  have e : (Reader.u1 : Reader DecodeError Nat) A p = (if h : p < A.size then .ok (A[p].toNat, p + 1) else .error (HasTruncated.truncated p)) := by
    show (do if h : p < A.size then do set (p + 1); Pure.pure A[p].toNat else MonadExcept.throw (HasTruncated.truncated p) : Reader DecodeError Nat) A p = _
    by_cases hi : p < A.size
    · rw [dif_pos hi, dif_pos hi]; rfl
    · rw [dif_neg hi, dif_neg hi]; rfl
  rw [e, dif_pos h3, h4]
theorem dk_bind {α β : Type} {r : Reader DecodeError α} {f : α → Reader DecodeError β} {A : ByteArray} {p s : Nat} {a : α} (h : r A p = .ok (a, s)) : (r >>= f) A p = f a A s := by
  show (do let (a, s) ← r A p; f a A s : Except DecodeError (β × Nat)) = _
  rw [h]
  rfl
theorem dk_map {α β : Type} {r : Reader DecodeError α} {g : α → β} {A : ByteArray} {p s : Nat} {a : α} (h : r A p = .ok (a, s)) : (g <$> r) A p = .ok (g a, s) := by
  show (do let (a, s) ← r A p; .ok (g a, s) : Except DecodeError (β × Nat)) = _
  rw [h]
  rfl
theorem dk_u2 {A : ByteArray} {p : Nat} {a b : UInt8} (h : A.data.toList[p]? = some a) (h2 : A.data.toList[p + 1]? = some b) : (Reader.u2 : Reader DecodeError Nat) A p = .ok (a.toNat * 256 + b.toNat, p + 2) := by
  show (Reader.u1 >>= fun hi => Reader.u1 >>= fun lo => Pure.pure (hi * 256 + lo) : Reader DecodeError Nat) A p = _
  rw [dk_bind (dk_u1 h), dk_bind (dk_u1 h2)]
  rfl
theorem dk_of {code : ByteArray} {pc n : Nat} {i : Instr} (h : Decoder.instr pc code pc = .ok (i, pc + n)) : decode code pc = .ok (i, n) := by
  have e : decode code pc = (match Decoder.instr pc code pc with | .error x => .error x | .ok (j, s) => .ok (j, s - pc)) := by
    show (do let (j, s) ← Decoder.instr pc code pc; Pure.pure (j, s - pc) : Except DecodeError (Instr × Nat)) = _
    cases Decoder.instr pc code pc <;> rfl
  rw [e, h]
  show Except.ok (i, pc + n - pc) = _
  rw [Nat.add_sub_cancel_left]
theorem dk_1 {code : ByteArray} {pc : Nat} (h : DkAt code pc [1]) : decode code pc = .ok (.aconst_null, 1) := dk_of ((dk_bind (dk_u1 (h 0 _ rfl))).trans rfl)
theorem dk_2 {code : ByteArray} {pc : Nat} (h : DkAt code pc [2]) : decode code pc = .ok (.iconst (-1), 1) := dk_of ((dk_bind (dk_u1 (h 0 _ rfl))).trans rfl)
theorem dk_3 {code : ByteArray} {pc : Nat} (h : DkAt code pc [3]) : decode code pc = .ok (.iconst 0, 1) := dk_of ((dk_bind (dk_u1 (h 0 _ rfl))).trans rfl)
theorem dk_4 {code : ByteArray} {pc : Nat} (h : DkAt code pc [4]) : decode code pc = .ok (.iconst 1, 1) := dk_of ((dk_bind (dk_u1 (h 0 _ rfl))).trans rfl)
theorem dk_5 {code : ByteArray} {pc : Nat} (h : DkAt code pc [5]) : decode code pc = .ok (.iconst 2, 1) := dk_of ((dk_bind (dk_u1 (h 0 _ rfl))).trans rfl)
theorem dk_6 {code : ByteArray} {pc : Nat} (h : DkAt code pc [6]) : decode code pc = .ok (.iconst 3, 1) := dk_of ((dk_bind (dk_u1 (h 0 _ rfl))).trans rfl)
theorem dk_7 {code : ByteArray} {pc : Nat} (h : DkAt code pc [7]) : decode code pc = .ok (.iconst 4, 1) := dk_of ((dk_bind (dk_u1 (h 0 _ rfl))).trans rfl)
theorem dk_8 {code : ByteArray} {pc : Nat} (h : DkAt code pc [8]) : decode code pc = .ok (.iconst 5, 1) := dk_of ((dk_bind (dk_u1 (h 0 _ rfl))).trans rfl)
theorem dk_9 {code : ByteArray} {pc : Nat} (h : DkAt code pc [9]) : decode code pc = .ok (.lconst 0, 1) := dk_of ((dk_bind (dk_u1 (h 0 _ rfl))).trans rfl)
theorem dk_10 {code : ByteArray} {pc : Nat} (h : DkAt code pc [10]) : decode code pc = .ok (.lconst 1, 1) := dk_of ((dk_bind (dk_u1 (h 0 _ rfl))).trans rfl)
theorem dk_16 {code : ByteArray} {pc : Nat} (a : UInt8) (h : DkAt code pc [16, a]) : decode code pc = .ok (.bipush (Reader.signed 8 a.toNat), 2) := dk_of ((dk_bind (dk_u1 (h 0 _ rfl))).trans ((dk_bind (dk_map (dk_u1 (h 1 _ rfl)))).trans rfl))
theorem dk_17 {code : ByteArray} {pc : Nat} (a b : UInt8) (h : DkAt code pc [17, a, b]) : decode code pc = .ok (.sipush (Reader.signed 16 (a.toNat * 256 + b.toNat)), 3) := dk_of ((dk_bind (dk_u1 (h 0 _ rfl))).trans ((dk_bind (dk_map (dk_u2 (h 1 _ rfl) (h 2 _ rfl)))).trans rfl))
theorem dk_18 {code : ByteArray} {pc : Nat} (a : UInt8) (h : DkAt code pc [18, a]) : decode code pc = .ok (.ldc a.toNat, 2) := dk_of ((dk_bind (dk_u1 (h 0 _ rfl))).trans ((dk_bind (dk_u1 (h 1 _ rfl))).trans rfl))
theorem dk_19 {code : ByteArray} {pc : Nat} (a b : UInt8) (h : DkAt code pc [19, a, b]) : decode code pc = .ok (.ldc_w (a.toNat * 256 + b.toNat), 3) := dk_of ((dk_bind (dk_u1 (h 0 _ rfl))).trans ((dk_bind (dk_u2 (h 1 _ rfl) (h 2 _ rfl))).trans rfl))
theorem dk_20 {code : ByteArray} {pc : Nat} (a b : UInt8) (h : DkAt code pc [20, a, b]) : decode code pc = .ok (.ldc2_w (a.toNat * 256 + b.toNat), 3) := dk_of ((dk_bind (dk_u1 (h 0 _ rfl))).trans ((dk_bind (dk_u2 (h 1 _ rfl) (h 2 _ rfl))).trans rfl))
theorem dk_21 {code : ByteArray} {pc : Nat} (a : UInt8) (h : DkAt code pc [21, a]) : decode code pc = .ok (.iload a.toNat, 2) := dk_of ((dk_bind (dk_u1 (h 0 _ rfl))).trans ((dk_bind (dk_u1 (h 1 _ rfl))).trans rfl))
theorem dk_22 {code : ByteArray} {pc : Nat} (a : UInt8) (h : DkAt code pc [22, a]) : decode code pc = .ok (.lload a.toNat, 2) := dk_of ((dk_bind (dk_u1 (h 0 _ rfl))).trans ((dk_bind (dk_u1 (h 1 _ rfl))).trans rfl))
theorem dk_23 {code : ByteArray} {pc : Nat} (a : UInt8) (h : DkAt code pc [23, a]) : decode code pc = .ok (.fload a.toNat, 2) := dk_of ((dk_bind (dk_u1 (h 0 _ rfl))).trans ((dk_bind (dk_u1 (h 1 _ rfl))).trans rfl))
theorem dk_25 {code : ByteArray} {pc : Nat} (a : UInt8) (h : DkAt code pc [25, a]) : decode code pc = .ok (.aload a.toNat, 2) := dk_of ((dk_bind (dk_u1 (h 0 _ rfl))).trans ((dk_bind (dk_u1 (h 1 _ rfl))).trans rfl))
theorem dk_26 {code : ByteArray} {pc : Nat} (h : DkAt code pc [26]) : decode code pc = .ok (.iload_n 0, 1) := dk_of ((dk_bind (dk_u1 (h 0 _ rfl))).trans rfl)
theorem dk_27 {code : ByteArray} {pc : Nat} (h : DkAt code pc [27]) : decode code pc = .ok (.iload_n 1, 1) := dk_of ((dk_bind (dk_u1 (h 0 _ rfl))).trans rfl)
theorem dk_28 {code : ByteArray} {pc : Nat} (h : DkAt code pc [28]) : decode code pc = .ok (.iload_n 2, 1) := dk_of ((dk_bind (dk_u1 (h 0 _ rfl))).trans rfl)
theorem dk_29 {code : ByteArray} {pc : Nat} (h : DkAt code pc [29]) : decode code pc = .ok (.iload_n 3, 1) := dk_of ((dk_bind (dk_u1 (h 0 _ rfl))).trans rfl)
theorem dk_30 {code : ByteArray} {pc : Nat} (h : DkAt code pc [30]) : decode code pc = .ok (.lload_n 0, 1) := dk_of ((dk_bind (dk_u1 (h 0 _ rfl))).trans rfl)
theorem dk_31 {code : ByteArray} {pc : Nat} (h : DkAt code pc [31]) : decode code pc = .ok (.lload_n 1, 1) := dk_of ((dk_bind (dk_u1 (h 0 _ rfl))).trans rfl)
theorem dk_32 {code : ByteArray} {pc : Nat} (h : DkAt code pc [32]) : decode code pc = .ok (.lload_n 2, 1) := dk_of ((dk_bind (dk_u1 (h 0 _ rfl))).trans rfl)
theorem dk_42 {code : ByteArray} {pc : Nat} (h : DkAt code pc [42]) : decode code pc = .ok (.aload_n 0, 1) := dk_of ((dk_bind (dk_u1 (h 0 _ rfl))).trans rfl)
theorem dk_43 {code : ByteArray} {pc : Nat} (h : DkAt code pc [43]) : decode code pc = .ok (.aload_n 1, 1) := dk_of ((dk_bind (dk_u1 (h 0 _ rfl))).trans rfl)
theorem dk_44 {code : ByteArray} {pc : Nat} (h : DkAt code pc [44]) : decode code pc = .ok (.aload_n 2, 1) := dk_of ((dk_bind (dk_u1 (h 0 _ rfl))).trans rfl)
theorem dk_45 {code : ByteArray} {pc : Nat} (h : DkAt code pc [45]) : decode code pc = .ok (.aload_n 3, 1) := dk_of ((dk_bind (dk_u1 (h 0 _ rfl))).trans rfl)
theorem dk_46 {code : ByteArray} {pc : Nat} (h : DkAt code pc [46]) : decode code pc = .ok (.iaload, 1) := dk_of ((dk_bind (dk_u1 (h 0 _ rfl))).trans rfl)
theorem dk_47 {code : ByteArray} {pc : Nat} (h : DkAt code pc [47]) : decode code pc = .ok (.laload, 1) := dk_of ((dk_bind (dk_u1 (h 0 _ rfl))).trans rfl)
theorem dk_50 {code : ByteArray} {pc : Nat} (h : DkAt code pc [50]) : decode code pc = .ok (.aaload, 1) := dk_of ((dk_bind (dk_u1 (h 0 _ rfl))).trans rfl)
theorem dk_51 {code : ByteArray} {pc : Nat} (h : DkAt code pc [51]) : decode code pc = .ok (.baload, 1) := dk_of ((dk_bind (dk_u1 (h 0 _ rfl))).trans rfl)
theorem dk_52 {code : ByteArray} {pc : Nat} (h : DkAt code pc [52]) : decode code pc = .ok (.caload, 1) := dk_of ((dk_bind (dk_u1 (h 0 _ rfl))).trans rfl)
theorem dk_53 {code : ByteArray} {pc : Nat} (h : DkAt code pc [53]) : decode code pc = .ok (.saload, 1) := dk_of ((dk_bind (dk_u1 (h 0 _ rfl))).trans rfl)
theorem dk_54 {code : ByteArray} {pc : Nat} (a : UInt8) (h : DkAt code pc [54, a]) : decode code pc = .ok (.istore a.toNat, 2) := dk_of ((dk_bind (dk_u1 (h 0 _ rfl))).trans ((dk_bind (dk_u1 (h 1 _ rfl))).trans rfl))
theorem dk_55 {code : ByteArray} {pc : Nat} (a : UInt8) (h : DkAt code pc [55, a]) : decode code pc = .ok (.lstore a.toNat, 2) := dk_of ((dk_bind (dk_u1 (h 0 _ rfl))).trans ((dk_bind (dk_u1 (h 1 _ rfl))).trans rfl))
theorem dk_56 {code : ByteArray} {pc : Nat} (a : UInt8) (h : DkAt code pc [56, a]) : decode code pc = .ok (.fstore a.toNat, 2) := dk_of ((dk_bind (dk_u1 (h 0 _ rfl))).trans ((dk_bind (dk_u1 (h 1 _ rfl))).trans rfl))
theorem dk_58 {code : ByteArray} {pc : Nat} (a : UInt8) (h : DkAt code pc [58, a]) : decode code pc = .ok (.astore a.toNat, 2) := dk_of ((dk_bind (dk_u1 (h 0 _ rfl))).trans ((dk_bind (dk_u1 (h 1 _ rfl))).trans rfl))
theorem dk_59 {code : ByteArray} {pc : Nat} (h : DkAt code pc [59]) : decode code pc = .ok (.istore_n 0, 1) := dk_of ((dk_bind (dk_u1 (h 0 _ rfl))).trans rfl)
theorem dk_60 {code : ByteArray} {pc : Nat} (h : DkAt code pc [60]) : decode code pc = .ok (.istore_n 1, 1) := dk_of ((dk_bind (dk_u1 (h 0 _ rfl))).trans rfl)
theorem dk_61 {code : ByteArray} {pc : Nat} (h : DkAt code pc [61]) : decode code pc = .ok (.istore_n 2, 1) := dk_of ((dk_bind (dk_u1 (h 0 _ rfl))).trans rfl)
theorem dk_62 {code : ByteArray} {pc : Nat} (h : DkAt code pc [62]) : decode code pc = .ok (.istore_n 3, 1) := dk_of ((dk_bind (dk_u1 (h 0 _ rfl))).trans rfl)
theorem dk_75 {code : ByteArray} {pc : Nat} (h : DkAt code pc [75]) : decode code pc = .ok (.astore_n 0, 1) := dk_of ((dk_bind (dk_u1 (h 0 _ rfl))).trans rfl)
theorem dk_76 {code : ByteArray} {pc : Nat} (h : DkAt code pc [76]) : decode code pc = .ok (.astore_n 1, 1) := dk_of ((dk_bind (dk_u1 (h 0 _ rfl))).trans rfl)
theorem dk_77 {code : ByteArray} {pc : Nat} (h : DkAt code pc [77]) : decode code pc = .ok (.astore_n 2, 1) := dk_of ((dk_bind (dk_u1 (h 0 _ rfl))).trans rfl)
theorem dk_78 {code : ByteArray} {pc : Nat} (h : DkAt code pc [78]) : decode code pc = .ok (.astore_n 3, 1) := dk_of ((dk_bind (dk_u1 (h 0 _ rfl))).trans rfl)
theorem dk_79 {code : ByteArray} {pc : Nat} (h : DkAt code pc [79]) : decode code pc = .ok (.iastore, 1) := dk_of ((dk_bind (dk_u1 (h 0 _ rfl))).trans rfl)
theorem dk_80 {code : ByteArray} {pc : Nat} (h : DkAt code pc [80]) : decode code pc = .ok (.lastore, 1) := dk_of ((dk_bind (dk_u1 (h 0 _ rfl))).trans rfl)
theorem dk_83 {code : ByteArray} {pc : Nat} (h : DkAt code pc [83]) : decode code pc = .ok (.aastore, 1) := dk_of ((dk_bind (dk_u1 (h 0 _ rfl))).trans rfl)
theorem dk_84 {code : ByteArray} {pc : Nat} (h : DkAt code pc [84]) : decode code pc = .ok (.bastore, 1) := dk_of ((dk_bind (dk_u1 (h 0 _ rfl))).trans rfl)
theorem dk_87 {code : ByteArray} {pc : Nat} (h : DkAt code pc [87]) : decode code pc = .ok (.pop, 1) := dk_of ((dk_bind (dk_u1 (h 0 _ rfl))).trans rfl)
theorem dk_89 {code : ByteArray} {pc : Nat} (h : DkAt code pc [89]) : decode code pc = .ok (.dup, 1) := dk_of ((dk_bind (dk_u1 (h 0 _ rfl))).trans rfl)
theorem dk_90 {code : ByteArray} {pc : Nat} (h : DkAt code pc [90]) : decode code pc = .ok (.dup_x1, 1) := dk_of ((dk_bind (dk_u1 (h 0 _ rfl))).trans rfl)
theorem dk_91 {code : ByteArray} {pc : Nat} (h : DkAt code pc [91]) : decode code pc = .ok (.dup_x2, 1) := dk_of ((dk_bind (dk_u1 (h 0 _ rfl))).trans rfl)
theorem dk_92 {code : ByteArray} {pc : Nat} (h : DkAt code pc [92]) : decode code pc = .ok (.dup2, 1) := dk_of ((dk_bind (dk_u1 (h 0 _ rfl))).trans rfl)
theorem dk_96 {code : ByteArray} {pc : Nat} (h : DkAt code pc [96]) : decode code pc = .ok (.iadd, 1) := dk_of ((dk_bind (dk_u1 (h 0 _ rfl))).trans rfl)
theorem dk_97 {code : ByteArray} {pc : Nat} (h : DkAt code pc [97]) : decode code pc = .ok (.ladd, 1) := dk_of ((dk_bind (dk_u1 (h 0 _ rfl))).trans rfl)
theorem dk_100 {code : ByteArray} {pc : Nat} (h : DkAt code pc [100]) : decode code pc = .ok (.isub, 1) := dk_of ((dk_bind (dk_u1 (h 0 _ rfl))).trans rfl)
theorem dk_104 {code : ByteArray} {pc : Nat} (h : DkAt code pc [104]) : decode code pc = .ok (.imul, 1) := dk_of ((dk_bind (dk_u1 (h 0 _ rfl))).trans rfl)
theorem dk_106 {code : ByteArray} {pc : Nat} (h : DkAt code pc [106]) : decode code pc = .ok (.fmul, 1) := dk_of ((dk_bind (dk_u1 (h 0 _ rfl))).trans rfl)
theorem dk_108 {code : ByteArray} {pc : Nat} (h : DkAt code pc [108]) : decode code pc = .ok (.idiv, 1) := dk_of ((dk_bind (dk_u1 (h 0 _ rfl))).trans rfl)
theorem dk_112 {code : ByteArray} {pc : Nat} (h : DkAt code pc [112]) : decode code pc = .ok (.irem, 1) := dk_of ((dk_bind (dk_u1 (h 0 _ rfl))).trans rfl)
theorem dk_116 {code : ByteArray} {pc : Nat} (h : DkAt code pc [116]) : decode code pc = .ok (.ineg, 1) := dk_of ((dk_bind (dk_u1 (h 0 _ rfl))).trans rfl)
theorem dk_120 {code : ByteArray} {pc : Nat} (h : DkAt code pc [120]) : decode code pc = .ok (.ishl, 1) := dk_of ((dk_bind (dk_u1 (h 0 _ rfl))).trans rfl)
theorem dk_121 {code : ByteArray} {pc : Nat} (h : DkAt code pc [121]) : decode code pc = .ok (.lshl, 1) := dk_of ((dk_bind (dk_u1 (h 0 _ rfl))).trans rfl)
theorem dk_122 {code : ByteArray} {pc : Nat} (h : DkAt code pc [122]) : decode code pc = .ok (.ishr, 1) := dk_of ((dk_bind (dk_u1 (h 0 _ rfl))).trans rfl)
theorem dk_124 {code : ByteArray} {pc : Nat} (h : DkAt code pc [124]) : decode code pc = .ok (.iushr, 1) := dk_of ((dk_bind (dk_u1 (h 0 _ rfl))).trans rfl)
theorem dk_125 {code : ByteArray} {pc : Nat} (h : DkAt code pc [125]) : decode code pc = .ok (.lushr, 1) := dk_of ((dk_bind (dk_u1 (h 0 _ rfl))).trans rfl)
theorem dk_126 {code : ByteArray} {pc : Nat} (h : DkAt code pc [126]) : decode code pc = .ok (.iand, 1) := dk_of ((dk_bind (dk_u1 (h 0 _ rfl))).trans rfl)
theorem dk_127 {code : ByteArray} {pc : Nat} (h : DkAt code pc [127]) : decode code pc = .ok (.land, 1) := dk_of ((dk_bind (dk_u1 (h 0 _ rfl))).trans rfl)
theorem dk_128 {code : ByteArray} {pc : Nat} (h : DkAt code pc [128]) : decode code pc = .ok (.ior, 1) := dk_of ((dk_bind (dk_u1 (h 0 _ rfl))).trans rfl)
theorem dk_129 {code : ByteArray} {pc : Nat} (h : DkAt code pc [129]) : decode code pc = .ok (.lor, 1) := dk_of ((dk_bind (dk_u1 (h 0 _ rfl))).trans rfl)
theorem dk_130 {code : ByteArray} {pc : Nat} (h : DkAt code pc [130]) : decode code pc = .ok (.ixor, 1) := dk_of ((dk_bind (dk_u1 (h 0 _ rfl))).trans rfl)
theorem dk_131 {code : ByteArray} {pc : Nat} (h : DkAt code pc [131]) : decode code pc = .ok (.lxor, 1) := dk_of ((dk_bind (dk_u1 (h 0 _ rfl))).trans rfl)
theorem dk_132 {code : ByteArray} {pc : Nat} (a b : UInt8) (h : DkAt code pc [132, a, b]) : decode code pc = .ok (.iinc a.toNat (Reader.signed 8 b.toNat), 3) := dk_of ((dk_bind (dk_u1 (h 0 _ rfl))).trans ((dk_bind (dk_u1 (h 1 _ rfl))).trans ((dk_bind (dk_map (dk_u1 (h 2 _ rfl)))).trans rfl)))
theorem dk_133 {code : ByteArray} {pc : Nat} (h : DkAt code pc [133]) : decode code pc = .ok (.i2l, 1) := dk_of ((dk_bind (dk_u1 (h 0 _ rfl))).trans rfl)
theorem dk_134 {code : ByteArray} {pc : Nat} (h : DkAt code pc [134]) : decode code pc = .ok (.i2f, 1) := dk_of ((dk_bind (dk_u1 (h 0 _ rfl))).trans rfl)
theorem dk_136 {code : ByteArray} {pc : Nat} (h : DkAt code pc [136]) : decode code pc = .ok (.l2i, 1) := dk_of ((dk_bind (dk_u1 (h 0 _ rfl))).trans rfl)
theorem dk_139 {code : ByteArray} {pc : Nat} (h : DkAt code pc [139]) : decode code pc = .ok (.f2i, 1) := dk_of ((dk_bind (dk_u1 (h 0 _ rfl))).trans rfl)
theorem dk_145 {code : ByteArray} {pc : Nat} (h : DkAt code pc [145]) : decode code pc = .ok (.i2b, 1) := dk_of ((dk_bind (dk_u1 (h 0 _ rfl))).trans rfl)
theorem dk_146 {code : ByteArray} {pc : Nat} (h : DkAt code pc [146]) : decode code pc = .ok (.i2c, 1) := dk_of ((dk_bind (dk_u1 (h 0 _ rfl))).trans rfl)
theorem dk_148 {code : ByteArray} {pc : Nat} (h : DkAt code pc [148]) : decode code pc = .ok (.lcmp, 1) := dk_of ((dk_bind (dk_u1 (h 0 _ rfl))).trans rfl)
theorem dk_150 {code : ByteArray} {pc : Nat} (h : DkAt code pc [150]) : decode code pc = .ok (.fcmp .g, 1) := dk_of ((dk_bind (dk_u1 (h 0 _ rfl))).trans rfl)
theorem dk_153 {code : ByteArray} {pc : Nat} (a b : UInt8) (h : DkAt code pc [153, a, b]) : decode code pc = .ok (.ifCond .eq (Reader.signed 16 (a.toNat * 256 + b.toNat)), 3) := dk_of ((dk_bind (dk_u1 (h 0 _ rfl))).trans ((dk_bind (dk_map (dk_u2 (h 1 _ rfl) (h 2 _ rfl)))).trans rfl))
theorem dk_154 {code : ByteArray} {pc : Nat} (a b : UInt8) (h : DkAt code pc [154, a, b]) : decode code pc = .ok (.ifCond .ne (Reader.signed 16 (a.toNat * 256 + b.toNat)), 3) := dk_of ((dk_bind (dk_u1 (h 0 _ rfl))).trans ((dk_bind (dk_map (dk_u2 (h 1 _ rfl) (h 2 _ rfl)))).trans rfl))
theorem dk_155 {code : ByteArray} {pc : Nat} (a b : UInt8) (h : DkAt code pc [155, a, b]) : decode code pc = .ok (.ifCond .lt (Reader.signed 16 (a.toNat * 256 + b.toNat)), 3) := dk_of ((dk_bind (dk_u1 (h 0 _ rfl))).trans ((dk_bind (dk_map (dk_u2 (h 1 _ rfl) (h 2 _ rfl)))).trans rfl))
theorem dk_156 {code : ByteArray} {pc : Nat} (a b : UInt8) (h : DkAt code pc [156, a, b]) : decode code pc = .ok (.ifCond .ge (Reader.signed 16 (a.toNat * 256 + b.toNat)), 3) := dk_of ((dk_bind (dk_u1 (h 0 _ rfl))).trans ((dk_bind (dk_map (dk_u2 (h 1 _ rfl) (h 2 _ rfl)))).trans rfl))
theorem dk_157 {code : ByteArray} {pc : Nat} (a b : UInt8) (h : DkAt code pc [157, a, b]) : decode code pc = .ok (.ifCond .gt (Reader.signed 16 (a.toNat * 256 + b.toNat)), 3) := dk_of ((dk_bind (dk_u1 (h 0 _ rfl))).trans ((dk_bind (dk_map (dk_u2 (h 1 _ rfl) (h 2 _ rfl)))).trans rfl))
theorem dk_158 {code : ByteArray} {pc : Nat} (a b : UInt8) (h : DkAt code pc [158, a, b]) : decode code pc = .ok (.ifCond .le (Reader.signed 16 (a.toNat * 256 + b.toNat)), 3) := dk_of ((dk_bind (dk_u1 (h 0 _ rfl))).trans ((dk_bind (dk_map (dk_u2 (h 1 _ rfl) (h 2 _ rfl)))).trans rfl))
theorem dk_159 {code : ByteArray} {pc : Nat} (a b : UInt8) (h : DkAt code pc [159, a, b]) : decode code pc = .ok (.if_icmp .eq (Reader.signed 16 (a.toNat * 256 + b.toNat)), 3) := dk_of ((dk_bind (dk_u1 (h 0 _ rfl))).trans ((dk_bind (dk_map (dk_u2 (h 1 _ rfl) (h 2 _ rfl)))).trans rfl))
theorem dk_160 {code : ByteArray} {pc : Nat} (a b : UInt8) (h : DkAt code pc [160, a, b]) : decode code pc = .ok (.if_icmp .ne (Reader.signed 16 (a.toNat * 256 + b.toNat)), 3) := dk_of ((dk_bind (dk_u1 (h 0 _ rfl))).trans ((dk_bind (dk_map (dk_u2 (h 1 _ rfl) (h 2 _ rfl)))).trans rfl))
theorem dk_161 {code : ByteArray} {pc : Nat} (a b : UInt8) (h : DkAt code pc [161, a, b]) : decode code pc = .ok (.if_icmp .lt (Reader.signed 16 (a.toNat * 256 + b.toNat)), 3) := dk_of ((dk_bind (dk_u1 (h 0 _ rfl))).trans ((dk_bind (dk_map (dk_u2 (h 1 _ rfl) (h 2 _ rfl)))).trans rfl))
theorem dk_162 {code : ByteArray} {pc : Nat} (a b : UInt8) (h : DkAt code pc [162, a, b]) : decode code pc = .ok (.if_icmp .ge (Reader.signed 16 (a.toNat * 256 + b.toNat)), 3) := dk_of ((dk_bind (dk_u1 (h 0 _ rfl))).trans ((dk_bind (dk_map (dk_u2 (h 1 _ rfl) (h 2 _ rfl)))).trans rfl))
theorem dk_163 {code : ByteArray} {pc : Nat} (a b : UInt8) (h : DkAt code pc [163, a, b]) : decode code pc = .ok (.if_icmp .gt (Reader.signed 16 (a.toNat * 256 + b.toNat)), 3) := dk_of ((dk_bind (dk_u1 (h 0 _ rfl))).trans ((dk_bind (dk_map (dk_u2 (h 1 _ rfl) (h 2 _ rfl)))).trans rfl))
theorem dk_164 {code : ByteArray} {pc : Nat} (a b : UInt8) (h : DkAt code pc [164, a, b]) : decode code pc = .ok (.if_icmp .le (Reader.signed 16 (a.toNat * 256 + b.toNat)), 3) := dk_of ((dk_bind (dk_u1 (h 0 _ rfl))).trans ((dk_bind (dk_map (dk_u2 (h 1 _ rfl) (h 2 _ rfl)))).trans rfl))
theorem dk_165 {code : ByteArray} {pc : Nat} (a b : UInt8) (h : DkAt code pc [165, a, b]) : decode code pc = .ok (.if_acmp .eq (Reader.signed 16 (a.toNat * 256 + b.toNat)), 3) := dk_of ((dk_bind (dk_u1 (h 0 _ rfl))).trans ((dk_bind (dk_map (dk_u2 (h 1 _ rfl) (h 2 _ rfl)))).trans rfl))
theorem dk_166 {code : ByteArray} {pc : Nat} (a b : UInt8) (h : DkAt code pc [166, a, b]) : decode code pc = .ok (.if_acmp .ne (Reader.signed 16 (a.toNat * 256 + b.toNat)), 3) := dk_of ((dk_bind (dk_u1 (h 0 _ rfl))).trans ((dk_bind (dk_map (dk_u2 (h 1 _ rfl) (h 2 _ rfl)))).trans rfl))
theorem dk_167 {code : ByteArray} {pc : Nat} (a b : UInt8) (h : DkAt code pc [167, a, b]) : decode code pc = .ok (.goto (Reader.signed 16 (a.toNat * 256 + b.toNat)), 3) := dk_of ((dk_bind (dk_u1 (h 0 _ rfl))).trans ((dk_bind (dk_map (dk_u2 (h 1 _ rfl) (h 2 _ rfl)))).trans rfl))
theorem dk_172 {code : ByteArray} {pc : Nat} (h : DkAt code pc [172]) : decode code pc = .ok (.ireturn, 1) := dk_of ((dk_bind (dk_u1 (h 0 _ rfl))).trans rfl)
theorem dk_173 {code : ByteArray} {pc : Nat} (h : DkAt code pc [173]) : decode code pc = .ok (.lreturn, 1) := dk_of ((dk_bind (dk_u1 (h 0 _ rfl))).trans rfl)
theorem dk_176 {code : ByteArray} {pc : Nat} (h : DkAt code pc [176]) : decode code pc = .ok (.areturn, 1) := dk_of ((dk_bind (dk_u1 (h 0 _ rfl))).trans rfl)
theorem dk_177 {code : ByteArray} {pc : Nat} (h : DkAt code pc [177]) : decode code pc = .ok (.return_, 1) := dk_of ((dk_bind (dk_u1 (h 0 _ rfl))).trans rfl)
theorem dk_178 {code : ByteArray} {pc : Nat} (a b : UInt8) (h : DkAt code pc [178, a, b]) : decode code pc = .ok (.getstatic (a.toNat * 256 + b.toNat), 3) := dk_of ((dk_bind (dk_u1 (h 0 _ rfl))).trans ((dk_bind (dk_u2 (h 1 _ rfl) (h 2 _ rfl))).trans rfl))
theorem dk_180 {code : ByteArray} {pc : Nat} (a b : UInt8) (h : DkAt code pc [180, a, b]) : decode code pc = .ok (.getfield (a.toNat * 256 + b.toNat), 3) := dk_of ((dk_bind (dk_u1 (h 0 _ rfl))).trans ((dk_bind (dk_u2 (h 1 _ rfl) (h 2 _ rfl))).trans rfl))
theorem dk_181 {code : ByteArray} {pc : Nat} (a b : UInt8) (h : DkAt code pc [181, a, b]) : decode code pc = .ok (.putfield (a.toNat * 256 + b.toNat), 3) := dk_of ((dk_bind (dk_u1 (h 0 _ rfl))).trans ((dk_bind (dk_u2 (h 1 _ rfl) (h 2 _ rfl))).trans rfl))
theorem dk_182 {code : ByteArray} {pc : Nat} (a b : UInt8) (h : DkAt code pc [182, a, b]) : decode code pc = .ok (.invokevirtual (a.toNat * 256 + b.toNat), 3) := dk_of ((dk_bind (dk_u1 (h 0 _ rfl))).trans ((dk_bind (dk_u2 (h 1 _ rfl) (h 2 _ rfl))).trans rfl))
theorem dk_183 {code : ByteArray} {pc : Nat} (a b : UInt8) (h : DkAt code pc [183, a, b]) : decode code pc = .ok (.invokespecial (a.toNat * 256 + b.toNat), 3) := dk_of ((dk_bind (dk_u1 (h 0 _ rfl))).trans ((dk_bind (dk_u2 (h 1 _ rfl) (h 2 _ rfl))).trans rfl))
theorem dk_184 {code : ByteArray} {pc : Nat} (a b : UInt8) (h : DkAt code pc [184, a, b]) : decode code pc = .ok (.invokestatic (a.toNat * 256 + b.toNat), 3) := dk_of ((dk_bind (dk_u1 (h 0 _ rfl))).trans ((dk_bind (dk_u2 (h 1 _ rfl) (h 2 _ rfl))).trans rfl))
theorem dk_187 {code : ByteArray} {pc : Nat} (a b : UInt8) (h : DkAt code pc [187, a, b]) : decode code pc = .ok (.new (a.toNat * 256 + b.toNat), 3) := dk_of ((dk_bind (dk_u1 (h 0 _ rfl))).trans ((dk_bind (dk_u2 (h 1 _ rfl) (h 2 _ rfl))).trans rfl))
theorem dk_188_4 {code : ByteArray} {pc : Nat} (h : DkAt code pc [188, 4]) : decode code pc = .ok (.newarray .boolean, 2) := dk_of ((dk_bind (dk_u1 (h 0 _ rfl))).trans ((dk_bind (dk_u1 (h 1 _ rfl))).trans rfl))
theorem dk_188_8 {code : ByteArray} {pc : Nat} (h : DkAt code pc [188, 8]) : decode code pc = .ok (.newarray .byte, 2) := dk_of ((dk_bind (dk_u1 (h 0 _ rfl))).trans ((dk_bind (dk_u1 (h 1 _ rfl))).trans rfl))
theorem dk_188_10 {code : ByteArray} {pc : Nat} (h : DkAt code pc [188, 10]) : decode code pc = .ok (.newarray .int, 2) := dk_of ((dk_bind (dk_u1 (h 0 _ rfl))).trans ((dk_bind (dk_u1 (h 1 _ rfl))).trans rfl))
theorem dk_188_11 {code : ByteArray} {pc : Nat} (h : DkAt code pc [188, 11]) : decode code pc = .ok (.newarray .long, 2) := dk_of ((dk_bind (dk_u1 (h 0 _ rfl))).trans ((dk_bind (dk_u1 (h 1 _ rfl))).trans rfl))
theorem dk_189 {code : ByteArray} {pc : Nat} (a b : UInt8) (h : DkAt code pc [189, a, b]) : decode code pc = .ok (.anewarray (a.toNat * 256 + b.toNat), 3) := dk_of ((dk_bind (dk_u1 (h 0 _ rfl))).trans ((dk_bind (dk_u2 (h 1 _ rfl) (h 2 _ rfl))).trans rfl))
theorem dk_190 {code : ByteArray} {pc : Nat} (h : DkAt code pc [190]) : decode code pc = .ok (.arraylength, 1) := dk_of ((dk_bind (dk_u1 (h 0 _ rfl))).trans rfl)
theorem dk_191 {code : ByteArray} {pc : Nat} (h : DkAt code pc [191]) : decode code pc = .ok (.athrow, 1) := dk_of ((dk_bind (dk_u1 (h 0 _ rfl))).trans rfl)
theorem dk_192 {code : ByteArray} {pc : Nat} (a b : UInt8) (h : DkAt code pc [192, a, b]) : decode code pc = .ok (.checkcast (a.toNat * 256 + b.toNat), 3) := dk_of ((dk_bind (dk_u1 (h 0 _ rfl))).trans ((dk_bind (dk_u2 (h 1 _ rfl) (h 2 _ rfl))).trans rfl))
theorem dk_193 {code : ByteArray} {pc : Nat} (a b : UInt8) (h : DkAt code pc [193, a, b]) : decode code pc = .ok (.instanceof (a.toNat * 256 + b.toNat), 3) := dk_of ((dk_bind (dk_u1 (h 0 _ rfl))).trans ((dk_bind (dk_u2 (h 1 _ rfl) (h 2 _ rfl))).trans rfl))
theorem dk_198 {code : ByteArray} {pc : Nat} (a b : UInt8) (h : DkAt code pc [198, a, b]) : decode code pc = .ok (.ifnull (Reader.signed 16 (a.toNat * 256 + b.toNat)), 3) := dk_of ((dk_bind (dk_u1 (h 0 _ rfl))).trans ((dk_bind (dk_map (dk_u2 (h 1 _ rfl) (h 2 _ rfl)))).trans rfl))
theorem dk_199 {code : ByteArray} {pc : Nat} (a b : UInt8) (h : DkAt code pc [199, a, b]) : decode code pc = .ok (.ifnonnull (Reader.signed 16 (a.toNat * 256 + b.toNat)), 3) := dk_of ((dk_bind (dk_u1 (h 0 _ rfl))).trans ((dk_bind (dk_map (dk_u2 (h 1 _ rfl) (h 2 _ rfl)))).trans rfl))
/-! AlertIndexLaw -/
set_option maxRecDepth 100000
def RX0 : String := "AlertIndexLaw"
abbrev cX0_question : ByteArray := method_3_code
def yX0_question : MethodName := ⟨RX0, "question", "(LAlertIndex;[J)I"⟩
def dkwX0_question_0 : List UInt8 := [43, 3, 42, 182, 0, 7, 133, 80, 167, 0, 6, 77, 4, 172, 3, 172]
abbrev dktX0_question_0 : List UInt8 := dkwX0_question_0 ++ []
theorem dksX0_question_0 : cX0_question.data.toList.drop 0 = dktX0_question_0 := by decide +kernel
theorem dX0_question_0 : decode cX0_question 0 = .ok (.aload_n 1, 1) := dk_43 (dk_at dksX0_question_0 0 rfl rfl)
theorem dX0_question_1 : decode cX0_question 1 = .ok (.iconst 0, 1) := dk_3 (dk_at dksX0_question_0 1 rfl rfl)
theorem dX0_question_2 : decode cX0_question 2 = .ok (.aload_n 0, 1) := dk_42 (dk_at dksX0_question_0 2 rfl rfl)
theorem dX0_question_3 : decode cX0_question 3 = .ok (.invokevirtual 7, 3) := dk_182 0 7 (dk_at dksX0_question_0 3 rfl rfl)
theorem dX0_question_6 : decode cX0_question 6 = .ok (.i2l, 1) := dk_133 (dk_at dksX0_question_0 6 rfl rfl)
theorem dX0_question_7 : decode cX0_question 7 = .ok (.lastore, 1) := dk_80 (dk_at dksX0_question_0 7 rfl rfl)
theorem dX0_question_8 : decode cX0_question 8 = .ok (.goto 6, 3) := dk_167 0 6 (dk_at dksX0_question_0 8 rfl rfl)
theorem dX0_question_11 : decode cX0_question 11 = .ok (.astore_n 2, 1) := dk_77 (dk_at dksX0_question_0 11 rfl rfl)
theorem dX0_question_12 : decode cX0_question 12 = .ok (.iconst 1, 1) := dk_4 (dk_at dksX0_question_0 12 rfl rfl)
theorem dX0_question_13 : decode cX0_question 13 = .ok (.ireturn, 1) := dk_172 (dk_at dksX0_question_0 13 rfl rfl)
theorem dX0_question_14 : decode cX0_question 14 = .ok (.iconst 0, 1) := dk_3 (dk_at dksX0_question_0 14 rfl rfl)
theorem dX0_question_15 : decode cX0_question 15 = .ok (.ireturn, 1) := dk_172 (dk_at dksX0_question_0 15 rfl rfl)
abbrev cX0_product : ByteArray := method_4_code
def yX0_product : MethodName := ⟨RX0, "product", "(LAlertIndex;I[J)I"⟩
def dkwX0_product_0 : List UInt8 := [44, 3, 42, 27, 182, 0, 15, 133, 80, 167, 0, 9, 78, 4, 172, 78, 5, 172, 3, 172]
abbrev dktX0_product_0 : List UInt8 := dkwX0_product_0 ++ []
theorem dksX0_product_0 : cX0_product.data.toList.drop 0 = dktX0_product_0 := by decide +kernel
theorem dX0_product_0 : decode cX0_product 0 = .ok (.aload_n 2, 1) := dk_44 (dk_at dksX0_product_0 0 rfl rfl)
theorem dX0_product_1 : decode cX0_product 1 = .ok (.iconst 0, 1) := dk_3 (dk_at dksX0_product_0 1 rfl rfl)
theorem dX0_product_2 : decode cX0_product 2 = .ok (.aload_n 0, 1) := dk_42 (dk_at dksX0_product_0 2 rfl rfl)
theorem dX0_product_3 : decode cX0_product 3 = .ok (.iload_n 1, 1) := dk_27 (dk_at dksX0_product_0 3 rfl rfl)
theorem dX0_product_4 : decode cX0_product 4 = .ok (.invokevirtual 15, 3) := dk_182 0 15 (dk_at dksX0_product_0 4 rfl rfl)
theorem dX0_product_7 : decode cX0_product 7 = .ok (.i2l, 1) := dk_133 (dk_at dksX0_product_0 7 rfl rfl)
theorem dX0_product_8 : decode cX0_product 8 = .ok (.lastore, 1) := dk_80 (dk_at dksX0_product_0 8 rfl rfl)
theorem dX0_product_9 : decode cX0_product 9 = .ok (.goto 9, 3) := dk_167 0 9 (dk_at dksX0_product_0 9 rfl rfl)
theorem dX0_product_12 : decode cX0_product 12 = .ok (.astore_n 3, 1) := dk_78 (dk_at dksX0_product_0 12 rfl rfl)
theorem dX0_product_13 : decode cX0_product 13 = .ok (.iconst 1, 1) := dk_4 (dk_at dksX0_product_0 13 rfl rfl)
theorem dX0_product_14 : decode cX0_product 14 = .ok (.ireturn, 1) := dk_172 (dk_at dksX0_product_0 14 rfl rfl)
theorem dX0_product_15 : decode cX0_product 15 = .ok (.astore_n 3, 1) := dk_78 (dk_at dksX0_product_0 15 rfl rfl)
theorem dX0_product_16 : decode cX0_product 16 = .ok (.iconst 2, 1) := dk_5 (dk_at dksX0_product_0 16 rfl rfl)
theorem dX0_product_17 : decode cX0_product 17 = .ok (.ireturn, 1) := dk_172 (dk_at dksX0_product_0 17 rfl rfl)
theorem dX0_product_18 : decode cX0_product 18 = .ok (.iconst 0, 1) := dk_3 (dk_at dksX0_product_0 18 rfl rfl)
theorem dX0_product_19 : decode cX0_product 19 = .ok (.ireturn, 1) := dk_172 (dk_at dksX0_product_0 19 rfl rfl)
abbrev cX0_test : ByteArray := method_5_code
def yX0_test : MethodName := ⟨RX0, "test", "(LAlertIndex;IIIIZ[J)I"⟩
def dkwX0_test_1 : List UInt8 := [58, 7, 5, 172, 58, 7, 6, 172, 3, 172]
abbrev dktX0_test_1 : List UInt8 := dkwX0_test_1 ++ []
def dkwX0_test_0 : List UInt8 := [25, 6, 3, 42, 27, 28, 29, 21, 4, 21, 5, 182, 0, 21, 133, 80, 167, 0, 15, 58, 7, 4, 172]
abbrev dktX0_test_0 : List UInt8 := dkwX0_test_0 ++ dktX0_test_1
theorem dksX0_test_0 : cX0_test.data.toList.drop 0 = dktX0_test_0 := by decide +kernel
theorem dksX0_test_1 : cX0_test.data.toList.drop 23 = dktX0_test_1 := dk_seg dksX0_test_0 23 rfl rfl
theorem dX0_test_0 : decode cX0_test 0 = .ok (.aload 6, 2) := dk_25 6 (dk_at dksX0_test_0 0 rfl rfl)
theorem dX0_test_2 : decode cX0_test 2 = .ok (.iconst 0, 1) := dk_3 (dk_at dksX0_test_0 2 rfl rfl)
theorem dX0_test_3 : decode cX0_test 3 = .ok (.aload_n 0, 1) := dk_42 (dk_at dksX0_test_0 3 rfl rfl)
theorem dX0_test_4 : decode cX0_test 4 = .ok (.iload_n 1, 1) := dk_27 (dk_at dksX0_test_0 4 rfl rfl)
theorem dX0_test_5 : decode cX0_test 5 = .ok (.iload_n 2, 1) := dk_28 (dk_at dksX0_test_0 5 rfl rfl)
theorem dX0_test_6 : decode cX0_test 6 = .ok (.iload_n 3, 1) := dk_29 (dk_at dksX0_test_0 6 rfl rfl)
theorem dX0_test_7 : decode cX0_test 7 = .ok (.iload 4, 2) := dk_21 4 (dk_at dksX0_test_0 7 rfl rfl)
theorem dX0_test_9 : decode cX0_test 9 = .ok (.iload 5, 2) := dk_21 5 (dk_at dksX0_test_0 9 rfl rfl)
theorem dX0_test_11 : decode cX0_test 11 = .ok (.invokevirtual 21, 3) := dk_182 0 21 (dk_at dksX0_test_0 11 rfl rfl)
theorem dX0_test_14 : decode cX0_test 14 = .ok (.i2l, 1) := dk_133 (dk_at dksX0_test_0 14 rfl rfl)
theorem dX0_test_15 : decode cX0_test 15 = .ok (.lastore, 1) := dk_80 (dk_at dksX0_test_0 15 rfl rfl)
theorem dX0_test_16 : decode cX0_test 16 = .ok (.goto 15, 3) := dk_167 0 15 (dk_at dksX0_test_0 16 rfl rfl)
theorem dX0_test_19 : decode cX0_test 19 = .ok (.astore 7, 2) := dk_58 7 (dk_at dksX0_test_0 19 rfl rfl)
theorem dX0_test_21 : decode cX0_test 21 = .ok (.iconst 1, 1) := dk_4 (dk_at dksX0_test_0 21 rfl rfl)
theorem dX0_test_22 : decode cX0_test 22 = .ok (.ireturn, 1) := dk_172 (dk_at dksX0_test_0 22 rfl rfl)
theorem dX0_test_23 : decode cX0_test 23 = .ok (.astore 7, 2) := dk_58 7 (dk_at dksX0_test_1 0 rfl rfl)
theorem dX0_test_25 : decode cX0_test 25 = .ok (.iconst 2, 1) := dk_5 (dk_at dksX0_test_1 2 rfl rfl)
theorem dX0_test_26 : decode cX0_test 26 = .ok (.ireturn, 1) := dk_172 (dk_at dksX0_test_1 3 rfl rfl)
theorem dX0_test_27 : decode cX0_test 27 = .ok (.astore 7, 2) := dk_58 7 (dk_at dksX0_test_1 4 rfl rfl)
theorem dX0_test_29 : decode cX0_test 29 = .ok (.iconst 3, 1) := dk_6 (dk_at dksX0_test_1 6 rfl rfl)
theorem dX0_test_30 : decode cX0_test 30 = .ok (.ireturn, 1) := dk_172 (dk_at dksX0_test_1 7 rfl rfl)
theorem dX0_test_31 : decode cX0_test 31 = .ok (.iconst 0, 1) := dk_3 (dk_at dksX0_test_1 8 rfl rfl)
theorem dX0_test_32 : decode cX0_test 32 = .ok (.ireturn, 1) := dk_172 (dk_at dksX0_test_1 9 rfl rfl)
abbrev cX0_drop : ByteArray := method_6_code
def yX0_drop : MethodName := ⟨RX0, "drop", "(LAlertIndex;I[J)I"⟩
def dkwX0_drop_0 : List UInt8 := [44, 3, 42, 27, 182, 0, 27, 133, 80, 167, 0, 6, 78, 4, 172, 3, 172]
abbrev dktX0_drop_0 : List UInt8 := dkwX0_drop_0 ++ []
theorem dksX0_drop_0 : cX0_drop.data.toList.drop 0 = dktX0_drop_0 := by decide +kernel
theorem dX0_drop_0 : decode cX0_drop 0 = .ok (.aload_n 2, 1) := dk_44 (dk_at dksX0_drop_0 0 rfl rfl)
theorem dX0_drop_1 : decode cX0_drop 1 = .ok (.iconst 0, 1) := dk_3 (dk_at dksX0_drop_0 1 rfl rfl)
theorem dX0_drop_2 : decode cX0_drop 2 = .ok (.aload_n 0, 1) := dk_42 (dk_at dksX0_drop_0 2 rfl rfl)
theorem dX0_drop_3 : decode cX0_drop 3 = .ok (.iload_n 1, 1) := dk_27 (dk_at dksX0_drop_0 3 rfl rfl)
theorem dX0_drop_4 : decode cX0_drop 4 = .ok (.invokevirtual 27, 3) := dk_182 0 27 (dk_at dksX0_drop_0 4 rfl rfl)
theorem dX0_drop_7 : decode cX0_drop 7 = .ok (.i2l, 1) := dk_133 (dk_at dksX0_drop_0 7 rfl rfl)
theorem dX0_drop_8 : decode cX0_drop 8 = .ok (.lastore, 1) := dk_80 (dk_at dksX0_drop_0 8 rfl rfl)
theorem dX0_drop_9 : decode cX0_drop 9 = .ok (.goto 6, 3) := dk_167 0 6 (dk_at dksX0_drop_0 9 rfl rfl)
theorem dX0_drop_12 : decode cX0_drop 12 = .ok (.astore_n 3, 1) := dk_78 (dk_at dksX0_drop_0 12 rfl rfl)
theorem dX0_drop_13 : decode cX0_drop 13 = .ok (.iconst 1, 1) := dk_4 (dk_at dksX0_drop_0 13 rfl rfl)
theorem dX0_drop_14 : decode cX0_drop 14 = .ok (.ireturn, 1) := dk_172 (dk_at dksX0_drop_0 14 rfl rfl)
theorem dX0_drop_15 : decode cX0_drop 15 = .ok (.iconst 0, 1) := dk_3 (dk_at dksX0_drop_0 15 rfl rfl)
theorem dX0_drop_16 : decode cX0_drop 16 = .ok (.ireturn, 1) := dk_172 (dk_at dksX0_drop_0 16 rfl rfl)
abbrev cX0_setQuiet : ByteArray := method_7_code
def yX0_setQuiet : MethodName := ⟨RX0, "setQuiet", "(LAlertIndex;II[J)I"⟩
def dkwX0_setQuiet_0 : List UInt8 := [45, 3, 42, 27, 28, 182, 0, 30, 133, 80, 167, 0, 11, 58, 4, 4, 172, 58, 4, 5, 172, 3, 172]
abbrev dktX0_setQuiet_0 : List UInt8 := dkwX0_setQuiet_0 ++ []
theorem dksX0_setQuiet_0 : cX0_setQuiet.data.toList.drop 0 = dktX0_setQuiet_0 := by decide +kernel
theorem dX0_setQuiet_0 : decode cX0_setQuiet 0 = .ok (.aload_n 3, 1) := dk_45 (dk_at dksX0_setQuiet_0 0 rfl rfl)
theorem dX0_setQuiet_1 : decode cX0_setQuiet 1 = .ok (.iconst 0, 1) := dk_3 (dk_at dksX0_setQuiet_0 1 rfl rfl)
theorem dX0_setQuiet_2 : decode cX0_setQuiet 2 = .ok (.aload_n 0, 1) := dk_42 (dk_at dksX0_setQuiet_0 2 rfl rfl)
theorem dX0_setQuiet_3 : decode cX0_setQuiet 3 = .ok (.iload_n 1, 1) := dk_27 (dk_at dksX0_setQuiet_0 3 rfl rfl)
theorem dX0_setQuiet_4 : decode cX0_setQuiet 4 = .ok (.iload_n 2, 1) := dk_28 (dk_at dksX0_setQuiet_0 4 rfl rfl)
theorem dX0_setQuiet_5 : decode cX0_setQuiet 5 = .ok (.invokevirtual 30, 3) := dk_182 0 30 (dk_at dksX0_setQuiet_0 5 rfl rfl)
theorem dX0_setQuiet_8 : decode cX0_setQuiet 8 = .ok (.i2l, 1) := dk_133 (dk_at dksX0_setQuiet_0 8 rfl rfl)
theorem dX0_setQuiet_9 : decode cX0_setQuiet 9 = .ok (.lastore, 1) := dk_80 (dk_at dksX0_setQuiet_0 9 rfl rfl)
theorem dX0_setQuiet_10 : decode cX0_setQuiet 10 = .ok (.goto 11, 3) := dk_167 0 11 (dk_at dksX0_setQuiet_0 10 rfl rfl)
theorem dX0_setQuiet_13 : decode cX0_setQuiet 13 = .ok (.astore 4, 2) := dk_58 4 (dk_at dksX0_setQuiet_0 13 rfl rfl)
theorem dX0_setQuiet_15 : decode cX0_setQuiet 15 = .ok (.iconst 1, 1) := dk_4 (dk_at dksX0_setQuiet_0 15 rfl rfl)
theorem dX0_setQuiet_16 : decode cX0_setQuiet 16 = .ok (.ireturn, 1) := dk_172 (dk_at dksX0_setQuiet_0 16 rfl rfl)
theorem dX0_setQuiet_17 : decode cX0_setQuiet 17 = .ok (.astore 4, 2) := dk_58 4 (dk_at dksX0_setQuiet_0 17 rfl rfl)
theorem dX0_setQuiet_19 : decode cX0_setQuiet 19 = .ok (.iconst 2, 1) := dk_5 (dk_at dksX0_setQuiet_0 19 rfl rfl)
theorem dX0_setQuiet_20 : decode cX0_setQuiet 20 = .ok (.ireturn, 1) := dk_172 (dk_at dksX0_setQuiet_0 20 rfl rfl)
theorem dX0_setQuiet_21 : decode cX0_setQuiet 21 = .ok (.iconst 0, 1) := dk_3 (dk_at dksX0_setQuiet_0 21 rfl rfl)
theorem dX0_setQuiet_22 : decode cX0_setQuiet 22 = .ok (.ireturn, 1) := dk_172 (dk_at dksX0_setQuiet_0 22 rfl rfl)
abbrev cX0_set : ByteArray := method_8_code
def yX0_set : MethodName := ⟨RX0, "set", "(LAlertIndex;II[J)I"⟩
def dkwX0_set_0 : List UInt8 := [45, 3, 42, 27, 28, 182, 0, 34, 133, 80, 167, 0, 11, 58, 4, 4, 172, 58, 4, 5, 172, 3, 172]
abbrev dktX0_set_0 : List UInt8 := dkwX0_set_0 ++ []
theorem dksX0_set_0 : cX0_set.data.toList.drop 0 = dktX0_set_0 := by decide +kernel
theorem dX0_set_0 : decode cX0_set 0 = .ok (.aload_n 3, 1) := dk_45 (dk_at dksX0_set_0 0 rfl rfl)
theorem dX0_set_1 : decode cX0_set 1 = .ok (.iconst 0, 1) := dk_3 (dk_at dksX0_set_0 1 rfl rfl)
theorem dX0_set_2 : decode cX0_set 2 = .ok (.aload_n 0, 1) := dk_42 (dk_at dksX0_set_0 2 rfl rfl)
theorem dX0_set_3 : decode cX0_set 3 = .ok (.iload_n 1, 1) := dk_27 (dk_at dksX0_set_0 3 rfl rfl)
theorem dX0_set_4 : decode cX0_set 4 = .ok (.iload_n 2, 1) := dk_28 (dk_at dksX0_set_0 4 rfl rfl)
theorem dX0_set_5 : decode cX0_set 5 = .ok (.invokevirtual 34, 3) := dk_182 0 34 (dk_at dksX0_set_0 5 rfl rfl)
theorem dX0_set_8 : decode cX0_set 8 = .ok (.i2l, 1) := dk_133 (dk_at dksX0_set_0 8 rfl rfl)
theorem dX0_set_9 : decode cX0_set 9 = .ok (.lastore, 1) := dk_80 (dk_at dksX0_set_0 9 rfl rfl)
theorem dX0_set_10 : decode cX0_set 10 = .ok (.goto 11, 3) := dk_167 0 11 (dk_at dksX0_set_0 10 rfl rfl)
theorem dX0_set_13 : decode cX0_set 13 = .ok (.astore 4, 2) := dk_58 4 (dk_at dksX0_set_0 13 rfl rfl)
theorem dX0_set_15 : decode cX0_set 15 = .ok (.iconst 1, 1) := dk_4 (dk_at dksX0_set_0 15 rfl rfl)
theorem dX0_set_16 : decode cX0_set 16 = .ok (.ireturn, 1) := dk_172 (dk_at dksX0_set_0 16 rfl rfl)
theorem dX0_set_17 : decode cX0_set 17 = .ok (.astore 4, 2) := dk_58 4 (dk_at dksX0_set_0 17 rfl rfl)
theorem dX0_set_19 : decode cX0_set 19 = .ok (.iconst 2, 1) := dk_5 (dk_at dksX0_set_0 19 rfl rfl)
theorem dX0_set_20 : decode cX0_set 20 = .ok (.ireturn, 1) := dk_172 (dk_at dksX0_set_0 20 rfl rfl)
theorem dX0_set_21 : decode cX0_set 21 = .ok (.iconst 0, 1) := dk_3 (dk_at dksX0_set_0 21 rfl rfl)
theorem dX0_set_22 : decode cX0_set 22 = .ok (.ireturn, 1) := dk_172 (dk_at dksX0_set_0 22 rfl rfl)
abbrev cX0_advance : ByteArray := method_9_code
def yX0_advance : MethodName := ⟨RX0, "advance", "(LAlertIndex;I[J)I"⟩
def dkwX0_advance_0 : List UInt8 := [44, 3, 42, 27, 182, 0, 37, 133, 80, 167, 0, 9, 78, 4, 172, 78, 5, 172, 3, 172]
abbrev dktX0_advance_0 : List UInt8 := dkwX0_advance_0 ++ []
theorem dksX0_advance_0 : cX0_advance.data.toList.drop 0 = dktX0_advance_0 := by decide +kernel
theorem dX0_advance_0 : decode cX0_advance 0 = .ok (.aload_n 2, 1) := dk_44 (dk_at dksX0_advance_0 0 rfl rfl)
theorem dX0_advance_1 : decode cX0_advance 1 = .ok (.iconst 0, 1) := dk_3 (dk_at dksX0_advance_0 1 rfl rfl)
theorem dX0_advance_2 : decode cX0_advance 2 = .ok (.aload_n 0, 1) := dk_42 (dk_at dksX0_advance_0 2 rfl rfl)
theorem dX0_advance_3 : decode cX0_advance 3 = .ok (.iload_n 1, 1) := dk_27 (dk_at dksX0_advance_0 3 rfl rfl)
theorem dX0_advance_4 : decode cX0_advance 4 = .ok (.invokevirtual 37, 3) := dk_182 0 37 (dk_at dksX0_advance_0 4 rfl rfl)
theorem dX0_advance_7 : decode cX0_advance 7 = .ok (.i2l, 1) := dk_133 (dk_at dksX0_advance_0 7 rfl rfl)
theorem dX0_advance_8 : decode cX0_advance 8 = .ok (.lastore, 1) := dk_80 (dk_at dksX0_advance_0 8 rfl rfl)
theorem dX0_advance_9 : decode cX0_advance 9 = .ok (.goto 9, 3) := dk_167 0 9 (dk_at dksX0_advance_0 9 rfl rfl)
theorem dX0_advance_12 : decode cX0_advance 12 = .ok (.astore_n 3, 1) := dk_78 (dk_at dksX0_advance_0 12 rfl rfl)
theorem dX0_advance_13 : decode cX0_advance 13 = .ok (.iconst 1, 1) := dk_4 (dk_at dksX0_advance_0 13 rfl rfl)
theorem dX0_advance_14 : decode cX0_advance 14 = .ok (.ireturn, 1) := dk_172 (dk_at dksX0_advance_0 14 rfl rfl)
theorem dX0_advance_15 : decode cX0_advance 15 = .ok (.astore_n 3, 1) := dk_78 (dk_at dksX0_advance_0 15 rfl rfl)
theorem dX0_advance_16 : decode cX0_advance 16 = .ok (.iconst 2, 1) := dk_5 (dk_at dksX0_advance_0 16 rfl rfl)
theorem dX0_advance_17 : decode cX0_advance 17 = .ok (.ireturn, 1) := dk_172 (dk_at dksX0_advance_0 17 rfl rfl)
theorem dX0_advance_18 : decode cX0_advance 18 = .ok (.iconst 0, 1) := dk_3 (dk_at dksX0_advance_0 18 rfl rfl)
theorem dX0_advance_19 : decode cX0_advance 19 = .ok (.ireturn, 1) := dk_172 (dk_at dksX0_advance_0 19 rfl rfl)
abbrev cX0_satisfies : ByteArray := method_10_code
def yX0_satisfies : MethodName := ⟨RX0, "satisfies", "(LAlertIndex;I[J)I"⟩
def dkwX0_satisfies_0 : List UInt8 := [44, 3, 42, 27, 182, 0, 40, 153, 0, 7, 10, 167, 0, 4, 9, 80, 167, 0, 6, 78, 4, 172, 3, 172]
abbrev dktX0_satisfies_0 : List UInt8 := dkwX0_satisfies_0 ++ []
theorem dksX0_satisfies_0 : cX0_satisfies.data.toList.drop 0 = dktX0_satisfies_0 := by decide +kernel
theorem dX0_satisfies_0 : decode cX0_satisfies 0 = .ok (.aload_n 2, 1) := dk_44 (dk_at dksX0_satisfies_0 0 rfl rfl)
theorem dX0_satisfies_1 : decode cX0_satisfies 1 = .ok (.iconst 0, 1) := dk_3 (dk_at dksX0_satisfies_0 1 rfl rfl)
theorem dX0_satisfies_2 : decode cX0_satisfies 2 = .ok (.aload_n 0, 1) := dk_42 (dk_at dksX0_satisfies_0 2 rfl rfl)
theorem dX0_satisfies_3 : decode cX0_satisfies 3 = .ok (.iload_n 1, 1) := dk_27 (dk_at dksX0_satisfies_0 3 rfl rfl)
theorem dX0_satisfies_4 : decode cX0_satisfies 4 = .ok (.invokevirtual 40, 3) := dk_182 0 40 (dk_at dksX0_satisfies_0 4 rfl rfl)
theorem dX0_satisfies_7 : decode cX0_satisfies 7 = .ok (.ifCond .eq 7, 3) := dk_153 0 7 (dk_at dksX0_satisfies_0 7 rfl rfl)
theorem dX0_satisfies_10 : decode cX0_satisfies 10 = .ok (.lconst 1, 1) := dk_10 (dk_at dksX0_satisfies_0 10 rfl rfl)
theorem dX0_satisfies_11 : decode cX0_satisfies 11 = .ok (.goto 4, 3) := dk_167 0 4 (dk_at dksX0_satisfies_0 11 rfl rfl)
theorem dX0_satisfies_14 : decode cX0_satisfies 14 = .ok (.lconst 0, 1) := dk_9 (dk_at dksX0_satisfies_0 14 rfl rfl)
theorem dX0_satisfies_15 : decode cX0_satisfies 15 = .ok (.lastore, 1) := dk_80 (dk_at dksX0_satisfies_0 15 rfl rfl)
theorem dX0_satisfies_16 : decode cX0_satisfies 16 = .ok (.goto 6, 3) := dk_167 0 6 (dk_at dksX0_satisfies_0 16 rfl rfl)
theorem dX0_satisfies_19 : decode cX0_satisfies 19 = .ok (.astore_n 3, 1) := dk_78 (dk_at dksX0_satisfies_0 19 rfl rfl)
theorem dX0_satisfies_20 : decode cX0_satisfies 20 = .ok (.iconst 1, 1) := dk_4 (dk_at dksX0_satisfies_0 20 rfl rfl)
theorem dX0_satisfies_21 : decode cX0_satisfies 21 = .ok (.ireturn, 1) := dk_172 (dk_at dksX0_satisfies_0 21 rfl rfl)
theorem dX0_satisfies_22 : decode cX0_satisfies 22 = .ok (.iconst 0, 1) := dk_3 (dk_at dksX0_satisfies_0 22 rfl rfl)
theorem dX0_satisfies_23 : decode cX0_satisfies 23 = .ok (.ireturn, 1) := dk_172 (dk_at dksX0_satisfies_0 23 rfl rfl)
abbrev cX0_sizeOf : ByteArray := method_11_code
def yX0_sizeOf : MethodName := ⟨RX0, "sizeOf", "(LAlertIndex;I[J)I"⟩
def dkwX0_sizeOf_0 : List UInt8 := [44, 3, 42, 27, 182, 0, 44, 133, 80, 167, 0, 6, 78, 4, 172, 3, 172]
abbrev dktX0_sizeOf_0 : List UInt8 := dkwX0_sizeOf_0 ++ []
theorem dksX0_sizeOf_0 : cX0_sizeOf.data.toList.drop 0 = dktX0_sizeOf_0 := by decide +kernel
theorem dX0_sizeOf_0 : decode cX0_sizeOf 0 = .ok (.aload_n 2, 1) := dk_44 (dk_at dksX0_sizeOf_0 0 rfl rfl)
theorem dX0_sizeOf_1 : decode cX0_sizeOf 1 = .ok (.iconst 0, 1) := dk_3 (dk_at dksX0_sizeOf_0 1 rfl rfl)
theorem dX0_sizeOf_2 : decode cX0_sizeOf 2 = .ok (.aload_n 0, 1) := dk_42 (dk_at dksX0_sizeOf_0 2 rfl rfl)
theorem dX0_sizeOf_3 : decode cX0_sizeOf 3 = .ok (.iload_n 1, 1) := dk_27 (dk_at dksX0_sizeOf_0 3 rfl rfl)
theorem dX0_sizeOf_4 : decode cX0_sizeOf 4 = .ok (.invokevirtual 44, 3) := dk_182 0 44 (dk_at dksX0_sizeOf_0 4 rfl rfl)
theorem dX0_sizeOf_7 : decode cX0_sizeOf 7 = .ok (.i2l, 1) := dk_133 (dk_at dksX0_sizeOf_0 7 rfl rfl)
theorem dX0_sizeOf_8 : decode cX0_sizeOf 8 = .ok (.lastore, 1) := dk_80 (dk_at dksX0_sizeOf_0 8 rfl rfl)
theorem dX0_sizeOf_9 : decode cX0_sizeOf 9 = .ok (.goto 6, 3) := dk_167 0 6 (dk_at dksX0_sizeOf_0 9 rfl rfl)
theorem dX0_sizeOf_12 : decode cX0_sizeOf 12 = .ok (.astore_n 3, 1) := dk_78 (dk_at dksX0_sizeOf_0 12 rfl rfl)
theorem dX0_sizeOf_13 : decode cX0_sizeOf 13 = .ok (.iconst 1, 1) := dk_4 (dk_at dksX0_sizeOf_0 13 rfl rfl)
theorem dX0_sizeOf_14 : decode cX0_sizeOf 14 = .ok (.ireturn, 1) := dk_172 (dk_at dksX0_sizeOf_0 14 rfl rfl)
theorem dX0_sizeOf_15 : decode cX0_sizeOf 15 = .ok (.iconst 0, 1) := dk_3 (dk_at dksX0_sizeOf_0 15 rfl rfl)
theorem dX0_sizeOf_16 : decode cX0_sizeOf 16 = .ok (.ireturn, 1) := dk_172 (dk_at dksX0_sizeOf_0 16 rfl rfl)
abbrev cX0_pieces : ByteArray := method_12_code
def yX0_pieces : MethodName := ⟨RX0, "pieces", "(LAlertIndex;II[J)I"⟩
def dkwX0_pieces_0 : List UInt8 := [45, 3, 42, 27, 28, 182, 0, 47, 133, 80, 167, 0, 7, 58, 4, 4, 172, 3, 172]
abbrev dktX0_pieces_0 : List UInt8 := dkwX0_pieces_0 ++ []
theorem dksX0_pieces_0 : cX0_pieces.data.toList.drop 0 = dktX0_pieces_0 := by decide +kernel
theorem dX0_pieces_0 : decode cX0_pieces 0 = .ok (.aload_n 3, 1) := dk_45 (dk_at dksX0_pieces_0 0 rfl rfl)
theorem dX0_pieces_1 : decode cX0_pieces 1 = .ok (.iconst 0, 1) := dk_3 (dk_at dksX0_pieces_0 1 rfl rfl)
theorem dX0_pieces_2 : decode cX0_pieces 2 = .ok (.aload_n 0, 1) := dk_42 (dk_at dksX0_pieces_0 2 rfl rfl)
theorem dX0_pieces_3 : decode cX0_pieces 3 = .ok (.iload_n 1, 1) := dk_27 (dk_at dksX0_pieces_0 3 rfl rfl)
theorem dX0_pieces_4 : decode cX0_pieces 4 = .ok (.iload_n 2, 1) := dk_28 (dk_at dksX0_pieces_0 4 rfl rfl)
theorem dX0_pieces_5 : decode cX0_pieces 5 = .ok (.invokevirtual 47, 3) := dk_182 0 47 (dk_at dksX0_pieces_0 5 rfl rfl)
theorem dX0_pieces_8 : decode cX0_pieces 8 = .ok (.i2l, 1) := dk_133 (dk_at dksX0_pieces_0 8 rfl rfl)
theorem dX0_pieces_9 : decode cX0_pieces 9 = .ok (.lastore, 1) := dk_80 (dk_at dksX0_pieces_0 9 rfl rfl)
theorem dX0_pieces_10 : decode cX0_pieces 10 = .ok (.goto 7, 3) := dk_167 0 7 (dk_at dksX0_pieces_0 10 rfl rfl)
theorem dX0_pieces_13 : decode cX0_pieces 13 = .ok (.astore 4, 2) := dk_58 4 (dk_at dksX0_pieces_0 13 rfl rfl)
theorem dX0_pieces_15 : decode cX0_pieces 15 = .ok (.iconst 1, 1) := dk_4 (dk_at dksX0_pieces_0 15 rfl rfl)
theorem dX0_pieces_16 : decode cX0_pieces 16 = .ok (.ireturn, 1) := dk_172 (dk_at dksX0_pieces_0 16 rfl rfl)
theorem dX0_pieces_17 : decode cX0_pieces 17 = .ok (.iconst 0, 1) := dk_3 (dk_at dksX0_pieces_0 17 rfl rfl)
theorem dX0_pieces_18 : decode cX0_pieces 18 = .ok (.ireturn, 1) := dk_172 (dk_at dksX0_pieces_0 18 rfl rfl)
abbrev cX0_pieceAt : ByteArray := method_13_code
def yX0_pieceAt : MethodName := ⟨RX0, "pieceAt", "(LAlertIndex;III[J)I"⟩
def dkwX0_pieceAt_1 : List UInt8 := [172]
abbrev dktX0_pieceAt_1 : List UInt8 := dkwX0_pieceAt_1 ++ []
def dkwX0_pieceAt_0 : List UInt8 := [25, 4, 3, 42, 27, 28, 29, 182, 0, 50, 133, 80, 167, 0, 11, 58, 5, 4, 172, 58, 5, 5, 172, 3]
abbrev dktX0_pieceAt_0 : List UInt8 := dkwX0_pieceAt_0 ++ dktX0_pieceAt_1
theorem dksX0_pieceAt_0 : cX0_pieceAt.data.toList.drop 0 = dktX0_pieceAt_0 := by decide +kernel
theorem dksX0_pieceAt_1 : cX0_pieceAt.data.toList.drop 24 = dktX0_pieceAt_1 := dk_seg dksX0_pieceAt_0 24 rfl rfl
theorem dX0_pieceAt_0 : decode cX0_pieceAt 0 = .ok (.aload 4, 2) := dk_25 4 (dk_at dksX0_pieceAt_0 0 rfl rfl)
theorem dX0_pieceAt_2 : decode cX0_pieceAt 2 = .ok (.iconst 0, 1) := dk_3 (dk_at dksX0_pieceAt_0 2 rfl rfl)
theorem dX0_pieceAt_3 : decode cX0_pieceAt 3 = .ok (.aload_n 0, 1) := dk_42 (dk_at dksX0_pieceAt_0 3 rfl rfl)
theorem dX0_pieceAt_4 : decode cX0_pieceAt 4 = .ok (.iload_n 1, 1) := dk_27 (dk_at dksX0_pieceAt_0 4 rfl rfl)
theorem dX0_pieceAt_5 : decode cX0_pieceAt 5 = .ok (.iload_n 2, 1) := dk_28 (dk_at dksX0_pieceAt_0 5 rfl rfl)
theorem dX0_pieceAt_6 : decode cX0_pieceAt 6 = .ok (.iload_n 3, 1) := dk_29 (dk_at dksX0_pieceAt_0 6 rfl rfl)
theorem dX0_pieceAt_7 : decode cX0_pieceAt 7 = .ok (.invokevirtual 50, 3) := dk_182 0 50 (dk_at dksX0_pieceAt_0 7 rfl rfl)
theorem dX0_pieceAt_10 : decode cX0_pieceAt 10 = .ok (.i2l, 1) := dk_133 (dk_at dksX0_pieceAt_0 10 rfl rfl)
theorem dX0_pieceAt_11 : decode cX0_pieceAt 11 = .ok (.lastore, 1) := dk_80 (dk_at dksX0_pieceAt_0 11 rfl rfl)
theorem dX0_pieceAt_12 : decode cX0_pieceAt 12 = .ok (.goto 11, 3) := dk_167 0 11 (dk_at dksX0_pieceAt_0 12 rfl rfl)
theorem dX0_pieceAt_15 : decode cX0_pieceAt 15 = .ok (.astore 5, 2) := dk_58 5 (dk_at dksX0_pieceAt_0 15 rfl rfl)
theorem dX0_pieceAt_17 : decode cX0_pieceAt 17 = .ok (.iconst 1, 1) := dk_4 (dk_at dksX0_pieceAt_0 17 rfl rfl)
theorem dX0_pieceAt_18 : decode cX0_pieceAt 18 = .ok (.ireturn, 1) := dk_172 (dk_at dksX0_pieceAt_0 18 rfl rfl)
theorem dX0_pieceAt_19 : decode cX0_pieceAt 19 = .ok (.astore 5, 2) := dk_58 5 (dk_at dksX0_pieceAt_0 19 rfl rfl)
theorem dX0_pieceAt_21 : decode cX0_pieceAt 21 = .ok (.iconst 2, 1) := dk_5 (dk_at dksX0_pieceAt_0 21 rfl rfl)
theorem dX0_pieceAt_22 : decode cX0_pieceAt 22 = .ok (.ireturn, 1) := dk_172 (dk_at dksX0_pieceAt_0 22 rfl rfl)
theorem dX0_pieceAt_23 : decode cX0_pieceAt 23 = .ok (.iconst 0, 1) := dk_3 (dk_at dksX0_pieceAt_0 23 rfl rfl)
theorem dX0_pieceAt_24 : decode cX0_pieceAt 24 = .ok (.ireturn, 1) := dk_172 (dk_at dksX0_pieceAt_1 0 rfl rfl)
abbrev cX0_isQuiet : ByteArray := method_14_code
def yX0_isQuiet : MethodName := ⟨RX0, "isQuiet", "(LAlertIndex;I[J)I"⟩
def dkwX0_isQuiet_0 : List UInt8 := [44, 3, 42, 27, 182, 0, 54, 153, 0, 7, 10, 167, 0, 4, 9, 80, 167, 0, 6, 78, 4, 172, 3, 172]
abbrev dktX0_isQuiet_0 : List UInt8 := dkwX0_isQuiet_0 ++ []
theorem dksX0_isQuiet_0 : cX0_isQuiet.data.toList.drop 0 = dktX0_isQuiet_0 := by decide +kernel
theorem dX0_isQuiet_0 : decode cX0_isQuiet 0 = .ok (.aload_n 2, 1) := dk_44 (dk_at dksX0_isQuiet_0 0 rfl rfl)
theorem dX0_isQuiet_1 : decode cX0_isQuiet 1 = .ok (.iconst 0, 1) := dk_3 (dk_at dksX0_isQuiet_0 1 rfl rfl)
theorem dX0_isQuiet_2 : decode cX0_isQuiet 2 = .ok (.aload_n 0, 1) := dk_42 (dk_at dksX0_isQuiet_0 2 rfl rfl)
theorem dX0_isQuiet_3 : decode cX0_isQuiet 3 = .ok (.iload_n 1, 1) := dk_27 (dk_at dksX0_isQuiet_0 3 rfl rfl)
theorem dX0_isQuiet_4 : decode cX0_isQuiet 4 = .ok (.invokevirtual 54, 3) := dk_182 0 54 (dk_at dksX0_isQuiet_0 4 rfl rfl)
theorem dX0_isQuiet_7 : decode cX0_isQuiet 7 = .ok (.ifCond .eq 7, 3) := dk_153 0 7 (dk_at dksX0_isQuiet_0 7 rfl rfl)
theorem dX0_isQuiet_10 : decode cX0_isQuiet 10 = .ok (.lconst 1, 1) := dk_10 (dk_at dksX0_isQuiet_0 10 rfl rfl)
theorem dX0_isQuiet_11 : decode cX0_isQuiet 11 = .ok (.goto 4, 3) := dk_167 0 4 (dk_at dksX0_isQuiet_0 11 rfl rfl)
theorem dX0_isQuiet_14 : decode cX0_isQuiet 14 = .ok (.lconst 0, 1) := dk_9 (dk_at dksX0_isQuiet_0 14 rfl rfl)
theorem dX0_isQuiet_15 : decode cX0_isQuiet 15 = .ok (.lastore, 1) := dk_80 (dk_at dksX0_isQuiet_0 15 rfl rfl)
theorem dX0_isQuiet_16 : decode cX0_isQuiet 16 = .ok (.goto 6, 3) := dk_167 0 6 (dk_at dksX0_isQuiet_0 16 rfl rfl)
theorem dX0_isQuiet_19 : decode cX0_isQuiet 19 = .ok (.astore_n 3, 1) := dk_78 (dk_at dksX0_isQuiet_0 19 rfl rfl)
theorem dX0_isQuiet_20 : decode cX0_isQuiet 20 = .ok (.iconst 1, 1) := dk_4 (dk_at dksX0_isQuiet_0 20 rfl rfl)
theorem dX0_isQuiet_21 : decode cX0_isQuiet 21 = .ok (.ireturn, 1) := dk_172 (dk_at dksX0_isQuiet_0 21 rfl rfl)
theorem dX0_isQuiet_22 : decode cX0_isQuiet 22 = .ok (.iconst 0, 1) := dk_3 (dk_at dksX0_isQuiet_0 22 rfl rfl)
theorem dX0_isQuiet_23 : decode cX0_isQuiet 23 = .ok (.ireturn, 1) := dk_172 (dk_at dksX0_isQuiet_0 23 rfl rfl)
abbrev cX0_alerts : ByteArray := method_15_code
def yX0_alerts : MethodName := ⟨RX0, "alerts", "(LAlertIndex;I[J)I"⟩
def dkwX0_alerts_0 : List UInt8 := [44, 3, 42, 27, 182, 0, 57, 133, 80, 167, 0, 6, 78, 4, 172, 3, 172]
abbrev dktX0_alerts_0 : List UInt8 := dkwX0_alerts_0 ++ []
theorem dksX0_alerts_0 : cX0_alerts.data.toList.drop 0 = dktX0_alerts_0 := by decide +kernel
theorem dX0_alerts_0 : decode cX0_alerts 0 = .ok (.aload_n 2, 1) := dk_44 (dk_at dksX0_alerts_0 0 rfl rfl)
theorem dX0_alerts_1 : decode cX0_alerts 1 = .ok (.iconst 0, 1) := dk_3 (dk_at dksX0_alerts_0 1 rfl rfl)
theorem dX0_alerts_2 : decode cX0_alerts 2 = .ok (.aload_n 0, 1) := dk_42 (dk_at dksX0_alerts_0 2 rfl rfl)
theorem dX0_alerts_3 : decode cX0_alerts 3 = .ok (.iload_n 1, 1) := dk_27 (dk_at dksX0_alerts_0 3 rfl rfl)
theorem dX0_alerts_4 : decode cX0_alerts 4 = .ok (.invokevirtual 57, 3) := dk_182 0 57 (dk_at dksX0_alerts_0 4 rfl rfl)
theorem dX0_alerts_7 : decode cX0_alerts 7 = .ok (.i2l, 1) := dk_133 (dk_at dksX0_alerts_0 7 rfl rfl)
theorem dX0_alerts_8 : decode cX0_alerts 8 = .ok (.lastore, 1) := dk_80 (dk_at dksX0_alerts_0 8 rfl rfl)
theorem dX0_alerts_9 : decode cX0_alerts 9 = .ok (.goto 6, 3) := dk_167 0 6 (dk_at dksX0_alerts_0 9 rfl rfl)
theorem dX0_alerts_12 : decode cX0_alerts 12 = .ok (.astore_n 3, 1) := dk_78 (dk_at dksX0_alerts_0 12 rfl rfl)
theorem dX0_alerts_13 : decode cX0_alerts 13 = .ok (.iconst 1, 1) := dk_4 (dk_at dksX0_alerts_0 13 rfl rfl)
theorem dX0_alerts_14 : decode cX0_alerts 14 = .ok (.ireturn, 1) := dk_172 (dk_at dksX0_alerts_0 14 rfl rfl)
theorem dX0_alerts_15 : decode cX0_alerts 15 = .ok (.iconst 0, 1) := dk_3 (dk_at dksX0_alerts_0 15 rfl rfl)
theorem dX0_alerts_16 : decode cX0_alerts 16 = .ok (.ireturn, 1) := dk_172 (dk_at dksX0_alerts_0 16 rfl rfl)
abbrev cX0_batch : ByteArray := method_16_code
def yX0_batch : MethodName := ⟨RX0, "batch", "(LAlertIndex;I[J)I"⟩
def dkwX0_batch_0 : List UInt8 := [44, 3, 42, 27, 182, 0, 60, 133, 80, 167, 0, 6, 78, 4, 172, 3, 172]
abbrev dktX0_batch_0 : List UInt8 := dkwX0_batch_0 ++ []
theorem dksX0_batch_0 : cX0_batch.data.toList.drop 0 = dktX0_batch_0 := by decide +kernel
theorem dX0_batch_0 : decode cX0_batch 0 = .ok (.aload_n 2, 1) := dk_44 (dk_at dksX0_batch_0 0 rfl rfl)
theorem dX0_batch_1 : decode cX0_batch 1 = .ok (.iconst 0, 1) := dk_3 (dk_at dksX0_batch_0 1 rfl rfl)
theorem dX0_batch_2 : decode cX0_batch 2 = .ok (.aload_n 0, 1) := dk_42 (dk_at dksX0_batch_0 2 rfl rfl)
theorem dX0_batch_3 : decode cX0_batch 3 = .ok (.iload_n 1, 1) := dk_27 (dk_at dksX0_batch_0 3 rfl rfl)
theorem dX0_batch_4 : decode cX0_batch 4 = .ok (.invokevirtual 60, 3) := dk_182 0 60 (dk_at dksX0_batch_0 4 rfl rfl)
theorem dX0_batch_7 : decode cX0_batch 7 = .ok (.i2l, 1) := dk_133 (dk_at dksX0_batch_0 7 rfl rfl)
theorem dX0_batch_8 : decode cX0_batch 8 = .ok (.lastore, 1) := dk_80 (dk_at dksX0_batch_0 8 rfl rfl)
theorem dX0_batch_9 : decode cX0_batch 9 = .ok (.goto 6, 3) := dk_167 0 6 (dk_at dksX0_batch_0 9 rfl rfl)
theorem dX0_batch_12 : decode cX0_batch 12 = .ok (.astore_n 3, 1) := dk_78 (dk_at dksX0_batch_0 12 rfl rfl)
theorem dX0_batch_13 : decode cX0_batch 13 = .ok (.iconst 1, 1) := dk_4 (dk_at dksX0_batch_0 13 rfl rfl)
theorem dX0_batch_14 : decode cX0_batch 14 = .ok (.ireturn, 1) := dk_172 (dk_at dksX0_batch_0 14 rfl rfl)
theorem dX0_batch_15 : decode cX0_batch 15 = .ok (.iconst 0, 1) := dk_3 (dk_at dksX0_batch_0 15 rfl rfl)
theorem dX0_batch_16 : decode cX0_batch 16 = .ok (.ireturn, 1) := dk_172 (dk_at dksX0_batch_0 16 rfl rfl)
theorem q15 : (Jvm.Cond.initialized "AlertIndexLaw") ∈ lw_all := lw_g (lw_at lw_m1 0 rfl) rfl
theorem q55 : (Jvm.Cond.classLink "AlertIndexLaw" (8 : Nat) "AlertIndex") ∈ lw_all := lw_g (lw_at lw_m1 40 rfl) rfl
theorem q57 : (Jvm.Cond.methodLink "AlertIndexLaw" (63 : Nat) ({ cls := "AlertIndex", name := "<init>", desc := "()V" } : Jvm.MethodName)) ∈ lw_all := lw_g (lw_at lw_m1 42 rfl) rfl
theorem q138 : (Jvm.Cond.methodLink "AlertIndexLaw" (94 : Nat) ({ cls := "AlertIndex", name := "come", desc := "()I" } : Jvm.MethodName)) ∈ lw_all := lw_g (lw_at lw_m1 123 rfl) rfl
theorem q243 : (Jvm.Cond.methodLink "AlertIndexLaw" (104 : Nat) ({ cls := "AlertIndex", name := "matching", desc := "()I" } : Jvm.MethodName)) ∈ lw_all := lw_g (lw_at lw_m1 228 rfl) rfl
theorem q247 : (Jvm.Cond.methodLink "AlertIndexLaw" (108 : Nat) ({ cls := "AlertIndex", name := "matchingByIndex", desc := "()I" } : Jvm.MethodName)) ∈ lw_all := lw_g (lw_at lw_m1 232 rfl) rfl
theorem q958 : (Jvm.Cond.methodLink "AlertIndexLaw" (115 : Nat) ({ cls := "AlertIndex", name := "withSize", desc := "(I)I" } : Jvm.MethodName)) ∈ lw_all := lw_g (lw_at lw_m4 223 rfl) rfl
theorem q977 : (Jvm.Cond.methodLink "AlertIndexLaw" (126 : Nat) ({ cls := "AlertIndex", name := "minute", desc := "()I" } : Jvm.MethodName)) ∈ lw_all := lw_g (lw_at lw_m5 2 rfl) rfl
theorem q981 : (Jvm.Cond.methodLink "AlertIndexLaw" (67 : Nat) ({ cls := "AlertIndexLaw", name := "question", desc := "(LAlertIndex;[J)I" } : Jvm.MethodName)) ∈ lw_all := lw_g (lw_at lw_m5 6 rfl) rfl
theorem q982 : (Jvm.Cond.static ({ cls := "AlertIndexLaw", name := "question", desc := "(LAlertIndex;[J)I" } : Jvm.MethodName)) ∈ lw_all := lw_g (lw_at lw_m5 7 rfl) rfl
theorem q983 : (Jvm.Cond.codeWith ({ cls := "AlertIndexLaw", name := "question", desc := "(LAlertIndex;[J)I" } : Jvm.MethodName) method_3_code (3 : Nat) (Option.some Jvm.ClassFile.FieldType.int) [((0 : Nat), (8 : Nat), (11 : Nat), (13 : Nat))]) ∈ lw_all := lw_g (lw_at lw_m5 8 rfl) rfl
theorem q984 : (Jvm.Cond.classLink "AlertIndexLaw" (13 : Nat) "java/lang/IllegalStateException") ∈ lw_all := lw_g (lw_at lw_m5 9 rfl) rfl
theorem q985 : (Jvm.Cond.methodLink "AlertIndexLaw" (7 : Nat) ({ cls := "AlertIndex", name := "question", desc := "()I" } : Jvm.MethodName)) ∈ lw_all := lw_g (lw_at lw_m5 10 rfl) rfl
theorem q1078 : (Jvm.Cond.methodLink "AlertIndexLaw" (76 : Nat) ({ cls := "AlertIndexLaw", name := "product", desc := "(LAlertIndex;I[J)I" } : Jvm.MethodName)) ∈ lw_all := lw_g (lw_at lw_m5 103 rfl) rfl
theorem q1079 : (Jvm.Cond.static ({ cls := "AlertIndexLaw", name := "product", desc := "(LAlertIndex;I[J)I" } : Jvm.MethodName)) ∈ lw_all := lw_g (lw_at lw_m5 104 rfl) rfl
theorem q1080 : (Jvm.Cond.codeWith ({ cls := "AlertIndexLaw", name := "product", desc := "(LAlertIndex;I[J)I" } : Jvm.MethodName) method_4_code (4 : Nat) (Option.some Jvm.ClassFile.FieldType.int) [((0 : Nat), (9 : Nat), (12 : Nat), (19 : Nat)), ((0 : Nat), (9 : Nat), (15 : Nat), (13 : Nat))]) ∈ lw_all := lw_g (lw_at lw_m5 105 rfl) rfl
theorem q1081 : (Jvm.Cond.classLink "AlertIndexLaw" (19 : Nat) "java/lang/IndexOutOfBoundsException") ∈ lw_all := lw_g (lw_at lw_m5 106 rfl) rfl
theorem q1100 : (Jvm.Cond.methodLink "AlertIndexLaw" (15 : Nat) ({ cls := "AlertIndex", name := "product", desc := "(I)I" } : Jvm.MethodName)) ∈ lw_all := lw_g (lw_at lw_m5 125 rfl) rfl
theorem q1145 : (Jvm.Cond.methodLink "AlertIndexLaw" (80 : Nat) ({ cls := "AlertIndexLaw", name := "test", desc := "(LAlertIndex;IIIIZ[J)I" } : Jvm.MethodName)) ∈ lw_all := lw_g (lw_at lw_m5 170 rfl) rfl
theorem q1146 : (Jvm.Cond.static ({ cls := "AlertIndexLaw", name := "test", desc := "(LAlertIndex;IIIIZ[J)I" } : Jvm.MethodName)) ∈ lw_all := lw_g (lw_at lw_m5 171 rfl) rfl
theorem q1147 : (Jvm.Cond.codeWith ({ cls := "AlertIndexLaw", name := "test", desc := "(LAlertIndex;IIIIZ[J)I" } : Jvm.MethodName) method_5_code (8 : Nat) (Option.some Jvm.ClassFile.FieldType.int) [((0 : Nat), (16 : Nat), (19 : Nat), (19 : Nat)), ((0 : Nat), (16 : Nat), (23 : Nat), (25 : Nat)), ((0 : Nat), (16 : Nat), (27 : Nat), (13 : Nat))]) ∈ lw_all := lw_g (lw_at lw_m5 172 rfl) rfl
theorem q1148 : (Jvm.Cond.classLink "AlertIndexLaw" (25 : Nat) "java/lang/IllegalArgumentException") ∈ lw_all := lw_g (lw_at lw_m5 173 rfl) rfl
theorem q1149 : (Jvm.Cond.methodLink "AlertIndexLaw" (21 : Nat) ({ cls := "AlertIndex", name := "test", desc := "(IIIIZ)I" } : Jvm.MethodName)) ∈ lw_all := lw_g (lw_at lw_m5 174 rfl) rfl
theorem q1369 : (Jvm.Cond.methodLink "AlertIndexLaw" (84 : Nat) ({ cls := "AlertIndexLaw", name := "drop", desc := "(LAlertIndex;I[J)I" } : Jvm.MethodName)) ∈ lw_all := lw_g (lw_at lw_m6 154 rfl) rfl
theorem q1370 : (Jvm.Cond.static ({ cls := "AlertIndexLaw", name := "drop", desc := "(LAlertIndex;I[J)I" } : Jvm.MethodName)) ∈ lw_all := lw_g (lw_at lw_m6 155 rfl) rfl
theorem q1371 : (Jvm.Cond.codeWith ({ cls := "AlertIndexLaw", name := "drop", desc := "(LAlertIndex;I[J)I" } : Jvm.MethodName) method_6_code (4 : Nat) (Option.some Jvm.ClassFile.FieldType.int) [((0 : Nat), (9 : Nat), (12 : Nat), (19 : Nat))]) ∈ lw_all := lw_g (lw_at lw_m6 156 rfl) rfl
theorem q1372 : (Jvm.Cond.methodLink "AlertIndexLaw" (27 : Nat) ({ cls := "AlertIndex", name := "drop", desc := "(I)I" } : Jvm.MethodName)) ∈ lw_all := lw_g (lw_at lw_m6 157 rfl) rfl
theorem q1376 : (Jvm.Cond.methodLink "AlertIndexLaw" (87 : Nat) ({ cls := "AlertIndexLaw", name := "setQuiet", desc := "(LAlertIndex;II[J)I" } : Jvm.MethodName)) ∈ lw_all := lw_g (lw_at lw_m6 161 rfl) rfl
theorem q1377 : (Jvm.Cond.static ({ cls := "AlertIndexLaw", name := "setQuiet", desc := "(LAlertIndex;II[J)I" } : Jvm.MethodName)) ∈ lw_all := lw_g (lw_at lw_m6 162 rfl) rfl
theorem q1378 : (Jvm.Cond.codeWith ({ cls := "AlertIndexLaw", name := "setQuiet", desc := "(LAlertIndex;II[J)I" } : Jvm.MethodName) method_7_code (5 : Nat) (Option.some Jvm.ClassFile.FieldType.int) [((0 : Nat), (10 : Nat), (13 : Nat), (19 : Nat)), ((0 : Nat), (10 : Nat), (17 : Nat), (25 : Nat))]) ∈ lw_all := lw_g (lw_at lw_m6 163 rfl) rfl
theorem q1379 : (Jvm.Cond.methodLink "AlertIndexLaw" (30 : Nat) ({ cls := "AlertIndex", name := "setQuiet", desc := "(II)I" } : Jvm.MethodName)) ∈ lw_all := lw_g (lw_at lw_m6 164 rfl) rfl
theorem q1383 : (Jvm.Cond.methodLink "AlertIndexLaw" (91 : Nat) ({ cls := "AlertIndexLaw", name := "set", desc := "(LAlertIndex;II[J)I" } : Jvm.MethodName)) ∈ lw_all := lw_g (lw_at lw_m6 168 rfl) rfl
theorem q1384 : (Jvm.Cond.static ({ cls := "AlertIndexLaw", name := "set", desc := "(LAlertIndex;II[J)I" } : Jvm.MethodName)) ∈ lw_all := lw_g (lw_at lw_m6 169 rfl) rfl
theorem q1385 : (Jvm.Cond.codeWith ({ cls := "AlertIndexLaw", name := "set", desc := "(LAlertIndex;II[J)I" } : Jvm.MethodName) method_8_code (5 : Nat) (Option.some Jvm.ClassFile.FieldType.int) [((0 : Nat), (10 : Nat), (13 : Nat), (19 : Nat)), ((0 : Nat), (10 : Nat), (17 : Nat), (25 : Nat))]) ∈ lw_all := lw_g (lw_at lw_m6 170 rfl) rfl
theorem q1386 : (Jvm.Cond.methodLink "AlertIndexLaw" (34 : Nat) ({ cls := "AlertIndex", name := "set", desc := "(II)I" } : Jvm.MethodName)) ∈ lw_all := lw_g (lw_at lw_m6 171 rfl) rfl
theorem q1390 : (Jvm.Cond.methodLink "AlertIndexLaw" (98 : Nat) ({ cls := "AlertIndexLaw", name := "advance", desc := "(LAlertIndex;I[J)I" } : Jvm.MethodName)) ∈ lw_all := lw_g (lw_at lw_m6 175 rfl) rfl
theorem q1391 : (Jvm.Cond.static ({ cls := "AlertIndexLaw", name := "advance", desc := "(LAlertIndex;I[J)I" } : Jvm.MethodName)) ∈ lw_all := lw_g (lw_at lw_m6 176 rfl) rfl
theorem q1392 : (Jvm.Cond.codeWith ({ cls := "AlertIndexLaw", name := "advance", desc := "(LAlertIndex;I[J)I" } : Jvm.MethodName) method_9_code (4 : Nat) (Option.some Jvm.ClassFile.FieldType.int) [((0 : Nat), (9 : Nat), (12 : Nat), (25 : Nat)), ((0 : Nat), (9 : Nat), (15 : Nat), (13 : Nat))]) ∈ lw_all := lw_g (lw_at lw_m6 177 rfl) rfl
theorem q1393 : (Jvm.Cond.methodLink "AlertIndexLaw" (37 : Nat) ({ cls := "AlertIndex", name := "advance", desc := "(I)I" } : Jvm.MethodName)) ∈ lw_all := lw_g (lw_at lw_m6 178 rfl) rfl
theorem q1398 : (Jvm.Cond.methodLink "AlertIndexLaw" (101 : Nat) ({ cls := "AlertIndexLaw", name := "satisfies", desc := "(LAlertIndex;I[J)I" } : Jvm.MethodName)) ∈ lw_all := lw_g (lw_at lw_m6 183 rfl) rfl
theorem q1399 : (Jvm.Cond.static ({ cls := "AlertIndexLaw", name := "satisfies", desc := "(LAlertIndex;I[J)I" } : Jvm.MethodName)) ∈ lw_all := lw_g (lw_at lw_m6 184 rfl) rfl
theorem q1400 : (Jvm.Cond.codeWith ({ cls := "AlertIndexLaw", name := "satisfies", desc := "(LAlertIndex;I[J)I" } : Jvm.MethodName) method_10_code (4 : Nat) (Option.some Jvm.ClassFile.FieldType.int) [((0 : Nat), (16 : Nat), (19 : Nat), (19 : Nat))]) ∈ lw_all := lw_g (lw_at lw_m6 185 rfl) rfl
theorem q1401 : (Jvm.Cond.methodLink "AlertIndexLaw" (40 : Nat) ({ cls := "AlertIndex", name := "satisfies", desc := "(I)Z" } : Jvm.MethodName)) ∈ lw_all := lw_g (lw_at lw_m6 186 rfl) rfl
theorem q1405 : (Jvm.Cond.methodLink "AlertIndexLaw" (112 : Nat) ({ cls := "AlertIndexLaw", name := "sizeOf", desc := "(LAlertIndex;I[J)I" } : Jvm.MethodName)) ∈ lw_all := lw_g (lw_at lw_m6 190 rfl) rfl
theorem q1406 : (Jvm.Cond.static ({ cls := "AlertIndexLaw", name := "sizeOf", desc := "(LAlertIndex;I[J)I" } : Jvm.MethodName)) ∈ lw_all := lw_g (lw_at lw_m6 191 rfl) rfl
theorem q1407 : (Jvm.Cond.codeWith ({ cls := "AlertIndexLaw", name := "sizeOf", desc := "(LAlertIndex;I[J)I" } : Jvm.MethodName) method_11_code (4 : Nat) (Option.some Jvm.ClassFile.FieldType.int) [((0 : Nat), (9 : Nat), (12 : Nat), (19 : Nat))]) ∈ lw_all := lw_g (lw_at lw_m6 192 rfl) rfl
theorem q1408 : (Jvm.Cond.methodLink "AlertIndexLaw" (44 : Nat) ({ cls := "AlertIndex", name := "sizeOf", desc := "(I)I" } : Jvm.MethodName)) ∈ lw_all := lw_g (lw_at lw_m6 193 rfl) rfl
theorem q1412 : (Jvm.Cond.methodLink "AlertIndexLaw" (119 : Nat) ({ cls := "AlertIndexLaw", name := "pieces", desc := "(LAlertIndex;II[J)I" } : Jvm.MethodName)) ∈ lw_all := lw_g (lw_at lw_m6 197 rfl) rfl
theorem q1413 : (Jvm.Cond.static ({ cls := "AlertIndexLaw", name := "pieces", desc := "(LAlertIndex;II[J)I" } : Jvm.MethodName)) ∈ lw_all := lw_g (lw_at lw_m6 198 rfl) rfl
theorem q1414 : (Jvm.Cond.codeWith ({ cls := "AlertIndexLaw", name := "pieces", desc := "(LAlertIndex;II[J)I" } : Jvm.MethodName) method_12_code (5 : Nat) (Option.some Jvm.ClassFile.FieldType.int) [((0 : Nat), (10 : Nat), (13 : Nat), (25 : Nat))]) ∈ lw_all := lw_g (lw_at lw_m6 199 rfl) rfl
theorem q1415 : (Jvm.Cond.methodLink "AlertIndexLaw" (47 : Nat) ({ cls := "AlertIndex", name := "pieces", desc := "(II)I" } : Jvm.MethodName)) ∈ lw_all := lw_g (lw_at lw_m6 200 rfl) rfl
theorem q1419 : (Jvm.Cond.methodLink "AlertIndexLaw" (122 : Nat) ({ cls := "AlertIndexLaw", name := "pieceAt", desc := "(LAlertIndex;III[J)I" } : Jvm.MethodName)) ∈ lw_all := lw_g (lw_at lw_m6 204 rfl) rfl
theorem q1420 : (Jvm.Cond.static ({ cls := "AlertIndexLaw", name := "pieceAt", desc := "(LAlertIndex;III[J)I" } : Jvm.MethodName)) ∈ lw_all := lw_g (lw_at lw_m6 205 rfl) rfl
theorem q1421 : (Jvm.Cond.codeWith ({ cls := "AlertIndexLaw", name := "pieceAt", desc := "(LAlertIndex;III[J)I" } : Jvm.MethodName) method_13_code (6 : Nat) (Option.some Jvm.ClassFile.FieldType.int) [((0 : Nat), (12 : Nat), (15 : Nat), (19 : Nat)), ((0 : Nat), (12 : Nat), (19 : Nat), (25 : Nat))]) ∈ lw_all := lw_g (lw_at lw_m6 206 rfl) rfl
theorem q1422 : (Jvm.Cond.methodLink "AlertIndexLaw" (50 : Nat) ({ cls := "AlertIndex", name := "pieceAt", desc := "(III)I" } : Jvm.MethodName)) ∈ lw_all := lw_g (lw_at lw_m6 207 rfl) rfl
theorem q1426 : (Jvm.Cond.methodLink "AlertIndexLaw" (130 : Nat) ({ cls := "AlertIndexLaw", name := "isQuiet", desc := "(LAlertIndex;I[J)I" } : Jvm.MethodName)) ∈ lw_all := lw_g (lw_at lw_m6 211 rfl) rfl
theorem q1427 : (Jvm.Cond.static ({ cls := "AlertIndexLaw", name := "isQuiet", desc := "(LAlertIndex;I[J)I" } : Jvm.MethodName)) ∈ lw_all := lw_g (lw_at lw_m6 212 rfl) rfl
theorem q1428 : (Jvm.Cond.codeWith ({ cls := "AlertIndexLaw", name := "isQuiet", desc := "(LAlertIndex;I[J)I" } : Jvm.MethodName) method_14_code (4 : Nat) (Option.some Jvm.ClassFile.FieldType.int) [((0 : Nat), (16 : Nat), (19 : Nat), (19 : Nat))]) ∈ lw_all := lw_g (lw_at lw_m6 213 rfl) rfl
theorem q1429 : (Jvm.Cond.methodLink "AlertIndexLaw" (54 : Nat) ({ cls := "AlertIndex", name := "isQuiet", desc := "(I)Z" } : Jvm.MethodName)) ∈ lw_all := lw_g (lw_at lw_m6 214 rfl) rfl
theorem q1433 : (Jvm.Cond.methodLink "AlertIndexLaw" (133 : Nat) ({ cls := "AlertIndexLaw", name := "alerts", desc := "(LAlertIndex;I[J)I" } : Jvm.MethodName)) ∈ lw_all := lw_g (lw_at lw_m6 218 rfl) rfl
theorem q1434 : (Jvm.Cond.static ({ cls := "AlertIndexLaw", name := "alerts", desc := "(LAlertIndex;I[J)I" } : Jvm.MethodName)) ∈ lw_all := lw_g (lw_at lw_m6 219 rfl) rfl
theorem q1435 : (Jvm.Cond.codeWith ({ cls := "AlertIndexLaw", name := "alerts", desc := "(LAlertIndex;I[J)I" } : Jvm.MethodName) method_15_code (4 : Nat) (Option.some Jvm.ClassFile.FieldType.int) [((0 : Nat), (9 : Nat), (12 : Nat), (19 : Nat))]) ∈ lw_all := lw_g (lw_at lw_m6 220 rfl) rfl
theorem q1436 : (Jvm.Cond.methodLink "AlertIndexLaw" (57 : Nat) ({ cls := "AlertIndex", name := "alerts", desc := "(I)I" } : Jvm.MethodName)) ∈ lw_all := lw_g (lw_at lw_m6 221 rfl) rfl
theorem q1440 : (Jvm.Cond.methodLink "AlertIndexLaw" (136 : Nat) ({ cls := "AlertIndexLaw", name := "batch", desc := "(LAlertIndex;I[J)I" } : Jvm.MethodName)) ∈ lw_all := lw_g (lw_at lw_m6 225 rfl) rfl
theorem q1441 : (Jvm.Cond.static ({ cls := "AlertIndexLaw", name := "batch", desc := "(LAlertIndex;I[J)I" } : Jvm.MethodName)) ∈ lw_all := lw_g (lw_at lw_m6 226 rfl) rfl
theorem q1442 : (Jvm.Cond.codeWith ({ cls := "AlertIndexLaw", name := "batch", desc := "(LAlertIndex;I[J)I" } : Jvm.MethodName) method_16_code (4 : Nat) (Option.some Jvm.ClassFile.FieldType.int) [((0 : Nat), (9 : Nat), (12 : Nat), (19 : Nat))]) ∈ lw_all := lw_g (lw_at lw_m6 227 rfl) rfl
theorem q1443 : (Jvm.Cond.methodLink "AlertIndexLaw" (60 : Nat) ({ cls := "AlertIndex", name := "batch", desc := "(I)I" } : Jvm.MethodName)) ∈ lw_all := lw_g (lw_at lw_m6 228 rfl) rfl
theorem q1447 : (Jvm.Cond.classLink "AlertIndexLaw" (64 : Nat) "AlertIndexModel") ∈ lw_all := lw_g (lw_at lw_m6 232 rfl) rfl
theorem q1449 : (Jvm.Cond.methodLink "AlertIndexLaw" (66 : Nat) ({ cls := "AlertIndexModel", name := "<init>", desc := "()V" } : Jvm.MethodName)) ∈ lw_all := lw_g (lw_at lw_m6 234 rfl) rfl
theorem q1500 : (Jvm.Cond.methodLink "AlertIndexLaw" (73 : Nat) ({ cls := "AlertIndexModel", name := "thrown", desc := "()I" } : Jvm.MethodName)) ∈ lw_all := lw_g (lw_at lw_m7 45 rfl) rfl
theorem q1504 : (Jvm.Cond.methodLink "AlertIndexLaw" (72 : Nat) ({ cls := "AlertIndexModel", name := "question", desc := "()I" } : Jvm.MethodName)) ∈ lw_all := lw_g (lw_at lw_m7 49 rfl) rfl
theorem q1512 : (Jvm.Cond.methodLink "AlertIndexLaw" (79 : Nat) ({ cls := "AlertIndexModel", name := "product", desc := "(I)I" } : Jvm.MethodName)) ∈ lw_all := lw_g (lw_at lw_m7 57 rfl) rfl
theorem q1523 : (Jvm.Cond.methodLink "AlertIndexLaw" (83 : Nat) ({ cls := "AlertIndexModel", name := "test", desc := "(IIIIZ)I" } : Jvm.MethodName)) ∈ lw_all := lw_g (lw_at lw_m7 68 rfl) rfl
theorem q1533 : (Jvm.Cond.methodLink "AlertIndexLaw" (86 : Nat) ({ cls := "AlertIndexModel", name := "drop", desc := "(I)I" } : Jvm.MethodName)) ∈ lw_all := lw_g (lw_at lw_m7 78 rfl) rfl
theorem q1537 : (Jvm.Cond.methodLink "AlertIndexLaw" (90 : Nat) ({ cls := "AlertIndexModel", name := "setQuiet", desc := "(II)I" } : Jvm.MethodName)) ∈ lw_all := lw_g (lw_at lw_m7 82 rfl) rfl
theorem q1541 : (Jvm.Cond.methodLink "AlertIndexLaw" (93 : Nat) ({ cls := "AlertIndexModel", name := "set", desc := "(II)I" } : Jvm.MethodName)) ∈ lw_all := lw_g (lw_at lw_m7 86 rfl) rfl
theorem q1545 : (Jvm.Cond.methodLink "AlertIndexLaw" (97 : Nat) ({ cls := "AlertIndexModel", name := "come", desc := "()I" } : Jvm.MethodName)) ∈ lw_all := lw_g (lw_at lw_m7 90 rfl) rfl
theorem q1565 : (Jvm.Cond.methodLink "AlertIndexLaw" (100 : Nat) ({ cls := "AlertIndexModel", name := "advance", desc := "(I)I" } : Jvm.MethodName)) ∈ lw_all := lw_g (lw_at lw_m7 110 rfl) rfl
theorem q1570 : (Jvm.Cond.methodLink "AlertIndexLaw" (103 : Nat) ({ cls := "AlertIndexModel", name := "satisfies", desc := "(I)Z" } : Jvm.MethodName)) ∈ lw_all := lw_g (lw_at lw_m7 115 rfl) rfl
theorem q1574 : (Jvm.Cond.methodLink "AlertIndexLaw" (107 : Nat) ({ cls := "AlertIndexModel", name := "matching", desc := "()I" } : Jvm.MethodName)) ∈ lw_all := lw_g (lw_at lw_m7 119 rfl) rfl
theorem q1582 : (Jvm.Cond.methodLink "AlertIndexLaw" (111 : Nat) ({ cls := "AlertIndexModel", name := "matchingByIndex", desc := "()I" } : Jvm.MethodName)) ∈ lw_all := lw_g (lw_at lw_m7 127 rfl) rfl
theorem q1586 : (Jvm.Cond.methodLink "AlertIndexLaw" (114 : Nat) ({ cls := "AlertIndexModel", name := "sizeOf", desc := "(I)I" } : Jvm.MethodName)) ∈ lw_all := lw_g (lw_at lw_m7 131 rfl) rfl
theorem q1594 : (Jvm.Cond.methodLink "AlertIndexLaw" (118 : Nat) ({ cls := "AlertIndexModel", name := "withSize", desc := "(I)I" } : Jvm.MethodName)) ∈ lw_all := lw_g (lw_at lw_m7 139 rfl) rfl
theorem q1598 : (Jvm.Cond.methodLink "AlertIndexLaw" (121 : Nat) ({ cls := "AlertIndexModel", name := "pieces", desc := "(II)I" } : Jvm.MethodName)) ∈ lw_all := lw_g (lw_at lw_m7 143 rfl) rfl
theorem q1605 : (Jvm.Cond.methodLink "AlertIndexLaw" (125 : Nat) ({ cls := "AlertIndexModel", name := "pieceAt", desc := "(III)I" } : Jvm.MethodName)) ∈ lw_all := lw_g (lw_at lw_m7 150 rfl) rfl
theorem q1609 : (Jvm.Cond.methodLink "AlertIndexLaw" (129 : Nat) ({ cls := "AlertIndexModel", name := "minute", desc := "()I" } : Jvm.MethodName)) ∈ lw_all := lw_g (lw_at lw_m7 154 rfl) rfl
theorem q1613 : (Jvm.Cond.methodLink "AlertIndexLaw" (132 : Nat) ({ cls := "AlertIndexModel", name := "isQuiet", desc := "(I)Z" } : Jvm.MethodName)) ∈ lw_all := lw_g (lw_at lw_m7 158 rfl) rfl
theorem q1617 : (Jvm.Cond.methodLink "AlertIndexLaw" (135 : Nat) ({ cls := "AlertIndexModel", name := "alerts", desc := "(I)I" } : Jvm.MethodName)) ∈ lw_all := lw_g (lw_at lw_m7 162 rfl) rfl
theorem q1621 : (Jvm.Cond.methodLink "AlertIndexLaw" (138 : Nat) ({ cls := "AlertIndexModel", name := "batch", desc := "(I)I" } : Jvm.MethodName)) ∈ lw_all := lw_g (lw_at lw_m7 166 rfl) rfl
/-! AlertIndex -/
set_option maxRecDepth 100000
def RX1 : String := "AlertIndex"
def TX1 : u_T := fun k => match k with
  | 0 => ("AlertIndex", "questions", "Ljava/util/List;", true)
  | 1 => ("AlertIndex", "draft", "[I", true)
  | 2 => ("AlertIndex", "index", "Ljava/util/Map;", true)
  | 3 => ("AlertIndex", "indexed", "Ljava/util/List;", true)
  | _ => ("AlertIndex", "minute", "I", false)
def tyX1 : Nat → FieldType := fun k => match k with
  | 0 => .object "java/util/List"
  | 1 => .array .int
  | 2 => .object "java/util/Map"
  | 3 => .object "java/util/List"
  | _ => .int
abbrev wsX10 : List Cond := u_ws RX1 TX1 5
theorem nmX1 : ∀ a, a < 5 → ∀ b, b < 5 → a ≠ b → (TX1 a).2.1 ≠ (TX1 b).2.1 := by decide +kernel
theorem tyX1_ok : ∀ k, k < 5 → parseFieldDescriptor (TX1 k).2.2.1 = some (tyX1 k) := by decide +kernel
abbrev cX1_init : ByteArray := prog_1_method_1_code
def yX1_init : MethodName := ⟨RX1, "<init>", "()V"⟩
def dkwX1_init_2 : List UInt8 := [16, 6, 162, 0, 16, 42, 180, 0, 16, 27, 2, 79, 132, 1, 1, 167, 255, 240, 177]
abbrev dktX1_init_2 : List UInt8 := dkwX1_init_2 ++ []
def dkwX1_init_1 : List UInt8 := [187, 0, 20, 89, 183, 0, 22, 181, 0, 23, 42, 187, 0, 7, 89, 183, 0, 9, 181, 0, 27, 3, 60, 27]
abbrev dktX1_init_1 : List UInt8 := dkwX1_init_1 ++ dktX1_init_2
def dkwX1_init_0 : List UInt8 := [42, 183, 0, 1, 42, 187, 0, 7, 89, 183, 0, 9, 181, 0, 10, 42, 16, 6, 188, 10, 181, 0, 16, 42]
abbrev dktX1_init_0 : List UInt8 := dkwX1_init_0 ++ dktX1_init_1
theorem dksX1_init_0 : cX1_init.data.toList.drop 0 = dktX1_init_0 := by decide +kernel
theorem dksX1_init_1 : cX1_init.data.toList.drop 24 = dktX1_init_1 := dk_seg dksX1_init_0 24 rfl rfl
theorem dksX1_init_2 : cX1_init.data.toList.drop 48 = dktX1_init_2 := dk_seg dksX1_init_1 24 rfl rfl
theorem dX1_init_0 : decode cX1_init 0 = .ok (.aload_n 0, 1) := dk_42 (dk_at dksX1_init_0 0 rfl rfl)
theorem dX1_init_1 : decode cX1_init 1 = .ok (.invokespecial 1, 3) := dk_183 0 1 (dk_at dksX1_init_0 1 rfl rfl)
theorem dX1_init_4 : decode cX1_init 4 = .ok (.aload_n 0, 1) := dk_42 (dk_at dksX1_init_0 4 rfl rfl)
theorem dX1_init_5 : decode cX1_init 5 = .ok (.new 7, 3) := dk_187 0 7 (dk_at dksX1_init_0 5 rfl rfl)
theorem dX1_init_8 : decode cX1_init 8 = .ok (.dup, 1) := dk_89 (dk_at dksX1_init_0 8 rfl rfl)
theorem dX1_init_9 : decode cX1_init 9 = .ok (.invokespecial 9, 3) := dk_183 0 9 (dk_at dksX1_init_0 9 rfl rfl)
theorem dX1_init_12 : decode cX1_init 12 = .ok (.putfield 10, 3) := dk_181 0 10 (dk_at dksX1_init_0 12 rfl rfl)
theorem dX1_init_15 : decode cX1_init 15 = .ok (.aload_n 0, 1) := dk_42 (dk_at dksX1_init_0 15 rfl rfl)
theorem dX1_init_16 : decode cX1_init 16 = .ok (.bipush 6, 2) := dk_16 6 (dk_at dksX1_init_0 16 rfl rfl)
theorem dX1_init_18 : decode cX1_init 18 = .ok (.newarray .int, 2) := dk_188_10 (dk_at dksX1_init_0 18 rfl rfl)
theorem dX1_init_20 : decode cX1_init 20 = .ok (.putfield 16, 3) := dk_181 0 16 (dk_at dksX1_init_0 20 rfl rfl)
theorem dX1_init_23 : decode cX1_init 23 = .ok (.aload_n 0, 1) := dk_42 (dk_at dksX1_init_0 23 rfl rfl)
theorem dX1_init_24 : decode cX1_init 24 = .ok (.new 20, 3) := dk_187 0 20 (dk_at dksX1_init_1 0 rfl rfl)
theorem dX1_init_27 : decode cX1_init 27 = .ok (.dup, 1) := dk_89 (dk_at dksX1_init_1 3 rfl rfl)
theorem dX1_init_28 : decode cX1_init 28 = .ok (.invokespecial 22, 3) := dk_183 0 22 (dk_at dksX1_init_1 4 rfl rfl)
theorem dX1_init_31 : decode cX1_init 31 = .ok (.putfield 23, 3) := dk_181 0 23 (dk_at dksX1_init_1 7 rfl rfl)
theorem dX1_init_34 : decode cX1_init 34 = .ok (.aload_n 0, 1) := dk_42 (dk_at dksX1_init_1 10 rfl rfl)
theorem dX1_init_35 : decode cX1_init 35 = .ok (.new 7, 3) := dk_187 0 7 (dk_at dksX1_init_1 11 rfl rfl)
theorem dX1_init_38 : decode cX1_init 38 = .ok (.dup, 1) := dk_89 (dk_at dksX1_init_1 14 rfl rfl)
theorem dX1_init_39 : decode cX1_init 39 = .ok (.invokespecial 9, 3) := dk_183 0 9 (dk_at dksX1_init_1 15 rfl rfl)
theorem dX1_init_42 : decode cX1_init 42 = .ok (.putfield 27, 3) := dk_181 0 27 (dk_at dksX1_init_1 18 rfl rfl)
theorem dX1_init_45 : decode cX1_init 45 = .ok (.iconst 0, 1) := dk_3 (dk_at dksX1_init_1 21 rfl rfl)
theorem dX1_init_46 : decode cX1_init 46 = .ok (.istore_n 1, 1) := dk_60 (dk_at dksX1_init_1 22 rfl rfl)
theorem dX1_init_47 : decode cX1_init 47 = .ok (.iload_n 1, 1) := dk_27 (dk_at dksX1_init_1 23 rfl rfl)
theorem dX1_init_48 : decode cX1_init 48 = .ok (.bipush 6, 2) := dk_16 6 (dk_at dksX1_init_2 0 rfl rfl)
theorem dX1_init_50 : decode cX1_init 50 = .ok (.if_icmp .ge 16, 3) := dk_162 0 16 (dk_at dksX1_init_2 2 rfl rfl)
theorem dX1_init_53 : decode cX1_init 53 = .ok (.aload_n 0, 1) := dk_42 (dk_at dksX1_init_2 5 rfl rfl)
theorem dX1_init_54 : decode cX1_init 54 = .ok (.getfield 16, 3) := dk_180 0 16 (dk_at dksX1_init_2 6 rfl rfl)
theorem dX1_init_57 : decode cX1_init 57 = .ok (.iload_n 1, 1) := dk_27 (dk_at dksX1_init_2 9 rfl rfl)
theorem dX1_init_58 : decode cX1_init 58 = .ok (.iconst (-1), 1) := dk_2 (dk_at dksX1_init_2 10 rfl rfl)
theorem dX1_init_59 : decode cX1_init 59 = .ok (.iastore, 1) := dk_79 (dk_at dksX1_init_2 11 rfl rfl)
theorem dX1_init_60 : decode cX1_init 60 = .ok (.iinc 1 1, 3) := dk_132 1 1 (dk_at dksX1_init_2 12 rfl rfl)
theorem dX1_init_63 : decode cX1_init 63 = .ok (.goto (-16), 3) := dk_167 255 240 (dk_at dksX1_init_2 15 rfl rfl)
theorem dX1_init_66 : decode cX1_init 66 = .ok (.return_, 1) := dk_177 (dk_at dksX1_init_2 18 rfl rfl)
abbrev cX1_come : ByteArray := prog_1_method_13_code
def yX1_come : MethodName := ⟨RX1, "come", "()I"⟩
def dkwX1_come_4 : List UInt8 := [172]
abbrev dktX1_come_4 : List UInt8 := dkwX1_come_4 ++ []
def dkwX1_come_3 : List UInt8 := [167, 0, 17, 45, 42, 180, 0, 117, 182, 0, 123, 27, 4, 28, 120, 128, 60, 132, 2, 1, 167, 255, 170, 27]
abbrev dktX1_come_3 : List UInt8 := dkwX1_come_3 ++ dktX1_come_4
def dkwX1_come_2 : List UInt8 := [153, 0, 41, 42, 180, 0, 117, 45, 180, 0, 120, 162, 0, 16, 45, 89, 180, 0, 106, 4, 96, 181, 0, 106]
abbrev dktX1_come_2 : List UInt8 := dkwX1_come_2 ++ dktX1_come_3
def dkwX1_come_1 : List UInt8 := [185, 0, 49, 2, 0, 192, 0, 53, 78, 45, 180, 0, 55, 154, 0, 52, 45, 42, 180, 0, 16, 182, 0, 113]
abbrev dktX1_come_1 : List UInt8 := dkwX1_come_1 ++ dktX1_come_2
def dkwX1_come_0 : List UInt8 := [3, 60, 3, 61, 28, 42, 180, 0, 10, 185, 0, 39, 1, 0, 162, 0, 79, 42, 180, 0, 10, 28]
abbrev dktX1_come_0 : List UInt8 := dkwX1_come_0 ++ dktX1_come_1
theorem dksX1_come_0 : cX1_come.data.toList.drop 0 = dktX1_come_0 := by decide +kernel
theorem dksX1_come_1 : cX1_come.data.toList.drop 22 = dktX1_come_1 := dk_seg dksX1_come_0 22 rfl rfl
theorem dksX1_come_2 : cX1_come.data.toList.drop 46 = dktX1_come_2 := dk_seg dksX1_come_1 24 rfl rfl
theorem dksX1_come_3 : cX1_come.data.toList.drop 70 = dktX1_come_3 := dk_seg dksX1_come_2 24 rfl rfl
theorem dksX1_come_4 : cX1_come.data.toList.drop 94 = dktX1_come_4 := dk_seg dksX1_come_3 24 rfl rfl
theorem dX1_come_0 : decode cX1_come 0 = .ok (.iconst 0, 1) := dk_3 (dk_at dksX1_come_0 0 rfl rfl)
theorem dX1_come_1 : decode cX1_come 1 = .ok (.istore_n 1, 1) := dk_60 (dk_at dksX1_come_0 1 rfl rfl)
theorem dX1_come_2 : decode cX1_come 2 = .ok (.iconst 0, 1) := dk_3 (dk_at dksX1_come_0 2 rfl rfl)
theorem dX1_come_3 : decode cX1_come 3 = .ok (.istore_n 2, 1) := dk_61 (dk_at dksX1_come_0 3 rfl rfl)
theorem dX1_come_4 : decode cX1_come 4 = .ok (.iload_n 2, 1) := dk_28 (dk_at dksX1_come_0 4 rfl rfl)
theorem dX1_come_5 : decode cX1_come 5 = .ok (.aload_n 0, 1) := dk_42 (dk_at dksX1_come_0 5 rfl rfl)
theorem dX1_come_6 : decode cX1_come 6 = .ok (.getfield 10, 3) := dk_180 0 10 (dk_at dksX1_come_0 6 rfl rfl)
theorem dX1_come_9 : decode cX1_come 9 = .ok (.invokeinterface 39 1, 5) := by decide +kernel
theorem dX1_come_14 : decode cX1_come 14 = .ok (.if_icmp .ge 79, 3) := dk_162 0 79 (dk_at dksX1_come_0 14 rfl rfl)
theorem dX1_come_17 : decode cX1_come 17 = .ok (.aload_n 0, 1) := dk_42 (dk_at dksX1_come_0 17 rfl rfl)
theorem dX1_come_18 : decode cX1_come 18 = .ok (.getfield 10, 3) := dk_180 0 10 (dk_at dksX1_come_0 18 rfl rfl)
theorem dX1_come_21 : decode cX1_come 21 = .ok (.iload_n 2, 1) := dk_28 (dk_at dksX1_come_0 21 rfl rfl)
theorem dX1_come_22 : decode cX1_come 22 = .ok (.invokeinterface 49 2, 5) := by decide +kernel
theorem dX1_come_27 : decode cX1_come 27 = .ok (.checkcast 53, 3) := dk_192 0 53 (dk_at dksX1_come_1 5 rfl rfl)
theorem dX1_come_30 : decode cX1_come 30 = .ok (.astore_n 3, 1) := dk_78 (dk_at dksX1_come_1 8 rfl rfl)
theorem dX1_come_31 : decode cX1_come 31 = .ok (.aload_n 3, 1) := dk_45 (dk_at dksX1_come_1 9 rfl rfl)
theorem dX1_come_32 : decode cX1_come 32 = .ok (.getfield 55, 3) := dk_180 0 55 (dk_at dksX1_come_1 10 rfl rfl)
theorem dX1_come_35 : decode cX1_come 35 = .ok (.ifCond .ne 52, 3) := dk_154 0 52 (dk_at dksX1_come_1 13 rfl rfl)
theorem dX1_come_38 : decode cX1_come 38 = .ok (.aload_n 3, 1) := dk_45 (dk_at dksX1_come_1 16 rfl rfl)
theorem dX1_come_39 : decode cX1_come 39 = .ok (.aload_n 0, 1) := dk_42 (dk_at dksX1_come_1 17 rfl rfl)
theorem dX1_come_40 : decode cX1_come 40 = .ok (.getfield 16, 3) := dk_180 0 16 (dk_at dksX1_come_1 18 rfl rfl)
theorem dX1_come_43 : decode cX1_come 43 = .ok (.invokevirtual 113, 3) := dk_182 0 113 (dk_at dksX1_come_1 21 rfl rfl)
theorem dX1_come_46 : decode cX1_come 46 = .ok (.ifCond .eq 41, 3) := dk_153 0 41 (dk_at dksX1_come_2 0 rfl rfl)
theorem dX1_come_49 : decode cX1_come 49 = .ok (.aload_n 0, 1) := dk_42 (dk_at dksX1_come_2 3 rfl rfl)
theorem dX1_come_50 : decode cX1_come 50 = .ok (.getfield 117, 3) := dk_180 0 117 (dk_at dksX1_come_2 4 rfl rfl)
theorem dX1_come_53 : decode cX1_come 53 = .ok (.aload_n 3, 1) := dk_45 (dk_at dksX1_come_2 7 rfl rfl)
theorem dX1_come_54 : decode cX1_come 54 = .ok (.getfield 120, 3) := dk_180 0 120 (dk_at dksX1_come_2 8 rfl rfl)
theorem dX1_come_57 : decode cX1_come 57 = .ok (.if_icmp .ge 16, 3) := dk_162 0 16 (dk_at dksX1_come_2 11 rfl rfl)
theorem dX1_come_60 : decode cX1_come 60 = .ok (.aload_n 3, 1) := dk_45 (dk_at dksX1_come_2 14 rfl rfl)
theorem dX1_come_61 : decode cX1_come 61 = .ok (.dup, 1) := dk_89 (dk_at dksX1_come_2 15 rfl rfl)
theorem dX1_come_62 : decode cX1_come 62 = .ok (.getfield 106, 3) := dk_180 0 106 (dk_at dksX1_come_2 16 rfl rfl)
theorem dX1_come_65 : decode cX1_come 65 = .ok (.iconst 1, 1) := dk_4 (dk_at dksX1_come_2 19 rfl rfl)
theorem dX1_come_66 : decode cX1_come 66 = .ok (.iadd, 1) := dk_96 (dk_at dksX1_come_2 20 rfl rfl)
theorem dX1_come_67 : decode cX1_come 67 = .ok (.putfield 106, 3) := dk_181 0 106 (dk_at dksX1_come_2 21 rfl rfl)
theorem dX1_come_70 : decode cX1_come 70 = .ok (.goto 17, 3) := dk_167 0 17 (dk_at dksX1_come_3 0 rfl rfl)
theorem dX1_come_73 : decode cX1_come 73 = .ok (.aload_n 3, 1) := dk_45 (dk_at dksX1_come_3 3 rfl rfl)
theorem dX1_come_74 : decode cX1_come 74 = .ok (.aload_n 0, 1) := dk_42 (dk_at dksX1_come_3 4 rfl rfl)
theorem dX1_come_75 : decode cX1_come 75 = .ok (.getfield 117, 3) := dk_180 0 117 (dk_at dksX1_come_3 5 rfl rfl)
theorem dX1_come_78 : decode cX1_come 78 = .ok (.invokevirtual 123, 3) := dk_182 0 123 (dk_at dksX1_come_3 8 rfl rfl)
theorem dX1_come_81 : decode cX1_come 81 = .ok (.iload_n 1, 1) := dk_27 (dk_at dksX1_come_3 11 rfl rfl)
theorem dX1_come_82 : decode cX1_come 82 = .ok (.iconst 1, 1) := dk_4 (dk_at dksX1_come_3 12 rfl rfl)
theorem dX1_come_83 : decode cX1_come 83 = .ok (.iload_n 2, 1) := dk_28 (dk_at dksX1_come_3 13 rfl rfl)
theorem dX1_come_84 : decode cX1_come 84 = .ok (.ishl, 1) := dk_120 (dk_at dksX1_come_3 14 rfl rfl)
theorem dX1_come_85 : decode cX1_come 85 = .ok (.ior, 1) := dk_128 (dk_at dksX1_come_3 15 rfl rfl)
theorem dX1_come_86 : decode cX1_come 86 = .ok (.istore_n 1, 1) := dk_60 (dk_at dksX1_come_3 16 rfl rfl)
theorem dX1_come_87 : decode cX1_come 87 = .ok (.iinc 2 1, 3) := dk_132 2 1 (dk_at dksX1_come_3 17 rfl rfl)
theorem dX1_come_90 : decode cX1_come 90 = .ok (.goto (-86), 3) := dk_167 255 170 (dk_at dksX1_come_3 20 rfl rfl)
theorem dX1_come_93 : decode cX1_come 93 = .ok (.iload_n 1, 1) := dk_27 (dk_at dksX1_come_3 23 rfl rfl)
theorem dX1_come_94 : decode cX1_come 94 = .ok (.ireturn, 1) := dk_172 (dk_at dksX1_come_4 0 rfl rfl)
abbrev cX1_matching : ByteArray := prog_1_method_20_code
def yX1_matching : MethodName := ⟨RX1, "matching", "()I"⟩
def dkwX1_matching_2 : List UInt8 := [182, 0, 113, 153, 0, 9, 4, 28, 120, 167, 0, 4, 3, 128, 60, 132, 2, 1, 167, 255, 198, 27, 172]
abbrev dktX1_matching_2 : List UInt8 := dkwX1_matching_2 ++ []
def dkwX1_matching_1 : List UInt8 := [185, 0, 49, 2, 0, 192, 0, 53, 78, 27, 45, 180, 0, 55, 154, 0, 20, 45, 42, 180, 0, 16]
abbrev dktX1_matching_1 : List UInt8 := dkwX1_matching_1 ++ dktX1_matching_2
def dkwX1_matching_0 : List UInt8 := [3, 60, 3, 61, 28, 42, 180, 0, 10, 185, 0, 39, 1, 0, 162, 0, 51, 42, 180, 0, 10, 28]
abbrev dktX1_matching_0 : List UInt8 := dkwX1_matching_0 ++ dktX1_matching_1
theorem dksX1_matching_0 : cX1_matching.data.toList.drop 0 = dktX1_matching_0 := by decide +kernel
theorem dksX1_matching_1 : cX1_matching.data.toList.drop 22 = dktX1_matching_1 := dk_seg dksX1_matching_0 22 rfl rfl
theorem dksX1_matching_2 : cX1_matching.data.toList.drop 44 = dktX1_matching_2 := dk_seg dksX1_matching_1 22 rfl rfl
theorem dX1_matching_0 : decode cX1_matching 0 = .ok (.iconst 0, 1) := dk_3 (dk_at dksX1_matching_0 0 rfl rfl)
theorem dX1_matching_1 : decode cX1_matching 1 = .ok (.istore_n 1, 1) := dk_60 (dk_at dksX1_matching_0 1 rfl rfl)
theorem dX1_matching_2 : decode cX1_matching 2 = .ok (.iconst 0, 1) := dk_3 (dk_at dksX1_matching_0 2 rfl rfl)
theorem dX1_matching_3 : decode cX1_matching 3 = .ok (.istore_n 2, 1) := dk_61 (dk_at dksX1_matching_0 3 rfl rfl)
theorem dX1_matching_4 : decode cX1_matching 4 = .ok (.iload_n 2, 1) := dk_28 (dk_at dksX1_matching_0 4 rfl rfl)
theorem dX1_matching_5 : decode cX1_matching 5 = .ok (.aload_n 0, 1) := dk_42 (dk_at dksX1_matching_0 5 rfl rfl)
theorem dX1_matching_6 : decode cX1_matching 6 = .ok (.getfield 10, 3) := dk_180 0 10 (dk_at dksX1_matching_0 6 rfl rfl)
theorem dX1_matching_9 : decode cX1_matching 9 = .ok (.invokeinterface 39 1, 5) := by decide +kernel
theorem dX1_matching_14 : decode cX1_matching 14 = .ok (.if_icmp .ge 51, 3) := dk_162 0 51 (dk_at dksX1_matching_0 14 rfl rfl)
theorem dX1_matching_17 : decode cX1_matching 17 = .ok (.aload_n 0, 1) := dk_42 (dk_at dksX1_matching_0 17 rfl rfl)
theorem dX1_matching_18 : decode cX1_matching 18 = .ok (.getfield 10, 3) := dk_180 0 10 (dk_at dksX1_matching_0 18 rfl rfl)
theorem dX1_matching_21 : decode cX1_matching 21 = .ok (.iload_n 2, 1) := dk_28 (dk_at dksX1_matching_0 21 rfl rfl)
theorem dX1_matching_22 : decode cX1_matching 22 = .ok (.invokeinterface 49 2, 5) := by decide +kernel
theorem dX1_matching_27 : decode cX1_matching 27 = .ok (.checkcast 53, 3) := dk_192 0 53 (dk_at dksX1_matching_1 5 rfl rfl)
theorem dX1_matching_30 : decode cX1_matching 30 = .ok (.astore_n 3, 1) := dk_78 (dk_at dksX1_matching_1 8 rfl rfl)
theorem dX1_matching_31 : decode cX1_matching 31 = .ok (.iload_n 1, 1) := dk_27 (dk_at dksX1_matching_1 9 rfl rfl)
theorem dX1_matching_32 : decode cX1_matching 32 = .ok (.aload_n 3, 1) := dk_45 (dk_at dksX1_matching_1 10 rfl rfl)
theorem dX1_matching_33 : decode cX1_matching 33 = .ok (.getfield 55, 3) := dk_180 0 55 (dk_at dksX1_matching_1 11 rfl rfl)
theorem dX1_matching_36 : decode cX1_matching 36 = .ok (.ifCond .ne 20, 3) := dk_154 0 20 (dk_at dksX1_matching_1 14 rfl rfl)
theorem dX1_matching_39 : decode cX1_matching 39 = .ok (.aload_n 3, 1) := dk_45 (dk_at dksX1_matching_1 17 rfl rfl)
theorem dX1_matching_40 : decode cX1_matching 40 = .ok (.aload_n 0, 1) := dk_42 (dk_at dksX1_matching_1 18 rfl rfl)
theorem dX1_matching_41 : decode cX1_matching 41 = .ok (.getfield 16, 3) := dk_180 0 16 (dk_at dksX1_matching_1 19 rfl rfl)
theorem dX1_matching_44 : decode cX1_matching 44 = .ok (.invokevirtual 113, 3) := dk_182 0 113 (dk_at dksX1_matching_2 0 rfl rfl)
theorem dX1_matching_47 : decode cX1_matching 47 = .ok (.ifCond .eq 9, 3) := dk_153 0 9 (dk_at dksX1_matching_2 3 rfl rfl)
theorem dX1_matching_50 : decode cX1_matching 50 = .ok (.iconst 1, 1) := dk_4 (dk_at dksX1_matching_2 6 rfl rfl)
theorem dX1_matching_51 : decode cX1_matching 51 = .ok (.iload_n 2, 1) := dk_28 (dk_at dksX1_matching_2 7 rfl rfl)
theorem dX1_matching_52 : decode cX1_matching 52 = .ok (.ishl, 1) := dk_120 (dk_at dksX1_matching_2 8 rfl rfl)
theorem dX1_matching_53 : decode cX1_matching 53 = .ok (.goto 4, 3) := dk_167 0 4 (dk_at dksX1_matching_2 9 rfl rfl)
theorem dX1_matching_56 : decode cX1_matching 56 = .ok (.iconst 0, 1) := dk_3 (dk_at dksX1_matching_2 12 rfl rfl)
theorem dX1_matching_57 : decode cX1_matching 57 = .ok (.ior, 1) := dk_128 (dk_at dksX1_matching_2 13 rfl rfl)
theorem dX1_matching_58 : decode cX1_matching 58 = .ok (.istore_n 1, 1) := dk_60 (dk_at dksX1_matching_2 14 rfl rfl)
theorem dX1_matching_59 : decode cX1_matching 59 = .ok (.iinc 2 1, 3) := dk_132 2 1 (dk_at dksX1_matching_2 15 rfl rfl)
theorem dX1_matching_62 : decode cX1_matching 62 = .ok (.goto (-58), 3) := dk_167 255 198 (dk_at dksX1_matching_2 18 rfl rfl)
theorem dX1_matching_65 : decode cX1_matching 65 = .ok (.iload_n 1, 1) := dk_27 (dk_at dksX1_matching_2 21 rfl rfl)
theorem dX1_matching_66 : decode cX1_matching 66 = .ok (.ireturn, 1) := dk_172 (dk_at dksX1_matching_2 22 rfl rfl)
abbrev cX1_matchingByIndex : ByteArray := prog_1_method_23_code
def yX1_matchingByIndex : MethodName := ⟨RX1, "matchingByIndex", "()I"⟩
def dkwX1_matchingByIndex_7 : List UInt8 := [153, 0, 12, 4, 45, 180, 0, 182, 120, 167, 0, 4, 3, 128, 60, 132, 2, 1, 167, 255, 157, 27, 172]
abbrev dktX1_matchingByIndex_7 : List UInt8 := dkwX1_matchingByIndex_7 ++ []
def dkwX1_matchingByIndex_6 : List UInt8 := [160, 0, 18, 45, 42, 180, 0, 16, 182, 0, 186, 153, 0, 7, 4, 167, 0, 4, 3, 54, 4, 27, 21, 4]
abbrev dktX1_matchingByIndex_6 : List UInt8 := dkwX1_matchingByIndex_6 ++ dktX1_matchingByIndex_7
def dkwX1_matchingByIndex_5 : List UInt8 := [185, 0, 49, 2, 0, 192, 0, 53, 180, 0, 55, 154, 0, 29, 45, 180, 0, 176, 45, 182, 0, 185]
abbrev dktX1_matchingByIndex_5 : List UInt8 := dkwX1_matchingByIndex_5 ++ dktX1_matchingByIndex_6
def dkwX1_matchingByIndex_4 : List UInt8 := [180, 0, 27, 28, 185, 0, 49, 2, 0, 192, 0, 75, 78, 42, 180, 0, 10, 45, 180, 0, 182]
abbrev dktX1_matchingByIndex_4 : List UInt8 := dkwX1_matchingByIndex_4 ++ dktX1_matchingByIndex_5
def dkwX1_matchingByIndex_3 : List UInt8 := [132, 1, 1, 167, 255, 226, 3, 60, 3, 61, 28, 42, 180, 0, 27, 185, 0, 39, 1, 0, 162, 0, 92, 42]
abbrev dktX1_matchingByIndex_3 : List UInt8 := dkwX1_matchingByIndex_3 ++ dktX1_matchingByIndex_4
def dkwX1_matchingByIndex_2 : List UInt8 := [162, 0, 30, 42, 180, 0, 16, 27, 46, 2, 159, 0, 14, 42, 27, 42, 180, 0, 16, 27, 46, 182, 0, 179]
abbrev dktX1_matchingByIndex_2 : List UInt8 := dkwX1_matchingByIndex_2 ++ dktX1_matchingByIndex_3
def dkwX1_matchingByIndex_1 : List UInt8 := [185, 0, 49, 2, 0, 192, 0, 75, 3, 181, 0, 176, 132, 1, 1, 167, 255, 223, 3, 60, 27, 16, 6]
abbrev dktX1_matchingByIndex_1 : List UInt8 := dkwX1_matchingByIndex_1 ++ dktX1_matchingByIndex_2
def dkwX1_matchingByIndex_0 : List UInt8 := [3, 60, 27, 42, 180, 0, 27, 185, 0, 39, 1, 0, 162, 0, 26, 42, 180, 0, 27, 27]
abbrev dktX1_matchingByIndex_0 : List UInt8 := dkwX1_matchingByIndex_0 ++ dktX1_matchingByIndex_1
theorem dksX1_matchingByIndex_0 : cX1_matchingByIndex.data.toList.drop 0 = dktX1_matchingByIndex_0 := by decide +kernel
theorem dksX1_matchingByIndex_1 : cX1_matchingByIndex.data.toList.drop 20 = dktX1_matchingByIndex_1 := dk_seg dksX1_matchingByIndex_0 20 rfl rfl
theorem dksX1_matchingByIndex_2 : cX1_matchingByIndex.data.toList.drop 43 = dktX1_matchingByIndex_2 := dk_seg dksX1_matchingByIndex_1 23 rfl rfl
theorem dksX1_matchingByIndex_3 : cX1_matchingByIndex.data.toList.drop 67 = dktX1_matchingByIndex_3 := dk_seg dksX1_matchingByIndex_2 24 rfl rfl
theorem dksX1_matchingByIndex_4 : cX1_matchingByIndex.data.toList.drop 91 = dktX1_matchingByIndex_4 := dk_seg dksX1_matchingByIndex_3 24 rfl rfl
theorem dksX1_matchingByIndex_5 : cX1_matchingByIndex.data.toList.drop 112 = dktX1_matchingByIndex_5 := dk_seg dksX1_matchingByIndex_4 21 rfl rfl
theorem dksX1_matchingByIndex_6 : cX1_matchingByIndex.data.toList.drop 134 = dktX1_matchingByIndex_6 := dk_seg dksX1_matchingByIndex_5 22 rfl rfl
theorem dksX1_matchingByIndex_7 : cX1_matchingByIndex.data.toList.drop 158 = dktX1_matchingByIndex_7 := dk_seg dksX1_matchingByIndex_6 24 rfl rfl
theorem dX1_matchingByIndex_0 : decode cX1_matchingByIndex 0 = .ok (.iconst 0, 1) := dk_3 (dk_at dksX1_matchingByIndex_0 0 rfl rfl)
theorem dX1_matchingByIndex_1 : decode cX1_matchingByIndex 1 = .ok (.istore_n 1, 1) := dk_60 (dk_at dksX1_matchingByIndex_0 1 rfl rfl)
theorem dX1_matchingByIndex_2 : decode cX1_matchingByIndex 2 = .ok (.iload_n 1, 1) := dk_27 (dk_at dksX1_matchingByIndex_0 2 rfl rfl)
theorem dX1_matchingByIndex_3 : decode cX1_matchingByIndex 3 = .ok (.aload_n 0, 1) := dk_42 (dk_at dksX1_matchingByIndex_0 3 rfl rfl)
theorem dX1_matchingByIndex_4 : decode cX1_matchingByIndex 4 = .ok (.getfield 27, 3) := dk_180 0 27 (dk_at dksX1_matchingByIndex_0 4 rfl rfl)
theorem dX1_matchingByIndex_7 : decode cX1_matchingByIndex 7 = .ok (.invokeinterface 39 1, 5) := by decide +kernel
theorem dX1_matchingByIndex_12 : decode cX1_matchingByIndex 12 = .ok (.if_icmp .ge 26, 3) := dk_162 0 26 (dk_at dksX1_matchingByIndex_0 12 rfl rfl)
theorem dX1_matchingByIndex_15 : decode cX1_matchingByIndex 15 = .ok (.aload_n 0, 1) := dk_42 (dk_at dksX1_matchingByIndex_0 15 rfl rfl)
theorem dX1_matchingByIndex_16 : decode cX1_matchingByIndex 16 = .ok (.getfield 27, 3) := dk_180 0 27 (dk_at dksX1_matchingByIndex_0 16 rfl rfl)
theorem dX1_matchingByIndex_19 : decode cX1_matchingByIndex 19 = .ok (.iload_n 1, 1) := dk_27 (dk_at dksX1_matchingByIndex_0 19 rfl rfl)
theorem dX1_matchingByIndex_20 : decode cX1_matchingByIndex 20 = .ok (.invokeinterface 49 2, 5) := by decide +kernel
theorem dX1_matchingByIndex_25 : decode cX1_matchingByIndex 25 = .ok (.checkcast 75, 3) := dk_192 0 75 (dk_at dksX1_matchingByIndex_1 5 rfl rfl)
theorem dX1_matchingByIndex_28 : decode cX1_matchingByIndex 28 = .ok (.iconst 0, 1) := dk_3 (dk_at dksX1_matchingByIndex_1 8 rfl rfl)
theorem dX1_matchingByIndex_29 : decode cX1_matchingByIndex 29 = .ok (.putfield 176, 3) := dk_181 0 176 (dk_at dksX1_matchingByIndex_1 9 rfl rfl)
theorem dX1_matchingByIndex_32 : decode cX1_matchingByIndex 32 = .ok (.iinc 1 1, 3) := dk_132 1 1 (dk_at dksX1_matchingByIndex_1 12 rfl rfl)
theorem dX1_matchingByIndex_35 : decode cX1_matchingByIndex 35 = .ok (.goto (-33), 3) := dk_167 255 223 (dk_at dksX1_matchingByIndex_1 15 rfl rfl)
theorem dX1_matchingByIndex_38 : decode cX1_matchingByIndex 38 = .ok (.iconst 0, 1) := dk_3 (dk_at dksX1_matchingByIndex_1 18 rfl rfl)
theorem dX1_matchingByIndex_39 : decode cX1_matchingByIndex 39 = .ok (.istore_n 1, 1) := dk_60 (dk_at dksX1_matchingByIndex_1 19 rfl rfl)
theorem dX1_matchingByIndex_40 : decode cX1_matchingByIndex 40 = .ok (.iload_n 1, 1) := dk_27 (dk_at dksX1_matchingByIndex_1 20 rfl rfl)
theorem dX1_matchingByIndex_41 : decode cX1_matchingByIndex 41 = .ok (.bipush 6, 2) := dk_16 6 (dk_at dksX1_matchingByIndex_1 21 rfl rfl)
theorem dX1_matchingByIndex_43 : decode cX1_matchingByIndex 43 = .ok (.if_icmp .ge 30, 3) := dk_162 0 30 (dk_at dksX1_matchingByIndex_2 0 rfl rfl)
theorem dX1_matchingByIndex_46 : decode cX1_matchingByIndex 46 = .ok (.aload_n 0, 1) := dk_42 (dk_at dksX1_matchingByIndex_2 3 rfl rfl)
theorem dX1_matchingByIndex_47 : decode cX1_matchingByIndex 47 = .ok (.getfield 16, 3) := dk_180 0 16 (dk_at dksX1_matchingByIndex_2 4 rfl rfl)
theorem dX1_matchingByIndex_50 : decode cX1_matchingByIndex 50 = .ok (.iload_n 1, 1) := dk_27 (dk_at dksX1_matchingByIndex_2 7 rfl rfl)
theorem dX1_matchingByIndex_51 : decode cX1_matchingByIndex 51 = .ok (.iaload, 1) := dk_46 (dk_at dksX1_matchingByIndex_2 8 rfl rfl)
theorem dX1_matchingByIndex_52 : decode cX1_matchingByIndex 52 = .ok (.iconst (-1), 1) := dk_2 (dk_at dksX1_matchingByIndex_2 9 rfl rfl)
theorem dX1_matchingByIndex_53 : decode cX1_matchingByIndex 53 = .ok (.if_icmp .eq 14, 3) := dk_159 0 14 (dk_at dksX1_matchingByIndex_2 10 rfl rfl)
theorem dX1_matchingByIndex_56 : decode cX1_matchingByIndex 56 = .ok (.aload_n 0, 1) := dk_42 (dk_at dksX1_matchingByIndex_2 13 rfl rfl)
theorem dX1_matchingByIndex_57 : decode cX1_matchingByIndex 57 = .ok (.iload_n 1, 1) := dk_27 (dk_at dksX1_matchingByIndex_2 14 rfl rfl)
theorem dX1_matchingByIndex_58 : decode cX1_matchingByIndex 58 = .ok (.aload_n 0, 1) := dk_42 (dk_at dksX1_matchingByIndex_2 15 rfl rfl)
theorem dX1_matchingByIndex_59 : decode cX1_matchingByIndex 59 = .ok (.getfield 16, 3) := dk_180 0 16 (dk_at dksX1_matchingByIndex_2 16 rfl rfl)
theorem dX1_matchingByIndex_62 : decode cX1_matchingByIndex 62 = .ok (.iload_n 1, 1) := dk_27 (dk_at dksX1_matchingByIndex_2 19 rfl rfl)
theorem dX1_matchingByIndex_63 : decode cX1_matchingByIndex 63 = .ok (.iaload, 1) := dk_46 (dk_at dksX1_matchingByIndex_2 20 rfl rfl)
theorem dX1_matchingByIndex_64 : decode cX1_matchingByIndex 64 = .ok (.invokevirtual 179, 3) := dk_182 0 179 (dk_at dksX1_matchingByIndex_2 21 rfl rfl)
theorem dX1_matchingByIndex_67 : decode cX1_matchingByIndex 67 = .ok (.iinc 1 1, 3) := dk_132 1 1 (dk_at dksX1_matchingByIndex_3 0 rfl rfl)
theorem dX1_matchingByIndex_70 : decode cX1_matchingByIndex 70 = .ok (.goto (-30), 3) := dk_167 255 226 (dk_at dksX1_matchingByIndex_3 3 rfl rfl)
theorem dX1_matchingByIndex_73 : decode cX1_matchingByIndex 73 = .ok (.iconst 0, 1) := dk_3 (dk_at dksX1_matchingByIndex_3 6 rfl rfl)
theorem dX1_matchingByIndex_74 : decode cX1_matchingByIndex 74 = .ok (.istore_n 1, 1) := dk_60 (dk_at dksX1_matchingByIndex_3 7 rfl rfl)
theorem dX1_matchingByIndex_75 : decode cX1_matchingByIndex 75 = .ok (.iconst 0, 1) := dk_3 (dk_at dksX1_matchingByIndex_3 8 rfl rfl)
theorem dX1_matchingByIndex_76 : decode cX1_matchingByIndex 76 = .ok (.istore_n 2, 1) := dk_61 (dk_at dksX1_matchingByIndex_3 9 rfl rfl)
theorem dX1_matchingByIndex_77 : decode cX1_matchingByIndex 77 = .ok (.iload_n 2, 1) := dk_28 (dk_at dksX1_matchingByIndex_3 10 rfl rfl)
theorem dX1_matchingByIndex_78 : decode cX1_matchingByIndex 78 = .ok (.aload_n 0, 1) := dk_42 (dk_at dksX1_matchingByIndex_3 11 rfl rfl)
theorem dX1_matchingByIndex_79 : decode cX1_matchingByIndex 79 = .ok (.getfield 27, 3) := dk_180 0 27 (dk_at dksX1_matchingByIndex_3 12 rfl rfl)
theorem dX1_matchingByIndex_82 : decode cX1_matchingByIndex 82 = .ok (.invokeinterface 39 1, 5) := by decide +kernel
theorem dX1_matchingByIndex_87 : decode cX1_matchingByIndex 87 = .ok (.if_icmp .ge 92, 3) := dk_162 0 92 (dk_at dksX1_matchingByIndex_3 20 rfl rfl)
theorem dX1_matchingByIndex_90 : decode cX1_matchingByIndex 90 = .ok (.aload_n 0, 1) := dk_42 (dk_at dksX1_matchingByIndex_3 23 rfl rfl)
theorem dX1_matchingByIndex_91 : decode cX1_matchingByIndex 91 = .ok (.getfield 27, 3) := dk_180 0 27 (dk_at dksX1_matchingByIndex_4 0 rfl rfl)
theorem dX1_matchingByIndex_94 : decode cX1_matchingByIndex 94 = .ok (.iload_n 2, 1) := dk_28 (dk_at dksX1_matchingByIndex_4 3 rfl rfl)
theorem dX1_matchingByIndex_95 : decode cX1_matchingByIndex 95 = .ok (.invokeinterface 49 2, 5) := by decide +kernel
theorem dX1_matchingByIndex_100 : decode cX1_matchingByIndex 100 = .ok (.checkcast 75, 3) := dk_192 0 75 (dk_at dksX1_matchingByIndex_4 9 rfl rfl)
theorem dX1_matchingByIndex_103 : decode cX1_matchingByIndex 103 = .ok (.astore_n 3, 1) := dk_78 (dk_at dksX1_matchingByIndex_4 12 rfl rfl)
theorem dX1_matchingByIndex_104 : decode cX1_matchingByIndex 104 = .ok (.aload_n 0, 1) := dk_42 (dk_at dksX1_matchingByIndex_4 13 rfl rfl)
theorem dX1_matchingByIndex_105 : decode cX1_matchingByIndex 105 = .ok (.getfield 10, 3) := dk_180 0 10 (dk_at dksX1_matchingByIndex_4 14 rfl rfl)
theorem dX1_matchingByIndex_108 : decode cX1_matchingByIndex 108 = .ok (.aload_n 3, 1) := dk_45 (dk_at dksX1_matchingByIndex_4 17 rfl rfl)
theorem dX1_matchingByIndex_109 : decode cX1_matchingByIndex 109 = .ok (.getfield 182, 3) := dk_180 0 182 (dk_at dksX1_matchingByIndex_4 18 rfl rfl)
theorem dX1_matchingByIndex_112 : decode cX1_matchingByIndex 112 = .ok (.invokeinterface 49 2, 5) := by decide +kernel
theorem dX1_matchingByIndex_117 : decode cX1_matchingByIndex 117 = .ok (.checkcast 53, 3) := dk_192 0 53 (dk_at dksX1_matchingByIndex_5 5 rfl rfl)
theorem dX1_matchingByIndex_120 : decode cX1_matchingByIndex 120 = .ok (.getfield 55, 3) := dk_180 0 55 (dk_at dksX1_matchingByIndex_5 8 rfl rfl)
theorem dX1_matchingByIndex_123 : decode cX1_matchingByIndex 123 = .ok (.ifCond .ne 29, 3) := dk_154 0 29 (dk_at dksX1_matchingByIndex_5 11 rfl rfl)
theorem dX1_matchingByIndex_126 : decode cX1_matchingByIndex 126 = .ok (.aload_n 3, 1) := dk_45 (dk_at dksX1_matchingByIndex_5 14 rfl rfl)
theorem dX1_matchingByIndex_127 : decode cX1_matchingByIndex 127 = .ok (.getfield 176, 3) := dk_180 0 176 (dk_at dksX1_matchingByIndex_5 15 rfl rfl)
theorem dX1_matchingByIndex_130 : decode cX1_matchingByIndex 130 = .ok (.aload_n 3, 1) := dk_45 (dk_at dksX1_matchingByIndex_5 18 rfl rfl)
theorem dX1_matchingByIndex_131 : decode cX1_matchingByIndex 131 = .ok (.invokevirtual 185, 3) := dk_182 0 185 (dk_at dksX1_matchingByIndex_5 19 rfl rfl)
theorem dX1_matchingByIndex_134 : decode cX1_matchingByIndex 134 = .ok (.if_icmp .ne 18, 3) := dk_160 0 18 (dk_at dksX1_matchingByIndex_6 0 rfl rfl)
theorem dX1_matchingByIndex_137 : decode cX1_matchingByIndex 137 = .ok (.aload_n 3, 1) := dk_45 (dk_at dksX1_matchingByIndex_6 3 rfl rfl)
theorem dX1_matchingByIndex_138 : decode cX1_matchingByIndex 138 = .ok (.aload_n 0, 1) := dk_42 (dk_at dksX1_matchingByIndex_6 4 rfl rfl)
theorem dX1_matchingByIndex_139 : decode cX1_matchingByIndex 139 = .ok (.getfield 16, 3) := dk_180 0 16 (dk_at dksX1_matchingByIndex_6 5 rfl rfl)
theorem dX1_matchingByIndex_142 : decode cX1_matchingByIndex 142 = .ok (.invokevirtual 186, 3) := dk_182 0 186 (dk_at dksX1_matchingByIndex_6 8 rfl rfl)
theorem dX1_matchingByIndex_145 : decode cX1_matchingByIndex 145 = .ok (.ifCond .eq 7, 3) := dk_153 0 7 (dk_at dksX1_matchingByIndex_6 11 rfl rfl)
theorem dX1_matchingByIndex_148 : decode cX1_matchingByIndex 148 = .ok (.iconst 1, 1) := dk_4 (dk_at dksX1_matchingByIndex_6 14 rfl rfl)
theorem dX1_matchingByIndex_149 : decode cX1_matchingByIndex 149 = .ok (.goto 4, 3) := dk_167 0 4 (dk_at dksX1_matchingByIndex_6 15 rfl rfl)
theorem dX1_matchingByIndex_152 : decode cX1_matchingByIndex 152 = .ok (.iconst 0, 1) := dk_3 (dk_at dksX1_matchingByIndex_6 18 rfl rfl)
theorem dX1_matchingByIndex_153 : decode cX1_matchingByIndex 153 = .ok (.istore 4, 2) := dk_54 4 (dk_at dksX1_matchingByIndex_6 19 rfl rfl)
theorem dX1_matchingByIndex_155 : decode cX1_matchingByIndex 155 = .ok (.iload_n 1, 1) := dk_27 (dk_at dksX1_matchingByIndex_6 21 rfl rfl)
theorem dX1_matchingByIndex_156 : decode cX1_matchingByIndex 156 = .ok (.iload 4, 2) := dk_21 4 (dk_at dksX1_matchingByIndex_6 22 rfl rfl)
theorem dX1_matchingByIndex_158 : decode cX1_matchingByIndex 158 = .ok (.ifCond .eq 12, 3) := dk_153 0 12 (dk_at dksX1_matchingByIndex_7 0 rfl rfl)
theorem dX1_matchingByIndex_161 : decode cX1_matchingByIndex 161 = .ok (.iconst 1, 1) := dk_4 (dk_at dksX1_matchingByIndex_7 3 rfl rfl)
theorem dX1_matchingByIndex_162 : decode cX1_matchingByIndex 162 = .ok (.aload_n 3, 1) := dk_45 (dk_at dksX1_matchingByIndex_7 4 rfl rfl)
theorem dX1_matchingByIndex_163 : decode cX1_matchingByIndex 163 = .ok (.getfield 182, 3) := dk_180 0 182 (dk_at dksX1_matchingByIndex_7 5 rfl rfl)
theorem dX1_matchingByIndex_166 : decode cX1_matchingByIndex 166 = .ok (.ishl, 1) := dk_120 (dk_at dksX1_matchingByIndex_7 8 rfl rfl)
theorem dX1_matchingByIndex_167 : decode cX1_matchingByIndex 167 = .ok (.goto 4, 3) := dk_167 0 4 (dk_at dksX1_matchingByIndex_7 9 rfl rfl)
theorem dX1_matchingByIndex_170 : decode cX1_matchingByIndex 170 = .ok (.iconst 0, 1) := dk_3 (dk_at dksX1_matchingByIndex_7 12 rfl rfl)
theorem dX1_matchingByIndex_171 : decode cX1_matchingByIndex 171 = .ok (.ior, 1) := dk_128 (dk_at dksX1_matchingByIndex_7 13 rfl rfl)
theorem dX1_matchingByIndex_172 : decode cX1_matchingByIndex 172 = .ok (.istore_n 1, 1) := dk_60 (dk_at dksX1_matchingByIndex_7 14 rfl rfl)
theorem dX1_matchingByIndex_173 : decode cX1_matchingByIndex 173 = .ok (.iinc 2 1, 3) := dk_132 2 1 (dk_at dksX1_matchingByIndex_7 15 rfl rfl)
theorem dX1_matchingByIndex_176 : decode cX1_matchingByIndex 176 = .ok (.goto (-99), 3) := dk_167 255 157 (dk_at dksX1_matchingByIndex_7 18 rfl rfl)
theorem dX1_matchingByIndex_179 : decode cX1_matchingByIndex 179 = .ok (.iload_n 1, 1) := dk_27 (dk_at dksX1_matchingByIndex_7 21 rfl rfl)
theorem dX1_matchingByIndex_180 : decode cX1_matchingByIndex 180 = .ok (.ireturn, 1) := dk_172 (dk_at dksX1_matchingByIndex_7 22 rfl rfl)
abbrev cX1_count : ByteArray := prog_1_method_22_code
def yX1_count : MethodName := ⟨RX1, "count", "(II)V"⟩
def dkwX1_count_3 : List UInt8 := [4, 96, 181, 0, 176, 132, 5, 1, 167, 255, 215, 29, 5, 104, 62, 167, 255, 175, 177]
abbrev dktX1_count_3 : List UInt8 := dkwX1_count_3 ++ []
def dkwX1_count_2 : List UInt8 := [185, 0, 39, 1, 0, 162, 0, 30, 25, 4, 21, 5, 185, 0, 49, 2, 0, 192, 0, 75, 89, 180, 0, 176]
abbrev dktX1_count_2 : List UInt8 := dkwX1_count_2 ++ dktX1_count_3
def dkwX1_count_1 : List UInt8 := [185, 0, 173, 2, 0, 192, 0, 40, 58, 4, 3, 54, 5, 25, 4, 198, 0, 42, 21, 5, 25, 4]
abbrev dktX1_count_1 : List UInt8 := dkwX1_count_1 ++ dktX1_count_2
def dkwX1_count_0 : List UInt8 := [4, 62, 29, 16, 64, 163, 0, 81, 42, 180, 0, 23, 27, 28, 28, 29, 112, 100, 29, 184, 0, 160]
abbrev dktX1_count_0 : List UInt8 := dkwX1_count_0 ++ dktX1_count_1
theorem dksX1_count_0 : cX1_count.data.toList.drop 0 = dktX1_count_0 := by decide +kernel
theorem dksX1_count_1 : cX1_count.data.toList.drop 22 = dktX1_count_1 := dk_seg dksX1_count_0 22 rfl rfl
theorem dksX1_count_2 : cX1_count.data.toList.drop 44 = dktX1_count_2 := dk_seg dksX1_count_1 22 rfl rfl
theorem dksX1_count_3 : cX1_count.data.toList.drop 68 = dktX1_count_3 := dk_seg dksX1_count_2 24 rfl rfl
theorem dX1_count_0 : decode cX1_count 0 = .ok (.iconst 1, 1) := dk_4 (dk_at dksX1_count_0 0 rfl rfl)
theorem dX1_count_1 : decode cX1_count 1 = .ok (.istore_n 3, 1) := dk_62 (dk_at dksX1_count_0 1 rfl rfl)
theorem dX1_count_2 : decode cX1_count 2 = .ok (.iload_n 3, 1) := dk_29 (dk_at dksX1_count_0 2 rfl rfl)
theorem dX1_count_3 : decode cX1_count 3 = .ok (.bipush 64, 2) := dk_16 64 (dk_at dksX1_count_0 3 rfl rfl)
theorem dX1_count_5 : decode cX1_count 5 = .ok (.if_icmp .gt 81, 3) := dk_163 0 81 (dk_at dksX1_count_0 5 rfl rfl)
theorem dX1_count_8 : decode cX1_count 8 = .ok (.aload_n 0, 1) := dk_42 (dk_at dksX1_count_0 8 rfl rfl)
theorem dX1_count_9 : decode cX1_count 9 = .ok (.getfield 23, 3) := dk_180 0 23 (dk_at dksX1_count_0 9 rfl rfl)
theorem dX1_count_12 : decode cX1_count 12 = .ok (.iload_n 1, 1) := dk_27 (dk_at dksX1_count_0 12 rfl rfl)
theorem dX1_count_13 : decode cX1_count 13 = .ok (.iload_n 2, 1) := dk_28 (dk_at dksX1_count_0 13 rfl rfl)
theorem dX1_count_14 : decode cX1_count 14 = .ok (.iload_n 2, 1) := dk_28 (dk_at dksX1_count_0 14 rfl rfl)
theorem dX1_count_15 : decode cX1_count 15 = .ok (.iload_n 3, 1) := dk_29 (dk_at dksX1_count_0 15 rfl rfl)
theorem dX1_count_16 : decode cX1_count 16 = .ok (.irem, 1) := dk_112 (dk_at dksX1_count_0 16 rfl rfl)
theorem dX1_count_17 : decode cX1_count 17 = .ok (.isub, 1) := dk_100 (dk_at dksX1_count_0 17 rfl rfl)
theorem dX1_count_18 : decode cX1_count 18 = .ok (.iload_n 3, 1) := dk_29 (dk_at dksX1_count_0 18 rfl rfl)
theorem dX1_count_19 : decode cX1_count 19 = .ok (.invokestatic 160, 3) := dk_184 0 160 (dk_at dksX1_count_0 19 rfl rfl)
theorem dX1_count_22 : decode cX1_count 22 = .ok (.invokeinterface 173 2, 5) := by decide +kernel
theorem dX1_count_27 : decode cX1_count 27 = .ok (.checkcast 40, 3) := dk_192 0 40 (dk_at dksX1_count_1 5 rfl rfl)
theorem dX1_count_30 : decode cX1_count 30 = .ok (.astore 4, 2) := dk_58 4 (dk_at dksX1_count_1 8 rfl rfl)
theorem dX1_count_32 : decode cX1_count 32 = .ok (.iconst 0, 1) := dk_3 (dk_at dksX1_count_1 10 rfl rfl)
theorem dX1_count_33 : decode cX1_count 33 = .ok (.istore 5, 2) := dk_54 5 (dk_at dksX1_count_1 11 rfl rfl)
theorem dX1_count_35 : decode cX1_count 35 = .ok (.aload 4, 2) := dk_25 4 (dk_at dksX1_count_1 13 rfl rfl)
theorem dX1_count_37 : decode cX1_count 37 = .ok (.ifnull 42, 3) := dk_198 0 42 (dk_at dksX1_count_1 15 rfl rfl)
theorem dX1_count_40 : decode cX1_count 40 = .ok (.iload 5, 2) := dk_21 5 (dk_at dksX1_count_1 18 rfl rfl)
theorem dX1_count_42 : decode cX1_count 42 = .ok (.aload 4, 2) := dk_25 4 (dk_at dksX1_count_1 20 rfl rfl)
theorem dX1_count_44 : decode cX1_count 44 = .ok (.invokeinterface 39 1, 5) := by decide +kernel
theorem dX1_count_49 : decode cX1_count 49 = .ok (.if_icmp .ge 30, 3) := dk_162 0 30 (dk_at dksX1_count_2 5 rfl rfl)
theorem dX1_count_52 : decode cX1_count 52 = .ok (.aload 4, 2) := dk_25 4 (dk_at dksX1_count_2 8 rfl rfl)
theorem dX1_count_54 : decode cX1_count 54 = .ok (.iload 5, 2) := dk_21 5 (dk_at dksX1_count_2 10 rfl rfl)
theorem dX1_count_56 : decode cX1_count 56 = .ok (.invokeinterface 49 2, 5) := by decide +kernel
theorem dX1_count_61 : decode cX1_count 61 = .ok (.checkcast 75, 3) := dk_192 0 75 (dk_at dksX1_count_2 17 rfl rfl)
theorem dX1_count_64 : decode cX1_count 64 = .ok (.dup, 1) := dk_89 (dk_at dksX1_count_2 20 rfl rfl)
theorem dX1_count_65 : decode cX1_count 65 = .ok (.getfield 176, 3) := dk_180 0 176 (dk_at dksX1_count_2 21 rfl rfl)
theorem dX1_count_68 : decode cX1_count 68 = .ok (.iconst 1, 1) := dk_4 (dk_at dksX1_count_3 0 rfl rfl)
theorem dX1_count_69 : decode cX1_count 69 = .ok (.iadd, 1) := dk_96 (dk_at dksX1_count_3 1 rfl rfl)
theorem dX1_count_70 : decode cX1_count 70 = .ok (.putfield 176, 3) := dk_181 0 176 (dk_at dksX1_count_3 2 rfl rfl)
theorem dX1_count_73 : decode cX1_count 73 = .ok (.iinc 5 1, 3) := dk_132 5 1 (dk_at dksX1_count_3 5 rfl rfl)
theorem dX1_count_76 : decode cX1_count 76 = .ok (.goto (-41), 3) := dk_167 255 215 (dk_at dksX1_count_3 8 rfl rfl)
theorem dX1_count_79 : decode cX1_count 79 = .ok (.iload_n 3, 1) := dk_29 (dk_at dksX1_count_3 11 rfl rfl)
theorem dX1_count_80 : decode cX1_count 80 = .ok (.iconst 2, 1) := dk_5 (dk_at dksX1_count_3 12 rfl rfl)
theorem dX1_count_81 : decode cX1_count 81 = .ok (.imul, 1) := dk_104 (dk_at dksX1_count_3 13 rfl rfl)
theorem dX1_count_82 : decode cX1_count 82 = .ok (.istore_n 3, 1) := dk_62 (dk_at dksX1_count_3 14 rfl rfl)
theorem dX1_count_83 : decode cX1_count 83 = .ok (.goto (-81), 3) := dk_167 255 175 (dk_at dksX1_count_3 15 rfl rfl)
theorem dX1_count_86 : decode cX1_count 86 = .ok (.return_, 1) := dk_177 (dk_at dksX1_count_3 18 rfl rfl)
abbrev cX1_key : ByteArray := prog_1_method_18_code
def yX1_key : MethodName := ⟨RX1, "key", "(III)Ljava/lang/String;"⟩
def dkwX1_key_1 : List UInt8 := [182, 0, 140, 18, 145, 182, 0, 136, 28, 182, 0, 140, 182, 0, 147, 176]
abbrev dktX1_key_1 : List UInt8 := dkwX1_key_1 ++ []
def dkwX1_key_0 : List UInt8 := [187, 0, 131, 89, 183, 0, 133, 18, 134, 182, 0, 136, 26, 182, 0, 140, 18, 143, 182, 0, 136, 27]
abbrev dktX1_key_0 : List UInt8 := dkwX1_key_0 ++ dktX1_key_1
theorem dksX1_key_0 : cX1_key.data.toList.drop 0 = dktX1_key_0 := by decide +kernel
theorem dksX1_key_1 : cX1_key.data.toList.drop 22 = dktX1_key_1 := dk_seg dksX1_key_0 22 rfl rfl
theorem dX1_key_0 : decode cX1_key 0 = .ok (.new 131, 3) := dk_187 0 131 (dk_at dksX1_key_0 0 rfl rfl)
theorem dX1_key_3 : decode cX1_key 3 = .ok (.dup, 1) := dk_89 (dk_at dksX1_key_0 3 rfl rfl)
theorem dX1_key_4 : decode cX1_key 4 = .ok (.invokespecial 133, 3) := dk_183 0 133 (dk_at dksX1_key_0 4 rfl rfl)
theorem dX1_key_7 : decode cX1_key 7 = .ok (.ldc 134, 2) := dk_18 134 (dk_at dksX1_key_0 7 rfl rfl)
theorem dX1_key_9 : decode cX1_key 9 = .ok (.invokevirtual 136, 3) := dk_182 0 136 (dk_at dksX1_key_0 9 rfl rfl)
theorem dX1_key_12 : decode cX1_key 12 = .ok (.iload_n 0, 1) := dk_26 (dk_at dksX1_key_0 12 rfl rfl)
theorem dX1_key_13 : decode cX1_key 13 = .ok (.invokevirtual 140, 3) := dk_182 0 140 (dk_at dksX1_key_0 13 rfl rfl)
theorem dX1_key_16 : decode cX1_key 16 = .ok (.ldc 143, 2) := dk_18 143 (dk_at dksX1_key_0 16 rfl rfl)
theorem dX1_key_18 : decode cX1_key 18 = .ok (.invokevirtual 136, 3) := dk_182 0 136 (dk_at dksX1_key_0 18 rfl rfl)
theorem dX1_key_21 : decode cX1_key 21 = .ok (.iload_n 1, 1) := dk_27 (dk_at dksX1_key_0 21 rfl rfl)
theorem dX1_key_22 : decode cX1_key 22 = .ok (.invokevirtual 140, 3) := dk_182 0 140 (dk_at dksX1_key_1 0 rfl rfl)
theorem dX1_key_25 : decode cX1_key 25 = .ok (.ldc 145, 2) := dk_18 145 (dk_at dksX1_key_1 3 rfl rfl)
theorem dX1_key_27 : decode cX1_key 27 = .ok (.invokevirtual 136, 3) := dk_182 0 136 (dk_at dksX1_key_1 5 rfl rfl)
theorem dX1_key_30 : decode cX1_key 30 = .ok (.iload_n 2, 1) := dk_28 (dk_at dksX1_key_1 8 rfl rfl)
theorem dX1_key_31 : decode cX1_key 31 = .ok (.invokevirtual 140, 3) := dk_182 0 140 (dk_at dksX1_key_1 9 rfl rfl)
theorem dX1_key_34 : decode cX1_key 34 = .ok (.invokevirtual 147, 3) := dk_182 0 147 (dk_at dksX1_key_1 12 rfl rfl)
theorem dX1_key_37 : decode cX1_key 37 = .ok (.areturn, 1) := dk_176 (dk_at dksX1_key_1 15 rfl rfl)
abbrev cX1_withSize : ByteArray := prog_1_method_25_code
def yX1_withSize : MethodName := ⟨RX1, "withSize", "(I)I"⟩
def dkwX1_withSize_3 : List UInt8 := [172]
abbrev dktX1_withSize_3 : List UInt8 := dkwX1_withSize_3 ++ []
def dkwX1_withSize_2 : List UInt8 := [192, 0, 53, 182, 0, 189, 27, 160, 0, 7, 4, 167, 0, 4, 3, 96, 61, 132, 3, 1, 167, 255, 193, 28]
abbrev dktX1_withSize_2 : List UInt8 := dkwX1_withSize_2 ++ dktX1_withSize_3
def dkwX1_withSize_1 : List UInt8 := [185, 0, 49, 2, 0, 192, 0, 53, 180, 0, 55, 154, 0, 27, 42, 180, 0, 10, 29, 185, 0, 49, 2, 0]
abbrev dktX1_withSize_1 : List UInt8 := dkwX1_withSize_1 ++ dktX1_withSize_2
def dkwX1_withSize_0 : List UInt8 := [3, 61, 3, 62, 29, 42, 180, 0, 10, 185, 0, 39, 1, 0, 162, 0, 56, 28, 42, 180, 0, 10, 29]
abbrev dktX1_withSize_0 : List UInt8 := dkwX1_withSize_0 ++ dktX1_withSize_1
theorem dksX1_withSize_0 : cX1_withSize.data.toList.drop 0 = dktX1_withSize_0 := by decide +kernel
theorem dksX1_withSize_1 : cX1_withSize.data.toList.drop 23 = dktX1_withSize_1 := dk_seg dksX1_withSize_0 23 rfl rfl
theorem dksX1_withSize_2 : cX1_withSize.data.toList.drop 47 = dktX1_withSize_2 := dk_seg dksX1_withSize_1 24 rfl rfl
theorem dksX1_withSize_3 : cX1_withSize.data.toList.drop 71 = dktX1_withSize_3 := dk_seg dksX1_withSize_2 24 rfl rfl
theorem dX1_withSize_0 : decode cX1_withSize 0 = .ok (.iconst 0, 1) := dk_3 (dk_at dksX1_withSize_0 0 rfl rfl)
theorem dX1_withSize_1 : decode cX1_withSize 1 = .ok (.istore_n 2, 1) := dk_61 (dk_at dksX1_withSize_0 1 rfl rfl)
theorem dX1_withSize_2 : decode cX1_withSize 2 = .ok (.iconst 0, 1) := dk_3 (dk_at dksX1_withSize_0 2 rfl rfl)
theorem dX1_withSize_3 : decode cX1_withSize 3 = .ok (.istore_n 3, 1) := dk_62 (dk_at dksX1_withSize_0 3 rfl rfl)
theorem dX1_withSize_4 : decode cX1_withSize 4 = .ok (.iload_n 3, 1) := dk_29 (dk_at dksX1_withSize_0 4 rfl rfl)
theorem dX1_withSize_5 : decode cX1_withSize 5 = .ok (.aload_n 0, 1) := dk_42 (dk_at dksX1_withSize_0 5 rfl rfl)
theorem dX1_withSize_6 : decode cX1_withSize 6 = .ok (.getfield 10, 3) := dk_180 0 10 (dk_at dksX1_withSize_0 6 rfl rfl)
theorem dX1_withSize_9 : decode cX1_withSize 9 = .ok (.invokeinterface 39 1, 5) := by decide +kernel
theorem dX1_withSize_14 : decode cX1_withSize 14 = .ok (.if_icmp .ge 56, 3) := dk_162 0 56 (dk_at dksX1_withSize_0 14 rfl rfl)
theorem dX1_withSize_17 : decode cX1_withSize 17 = .ok (.iload_n 2, 1) := dk_28 (dk_at dksX1_withSize_0 17 rfl rfl)
theorem dX1_withSize_18 : decode cX1_withSize 18 = .ok (.aload_n 0, 1) := dk_42 (dk_at dksX1_withSize_0 18 rfl rfl)
theorem dX1_withSize_19 : decode cX1_withSize 19 = .ok (.getfield 10, 3) := dk_180 0 10 (dk_at dksX1_withSize_0 19 rfl rfl)
theorem dX1_withSize_22 : decode cX1_withSize 22 = .ok (.iload_n 3, 1) := dk_29 (dk_at dksX1_withSize_0 22 rfl rfl)
theorem dX1_withSize_23 : decode cX1_withSize 23 = .ok (.invokeinterface 49 2, 5) := by decide +kernel
theorem dX1_withSize_28 : decode cX1_withSize 28 = .ok (.checkcast 53, 3) := dk_192 0 53 (dk_at dksX1_withSize_1 5 rfl rfl)
theorem dX1_withSize_31 : decode cX1_withSize 31 = .ok (.getfield 55, 3) := dk_180 0 55 (dk_at dksX1_withSize_1 8 rfl rfl)
theorem dX1_withSize_34 : decode cX1_withSize 34 = .ok (.ifCond .ne 27, 3) := dk_154 0 27 (dk_at dksX1_withSize_1 11 rfl rfl)
theorem dX1_withSize_37 : decode cX1_withSize 37 = .ok (.aload_n 0, 1) := dk_42 (dk_at dksX1_withSize_1 14 rfl rfl)
theorem dX1_withSize_38 : decode cX1_withSize 38 = .ok (.getfield 10, 3) := dk_180 0 10 (dk_at dksX1_withSize_1 15 rfl rfl)
theorem dX1_withSize_41 : decode cX1_withSize 41 = .ok (.iload_n 3, 1) := dk_29 (dk_at dksX1_withSize_1 18 rfl rfl)
theorem dX1_withSize_42 : decode cX1_withSize 42 = .ok (.invokeinterface 49 2, 5) := by decide +kernel
theorem dX1_withSize_47 : decode cX1_withSize 47 = .ok (.checkcast 53, 3) := dk_192 0 53 (dk_at dksX1_withSize_2 0 rfl rfl)
theorem dX1_withSize_50 : decode cX1_withSize 50 = .ok (.invokevirtual 189, 3) := dk_182 0 189 (dk_at dksX1_withSize_2 3 rfl rfl)
theorem dX1_withSize_53 : decode cX1_withSize 53 = .ok (.iload_n 1, 1) := dk_27 (dk_at dksX1_withSize_2 6 rfl rfl)
theorem dX1_withSize_54 : decode cX1_withSize 54 = .ok (.if_icmp .ne 7, 3) := dk_160 0 7 (dk_at dksX1_withSize_2 7 rfl rfl)
theorem dX1_withSize_57 : decode cX1_withSize 57 = .ok (.iconst 1, 1) := dk_4 (dk_at dksX1_withSize_2 10 rfl rfl)
theorem dX1_withSize_58 : decode cX1_withSize 58 = .ok (.goto 4, 3) := dk_167 0 4 (dk_at dksX1_withSize_2 11 rfl rfl)
theorem dX1_withSize_61 : decode cX1_withSize 61 = .ok (.iconst 0, 1) := dk_3 (dk_at dksX1_withSize_2 14 rfl rfl)
theorem dX1_withSize_62 : decode cX1_withSize 62 = .ok (.iadd, 1) := dk_96 (dk_at dksX1_withSize_2 15 rfl rfl)
theorem dX1_withSize_63 : decode cX1_withSize 63 = .ok (.istore_n 2, 1) := dk_61 (dk_at dksX1_withSize_2 16 rfl rfl)
theorem dX1_withSize_64 : decode cX1_withSize 64 = .ok (.iinc 3 1, 3) := dk_132 3 1 (dk_at dksX1_withSize_2 17 rfl rfl)
theorem dX1_withSize_67 : decode cX1_withSize 67 = .ok (.goto (-63), 3) := dk_167 255 193 (dk_at dksX1_withSize_2 20 rfl rfl)
theorem dX1_withSize_70 : decode cX1_withSize 70 = .ok (.iload_n 2, 1) := dk_28 (dk_at dksX1_withSize_2 23 rfl rfl)
theorem dX1_withSize_71 : decode cX1_withSize 71 = .ok (.ireturn, 1) := dk_172 (dk_at dksX1_withSize_3 0 rfl rfl)
abbrev cX1_minute : ByteArray := prog_1_method_26_code
def yX1_minute : MethodName := ⟨RX1, "minute", "()I"⟩
theorem dX1_minute_0 : decode cX1_minute 0 = .ok (.aload_n 0, 1) := by decide +kernel
theorem dX1_minute_1 : decode cX1_minute 1 = .ok (.getfield 117, 3) := by decide +kernel
theorem dX1_minute_4 : decode cX1_minute 4 = .ok (.ireturn, 1) := by decide +kernel
abbrev cX1_question : ByteArray := prog_1_method_7_code
def yX1_question : MethodName := ⟨RX1, "question", "()I"⟩
def dkwX1_question_2 : List UInt8 := [185, 0, 39, 1, 0, 4, 100, 172]
abbrev dktX1_question_2 : List UInt8 := dkwX1_question_2 ++ []
def dkwX1_question_1 : List UInt8 := [180, 0, 10, 187, 0, 53, 89, 183, 0, 63, 185, 0, 64, 2, 0, 87, 42, 180, 0, 10]
abbrev dktX1_question_1 : List UInt8 := dkwX1_question_1 ++ dktX1_question_2
def dkwX1_question_0 : List UInt8 := [42, 180, 0, 10, 185, 0, 39, 1, 0, 16, 20, 162, 0, 7, 4, 167, 0, 4, 3, 184, 0, 59, 42]
abbrev dktX1_question_0 : List UInt8 := dkwX1_question_0 ++ dktX1_question_1
theorem dksX1_question_0 : cX1_question.data.toList.drop 0 = dktX1_question_0 := by decide +kernel
theorem dksX1_question_1 : cX1_question.data.toList.drop 23 = dktX1_question_1 := dk_seg dksX1_question_0 23 rfl rfl
theorem dksX1_question_2 : cX1_question.data.toList.drop 43 = dktX1_question_2 := dk_seg dksX1_question_1 20 rfl rfl
theorem dX1_question_0 : decode cX1_question 0 = .ok (.aload_n 0, 1) := dk_42 (dk_at dksX1_question_0 0 rfl rfl)
theorem dX1_question_1 : decode cX1_question 1 = .ok (.getfield 10, 3) := dk_180 0 10 (dk_at dksX1_question_0 1 rfl rfl)
theorem dX1_question_4 : decode cX1_question 4 = .ok (.invokeinterface 39 1, 5) := by decide +kernel
theorem dX1_question_9 : decode cX1_question 9 = .ok (.bipush 20, 2) := dk_16 20 (dk_at dksX1_question_0 9 rfl rfl)
theorem dX1_question_11 : decode cX1_question 11 = .ok (.if_icmp .ge 7, 3) := dk_162 0 7 (dk_at dksX1_question_0 11 rfl rfl)
theorem dX1_question_14 : decode cX1_question 14 = .ok (.iconst 1, 1) := dk_4 (dk_at dksX1_question_0 14 rfl rfl)
theorem dX1_question_15 : decode cX1_question 15 = .ok (.goto 4, 3) := dk_167 0 4 (dk_at dksX1_question_0 15 rfl rfl)
theorem dX1_question_18 : decode cX1_question 18 = .ok (.iconst 0, 1) := dk_3 (dk_at dksX1_question_0 18 rfl rfl)
theorem dX1_question_19 : decode cX1_question 19 = .ok (.invokestatic 59, 3) := dk_184 0 59 (dk_at dksX1_question_0 19 rfl rfl)
theorem dX1_question_22 : decode cX1_question 22 = .ok (.aload_n 0, 1) := dk_42 (dk_at dksX1_question_0 22 rfl rfl)
theorem dX1_question_23 : decode cX1_question 23 = .ok (.getfield 10, 3) := dk_180 0 10 (dk_at dksX1_question_1 0 rfl rfl)
theorem dX1_question_26 : decode cX1_question 26 = .ok (.new 53, 3) := dk_187 0 53 (dk_at dksX1_question_1 3 rfl rfl)
theorem dX1_question_29 : decode cX1_question 29 = .ok (.dup, 1) := dk_89 (dk_at dksX1_question_1 6 rfl rfl)
theorem dX1_question_30 : decode cX1_question 30 = .ok (.invokespecial 63, 3) := dk_183 0 63 (dk_at dksX1_question_1 7 rfl rfl)
theorem dX1_question_33 : decode cX1_question 33 = .ok (.invokeinterface 64 2, 5) := by decide +kernel
theorem dX1_question_38 : decode cX1_question 38 = .ok (.pop, 1) := dk_87 (dk_at dksX1_question_1 15 rfl rfl)
theorem dX1_question_39 : decode cX1_question 39 = .ok (.aload_n 0, 1) := dk_42 (dk_at dksX1_question_1 16 rfl rfl)
theorem dX1_question_40 : decode cX1_question 40 = .ok (.getfield 10, 3) := dk_180 0 10 (dk_at dksX1_question_1 17 rfl rfl)
theorem dX1_question_43 : decode cX1_question 43 = .ok (.invokeinterface 39 1, 5) := by decide +kernel
theorem dX1_question_48 : decode cX1_question 48 = .ok (.iconst 1, 1) := dk_4 (dk_at dksX1_question_2 5 rfl rfl)
theorem dX1_question_49 : decode cX1_question 49 = .ok (.isub, 1) := dk_100 (dk_at dksX1_question_2 6 rfl rfl)
theorem dX1_question_50 : decode cX1_question 50 = .ok (.ireturn, 1) := dk_172 (dk_at dksX1_question_2 7 rfl rfl)
abbrev cX1_allow : ByteArray := prog_1_method_3_code
def yX1_allow : MethodName := ⟨RX1, "allow", "(Z)V"⟩
def dkwX1_allow_0 : List UInt8 := [26, 154, 0, 11, 187, 0, 33, 89, 183, 0, 35, 191, 177]
abbrev dktX1_allow_0 : List UInt8 := dkwX1_allow_0 ++ []
theorem dksX1_allow_0 : cX1_allow.data.toList.drop 0 = dktX1_allow_0 := by decide +kernel
theorem dX1_allow_0 : decode cX1_allow 0 = .ok (.iload_n 0, 1) := dk_26 (dk_at dksX1_allow_0 0 rfl rfl)
theorem dX1_allow_1 : decode cX1_allow 1 = .ok (.ifCond .ne 11, 3) := dk_154 0 11 (dk_at dksX1_allow_0 1 rfl rfl)
theorem dX1_allow_4 : decode cX1_allow 4 = .ok (.new 33, 3) := dk_187 0 33 (dk_at dksX1_allow_0 4 rfl rfl)
theorem dX1_allow_7 : decode cX1_allow 7 = .ok (.dup, 1) := dk_89 (dk_at dksX1_allow_0 7 rfl rfl)
theorem dX1_allow_8 : decode cX1_allow 8 = .ok (.invokespecial 35, 3) := dk_183 0 35 (dk_at dksX1_allow_0 8 rfl rfl)
theorem dX1_allow_11 : decode cX1_allow 11 = .ok (.athrow, 1) := dk_191 (dk_at dksX1_allow_0 11 rfl rfl)
theorem dX1_allow_12 : decode cX1_allow 12 = .ok (.return_, 1) := dk_177 (dk_at dksX1_allow_0 12 rfl rfl)
abbrev cX1_product : ByteArray := prog_1_method_8_code
def yX1_product : MethodName := ⟨RX1, "product", "(I)I"⟩
def dkwX1_product_2 : List UInt8 := [180, 0, 27, 45, 185, 0, 64, 2, 0, 87, 44, 180, 0, 72, 185, 0, 39, 1, 0, 172]
abbrev dktX1_product_2 : List UInt8 := dkwX1_product_2 ++ []
def dkwX1_product_1 : List UInt8 := [184, 0, 59, 187, 0, 75, 89, 27, 183, 0, 77, 78, 44, 180, 0, 72, 45, 185, 0, 64, 2, 0, 87, 42]
abbrev dktX1_product_1 : List UInt8 := dkwX1_product_1 ++ dktX1_product_2
def dkwX1_product_0 : List UInt8 := [42, 27, 182, 0, 68, 77, 44, 180, 0, 72, 185, 0, 39, 1, 0, 6, 162, 0, 7, 4, 167, 0, 4, 3]
abbrev dktX1_product_0 : List UInt8 := dkwX1_product_0 ++ dktX1_product_1
theorem dksX1_product_0 : cX1_product.data.toList.drop 0 = dktX1_product_0 := by decide +kernel
theorem dksX1_product_1 : cX1_product.data.toList.drop 24 = dktX1_product_1 := dk_seg dksX1_product_0 24 rfl rfl
theorem dksX1_product_2 : cX1_product.data.toList.drop 48 = dktX1_product_2 := dk_seg dksX1_product_1 24 rfl rfl
theorem dX1_product_0 : decode cX1_product 0 = .ok (.aload_n 0, 1) := dk_42 (dk_at dksX1_product_0 0 rfl rfl)
theorem dX1_product_1 : decode cX1_product 1 = .ok (.iload_n 1, 1) := dk_27 (dk_at dksX1_product_0 1 rfl rfl)
theorem dX1_product_2 : decode cX1_product 2 = .ok (.invokevirtual 68, 3) := dk_182 0 68 (dk_at dksX1_product_0 2 rfl rfl)
theorem dX1_product_5 : decode cX1_product 5 = .ok (.astore_n 2, 1) := dk_77 (dk_at dksX1_product_0 5 rfl rfl)
theorem dX1_product_6 : decode cX1_product 6 = .ok (.aload_n 2, 1) := dk_44 (dk_at dksX1_product_0 6 rfl rfl)
theorem dX1_product_7 : decode cX1_product 7 = .ok (.getfield 72, 3) := dk_180 0 72 (dk_at dksX1_product_0 7 rfl rfl)
theorem dX1_product_10 : decode cX1_product 10 = .ok (.invokeinterface 39 1, 5) := by decide +kernel
theorem dX1_product_15 : decode cX1_product 15 = .ok (.iconst 3, 1) := dk_6 (dk_at dksX1_product_0 15 rfl rfl)
theorem dX1_product_16 : decode cX1_product 16 = .ok (.if_icmp .ge 7, 3) := dk_162 0 7 (dk_at dksX1_product_0 16 rfl rfl)
theorem dX1_product_19 : decode cX1_product 19 = .ok (.iconst 1, 1) := dk_4 (dk_at dksX1_product_0 19 rfl rfl)
theorem dX1_product_20 : decode cX1_product 20 = .ok (.goto 4, 3) := dk_167 0 4 (dk_at dksX1_product_0 20 rfl rfl)
theorem dX1_product_23 : decode cX1_product 23 = .ok (.iconst 0, 1) := dk_3 (dk_at dksX1_product_0 23 rfl rfl)
theorem dX1_product_24 : decode cX1_product 24 = .ok (.invokestatic 59, 3) := dk_184 0 59 (dk_at dksX1_product_1 0 rfl rfl)
theorem dX1_product_27 : decode cX1_product 27 = .ok (.new 75, 3) := dk_187 0 75 (dk_at dksX1_product_1 3 rfl rfl)
theorem dX1_product_30 : decode cX1_product 30 = .ok (.dup, 1) := dk_89 (dk_at dksX1_product_1 6 rfl rfl)
theorem dX1_product_31 : decode cX1_product 31 = .ok (.iload_n 1, 1) := dk_27 (dk_at dksX1_product_1 7 rfl rfl)
theorem dX1_product_32 : decode cX1_product 32 = .ok (.invokespecial 77, 3) := dk_183 0 77 (dk_at dksX1_product_1 8 rfl rfl)
theorem dX1_product_35 : decode cX1_product 35 = .ok (.astore_n 3, 1) := dk_78 (dk_at dksX1_product_1 11 rfl rfl)
theorem dX1_product_36 : decode cX1_product 36 = .ok (.aload_n 2, 1) := dk_44 (dk_at dksX1_product_1 12 rfl rfl)
theorem dX1_product_37 : decode cX1_product 37 = .ok (.getfield 72, 3) := dk_180 0 72 (dk_at dksX1_product_1 13 rfl rfl)
theorem dX1_product_40 : decode cX1_product 40 = .ok (.aload_n 3, 1) := dk_45 (dk_at dksX1_product_1 16 rfl rfl)
theorem dX1_product_41 : decode cX1_product 41 = .ok (.invokeinterface 64 2, 5) := by decide +kernel
theorem dX1_product_46 : decode cX1_product 46 = .ok (.pop, 1) := dk_87 (dk_at dksX1_product_1 22 rfl rfl)
theorem dX1_product_47 : decode cX1_product 47 = .ok (.aload_n 0, 1) := dk_42 (dk_at dksX1_product_1 23 rfl rfl)
theorem dX1_product_48 : decode cX1_product 48 = .ok (.getfield 27, 3) := dk_180 0 27 (dk_at dksX1_product_2 0 rfl rfl)
theorem dX1_product_51 : decode cX1_product 51 = .ok (.aload_n 3, 1) := dk_45 (dk_at dksX1_product_2 3 rfl rfl)
theorem dX1_product_52 : decode cX1_product 52 = .ok (.invokeinterface 64 2, 5) := by decide +kernel
theorem dX1_product_57 : decode cX1_product 57 = .ok (.pop, 1) := dk_87 (dk_at dksX1_product_2 9 rfl rfl)
theorem dX1_product_58 : decode cX1_product 58 = .ok (.aload_n 2, 1) := dk_44 (dk_at dksX1_product_2 10 rfl rfl)
theorem dX1_product_59 : decode cX1_product 59 = .ok (.getfield 72, 3) := dk_180 0 72 (dk_at dksX1_product_2 11 rfl rfl)
theorem dX1_product_62 : decode cX1_product 62 = .ok (.invokeinterface 39 1, 5) := by decide +kernel
theorem dX1_product_67 : decode cX1_product 67 = .ok (.ireturn, 1) := dk_172 (dk_at dksX1_product_2 19 rfl rfl)
abbrev cX1_find : ByteArray := prog_1_method_6_code
def yX1_find : MethodName := ⟨RX1, "find", "(I)LAlertIndex$Question;"⟩
def dkwX1_find_1 : List UInt8 := [192, 0, 53, 77, 44, 180, 0, 55, 153, 0, 7, 2, 167, 0, 4, 3, 4, 184, 0, 45, 44, 176]
abbrev dktX1_find_1 : List UInt8 := dkwX1_find_1 ++ []
def dkwX1_find_0 : List UInt8 := [27, 42, 180, 0, 10, 185, 0, 39, 1, 0, 184, 0, 45, 42, 180, 0, 10, 27, 185, 0, 49, 2, 0]
abbrev dktX1_find_0 : List UInt8 := dkwX1_find_0 ++ dktX1_find_1
theorem dksX1_find_0 : cX1_find.data.toList.drop 0 = dktX1_find_0 := by decide +kernel
theorem dksX1_find_1 : cX1_find.data.toList.drop 23 = dktX1_find_1 := dk_seg dksX1_find_0 23 rfl rfl
theorem dX1_find_0 : decode cX1_find 0 = .ok (.iload_n 1, 1) := dk_27 (dk_at dksX1_find_0 0 rfl rfl)
theorem dX1_find_1 : decode cX1_find 1 = .ok (.aload_n 0, 1) := dk_42 (dk_at dksX1_find_0 1 rfl rfl)
theorem dX1_find_2 : decode cX1_find 2 = .ok (.getfield 10, 3) := dk_180 0 10 (dk_at dksX1_find_0 2 rfl rfl)
theorem dX1_find_5 : decode cX1_find 5 = .ok (.invokeinterface 39 1, 5) := by decide +kernel
theorem dX1_find_10 : decode cX1_find 10 = .ok (.invokestatic 45, 3) := dk_184 0 45 (dk_at dksX1_find_0 10 rfl rfl)
theorem dX1_find_13 : decode cX1_find 13 = .ok (.aload_n 0, 1) := dk_42 (dk_at dksX1_find_0 13 rfl rfl)
theorem dX1_find_14 : decode cX1_find 14 = .ok (.getfield 10, 3) := dk_180 0 10 (dk_at dksX1_find_0 14 rfl rfl)
theorem dX1_find_17 : decode cX1_find 17 = .ok (.iload_n 1, 1) := dk_27 (dk_at dksX1_find_0 17 rfl rfl)
theorem dX1_find_18 : decode cX1_find 18 = .ok (.invokeinterface 49 2, 5) := by decide +kernel
theorem dX1_find_23 : decode cX1_find 23 = .ok (.checkcast 53, 3) := dk_192 0 53 (dk_at dksX1_find_1 0 rfl rfl)
theorem dX1_find_26 : decode cX1_find 26 = .ok (.astore_n 2, 1) := dk_77 (dk_at dksX1_find_1 3 rfl rfl)
theorem dX1_find_27 : decode cX1_find 27 = .ok (.aload_n 2, 1) := dk_44 (dk_at dksX1_find_1 4 rfl rfl)
theorem dX1_find_28 : decode cX1_find 28 = .ok (.getfield 55, 3) := dk_180 0 55 (dk_at dksX1_find_1 5 rfl rfl)
theorem dX1_find_31 : decode cX1_find 31 = .ok (.ifCond .eq 7, 3) := dk_153 0 7 (dk_at dksX1_find_1 8 rfl rfl)
theorem dX1_find_34 : decode cX1_find 34 = .ok (.iconst (-1), 1) := dk_2 (dk_at dksX1_find_1 11 rfl rfl)
theorem dX1_find_35 : decode cX1_find 35 = .ok (.goto 4, 3) := dk_167 0 4 (dk_at dksX1_find_1 12 rfl rfl)
theorem dX1_find_38 : decode cX1_find 38 = .ok (.iconst 0, 1) := dk_3 (dk_at dksX1_find_1 15 rfl rfl)
theorem dX1_find_39 : decode cX1_find 39 = .ok (.iconst 1, 1) := dk_4 (dk_at dksX1_find_1 16 rfl rfl)
theorem dX1_find_40 : decode cX1_find 40 = .ok (.invokestatic 45, 3) := dk_184 0 45 (dk_at dksX1_find_1 17 rfl rfl)
theorem dX1_find_43 : decode cX1_find 43 = .ok (.aload_n 2, 1) := dk_44 (dk_at dksX1_find_1 20 rfl rfl)
theorem dX1_find_44 : decode cX1_find 44 = .ok (.areturn, 1) := dk_176 (dk_at dksX1_find_1 21 rfl rfl)
abbrev cX1_exists : ByteArray := prog_1_method_4_code
def yX1_exists : MethodName := ⟨RX1, "exists", "(II)V"⟩
def dkwX1_exists_0 : List UInt8 := [26, 155, 0, 8, 26, 27, 161, 0, 11, 187, 0, 36, 89, 183, 0, 38, 191, 177]
abbrev dktX1_exists_0 : List UInt8 := dkwX1_exists_0 ++ []
theorem dksX1_exists_0 : cX1_exists.data.toList.drop 0 = dktX1_exists_0 := by decide +kernel
theorem dX1_exists_0 : decode cX1_exists 0 = .ok (.iload_n 0, 1) := dk_26 (dk_at dksX1_exists_0 0 rfl rfl)
theorem dX1_exists_1 : decode cX1_exists 1 = .ok (.ifCond .lt 8, 3) := dk_155 0 8 (dk_at dksX1_exists_0 1 rfl rfl)
theorem dX1_exists_4 : decode cX1_exists 4 = .ok (.iload_n 0, 1) := dk_26 (dk_at dksX1_exists_0 4 rfl rfl)
theorem dX1_exists_5 : decode cX1_exists 5 = .ok (.iload_n 1, 1) := dk_27 (dk_at dksX1_exists_0 5 rfl rfl)
theorem dX1_exists_6 : decode cX1_exists 6 = .ok (.if_icmp .lt 11, 3) := dk_161 0 11 (dk_at dksX1_exists_0 6 rfl rfl)
theorem dX1_exists_9 : decode cX1_exists 9 = .ok (.new 36, 3) := dk_187 0 36 (dk_at dksX1_exists_0 9 rfl rfl)
theorem dX1_exists_12 : decode cX1_exists 12 = .ok (.dup, 1) := dk_89 (dk_at dksX1_exists_0 12 rfl rfl)
theorem dX1_exists_13 : decode cX1_exists 13 = .ok (.invokespecial 38, 3) := dk_183 0 38 (dk_at dksX1_exists_0 13 rfl rfl)
theorem dX1_exists_16 : decode cX1_exists 16 = .ok (.athrow, 1) := dk_191 (dk_at dksX1_exists_0 16 rfl rfl)
theorem dX1_exists_17 : decode cX1_exists 17 = .ok (.return_, 1) := dk_177 (dk_at dksX1_exists_0 17 rfl rfl)
abbrev cX1_test : ByteArray := prog_1_method_9_code
def yX1_test : MethodName := ⟨RX1, "test", "(IIIIZ)I"⟩
def dkwX1_test_7 : List UInt8 := [180, 0, 91, 185, 0, 39, 1, 0, 172]
abbrev dktX1_test_7 : List UInt8 := dkwX1_test_7 ++ []
def dkwX1_test_6 : List UInt8 := [193, 0, 100, 153, 0, 18, 25, 8, 192, 0, 100, 58, 9, 42, 25, 7, 25, 9, 182, 0, 102, 25, 7]
abbrev dktX1_test_6 : List UInt8 := dkwX1_test_6 ++ dktX1_test_7
def dkwX1_test_5 : List UInt8 := [21, 5, 184, 0, 94, 58, 8, 25, 7, 180, 0, 91, 25, 8, 185, 0, 64, 2, 0, 87, 25, 8]
abbrev dktX1_test_5 : List UInt8 := dkwX1_test_5 ++ dktX1_test_6
def dkwX1_test_4 : List UInt8 := [180, 0, 91, 185, 0, 39, 1, 0, 7, 162, 0, 7, 4, 167, 0, 4, 3, 184, 0, 59, 28, 29, 21, 4]
abbrev dktX1_test_4 : List UInt8 := dkwX1_test_4 ++ dktX1_test_5
def dkwX1_test_3 : List UInt8 := [180, 0, 72, 185, 0, 39, 1, 0, 4, 100, 185, 0, 49, 2, 0, 192, 0, 75, 58, 7, 25, 7]
abbrev dktX1_test_3 : List UInt8 := dkwX1_test_3 ++ dktX1_test_4
def dkwX1_test_2 : List UInt8 := [185, 0, 87, 1, 0, 154, 0, 7, 4, 167, 0, 4, 3, 184, 0, 59, 25, 6, 180, 0, 72, 25, 6]
abbrev dktX1_test_2 : List UInt8 := dkwX1_test_2 ++ dktX1_test_3
def dkwX1_test_1 : List UInt8 := [21, 4, 29, 16, 63, 184, 0, 80, 153, 0, 7, 4, 167, 0, 4, 3, 184, 0, 84, 25, 6, 180, 0, 72]
abbrev dktX1_test_1 : List UInt8 := dkwX1_test_1 ++ dktX1_test_2
def dkwX1_test_0 : List UInt8 := [42, 27, 182, 0, 68, 58, 6, 28, 16, 6, 184, 0, 45, 29, 3, 16, 63, 184, 0, 80, 153, 0, 18]
abbrev dktX1_test_0 : List UInt8 := dkwX1_test_0 ++ dktX1_test_1
theorem dksX1_test_0 : cX1_test.data.toList.drop 0 = dktX1_test_0 := by decide +kernel
theorem dksX1_test_1 : cX1_test.data.toList.drop 23 = dktX1_test_1 := dk_seg dksX1_test_0 23 rfl rfl
theorem dksX1_test_2 : cX1_test.data.toList.drop 47 = dktX1_test_2 := dk_seg dksX1_test_1 24 rfl rfl
theorem dksX1_test_3 : cX1_test.data.toList.drop 70 = dktX1_test_3 := dk_seg dksX1_test_2 23 rfl rfl
theorem dksX1_test_4 : cX1_test.data.toList.drop 92 = dktX1_test_4 := dk_seg dksX1_test_3 22 rfl rfl
theorem dksX1_test_5 : cX1_test.data.toList.drop 116 = dktX1_test_5 := dk_seg dksX1_test_4 24 rfl rfl
theorem dksX1_test_6 : cX1_test.data.toList.drop 138 = dktX1_test_6 := dk_seg dksX1_test_5 22 rfl rfl
theorem dksX1_test_7 : cX1_test.data.toList.drop 161 = dktX1_test_7 := dk_seg dksX1_test_6 23 rfl rfl
theorem dX1_test_0 : decode cX1_test 0 = .ok (.aload_n 0, 1) := dk_42 (dk_at dksX1_test_0 0 rfl rfl)
theorem dX1_test_1 : decode cX1_test 1 = .ok (.iload_n 1, 1) := dk_27 (dk_at dksX1_test_0 1 rfl rfl)
theorem dX1_test_2 : decode cX1_test 2 = .ok (.invokevirtual 68, 3) := dk_182 0 68 (dk_at dksX1_test_0 2 rfl rfl)
theorem dX1_test_5 : decode cX1_test 5 = .ok (.astore 6, 2) := dk_58 6 (dk_at dksX1_test_0 5 rfl rfl)
theorem dX1_test_7 : decode cX1_test 7 = .ok (.iload_n 2, 1) := dk_28 (dk_at dksX1_test_0 7 rfl rfl)
theorem dX1_test_8 : decode cX1_test 8 = .ok (.bipush 6, 2) := dk_16 6 (dk_at dksX1_test_0 8 rfl rfl)
theorem dX1_test_10 : decode cX1_test 10 = .ok (.invokestatic 45, 3) := dk_184 0 45 (dk_at dksX1_test_0 10 rfl rfl)
theorem dX1_test_13 : decode cX1_test 13 = .ok (.iload_n 3, 1) := dk_29 (dk_at dksX1_test_0 13 rfl rfl)
theorem dX1_test_14 : decode cX1_test 14 = .ok (.iconst 0, 1) := dk_3 (dk_at dksX1_test_0 14 rfl rfl)
theorem dX1_test_15 : decode cX1_test 15 = .ok (.bipush 63, 2) := dk_16 63 (dk_at dksX1_test_0 15 rfl rfl)
theorem dX1_test_17 : decode cX1_test 17 = .ok (.invokestatic 80, 3) := dk_184 0 80 (dk_at dksX1_test_0 17 rfl rfl)
theorem dX1_test_20 : decode cX1_test 20 = .ok (.ifCond .eq 18, 3) := dk_153 0 18 (dk_at dksX1_test_0 20 rfl rfl)
theorem dX1_test_23 : decode cX1_test 23 = .ok (.iload 4, 2) := dk_21 4 (dk_at dksX1_test_1 0 rfl rfl)
theorem dX1_test_25 : decode cX1_test 25 = .ok (.iload_n 3, 1) := dk_29 (dk_at dksX1_test_1 2 rfl rfl)
theorem dX1_test_26 : decode cX1_test 26 = .ok (.bipush 63, 2) := dk_16 63 (dk_at dksX1_test_1 3 rfl rfl)
theorem dX1_test_28 : decode cX1_test 28 = .ok (.invokestatic 80, 3) := dk_184 0 80 (dk_at dksX1_test_1 5 rfl rfl)
theorem dX1_test_31 : decode cX1_test 31 = .ok (.ifCond .eq 7, 3) := dk_153 0 7 (dk_at dksX1_test_1 8 rfl rfl)
theorem dX1_test_34 : decode cX1_test 34 = .ok (.iconst 1, 1) := dk_4 (dk_at dksX1_test_1 11 rfl rfl)
theorem dX1_test_35 : decode cX1_test 35 = .ok (.goto 4, 3) := dk_167 0 4 (dk_at dksX1_test_1 12 rfl rfl)
theorem dX1_test_38 : decode cX1_test 38 = .ok (.iconst 0, 1) := dk_3 (dk_at dksX1_test_1 15 rfl rfl)
theorem dX1_test_39 : decode cX1_test 39 = .ok (.invokestatic 84, 3) := dk_184 0 84 (dk_at dksX1_test_1 16 rfl rfl)
theorem dX1_test_42 : decode cX1_test 42 = .ok (.aload 6, 2) := dk_25 6 (dk_at dksX1_test_1 19 rfl rfl)
theorem dX1_test_44 : decode cX1_test 44 = .ok (.getfield 72, 3) := dk_180 0 72 (dk_at dksX1_test_1 21 rfl rfl)
theorem dX1_test_47 : decode cX1_test 47 = .ok (.invokeinterface 87 1, 5) := by decide +kernel
theorem dX1_test_52 : decode cX1_test 52 = .ok (.ifCond .ne 7, 3) := dk_154 0 7 (dk_at dksX1_test_2 5 rfl rfl)
theorem dX1_test_55 : decode cX1_test 55 = .ok (.iconst 1, 1) := dk_4 (dk_at dksX1_test_2 8 rfl rfl)
theorem dX1_test_56 : decode cX1_test 56 = .ok (.goto 4, 3) := dk_167 0 4 (dk_at dksX1_test_2 9 rfl rfl)
theorem dX1_test_59 : decode cX1_test 59 = .ok (.iconst 0, 1) := dk_3 (dk_at dksX1_test_2 12 rfl rfl)
theorem dX1_test_60 : decode cX1_test 60 = .ok (.invokestatic 59, 3) := dk_184 0 59 (dk_at dksX1_test_2 13 rfl rfl)
theorem dX1_test_63 : decode cX1_test 63 = .ok (.aload 6, 2) := dk_25 6 (dk_at dksX1_test_2 16 rfl rfl)
theorem dX1_test_65 : decode cX1_test 65 = .ok (.getfield 72, 3) := dk_180 0 72 (dk_at dksX1_test_2 18 rfl rfl)
theorem dX1_test_68 : decode cX1_test 68 = .ok (.aload 6, 2) := dk_25 6 (dk_at dksX1_test_2 21 rfl rfl)
theorem dX1_test_70 : decode cX1_test 70 = .ok (.getfield 72, 3) := dk_180 0 72 (dk_at dksX1_test_3 0 rfl rfl)
theorem dX1_test_73 : decode cX1_test 73 = .ok (.invokeinterface 39 1, 5) := by decide +kernel
theorem dX1_test_78 : decode cX1_test 78 = .ok (.iconst 1, 1) := dk_4 (dk_at dksX1_test_3 8 rfl rfl)
theorem dX1_test_79 : decode cX1_test 79 = .ok (.isub, 1) := dk_100 (dk_at dksX1_test_3 9 rfl rfl)
theorem dX1_test_80 : decode cX1_test 80 = .ok (.invokeinterface 49 2, 5) := by decide +kernel
theorem dX1_test_85 : decode cX1_test 85 = .ok (.checkcast 75, 3) := dk_192 0 75 (dk_at dksX1_test_3 15 rfl rfl)
theorem dX1_test_88 : decode cX1_test 88 = .ok (.astore 7, 2) := dk_58 7 (dk_at dksX1_test_3 18 rfl rfl)
theorem dX1_test_90 : decode cX1_test 90 = .ok (.aload 7, 2) := dk_25 7 (dk_at dksX1_test_3 20 rfl rfl)
theorem dX1_test_92 : decode cX1_test 92 = .ok (.getfield 91, 3) := dk_180 0 91 (dk_at dksX1_test_4 0 rfl rfl)
theorem dX1_test_95 : decode cX1_test 95 = .ok (.invokeinterface 39 1, 5) := by decide +kernel
theorem dX1_test_100 : decode cX1_test 100 = .ok (.iconst 4, 1) := dk_7 (dk_at dksX1_test_4 8 rfl rfl)
theorem dX1_test_101 : decode cX1_test 101 = .ok (.if_icmp .ge 7, 3) := dk_162 0 7 (dk_at dksX1_test_4 9 rfl rfl)
theorem dX1_test_104 : decode cX1_test 104 = .ok (.iconst 1, 1) := dk_4 (dk_at dksX1_test_4 12 rfl rfl)
theorem dX1_test_105 : decode cX1_test 105 = .ok (.goto 4, 3) := dk_167 0 4 (dk_at dksX1_test_4 13 rfl rfl)
theorem dX1_test_108 : decode cX1_test 108 = .ok (.iconst 0, 1) := dk_3 (dk_at dksX1_test_4 16 rfl rfl)
theorem dX1_test_109 : decode cX1_test 109 = .ok (.invokestatic 59, 3) := dk_184 0 59 (dk_at dksX1_test_4 17 rfl rfl)
theorem dX1_test_112 : decode cX1_test 112 = .ok (.iload_n 2, 1) := dk_28 (dk_at dksX1_test_4 20 rfl rfl)
theorem dX1_test_113 : decode cX1_test 113 = .ok (.iload_n 3, 1) := dk_29 (dk_at dksX1_test_4 21 rfl rfl)
theorem dX1_test_114 : decode cX1_test 114 = .ok (.iload 4, 2) := dk_21 4 (dk_at dksX1_test_4 22 rfl rfl)
theorem dX1_test_116 : decode cX1_test 116 = .ok (.iload 5, 2) := dk_21 5 (dk_at dksX1_test_5 0 rfl rfl)
theorem dX1_test_118 : decode cX1_test 118 = .ok (.invokestatic 94, 3) := dk_184 0 94 (dk_at dksX1_test_5 2 rfl rfl)
theorem dX1_test_121 : decode cX1_test 121 = .ok (.astore 8, 2) := dk_58 8 (dk_at dksX1_test_5 5 rfl rfl)
theorem dX1_test_123 : decode cX1_test 123 = .ok (.aload 7, 2) := dk_25 7 (dk_at dksX1_test_5 7 rfl rfl)
theorem dX1_test_125 : decode cX1_test 125 = .ok (.getfield 91, 3) := dk_180 0 91 (dk_at dksX1_test_5 9 rfl rfl)
theorem dX1_test_128 : decode cX1_test 128 = .ok (.aload 8, 2) := dk_25 8 (dk_at dksX1_test_5 12 rfl rfl)
theorem dX1_test_130 : decode cX1_test 130 = .ok (.invokeinterface 64 2, 5) := by decide +kernel
theorem dX1_test_135 : decode cX1_test 135 = .ok (.pop, 1) := dk_87 (dk_at dksX1_test_5 19 rfl rfl)
theorem dX1_test_136 : decode cX1_test 136 = .ok (.aload 8, 2) := dk_25 8 (dk_at dksX1_test_5 20 rfl rfl)
theorem dX1_test_138 : decode cX1_test 138 = .ok (.instanceof 100, 3) := dk_193 0 100 (dk_at dksX1_test_6 0 rfl rfl)
theorem dX1_test_141 : decode cX1_test 141 = .ok (.ifCond .eq 18, 3) := dk_153 0 18 (dk_at dksX1_test_6 3 rfl rfl)
theorem dX1_test_144 : decode cX1_test 144 = .ok (.aload 8, 2) := dk_25 8 (dk_at dksX1_test_6 6 rfl rfl)
theorem dX1_test_146 : decode cX1_test 146 = .ok (.checkcast 100, 3) := dk_192 0 100 (dk_at dksX1_test_6 8 rfl rfl)
theorem dX1_test_149 : decode cX1_test 149 = .ok (.astore 9, 2) := dk_58 9 (dk_at dksX1_test_6 11 rfl rfl)
theorem dX1_test_151 : decode cX1_test 151 = .ok (.aload_n 0, 1) := dk_42 (dk_at dksX1_test_6 13 rfl rfl)
theorem dX1_test_152 : decode cX1_test 152 = .ok (.aload 7, 2) := dk_25 7 (dk_at dksX1_test_6 14 rfl rfl)
theorem dX1_test_154 : decode cX1_test 154 = .ok (.aload 9, 2) := dk_25 9 (dk_at dksX1_test_6 16 rfl rfl)
theorem dX1_test_156 : decode cX1_test 156 = .ok (.invokevirtual 102, 3) := dk_182 0 102 (dk_at dksX1_test_6 18 rfl rfl)
theorem dX1_test_159 : decode cX1_test 159 = .ok (.aload 7, 2) := dk_25 7 (dk_at dksX1_test_6 21 rfl rfl)
theorem dX1_test_161 : decode cX1_test 161 = .ok (.getfield 91, 3) := dk_180 0 91 (dk_at dksX1_test_7 0 rfl rfl)
theorem dX1_test_164 : decode cX1_test 164 = .ok (.invokeinterface 39 1, 5) := by decide +kernel
theorem dX1_test_169 : decode cX1_test 169 = .ok (.ireturn, 1) := dk_172 (dk_at dksX1_test_7 8 rfl rfl)
abbrev cX1_isIn : ByteArray := prog_1_method_5_code
def yX1_isIn : MethodName := ⟨RX1, "isIn", "(III)Z"⟩
def dkwX1_isIn_0 : List UInt8 := [26, 27, 161, 0, 12, 26, 28, 163, 0, 7, 4, 167, 0, 4, 3, 172]
abbrev dktX1_isIn_0 : List UInt8 := dkwX1_isIn_0 ++ []
theorem dksX1_isIn_0 : cX1_isIn.data.toList.drop 0 = dktX1_isIn_0 := by decide +kernel
theorem dX1_isIn_0 : decode cX1_isIn 0 = .ok (.iload_n 0, 1) := dk_26 (dk_at dksX1_isIn_0 0 rfl rfl)
theorem dX1_isIn_1 : decode cX1_isIn 1 = .ok (.iload_n 1, 1) := dk_27 (dk_at dksX1_isIn_0 1 rfl rfl)
theorem dX1_isIn_2 : decode cX1_isIn 2 = .ok (.if_icmp .lt 12, 3) := dk_161 0 12 (dk_at dksX1_isIn_0 2 rfl rfl)
theorem dX1_isIn_5 : decode cX1_isIn 5 = .ok (.iload_n 0, 1) := dk_26 (dk_at dksX1_isIn_0 5 rfl rfl)
theorem dX1_isIn_6 : decode cX1_isIn 6 = .ok (.iload_n 2, 1) := dk_28 (dk_at dksX1_isIn_0 6 rfl rfl)
theorem dX1_isIn_7 : decode cX1_isIn 7 = .ok (.if_icmp .gt 7, 3) := dk_163 0 7 (dk_at dksX1_isIn_0 7 rfl rfl)
theorem dX1_isIn_10 : decode cX1_isIn 10 = .ok (.iconst 1, 1) := dk_4 (dk_at dksX1_isIn_0 10 rfl rfl)
theorem dX1_isIn_11 : decode cX1_isIn 11 = .ok (.goto 4, 3) := dk_167 0 4 (dk_at dksX1_isIn_0 11 rfl rfl)
theorem dX1_isIn_14 : decode cX1_isIn 14 = .ok (.iconst 0, 1) := dk_3 (dk_at dksX1_isIn_0 14 rfl rfl)
theorem dX1_isIn_15 : decode cX1_isIn 15 = .ok (.ireturn, 1) := dk_172 (dk_at dksX1_isIn_0 15 rfl rfl)
abbrev cX1_want : ByteArray := prog_1_method_2_code
def yX1_want : MethodName := ⟨RX1, "want", "(Z)V"⟩
def dkwX1_want_0 : List UInt8 := [26, 154, 0, 11, 187, 0, 30, 89, 183, 0, 32, 191, 177]
abbrev dktX1_want_0 : List UInt8 := dkwX1_want_0 ++ []
theorem dksX1_want_0 : cX1_want.data.toList.drop 0 = dktX1_want_0 := by decide +kernel
theorem dX1_want_0 : decode cX1_want 0 = .ok (.iload_n 0, 1) := dk_26 (dk_at dksX1_want_0 0 rfl rfl)
theorem dX1_want_1 : decode cX1_want 1 = .ok (.ifCond .ne 11, 3) := dk_154 0 11 (dk_at dksX1_want_0 1 rfl rfl)
theorem dX1_want_4 : decode cX1_want 4 = .ok (.new 30, 3) := dk_187 0 30 (dk_at dksX1_want_0 4 rfl rfl)
theorem dX1_want_7 : decode cX1_want 7 = .ok (.dup, 1) := dk_89 (dk_at dksX1_want_0 7 rfl rfl)
theorem dX1_want_8 : decode cX1_want 8 = .ok (.invokespecial 32, 3) := dk_183 0 32 (dk_at dksX1_want_0 8 rfl rfl)
theorem dX1_want_11 : decode cX1_want 11 = .ok (.athrow, 1) := dk_191 (dk_at dksX1_want_0 11 rfl rfl)
theorem dX1_want_12 : decode cX1_want 12 = .ok (.return_, 1) := dk_177 (dk_at dksX1_want_0 12 rfl rfl)
abbrev cX1_lay : ByteArray := prog_1_method_21_code
def yX1_lay : MethodName := ⟨RX1, "lay", "(LAlertIndex$Product;LAlertIndex$Range;)V"⟩
def dkwX1_lay_4 : List UInt8 := [96, 62, 167, 255, 165, 177]
abbrev dktX1_lay_4 : List UInt8 := dkwX1_lay_4 ++ []
def dkwX1_lay_3 : List UInt8 := [185, 0, 173, 2, 0, 192, 0, 40, 43, 185, 0, 64, 2, 0, 87, 29, 29, 44, 182, 0, 154, 184, 0, 127]
abbrev dktX1_lay_3 : List UInt8 := dkwX1_lay_3 ++ dktX1_lay_4
def dkwX1_lay_2 : List UInt8 := [180, 0, 23, 25, 4, 187, 0, 7, 89, 183, 0, 9, 185, 0, 169, 3, 0, 87, 42, 180, 0, 23, 25, 4]
abbrev dktX1_lay_2 : List UInt8 := dkwX1_lay_2 ++ dktX1_lay_3
def dkwX1_lay_1 : List UInt8 := [184, 0, 127, 184, 0, 160, 58, 4, 42, 180, 0, 23, 25, 4, 185, 0, 164, 2, 0, 154, 0, 22, 42]
abbrev dktX1_lay_1 : List UInt8 := dkwX1_lay_1 ++ dktX1_lay_2
def dkwX1_lay_0 : List UInt8 := [44, 182, 0, 151, 62, 29, 44, 182, 0, 154, 163, 0, 89, 44, 182, 0, 157, 29, 29, 44, 182, 0, 154]
abbrev dktX1_lay_0 : List UInt8 := dkwX1_lay_0 ++ dktX1_lay_1
theorem dksX1_lay_0 : cX1_lay.data.toList.drop 0 = dktX1_lay_0 := by decide +kernel
theorem dksX1_lay_1 : cX1_lay.data.toList.drop 23 = dktX1_lay_1 := dk_seg dksX1_lay_0 23 rfl rfl
theorem dksX1_lay_2 : cX1_lay.data.toList.drop 46 = dktX1_lay_2 := dk_seg dksX1_lay_1 23 rfl rfl
theorem dksX1_lay_3 : cX1_lay.data.toList.drop 70 = dktX1_lay_3 := dk_seg dksX1_lay_2 24 rfl rfl
theorem dksX1_lay_4 : cX1_lay.data.toList.drop 94 = dktX1_lay_4 := dk_seg dksX1_lay_3 24 rfl rfl
theorem dX1_lay_0 : decode cX1_lay 0 = .ok (.aload_n 2, 1) := dk_44 (dk_at dksX1_lay_0 0 rfl rfl)
theorem dX1_lay_1 : decode cX1_lay 1 = .ok (.invokevirtual 151, 3) := dk_182 0 151 (dk_at dksX1_lay_0 1 rfl rfl)
theorem dX1_lay_4 : decode cX1_lay 4 = .ok (.istore_n 3, 1) := dk_62 (dk_at dksX1_lay_0 4 rfl rfl)
theorem dX1_lay_5 : decode cX1_lay 5 = .ok (.iload_n 3, 1) := dk_29 (dk_at dksX1_lay_0 5 rfl rfl)
theorem dX1_lay_6 : decode cX1_lay 6 = .ok (.aload_n 2, 1) := dk_44 (dk_at dksX1_lay_0 6 rfl rfl)
theorem dX1_lay_7 : decode cX1_lay 7 = .ok (.invokevirtual 154, 3) := dk_182 0 154 (dk_at dksX1_lay_0 7 rfl rfl)
theorem dX1_lay_10 : decode cX1_lay 10 = .ok (.if_icmp .gt 89, 3) := dk_163 0 89 (dk_at dksX1_lay_0 10 rfl rfl)
theorem dX1_lay_13 : decode cX1_lay 13 = .ok (.aload_n 2, 1) := dk_44 (dk_at dksX1_lay_0 13 rfl rfl)
theorem dX1_lay_14 : decode cX1_lay 14 = .ok (.invokevirtual 157, 3) := dk_182 0 157 (dk_at dksX1_lay_0 14 rfl rfl)
theorem dX1_lay_17 : decode cX1_lay 17 = .ok (.iload_n 3, 1) := dk_29 (dk_at dksX1_lay_0 17 rfl rfl)
theorem dX1_lay_18 : decode cX1_lay 18 = .ok (.iload_n 3, 1) := dk_29 (dk_at dksX1_lay_0 18 rfl rfl)
theorem dX1_lay_19 : decode cX1_lay 19 = .ok (.aload_n 2, 1) := dk_44 (dk_at dksX1_lay_0 19 rfl rfl)
theorem dX1_lay_20 : decode cX1_lay 20 = .ok (.invokevirtual 154, 3) := dk_182 0 154 (dk_at dksX1_lay_0 20 rfl rfl)
theorem dX1_lay_23 : decode cX1_lay 23 = .ok (.invokestatic 127, 3) := dk_184 0 127 (dk_at dksX1_lay_1 0 rfl rfl)
theorem dX1_lay_26 : decode cX1_lay 26 = .ok (.invokestatic 160, 3) := dk_184 0 160 (dk_at dksX1_lay_1 3 rfl rfl)
theorem dX1_lay_29 : decode cX1_lay 29 = .ok (.astore 4, 2) := dk_58 4 (dk_at dksX1_lay_1 6 rfl rfl)
theorem dX1_lay_31 : decode cX1_lay 31 = .ok (.aload_n 0, 1) := dk_42 (dk_at dksX1_lay_1 8 rfl rfl)
theorem dX1_lay_32 : decode cX1_lay 32 = .ok (.getfield 23, 3) := dk_180 0 23 (dk_at dksX1_lay_1 9 rfl rfl)
theorem dX1_lay_35 : decode cX1_lay 35 = .ok (.aload 4, 2) := dk_25 4 (dk_at dksX1_lay_1 12 rfl rfl)
theorem dX1_lay_37 : decode cX1_lay 37 = .ok (.invokeinterface 164 2, 5) := by decide +kernel
theorem dX1_lay_42 : decode cX1_lay 42 = .ok (.ifCond .ne 22, 3) := dk_154 0 22 (dk_at dksX1_lay_1 19 rfl rfl)
theorem dX1_lay_45 : decode cX1_lay 45 = .ok (.aload_n 0, 1) := dk_42 (dk_at dksX1_lay_1 22 rfl rfl)
theorem dX1_lay_46 : decode cX1_lay 46 = .ok (.getfield 23, 3) := dk_180 0 23 (dk_at dksX1_lay_2 0 rfl rfl)
theorem dX1_lay_49 : decode cX1_lay 49 = .ok (.aload 4, 2) := dk_25 4 (dk_at dksX1_lay_2 3 rfl rfl)
theorem dX1_lay_51 : decode cX1_lay 51 = .ok (.new 7, 3) := dk_187 0 7 (dk_at dksX1_lay_2 5 rfl rfl)
theorem dX1_lay_54 : decode cX1_lay 54 = .ok (.dup, 1) := dk_89 (dk_at dksX1_lay_2 8 rfl rfl)
theorem dX1_lay_55 : decode cX1_lay 55 = .ok (.invokespecial 9, 3) := dk_183 0 9 (dk_at dksX1_lay_2 9 rfl rfl)
theorem dX1_lay_58 : decode cX1_lay 58 = .ok (.invokeinterface 169 3, 5) := by decide +kernel
theorem dX1_lay_63 : decode cX1_lay 63 = .ok (.pop, 1) := dk_87 (dk_at dksX1_lay_2 17 rfl rfl)
theorem dX1_lay_64 : decode cX1_lay 64 = .ok (.aload_n 0, 1) := dk_42 (dk_at dksX1_lay_2 18 rfl rfl)
theorem dX1_lay_65 : decode cX1_lay 65 = .ok (.getfield 23, 3) := dk_180 0 23 (dk_at dksX1_lay_2 19 rfl rfl)
theorem dX1_lay_68 : decode cX1_lay 68 = .ok (.aload 4, 2) := dk_25 4 (dk_at dksX1_lay_2 22 rfl rfl)
theorem dX1_lay_70 : decode cX1_lay 70 = .ok (.invokeinterface 173 2, 5) := by decide +kernel
theorem dX1_lay_75 : decode cX1_lay 75 = .ok (.checkcast 40, 3) := dk_192 0 40 (dk_at dksX1_lay_3 5 rfl rfl)
theorem dX1_lay_78 : decode cX1_lay 78 = .ok (.aload_n 1, 1) := dk_43 (dk_at dksX1_lay_3 8 rfl rfl)
theorem dX1_lay_79 : decode cX1_lay 79 = .ok (.invokeinterface 64 2, 5) := by decide +kernel
theorem dX1_lay_84 : decode cX1_lay 84 = .ok (.pop, 1) := dk_87 (dk_at dksX1_lay_3 14 rfl rfl)
theorem dX1_lay_85 : decode cX1_lay 85 = .ok (.iload_n 3, 1) := dk_29 (dk_at dksX1_lay_3 15 rfl rfl)
theorem dX1_lay_86 : decode cX1_lay 86 = .ok (.iload_n 3, 1) := dk_29 (dk_at dksX1_lay_3 16 rfl rfl)
theorem dX1_lay_87 : decode cX1_lay 87 = .ok (.aload_n 2, 1) := dk_44 (dk_at dksX1_lay_3 17 rfl rfl)
theorem dX1_lay_88 : decode cX1_lay 88 = .ok (.invokevirtual 154, 3) := dk_182 0 154 (dk_at dksX1_lay_3 18 rfl rfl)
theorem dX1_lay_91 : decode cX1_lay 91 = .ok (.invokestatic 127, 3) := dk_184 0 127 (dk_at dksX1_lay_3 21 rfl rfl)
theorem dX1_lay_94 : decode cX1_lay 94 = .ok (.iadd, 1) := dk_96 (dk_at dksX1_lay_4 0 rfl rfl)
theorem dX1_lay_95 : decode cX1_lay 95 = .ok (.istore_n 3, 1) := dk_62 (dk_at dksX1_lay_4 1 rfl rfl)
theorem dX1_lay_96 : decode cX1_lay 96 = .ok (.goto (-91), 3) := dk_167 255 165 (dk_at dksX1_lay_4 2 rfl rfl)
theorem dX1_lay_99 : decode cX1_lay 99 = .ok (.return_, 1) := dk_177 (dk_at dksX1_lay_4 5 rfl rfl)
abbrev cX1_piece : ByteArray := prog_1_method_15_code
def yX1_piece : MethodName := ⟨RX1, "piece", "(II)I"⟩
def dkwX1_piece_1 : List UInt8 := [167, 255, 237, 28, 172]
abbrev dktX1_piece_1 : List UInt8 := dkwX1_piece_1 ++ []
def dkwX1_piece_0 : List UInt8 := [16, 64, 61, 26, 28, 112, 154, 0, 12, 26, 28, 96, 4, 100, 27, 164, 0, 10, 28, 5, 108, 61]
abbrev dktX1_piece_0 : List UInt8 := dkwX1_piece_0 ++ dktX1_piece_1
theorem dksX1_piece_0 : cX1_piece.data.toList.drop 0 = dktX1_piece_0 := by decide +kernel
theorem dksX1_piece_1 : cX1_piece.data.toList.drop 22 = dktX1_piece_1 := dk_seg dksX1_piece_0 22 rfl rfl
theorem dX1_piece_0 : decode cX1_piece 0 = .ok (.bipush 64, 2) := dk_16 64 (dk_at dksX1_piece_0 0 rfl rfl)
theorem dX1_piece_2 : decode cX1_piece 2 = .ok (.istore_n 2, 1) := dk_61 (dk_at dksX1_piece_0 2 rfl rfl)
theorem dX1_piece_3 : decode cX1_piece 3 = .ok (.iload_n 0, 1) := dk_26 (dk_at dksX1_piece_0 3 rfl rfl)
theorem dX1_piece_4 : decode cX1_piece 4 = .ok (.iload_n 2, 1) := dk_28 (dk_at dksX1_piece_0 4 rfl rfl)
theorem dX1_piece_5 : decode cX1_piece 5 = .ok (.irem, 1) := dk_112 (dk_at dksX1_piece_0 5 rfl rfl)
theorem dX1_piece_6 : decode cX1_piece 6 = .ok (.ifCond .ne 12, 3) := dk_154 0 12 (dk_at dksX1_piece_0 6 rfl rfl)
theorem dX1_piece_9 : decode cX1_piece 9 = .ok (.iload_n 0, 1) := dk_26 (dk_at dksX1_piece_0 9 rfl rfl)
theorem dX1_piece_10 : decode cX1_piece 10 = .ok (.iload_n 2, 1) := dk_28 (dk_at dksX1_piece_0 10 rfl rfl)
theorem dX1_piece_11 : decode cX1_piece 11 = .ok (.iadd, 1) := dk_96 (dk_at dksX1_piece_0 11 rfl rfl)
theorem dX1_piece_12 : decode cX1_piece 12 = .ok (.iconst 1, 1) := dk_4 (dk_at dksX1_piece_0 12 rfl rfl)
theorem dX1_piece_13 : decode cX1_piece 13 = .ok (.isub, 1) := dk_100 (dk_at dksX1_piece_0 13 rfl rfl)
theorem dX1_piece_14 : decode cX1_piece 14 = .ok (.iload_n 1, 1) := dk_27 (dk_at dksX1_piece_0 14 rfl rfl)
theorem dX1_piece_15 : decode cX1_piece 15 = .ok (.if_icmp .le 10, 3) := dk_164 0 10 (dk_at dksX1_piece_0 15 rfl rfl)
theorem dX1_piece_18 : decode cX1_piece 18 = .ok (.iload_n 2, 1) := dk_28 (dk_at dksX1_piece_0 18 rfl rfl)
theorem dX1_piece_19 : decode cX1_piece 19 = .ok (.iconst 2, 1) := dk_5 (dk_at dksX1_piece_0 19 rfl rfl)
theorem dX1_piece_20 : decode cX1_piece 20 = .ok (.idiv, 1) := dk_108 (dk_at dksX1_piece_0 20 rfl rfl)
theorem dX1_piece_21 : decode cX1_piece 21 = .ok (.istore_n 2, 1) := dk_61 (dk_at dksX1_piece_0 21 rfl rfl)
theorem dX1_piece_22 : decode cX1_piece 22 = .ok (.goto (-19), 3) := dk_167 255 237 (dk_at dksX1_piece_1 0 rfl rfl)
theorem dX1_piece_25 : decode cX1_piece 25 = .ok (.iload_n 2, 1) := dk_28 (dk_at dksX1_piece_1 3 rfl rfl)
theorem dX1_piece_26 : decode cX1_piece 26 = .ok (.ireturn, 1) := dk_172 (dk_at dksX1_piece_1 4 rfl rfl)
abbrev cX1_drop : ByteArray := prog_1_method_10_code
def yX1_drop : MethodName := ⟨RX1, "drop", "(I)I"⟩
def dkwX1_drop_0 : List UInt8 := [42, 27, 182, 0, 68, 77, 44, 4, 181, 0, 55, 44, 180, 0, 106, 172]
abbrev dktX1_drop_0 : List UInt8 := dkwX1_drop_0 ++ []
theorem dksX1_drop_0 : cX1_drop.data.toList.drop 0 = dktX1_drop_0 := by decide +kernel
theorem dX1_drop_0 : decode cX1_drop 0 = .ok (.aload_n 0, 1) := dk_42 (dk_at dksX1_drop_0 0 rfl rfl)
theorem dX1_drop_1 : decode cX1_drop 1 = .ok (.iload_n 1, 1) := dk_27 (dk_at dksX1_drop_0 1 rfl rfl)
theorem dX1_drop_2 : decode cX1_drop 2 = .ok (.invokevirtual 68, 3) := dk_182 0 68 (dk_at dksX1_drop_0 2 rfl rfl)
theorem dX1_drop_5 : decode cX1_drop 5 = .ok (.astore_n 2, 1) := dk_77 (dk_at dksX1_drop_0 5 rfl rfl)
theorem dX1_drop_6 : decode cX1_drop 6 = .ok (.aload_n 2, 1) := dk_44 (dk_at dksX1_drop_0 6 rfl rfl)
theorem dX1_drop_7 : decode cX1_drop 7 = .ok (.iconst 1, 1) := dk_4 (dk_at dksX1_drop_0 7 rfl rfl)
theorem dX1_drop_8 : decode cX1_drop 8 = .ok (.putfield 55, 3) := dk_181 0 55 (dk_at dksX1_drop_0 8 rfl rfl)
theorem dX1_drop_11 : decode cX1_drop 11 = .ok (.aload_n 2, 1) := dk_44 (dk_at dksX1_drop_0 11 rfl rfl)
theorem dX1_drop_12 : decode cX1_drop 12 = .ok (.getfield 106, 3) := dk_180 0 106 (dk_at dksX1_drop_0 12 rfl rfl)
theorem dX1_drop_15 : decode cX1_drop 15 = .ok (.ireturn, 1) := dk_172 (dk_at dksX1_drop_0 15 rfl rfl)
abbrev cX1_setQuiet : ByteArray := prog_1_method_11_code
def yX1_setQuiet : MethodName := ⟨RX1, "setQuiet", "(II)I"⟩
def dkwX1_setQuiet_1 : List UInt8 := [28, 181, 0, 110, 21, 4, 172]
abbrev dktX1_setQuiet_1 : List UInt8 := dkwX1_setQuiet_1 ++ []
def dkwX1_setQuiet_0 : List UInt8 := [42, 27, 182, 0, 68, 78, 28, 3, 17, 3, 232, 184, 0, 80, 184, 0, 84, 45, 180, 0, 110, 54, 4, 45]
abbrev dktX1_setQuiet_0 : List UInt8 := dkwX1_setQuiet_0 ++ dktX1_setQuiet_1
theorem dksX1_setQuiet_0 : cX1_setQuiet.data.toList.drop 0 = dktX1_setQuiet_0 := by decide +kernel
theorem dksX1_setQuiet_1 : cX1_setQuiet.data.toList.drop 24 = dktX1_setQuiet_1 := dk_seg dksX1_setQuiet_0 24 rfl rfl
theorem dX1_setQuiet_0 : decode cX1_setQuiet 0 = .ok (.aload_n 0, 1) := dk_42 (dk_at dksX1_setQuiet_0 0 rfl rfl)
theorem dX1_setQuiet_1 : decode cX1_setQuiet 1 = .ok (.iload_n 1, 1) := dk_27 (dk_at dksX1_setQuiet_0 1 rfl rfl)
theorem dX1_setQuiet_2 : decode cX1_setQuiet 2 = .ok (.invokevirtual 68, 3) := dk_182 0 68 (dk_at dksX1_setQuiet_0 2 rfl rfl)
theorem dX1_setQuiet_5 : decode cX1_setQuiet 5 = .ok (.astore_n 3, 1) := dk_78 (dk_at dksX1_setQuiet_0 5 rfl rfl)
theorem dX1_setQuiet_6 : decode cX1_setQuiet 6 = .ok (.iload_n 2, 1) := dk_28 (dk_at dksX1_setQuiet_0 6 rfl rfl)
theorem dX1_setQuiet_7 : decode cX1_setQuiet 7 = .ok (.iconst 0, 1) := dk_3 (dk_at dksX1_setQuiet_0 7 rfl rfl)
theorem dX1_setQuiet_8 : decode cX1_setQuiet 8 = .ok (.sipush 1000, 3) := dk_17 3 232 (dk_at dksX1_setQuiet_0 8 rfl rfl)
theorem dX1_setQuiet_11 : decode cX1_setQuiet 11 = .ok (.invokestatic 80, 3) := dk_184 0 80 (dk_at dksX1_setQuiet_0 11 rfl rfl)
theorem dX1_setQuiet_14 : decode cX1_setQuiet 14 = .ok (.invokestatic 84, 3) := dk_184 0 84 (dk_at dksX1_setQuiet_0 14 rfl rfl)
theorem dX1_setQuiet_17 : decode cX1_setQuiet 17 = .ok (.aload_n 3, 1) := dk_45 (dk_at dksX1_setQuiet_0 17 rfl rfl)
theorem dX1_setQuiet_18 : decode cX1_setQuiet 18 = .ok (.getfield 110, 3) := dk_180 0 110 (dk_at dksX1_setQuiet_0 18 rfl rfl)
theorem dX1_setQuiet_21 : decode cX1_setQuiet 21 = .ok (.istore 4, 2) := dk_54 4 (dk_at dksX1_setQuiet_0 21 rfl rfl)
theorem dX1_setQuiet_23 : decode cX1_setQuiet 23 = .ok (.aload_n 3, 1) := dk_45 (dk_at dksX1_setQuiet_0 23 rfl rfl)
theorem dX1_setQuiet_24 : decode cX1_setQuiet 24 = .ok (.iload_n 2, 1) := dk_28 (dk_at dksX1_setQuiet_1 0 rfl rfl)
theorem dX1_setQuiet_25 : decode cX1_setQuiet 25 = .ok (.putfield 110, 3) := dk_181 0 110 (dk_at dksX1_setQuiet_1 1 rfl rfl)
theorem dX1_setQuiet_28 : decode cX1_setQuiet 28 = .ok (.iload 4, 2) := dk_21 4 (dk_at dksX1_setQuiet_1 4 rfl rfl)
theorem dX1_setQuiet_30 : decode cX1_setQuiet 30 = .ok (.ireturn, 1) := dk_172 (dk_at dksX1_setQuiet_1 6 rfl rfl)
abbrev cX1_set : ByteArray := prog_1_method_12_code
def yX1_set : MethodName := ⟨RX1, "set", "(II)I"⟩
def dkwX1_set_1 : List UInt8 := [180, 0, 16, 27, 28, 79, 29, 172]
abbrev dktX1_set_1 : List UInt8 := dkwX1_set_1 ++ []
def dkwX1_set_0 : List UInt8 := [27, 16, 6, 184, 0, 45, 28, 2, 16, 63, 184, 0, 80, 184, 0, 84, 42, 180, 0, 16, 27, 46, 62, 42]
abbrev dktX1_set_0 : List UInt8 := dkwX1_set_0 ++ dktX1_set_1
theorem dksX1_set_0 : cX1_set.data.toList.drop 0 = dktX1_set_0 := by decide +kernel
theorem dksX1_set_1 : cX1_set.data.toList.drop 24 = dktX1_set_1 := dk_seg dksX1_set_0 24 rfl rfl
theorem dX1_set_0 : decode cX1_set 0 = .ok (.iload_n 1, 1) := dk_27 (dk_at dksX1_set_0 0 rfl rfl)
theorem dX1_set_1 : decode cX1_set 1 = .ok (.bipush 6, 2) := dk_16 6 (dk_at dksX1_set_0 1 rfl rfl)
theorem dX1_set_3 : decode cX1_set 3 = .ok (.invokestatic 45, 3) := dk_184 0 45 (dk_at dksX1_set_0 3 rfl rfl)
theorem dX1_set_6 : decode cX1_set 6 = .ok (.iload_n 2, 1) := dk_28 (dk_at dksX1_set_0 6 rfl rfl)
theorem dX1_set_7 : decode cX1_set 7 = .ok (.iconst (-1), 1) := dk_2 (dk_at dksX1_set_0 7 rfl rfl)
theorem dX1_set_8 : decode cX1_set 8 = .ok (.bipush 63, 2) := dk_16 63 (dk_at dksX1_set_0 8 rfl rfl)
theorem dX1_set_10 : decode cX1_set 10 = .ok (.invokestatic 80, 3) := dk_184 0 80 (dk_at dksX1_set_0 10 rfl rfl)
theorem dX1_set_13 : decode cX1_set 13 = .ok (.invokestatic 84, 3) := dk_184 0 84 (dk_at dksX1_set_0 13 rfl rfl)
theorem dX1_set_16 : decode cX1_set 16 = .ok (.aload_n 0, 1) := dk_42 (dk_at dksX1_set_0 16 rfl rfl)
theorem dX1_set_17 : decode cX1_set 17 = .ok (.getfield 16, 3) := dk_180 0 16 (dk_at dksX1_set_0 17 rfl rfl)
theorem dX1_set_20 : decode cX1_set 20 = .ok (.iload_n 1, 1) := dk_27 (dk_at dksX1_set_0 20 rfl rfl)
theorem dX1_set_21 : decode cX1_set 21 = .ok (.iaload, 1) := dk_46 (dk_at dksX1_set_0 21 rfl rfl)
theorem dX1_set_22 : decode cX1_set 22 = .ok (.istore_n 3, 1) := dk_62 (dk_at dksX1_set_0 22 rfl rfl)
theorem dX1_set_23 : decode cX1_set 23 = .ok (.aload_n 0, 1) := dk_42 (dk_at dksX1_set_0 23 rfl rfl)
theorem dX1_set_24 : decode cX1_set 24 = .ok (.getfield 16, 3) := dk_180 0 16 (dk_at dksX1_set_1 0 rfl rfl)
theorem dX1_set_27 : decode cX1_set 27 = .ok (.iload_n 1, 1) := dk_27 (dk_at dksX1_set_1 3 rfl rfl)
theorem dX1_set_28 : decode cX1_set 28 = .ok (.iload_n 2, 1) := dk_28 (dk_at dksX1_set_1 4 rfl rfl)
theorem dX1_set_29 : decode cX1_set 29 = .ok (.iastore, 1) := dk_79 (dk_at dksX1_set_1 5 rfl rfl)
theorem dX1_set_30 : decode cX1_set 30 = .ok (.iload_n 3, 1) := dk_29 (dk_at dksX1_set_1 6 rfl rfl)
theorem dX1_set_31 : decode cX1_set 31 = .ok (.ireturn, 1) := dk_172 (dk_at dksX1_set_1 7 rfl rfl)
abbrev cX1_advance : ByteArray := prog_1_method_14_code
def yX1_advance : MethodName := ⟨RX1, "advance", "(I)I"⟩
def dkwX1_advance_5 : List UInt8 := [182, 0, 123, 132, 2, 1, 132, 4, 1, 167, 255, 183, 132, 3, 1, 167, 255, 159, 28, 172]
abbrev dktX1_advance_5 : List UInt8 := dkwX1_advance_5 ++ []
def dkwX1_advance_4 : List UInt8 := [180, 0, 120, 42, 180, 0, 117, 160, 0, 23, 25, 5, 180, 0, 106, 158, 0, 15, 25, 5, 42, 180, 0, 117]
abbrev dktX1_advance_4 : List UInt8 := dkwX1_advance_4 ++ dktX1_advance_5
def dkwX1_advance_3 : List UInt8 := [21, 4, 185, 0, 49, 2, 0, 192, 0, 53, 58, 5, 25, 5, 180, 0, 55, 154, 0, 35, 25, 5]
abbrev dktX1_advance_3 : List UInt8 := dkwX1_advance_3 ++ dktX1_advance_4
def dkwX1_advance_2 : List UInt8 := [181, 0, 117, 3, 54, 4, 21, 4, 42, 180, 0, 10, 185, 0, 39, 1, 0, 162, 0, 65, 42, 180, 0, 10]
abbrev dktX1_advance_2 : List UInt8 := dkwX1_advance_2 ++ dktX1_advance_3
def dkwX1_advance_1 : List UInt8 := [167, 0, 4, 3, 184, 0, 59, 3, 61, 3, 62, 29, 27, 162, 0, 98, 42, 89, 180, 0, 117, 4, 96]
abbrev dktX1_advance_1 : List UInt8 := dkwX1_advance_1 ++ dktX1_advance_2
def dkwX1_advance_0 : List UInt8 := [27, 4, 17, 3, 232, 184, 0, 80, 184, 0, 84, 42, 180, 0, 117, 27, 96, 18, 126, 163, 0, 7, 4]
abbrev dktX1_advance_0 : List UInt8 := dkwX1_advance_0 ++ dktX1_advance_1
theorem dksX1_advance_0 : cX1_advance.data.toList.drop 0 = dktX1_advance_0 := by decide +kernel
theorem dksX1_advance_1 : cX1_advance.data.toList.drop 23 = dktX1_advance_1 := dk_seg dksX1_advance_0 23 rfl rfl
theorem dksX1_advance_2 : cX1_advance.data.toList.drop 46 = dktX1_advance_2 := dk_seg dksX1_advance_1 23 rfl rfl
theorem dksX1_advance_3 : cX1_advance.data.toList.drop 70 = dktX1_advance_3 := dk_seg dksX1_advance_2 24 rfl rfl
theorem dksX1_advance_4 : cX1_advance.data.toList.drop 92 = dktX1_advance_4 := dk_seg dksX1_advance_3 22 rfl rfl
theorem dksX1_advance_5 : cX1_advance.data.toList.drop 116 = dktX1_advance_5 := dk_seg dksX1_advance_4 24 rfl rfl
theorem dX1_advance_0 : decode cX1_advance 0 = .ok (.iload_n 1, 1) := dk_27 (dk_at dksX1_advance_0 0 rfl rfl)
theorem dX1_advance_1 : decode cX1_advance 1 = .ok (.iconst 1, 1) := dk_4 (dk_at dksX1_advance_0 1 rfl rfl)
theorem dX1_advance_2 : decode cX1_advance 2 = .ok (.sipush 1000, 3) := dk_17 3 232 (dk_at dksX1_advance_0 2 rfl rfl)
theorem dX1_advance_5 : decode cX1_advance 5 = .ok (.invokestatic 80, 3) := dk_184 0 80 (dk_at dksX1_advance_0 5 rfl rfl)
theorem dX1_advance_8 : decode cX1_advance 8 = .ok (.invokestatic 84, 3) := dk_184 0 84 (dk_at dksX1_advance_0 8 rfl rfl)
theorem dX1_advance_11 : decode cX1_advance 11 = .ok (.aload_n 0, 1) := dk_42 (dk_at dksX1_advance_0 11 rfl rfl)
theorem dX1_advance_12 : decode cX1_advance 12 = .ok (.getfield 117, 3) := dk_180 0 117 (dk_at dksX1_advance_0 12 rfl rfl)
theorem dX1_advance_15 : decode cX1_advance 15 = .ok (.iload_n 1, 1) := dk_27 (dk_at dksX1_advance_0 15 rfl rfl)
theorem dX1_advance_16 : decode cX1_advance 16 = .ok (.iadd, 1) := dk_96 (dk_at dksX1_advance_0 16 rfl rfl)
theorem dX1_advance_17 : decode cX1_advance 17 = .ok (.ldc 126, 2) := dk_18 126 (dk_at dksX1_advance_0 17 rfl rfl)
theorem dX1_advance_19 : decode cX1_advance 19 = .ok (.if_icmp .gt 7, 3) := dk_163 0 7 (dk_at dksX1_advance_0 19 rfl rfl)
theorem dX1_advance_22 : decode cX1_advance 22 = .ok (.iconst 1, 1) := dk_4 (dk_at dksX1_advance_0 22 rfl rfl)
theorem dX1_advance_23 : decode cX1_advance 23 = .ok (.goto 4, 3) := dk_167 0 4 (dk_at dksX1_advance_1 0 rfl rfl)
theorem dX1_advance_26 : decode cX1_advance 26 = .ok (.iconst 0, 1) := dk_3 (dk_at dksX1_advance_1 3 rfl rfl)
theorem dX1_advance_27 : decode cX1_advance 27 = .ok (.invokestatic 59, 3) := dk_184 0 59 (dk_at dksX1_advance_1 4 rfl rfl)
theorem dX1_advance_30 : decode cX1_advance 30 = .ok (.iconst 0, 1) := dk_3 (dk_at dksX1_advance_1 7 rfl rfl)
theorem dX1_advance_31 : decode cX1_advance 31 = .ok (.istore_n 2, 1) := dk_61 (dk_at dksX1_advance_1 8 rfl rfl)
theorem dX1_advance_32 : decode cX1_advance 32 = .ok (.iconst 0, 1) := dk_3 (dk_at dksX1_advance_1 9 rfl rfl)
theorem dX1_advance_33 : decode cX1_advance 33 = .ok (.istore_n 3, 1) := dk_62 (dk_at dksX1_advance_1 10 rfl rfl)
theorem dX1_advance_34 : decode cX1_advance 34 = .ok (.iload_n 3, 1) := dk_29 (dk_at dksX1_advance_1 11 rfl rfl)
theorem dX1_advance_35 : decode cX1_advance 35 = .ok (.iload_n 1, 1) := dk_27 (dk_at dksX1_advance_1 12 rfl rfl)
theorem dX1_advance_36 : decode cX1_advance 36 = .ok (.if_icmp .ge 98, 3) := dk_162 0 98 (dk_at dksX1_advance_1 13 rfl rfl)
theorem dX1_advance_39 : decode cX1_advance 39 = .ok (.aload_n 0, 1) := dk_42 (dk_at dksX1_advance_1 16 rfl rfl)
theorem dX1_advance_40 : decode cX1_advance 40 = .ok (.dup, 1) := dk_89 (dk_at dksX1_advance_1 17 rfl rfl)
theorem dX1_advance_41 : decode cX1_advance 41 = .ok (.getfield 117, 3) := dk_180 0 117 (dk_at dksX1_advance_1 18 rfl rfl)
theorem dX1_advance_44 : decode cX1_advance 44 = .ok (.iconst 1, 1) := dk_4 (dk_at dksX1_advance_1 21 rfl rfl)
theorem dX1_advance_45 : decode cX1_advance 45 = .ok (.iadd, 1) := dk_96 (dk_at dksX1_advance_1 22 rfl rfl)
theorem dX1_advance_46 : decode cX1_advance 46 = .ok (.putfield 117, 3) := dk_181 0 117 (dk_at dksX1_advance_2 0 rfl rfl)
theorem dX1_advance_49 : decode cX1_advance 49 = .ok (.iconst 0, 1) := dk_3 (dk_at dksX1_advance_2 3 rfl rfl)
theorem dX1_advance_50 : decode cX1_advance 50 = .ok (.istore 4, 2) := dk_54 4 (dk_at dksX1_advance_2 4 rfl rfl)
theorem dX1_advance_52 : decode cX1_advance 52 = .ok (.iload 4, 2) := dk_21 4 (dk_at dksX1_advance_2 6 rfl rfl)
theorem dX1_advance_54 : decode cX1_advance 54 = .ok (.aload_n 0, 1) := dk_42 (dk_at dksX1_advance_2 8 rfl rfl)
theorem dX1_advance_55 : decode cX1_advance 55 = .ok (.getfield 10, 3) := dk_180 0 10 (dk_at dksX1_advance_2 9 rfl rfl)
theorem dX1_advance_58 : decode cX1_advance 58 = .ok (.invokeinterface 39 1, 5) := by decide +kernel
theorem dX1_advance_63 : decode cX1_advance 63 = .ok (.if_icmp .ge 65, 3) := dk_162 0 65 (dk_at dksX1_advance_2 17 rfl rfl)
theorem dX1_advance_66 : decode cX1_advance 66 = .ok (.aload_n 0, 1) := dk_42 (dk_at dksX1_advance_2 20 rfl rfl)
theorem dX1_advance_67 : decode cX1_advance 67 = .ok (.getfield 10, 3) := dk_180 0 10 (dk_at dksX1_advance_2 21 rfl rfl)
theorem dX1_advance_70 : decode cX1_advance 70 = .ok (.iload 4, 2) := dk_21 4 (dk_at dksX1_advance_3 0 rfl rfl)
theorem dX1_advance_72 : decode cX1_advance 72 = .ok (.invokeinterface 49 2, 5) := by decide +kernel
theorem dX1_advance_77 : decode cX1_advance 77 = .ok (.checkcast 53, 3) := dk_192 0 53 (dk_at dksX1_advance_3 7 rfl rfl)
theorem dX1_advance_80 : decode cX1_advance 80 = .ok (.astore 5, 2) := dk_58 5 (dk_at dksX1_advance_3 10 rfl rfl)
theorem dX1_advance_82 : decode cX1_advance 82 = .ok (.aload 5, 2) := dk_25 5 (dk_at dksX1_advance_3 12 rfl rfl)
theorem dX1_advance_84 : decode cX1_advance 84 = .ok (.getfield 55, 3) := dk_180 0 55 (dk_at dksX1_advance_3 14 rfl rfl)
theorem dX1_advance_87 : decode cX1_advance 87 = .ok (.ifCond .ne 35, 3) := dk_154 0 35 (dk_at dksX1_advance_3 17 rfl rfl)
theorem dX1_advance_90 : decode cX1_advance 90 = .ok (.aload 5, 2) := dk_25 5 (dk_at dksX1_advance_3 20 rfl rfl)
theorem dX1_advance_92 : decode cX1_advance 92 = .ok (.getfield 120, 3) := dk_180 0 120 (dk_at dksX1_advance_4 0 rfl rfl)
theorem dX1_advance_95 : decode cX1_advance 95 = .ok (.aload_n 0, 1) := dk_42 (dk_at dksX1_advance_4 3 rfl rfl)
theorem dX1_advance_96 : decode cX1_advance 96 = .ok (.getfield 117, 3) := dk_180 0 117 (dk_at dksX1_advance_4 4 rfl rfl)
theorem dX1_advance_99 : decode cX1_advance 99 = .ok (.if_icmp .ne 23, 3) := dk_160 0 23 (dk_at dksX1_advance_4 7 rfl rfl)
theorem dX1_advance_102 : decode cX1_advance 102 = .ok (.aload 5, 2) := dk_25 5 (dk_at dksX1_advance_4 10 rfl rfl)
theorem dX1_advance_104 : decode cX1_advance 104 = .ok (.getfield 106, 3) := dk_180 0 106 (dk_at dksX1_advance_4 12 rfl rfl)
theorem dX1_advance_107 : decode cX1_advance 107 = .ok (.ifCond .le 15, 3) := dk_158 0 15 (dk_at dksX1_advance_4 15 rfl rfl)
theorem dX1_advance_110 : decode cX1_advance 110 = .ok (.aload 5, 2) := dk_25 5 (dk_at dksX1_advance_4 18 rfl rfl)
theorem dX1_advance_112 : decode cX1_advance 112 = .ok (.aload_n 0, 1) := dk_42 (dk_at dksX1_advance_4 20 rfl rfl)
theorem dX1_advance_113 : decode cX1_advance 113 = .ok (.getfield 117, 3) := dk_180 0 117 (dk_at dksX1_advance_4 21 rfl rfl)
theorem dX1_advance_116 : decode cX1_advance 116 = .ok (.invokevirtual 123, 3) := dk_182 0 123 (dk_at dksX1_advance_5 0 rfl rfl)
theorem dX1_advance_119 : decode cX1_advance 119 = .ok (.iinc 2 1, 3) := dk_132 2 1 (dk_at dksX1_advance_5 3 rfl rfl)
theorem dX1_advance_122 : decode cX1_advance 122 = .ok (.iinc 4 1, 3) := dk_132 4 1 (dk_at dksX1_advance_5 6 rfl rfl)
theorem dX1_advance_125 : decode cX1_advance 125 = .ok (.goto (-73), 3) := dk_167 255 183 (dk_at dksX1_advance_5 9 rfl rfl)
theorem dX1_advance_128 : decode cX1_advance 128 = .ok (.iinc 3 1, 3) := dk_132 3 1 (dk_at dksX1_advance_5 12 rfl rfl)
theorem dX1_advance_131 : decode cX1_advance 131 = .ok (.goto (-97), 3) := dk_167 255 159 (dk_at dksX1_advance_5 15 rfl rfl)
theorem dX1_advance_134 : decode cX1_advance 134 = .ok (.iload_n 2, 1) := dk_28 (dk_at dksX1_advance_5 18 rfl rfl)
theorem dX1_advance_135 : decode cX1_advance 135 = .ok (.ireturn, 1) := dk_172 (dk_at dksX1_advance_5 19 rfl rfl)
abbrev cX1_satisfies : ByteArray := prog_1_method_19_code
def yX1_satisfies : MethodName := ⟨RX1, "satisfies", "(I)Z"⟩
def dkwX1_satisfies_0 : List UInt8 := [42, 27, 182, 0, 68, 42, 180, 0, 16, 182, 0, 113, 172]
abbrev dktX1_satisfies_0 : List UInt8 := dkwX1_satisfies_0 ++ []
theorem dksX1_satisfies_0 : cX1_satisfies.data.toList.drop 0 = dktX1_satisfies_0 := by decide +kernel
theorem dX1_satisfies_0 : decode cX1_satisfies 0 = .ok (.aload_n 0, 1) := dk_42 (dk_at dksX1_satisfies_0 0 rfl rfl)
theorem dX1_satisfies_1 : decode cX1_satisfies 1 = .ok (.iload_n 1, 1) := dk_27 (dk_at dksX1_satisfies_0 1 rfl rfl)
theorem dX1_satisfies_2 : decode cX1_satisfies 2 = .ok (.invokevirtual 68, 3) := dk_182 0 68 (dk_at dksX1_satisfies_0 2 rfl rfl)
theorem dX1_satisfies_5 : decode cX1_satisfies 5 = .ok (.aload_n 0, 1) := dk_42 (dk_at dksX1_satisfies_0 5 rfl rfl)
theorem dX1_satisfies_6 : decode cX1_satisfies 6 = .ok (.getfield 16, 3) := dk_180 0 16 (dk_at dksX1_satisfies_0 6 rfl rfl)
theorem dX1_satisfies_9 : decode cX1_satisfies 9 = .ok (.invokevirtual 113, 3) := dk_182 0 113 (dk_at dksX1_satisfies_0 9 rfl rfl)
theorem dX1_satisfies_12 : decode cX1_satisfies 12 = .ok (.ireturn, 1) := dk_172 (dk_at dksX1_satisfies_0 12 rfl rfl)
abbrev cX1_sizeOf : ByteArray := prog_1_method_24_code
def yX1_sizeOf : MethodName := ⟨RX1, "sizeOf", "(I)I"⟩
def dkwX1_sizeOf_0 : List UInt8 := [42, 27, 182, 0, 68, 182, 0, 189, 172]
abbrev dktX1_sizeOf_0 : List UInt8 := dkwX1_sizeOf_0 ++ []
theorem dksX1_sizeOf_0 : cX1_sizeOf.data.toList.drop 0 = dktX1_sizeOf_0 := by decide +kernel
theorem dX1_sizeOf_0 : decode cX1_sizeOf 0 = .ok (.aload_n 0, 1) := dk_42 (dk_at dksX1_sizeOf_0 0 rfl rfl)
theorem dX1_sizeOf_1 : decode cX1_sizeOf 1 = .ok (.iload_n 1, 1) := dk_27 (dk_at dksX1_sizeOf_0 1 rfl rfl)
theorem dX1_sizeOf_2 : decode cX1_sizeOf 2 = .ok (.invokevirtual 68, 3) := dk_182 0 68 (dk_at dksX1_sizeOf_0 2 rfl rfl)
theorem dX1_sizeOf_5 : decode cX1_sizeOf 5 = .ok (.invokevirtual 189, 3) := dk_182 0 189 (dk_at dksX1_sizeOf_0 5 rfl rfl)
theorem dX1_sizeOf_8 : decode cX1_sizeOf 8 = .ok (.ireturn, 1) := dk_172 (dk_at dksX1_sizeOf_0 8 rfl rfl)
abbrev cX1_pieces : ByteArray := prog_1_method_16_code
def yX1_pieces : MethodName := ⟨RX1, "pieces", "(II)I"⟩
def dkwX1_pieces_2 : List UInt8 := [184, 0, 127, 96, 54, 4, 167, 255, 236, 29, 172]
abbrev dktX1_pieces_2 : List UInt8 := dkwX1_pieces_2 ++ []
def dkwX1_pieces_1 : List UInt8 := [3, 184, 0, 84, 3, 62, 27, 54, 4, 21, 4, 28, 163, 0, 20, 132, 3, 1, 21, 4, 21, 4, 28]
abbrev dktX1_pieces_1 : List UInt8 := dkwX1_pieces_1 ++ dktX1_pieces_2
def dkwX1_pieces_0 : List UInt8 := [27, 3, 16, 63, 184, 0, 80, 153, 0, 17, 28, 27, 16, 63, 184, 0, 80, 153, 0, 7, 4, 167, 0, 4]
abbrev dktX1_pieces_0 : List UInt8 := dkwX1_pieces_0 ++ dktX1_pieces_1
theorem dksX1_pieces_0 : cX1_pieces.data.toList.drop 0 = dktX1_pieces_0 := by decide +kernel
theorem dksX1_pieces_1 : cX1_pieces.data.toList.drop 24 = dktX1_pieces_1 := dk_seg dksX1_pieces_0 24 rfl rfl
theorem dksX1_pieces_2 : cX1_pieces.data.toList.drop 47 = dktX1_pieces_2 := dk_seg dksX1_pieces_1 23 rfl rfl
theorem dX1_pieces_0 : decode cX1_pieces 0 = .ok (.iload_n 1, 1) := dk_27 (dk_at dksX1_pieces_0 0 rfl rfl)
theorem dX1_pieces_1 : decode cX1_pieces 1 = .ok (.iconst 0, 1) := dk_3 (dk_at dksX1_pieces_0 1 rfl rfl)
theorem dX1_pieces_2 : decode cX1_pieces 2 = .ok (.bipush 63, 2) := dk_16 63 (dk_at dksX1_pieces_0 2 rfl rfl)
theorem dX1_pieces_4 : decode cX1_pieces 4 = .ok (.invokestatic 80, 3) := dk_184 0 80 (dk_at dksX1_pieces_0 4 rfl rfl)
theorem dX1_pieces_7 : decode cX1_pieces 7 = .ok (.ifCond .eq 17, 3) := dk_153 0 17 (dk_at dksX1_pieces_0 7 rfl rfl)
theorem dX1_pieces_10 : decode cX1_pieces 10 = .ok (.iload_n 2, 1) := dk_28 (dk_at dksX1_pieces_0 10 rfl rfl)
theorem dX1_pieces_11 : decode cX1_pieces 11 = .ok (.iload_n 1, 1) := dk_27 (dk_at dksX1_pieces_0 11 rfl rfl)
theorem dX1_pieces_12 : decode cX1_pieces 12 = .ok (.bipush 63, 2) := dk_16 63 (dk_at dksX1_pieces_0 12 rfl rfl)
theorem dX1_pieces_14 : decode cX1_pieces 14 = .ok (.invokestatic 80, 3) := dk_184 0 80 (dk_at dksX1_pieces_0 14 rfl rfl)
theorem dX1_pieces_17 : decode cX1_pieces 17 = .ok (.ifCond .eq 7, 3) := dk_153 0 7 (dk_at dksX1_pieces_0 17 rfl rfl)
theorem dX1_pieces_20 : decode cX1_pieces 20 = .ok (.iconst 1, 1) := dk_4 (dk_at dksX1_pieces_0 20 rfl rfl)
theorem dX1_pieces_21 : decode cX1_pieces 21 = .ok (.goto 4, 3) := dk_167 0 4 (dk_at dksX1_pieces_0 21 rfl rfl)
theorem dX1_pieces_24 : decode cX1_pieces 24 = .ok (.iconst 0, 1) := dk_3 (dk_at dksX1_pieces_1 0 rfl rfl)
theorem dX1_pieces_25 : decode cX1_pieces 25 = .ok (.invokestatic 84, 3) := dk_184 0 84 (dk_at dksX1_pieces_1 1 rfl rfl)
theorem dX1_pieces_28 : decode cX1_pieces 28 = .ok (.iconst 0, 1) := dk_3 (dk_at dksX1_pieces_1 4 rfl rfl)
theorem dX1_pieces_29 : decode cX1_pieces 29 = .ok (.istore_n 3, 1) := dk_62 (dk_at dksX1_pieces_1 5 rfl rfl)
theorem dX1_pieces_30 : decode cX1_pieces 30 = .ok (.iload_n 1, 1) := dk_27 (dk_at dksX1_pieces_1 6 rfl rfl)
theorem dX1_pieces_31 : decode cX1_pieces 31 = .ok (.istore 4, 2) := dk_54 4 (dk_at dksX1_pieces_1 7 rfl rfl)
theorem dX1_pieces_33 : decode cX1_pieces 33 = .ok (.iload 4, 2) := dk_21 4 (dk_at dksX1_pieces_1 9 rfl rfl)
theorem dX1_pieces_35 : decode cX1_pieces 35 = .ok (.iload_n 2, 1) := dk_28 (dk_at dksX1_pieces_1 11 rfl rfl)
theorem dX1_pieces_36 : decode cX1_pieces 36 = .ok (.if_icmp .gt 20, 3) := dk_163 0 20 (dk_at dksX1_pieces_1 12 rfl rfl)
theorem dX1_pieces_39 : decode cX1_pieces 39 = .ok (.iinc 3 1, 3) := dk_132 3 1 (dk_at dksX1_pieces_1 15 rfl rfl)
theorem dX1_pieces_42 : decode cX1_pieces 42 = .ok (.iload 4, 2) := dk_21 4 (dk_at dksX1_pieces_1 18 rfl rfl)
theorem dX1_pieces_44 : decode cX1_pieces 44 = .ok (.iload 4, 2) := dk_21 4 (dk_at dksX1_pieces_1 20 rfl rfl)
theorem dX1_pieces_46 : decode cX1_pieces 46 = .ok (.iload_n 2, 1) := dk_28 (dk_at dksX1_pieces_1 22 rfl rfl)
theorem dX1_pieces_47 : decode cX1_pieces 47 = .ok (.invokestatic 127, 3) := dk_184 0 127 (dk_at dksX1_pieces_2 0 rfl rfl)
theorem dX1_pieces_50 : decode cX1_pieces 50 = .ok (.iadd, 1) := dk_96 (dk_at dksX1_pieces_2 3 rfl rfl)
theorem dX1_pieces_51 : decode cX1_pieces 51 = .ok (.istore 4, 2) := dk_54 4 (dk_at dksX1_pieces_2 4 rfl rfl)
theorem dX1_pieces_53 : decode cX1_pieces 53 = .ok (.goto (-20), 3) := dk_167 255 236 (dk_at dksX1_pieces_2 6 rfl rfl)
theorem dX1_pieces_56 : decode cX1_pieces 56 = .ok (.iload_n 3, 1) := dk_29 (dk_at dksX1_pieces_2 9 rfl rfl)
theorem dX1_pieces_57 : decode cX1_pieces 57 = .ok (.ireturn, 1) := dk_172 (dk_at dksX1_pieces_2 10 rfl rfl)
abbrev cX1_pieceAt : ByteArray := prog_1_method_17_code
def yX1_pieceAt : MethodName := ⟨RX1, "pieceAt", "(III)I"⟩
def dkwX1_pieceAt_3 : List UInt8 := [132, 4, 255, 21, 5, 21, 5, 28, 184, 0, 127, 96, 54, 5, 167, 255, 218, 2, 172]
abbrev dktX1_pieceAt_3 : List UInt8 := dkwX1_pieceAt_3 ++ []
def dkwX1_pieceAt_2 : List UInt8 := [21, 5, 28, 163, 0, 38, 21, 4, 154, 0, 16, 16, 100, 21, 5, 104, 21, 5, 28, 184, 0, 127, 96, 172]
abbrev dktX1_pieceAt_2 : List UInt8 := dkwX1_pieceAt_2 ++ dktX1_pieceAt_3
def dkwX1_pieceAt_1 : List UInt8 := [27, 16, 63, 184, 0, 80, 153, 0, 7, 4, 167, 0, 4, 3, 184, 0, 84, 29, 54, 4, 27, 54, 5]
abbrev dktX1_pieceAt_1 : List UInt8 := dkwX1_pieceAt_1 ++ dktX1_pieceAt_2
def dkwX1_pieceAt_0 : List UInt8 := [29, 156, 0, 7, 2, 167, 0, 4, 3, 4, 184, 0, 45, 27, 3, 16, 63, 184, 0, 80, 153, 0, 17, 28]
abbrev dktX1_pieceAt_0 : List UInt8 := dkwX1_pieceAt_0 ++ dktX1_pieceAt_1
theorem dksX1_pieceAt_0 : cX1_pieceAt.data.toList.drop 0 = dktX1_pieceAt_0 := by decide +kernel
theorem dksX1_pieceAt_1 : cX1_pieceAt.data.toList.drop 24 = dktX1_pieceAt_1 := dk_seg dksX1_pieceAt_0 24 rfl rfl
theorem dksX1_pieceAt_2 : cX1_pieceAt.data.toList.drop 47 = dktX1_pieceAt_2 := dk_seg dksX1_pieceAt_1 23 rfl rfl
theorem dksX1_pieceAt_3 : cX1_pieceAt.data.toList.drop 71 = dktX1_pieceAt_3 := dk_seg dksX1_pieceAt_2 24 rfl rfl
theorem dX1_pieceAt_0 : decode cX1_pieceAt 0 = .ok (.iload_n 3, 1) := dk_29 (dk_at dksX1_pieceAt_0 0 rfl rfl)
theorem dX1_pieceAt_1 : decode cX1_pieceAt 1 = .ok (.ifCond .ge 7, 3) := dk_156 0 7 (dk_at dksX1_pieceAt_0 1 rfl rfl)
theorem dX1_pieceAt_4 : decode cX1_pieceAt 4 = .ok (.iconst (-1), 1) := dk_2 (dk_at dksX1_pieceAt_0 4 rfl rfl)
theorem dX1_pieceAt_5 : decode cX1_pieceAt 5 = .ok (.goto 4, 3) := dk_167 0 4 (dk_at dksX1_pieceAt_0 5 rfl rfl)
theorem dX1_pieceAt_8 : decode cX1_pieceAt 8 = .ok (.iconst 0, 1) := dk_3 (dk_at dksX1_pieceAt_0 8 rfl rfl)
theorem dX1_pieceAt_9 : decode cX1_pieceAt 9 = .ok (.iconst 1, 1) := dk_4 (dk_at dksX1_pieceAt_0 9 rfl rfl)
theorem dX1_pieceAt_10 : decode cX1_pieceAt 10 = .ok (.invokestatic 45, 3) := dk_184 0 45 (dk_at dksX1_pieceAt_0 10 rfl rfl)
theorem dX1_pieceAt_13 : decode cX1_pieceAt 13 = .ok (.iload_n 1, 1) := dk_27 (dk_at dksX1_pieceAt_0 13 rfl rfl)
theorem dX1_pieceAt_14 : decode cX1_pieceAt 14 = .ok (.iconst 0, 1) := dk_3 (dk_at dksX1_pieceAt_0 14 rfl rfl)
theorem dX1_pieceAt_15 : decode cX1_pieceAt 15 = .ok (.bipush 63, 2) := dk_16 63 (dk_at dksX1_pieceAt_0 15 rfl rfl)
theorem dX1_pieceAt_17 : decode cX1_pieceAt 17 = .ok (.invokestatic 80, 3) := dk_184 0 80 (dk_at dksX1_pieceAt_0 17 rfl rfl)
theorem dX1_pieceAt_20 : decode cX1_pieceAt 20 = .ok (.ifCond .eq 17, 3) := dk_153 0 17 (dk_at dksX1_pieceAt_0 20 rfl rfl)
theorem dX1_pieceAt_23 : decode cX1_pieceAt 23 = .ok (.iload_n 2, 1) := dk_28 (dk_at dksX1_pieceAt_0 23 rfl rfl)
theorem dX1_pieceAt_24 : decode cX1_pieceAt 24 = .ok (.iload_n 1, 1) := dk_27 (dk_at dksX1_pieceAt_1 0 rfl rfl)
theorem dX1_pieceAt_25 : decode cX1_pieceAt 25 = .ok (.bipush 63, 2) := dk_16 63 (dk_at dksX1_pieceAt_1 1 rfl rfl)
theorem dX1_pieceAt_27 : decode cX1_pieceAt 27 = .ok (.invokestatic 80, 3) := dk_184 0 80 (dk_at dksX1_pieceAt_1 3 rfl rfl)
theorem dX1_pieceAt_30 : decode cX1_pieceAt 30 = .ok (.ifCond .eq 7, 3) := dk_153 0 7 (dk_at dksX1_pieceAt_1 6 rfl rfl)
theorem dX1_pieceAt_33 : decode cX1_pieceAt 33 = .ok (.iconst 1, 1) := dk_4 (dk_at dksX1_pieceAt_1 9 rfl rfl)
theorem dX1_pieceAt_34 : decode cX1_pieceAt 34 = .ok (.goto 4, 3) := dk_167 0 4 (dk_at dksX1_pieceAt_1 10 rfl rfl)
theorem dX1_pieceAt_37 : decode cX1_pieceAt 37 = .ok (.iconst 0, 1) := dk_3 (dk_at dksX1_pieceAt_1 13 rfl rfl)
theorem dX1_pieceAt_38 : decode cX1_pieceAt 38 = .ok (.invokestatic 84, 3) := dk_184 0 84 (dk_at dksX1_pieceAt_1 14 rfl rfl)
theorem dX1_pieceAt_41 : decode cX1_pieceAt 41 = .ok (.iload_n 3, 1) := dk_29 (dk_at dksX1_pieceAt_1 17 rfl rfl)
theorem dX1_pieceAt_42 : decode cX1_pieceAt 42 = .ok (.istore 4, 2) := dk_54 4 (dk_at dksX1_pieceAt_1 18 rfl rfl)
theorem dX1_pieceAt_44 : decode cX1_pieceAt 44 = .ok (.iload_n 1, 1) := dk_27 (dk_at dksX1_pieceAt_1 20 rfl rfl)
theorem dX1_pieceAt_45 : decode cX1_pieceAt 45 = .ok (.istore 5, 2) := dk_54 5 (dk_at dksX1_pieceAt_1 21 rfl rfl)
theorem dX1_pieceAt_47 : decode cX1_pieceAt 47 = .ok (.iload 5, 2) := dk_21 5 (dk_at dksX1_pieceAt_2 0 rfl rfl)
theorem dX1_pieceAt_49 : decode cX1_pieceAt 49 = .ok (.iload_n 2, 1) := dk_28 (dk_at dksX1_pieceAt_2 2 rfl rfl)
theorem dX1_pieceAt_50 : decode cX1_pieceAt 50 = .ok (.if_icmp .gt 38, 3) := dk_163 0 38 (dk_at dksX1_pieceAt_2 3 rfl rfl)
theorem dX1_pieceAt_53 : decode cX1_pieceAt 53 = .ok (.iload 4, 2) := dk_21 4 (dk_at dksX1_pieceAt_2 6 rfl rfl)
theorem dX1_pieceAt_55 : decode cX1_pieceAt 55 = .ok (.ifCond .ne 16, 3) := dk_154 0 16 (dk_at dksX1_pieceAt_2 8 rfl rfl)
theorem dX1_pieceAt_58 : decode cX1_pieceAt 58 = .ok (.bipush 100, 2) := dk_16 100 (dk_at dksX1_pieceAt_2 11 rfl rfl)
theorem dX1_pieceAt_60 : decode cX1_pieceAt 60 = .ok (.iload 5, 2) := dk_21 5 (dk_at dksX1_pieceAt_2 13 rfl rfl)
theorem dX1_pieceAt_62 : decode cX1_pieceAt 62 = .ok (.imul, 1) := dk_104 (dk_at dksX1_pieceAt_2 15 rfl rfl)
theorem dX1_pieceAt_63 : decode cX1_pieceAt 63 = .ok (.iload 5, 2) := dk_21 5 (dk_at dksX1_pieceAt_2 16 rfl rfl)
theorem dX1_pieceAt_65 : decode cX1_pieceAt 65 = .ok (.iload_n 2, 1) := dk_28 (dk_at dksX1_pieceAt_2 18 rfl rfl)
theorem dX1_pieceAt_66 : decode cX1_pieceAt 66 = .ok (.invokestatic 127, 3) := dk_184 0 127 (dk_at dksX1_pieceAt_2 19 rfl rfl)
theorem dX1_pieceAt_69 : decode cX1_pieceAt 69 = .ok (.iadd, 1) := dk_96 (dk_at dksX1_pieceAt_2 22 rfl rfl)
theorem dX1_pieceAt_70 : decode cX1_pieceAt 70 = .ok (.ireturn, 1) := dk_172 (dk_at dksX1_pieceAt_2 23 rfl rfl)
theorem dX1_pieceAt_71 : decode cX1_pieceAt 71 = .ok (.iinc 4 (-1), 3) := dk_132 4 255 (dk_at dksX1_pieceAt_3 0 rfl rfl)
theorem dX1_pieceAt_74 : decode cX1_pieceAt 74 = .ok (.iload 5, 2) := dk_21 5 (dk_at dksX1_pieceAt_3 3 rfl rfl)
theorem dX1_pieceAt_76 : decode cX1_pieceAt 76 = .ok (.iload 5, 2) := dk_21 5 (dk_at dksX1_pieceAt_3 5 rfl rfl)
theorem dX1_pieceAt_78 : decode cX1_pieceAt 78 = .ok (.iload_n 2, 1) := dk_28 (dk_at dksX1_pieceAt_3 7 rfl rfl)
theorem dX1_pieceAt_79 : decode cX1_pieceAt 79 = .ok (.invokestatic 127, 3) := dk_184 0 127 (dk_at dksX1_pieceAt_3 8 rfl rfl)
theorem dX1_pieceAt_82 : decode cX1_pieceAt 82 = .ok (.iadd, 1) := dk_96 (dk_at dksX1_pieceAt_3 11 rfl rfl)
theorem dX1_pieceAt_83 : decode cX1_pieceAt 83 = .ok (.istore 5, 2) := dk_54 5 (dk_at dksX1_pieceAt_3 12 rfl rfl)
theorem dX1_pieceAt_85 : decode cX1_pieceAt 85 = .ok (.goto (-38), 3) := dk_167 255 218 (dk_at dksX1_pieceAt_3 14 rfl rfl)
theorem dX1_pieceAt_88 : decode cX1_pieceAt 88 = .ok (.iconst (-1), 1) := dk_2 (dk_at dksX1_pieceAt_3 17 rfl rfl)
theorem dX1_pieceAt_89 : decode cX1_pieceAt 89 = .ok (.ireturn, 1) := dk_172 (dk_at dksX1_pieceAt_3 18 rfl rfl)
abbrev cX1_isQuiet : ByteArray := prog_1_method_27_code
def yX1_isQuiet : MethodName := ⟨RX1, "isQuiet", "(I)Z"⟩
def dkwX1_isQuiet_0 : List UInt8 := [42, 180, 0, 117, 42, 27, 182, 0, 68, 180, 0, 120, 162, 0, 7, 4, 167, 0, 4, 3, 172]
abbrev dktX1_isQuiet_0 : List UInt8 := dkwX1_isQuiet_0 ++ []
theorem dksX1_isQuiet_0 : cX1_isQuiet.data.toList.drop 0 = dktX1_isQuiet_0 := by decide +kernel
theorem dX1_isQuiet_0 : decode cX1_isQuiet 0 = .ok (.aload_n 0, 1) := dk_42 (dk_at dksX1_isQuiet_0 0 rfl rfl)
theorem dX1_isQuiet_1 : decode cX1_isQuiet 1 = .ok (.getfield 117, 3) := dk_180 0 117 (dk_at dksX1_isQuiet_0 1 rfl rfl)
theorem dX1_isQuiet_4 : decode cX1_isQuiet 4 = .ok (.aload_n 0, 1) := dk_42 (dk_at dksX1_isQuiet_0 4 rfl rfl)
theorem dX1_isQuiet_5 : decode cX1_isQuiet 5 = .ok (.iload_n 1, 1) := dk_27 (dk_at dksX1_isQuiet_0 5 rfl rfl)
theorem dX1_isQuiet_6 : decode cX1_isQuiet 6 = .ok (.invokevirtual 68, 3) := dk_182 0 68 (dk_at dksX1_isQuiet_0 6 rfl rfl)
theorem dX1_isQuiet_9 : decode cX1_isQuiet 9 = .ok (.getfield 120, 3) := dk_180 0 120 (dk_at dksX1_isQuiet_0 9 rfl rfl)
theorem dX1_isQuiet_12 : decode cX1_isQuiet 12 = .ok (.if_icmp .ge 7, 3) := dk_162 0 7 (dk_at dksX1_isQuiet_0 12 rfl rfl)
theorem dX1_isQuiet_15 : decode cX1_isQuiet 15 = .ok (.iconst 1, 1) := dk_4 (dk_at dksX1_isQuiet_0 15 rfl rfl)
theorem dX1_isQuiet_16 : decode cX1_isQuiet 16 = .ok (.goto 4, 3) := dk_167 0 4 (dk_at dksX1_isQuiet_0 16 rfl rfl)
theorem dX1_isQuiet_19 : decode cX1_isQuiet 19 = .ok (.iconst 0, 1) := dk_3 (dk_at dksX1_isQuiet_0 19 rfl rfl)
theorem dX1_isQuiet_20 : decode cX1_isQuiet 20 = .ok (.ireturn, 1) := dk_172 (dk_at dksX1_isQuiet_0 20 rfl rfl)
abbrev cX1_alerts : ByteArray := prog_1_method_28_code
def yX1_alerts : MethodName := ⟨RX1, "alerts", "(I)I"⟩
def dkwX1_alerts_0 : List UInt8 := [42, 27, 182, 0, 68, 180, 0, 190, 172]
abbrev dktX1_alerts_0 : List UInt8 := dkwX1_alerts_0 ++ []
theorem dksX1_alerts_0 : cX1_alerts.data.toList.drop 0 = dktX1_alerts_0 := by decide +kernel
theorem dX1_alerts_0 : decode cX1_alerts 0 = .ok (.aload_n 0, 1) := dk_42 (dk_at dksX1_alerts_0 0 rfl rfl)
theorem dX1_alerts_1 : decode cX1_alerts 1 = .ok (.iload_n 1, 1) := dk_27 (dk_at dksX1_alerts_0 1 rfl rfl)
theorem dX1_alerts_2 : decode cX1_alerts 2 = .ok (.invokevirtual 68, 3) := dk_182 0 68 (dk_at dksX1_alerts_0 2 rfl rfl)
theorem dX1_alerts_5 : decode cX1_alerts 5 = .ok (.getfield 190, 3) := dk_180 0 190 (dk_at dksX1_alerts_0 5 rfl rfl)
theorem dX1_alerts_8 : decode cX1_alerts 8 = .ok (.ireturn, 1) := dk_172 (dk_at dksX1_alerts_0 8 rfl rfl)
abbrev cX1_batch : ByteArray := prog_1_method_29_code
def yX1_batch : MethodName := ⟨RX1, "batch", "(I)I"⟩
def dkwX1_batch_0 : List UInt8 := [42, 27, 182, 0, 68, 180, 0, 106, 172]
abbrev dktX1_batch_0 : List UInt8 := dkwX1_batch_0 ++ []
theorem dksX1_batch_0 : cX1_batch.data.toList.drop 0 = dktX1_batch_0 := by decide +kernel
theorem dX1_batch_0 : decode cX1_batch 0 = .ok (.aload_n 0, 1) := dk_42 (dk_at dksX1_batch_0 0 rfl rfl)
theorem dX1_batch_1 : decode cX1_batch 1 = .ok (.iload_n 1, 1) := dk_27 (dk_at dksX1_batch_0 1 rfl rfl)
theorem dX1_batch_2 : decode cX1_batch 2 = .ok (.invokevirtual 68, 3) := dk_182 0 68 (dk_at dksX1_batch_0 2 rfl rfl)
theorem dX1_batch_5 : decode cX1_batch 5 = .ok (.getfield 106, 3) := dk_180 0 106 (dk_at dksX1_batch_0 5 rfl rfl)
theorem dX1_batch_8 : decode cX1_batch 8 = .ok (.ireturn, 1) := dk_172 (dk_at dksX1_batch_0 8 rfl rfl)
theorem q16 : (Jvm.Cond.initialized "AlertIndex") ∈ lw_all := lw_g (lw_at lw_m1 1 rfl) rfl
theorem q56 : (Jvm.Cond.instantiable "AlertIndex" (5 : Nat)) ∈ lw_all := lw_g (lw_at lw_m1 41 rfl) rfl
theorem q58 : (Jvm.Cond.instanceMethod ({ cls := "AlertIndex", name := "<init>", desc := "()V" } : Jvm.MethodName)) ∈ lw_all := lw_g (lw_at lw_m1 43 rfl) rfl
theorem q59 : (Jvm.Cond.code ({ cls := "AlertIndex", name := "<init>", desc := "()V" } : Jvm.MethodName) prog_1_method_1_code (2 : Nat) (Option.none : Option Jvm.ClassFile.FieldType)) ∈ lw_all := lw_g (lw_at lw_m1 44 rfl) rfl
theorem q60 : (Jvm.Cond.methodLink "AlertIndex" (1 : Nat) ({ cls := "java/lang/Object", name := "<init>", desc := "()V" } : Jvm.MethodName)) ∈ lw_all := lw_g (lw_at lw_m1 45 rfl) rfl
theorem q63 : (Jvm.Cond.classLink "AlertIndex" (7 : Nat) "java/util/ArrayList") ∈ lw_all := lw_g (lw_at lw_m1 48 rfl) rfl
theorem q65 : (Jvm.Cond.methodLink "AlertIndex" (9 : Nat) ({ cls := "java/util/ArrayList", name := "<init>", desc := "()V" } : Jvm.MethodName)) ∈ lw_all := lw_g (lw_at lw_m1 50 rfl) rfl
theorem q89 : (Jvm.Cond.classLink "AlertIndex" (20 : Nat) "java/util/HashMap") ∈ lw_all := lw_g (lw_at lw_m1 74 rfl) rfl
theorem q91 : (Jvm.Cond.methodLink "AlertIndex" (22 : Nat) ({ cls := "java/util/HashMap", name := "<init>", desc := "()V" } : Jvm.MethodName)) ∈ lw_all := lw_g (lw_at lw_m1 76 rfl) rfl
theorem q122 : (Jvm.Cond.fieldLink "AlertIndex" (10 : Nat) "AlertIndex" "questions" "Ljava/util/List;") ∈ lw_all := lw_g (lw_at lw_m1 107 rfl) rfl
theorem q123 : (Jvm.Cond.fieldLink "AlertIndex" (16 : Nat) "AlertIndex" "draft" "[I") ∈ lw_all := lw_g (lw_at lw_m1 108 rfl) rfl
theorem q124 : (Jvm.Cond.fieldLink "AlertIndex" (23 : Nat) "AlertIndex" "index" "Ljava/util/Map;") ∈ lw_all := lw_g (lw_at lw_m1 109 rfl) rfl
theorem q125 : (Jvm.Cond.fieldLink "AlertIndex" (27 : Nat) "AlertIndex" "indexed" "Ljava/util/List;") ∈ lw_all := lw_g (lw_at lw_m1 110 rfl) rfl
theorem q126 : (Jvm.Cond.fieldLink "AlertIndex" (117 : Nat) "AlertIndex" "minute" "I") ∈ lw_all := lw_g (lw_at lw_m1 111 rfl) rfl
theorem q127 : (Jvm.Cond.laysFinal "AlertIndex" "AlertIndex" "questions" "Ljava/util/List;") ∈ lw_all := lw_g (lw_at lw_m1 112 rfl) rfl
theorem q128 : (Jvm.Cond.soleField "AlertIndex" "questions") ∈ lw_all := lw_g (lw_at lw_m1 113 rfl) rfl
theorem q129 : (Jvm.Cond.laysFinal "AlertIndex" "AlertIndex" "draft" "[I") ∈ lw_all := lw_g (lw_at lw_m1 114 rfl) rfl
theorem q130 : (Jvm.Cond.soleField "AlertIndex" "draft") ∈ lw_all := lw_g (lw_at lw_m1 115 rfl) rfl
theorem q131 : (Jvm.Cond.laysFinal "AlertIndex" "AlertIndex" "index" "Ljava/util/Map;") ∈ lw_all := lw_g (lw_at lw_m1 116 rfl) rfl
theorem q132 : (Jvm.Cond.soleField "AlertIndex" "index") ∈ lw_all := lw_g (lw_at lw_m1 117 rfl) rfl
theorem q133 : (Jvm.Cond.laysFinal "AlertIndex" "AlertIndex" "indexed" "Ljava/util/List;") ∈ lw_all := lw_g (lw_at lw_m1 118 rfl) rfl
theorem q134 : (Jvm.Cond.soleField "AlertIndex" "indexed") ∈ lw_all := lw_g (lw_at lw_m1 119 rfl) rfl
theorem q135 : (Jvm.Cond.lays "AlertIndex" "AlertIndex" "minute" "I") ∈ lw_all := lw_g (lw_at lw_m1 120 rfl) rfl
theorem q136 : (Jvm.Cond.soleField "AlertIndex" "minute") ∈ lw_all := lw_g (lw_at lw_m1 121 rfl) rfl
theorem q137 : (Jvm.Cond.superclass "AlertIndex" "java/lang/Object") ∈ lw_all := lw_g (lw_at lw_m1 122 rfl) rfl
theorem q139 : (Jvm.Cond.instanceMethod ({ cls := "AlertIndex", name := "come", desc := "()I" } : Jvm.MethodName)) ∈ lw_all := lw_g (lw_at lw_m1 124 rfl) rfl
theorem q140 : (Jvm.Cond.selects "AlertIndex" ({ cls := "AlertIndex", name := "come", desc := "()I" } : Jvm.MethodName) ({ cls := "AlertIndex", name := "come", desc := "()I" } : Jvm.MethodName)) ∈ lw_all := lw_g (lw_at lw_m1 125 rfl) rfl
theorem q141 : (Jvm.Cond.code ({ cls := "AlertIndex", name := "come", desc := "()I" } : Jvm.MethodName) prog_1_method_13_code (4 : Nat) (Option.some Jvm.ClassFile.FieldType.int)) ∈ lw_all := lw_g (lw_at lw_m1 126 rfl) rfl
theorem q142 : (Jvm.Cond.interfaceEntry "AlertIndex" (39 : Nat)) ∈ lw_tbl := lw_at lw_m1 127 rfl
theorem q143 : (Jvm.Cond.methodLink "AlertIndex" (39 : Nat) ({ cls := "java/util/List", name := "size", desc := "()I" } : Jvm.MethodName)) ∈ lw_all := lw_g (lw_at lw_m1 128 rfl) rfl
theorem q152 : (Jvm.Cond.interfaceEntry "AlertIndex" (49 : Nat)) ∈ lw_tbl := lw_at lw_m1 137 rfl
theorem q153 : (Jvm.Cond.methodLink "AlertIndex" (49 : Nat) ({ cls := "java/util/List", name := "get", desc := "(I)Ljava/lang/Object;" } : Jvm.MethodName)) ∈ lw_all := lw_g (lw_at lw_m1 138 rfl) rfl
theorem q171 : (Jvm.Cond.classLink "AlertIndex" (53 : Nat) "AlertIndex$Question") ∈ lw_all := lw_g (lw_at lw_m1 156 rfl) rfl
theorem q172 : (Jvm.Cond.methodLink "AlertIndex" (113 : Nat) ({ cls := "AlertIndex$Question", name := "isSatisfied", desc := "([I)Z" } : Jvm.MethodName)) ∈ lw_all := lw_g (lw_at lw_m1 157 rfl) rfl
theorem q239 : (Jvm.Cond.methodLink "AlertIndex" (123 : Nat) ({ cls := "AlertIndex$Question", name := "raise", desc := "(I)V" } : Jvm.MethodName)) ∈ lw_all := lw_g (lw_at lw_m1 224 rfl) rfl
theorem q244 : (Jvm.Cond.instanceMethod ({ cls := "AlertIndex", name := "matching", desc := "()I" } : Jvm.MethodName)) ∈ lw_all := lw_g (lw_at lw_m1 229 rfl) rfl
theorem q245 : (Jvm.Cond.selects "AlertIndex" ({ cls := "AlertIndex", name := "matching", desc := "()I" } : Jvm.MethodName) ({ cls := "AlertIndex", name := "matching", desc := "()I" } : Jvm.MethodName)) ∈ lw_all := lw_g (lw_at lw_m1 230 rfl) rfl
theorem q246 : (Jvm.Cond.code ({ cls := "AlertIndex", name := "matching", desc := "()I" } : Jvm.MethodName) prog_1_method_20_code (4 : Nat) (Option.some Jvm.ClassFile.FieldType.int)) ∈ lw_all := lw_g (lw_at lw_m1 231 rfl) rfl
theorem q248 : (Jvm.Cond.instanceMethod ({ cls := "AlertIndex", name := "matchingByIndex", desc := "()I" } : Jvm.MethodName)) ∈ lw_all := lw_g (lw_at lw_m1 233 rfl) rfl
theorem q249 : (Jvm.Cond.selects "AlertIndex" ({ cls := "AlertIndex", name := "matchingByIndex", desc := "()I" } : Jvm.MethodName) ({ cls := "AlertIndex", name := "matchingByIndex", desc := "()I" } : Jvm.MethodName)) ∈ lw_all := lw_g (lw_at lw_m1 234 rfl) rfl
theorem q250 : (Jvm.Cond.code ({ cls := "AlertIndex", name := "matchingByIndex", desc := "()I" } : Jvm.MethodName) prog_1_method_23_code (5 : Nat) (Option.some Jvm.ClassFile.FieldType.int)) ∈ lw_all := lw_g (lw_at lw_m1 235 rfl) rfl
theorem q251 : (Jvm.Cond.classLink "AlertIndex" (75 : Nat) "AlertIndex$Product") ∈ lw_all := lw_g (lw_at lw_m1 236 rfl) rfl
theorem q252 : (Jvm.Cond.methodLink "AlertIndex" (179 : Nat) ({ cls := "AlertIndex", name := "count", desc := "(II)V" } : Jvm.MethodName)) ∈ lw_all := lw_g (lw_at lw_m1 237 rfl) rfl
theorem q253 : (Jvm.Cond.privateMethod ({ cls := "AlertIndex", name := "count", desc := "(II)V" } : Jvm.MethodName)) ∈ lw_tbl := lw_at lw_m1 238 rfl
theorem q254 : (Jvm.Cond.instanceMethod ({ cls := "AlertIndex", name := "count", desc := "(II)V" } : Jvm.MethodName)) ∈ lw_all := lw_g (lw_at lw_m1 239 rfl) rfl
theorem q255 : (Jvm.Cond.code ({ cls := "AlertIndex", name := "count", desc := "(II)V" } : Jvm.MethodName) prog_1_method_22_code (6 : Nat) (Option.none : Option Jvm.ClassFile.FieldType)) ∈ lw_all := lw_g (lw_at lw_m2 0 rfl) rfl
theorem q256 : (Jvm.Cond.methodLink "AlertIndex" (160 : Nat) ({ cls := "AlertIndex", name := "key", desc := "(III)Ljava/lang/String;" } : Jvm.MethodName)) ∈ lw_all := lw_g (lw_at lw_m2 1 rfl) rfl
theorem q257 : (Jvm.Cond.static ({ cls := "AlertIndex", name := "key", desc := "(III)Ljava/lang/String;" } : Jvm.MethodName)) ∈ lw_all := lw_g (lw_at lw_m2 2 rfl) rfl
theorem q258 : (Jvm.Cond.code ({ cls := "AlertIndex", name := "key", desc := "(III)Ljava/lang/String;" } : Jvm.MethodName) prog_1_method_18_code (3 : Nat) (Option.some (Jvm.ClassFile.FieldType.object "java/lang/String"))) ∈ lw_all := lw_g (lw_at lw_m2 3 rfl) rfl
theorem q259 : (Jvm.Cond.classLink "AlertIndex" (131 : Nat) "java/lang/StringBuilder") ∈ lw_all := lw_g (lw_at lw_m2 4 rfl) rfl
theorem q261 : (Jvm.Cond.methodLink "AlertIndex" (133 : Nat) ({ cls := "java/lang/StringBuilder", name := "<init>", desc := "()V" } : Jvm.MethodName)) ∈ lw_all := lw_g (lw_at lw_m2 6 rfl) rfl
theorem q291 : (Jvm.Cond.stringRef "AlertIndex" (134 : Nat) "n") ∈ lw_tbl := lw_at lw_m2 36 rfl
theorem q292 : (Jvm.Cond.methodLink "AlertIndex" (136 : Nat) ({ cls := "java/lang/StringBuilder", name := "append", desc := "(Ljava/lang/String;)Ljava/lang/StringBuilder;" } : Jvm.MethodName)) ∈ lw_all := lw_g (lw_at lw_m2 37 rfl) rfl
theorem q412 : (Jvm.Cond.methodLink "AlertIndex" (140 : Nat) ({ cls := "java/lang/StringBuilder", name := "append", desc := "(I)Ljava/lang/StringBuilder;" } : Jvm.MethodName)) ∈ lw_all := lw_g (lw_at lw_m2 157 rfl) rfl
theorem q437 : (Jvm.Cond.stringRef "AlertIndex" (143 : Nat) ":") ∈ lw_tbl := lw_at lw_m2 182 rfl
theorem q438 : (Jvm.Cond.stringRef "AlertIndex" (145 : Nat) "+") ∈ lw_tbl := lw_at lw_m2 183 rfl
theorem q439 : (Jvm.Cond.methodLink "AlertIndex" (147 : Nat) ({ cls := "java/lang/StringBuilder", name := "toString", desc := "()Ljava/lang/String;" } : Jvm.MethodName)) ∈ lw_all := lw_g (lw_at lw_m2 184 rfl) rfl
theorem q574 : (Jvm.Cond.interfaceEntry "AlertIndex" (173 : Nat)) ∈ lw_tbl := lw_at lw_m3 79 rfl
theorem q575 : (Jvm.Cond.methodLink "AlertIndex" (173 : Nat) ({ cls := "java/util/Map", name := "get", desc := "(Ljava/lang/Object;)Ljava/lang/Object;" } : Jvm.MethodName)) ∈ lw_all := lw_g (lw_at lw_m3 80 rfl) rfl
theorem q595 : (Jvm.Cond.selects "AlertIndex" ({ cls := "java/lang/Object", name := "hashCode", desc := "()I" } : Jvm.MethodName) ({ cls := "java/lang/Object", name := "hashCode", desc := "()I" } : Jvm.MethodName)) ∈ lw_all := lw_g (lw_at lw_m3 100 rfl) rfl
theorem q682 : (Jvm.Cond.selects "AlertIndex" ({ cls := "java/lang/Object", name := "equals", desc := "(Ljava/lang/Object;)Z" } : Jvm.MethodName) ({ cls := "java/lang/Object", name := "equals", desc := "(Ljava/lang/Object;)Z" } : Jvm.MethodName)) ∈ lw_all := lw_g (lw_at lw_m3 187 rfl) rfl
theorem q731 : (Jvm.Cond.selects "AlertIndex" ({ cls := "java/lang/Object", name := "getClass", desc := "()Ljava/lang/Class;" } : Jvm.MethodName) ({ cls := "java/lang/Object", name := "getClass", desc := "()Ljava/lang/Class;" } : Jvm.MethodName)) ∈ lw_all := lw_g (lw_at lw_m3 236 rfl) rfl
theorem q936 : (Jvm.Cond.classLink "AlertIndex" (40 : Nat) "java/util/List") ∈ lw_all := lw_g (lw_at lw_m4 201 rfl) rfl
theorem q937 : (Jvm.Cond.methodLink "AlertIndex" (185 : Nat) ({ cls := "AlertIndex$Product", name := "size", desc := "()I" } : Jvm.MethodName)) ∈ lw_all := lw_g (lw_at lw_m4 202 rfl) rfl
theorem q954 : (Jvm.Cond.methodLink "AlertIndex" (186 : Nat) ({ cls := "AlertIndex$Product", name := "isOpen", desc := "([I)Z" } : Jvm.MethodName)) ∈ lw_all := lw_g (lw_at lw_m4 219 rfl) rfl
theorem q959 : (Jvm.Cond.instanceMethod ({ cls := "AlertIndex", name := "withSize", desc := "(I)I" } : Jvm.MethodName)) ∈ lw_all := lw_g (lw_at lw_m4 224 rfl) rfl
theorem q960 : (Jvm.Cond.selects "AlertIndex" ({ cls := "AlertIndex", name := "withSize", desc := "(I)I" } : Jvm.MethodName) ({ cls := "AlertIndex", name := "withSize", desc := "(I)I" } : Jvm.MethodName)) ∈ lw_all := lw_g (lw_at lw_m4 225 rfl) rfl
theorem q961 : (Jvm.Cond.code ({ cls := "AlertIndex", name := "withSize", desc := "(I)I" } : Jvm.MethodName) prog_1_method_25_code (4 : Nat) (Option.some Jvm.ClassFile.FieldType.int)) ∈ lw_all := lw_g (lw_at lw_m4 226 rfl) rfl
theorem q962 : (Jvm.Cond.methodLink "AlertIndex" (189 : Nat) ({ cls := "AlertIndex$Question", name := "size", desc := "()I" } : Jvm.MethodName)) ∈ lw_all := lw_g (lw_at lw_m4 227 rfl) rfl
theorem q978 : (Jvm.Cond.instanceMethod ({ cls := "AlertIndex", name := "minute", desc := "()I" } : Jvm.MethodName)) ∈ lw_all := lw_g (lw_at lw_m5 3 rfl) rfl
theorem q979 : (Jvm.Cond.selects "AlertIndex" ({ cls := "AlertIndex", name := "minute", desc := "()I" } : Jvm.MethodName) ({ cls := "AlertIndex", name := "minute", desc := "()I" } : Jvm.MethodName)) ∈ lw_all := lw_g (lw_at lw_m5 4 rfl) rfl
theorem q980 : (Jvm.Cond.code ({ cls := "AlertIndex", name := "minute", desc := "()I" } : Jvm.MethodName) prog_1_method_26_code (1 : Nat) (Option.some Jvm.ClassFile.FieldType.int)) ∈ lw_all := lw_g (lw_at lw_m5 5 rfl) rfl
theorem q986 : (Jvm.Cond.instanceMethod ({ cls := "AlertIndex", name := "question", desc := "()I" } : Jvm.MethodName)) ∈ lw_all := lw_g (lw_at lw_m5 11 rfl) rfl
theorem q987 : (Jvm.Cond.selects "AlertIndex" ({ cls := "AlertIndex", name := "question", desc := "()I" } : Jvm.MethodName) ({ cls := "AlertIndex", name := "question", desc := "()I" } : Jvm.MethodName)) ∈ lw_all := lw_g (lw_at lw_m5 12 rfl) rfl
theorem q988 : (Jvm.Cond.code ({ cls := "AlertIndex", name := "question", desc := "()I" } : Jvm.MethodName) prog_1_method_7_code (1 : Nat) (Option.some Jvm.ClassFile.FieldType.int)) ∈ lw_all := lw_g (lw_at lw_m5 13 rfl) rfl
theorem q989 : (Jvm.Cond.methodLink "AlertIndex" (59 : Nat) ({ cls := "AlertIndex", name := "allow", desc := "(Z)V" } : Jvm.MethodName)) ∈ lw_all := lw_g (lw_at lw_m5 14 rfl) rfl
theorem q990 : (Jvm.Cond.static ({ cls := "AlertIndex", name := "allow", desc := "(Z)V" } : Jvm.MethodName)) ∈ lw_all := lw_g (lw_at lw_m5 15 rfl) rfl
theorem q991 : (Jvm.Cond.code ({ cls := "AlertIndex", name := "allow", desc := "(Z)V" } : Jvm.MethodName) prog_1_method_3_code (1 : Nat) (Option.none : Option Jvm.ClassFile.FieldType)) ∈ lw_all := lw_g (lw_at lw_m5 16 rfl) rfl
theorem q992 : (Jvm.Cond.classLink "AlertIndex" (33 : Nat) "java/lang/IllegalStateException") ∈ lw_all := lw_g (lw_at lw_m5 17 rfl) rfl
theorem q1001 : (Jvm.Cond.methodLink "AlertIndex" (35 : Nat) ({ cls := "java/lang/IllegalStateException", name := "<init>", desc := "()V" } : Jvm.MethodName)) ∈ lw_all := lw_g (lw_at lw_m5 26 rfl) rfl
theorem q1014 : (Jvm.Cond.methodLinkNest "AlertIndex" (63 : Nat) ({ cls := "AlertIndex$Question", name := "<init>", desc := "()V" } : Jvm.MethodName) "AlertIndex") ∈ lw_tbl := lw_at lw_m5 39 rfl
theorem q1021 : (Jvm.Cond.fieldLink "AlertIndex" (72 : Nat) "AlertIndex$Question" "products" "Ljava/util/List;") ∈ lw_all := lw_g (lw_at lw_m5 46 rfl) rfl
theorem q1022 : (Jvm.Cond.fieldLink "AlertIndex" (55 : Nat) "AlertIndex$Question" "isDropped" "Z") ∈ lw_all := lw_g (lw_at lw_m5 47 rfl) rfl
theorem q1024 : (Jvm.Cond.fieldLink "AlertIndex" (110 : Nat) "AlertIndex$Question" "quiet" "I") ∈ lw_all := lw_g (lw_at lw_m5 49 rfl) rfl
theorem q1026 : (Jvm.Cond.fieldLink "AlertIndex" (120 : Nat) "AlertIndex$Question" "until" "I") ∈ lw_all := lw_g (lw_at lw_m5 51 rfl) rfl
theorem q1028 : (Jvm.Cond.fieldLink "AlertIndex" (190 : Nat) "AlertIndex$Question" "alerts" "I") ∈ lw_all := lw_g (lw_at lw_m5 53 rfl) rfl
theorem q1030 : (Jvm.Cond.fieldLink "AlertIndex" (106 : Nat) "AlertIndex$Question" "batch" "I") ∈ lw_all := lw_g (lw_at lw_m5 55 rfl) rfl
theorem q1044 : (Jvm.Cond.interfaceEntry "AlertIndex" (64 : Nat)) ∈ lw_tbl := lw_at lw_m5 69 rfl
theorem q1045 : (Jvm.Cond.methodLink "AlertIndex" (64 : Nat) ({ cls := "java/util/List", name := "add", desc := "(Ljava/lang/Object;)Z" } : Jvm.MethodName)) ∈ lw_all := lw_g (lw_at lw_m5 70 rfl) rfl
theorem q1101 : (Jvm.Cond.instanceMethod ({ cls := "AlertIndex", name := "product", desc := "(I)I" } : Jvm.MethodName)) ∈ lw_all := lw_g (lw_at lw_m5 126 rfl) rfl
theorem q1102 : (Jvm.Cond.selects "AlertIndex" ({ cls := "AlertIndex", name := "product", desc := "(I)I" } : Jvm.MethodName) ({ cls := "AlertIndex", name := "product", desc := "(I)I" } : Jvm.MethodName)) ∈ lw_all := lw_g (lw_at lw_m5 127 rfl) rfl
theorem q1103 : (Jvm.Cond.code ({ cls := "AlertIndex", name := "product", desc := "(I)I" } : Jvm.MethodName) prog_1_method_8_code (4 : Nat) (Option.some Jvm.ClassFile.FieldType.int)) ∈ lw_all := lw_g (lw_at lw_m5 128 rfl) rfl
theorem q1104 : (Jvm.Cond.methodLink "AlertIndex" (68 : Nat) ({ cls := "AlertIndex", name := "find", desc := "(I)LAlertIndex$Question;" } : Jvm.MethodName)) ∈ lw_all := lw_g (lw_at lw_m5 129 rfl) rfl
theorem q1105 : (Jvm.Cond.privateMethod ({ cls := "AlertIndex", name := "find", desc := "(I)LAlertIndex$Question;" } : Jvm.MethodName)) ∈ lw_tbl := lw_at lw_m5 130 rfl
theorem q1106 : (Jvm.Cond.instanceMethod ({ cls := "AlertIndex", name := "find", desc := "(I)LAlertIndex$Question;" } : Jvm.MethodName)) ∈ lw_all := lw_g (lw_at lw_m5 131 rfl) rfl
theorem q1107 : (Jvm.Cond.code ({ cls := "AlertIndex", name := "find", desc := "(I)LAlertIndex$Question;" } : Jvm.MethodName) prog_1_method_6_code (3 : Nat) (Option.some (Jvm.ClassFile.FieldType.object "AlertIndex$Question"))) ∈ lw_all := lw_g (lw_at lw_m5 132 rfl) rfl
theorem q1108 : (Jvm.Cond.methodLink "AlertIndex" (45 : Nat) ({ cls := "AlertIndex", name := "exists", desc := "(II)V" } : Jvm.MethodName)) ∈ lw_all := lw_g (lw_at lw_m5 133 rfl) rfl
theorem q1109 : (Jvm.Cond.static ({ cls := "AlertIndex", name := "exists", desc := "(II)V" } : Jvm.MethodName)) ∈ lw_all := lw_g (lw_at lw_m5 134 rfl) rfl
theorem q1110 : (Jvm.Cond.code ({ cls := "AlertIndex", name := "exists", desc := "(II)V" } : Jvm.MethodName) prog_1_method_4_code (2 : Nat) (Option.none : Option Jvm.ClassFile.FieldType)) ∈ lw_all := lw_g (lw_at lw_m5 135 rfl) rfl
theorem q1111 : (Jvm.Cond.classLink "AlertIndex" (36 : Nat) "java/lang/IndexOutOfBoundsException") ∈ lw_all := lw_g (lw_at lw_m5 136 rfl) rfl
theorem q1120 : (Jvm.Cond.methodLink "AlertIndex" (38 : Nat) ({ cls := "java/lang/IndexOutOfBoundsException", name := "<init>", desc := "()V" } : Jvm.MethodName)) ∈ lw_all := lw_g (lw_at lw_m5 145 rfl) rfl
theorem q1127 : (Jvm.Cond.methodLink "AlertIndex" (77 : Nat) ({ cls := "AlertIndex$Product", name := "<init>", desc := "(I)V" } : Jvm.MethodName)) ∈ lw_all := lw_g (lw_at lw_m5 152 rfl) rfl
theorem q1134 : (Jvm.Cond.fieldLink "AlertIndex" (91 : Nat) "AlertIndex$Product" "tests" "Ljava/util/List;") ∈ lw_all := lw_g (lw_at lw_m5 159 rfl) rfl
theorem q1136 : (Jvm.Cond.fieldLink "AlertIndex" (182 : Nat) "AlertIndex$Product" "question" "I") ∈ lw_all := lw_g (lw_at lw_m5 161 rfl) rfl
theorem q1137 : (Jvm.Cond.fieldLink "AlertIndex" (176 : Nat) "AlertIndex$Product" "found" "I") ∈ lw_all := lw_g (lw_at lw_m5 162 rfl) rfl
theorem q1150 : (Jvm.Cond.instanceMethod ({ cls := "AlertIndex", name := "test", desc := "(IIIIZ)I" } : Jvm.MethodName)) ∈ lw_all := lw_g (lw_at lw_m5 175 rfl) rfl
theorem q1151 : (Jvm.Cond.selects "AlertIndex" ({ cls := "AlertIndex", name := "test", desc := "(IIIIZ)I" } : Jvm.MethodName) ({ cls := "AlertIndex", name := "test", desc := "(IIIIZ)I" } : Jvm.MethodName)) ∈ lw_all := lw_g (lw_at lw_m5 176 rfl) rfl
theorem q1152 : (Jvm.Cond.code ({ cls := "AlertIndex", name := "test", desc := "(IIIIZ)I" } : Jvm.MethodName) prog_1_method_9_code (10 : Nat) (Option.some Jvm.ClassFile.FieldType.int)) ∈ lw_all := lw_g (lw_at lw_m5 177 rfl) rfl
theorem q1153 : (Jvm.Cond.methodLink "AlertIndex" (80 : Nat) ({ cls := "AlertIndex", name := "isIn", desc := "(III)Z" } : Jvm.MethodName)) ∈ lw_all := lw_g (lw_at lw_m5 178 rfl) rfl
theorem q1154 : (Jvm.Cond.static ({ cls := "AlertIndex", name := "isIn", desc := "(III)Z" } : Jvm.MethodName)) ∈ lw_all := lw_g (lw_at lw_m5 179 rfl) rfl
theorem q1155 : (Jvm.Cond.code ({ cls := "AlertIndex", name := "isIn", desc := "(III)Z" } : Jvm.MethodName) prog_1_method_5_code (3 : Nat) (Option.some Jvm.ClassFile.FieldType.boolean)) ∈ lw_all := lw_g (lw_at lw_m5 180 rfl) rfl
theorem q1156 : (Jvm.Cond.methodLink "AlertIndex" (84 : Nat) ({ cls := "AlertIndex", name := "want", desc := "(Z)V" } : Jvm.MethodName)) ∈ lw_all := lw_g (lw_at lw_m5 181 rfl) rfl
theorem q1157 : (Jvm.Cond.static ({ cls := "AlertIndex", name := "want", desc := "(Z)V" } : Jvm.MethodName)) ∈ lw_all := lw_g (lw_at lw_m5 182 rfl) rfl
theorem q1158 : (Jvm.Cond.code ({ cls := "AlertIndex", name := "want", desc := "(Z)V" } : Jvm.MethodName) prog_1_method_2_code (1 : Nat) (Option.none : Option Jvm.ClassFile.FieldType)) ∈ lw_all := lw_g (lw_at lw_m5 183 rfl) rfl
theorem q1159 : (Jvm.Cond.classLink "AlertIndex" (30 : Nat) "java/lang/IllegalArgumentException") ∈ lw_all := lw_g (lw_at lw_m5 184 rfl) rfl
theorem q1160 : (Jvm.Cond.methodLink "AlertIndex" (32 : Nat) ({ cls := "java/lang/IllegalArgumentException", name := "<init>", desc := "()V" } : Jvm.MethodName)) ∈ lw_all := lw_g (lw_at lw_m5 185 rfl) rfl
theorem q1164 : (Jvm.Cond.interfaceEntry "AlertIndex" (87 : Nat)) ∈ lw_tbl := lw_at lw_m5 189 rfl
theorem q1165 : (Jvm.Cond.methodLink "AlertIndex" (87 : Nat) ({ cls := "java/util/List", name := "isEmpty", desc := "()Z" } : Jvm.MethodName)) ∈ lw_all := lw_g (lw_at lw_m5 190 rfl) rfl
theorem q1166 : (Jvm.Cond.methodLink "AlertIndex" (94 : Nat) ({ cls := "AlertIndex$Test", name := "of", desc := "(IIIZ)LAlertIndex$Test;" } : Jvm.MethodName)) ∈ lw_all := lw_g (lw_at lw_m5 191 rfl) rfl
theorem q1198 : (Jvm.Cond.classLink "AlertIndex" (100 : Nat) "AlertIndex$Range") ∈ lw_all := lw_g (lw_at lw_m5 223 rfl) rfl
theorem q1199 : (Jvm.Cond.methodLink "AlertIndex" (102 : Nat) ({ cls := "AlertIndex", name := "lay", desc := "(LAlertIndex$Product;LAlertIndex$Range;)V" } : Jvm.MethodName)) ∈ lw_all := lw_g (lw_at lw_m5 224 rfl) rfl
theorem q1200 : (Jvm.Cond.privateMethod ({ cls := "AlertIndex", name := "lay", desc := "(LAlertIndex$Product;LAlertIndex$Range;)V" } : Jvm.MethodName)) ∈ lw_tbl := lw_at lw_m5 225 rfl
theorem q1201 : (Jvm.Cond.instanceMethod ({ cls := "AlertIndex", name := "lay", desc := "(LAlertIndex$Product;LAlertIndex$Range;)V" } : Jvm.MethodName)) ∈ lw_all := lw_g (lw_at lw_m5 226 rfl) rfl
theorem q1202 : (Jvm.Cond.code ({ cls := "AlertIndex", name := "lay", desc := "(LAlertIndex$Product;LAlertIndex$Range;)V" } : Jvm.MethodName) prog_1_method_21_code (5 : Nat) (Option.none : Option Jvm.ClassFile.FieldType)) ∈ lw_all := lw_g (lw_at lw_m5 227 rfl) rfl
theorem q1203 : (Jvm.Cond.methodLink "AlertIndex" (151 : Nat) ({ cls := "AlertIndex$Range", name := "low", desc := "()I" } : Jvm.MethodName)) ∈ lw_all := lw_g (lw_at lw_m5 228 rfl) rfl
theorem q1207 : (Jvm.Cond.methodLink "AlertIndex" (154 : Nat) ({ cls := "AlertIndex$Range", name := "high", desc := "()I" } : Jvm.MethodName)) ∈ lw_all := lw_g (lw_at lw_m5 232 rfl) rfl
theorem q1211 : (Jvm.Cond.methodLink "AlertIndex" (157 : Nat) ({ cls := "AlertIndex$Range", name := "name", desc := "()I" } : Jvm.MethodName)) ∈ lw_all := lw_g (lw_at lw_m5 236 rfl) rfl
theorem q1212 : (Jvm.Cond.methodLink "AlertIndex" (127 : Nat) ({ cls := "AlertIndex", name := "piece", desc := "(II)I" } : Jvm.MethodName)) ∈ lw_all := lw_g (lw_at lw_m5 237 rfl) rfl
theorem q1213 : (Jvm.Cond.static ({ cls := "AlertIndex", name := "piece", desc := "(II)I" } : Jvm.MethodName)) ∈ lw_all := lw_g (lw_at lw_m5 238 rfl) rfl
theorem q1214 : (Jvm.Cond.code ({ cls := "AlertIndex", name := "piece", desc := "(II)I" } : Jvm.MethodName) prog_1_method_15_code (3 : Nat) (Option.some Jvm.ClassFile.FieldType.int)) ∈ lw_all := lw_g (lw_at lw_m5 239 rfl) rfl
theorem q1215 : (Jvm.Cond.interfaceEntry "AlertIndex" (164 : Nat)) ∈ lw_tbl := lw_at lw_m6 0 rfl
theorem q1216 : (Jvm.Cond.methodLink "AlertIndex" (164 : Nat) ({ cls := "java/util/Map", name := "containsKey", desc := "(Ljava/lang/Object;)Z" } : Jvm.MethodName)) ∈ lw_all := lw_g (lw_at lw_m6 1 rfl) rfl
theorem q1224 : (Jvm.Cond.interfaceEntry "AlertIndex" (169 : Nat)) ∈ lw_tbl := lw_at lw_m6 9 rfl
theorem q1225 : (Jvm.Cond.methodLink "AlertIndex" (169 : Nat) ({ cls := "java/util/Map", name := "put", desc := "(Ljava/lang/Object;Ljava/lang/Object;)Ljava/lang/Object;" } : Jvm.MethodName)) ∈ lw_all := lw_g (lw_at lw_m6 10 rfl) rfl
theorem q1373 : (Jvm.Cond.instanceMethod ({ cls := "AlertIndex", name := "drop", desc := "(I)I" } : Jvm.MethodName)) ∈ lw_all := lw_g (lw_at lw_m6 158 rfl) rfl
theorem q1374 : (Jvm.Cond.selects "AlertIndex" ({ cls := "AlertIndex", name := "drop", desc := "(I)I" } : Jvm.MethodName) ({ cls := "AlertIndex", name := "drop", desc := "(I)I" } : Jvm.MethodName)) ∈ lw_all := lw_g (lw_at lw_m6 159 rfl) rfl
theorem q1375 : (Jvm.Cond.code ({ cls := "AlertIndex", name := "drop", desc := "(I)I" } : Jvm.MethodName) prog_1_method_10_code (3 : Nat) (Option.some Jvm.ClassFile.FieldType.int)) ∈ lw_all := lw_g (lw_at lw_m6 160 rfl) rfl
theorem q1380 : (Jvm.Cond.instanceMethod ({ cls := "AlertIndex", name := "setQuiet", desc := "(II)I" } : Jvm.MethodName)) ∈ lw_all := lw_g (lw_at lw_m6 165 rfl) rfl
theorem q1381 : (Jvm.Cond.selects "AlertIndex" ({ cls := "AlertIndex", name := "setQuiet", desc := "(II)I" } : Jvm.MethodName) ({ cls := "AlertIndex", name := "setQuiet", desc := "(II)I" } : Jvm.MethodName)) ∈ lw_all := lw_g (lw_at lw_m6 166 rfl) rfl
theorem q1382 : (Jvm.Cond.code ({ cls := "AlertIndex", name := "setQuiet", desc := "(II)I" } : Jvm.MethodName) prog_1_method_11_code (5 : Nat) (Option.some Jvm.ClassFile.FieldType.int)) ∈ lw_all := lw_g (lw_at lw_m6 167 rfl) rfl
theorem q1387 : (Jvm.Cond.instanceMethod ({ cls := "AlertIndex", name := "set", desc := "(II)I" } : Jvm.MethodName)) ∈ lw_all := lw_g (lw_at lw_m6 172 rfl) rfl
theorem q1388 : (Jvm.Cond.selects "AlertIndex" ({ cls := "AlertIndex", name := "set", desc := "(II)I" } : Jvm.MethodName) ({ cls := "AlertIndex", name := "set", desc := "(II)I" } : Jvm.MethodName)) ∈ lw_all := lw_g (lw_at lw_m6 173 rfl) rfl
theorem q1389 : (Jvm.Cond.code ({ cls := "AlertIndex", name := "set", desc := "(II)I" } : Jvm.MethodName) prog_1_method_12_code (4 : Nat) (Option.some Jvm.ClassFile.FieldType.int)) ∈ lw_all := lw_g (lw_at lw_m6 174 rfl) rfl
theorem q1394 : (Jvm.Cond.instanceMethod ({ cls := "AlertIndex", name := "advance", desc := "(I)I" } : Jvm.MethodName)) ∈ lw_all := lw_g (lw_at lw_m6 179 rfl) rfl
theorem q1395 : (Jvm.Cond.selects "AlertIndex" ({ cls := "AlertIndex", name := "advance", desc := "(I)I" } : Jvm.MethodName) ({ cls := "AlertIndex", name := "advance", desc := "(I)I" } : Jvm.MethodName)) ∈ lw_all := lw_g (lw_at lw_m6 180 rfl) rfl
theorem q1396 : (Jvm.Cond.code ({ cls := "AlertIndex", name := "advance", desc := "(I)I" } : Jvm.MethodName) prog_1_method_14_code (6 : Nat) (Option.some Jvm.ClassFile.FieldType.int)) ∈ lw_all := lw_g (lw_at lw_m6 181 rfl) rfl
theorem q1397 : (Jvm.Cond.constant "AlertIndex" (126 : Nat) (1000000 : Int32)) ∈ lw_all := lw_g (lw_at lw_m6 182 rfl) rfl
theorem q1402 : (Jvm.Cond.instanceMethod ({ cls := "AlertIndex", name := "satisfies", desc := "(I)Z" } : Jvm.MethodName)) ∈ lw_all := lw_g (lw_at lw_m6 187 rfl) rfl
theorem q1403 : (Jvm.Cond.selects "AlertIndex" ({ cls := "AlertIndex", name := "satisfies", desc := "(I)Z" } : Jvm.MethodName) ({ cls := "AlertIndex", name := "satisfies", desc := "(I)Z" } : Jvm.MethodName)) ∈ lw_all := lw_g (lw_at lw_m6 188 rfl) rfl
theorem q1404 : (Jvm.Cond.code ({ cls := "AlertIndex", name := "satisfies", desc := "(I)Z" } : Jvm.MethodName) prog_1_method_19_code (2 : Nat) (Option.some Jvm.ClassFile.FieldType.boolean)) ∈ lw_all := lw_g (lw_at lw_m6 189 rfl) rfl
theorem q1409 : (Jvm.Cond.instanceMethod ({ cls := "AlertIndex", name := "sizeOf", desc := "(I)I" } : Jvm.MethodName)) ∈ lw_all := lw_g (lw_at lw_m6 194 rfl) rfl
theorem q1410 : (Jvm.Cond.selects "AlertIndex" ({ cls := "AlertIndex", name := "sizeOf", desc := "(I)I" } : Jvm.MethodName) ({ cls := "AlertIndex", name := "sizeOf", desc := "(I)I" } : Jvm.MethodName)) ∈ lw_all := lw_g (lw_at lw_m6 195 rfl) rfl
theorem q1411 : (Jvm.Cond.code ({ cls := "AlertIndex", name := "sizeOf", desc := "(I)I" } : Jvm.MethodName) prog_1_method_24_code (2 : Nat) (Option.some Jvm.ClassFile.FieldType.int)) ∈ lw_all := lw_g (lw_at lw_m6 196 rfl) rfl
theorem q1416 : (Jvm.Cond.instanceMethod ({ cls := "AlertIndex", name := "pieces", desc := "(II)I" } : Jvm.MethodName)) ∈ lw_all := lw_g (lw_at lw_m6 201 rfl) rfl
theorem q1417 : (Jvm.Cond.selects "AlertIndex" ({ cls := "AlertIndex", name := "pieces", desc := "(II)I" } : Jvm.MethodName) ({ cls := "AlertIndex", name := "pieces", desc := "(II)I" } : Jvm.MethodName)) ∈ lw_all := lw_g (lw_at lw_m6 202 rfl) rfl
theorem q1418 : (Jvm.Cond.code ({ cls := "AlertIndex", name := "pieces", desc := "(II)I" } : Jvm.MethodName) prog_1_method_16_code (5 : Nat) (Option.some Jvm.ClassFile.FieldType.int)) ∈ lw_all := lw_g (lw_at lw_m6 203 rfl) rfl
theorem q1423 : (Jvm.Cond.instanceMethod ({ cls := "AlertIndex", name := "pieceAt", desc := "(III)I" } : Jvm.MethodName)) ∈ lw_all := lw_g (lw_at lw_m6 208 rfl) rfl
theorem q1424 : (Jvm.Cond.selects "AlertIndex" ({ cls := "AlertIndex", name := "pieceAt", desc := "(III)I" } : Jvm.MethodName) ({ cls := "AlertIndex", name := "pieceAt", desc := "(III)I" } : Jvm.MethodName)) ∈ lw_all := lw_g (lw_at lw_m6 209 rfl) rfl
theorem q1425 : (Jvm.Cond.code ({ cls := "AlertIndex", name := "pieceAt", desc := "(III)I" } : Jvm.MethodName) prog_1_method_17_code (6 : Nat) (Option.some Jvm.ClassFile.FieldType.int)) ∈ lw_all := lw_g (lw_at lw_m6 210 rfl) rfl
theorem q1430 : (Jvm.Cond.instanceMethod ({ cls := "AlertIndex", name := "isQuiet", desc := "(I)Z" } : Jvm.MethodName)) ∈ lw_all := lw_g (lw_at lw_m6 215 rfl) rfl
theorem q1431 : (Jvm.Cond.selects "AlertIndex" ({ cls := "AlertIndex", name := "isQuiet", desc := "(I)Z" } : Jvm.MethodName) ({ cls := "AlertIndex", name := "isQuiet", desc := "(I)Z" } : Jvm.MethodName)) ∈ lw_all := lw_g (lw_at lw_m6 216 rfl) rfl
theorem q1432 : (Jvm.Cond.code ({ cls := "AlertIndex", name := "isQuiet", desc := "(I)Z" } : Jvm.MethodName) prog_1_method_27_code (2 : Nat) (Option.some Jvm.ClassFile.FieldType.boolean)) ∈ lw_all := lw_g (lw_at lw_m6 217 rfl) rfl
theorem q1437 : (Jvm.Cond.instanceMethod ({ cls := "AlertIndex", name := "alerts", desc := "(I)I" } : Jvm.MethodName)) ∈ lw_all := lw_g (lw_at lw_m6 222 rfl) rfl
theorem q1438 : (Jvm.Cond.selects "AlertIndex" ({ cls := "AlertIndex", name := "alerts", desc := "(I)I" } : Jvm.MethodName) ({ cls := "AlertIndex", name := "alerts", desc := "(I)I" } : Jvm.MethodName)) ∈ lw_all := lw_g (lw_at lw_m6 223 rfl) rfl
theorem q1439 : (Jvm.Cond.code ({ cls := "AlertIndex", name := "alerts", desc := "(I)I" } : Jvm.MethodName) prog_1_method_28_code (2 : Nat) (Option.some Jvm.ClassFile.FieldType.int)) ∈ lw_all := lw_g (lw_at lw_m6 224 rfl) rfl
theorem q1444 : (Jvm.Cond.instanceMethod ({ cls := "AlertIndex", name := "batch", desc := "(I)I" } : Jvm.MethodName)) ∈ lw_all := lw_g (lw_at lw_m6 229 rfl) rfl
theorem q1445 : (Jvm.Cond.selects "AlertIndex" ({ cls := "AlertIndex", name := "batch", desc := "(I)I" } : Jvm.MethodName) ({ cls := "AlertIndex", name := "batch", desc := "(I)I" } : Jvm.MethodName)) ∈ lw_all := lw_g (lw_at lw_m6 230 rfl) rfl
theorem q1446 : (Jvm.Cond.code ({ cls := "AlertIndex", name := "batch", desc := "(I)I" } : Jvm.MethodName) prog_1_method_29_code (2 : Nat) (Option.some Jvm.ClassFile.FieldType.int)) ∈ lw_all := lw_g (lw_at lw_m6 231 rfl) rfl
theorem q1640 : (Jvm.Cond.castable "AlertIndex" "java/lang/Object") ∈ lw_tbl := lw_at lw_m7 185 rfl
theorem in_X1 : ∀ w ∈ wsX10, w ∈ lw_all := lw_in wsX10 [127, 129, 131, 133, 135] (by decide +kernel) (by decide +kernel)
/-! AlertIndexModel -/
set_option maxRecDepth 100000
def RX2 : String := "AlertIndexModel"
def TX2 : u_T := fun k => match k with
  | 0 => ("AlertIndexModel", "thrown", "I", false)
  | 1 => ("AlertIndexModel", "minute", "I", false)
  | 2 => ("AlertIndexModel", "questions", "I", false)
  | 3 => ("AlertIndexModel", "draft", "[I", true)
  | 4 => ("AlertIndexModel", "isDropped", "[Z", true)
  | 5 => ("AlertIndexModel", "products", "[I", true)
  | 6 => ("AlertIndexModel", "quiets", "[I", true)
  | 7 => ("AlertIndexModel", "untils", "[I", true)
  | 8 => ("AlertIndexModel", "alerts", "[I", true)
  | 9 => ("AlertIndexModel", "batches", "[I", true)
  | 10 => ("AlertIndexModel", "tests", "[I", true)
  | 11 => ("AlertIndexModel", "names", "[I", true)
  | 12 => ("AlertIndexModel", "lows", "[I", true)
  | 13 => ("AlertIndexModel", "highs", "[I", true)
  | _ => ("AlertIndexModel", "isBarred", "[Z", true)
def tyX2 : Nat → FieldType := fun k => match k with
  | 0 => .int
  | 1 => .int
  | 2 => .int
  | 3 => .array .int
  | 4 => .array .boolean
  | 5 => .array .int
  | 6 => .array .int
  | 7 => .array .int
  | 8 => .array .int
  | 9 => .array .int
  | 10 => .array .int
  | 11 => .array .int
  | 12 => .array .int
  | 13 => .array .int
  | _ => .array .boolean
abbrev wsX20 : List Cond := u_ws RX2 TX2 15
set_option maxRecDepth 100000 in
theorem nmX2 : ∀ a, a < 15 → ∀ b, b < 15 → a ≠ b → (TX2 a).2.1 ≠ (TX2 b).2.1 := by decide +kernel
set_option maxRecDepth 100000 in
theorem tyX2_ok : ∀ k, k < 15 → parseFieldDescriptor (TX2 k).2.2.1 = some (tyX2 k) := by decide +kernel
abbrev cX2_init : ByteArray := prog_8_method_1_code
def yX2_init : MethodName := ⟨RX2, "<init>", "()V"⟩
def dkwX2_init_5 : List UInt8 := [27, 2, 79, 132, 1, 1, 167, 255, 240, 177]
abbrev dktX2_init_5 : List UInt8 := dkwX2_init_5 ++ []
def dkwX2_init_4 : List UInt8 := [181, 0, 41, 42, 17, 0, 240, 188, 4, 181, 0, 44, 3, 60, 27, 16, 6, 162, 0, 16, 42, 180, 0, 7]
abbrev dktX2_init_4 : List UInt8 := dkwX2_init_4 ++ dktX2_init_5
def dkwX2_init_3 : List UInt8 := [17, 0, 240, 188, 10, 181, 0, 35, 42, 17, 0, 240, 188, 10, 181, 0, 38, 42, 17, 0, 240, 188, 10]
abbrev dktX2_init_3 : List UInt8 := dkwX2_init_3 ++ dktX2_init_4
def dkwX2_init_2 : List UInt8 := [188, 10, 181, 0, 26, 42, 16, 20, 188, 10, 181, 0, 29, 42, 16, 60, 188, 10, 181, 0, 32, 42]
abbrev dktX2_init_2 : List UInt8 := dkwX2_init_2 ++ dktX2_init_3
def dkwX2_init_1 : List UInt8 := [188, 10, 181, 0, 17, 42, 16, 20, 188, 10, 181, 0, 20, 42, 16, 20, 188, 10, 181, 0, 23, 42, 16, 20]
abbrev dktX2_init_1 : List UInt8 := dkwX2_init_1 ++ dktX2_init_2
def dkwX2_init_0 : List UInt8 := [42, 183, 0, 1, 42, 16, 6, 188, 10, 181, 0, 7, 42, 16, 20, 188, 4, 181, 0, 13, 42, 16, 20]
abbrev dktX2_init_0 : List UInt8 := dkwX2_init_0 ++ dktX2_init_1
theorem dksX2_init_0 : cX2_init.data.toList.drop 0 = dktX2_init_0 := by decide +kernel
theorem dksX2_init_1 : cX2_init.data.toList.drop 23 = dktX2_init_1 := dk_seg dksX2_init_0 23 rfl rfl
theorem dksX2_init_2 : cX2_init.data.toList.drop 47 = dktX2_init_2 := dk_seg dksX2_init_1 24 rfl rfl
theorem dksX2_init_3 : cX2_init.data.toList.drop 69 = dktX2_init_3 := dk_seg dksX2_init_2 22 rfl rfl
theorem dksX2_init_4 : cX2_init.data.toList.drop 92 = dktX2_init_4 := dk_seg dksX2_init_3 23 rfl rfl
theorem dksX2_init_5 : cX2_init.data.toList.drop 116 = dktX2_init_5 := dk_seg dksX2_init_4 24 rfl rfl
theorem dX2_init_0 : decode cX2_init 0 = .ok (.aload_n 0, 1) := dk_42 (dk_at dksX2_init_0 0 rfl rfl)
theorem dX2_init_1 : decode cX2_init 1 = .ok (.invokespecial 1, 3) := dk_183 0 1 (dk_at dksX2_init_0 1 rfl rfl)
theorem dX2_init_4 : decode cX2_init 4 = .ok (.aload_n 0, 1) := dk_42 (dk_at dksX2_init_0 4 rfl rfl)
theorem dX2_init_5 : decode cX2_init 5 = .ok (.bipush 6, 2) := dk_16 6 (dk_at dksX2_init_0 5 rfl rfl)
theorem dX2_init_7 : decode cX2_init 7 = .ok (.newarray .int, 2) := dk_188_10 (dk_at dksX2_init_0 7 rfl rfl)
theorem dX2_init_9 : decode cX2_init 9 = .ok (.putfield 7, 3) := dk_181 0 7 (dk_at dksX2_init_0 9 rfl rfl)
theorem dX2_init_12 : decode cX2_init 12 = .ok (.aload_n 0, 1) := dk_42 (dk_at dksX2_init_0 12 rfl rfl)
theorem dX2_init_13 : decode cX2_init 13 = .ok (.bipush 20, 2) := dk_16 20 (dk_at dksX2_init_0 13 rfl rfl)
theorem dX2_init_15 : decode cX2_init 15 = .ok (.newarray .boolean, 2) := dk_188_4 (dk_at dksX2_init_0 15 rfl rfl)
theorem dX2_init_17 : decode cX2_init 17 = .ok (.putfield 13, 3) := dk_181 0 13 (dk_at dksX2_init_0 17 rfl rfl)
theorem dX2_init_20 : decode cX2_init 20 = .ok (.aload_n 0, 1) := dk_42 (dk_at dksX2_init_0 20 rfl rfl)
theorem dX2_init_21 : decode cX2_init 21 = .ok (.bipush 20, 2) := dk_16 20 (dk_at dksX2_init_0 21 rfl rfl)
theorem dX2_init_23 : decode cX2_init 23 = .ok (.newarray .int, 2) := dk_188_10 (dk_at dksX2_init_1 0 rfl rfl)
theorem dX2_init_25 : decode cX2_init 25 = .ok (.putfield 17, 3) := dk_181 0 17 (dk_at dksX2_init_1 2 rfl rfl)
theorem dX2_init_28 : decode cX2_init 28 = .ok (.aload_n 0, 1) := dk_42 (dk_at dksX2_init_1 5 rfl rfl)
theorem dX2_init_29 : decode cX2_init 29 = .ok (.bipush 20, 2) := dk_16 20 (dk_at dksX2_init_1 6 rfl rfl)
theorem dX2_init_31 : decode cX2_init 31 = .ok (.newarray .int, 2) := dk_188_10 (dk_at dksX2_init_1 8 rfl rfl)
theorem dX2_init_33 : decode cX2_init 33 = .ok (.putfield 20, 3) := dk_181 0 20 (dk_at dksX2_init_1 10 rfl rfl)
theorem dX2_init_36 : decode cX2_init 36 = .ok (.aload_n 0, 1) := dk_42 (dk_at dksX2_init_1 13 rfl rfl)
theorem dX2_init_37 : decode cX2_init 37 = .ok (.bipush 20, 2) := dk_16 20 (dk_at dksX2_init_1 14 rfl rfl)
theorem dX2_init_39 : decode cX2_init 39 = .ok (.newarray .int, 2) := dk_188_10 (dk_at dksX2_init_1 16 rfl rfl)
theorem dX2_init_41 : decode cX2_init 41 = .ok (.putfield 23, 3) := dk_181 0 23 (dk_at dksX2_init_1 18 rfl rfl)
theorem dX2_init_44 : decode cX2_init 44 = .ok (.aload_n 0, 1) := dk_42 (dk_at dksX2_init_1 21 rfl rfl)
theorem dX2_init_45 : decode cX2_init 45 = .ok (.bipush 20, 2) := dk_16 20 (dk_at dksX2_init_1 22 rfl rfl)
theorem dX2_init_47 : decode cX2_init 47 = .ok (.newarray .int, 2) := dk_188_10 (dk_at dksX2_init_2 0 rfl rfl)
theorem dX2_init_49 : decode cX2_init 49 = .ok (.putfield 26, 3) := dk_181 0 26 (dk_at dksX2_init_2 2 rfl rfl)
theorem dX2_init_52 : decode cX2_init 52 = .ok (.aload_n 0, 1) := dk_42 (dk_at dksX2_init_2 5 rfl rfl)
theorem dX2_init_53 : decode cX2_init 53 = .ok (.bipush 20, 2) := dk_16 20 (dk_at dksX2_init_2 6 rfl rfl)
theorem dX2_init_55 : decode cX2_init 55 = .ok (.newarray .int, 2) := dk_188_10 (dk_at dksX2_init_2 8 rfl rfl)
theorem dX2_init_57 : decode cX2_init 57 = .ok (.putfield 29, 3) := dk_181 0 29 (dk_at dksX2_init_2 10 rfl rfl)
theorem dX2_init_60 : decode cX2_init 60 = .ok (.aload_n 0, 1) := dk_42 (dk_at dksX2_init_2 13 rfl rfl)
theorem dX2_init_61 : decode cX2_init 61 = .ok (.bipush 60, 2) := dk_16 60 (dk_at dksX2_init_2 14 rfl rfl)
theorem dX2_init_63 : decode cX2_init 63 = .ok (.newarray .int, 2) := dk_188_10 (dk_at dksX2_init_2 16 rfl rfl)
theorem dX2_init_65 : decode cX2_init 65 = .ok (.putfield 32, 3) := dk_181 0 32 (dk_at dksX2_init_2 18 rfl rfl)
theorem dX2_init_68 : decode cX2_init 68 = .ok (.aload_n 0, 1) := dk_42 (dk_at dksX2_init_2 21 rfl rfl)
theorem dX2_init_69 : decode cX2_init 69 = .ok (.sipush 240, 3) := dk_17 0 240 (dk_at dksX2_init_3 0 rfl rfl)
theorem dX2_init_72 : decode cX2_init 72 = .ok (.newarray .int, 2) := dk_188_10 (dk_at dksX2_init_3 3 rfl rfl)
theorem dX2_init_74 : decode cX2_init 74 = .ok (.putfield 35, 3) := dk_181 0 35 (dk_at dksX2_init_3 5 rfl rfl)
theorem dX2_init_77 : decode cX2_init 77 = .ok (.aload_n 0, 1) := dk_42 (dk_at dksX2_init_3 8 rfl rfl)
theorem dX2_init_78 : decode cX2_init 78 = .ok (.sipush 240, 3) := dk_17 0 240 (dk_at dksX2_init_3 9 rfl rfl)
theorem dX2_init_81 : decode cX2_init 81 = .ok (.newarray .int, 2) := dk_188_10 (dk_at dksX2_init_3 12 rfl rfl)
theorem dX2_init_83 : decode cX2_init 83 = .ok (.putfield 38, 3) := dk_181 0 38 (dk_at dksX2_init_3 14 rfl rfl)
theorem dX2_init_86 : decode cX2_init 86 = .ok (.aload_n 0, 1) := dk_42 (dk_at dksX2_init_3 17 rfl rfl)
theorem dX2_init_87 : decode cX2_init 87 = .ok (.sipush 240, 3) := dk_17 0 240 (dk_at dksX2_init_3 18 rfl rfl)
theorem dX2_init_90 : decode cX2_init 90 = .ok (.newarray .int, 2) := dk_188_10 (dk_at dksX2_init_3 21 rfl rfl)
theorem dX2_init_92 : decode cX2_init 92 = .ok (.putfield 41, 3) := dk_181 0 41 (dk_at dksX2_init_4 0 rfl rfl)
theorem dX2_init_95 : decode cX2_init 95 = .ok (.aload_n 0, 1) := dk_42 (dk_at dksX2_init_4 3 rfl rfl)
theorem dX2_init_96 : decode cX2_init 96 = .ok (.sipush 240, 3) := dk_17 0 240 (dk_at dksX2_init_4 4 rfl rfl)
theorem dX2_init_99 : decode cX2_init 99 = .ok (.newarray .boolean, 2) := dk_188_4 (dk_at dksX2_init_4 7 rfl rfl)
theorem dX2_init_101 : decode cX2_init 101 = .ok (.putfield 44, 3) := dk_181 0 44 (dk_at dksX2_init_4 9 rfl rfl)
theorem dX2_init_104 : decode cX2_init 104 = .ok (.iconst 0, 1) := dk_3 (dk_at dksX2_init_4 12 rfl rfl)
theorem dX2_init_105 : decode cX2_init 105 = .ok (.istore_n 1, 1) := dk_60 (dk_at dksX2_init_4 13 rfl rfl)
theorem dX2_init_106 : decode cX2_init 106 = .ok (.iload_n 1, 1) := dk_27 (dk_at dksX2_init_4 14 rfl rfl)
theorem dX2_init_107 : decode cX2_init 107 = .ok (.bipush 6, 2) := dk_16 6 (dk_at dksX2_init_4 15 rfl rfl)
theorem dX2_init_109 : decode cX2_init 109 = .ok (.if_icmp .ge 16, 3) := dk_162 0 16 (dk_at dksX2_init_4 17 rfl rfl)
theorem dX2_init_112 : decode cX2_init 112 = .ok (.aload_n 0, 1) := dk_42 (dk_at dksX2_init_4 20 rfl rfl)
theorem dX2_init_113 : decode cX2_init 113 = .ok (.getfield 7, 3) := dk_180 0 7 (dk_at dksX2_init_4 21 rfl rfl)
theorem dX2_init_116 : decode cX2_init 116 = .ok (.iload_n 1, 1) := dk_27 (dk_at dksX2_init_5 0 rfl rfl)
theorem dX2_init_117 : decode cX2_init 117 = .ok (.iconst (-1), 1) := dk_2 (dk_at dksX2_init_5 1 rfl rfl)
theorem dX2_init_118 : decode cX2_init 118 = .ok (.iastore, 1) := dk_79 (dk_at dksX2_init_5 2 rfl rfl)
theorem dX2_init_119 : decode cX2_init 119 = .ok (.iinc 1 1, 3) := dk_132 1 1 (dk_at dksX2_init_5 3 rfl rfl)
theorem dX2_init_122 : decode cX2_init 122 = .ok (.goto (-16), 3) := dk_167 255 240 (dk_at dksX2_init_5 6 rfl rfl)
theorem dX2_init_125 : decode cX2_init 125 = .ok (.return_, 1) := dk_177 (dk_at dksX2_init_5 9 rfl rfl)
abbrev cX2_thrown : ByteArray := prog_8_method_2_code
def yX2_thrown : MethodName := ⟨RX2, "thrown", "()I"⟩
theorem dX2_thrown_0 : decode cX2_thrown 0 = .ok (.aload_n 0, 1) := by decide +kernel
theorem dX2_thrown_1 : decode cX2_thrown 1 = .ok (.getfield 47, 3) := by decide +kernel
theorem dX2_thrown_4 : decode cX2_thrown 4 = .ok (.ireturn, 1) := by decide +kernel
abbrev cX2_question : ByteArray := prog_8_method_8_code
def yX2_question : MethodName := ⟨RX2, "question", "()I"⟩
def dkwX2_question_1 : List UInt8 := [89, 180, 0, 51, 4, 96, 181, 0, 51, 42, 180, 0, 51, 4, 100, 172]
abbrev dktX2_question_1 : List UInt8 := dkwX2_question_1 ++ []
def dkwX2_question_0 : List UInt8 := [42, 42, 180, 0, 51, 16, 20, 160, 0, 7, 4, 167, 0, 4, 3, 182, 0, 58, 154, 0, 5, 3, 172, 42]
abbrev dktX2_question_0 : List UInt8 := dkwX2_question_0 ++ dktX2_question_1
theorem dksX2_question_0 : cX2_question.data.toList.drop 0 = dktX2_question_0 := by decide +kernel
theorem dksX2_question_1 : cX2_question.data.toList.drop 24 = dktX2_question_1 := dk_seg dksX2_question_0 24 rfl rfl
theorem dX2_question_0 : decode cX2_question 0 = .ok (.aload_n 0, 1) := dk_42 (dk_at dksX2_question_0 0 rfl rfl)
theorem dX2_question_1 : decode cX2_question 1 = .ok (.aload_n 0, 1) := dk_42 (dk_at dksX2_question_0 1 rfl rfl)
theorem dX2_question_2 : decode cX2_question 2 = .ok (.getfield 51, 3) := dk_180 0 51 (dk_at dksX2_question_0 2 rfl rfl)
theorem dX2_question_5 : decode cX2_question 5 = .ok (.bipush 20, 2) := dk_16 20 (dk_at dksX2_question_0 5 rfl rfl)
theorem dX2_question_7 : decode cX2_question 7 = .ok (.if_icmp .ne 7, 3) := dk_160 0 7 (dk_at dksX2_question_0 7 rfl rfl)
theorem dX2_question_10 : decode cX2_question 10 = .ok (.iconst 1, 1) := dk_4 (dk_at dksX2_question_0 10 rfl rfl)
theorem dX2_question_11 : decode cX2_question 11 = .ok (.goto 4, 3) := dk_167 0 4 (dk_at dksX2_question_0 11 rfl rfl)
theorem dX2_question_14 : decode cX2_question 14 = .ok (.iconst 0, 1) := dk_3 (dk_at dksX2_question_0 14 rfl rfl)
theorem dX2_question_15 : decode cX2_question 15 = .ok (.invokevirtual 58, 3) := dk_182 0 58 (dk_at dksX2_question_0 15 rfl rfl)
theorem dX2_question_18 : decode cX2_question 18 = .ok (.ifCond .ne 5, 3) := dk_154 0 5 (dk_at dksX2_question_0 18 rfl rfl)
theorem dX2_question_21 : decode cX2_question 21 = .ok (.iconst 0, 1) := dk_3 (dk_at dksX2_question_0 21 rfl rfl)
theorem dX2_question_22 : decode cX2_question 22 = .ok (.ireturn, 1) := dk_172 (dk_at dksX2_question_0 22 rfl rfl)
theorem dX2_question_23 : decode cX2_question 23 = .ok (.aload_n 0, 1) := dk_42 (dk_at dksX2_question_0 23 rfl rfl)
theorem dX2_question_24 : decode cX2_question 24 = .ok (.dup, 1) := dk_89 (dk_at dksX2_question_1 0 rfl rfl)
theorem dX2_question_25 : decode cX2_question 25 = .ok (.getfield 51, 3) := dk_180 0 51 (dk_at dksX2_question_1 1 rfl rfl)
theorem dX2_question_28 : decode cX2_question 28 = .ok (.iconst 1, 1) := dk_4 (dk_at dksX2_question_1 4 rfl rfl)
theorem dX2_question_29 : decode cX2_question 29 = .ok (.iadd, 1) := dk_96 (dk_at dksX2_question_1 5 rfl rfl)
theorem dX2_question_30 : decode cX2_question 30 = .ok (.putfield 51, 3) := dk_181 0 51 (dk_at dksX2_question_1 6 rfl rfl)
theorem dX2_question_33 : decode cX2_question 33 = .ok (.aload_n 0, 1) := dk_42 (dk_at dksX2_question_1 9 rfl rfl)
theorem dX2_question_34 : decode cX2_question 34 = .ok (.getfield 51, 3) := dk_180 0 51 (dk_at dksX2_question_1 10 rfl rfl)
theorem dX2_question_37 : decode cX2_question 37 = .ok (.iconst 1, 1) := dk_4 (dk_at dksX2_question_1 13 rfl rfl)
theorem dX2_question_38 : decode cX2_question 38 = .ok (.isub, 1) := dk_100 (dk_at dksX2_question_1 14 rfl rfl)
theorem dX2_question_39 : decode cX2_question 39 = .ok (.ireturn, 1) := dk_172 (dk_at dksX2_question_1 15 rfl rfl)
abbrev cX2_holds : ByteArray := prog_8_method_3_code
def yX2_holds : MethodName := ⟨RX2, "holds", "(I)Z"⟩
def dkwX2_holds_0 : List UInt8 := [42, 27, 181, 0, 47, 27, 154, 0, 7, 4, 167, 0, 4, 3, 172]
abbrev dktX2_holds_0 : List UInt8 := dkwX2_holds_0 ++ []
theorem dksX2_holds_0 : cX2_holds.data.toList.drop 0 = dktX2_holds_0 := by decide +kernel
theorem dX2_holds_0 : decode cX2_holds 0 = .ok (.aload_n 0, 1) := dk_42 (dk_at dksX2_holds_0 0 rfl rfl)
theorem dX2_holds_1 : decode cX2_holds 1 = .ok (.iload_n 1, 1) := dk_27 (dk_at dksX2_holds_0 1 rfl rfl)
theorem dX2_holds_2 : decode cX2_holds 2 = .ok (.putfield 47, 3) := dk_181 0 47 (dk_at dksX2_holds_0 2 rfl rfl)
theorem dX2_holds_5 : decode cX2_holds 5 = .ok (.iload_n 1, 1) := dk_27 (dk_at dksX2_holds_0 5 rfl rfl)
theorem dX2_holds_6 : decode cX2_holds 6 = .ok (.ifCond .ne 7, 3) := dk_154 0 7 (dk_at dksX2_holds_0 6 rfl rfl)
theorem dX2_holds_9 : decode cX2_holds 9 = .ok (.iconst 1, 1) := dk_4 (dk_at dksX2_holds_0 9 rfl rfl)
theorem dX2_holds_10 : decode cX2_holds 10 = .ok (.goto 4, 3) := dk_167 0 4 (dk_at dksX2_holds_0 10 rfl rfl)
theorem dX2_holds_13 : decode cX2_holds 13 = .ok (.iconst 0, 1) := dk_3 (dk_at dksX2_holds_0 13 rfl rfl)
theorem dX2_holds_14 : decode cX2_holds 14 = .ok (.ireturn, 1) := dk_172 (dk_at dksX2_holds_0 14 rfl rfl)
abbrev cX2_product : ByteArray := prog_8_method_9_code
def yX2_product : MethodName := ⟨RX2, "product", "(I)I"⟩
def dkwX2_product_2 : List UInt8 := [96, 79, 42, 180, 0, 17, 27, 46, 172]
abbrev dktX2_product_2 : List UInt8 := dkwX2_product_2 ++ []
def dkwX2_product_1 : List UInt8 := [160, 0, 7, 5, 167, 0, 4, 3, 182, 0, 58, 154, 0, 5, 3, 172, 42, 180, 0, 17, 27, 92, 46, 4]
abbrev dktX2_product_1 : List UInt8 := dkwX2_product_1 ++ dktX2_product_2
def dkwX2_product_0 : List UInt8 := [42, 27, 182, 0, 62, 61, 42, 28, 154, 0, 7, 4, 167, 0, 18, 42, 180, 0, 17, 27, 46, 6]
abbrev dktX2_product_0 : List UInt8 := dkwX2_product_0 ++ dktX2_product_1
theorem dksX2_product_0 : cX2_product.data.toList.drop 0 = dktX2_product_0 := by decide +kernel
theorem dksX2_product_1 : cX2_product.data.toList.drop 22 = dktX2_product_1 := dk_seg dksX2_product_0 22 rfl rfl
theorem dksX2_product_2 : cX2_product.data.toList.drop 46 = dktX2_product_2 := dk_seg dksX2_product_1 24 rfl rfl
theorem dX2_product_0 : decode cX2_product 0 = .ok (.aload_n 0, 1) := dk_42 (dk_at dksX2_product_0 0 rfl rfl)
theorem dX2_product_1 : decode cX2_product 1 = .ok (.iload_n 1, 1) := dk_27 (dk_at dksX2_product_0 1 rfl rfl)
theorem dX2_product_2 : decode cX2_product 2 = .ok (.invokevirtual 62, 3) := dk_182 0 62 (dk_at dksX2_product_0 2 rfl rfl)
theorem dX2_product_5 : decode cX2_product 5 = .ok (.istore_n 2, 1) := dk_61 (dk_at dksX2_product_0 5 rfl rfl)
theorem dX2_product_6 : decode cX2_product 6 = .ok (.aload_n 0, 1) := dk_42 (dk_at dksX2_product_0 6 rfl rfl)
theorem dX2_product_7 : decode cX2_product 7 = .ok (.iload_n 2, 1) := dk_28 (dk_at dksX2_product_0 7 rfl rfl)
theorem dX2_product_8 : decode cX2_product 8 = .ok (.ifCond .ne 7, 3) := dk_154 0 7 (dk_at dksX2_product_0 8 rfl rfl)
theorem dX2_product_11 : decode cX2_product 11 = .ok (.iconst 1, 1) := dk_4 (dk_at dksX2_product_0 11 rfl rfl)
theorem dX2_product_12 : decode cX2_product 12 = .ok (.goto 18, 3) := dk_167 0 18 (dk_at dksX2_product_0 12 rfl rfl)
theorem dX2_product_15 : decode cX2_product 15 = .ok (.aload_n 0, 1) := dk_42 (dk_at dksX2_product_0 15 rfl rfl)
theorem dX2_product_16 : decode cX2_product 16 = .ok (.getfield 17, 3) := dk_180 0 17 (dk_at dksX2_product_0 16 rfl rfl)
theorem dX2_product_19 : decode cX2_product 19 = .ok (.iload_n 1, 1) := dk_27 (dk_at dksX2_product_0 19 rfl rfl)
theorem dX2_product_20 : decode cX2_product 20 = .ok (.iaload, 1) := dk_46 (dk_at dksX2_product_0 20 rfl rfl)
theorem dX2_product_21 : decode cX2_product 21 = .ok (.iconst 3, 1) := dk_6 (dk_at dksX2_product_0 21 rfl rfl)
theorem dX2_product_22 : decode cX2_product 22 = .ok (.if_icmp .ne 7, 3) := dk_160 0 7 (dk_at dksX2_product_1 0 rfl rfl)
theorem dX2_product_25 : decode cX2_product 25 = .ok (.iconst 2, 1) := dk_5 (dk_at dksX2_product_1 3 rfl rfl)
theorem dX2_product_26 : decode cX2_product 26 = .ok (.goto 4, 3) := dk_167 0 4 (dk_at dksX2_product_1 4 rfl rfl)
theorem dX2_product_29 : decode cX2_product 29 = .ok (.iconst 0, 1) := dk_3 (dk_at dksX2_product_1 7 rfl rfl)
theorem dX2_product_30 : decode cX2_product 30 = .ok (.invokevirtual 58, 3) := dk_182 0 58 (dk_at dksX2_product_1 8 rfl rfl)
theorem dX2_product_33 : decode cX2_product 33 = .ok (.ifCond .ne 5, 3) := dk_154 0 5 (dk_at dksX2_product_1 11 rfl rfl)
theorem dX2_product_36 : decode cX2_product 36 = .ok (.iconst 0, 1) := dk_3 (dk_at dksX2_product_1 14 rfl rfl)
theorem dX2_product_37 : decode cX2_product 37 = .ok (.ireturn, 1) := dk_172 (dk_at dksX2_product_1 15 rfl rfl)
theorem dX2_product_38 : decode cX2_product 38 = .ok (.aload_n 0, 1) := dk_42 (dk_at dksX2_product_1 16 rfl rfl)
theorem dX2_product_39 : decode cX2_product 39 = .ok (.getfield 17, 3) := dk_180 0 17 (dk_at dksX2_product_1 17 rfl rfl)
theorem dX2_product_42 : decode cX2_product 42 = .ok (.iload_n 1, 1) := dk_27 (dk_at dksX2_product_1 20 rfl rfl)
theorem dX2_product_43 : decode cX2_product 43 = .ok (.dup2, 1) := dk_92 (dk_at dksX2_product_1 21 rfl rfl)
theorem dX2_product_44 : decode cX2_product 44 = .ok (.iaload, 1) := dk_46 (dk_at dksX2_product_1 22 rfl rfl)
theorem dX2_product_45 : decode cX2_product 45 = .ok (.iconst 1, 1) := dk_4 (dk_at dksX2_product_1 23 rfl rfl)
theorem dX2_product_46 : decode cX2_product 46 = .ok (.iadd, 1) := dk_96 (dk_at dksX2_product_2 0 rfl rfl)
theorem dX2_product_47 : decode cX2_product 47 = .ok (.iastore, 1) := dk_79 (dk_at dksX2_product_2 1 rfl rfl)
theorem dX2_product_48 : decode cX2_product 48 = .ok (.aload_n 0, 1) := dk_42 (dk_at dksX2_product_2 2 rfl rfl)
theorem dX2_product_49 : decode cX2_product 49 = .ok (.getfield 17, 3) := dk_180 0 17 (dk_at dksX2_product_2 3 rfl rfl)
theorem dX2_product_52 : decode cX2_product 52 = .ok (.iload_n 1, 1) := dk_27 (dk_at dksX2_product_2 6 rfl rfl)
theorem dX2_product_53 : decode cX2_product 53 = .ok (.iaload, 1) := dk_46 (dk_at dksX2_product_2 7 rfl rfl)
theorem dX2_product_54 : decode cX2_product 54 = .ok (.ireturn, 1) := dk_172 (dk_at dksX2_product_2 8 rfl rfl)
abbrev cX2_isQuestion : ByteArray := prog_8_method_5_code
def yX2_isQuestion : MethodName := ⟨RX2, "isQuestion", "(I)Z"⟩
def dkwX2_isQuestion_1 : List UInt8 := [167, 0, 4, 3, 172]
abbrev dktX2_isQuestion_1 : List UInt8 := dkwX2_isQuestion_1 ++ []
def dkwX2_isQuestion_0 : List UInt8 := [27, 3, 42, 180, 0, 51, 4, 100, 184, 0, 54, 153, 0, 16, 42, 180, 0, 13, 27, 51, 154, 0, 7, 4]
abbrev dktX2_isQuestion_0 : List UInt8 := dkwX2_isQuestion_0 ++ dktX2_isQuestion_1
theorem dksX2_isQuestion_0 : cX2_isQuestion.data.toList.drop 0 = dktX2_isQuestion_0 := by decide +kernel
theorem dksX2_isQuestion_1 : cX2_isQuestion.data.toList.drop 24 = dktX2_isQuestion_1 := dk_seg dksX2_isQuestion_0 24 rfl rfl
theorem dX2_isQuestion_0 : decode cX2_isQuestion 0 = .ok (.iload_n 1, 1) := dk_27 (dk_at dksX2_isQuestion_0 0 rfl rfl)
theorem dX2_isQuestion_1 : decode cX2_isQuestion 1 = .ok (.iconst 0, 1) := dk_3 (dk_at dksX2_isQuestion_0 1 rfl rfl)
theorem dX2_isQuestion_2 : decode cX2_isQuestion 2 = .ok (.aload_n 0, 1) := dk_42 (dk_at dksX2_isQuestion_0 2 rfl rfl)
theorem dX2_isQuestion_3 : decode cX2_isQuestion 3 = .ok (.getfield 51, 3) := dk_180 0 51 (dk_at dksX2_isQuestion_0 3 rfl rfl)
theorem dX2_isQuestion_6 : decode cX2_isQuestion 6 = .ok (.iconst 1, 1) := dk_4 (dk_at dksX2_isQuestion_0 6 rfl rfl)
theorem dX2_isQuestion_7 : decode cX2_isQuestion 7 = .ok (.isub, 1) := dk_100 (dk_at dksX2_isQuestion_0 7 rfl rfl)
theorem dX2_isQuestion_8 : decode cX2_isQuestion 8 = .ok (.invokestatic 54, 3) := dk_184 0 54 (dk_at dksX2_isQuestion_0 8 rfl rfl)
theorem dX2_isQuestion_11 : decode cX2_isQuestion 11 = .ok (.ifCond .eq 16, 3) := dk_153 0 16 (dk_at dksX2_isQuestion_0 11 rfl rfl)
theorem dX2_isQuestion_14 : decode cX2_isQuestion 14 = .ok (.aload_n 0, 1) := dk_42 (dk_at dksX2_isQuestion_0 14 rfl rfl)
theorem dX2_isQuestion_15 : decode cX2_isQuestion 15 = .ok (.getfield 13, 3) := dk_180 0 13 (dk_at dksX2_isQuestion_0 15 rfl rfl)
theorem dX2_isQuestion_18 : decode cX2_isQuestion 18 = .ok (.iload_n 1, 1) := dk_27 (dk_at dksX2_isQuestion_0 18 rfl rfl)
theorem dX2_isQuestion_19 : decode cX2_isQuestion 19 = .ok (.baload, 1) := dk_51 (dk_at dksX2_isQuestion_0 19 rfl rfl)
theorem dX2_isQuestion_20 : decode cX2_isQuestion 20 = .ok (.ifCond .ne 7, 3) := dk_154 0 7 (dk_at dksX2_isQuestion_0 20 rfl rfl)
theorem dX2_isQuestion_23 : decode cX2_isQuestion 23 = .ok (.iconst 1, 1) := dk_4 (dk_at dksX2_isQuestion_0 23 rfl rfl)
theorem dX2_isQuestion_24 : decode cX2_isQuestion 24 = .ok (.goto 4, 3) := dk_167 0 4 (dk_at dksX2_isQuestion_1 0 rfl rfl)
theorem dX2_isQuestion_27 : decode cX2_isQuestion 27 = .ok (.iconst 0, 1) := dk_3 (dk_at dksX2_isQuestion_1 3 rfl rfl)
theorem dX2_isQuestion_28 : decode cX2_isQuestion 28 = .ok (.ireturn, 1) := dk_172 (dk_at dksX2_isQuestion_1 4 rfl rfl)
abbrev cX2_isIn : ByteArray := prog_8_method_4_code
def yX2_isIn : MethodName := ⟨RX2, "isIn", "(III)Z"⟩
def dkwX2_isIn_0 : List UInt8 := [26, 27, 161, 0, 12, 26, 28, 163, 0, 7, 4, 167, 0, 4, 3, 172]
abbrev dktX2_isIn_0 : List UInt8 := dkwX2_isIn_0 ++ []
theorem dksX2_isIn_0 : cX2_isIn.data.toList.drop 0 = dktX2_isIn_0 := by decide +kernel
theorem dX2_isIn_0 : decode cX2_isIn 0 = .ok (.iload_n 0, 1) := dk_26 (dk_at dksX2_isIn_0 0 rfl rfl)
theorem dX2_isIn_1 : decode cX2_isIn 1 = .ok (.iload_n 1, 1) := dk_27 (dk_at dksX2_isIn_0 1 rfl rfl)
theorem dX2_isIn_2 : decode cX2_isIn 2 = .ok (.if_icmp .lt 12, 3) := dk_161 0 12 (dk_at dksX2_isIn_0 2 rfl rfl)
theorem dX2_isIn_5 : decode cX2_isIn 5 = .ok (.iload_n 0, 1) := dk_26 (dk_at dksX2_isIn_0 5 rfl rfl)
theorem dX2_isIn_6 : decode cX2_isIn 6 = .ok (.iload_n 2, 1) := dk_28 (dk_at dksX2_isIn_0 6 rfl rfl)
theorem dX2_isIn_7 : decode cX2_isIn 7 = .ok (.if_icmp .gt 7, 3) := dk_163 0 7 (dk_at dksX2_isIn_0 7 rfl rfl)
theorem dX2_isIn_10 : decode cX2_isIn 10 = .ok (.iconst 1, 1) := dk_4 (dk_at dksX2_isIn_0 10 rfl rfl)
theorem dX2_isIn_11 : decode cX2_isIn 11 = .ok (.goto 4, 3) := dk_167 0 4 (dk_at dksX2_isIn_0 11 rfl rfl)
theorem dX2_isIn_14 : decode cX2_isIn 14 = .ok (.iconst 0, 1) := dk_3 (dk_at dksX2_isIn_0 14 rfl rfl)
theorem dX2_isIn_15 : decode cX2_isIn 15 = .ok (.ireturn, 1) := dk_172 (dk_at dksX2_isIn_0 15 rfl rfl)
abbrev cX2_test : ByteArray := prog_8_method_10_code
def yX2_test : MethodName := ⟨RX2, "test", "(IIIIZ)I"⟩
def dkwX2_test_7 : List UInt8 := [84, 42, 180, 0, 32, 21, 7, 92, 46, 4, 96, 79, 42, 180, 0, 32, 21, 7, 46, 172]
abbrev dktX2_test_7 : List UInt8 := dkwX2_test_7 ++ []
def dkwX2_test_6 : List UInt8 := [180, 0, 38, 21, 9, 29, 79, 42, 180, 0, 41, 21, 9, 21, 4, 79, 42, 180, 0, 44, 21, 9, 21, 5]
abbrev dktX2_test_6 : List UInt8 := dkwX2_test_6 ++ dktX2_test_7
def dkwX2_test_5 : List UInt8 := [172, 7, 21, 7, 104, 42, 180, 0, 32, 21, 7, 46, 96, 54, 9, 42, 180, 0, 35, 21, 9, 28, 79, 42]
abbrev dktX2_test_5 : List UInt8 := dkwX2_test_5 ++ dktX2_test_6
def dkwX2_test_4 : List UInt8 := [154, 0, 7, 5, 167, 0, 13, 21, 8, 153, 0, 7, 3, 167, 0, 4, 6, 182, 0, 58, 154, 0, 5, 3]
abbrev dktX2_test_4 : List UInt8 := dkwX2_test_4 ++ dktX2_test_5
def dkwX2_test_3 : List UInt8 := [167, 0, 4, 3, 54, 8, 42, 21, 6, 154, 0, 7, 4, 167, 0, 26, 29, 21, 4, 184, 0, 68]
abbrev dktX2_test_3 : List UInt8 := dkwX2_test_3 ++ dktX2_test_4
def dkwX2_test_2 : List UInt8 := [153, 0, 27, 42, 180, 0, 17, 27, 46, 158, 0, 18, 42, 180, 0, 32, 21, 7, 46, 7, 162, 0, 7, 4]
abbrev dktX2_test_2 : List UInt8 := dkwX2_test_2 ++ dktX2_test_3
def dkwX2_test_1 : List UInt8 := [153, 0, 18, 6, 27, 104, 42, 180, 0, 17, 27, 46, 96, 4, 100, 167, 0, 4, 3, 54, 7, 21, 6]
abbrev dktX2_test_1 : List UInt8 := dkwX2_test_1 ++ dktX2_test_2
def dkwX2_test_0 : List UInt8 := [42, 27, 182, 0, 62, 153, 0, 14, 28, 184, 0, 65, 153, 0, 7, 4, 167, 0, 4, 3, 54, 6, 21, 6]
abbrev dktX2_test_0 : List UInt8 := dkwX2_test_0 ++ dktX2_test_1
theorem dksX2_test_0 : cX2_test.data.toList.drop 0 = dktX2_test_0 := by decide +kernel
theorem dksX2_test_1 : cX2_test.data.toList.drop 24 = dktX2_test_1 := dk_seg dksX2_test_0 24 rfl rfl
theorem dksX2_test_2 : cX2_test.data.toList.drop 47 = dktX2_test_2 := dk_seg dksX2_test_1 23 rfl rfl
theorem dksX2_test_3 : cX2_test.data.toList.drop 71 = dktX2_test_3 := dk_seg dksX2_test_2 24 rfl rfl
theorem dksX2_test_4 : cX2_test.data.toList.drop 93 = dktX2_test_4 := dk_seg dksX2_test_3 22 rfl rfl
theorem dksX2_test_5 : cX2_test.data.toList.drop 117 = dktX2_test_5 := dk_seg dksX2_test_4 24 rfl rfl
theorem dksX2_test_6 : cX2_test.data.toList.drop 141 = dktX2_test_6 := dk_seg dksX2_test_5 24 rfl rfl
theorem dksX2_test_7 : cX2_test.data.toList.drop 165 = dktX2_test_7 := dk_seg dksX2_test_6 24 rfl rfl
theorem dX2_test_0 : decode cX2_test 0 = .ok (.aload_n 0, 1) := dk_42 (dk_at dksX2_test_0 0 rfl rfl)
theorem dX2_test_1 : decode cX2_test 1 = .ok (.iload_n 1, 1) := dk_27 (dk_at dksX2_test_0 1 rfl rfl)
theorem dX2_test_2 : decode cX2_test 2 = .ok (.invokevirtual 62, 3) := dk_182 0 62 (dk_at dksX2_test_0 2 rfl rfl)
theorem dX2_test_5 : decode cX2_test 5 = .ok (.ifCond .eq 14, 3) := dk_153 0 14 (dk_at dksX2_test_0 5 rfl rfl)
theorem dX2_test_8 : decode cX2_test 8 = .ok (.iload_n 2, 1) := dk_28 (dk_at dksX2_test_0 8 rfl rfl)
theorem dX2_test_9 : decode cX2_test 9 = .ok (.invokestatic 65, 3) := dk_184 0 65 (dk_at dksX2_test_0 9 rfl rfl)
theorem dX2_test_12 : decode cX2_test 12 = .ok (.ifCond .eq 7, 3) := dk_153 0 7 (dk_at dksX2_test_0 12 rfl rfl)
theorem dX2_test_15 : decode cX2_test 15 = .ok (.iconst 1, 1) := dk_4 (dk_at dksX2_test_0 15 rfl rfl)
theorem dX2_test_16 : decode cX2_test 16 = .ok (.goto 4, 3) := dk_167 0 4 (dk_at dksX2_test_0 16 rfl rfl)
theorem dX2_test_19 : decode cX2_test 19 = .ok (.iconst 0, 1) := dk_3 (dk_at dksX2_test_0 19 rfl rfl)
theorem dX2_test_20 : decode cX2_test 20 = .ok (.istore 6, 2) := dk_54 6 (dk_at dksX2_test_0 20 rfl rfl)
theorem dX2_test_22 : decode cX2_test 22 = .ok (.iload 6, 2) := dk_21 6 (dk_at dksX2_test_0 22 rfl rfl)
theorem dX2_test_24 : decode cX2_test 24 = .ok (.ifCond .eq 18, 3) := dk_153 0 18 (dk_at dksX2_test_1 0 rfl rfl)
theorem dX2_test_27 : decode cX2_test 27 = .ok (.iconst 3, 1) := dk_6 (dk_at dksX2_test_1 3 rfl rfl)
theorem dX2_test_28 : decode cX2_test 28 = .ok (.iload_n 1, 1) := dk_27 (dk_at dksX2_test_1 4 rfl rfl)
theorem dX2_test_29 : decode cX2_test 29 = .ok (.imul, 1) := dk_104 (dk_at dksX2_test_1 5 rfl rfl)
theorem dX2_test_30 : decode cX2_test 30 = .ok (.aload_n 0, 1) := dk_42 (dk_at dksX2_test_1 6 rfl rfl)
theorem dX2_test_31 : decode cX2_test 31 = .ok (.getfield 17, 3) := dk_180 0 17 (dk_at dksX2_test_1 7 rfl rfl)
theorem dX2_test_34 : decode cX2_test 34 = .ok (.iload_n 1, 1) := dk_27 (dk_at dksX2_test_1 10 rfl rfl)
theorem dX2_test_35 : decode cX2_test 35 = .ok (.iaload, 1) := dk_46 (dk_at dksX2_test_1 11 rfl rfl)
theorem dX2_test_36 : decode cX2_test 36 = .ok (.iadd, 1) := dk_96 (dk_at dksX2_test_1 12 rfl rfl)
theorem dX2_test_37 : decode cX2_test 37 = .ok (.iconst 1, 1) := dk_4 (dk_at dksX2_test_1 13 rfl rfl)
theorem dX2_test_38 : decode cX2_test 38 = .ok (.isub, 1) := dk_100 (dk_at dksX2_test_1 14 rfl rfl)
theorem dX2_test_39 : decode cX2_test 39 = .ok (.goto 4, 3) := dk_167 0 4 (dk_at dksX2_test_1 15 rfl rfl)
theorem dX2_test_42 : decode cX2_test 42 = .ok (.iconst 0, 1) := dk_3 (dk_at dksX2_test_1 18 rfl rfl)
theorem dX2_test_43 : decode cX2_test 43 = .ok (.istore 7, 2) := dk_54 7 (dk_at dksX2_test_1 19 rfl rfl)
theorem dX2_test_45 : decode cX2_test 45 = .ok (.iload 6, 2) := dk_21 6 (dk_at dksX2_test_1 21 rfl rfl)
theorem dX2_test_47 : decode cX2_test 47 = .ok (.ifCond .eq 27, 3) := dk_153 0 27 (dk_at dksX2_test_2 0 rfl rfl)
theorem dX2_test_50 : decode cX2_test 50 = .ok (.aload_n 0, 1) := dk_42 (dk_at dksX2_test_2 3 rfl rfl)
theorem dX2_test_51 : decode cX2_test 51 = .ok (.getfield 17, 3) := dk_180 0 17 (dk_at dksX2_test_2 4 rfl rfl)
theorem dX2_test_54 : decode cX2_test 54 = .ok (.iload_n 1, 1) := dk_27 (dk_at dksX2_test_2 7 rfl rfl)
theorem dX2_test_55 : decode cX2_test 55 = .ok (.iaload, 1) := dk_46 (dk_at dksX2_test_2 8 rfl rfl)
theorem dX2_test_56 : decode cX2_test 56 = .ok (.ifCond .le 18, 3) := dk_158 0 18 (dk_at dksX2_test_2 9 rfl rfl)
theorem dX2_test_59 : decode cX2_test 59 = .ok (.aload_n 0, 1) := dk_42 (dk_at dksX2_test_2 12 rfl rfl)
theorem dX2_test_60 : decode cX2_test 60 = .ok (.getfield 32, 3) := dk_180 0 32 (dk_at dksX2_test_2 13 rfl rfl)
theorem dX2_test_63 : decode cX2_test 63 = .ok (.iload 7, 2) := dk_21 7 (dk_at dksX2_test_2 16 rfl rfl)
theorem dX2_test_65 : decode cX2_test 65 = .ok (.iaload, 1) := dk_46 (dk_at dksX2_test_2 18 rfl rfl)
theorem dX2_test_66 : decode cX2_test 66 = .ok (.iconst 4, 1) := dk_7 (dk_at dksX2_test_2 19 rfl rfl)
theorem dX2_test_67 : decode cX2_test 67 = .ok (.if_icmp .ge 7, 3) := dk_162 0 7 (dk_at dksX2_test_2 20 rfl rfl)
theorem dX2_test_70 : decode cX2_test 70 = .ok (.iconst 1, 1) := dk_4 (dk_at dksX2_test_2 23 rfl rfl)
theorem dX2_test_71 : decode cX2_test 71 = .ok (.goto 4, 3) := dk_167 0 4 (dk_at dksX2_test_3 0 rfl rfl)
theorem dX2_test_74 : decode cX2_test 74 = .ok (.iconst 0, 1) := dk_3 (dk_at dksX2_test_3 3 rfl rfl)
theorem dX2_test_75 : decode cX2_test 75 = .ok (.istore 8, 2) := dk_54 8 (dk_at dksX2_test_3 4 rfl rfl)
theorem dX2_test_77 : decode cX2_test 77 = .ok (.aload_n 0, 1) := dk_42 (dk_at dksX2_test_3 6 rfl rfl)
theorem dX2_test_78 : decode cX2_test 78 = .ok (.iload 6, 2) := dk_21 6 (dk_at dksX2_test_3 7 rfl rfl)
theorem dX2_test_80 : decode cX2_test 80 = .ok (.ifCond .ne 7, 3) := dk_154 0 7 (dk_at dksX2_test_3 9 rfl rfl)
theorem dX2_test_83 : decode cX2_test 83 = .ok (.iconst 1, 1) := dk_4 (dk_at dksX2_test_3 12 rfl rfl)
theorem dX2_test_84 : decode cX2_test 84 = .ok (.goto 26, 3) := dk_167 0 26 (dk_at dksX2_test_3 13 rfl rfl)
theorem dX2_test_87 : decode cX2_test 87 = .ok (.iload_n 3, 1) := dk_29 (dk_at dksX2_test_3 16 rfl rfl)
theorem dX2_test_88 : decode cX2_test 88 = .ok (.iload 4, 2) := dk_21 4 (dk_at dksX2_test_3 17 rfl rfl)
theorem dX2_test_90 : decode cX2_test 90 = .ok (.invokestatic 68, 3) := dk_184 0 68 (dk_at dksX2_test_3 19 rfl rfl)
theorem dX2_test_93 : decode cX2_test 93 = .ok (.ifCond .ne 7, 3) := dk_154 0 7 (dk_at dksX2_test_4 0 rfl rfl)
theorem dX2_test_96 : decode cX2_test 96 = .ok (.iconst 2, 1) := dk_5 (dk_at dksX2_test_4 3 rfl rfl)
theorem dX2_test_97 : decode cX2_test 97 = .ok (.goto 13, 3) := dk_167 0 13 (dk_at dksX2_test_4 4 rfl rfl)
theorem dX2_test_100 : decode cX2_test 100 = .ok (.iload 8, 2) := dk_21 8 (dk_at dksX2_test_4 7 rfl rfl)
theorem dX2_test_102 : decode cX2_test 102 = .ok (.ifCond .eq 7, 3) := dk_153 0 7 (dk_at dksX2_test_4 9 rfl rfl)
theorem dX2_test_105 : decode cX2_test 105 = .ok (.iconst 0, 1) := dk_3 (dk_at dksX2_test_4 12 rfl rfl)
theorem dX2_test_106 : decode cX2_test 106 = .ok (.goto 4, 3) := dk_167 0 4 (dk_at dksX2_test_4 13 rfl rfl)
theorem dX2_test_109 : decode cX2_test 109 = .ok (.iconst 3, 1) := dk_6 (dk_at dksX2_test_4 16 rfl rfl)
theorem dX2_test_110 : decode cX2_test 110 = .ok (.invokevirtual 58, 3) := dk_182 0 58 (dk_at dksX2_test_4 17 rfl rfl)
theorem dX2_test_113 : decode cX2_test 113 = .ok (.ifCond .ne 5, 3) := dk_154 0 5 (dk_at dksX2_test_4 20 rfl rfl)
theorem dX2_test_116 : decode cX2_test 116 = .ok (.iconst 0, 1) := dk_3 (dk_at dksX2_test_4 23 rfl rfl)
theorem dX2_test_117 : decode cX2_test 117 = .ok (.ireturn, 1) := dk_172 (dk_at dksX2_test_5 0 rfl rfl)
theorem dX2_test_118 : decode cX2_test 118 = .ok (.iconst 4, 1) := dk_7 (dk_at dksX2_test_5 1 rfl rfl)
theorem dX2_test_119 : decode cX2_test 119 = .ok (.iload 7, 2) := dk_21 7 (dk_at dksX2_test_5 2 rfl rfl)
theorem dX2_test_121 : decode cX2_test 121 = .ok (.imul, 1) := dk_104 (dk_at dksX2_test_5 4 rfl rfl)
theorem dX2_test_122 : decode cX2_test 122 = .ok (.aload_n 0, 1) := dk_42 (dk_at dksX2_test_5 5 rfl rfl)
theorem dX2_test_123 : decode cX2_test 123 = .ok (.getfield 32, 3) := dk_180 0 32 (dk_at dksX2_test_5 6 rfl rfl)
theorem dX2_test_126 : decode cX2_test 126 = .ok (.iload 7, 2) := dk_21 7 (dk_at dksX2_test_5 9 rfl rfl)
theorem dX2_test_128 : decode cX2_test 128 = .ok (.iaload, 1) := dk_46 (dk_at dksX2_test_5 11 rfl rfl)
theorem dX2_test_129 : decode cX2_test 129 = .ok (.iadd, 1) := dk_96 (dk_at dksX2_test_5 12 rfl rfl)
theorem dX2_test_130 : decode cX2_test 130 = .ok (.istore 9, 2) := dk_54 9 (dk_at dksX2_test_5 13 rfl rfl)
theorem dX2_test_132 : decode cX2_test 132 = .ok (.aload_n 0, 1) := dk_42 (dk_at dksX2_test_5 15 rfl rfl)
theorem dX2_test_133 : decode cX2_test 133 = .ok (.getfield 35, 3) := dk_180 0 35 (dk_at dksX2_test_5 16 rfl rfl)
theorem dX2_test_136 : decode cX2_test 136 = .ok (.iload 9, 2) := dk_21 9 (dk_at dksX2_test_5 19 rfl rfl)
theorem dX2_test_138 : decode cX2_test 138 = .ok (.iload_n 2, 1) := dk_28 (dk_at dksX2_test_5 21 rfl rfl)
theorem dX2_test_139 : decode cX2_test 139 = .ok (.iastore, 1) := dk_79 (dk_at dksX2_test_5 22 rfl rfl)
theorem dX2_test_140 : decode cX2_test 140 = .ok (.aload_n 0, 1) := dk_42 (dk_at dksX2_test_5 23 rfl rfl)
theorem dX2_test_141 : decode cX2_test 141 = .ok (.getfield 38, 3) := dk_180 0 38 (dk_at dksX2_test_6 0 rfl rfl)
theorem dX2_test_144 : decode cX2_test 144 = .ok (.iload 9, 2) := dk_21 9 (dk_at dksX2_test_6 3 rfl rfl)
theorem dX2_test_146 : decode cX2_test 146 = .ok (.iload_n 3, 1) := dk_29 (dk_at dksX2_test_6 5 rfl rfl)
theorem dX2_test_147 : decode cX2_test 147 = .ok (.iastore, 1) := dk_79 (dk_at dksX2_test_6 6 rfl rfl)
theorem dX2_test_148 : decode cX2_test 148 = .ok (.aload_n 0, 1) := dk_42 (dk_at dksX2_test_6 7 rfl rfl)
theorem dX2_test_149 : decode cX2_test 149 = .ok (.getfield 41, 3) := dk_180 0 41 (dk_at dksX2_test_6 8 rfl rfl)
theorem dX2_test_152 : decode cX2_test 152 = .ok (.iload 9, 2) := dk_21 9 (dk_at dksX2_test_6 11 rfl rfl)
theorem dX2_test_154 : decode cX2_test 154 = .ok (.iload 4, 2) := dk_21 4 (dk_at dksX2_test_6 13 rfl rfl)
theorem dX2_test_156 : decode cX2_test 156 = .ok (.iastore, 1) := dk_79 (dk_at dksX2_test_6 15 rfl rfl)
theorem dX2_test_157 : decode cX2_test 157 = .ok (.aload_n 0, 1) := dk_42 (dk_at dksX2_test_6 16 rfl rfl)
theorem dX2_test_158 : decode cX2_test 158 = .ok (.getfield 44, 3) := dk_180 0 44 (dk_at dksX2_test_6 17 rfl rfl)
theorem dX2_test_161 : decode cX2_test 161 = .ok (.iload 9, 2) := dk_21 9 (dk_at dksX2_test_6 20 rfl rfl)
theorem dX2_test_163 : decode cX2_test 163 = .ok (.iload 5, 2) := dk_21 5 (dk_at dksX2_test_6 22 rfl rfl)
theorem dX2_test_165 : decode cX2_test 165 = .ok (.bastore, 1) := dk_84 (dk_at dksX2_test_7 0 rfl rfl)
theorem dX2_test_166 : decode cX2_test 166 = .ok (.aload_n 0, 1) := dk_42 (dk_at dksX2_test_7 1 rfl rfl)
theorem dX2_test_167 : decode cX2_test 167 = .ok (.getfield 32, 3) := dk_180 0 32 (dk_at dksX2_test_7 2 rfl rfl)
theorem dX2_test_170 : decode cX2_test 170 = .ok (.iload 7, 2) := dk_21 7 (dk_at dksX2_test_7 5 rfl rfl)
theorem dX2_test_172 : decode cX2_test 172 = .ok (.dup2, 1) := dk_92 (dk_at dksX2_test_7 7 rfl rfl)
theorem dX2_test_173 : decode cX2_test 173 = .ok (.iaload, 1) := dk_46 (dk_at dksX2_test_7 8 rfl rfl)
theorem dX2_test_174 : decode cX2_test 174 = .ok (.iconst 1, 1) := dk_4 (dk_at dksX2_test_7 9 rfl rfl)
theorem dX2_test_175 : decode cX2_test 175 = .ok (.iadd, 1) := dk_96 (dk_at dksX2_test_7 10 rfl rfl)
theorem dX2_test_176 : decode cX2_test 176 = .ok (.iastore, 1) := dk_79 (dk_at dksX2_test_7 11 rfl rfl)
theorem dX2_test_177 : decode cX2_test 177 = .ok (.aload_n 0, 1) := dk_42 (dk_at dksX2_test_7 12 rfl rfl)
theorem dX2_test_178 : decode cX2_test 178 = .ok (.getfield 32, 3) := dk_180 0 32 (dk_at dksX2_test_7 13 rfl rfl)
theorem dX2_test_181 : decode cX2_test 181 = .ok (.iload 7, 2) := dk_21 7 (dk_at dksX2_test_7 16 rfl rfl)
theorem dX2_test_183 : decode cX2_test 183 = .ok (.iaload, 1) := dk_46 (dk_at dksX2_test_7 18 rfl rfl)
theorem dX2_test_184 : decode cX2_test 184 = .ok (.ireturn, 1) := dk_172 (dk_at dksX2_test_7 19 rfl rfl)
abbrev cX2_isName : ByteArray := prog_8_method_6_code
def yX2_isName : MethodName := ⟨RX2, "isName", "(I)Z"⟩
def dkwX2_isName_0 : List UInt8 := [26, 3, 8, 184, 0, 54, 172]
abbrev dktX2_isName_0 : List UInt8 := dkwX2_isName_0 ++ []
theorem dksX2_isName_0 : cX2_isName.data.toList.drop 0 = dktX2_isName_0 := by decide +kernel
theorem dX2_isName_0 : decode cX2_isName 0 = .ok (.iload_n 0, 1) := dk_26 (dk_at dksX2_isName_0 0 rfl rfl)
theorem dX2_isName_1 : decode cX2_isName 1 = .ok (.iconst 0, 1) := dk_3 (dk_at dksX2_isName_0 1 rfl rfl)
theorem dX2_isName_2 : decode cX2_isName 2 = .ok (.iconst 5, 1) := dk_8 (dk_at dksX2_isName_0 2 rfl rfl)
theorem dX2_isName_3 : decode cX2_isName 3 = .ok (.invokestatic 54, 3) := dk_184 0 54 (dk_at dksX2_isName_0 3 rfl rfl)
theorem dX2_isName_6 : decode cX2_isName 6 = .ok (.ireturn, 1) := dk_172 (dk_at dksX2_isName_0 6 rfl rfl)
abbrev cX2_isRange : ByteArray := prog_8_method_7_code
def yX2_isRange : MethodName := ⟨RX2, "isRange", "(II)Z"⟩
def dkwX2_isRange_1 : List UInt8 := [3, 172]
abbrev dktX2_isRange_1 : List UInt8 := dkwX2_isRange_1 ++ []
def dkwX2_isRange_0 : List UInt8 := [26, 3, 16, 63, 184, 0, 54, 153, 0, 17, 27, 26, 16, 63, 184, 0, 54, 153, 0, 7, 4, 167, 0, 4]
abbrev dktX2_isRange_0 : List UInt8 := dkwX2_isRange_0 ++ dktX2_isRange_1
theorem dksX2_isRange_0 : cX2_isRange.data.toList.drop 0 = dktX2_isRange_0 := by decide +kernel
theorem dksX2_isRange_1 : cX2_isRange.data.toList.drop 24 = dktX2_isRange_1 := dk_seg dksX2_isRange_0 24 rfl rfl
theorem dX2_isRange_0 : decode cX2_isRange 0 = .ok (.iload_n 0, 1) := dk_26 (dk_at dksX2_isRange_0 0 rfl rfl)
theorem dX2_isRange_1 : decode cX2_isRange 1 = .ok (.iconst 0, 1) := dk_3 (dk_at dksX2_isRange_0 1 rfl rfl)
theorem dX2_isRange_2 : decode cX2_isRange 2 = .ok (.bipush 63, 2) := dk_16 63 (dk_at dksX2_isRange_0 2 rfl rfl)
theorem dX2_isRange_4 : decode cX2_isRange 4 = .ok (.invokestatic 54, 3) := dk_184 0 54 (dk_at dksX2_isRange_0 4 rfl rfl)
theorem dX2_isRange_7 : decode cX2_isRange 7 = .ok (.ifCond .eq 17, 3) := dk_153 0 17 (dk_at dksX2_isRange_0 7 rfl rfl)
theorem dX2_isRange_10 : decode cX2_isRange 10 = .ok (.iload_n 1, 1) := dk_27 (dk_at dksX2_isRange_0 10 rfl rfl)
theorem dX2_isRange_11 : decode cX2_isRange 11 = .ok (.iload_n 0, 1) := dk_26 (dk_at dksX2_isRange_0 11 rfl rfl)
theorem dX2_isRange_12 : decode cX2_isRange 12 = .ok (.bipush 63, 2) := dk_16 63 (dk_at dksX2_isRange_0 12 rfl rfl)
theorem dX2_isRange_14 : decode cX2_isRange 14 = .ok (.invokestatic 54, 3) := dk_184 0 54 (dk_at dksX2_isRange_0 14 rfl rfl)
theorem dX2_isRange_17 : decode cX2_isRange 17 = .ok (.ifCond .eq 7, 3) := dk_153 0 7 (dk_at dksX2_isRange_0 17 rfl rfl)
theorem dX2_isRange_20 : decode cX2_isRange 20 = .ok (.iconst 1, 1) := dk_4 (dk_at dksX2_isRange_0 20 rfl rfl)
theorem dX2_isRange_21 : decode cX2_isRange 21 = .ok (.goto 4, 3) := dk_167 0 4 (dk_at dksX2_isRange_0 21 rfl rfl)
theorem dX2_isRange_24 : decode cX2_isRange 24 = .ok (.iconst 0, 1) := dk_3 (dk_at dksX2_isRange_1 0 rfl rfl)
theorem dX2_isRange_25 : decode cX2_isRange 25 = .ok (.ireturn, 1) := dk_172 (dk_at dksX2_isRange_1 1 rfl rfl)
abbrev cX2_drop : ByteArray := prog_8_method_11_code
def yX2_drop : MethodName := ⟨RX2, "drop", "(I)I"⟩
def dkwX2_drop_1 : List UInt8 := [180, 0, 13, 27, 4, 84, 42, 180, 0, 29, 27, 46, 172]
abbrev dktX2_drop_1 : List UInt8 := dkwX2_drop_1 ++ []
def dkwX2_drop_0 : List UInt8 := [42, 42, 27, 182, 0, 62, 153, 0, 7, 3, 167, 0, 4, 4, 182, 0, 58, 154, 0, 5, 3, 172, 42]
abbrev dktX2_drop_0 : List UInt8 := dkwX2_drop_0 ++ dktX2_drop_1
theorem dksX2_drop_0 : cX2_drop.data.toList.drop 0 = dktX2_drop_0 := by decide +kernel
theorem dksX2_drop_1 : cX2_drop.data.toList.drop 23 = dktX2_drop_1 := dk_seg dksX2_drop_0 23 rfl rfl
theorem dX2_drop_0 : decode cX2_drop 0 = .ok (.aload_n 0, 1) := dk_42 (dk_at dksX2_drop_0 0 rfl rfl)
theorem dX2_drop_1 : decode cX2_drop 1 = .ok (.aload_n 0, 1) := dk_42 (dk_at dksX2_drop_0 1 rfl rfl)
theorem dX2_drop_2 : decode cX2_drop 2 = .ok (.iload_n 1, 1) := dk_27 (dk_at dksX2_drop_0 2 rfl rfl)
theorem dX2_drop_3 : decode cX2_drop 3 = .ok (.invokevirtual 62, 3) := dk_182 0 62 (dk_at dksX2_drop_0 3 rfl rfl)
theorem dX2_drop_6 : decode cX2_drop 6 = .ok (.ifCond .eq 7, 3) := dk_153 0 7 (dk_at dksX2_drop_0 6 rfl rfl)
theorem dX2_drop_9 : decode cX2_drop 9 = .ok (.iconst 0, 1) := dk_3 (dk_at dksX2_drop_0 9 rfl rfl)
theorem dX2_drop_10 : decode cX2_drop 10 = .ok (.goto 4, 3) := dk_167 0 4 (dk_at dksX2_drop_0 10 rfl rfl)
theorem dX2_drop_13 : decode cX2_drop 13 = .ok (.iconst 1, 1) := dk_4 (dk_at dksX2_drop_0 13 rfl rfl)
theorem dX2_drop_14 : decode cX2_drop 14 = .ok (.invokevirtual 58, 3) := dk_182 0 58 (dk_at dksX2_drop_0 14 rfl rfl)
theorem dX2_drop_17 : decode cX2_drop 17 = .ok (.ifCond .ne 5, 3) := dk_154 0 5 (dk_at dksX2_drop_0 17 rfl rfl)
theorem dX2_drop_20 : decode cX2_drop 20 = .ok (.iconst 0, 1) := dk_3 (dk_at dksX2_drop_0 20 rfl rfl)
theorem dX2_drop_21 : decode cX2_drop 21 = .ok (.ireturn, 1) := dk_172 (dk_at dksX2_drop_0 21 rfl rfl)
theorem dX2_drop_22 : decode cX2_drop 22 = .ok (.aload_n 0, 1) := dk_42 (dk_at dksX2_drop_0 22 rfl rfl)
theorem dX2_drop_23 : decode cX2_drop 23 = .ok (.getfield 13, 3) := dk_180 0 13 (dk_at dksX2_drop_1 0 rfl rfl)
theorem dX2_drop_26 : decode cX2_drop 26 = .ok (.iload_n 1, 1) := dk_27 (dk_at dksX2_drop_1 3 rfl rfl)
theorem dX2_drop_27 : decode cX2_drop 27 = .ok (.iconst 1, 1) := dk_4 (dk_at dksX2_drop_1 4 rfl rfl)
theorem dX2_drop_28 : decode cX2_drop 28 = .ok (.bastore, 1) := dk_84 (dk_at dksX2_drop_1 5 rfl rfl)
theorem dX2_drop_29 : decode cX2_drop 29 = .ok (.aload_n 0, 1) := dk_42 (dk_at dksX2_drop_1 6 rfl rfl)
theorem dX2_drop_30 : decode cX2_drop 30 = .ok (.getfield 29, 3) := dk_180 0 29 (dk_at dksX2_drop_1 7 rfl rfl)
theorem dX2_drop_33 : decode cX2_drop 33 = .ok (.iload_n 1, 1) := dk_27 (dk_at dksX2_drop_1 10 rfl rfl)
theorem dX2_drop_34 : decode cX2_drop 34 = .ok (.iaload, 1) := dk_46 (dk_at dksX2_drop_1 11 rfl rfl)
theorem dX2_drop_35 : decode cX2_drop 35 = .ok (.ireturn, 1) := dk_172 (dk_at dksX2_drop_1 12 rfl rfl)
abbrev cX2_setQuiet : ByteArray := prog_8_method_12_code
def yX2_setQuiet : MethodName := ⟨RX2, "setQuiet", "(II)I"⟩
def dkwX2_setQuiet_2 : List UInt8 := [42, 180, 0, 20, 27, 28, 79, 21, 4, 172]
abbrev dktX2_setQuiet_2 : List UInt8 := dkwX2_setQuiet_2 ++ []
def dkwX2_setQuiet_1 : List UInt8 := [153, 0, 7, 3, 167, 0, 4, 5, 182, 0, 58, 154, 0, 5, 3, 172, 42, 180, 0, 20, 27, 46, 54, 4]
abbrev dktX2_setQuiet_1 : List UInt8 := dkwX2_setQuiet_1 ++ dktX2_setQuiet_2
def dkwX2_setQuiet_0 : List UInt8 := [42, 27, 182, 0, 62, 62, 42, 29, 154, 0, 7, 4, 167, 0, 19, 28, 3, 17, 3, 232, 184, 0, 54]
abbrev dktX2_setQuiet_0 : List UInt8 := dkwX2_setQuiet_0 ++ dktX2_setQuiet_1
theorem dksX2_setQuiet_0 : cX2_setQuiet.data.toList.drop 0 = dktX2_setQuiet_0 := by decide +kernel
theorem dksX2_setQuiet_1 : cX2_setQuiet.data.toList.drop 23 = dktX2_setQuiet_1 := dk_seg dksX2_setQuiet_0 23 rfl rfl
theorem dksX2_setQuiet_2 : cX2_setQuiet.data.toList.drop 47 = dktX2_setQuiet_2 := dk_seg dksX2_setQuiet_1 24 rfl rfl
theorem dX2_setQuiet_0 : decode cX2_setQuiet 0 = .ok (.aload_n 0, 1) := dk_42 (dk_at dksX2_setQuiet_0 0 rfl rfl)
theorem dX2_setQuiet_1 : decode cX2_setQuiet 1 = .ok (.iload_n 1, 1) := dk_27 (dk_at dksX2_setQuiet_0 1 rfl rfl)
theorem dX2_setQuiet_2 : decode cX2_setQuiet 2 = .ok (.invokevirtual 62, 3) := dk_182 0 62 (dk_at dksX2_setQuiet_0 2 rfl rfl)
theorem dX2_setQuiet_5 : decode cX2_setQuiet 5 = .ok (.istore_n 3, 1) := dk_62 (dk_at dksX2_setQuiet_0 5 rfl rfl)
theorem dX2_setQuiet_6 : decode cX2_setQuiet 6 = .ok (.aload_n 0, 1) := dk_42 (dk_at dksX2_setQuiet_0 6 rfl rfl)
theorem dX2_setQuiet_7 : decode cX2_setQuiet 7 = .ok (.iload_n 3, 1) := dk_29 (dk_at dksX2_setQuiet_0 7 rfl rfl)
theorem dX2_setQuiet_8 : decode cX2_setQuiet 8 = .ok (.ifCond .ne 7, 3) := dk_154 0 7 (dk_at dksX2_setQuiet_0 8 rfl rfl)
theorem dX2_setQuiet_11 : decode cX2_setQuiet 11 = .ok (.iconst 1, 1) := dk_4 (dk_at dksX2_setQuiet_0 11 rfl rfl)
theorem dX2_setQuiet_12 : decode cX2_setQuiet 12 = .ok (.goto 19, 3) := dk_167 0 19 (dk_at dksX2_setQuiet_0 12 rfl rfl)
theorem dX2_setQuiet_15 : decode cX2_setQuiet 15 = .ok (.iload_n 2, 1) := dk_28 (dk_at dksX2_setQuiet_0 15 rfl rfl)
theorem dX2_setQuiet_16 : decode cX2_setQuiet 16 = .ok (.iconst 0, 1) := dk_3 (dk_at dksX2_setQuiet_0 16 rfl rfl)
theorem dX2_setQuiet_17 : decode cX2_setQuiet 17 = .ok (.sipush 1000, 3) := dk_17 3 232 (dk_at dksX2_setQuiet_0 17 rfl rfl)
theorem dX2_setQuiet_20 : decode cX2_setQuiet 20 = .ok (.invokestatic 54, 3) := dk_184 0 54 (dk_at dksX2_setQuiet_0 20 rfl rfl)
theorem dX2_setQuiet_23 : decode cX2_setQuiet 23 = .ok (.ifCond .eq 7, 3) := dk_153 0 7 (dk_at dksX2_setQuiet_1 0 rfl rfl)
theorem dX2_setQuiet_26 : decode cX2_setQuiet 26 = .ok (.iconst 0, 1) := dk_3 (dk_at dksX2_setQuiet_1 3 rfl rfl)
theorem dX2_setQuiet_27 : decode cX2_setQuiet 27 = .ok (.goto 4, 3) := dk_167 0 4 (dk_at dksX2_setQuiet_1 4 rfl rfl)
theorem dX2_setQuiet_30 : decode cX2_setQuiet 30 = .ok (.iconst 2, 1) := dk_5 (dk_at dksX2_setQuiet_1 7 rfl rfl)
theorem dX2_setQuiet_31 : decode cX2_setQuiet 31 = .ok (.invokevirtual 58, 3) := dk_182 0 58 (dk_at dksX2_setQuiet_1 8 rfl rfl)
theorem dX2_setQuiet_34 : decode cX2_setQuiet 34 = .ok (.ifCond .ne 5, 3) := dk_154 0 5 (dk_at dksX2_setQuiet_1 11 rfl rfl)
theorem dX2_setQuiet_37 : decode cX2_setQuiet 37 = .ok (.iconst 0, 1) := dk_3 (dk_at dksX2_setQuiet_1 14 rfl rfl)
theorem dX2_setQuiet_38 : decode cX2_setQuiet 38 = .ok (.ireturn, 1) := dk_172 (dk_at dksX2_setQuiet_1 15 rfl rfl)
theorem dX2_setQuiet_39 : decode cX2_setQuiet 39 = .ok (.aload_n 0, 1) := dk_42 (dk_at dksX2_setQuiet_1 16 rfl rfl)
theorem dX2_setQuiet_40 : decode cX2_setQuiet 40 = .ok (.getfield 20, 3) := dk_180 0 20 (dk_at dksX2_setQuiet_1 17 rfl rfl)
theorem dX2_setQuiet_43 : decode cX2_setQuiet 43 = .ok (.iload_n 1, 1) := dk_27 (dk_at dksX2_setQuiet_1 20 rfl rfl)
theorem dX2_setQuiet_44 : decode cX2_setQuiet 44 = .ok (.iaload, 1) := dk_46 (dk_at dksX2_setQuiet_1 21 rfl rfl)
theorem dX2_setQuiet_45 : decode cX2_setQuiet 45 = .ok (.istore 4, 2) := dk_54 4 (dk_at dksX2_setQuiet_1 22 rfl rfl)
theorem dX2_setQuiet_47 : decode cX2_setQuiet 47 = .ok (.aload_n 0, 1) := dk_42 (dk_at dksX2_setQuiet_2 0 rfl rfl)
theorem dX2_setQuiet_48 : decode cX2_setQuiet 48 = .ok (.getfield 20, 3) := dk_180 0 20 (dk_at dksX2_setQuiet_2 1 rfl rfl)
theorem dX2_setQuiet_51 : decode cX2_setQuiet 51 = .ok (.iload_n 1, 1) := dk_27 (dk_at dksX2_setQuiet_2 4 rfl rfl)
theorem dX2_setQuiet_52 : decode cX2_setQuiet 52 = .ok (.iload_n 2, 1) := dk_28 (dk_at dksX2_setQuiet_2 5 rfl rfl)
theorem dX2_setQuiet_53 : decode cX2_setQuiet 53 = .ok (.iastore, 1) := dk_79 (dk_at dksX2_setQuiet_2 6 rfl rfl)
theorem dX2_setQuiet_54 : decode cX2_setQuiet 54 = .ok (.iload 4, 2) := dk_21 4 (dk_at dksX2_setQuiet_2 7 rfl rfl)
theorem dX2_setQuiet_56 : decode cX2_setQuiet 56 = .ok (.ireturn, 1) := dk_172 (dk_at dksX2_setQuiet_2 9 rfl rfl)
abbrev cX2_set : ByteArray := prog_8_method_13_code
def yX2_set : MethodName := ⟨RX2, "set", "(II)I"⟩
def dkwX2_set_2 : List UInt8 := [28, 79, 29, 172]
abbrev dktX2_set_2 : List UInt8 := dkwX2_set_2 ++ []
def dkwX2_set_1 : List UInt8 := [167, 0, 4, 5, 182, 0, 58, 154, 0, 5, 3, 172, 42, 180, 0, 7, 27, 46, 62, 42, 180, 0, 7, 27]
abbrev dktX2_set_1 : List UInt8 := dkwX2_set_1 ++ dktX2_set_2
def dkwX2_set_0 : List UInt8 := [42, 27, 184, 0, 65, 154, 0, 7, 4, 167, 0, 18, 28, 2, 16, 63, 184, 0, 54, 153, 0, 7, 3]
abbrev dktX2_set_0 : List UInt8 := dkwX2_set_0 ++ dktX2_set_1
theorem dksX2_set_0 : cX2_set.data.toList.drop 0 = dktX2_set_0 := by decide +kernel
theorem dksX2_set_1 : cX2_set.data.toList.drop 23 = dktX2_set_1 := dk_seg dksX2_set_0 23 rfl rfl
theorem dksX2_set_2 : cX2_set.data.toList.drop 47 = dktX2_set_2 := dk_seg dksX2_set_1 24 rfl rfl
theorem dX2_set_0 : decode cX2_set 0 = .ok (.aload_n 0, 1) := dk_42 (dk_at dksX2_set_0 0 rfl rfl)
theorem dX2_set_1 : decode cX2_set 1 = .ok (.iload_n 1, 1) := dk_27 (dk_at dksX2_set_0 1 rfl rfl)
theorem dX2_set_2 : decode cX2_set 2 = .ok (.invokestatic 65, 3) := dk_184 0 65 (dk_at dksX2_set_0 2 rfl rfl)
theorem dX2_set_5 : decode cX2_set 5 = .ok (.ifCond .ne 7, 3) := dk_154 0 7 (dk_at dksX2_set_0 5 rfl rfl)
theorem dX2_set_8 : decode cX2_set 8 = .ok (.iconst 1, 1) := dk_4 (dk_at dksX2_set_0 8 rfl rfl)
theorem dX2_set_9 : decode cX2_set 9 = .ok (.goto 18, 3) := dk_167 0 18 (dk_at dksX2_set_0 9 rfl rfl)
theorem dX2_set_12 : decode cX2_set 12 = .ok (.iload_n 2, 1) := dk_28 (dk_at dksX2_set_0 12 rfl rfl)
theorem dX2_set_13 : decode cX2_set 13 = .ok (.iconst (-1), 1) := dk_2 (dk_at dksX2_set_0 13 rfl rfl)
theorem dX2_set_14 : decode cX2_set 14 = .ok (.bipush 63, 2) := dk_16 63 (dk_at dksX2_set_0 14 rfl rfl)
theorem dX2_set_16 : decode cX2_set 16 = .ok (.invokestatic 54, 3) := dk_184 0 54 (dk_at dksX2_set_0 16 rfl rfl)
theorem dX2_set_19 : decode cX2_set 19 = .ok (.ifCond .eq 7, 3) := dk_153 0 7 (dk_at dksX2_set_0 19 rfl rfl)
theorem dX2_set_22 : decode cX2_set 22 = .ok (.iconst 0, 1) := dk_3 (dk_at dksX2_set_0 22 rfl rfl)
theorem dX2_set_23 : decode cX2_set 23 = .ok (.goto 4, 3) := dk_167 0 4 (dk_at dksX2_set_1 0 rfl rfl)
theorem dX2_set_26 : decode cX2_set 26 = .ok (.iconst 2, 1) := dk_5 (dk_at dksX2_set_1 3 rfl rfl)
theorem dX2_set_27 : decode cX2_set 27 = .ok (.invokevirtual 58, 3) := dk_182 0 58 (dk_at dksX2_set_1 4 rfl rfl)
theorem dX2_set_30 : decode cX2_set 30 = .ok (.ifCond .ne 5, 3) := dk_154 0 5 (dk_at dksX2_set_1 7 rfl rfl)
theorem dX2_set_33 : decode cX2_set 33 = .ok (.iconst 0, 1) := dk_3 (dk_at dksX2_set_1 10 rfl rfl)
theorem dX2_set_34 : decode cX2_set 34 = .ok (.ireturn, 1) := dk_172 (dk_at dksX2_set_1 11 rfl rfl)
theorem dX2_set_35 : decode cX2_set 35 = .ok (.aload_n 0, 1) := dk_42 (dk_at dksX2_set_1 12 rfl rfl)
theorem dX2_set_36 : decode cX2_set 36 = .ok (.getfield 7, 3) := dk_180 0 7 (dk_at dksX2_set_1 13 rfl rfl)
theorem dX2_set_39 : decode cX2_set 39 = .ok (.iload_n 1, 1) := dk_27 (dk_at dksX2_set_1 16 rfl rfl)
theorem dX2_set_40 : decode cX2_set 40 = .ok (.iaload, 1) := dk_46 (dk_at dksX2_set_1 17 rfl rfl)
theorem dX2_set_41 : decode cX2_set 41 = .ok (.istore_n 3, 1) := dk_62 (dk_at dksX2_set_1 18 rfl rfl)
theorem dX2_set_42 : decode cX2_set 42 = .ok (.aload_n 0, 1) := dk_42 (dk_at dksX2_set_1 19 rfl rfl)
theorem dX2_set_43 : decode cX2_set 43 = .ok (.getfield 7, 3) := dk_180 0 7 (dk_at dksX2_set_1 20 rfl rfl)
theorem dX2_set_46 : decode cX2_set 46 = .ok (.iload_n 1, 1) := dk_27 (dk_at dksX2_set_1 23 rfl rfl)
theorem dX2_set_47 : decode cX2_set 47 = .ok (.iload_n 2, 1) := dk_28 (dk_at dksX2_set_2 0 rfl rfl)
theorem dX2_set_48 : decode cX2_set 48 = .ok (.iastore, 1) := dk_79 (dk_at dksX2_set_2 1 rfl rfl)
theorem dX2_set_49 : decode cX2_set 49 = .ok (.iload_n 3, 1) := dk_29 (dk_at dksX2_set_2 2 rfl rfl)
theorem dX2_set_50 : decode cX2_set 50 = .ok (.ireturn, 1) := dk_172 (dk_at dksX2_set_2 3 rfl rfl)
abbrev cX2_come : ByteArray := prog_8_method_18_code
def yX2_come : MethodName := ⟨RX2, "come", "()I"⟩
def dkwX2_come_3 : List UInt8 := [167, 255, 197, 27, 172]
abbrev dktX2_come_3 : List UInt8 := dkwX2_come_3 ++ []
def dkwX2_come_2 : List UInt8 := [92, 46, 4, 96, 79, 167, 0, 14, 42, 28, 182, 0, 84, 27, 4, 28, 120, 128, 60, 132, 2, 1]
abbrev dktX2_come_2 : List UInt8 := dkwX2_come_2 ++ dktX2_come_3
def dkwX2_come_1 : List UInt8 := [153, 0, 43, 42, 28, 182, 0, 78, 153, 0, 35, 42, 28, 182, 0, 81, 153, 0, 16, 42, 180, 0, 29, 28]
abbrev dktX2_come_1 : List UInt8 := dkwX2_come_1 ++ dktX2_come_2
def dkwX2_come_0 : List UInt8 := [42, 3, 181, 0, 47, 3, 60, 3, 61, 28, 42, 180, 0, 51, 162, 0, 57, 42, 28, 182, 0, 62]
abbrev dktX2_come_0 : List UInt8 := dkwX2_come_0 ++ dktX2_come_1
theorem dksX2_come_0 : cX2_come.data.toList.drop 0 = dktX2_come_0 := by decide +kernel
theorem dksX2_come_1 : cX2_come.data.toList.drop 22 = dktX2_come_1 := dk_seg dksX2_come_0 22 rfl rfl
theorem dksX2_come_2 : cX2_come.data.toList.drop 46 = dktX2_come_2 := dk_seg dksX2_come_1 24 rfl rfl
theorem dksX2_come_3 : cX2_come.data.toList.drop 68 = dktX2_come_3 := dk_seg dksX2_come_2 22 rfl rfl
theorem dX2_come_0 : decode cX2_come 0 = .ok (.aload_n 0, 1) := dk_42 (dk_at dksX2_come_0 0 rfl rfl)
theorem dX2_come_1 : decode cX2_come 1 = .ok (.iconst 0, 1) := dk_3 (dk_at dksX2_come_0 1 rfl rfl)
theorem dX2_come_2 : decode cX2_come 2 = .ok (.putfield 47, 3) := dk_181 0 47 (dk_at dksX2_come_0 2 rfl rfl)
theorem dX2_come_5 : decode cX2_come 5 = .ok (.iconst 0, 1) := dk_3 (dk_at dksX2_come_0 5 rfl rfl)
theorem dX2_come_6 : decode cX2_come 6 = .ok (.istore_n 1, 1) := dk_60 (dk_at dksX2_come_0 6 rfl rfl)
theorem dX2_come_7 : decode cX2_come 7 = .ok (.iconst 0, 1) := dk_3 (dk_at dksX2_come_0 7 rfl rfl)
theorem dX2_come_8 : decode cX2_come 8 = .ok (.istore_n 2, 1) := dk_61 (dk_at dksX2_come_0 8 rfl rfl)
theorem dX2_come_9 : decode cX2_come 9 = .ok (.iload_n 2, 1) := dk_28 (dk_at dksX2_come_0 9 rfl rfl)
theorem dX2_come_10 : decode cX2_come 10 = .ok (.aload_n 0, 1) := dk_42 (dk_at dksX2_come_0 10 rfl rfl)
theorem dX2_come_11 : decode cX2_come 11 = .ok (.getfield 51, 3) := dk_180 0 51 (dk_at dksX2_come_0 11 rfl rfl)
theorem dX2_come_14 : decode cX2_come 14 = .ok (.if_icmp .ge 57, 3) := dk_162 0 57 (dk_at dksX2_come_0 14 rfl rfl)
theorem dX2_come_17 : decode cX2_come 17 = .ok (.aload_n 0, 1) := dk_42 (dk_at dksX2_come_0 17 rfl rfl)
theorem dX2_come_18 : decode cX2_come 18 = .ok (.iload_n 2, 1) := dk_28 (dk_at dksX2_come_0 18 rfl rfl)
theorem dX2_come_19 : decode cX2_come 19 = .ok (.invokevirtual 62, 3) := dk_182 0 62 (dk_at dksX2_come_0 19 rfl rfl)
theorem dX2_come_22 : decode cX2_come 22 = .ok (.ifCond .eq 43, 3) := dk_153 0 43 (dk_at dksX2_come_1 0 rfl rfl)
theorem dX2_come_25 : decode cX2_come 25 = .ok (.aload_n 0, 1) := dk_42 (dk_at dksX2_come_1 3 rfl rfl)
theorem dX2_come_26 : decode cX2_come 26 = .ok (.iload_n 2, 1) := dk_28 (dk_at dksX2_come_1 4 rfl rfl)
theorem dX2_come_27 : decode cX2_come 27 = .ok (.invokevirtual 78, 3) := dk_182 0 78 (dk_at dksX2_come_1 5 rfl rfl)
theorem dX2_come_30 : decode cX2_come 30 = .ok (.ifCond .eq 35, 3) := dk_153 0 35 (dk_at dksX2_come_1 8 rfl rfl)
theorem dX2_come_33 : decode cX2_come 33 = .ok (.aload_n 0, 1) := dk_42 (dk_at dksX2_come_1 11 rfl rfl)
theorem dX2_come_34 : decode cX2_come 34 = .ok (.iload_n 2, 1) := dk_28 (dk_at dksX2_come_1 12 rfl rfl)
theorem dX2_come_35 : decode cX2_come 35 = .ok (.invokevirtual 81, 3) := dk_182 0 81 (dk_at dksX2_come_1 13 rfl rfl)
theorem dX2_come_38 : decode cX2_come 38 = .ok (.ifCond .eq 16, 3) := dk_153 0 16 (dk_at dksX2_come_1 16 rfl rfl)
theorem dX2_come_41 : decode cX2_come 41 = .ok (.aload_n 0, 1) := dk_42 (dk_at dksX2_come_1 19 rfl rfl)
theorem dX2_come_42 : decode cX2_come 42 = .ok (.getfield 29, 3) := dk_180 0 29 (dk_at dksX2_come_1 20 rfl rfl)
theorem dX2_come_45 : decode cX2_come 45 = .ok (.iload_n 2, 1) := dk_28 (dk_at dksX2_come_1 23 rfl rfl)
theorem dX2_come_46 : decode cX2_come 46 = .ok (.dup2, 1) := dk_92 (dk_at dksX2_come_2 0 rfl rfl)
theorem dX2_come_47 : decode cX2_come 47 = .ok (.iaload, 1) := dk_46 (dk_at dksX2_come_2 1 rfl rfl)
theorem dX2_come_48 : decode cX2_come 48 = .ok (.iconst 1, 1) := dk_4 (dk_at dksX2_come_2 2 rfl rfl)
theorem dX2_come_49 : decode cX2_come 49 = .ok (.iadd, 1) := dk_96 (dk_at dksX2_come_2 3 rfl rfl)
theorem dX2_come_50 : decode cX2_come 50 = .ok (.iastore, 1) := dk_79 (dk_at dksX2_come_2 4 rfl rfl)
theorem dX2_come_51 : decode cX2_come 51 = .ok (.goto 14, 3) := dk_167 0 14 (dk_at dksX2_come_2 5 rfl rfl)
theorem dX2_come_54 : decode cX2_come 54 = .ok (.aload_n 0, 1) := dk_42 (dk_at dksX2_come_2 8 rfl rfl)
theorem dX2_come_55 : decode cX2_come 55 = .ok (.iload_n 2, 1) := dk_28 (dk_at dksX2_come_2 9 rfl rfl)
theorem dX2_come_56 : decode cX2_come 56 = .ok (.invokevirtual 84, 3) := dk_182 0 84 (dk_at dksX2_come_2 10 rfl rfl)
theorem dX2_come_59 : decode cX2_come 59 = .ok (.iload_n 1, 1) := dk_27 (dk_at dksX2_come_2 13 rfl rfl)
theorem dX2_come_60 : decode cX2_come 60 = .ok (.iconst 1, 1) := dk_4 (dk_at dksX2_come_2 14 rfl rfl)
theorem dX2_come_61 : decode cX2_come 61 = .ok (.iload_n 2, 1) := dk_28 (dk_at dksX2_come_2 15 rfl rfl)
theorem dX2_come_62 : decode cX2_come 62 = .ok (.ishl, 1) := dk_120 (dk_at dksX2_come_2 16 rfl rfl)
theorem dX2_come_63 : decode cX2_come 63 = .ok (.ior, 1) := dk_128 (dk_at dksX2_come_2 17 rfl rfl)
theorem dX2_come_64 : decode cX2_come 64 = .ok (.istore_n 1, 1) := dk_60 (dk_at dksX2_come_2 18 rfl rfl)
theorem dX2_come_65 : decode cX2_come 65 = .ok (.iinc 2 1, 3) := dk_132 2 1 (dk_at dksX2_come_2 19 rfl rfl)
theorem dX2_come_68 : decode cX2_come 68 = .ok (.goto (-59), 3) := dk_167 255 197 (dk_at dksX2_come_3 0 rfl rfl)
theorem dX2_come_71 : decode cX2_come 71 = .ok (.iload_n 1, 1) := dk_27 (dk_at dksX2_come_3 3 rfl rfl)
theorem dX2_come_72 : decode cX2_come 72 = .ok (.ireturn, 1) := dk_172 (dk_at dksX2_come_3 4 rfl rfl)
abbrev cX2_does : ByteArray := prog_8_method_15_code
def yX2_does : MethodName := ⟨RX2, "does", "(I)Z"⟩
def dkwX2_does_3 : List UInt8 := [154, 0, 8, 21, 4, 153, 0, 7, 4, 167, 0, 4, 3, 61, 132, 3, 1, 167, 255, 174, 28, 172]
abbrev dktX2_does_3 : List UInt8 := dkwX2_does_3 ++ []
def dkwX2_does_2 : List UInt8 := [42, 21, 5, 182, 0, 72, 153, 0, 7, 4, 167, 0, 4, 3, 54, 4, 132, 5, 1, 167, 255, 217, 28]
abbrev dktX2_does_2 : List UInt8 := dkwX2_does_2 ++ dktX2_does_3
def dkwX2_does_1 : List UInt8 := [29, 104, 54, 5, 21, 5, 7, 29, 104, 42, 180, 0, 32, 29, 46, 96, 162, 0, 30, 21, 4, 153, 0, 16]
abbrev dktX2_does_1 : List UInt8 := dkwX2_does_1 ++ dktX2_does_2
def dkwX2_does_0 : List UInt8 := [3, 61, 6, 27, 104, 62, 29, 6, 27, 104, 42, 180, 0, 17, 27, 46, 96, 162, 0, 74, 4, 54, 4, 7]
abbrev dktX2_does_0 : List UInt8 := dkwX2_does_0 ++ dktX2_does_1
theorem dksX2_does_0 : cX2_does.data.toList.drop 0 = dktX2_does_0 := by decide +kernel
theorem dksX2_does_1 : cX2_does.data.toList.drop 24 = dktX2_does_1 := dk_seg dksX2_does_0 24 rfl rfl
theorem dksX2_does_2 : cX2_does.data.toList.drop 48 = dktX2_does_2 := dk_seg dksX2_does_1 24 rfl rfl
theorem dksX2_does_3 : cX2_does.data.toList.drop 71 = dktX2_does_3 := dk_seg dksX2_does_2 23 rfl rfl
theorem dX2_does_0 : decode cX2_does 0 = .ok (.iconst 0, 1) := dk_3 (dk_at dksX2_does_0 0 rfl rfl)
theorem dX2_does_1 : decode cX2_does 1 = .ok (.istore_n 2, 1) := dk_61 (dk_at dksX2_does_0 1 rfl rfl)
theorem dX2_does_2 : decode cX2_does 2 = .ok (.iconst 3, 1) := dk_6 (dk_at dksX2_does_0 2 rfl rfl)
theorem dX2_does_3 : decode cX2_does 3 = .ok (.iload_n 1, 1) := dk_27 (dk_at dksX2_does_0 3 rfl rfl)
theorem dX2_does_4 : decode cX2_does 4 = .ok (.imul, 1) := dk_104 (dk_at dksX2_does_0 4 rfl rfl)
theorem dX2_does_5 : decode cX2_does 5 = .ok (.istore_n 3, 1) := dk_62 (dk_at dksX2_does_0 5 rfl rfl)
theorem dX2_does_6 : decode cX2_does 6 = .ok (.iload_n 3, 1) := dk_29 (dk_at dksX2_does_0 6 rfl rfl)
theorem dX2_does_7 : decode cX2_does 7 = .ok (.iconst 3, 1) := dk_6 (dk_at dksX2_does_0 7 rfl rfl)
theorem dX2_does_8 : decode cX2_does 8 = .ok (.iload_n 1, 1) := dk_27 (dk_at dksX2_does_0 8 rfl rfl)
theorem dX2_does_9 : decode cX2_does 9 = .ok (.imul, 1) := dk_104 (dk_at dksX2_does_0 9 rfl rfl)
theorem dX2_does_10 : decode cX2_does 10 = .ok (.aload_n 0, 1) := dk_42 (dk_at dksX2_does_0 10 rfl rfl)
theorem dX2_does_11 : decode cX2_does 11 = .ok (.getfield 17, 3) := dk_180 0 17 (dk_at dksX2_does_0 11 rfl rfl)
theorem dX2_does_14 : decode cX2_does 14 = .ok (.iload_n 1, 1) := dk_27 (dk_at dksX2_does_0 14 rfl rfl)
theorem dX2_does_15 : decode cX2_does 15 = .ok (.iaload, 1) := dk_46 (dk_at dksX2_does_0 15 rfl rfl)
theorem dX2_does_16 : decode cX2_does 16 = .ok (.iadd, 1) := dk_96 (dk_at dksX2_does_0 16 rfl rfl)
theorem dX2_does_17 : decode cX2_does 17 = .ok (.if_icmp .ge 74, 3) := dk_162 0 74 (dk_at dksX2_does_0 17 rfl rfl)
theorem dX2_does_20 : decode cX2_does 20 = .ok (.iconst 1, 1) := dk_4 (dk_at dksX2_does_0 20 rfl rfl)
theorem dX2_does_21 : decode cX2_does 21 = .ok (.istore 4, 2) := dk_54 4 (dk_at dksX2_does_0 21 rfl rfl)
theorem dX2_does_23 : decode cX2_does 23 = .ok (.iconst 4, 1) := dk_7 (dk_at dksX2_does_0 23 rfl rfl)
theorem dX2_does_24 : decode cX2_does 24 = .ok (.iload_n 3, 1) := dk_29 (dk_at dksX2_does_1 0 rfl rfl)
theorem dX2_does_25 : decode cX2_does 25 = .ok (.imul, 1) := dk_104 (dk_at dksX2_does_1 1 rfl rfl)
theorem dX2_does_26 : decode cX2_does 26 = .ok (.istore 5, 2) := dk_54 5 (dk_at dksX2_does_1 2 rfl rfl)
theorem dX2_does_28 : decode cX2_does 28 = .ok (.iload 5, 2) := dk_21 5 (dk_at dksX2_does_1 4 rfl rfl)
theorem dX2_does_30 : decode cX2_does 30 = .ok (.iconst 4, 1) := dk_7 (dk_at dksX2_does_1 6 rfl rfl)
theorem dX2_does_31 : decode cX2_does 31 = .ok (.iload_n 3, 1) := dk_29 (dk_at dksX2_does_1 7 rfl rfl)
theorem dX2_does_32 : decode cX2_does 32 = .ok (.imul, 1) := dk_104 (dk_at dksX2_does_1 8 rfl rfl)
theorem dX2_does_33 : decode cX2_does 33 = .ok (.aload_n 0, 1) := dk_42 (dk_at dksX2_does_1 9 rfl rfl)
theorem dX2_does_34 : decode cX2_does 34 = .ok (.getfield 32, 3) := dk_180 0 32 (dk_at dksX2_does_1 10 rfl rfl)
theorem dX2_does_37 : decode cX2_does 37 = .ok (.iload_n 3, 1) := dk_29 (dk_at dksX2_does_1 13 rfl rfl)
theorem dX2_does_38 : decode cX2_does 38 = .ok (.iaload, 1) := dk_46 (dk_at dksX2_does_1 14 rfl rfl)
theorem dX2_does_39 : decode cX2_does 39 = .ok (.iadd, 1) := dk_96 (dk_at dksX2_does_1 15 rfl rfl)
theorem dX2_does_40 : decode cX2_does 40 = .ok (.if_icmp .ge 30, 3) := dk_162 0 30 (dk_at dksX2_does_1 16 rfl rfl)
theorem dX2_does_43 : decode cX2_does 43 = .ok (.iload 4, 2) := dk_21 4 (dk_at dksX2_does_1 19 rfl rfl)
theorem dX2_does_45 : decode cX2_does 45 = .ok (.ifCond .eq 16, 3) := dk_153 0 16 (dk_at dksX2_does_1 21 rfl rfl)
theorem dX2_does_48 : decode cX2_does 48 = .ok (.aload_n 0, 1) := dk_42 (dk_at dksX2_does_2 0 rfl rfl)
theorem dX2_does_49 : decode cX2_does 49 = .ok (.iload 5, 2) := dk_21 5 (dk_at dksX2_does_2 1 rfl rfl)
theorem dX2_does_51 : decode cX2_does 51 = .ok (.invokevirtual 72, 3) := dk_182 0 72 (dk_at dksX2_does_2 3 rfl rfl)
theorem dX2_does_54 : decode cX2_does 54 = .ok (.ifCond .eq 7, 3) := dk_153 0 7 (dk_at dksX2_does_2 6 rfl rfl)
theorem dX2_does_57 : decode cX2_does 57 = .ok (.iconst 1, 1) := dk_4 (dk_at dksX2_does_2 9 rfl rfl)
theorem dX2_does_58 : decode cX2_does 58 = .ok (.goto 4, 3) := dk_167 0 4 (dk_at dksX2_does_2 10 rfl rfl)
theorem dX2_does_61 : decode cX2_does 61 = .ok (.iconst 0, 1) := dk_3 (dk_at dksX2_does_2 13 rfl rfl)
theorem dX2_does_62 : decode cX2_does 62 = .ok (.istore 4, 2) := dk_54 4 (dk_at dksX2_does_2 14 rfl rfl)
theorem dX2_does_64 : decode cX2_does 64 = .ok (.iinc 5 1, 3) := dk_132 5 1 (dk_at dksX2_does_2 16 rfl rfl)
theorem dX2_does_67 : decode cX2_does 67 = .ok (.goto (-39), 3) := dk_167 255 217 (dk_at dksX2_does_2 19 rfl rfl)
theorem dX2_does_70 : decode cX2_does 70 = .ok (.iload_n 2, 1) := dk_28 (dk_at dksX2_does_2 22 rfl rfl)
theorem dX2_does_71 : decode cX2_does 71 = .ok (.ifCond .ne 8, 3) := dk_154 0 8 (dk_at dksX2_does_3 0 rfl rfl)
theorem dX2_does_74 : decode cX2_does 74 = .ok (.iload 4, 2) := dk_21 4 (dk_at dksX2_does_3 3 rfl rfl)
theorem dX2_does_76 : decode cX2_does 76 = .ok (.ifCond .eq 7, 3) := dk_153 0 7 (dk_at dksX2_does_3 5 rfl rfl)
theorem dX2_does_79 : decode cX2_does 79 = .ok (.iconst 1, 1) := dk_4 (dk_at dksX2_does_3 8 rfl rfl)
theorem dX2_does_80 : decode cX2_does 80 = .ok (.goto 4, 3) := dk_167 0 4 (dk_at dksX2_does_3 9 rfl rfl)
theorem dX2_does_83 : decode cX2_does 83 = .ok (.iconst 0, 1) := dk_3 (dk_at dksX2_does_3 12 rfl rfl)
theorem dX2_does_84 : decode cX2_does 84 = .ok (.istore_n 2, 1) := dk_61 (dk_at dksX2_does_3 13 rfl rfl)
theorem dX2_does_85 : decode cX2_does 85 = .ok (.iinc 3 1, 3) := dk_132 3 1 (dk_at dksX2_does_3 14 rfl rfl)
theorem dX2_does_88 : decode cX2_does 88 = .ok (.goto (-82), 3) := dk_167 255 174 (dk_at dksX2_does_3 17 rfl rfl)
theorem dX2_does_91 : decode cX2_does 91 = .ok (.iload_n 2, 1) := dk_28 (dk_at dksX2_does_3 20 rfl rfl)
theorem dX2_does_92 : decode cX2_does 92 = .ok (.ireturn, 1) := dk_172 (dk_at dksX2_does_3 21 rfl rfl)
abbrev cX2_isTrue : ByteArray := prog_8_method_14_code
def yX2_isTrue : MethodName := ⟨RX2, "isTrue", "(I)Z"⟩
def dkwX2_isTrue_2 : List UInt8 := [27, 51, 159, 0, 7, 4, 167, 0, 4, 3, 172]
abbrev dktX2_isTrue_2 : List UInt8 := dkwX2_isTrue_2 ++ []
def dkwX2_isTrue_1 : List UInt8 := [161, 0, 17, 28, 42, 180, 0, 41, 27, 46, 163, 0, 7, 4, 167, 0, 4, 3, 62, 29, 42, 180, 0, 44]
abbrev dktX2_isTrue_1 : List UInt8 := dkwX2_isTrue_1 ++ dktX2_isTrue_2
def dkwX2_isTrue_0 : List UInt8 := [42, 180, 0, 7, 42, 180, 0, 35, 27, 46, 46, 61, 28, 2, 159, 0, 27, 28, 42, 180, 0, 38, 27, 46]
abbrev dktX2_isTrue_0 : List UInt8 := dkwX2_isTrue_0 ++ dktX2_isTrue_1
theorem dksX2_isTrue_0 : cX2_isTrue.data.toList.drop 0 = dktX2_isTrue_0 := by decide +kernel
theorem dksX2_isTrue_1 : cX2_isTrue.data.toList.drop 24 = dktX2_isTrue_1 := dk_seg dksX2_isTrue_0 24 rfl rfl
theorem dksX2_isTrue_2 : cX2_isTrue.data.toList.drop 48 = dktX2_isTrue_2 := dk_seg dksX2_isTrue_1 24 rfl rfl
theorem dX2_isTrue_0 : decode cX2_isTrue 0 = .ok (.aload_n 0, 1) := dk_42 (dk_at dksX2_isTrue_0 0 rfl rfl)
theorem dX2_isTrue_1 : decode cX2_isTrue 1 = .ok (.getfield 7, 3) := dk_180 0 7 (dk_at dksX2_isTrue_0 1 rfl rfl)
theorem dX2_isTrue_4 : decode cX2_isTrue 4 = .ok (.aload_n 0, 1) := dk_42 (dk_at dksX2_isTrue_0 4 rfl rfl)
theorem dX2_isTrue_5 : decode cX2_isTrue 5 = .ok (.getfield 35, 3) := dk_180 0 35 (dk_at dksX2_isTrue_0 5 rfl rfl)
theorem dX2_isTrue_8 : decode cX2_isTrue 8 = .ok (.iload_n 1, 1) := dk_27 (dk_at dksX2_isTrue_0 8 rfl rfl)
theorem dX2_isTrue_9 : decode cX2_isTrue 9 = .ok (.iaload, 1) := dk_46 (dk_at dksX2_isTrue_0 9 rfl rfl)
theorem dX2_isTrue_10 : decode cX2_isTrue 10 = .ok (.iaload, 1) := dk_46 (dk_at dksX2_isTrue_0 10 rfl rfl)
theorem dX2_isTrue_11 : decode cX2_isTrue 11 = .ok (.istore_n 2, 1) := dk_61 (dk_at dksX2_isTrue_0 11 rfl rfl)
theorem dX2_isTrue_12 : decode cX2_isTrue 12 = .ok (.iload_n 2, 1) := dk_28 (dk_at dksX2_isTrue_0 12 rfl rfl)
theorem dX2_isTrue_13 : decode cX2_isTrue 13 = .ok (.iconst (-1), 1) := dk_2 (dk_at dksX2_isTrue_0 13 rfl rfl)
theorem dX2_isTrue_14 : decode cX2_isTrue 14 = .ok (.if_icmp .eq 27, 3) := dk_159 0 27 (dk_at dksX2_isTrue_0 14 rfl rfl)
theorem dX2_isTrue_17 : decode cX2_isTrue 17 = .ok (.iload_n 2, 1) := dk_28 (dk_at dksX2_isTrue_0 17 rfl rfl)
theorem dX2_isTrue_18 : decode cX2_isTrue 18 = .ok (.aload_n 0, 1) := dk_42 (dk_at dksX2_isTrue_0 18 rfl rfl)
theorem dX2_isTrue_19 : decode cX2_isTrue 19 = .ok (.getfield 38, 3) := dk_180 0 38 (dk_at dksX2_isTrue_0 19 rfl rfl)
theorem dX2_isTrue_22 : decode cX2_isTrue 22 = .ok (.iload_n 1, 1) := dk_27 (dk_at dksX2_isTrue_0 22 rfl rfl)
theorem dX2_isTrue_23 : decode cX2_isTrue 23 = .ok (.iaload, 1) := dk_46 (dk_at dksX2_isTrue_0 23 rfl rfl)
theorem dX2_isTrue_24 : decode cX2_isTrue 24 = .ok (.if_icmp .lt 17, 3) := dk_161 0 17 (dk_at dksX2_isTrue_1 0 rfl rfl)
theorem dX2_isTrue_27 : decode cX2_isTrue 27 = .ok (.iload_n 2, 1) := dk_28 (dk_at dksX2_isTrue_1 3 rfl rfl)
theorem dX2_isTrue_28 : decode cX2_isTrue 28 = .ok (.aload_n 0, 1) := dk_42 (dk_at dksX2_isTrue_1 4 rfl rfl)
theorem dX2_isTrue_29 : decode cX2_isTrue 29 = .ok (.getfield 41, 3) := dk_180 0 41 (dk_at dksX2_isTrue_1 5 rfl rfl)
theorem dX2_isTrue_32 : decode cX2_isTrue 32 = .ok (.iload_n 1, 1) := dk_27 (dk_at dksX2_isTrue_1 8 rfl rfl)
theorem dX2_isTrue_33 : decode cX2_isTrue 33 = .ok (.iaload, 1) := dk_46 (dk_at dksX2_isTrue_1 9 rfl rfl)
theorem dX2_isTrue_34 : decode cX2_isTrue 34 = .ok (.if_icmp .gt 7, 3) := dk_163 0 7 (dk_at dksX2_isTrue_1 10 rfl rfl)
theorem dX2_isTrue_37 : decode cX2_isTrue 37 = .ok (.iconst 1, 1) := dk_4 (dk_at dksX2_isTrue_1 13 rfl rfl)
theorem dX2_isTrue_38 : decode cX2_isTrue 38 = .ok (.goto 4, 3) := dk_167 0 4 (dk_at dksX2_isTrue_1 14 rfl rfl)
theorem dX2_isTrue_41 : decode cX2_isTrue 41 = .ok (.iconst 0, 1) := dk_3 (dk_at dksX2_isTrue_1 17 rfl rfl)
theorem dX2_isTrue_42 : decode cX2_isTrue 42 = .ok (.istore_n 3, 1) := dk_62 (dk_at dksX2_isTrue_1 18 rfl rfl)
theorem dX2_isTrue_43 : decode cX2_isTrue 43 = .ok (.iload_n 3, 1) := dk_29 (dk_at dksX2_isTrue_1 19 rfl rfl)
theorem dX2_isTrue_44 : decode cX2_isTrue 44 = .ok (.aload_n 0, 1) := dk_42 (dk_at dksX2_isTrue_1 20 rfl rfl)
theorem dX2_isTrue_45 : decode cX2_isTrue 45 = .ok (.getfield 44, 3) := dk_180 0 44 (dk_at dksX2_isTrue_1 21 rfl rfl)
theorem dX2_isTrue_48 : decode cX2_isTrue 48 = .ok (.iload_n 1, 1) := dk_27 (dk_at dksX2_isTrue_2 0 rfl rfl)
theorem dX2_isTrue_49 : decode cX2_isTrue 49 = .ok (.baload, 1) := dk_51 (dk_at dksX2_isTrue_2 1 rfl rfl)
theorem dX2_isTrue_50 : decode cX2_isTrue 50 = .ok (.if_icmp .eq 7, 3) := dk_159 0 7 (dk_at dksX2_isTrue_2 2 rfl rfl)
theorem dX2_isTrue_53 : decode cX2_isTrue 53 = .ok (.iconst 1, 1) := dk_4 (dk_at dksX2_isTrue_2 5 rfl rfl)
theorem dX2_isTrue_54 : decode cX2_isTrue 54 = .ok (.goto 4, 3) := dk_167 0 4 (dk_at dksX2_isTrue_2 6 rfl rfl)
theorem dX2_isTrue_57 : decode cX2_isTrue 57 = .ok (.iconst 0, 1) := dk_3 (dk_at dksX2_isTrue_2 9 rfl rfl)
theorem dX2_isTrue_58 : decode cX2_isTrue 58 = .ok (.ireturn, 1) := dk_172 (dk_at dksX2_isTrue_2 10 rfl rfl)
abbrev cX2_quietNow : ByteArray := prog_8_method_16_code
def yX2_quietNow : MethodName := ⟨RX2, "quietNow", "(I)Z"⟩
def dkwX2_quietNow_0 : List UInt8 := [42, 180, 0, 75, 42, 180, 0, 23, 27, 46, 162, 0, 7, 4, 167, 0, 4, 3, 172]
abbrev dktX2_quietNow_0 : List UInt8 := dkwX2_quietNow_0 ++ []
theorem dksX2_quietNow_0 : cX2_quietNow.data.toList.drop 0 = dktX2_quietNow_0 := by decide +kernel
theorem dX2_quietNow_0 : decode cX2_quietNow 0 = .ok (.aload_n 0, 1) := dk_42 (dk_at dksX2_quietNow_0 0 rfl rfl)
theorem dX2_quietNow_1 : decode cX2_quietNow 1 = .ok (.getfield 75, 3) := dk_180 0 75 (dk_at dksX2_quietNow_0 1 rfl rfl)
theorem dX2_quietNow_4 : decode cX2_quietNow 4 = .ok (.aload_n 0, 1) := dk_42 (dk_at dksX2_quietNow_0 4 rfl rfl)
theorem dX2_quietNow_5 : decode cX2_quietNow 5 = .ok (.getfield 23, 3) := dk_180 0 23 (dk_at dksX2_quietNow_0 5 rfl rfl)
theorem dX2_quietNow_8 : decode cX2_quietNow 8 = .ok (.iload_n 1, 1) := dk_27 (dk_at dksX2_quietNow_0 8 rfl rfl)
theorem dX2_quietNow_9 : decode cX2_quietNow 9 = .ok (.iaload, 1) := dk_46 (dk_at dksX2_quietNow_0 9 rfl rfl)
theorem dX2_quietNow_10 : decode cX2_quietNow 10 = .ok (.if_icmp .ge 7, 3) := dk_162 0 7 (dk_at dksX2_quietNow_0 10 rfl rfl)
theorem dX2_quietNow_13 : decode cX2_quietNow 13 = .ok (.iconst 1, 1) := dk_4 (dk_at dksX2_quietNow_0 13 rfl rfl)
theorem dX2_quietNow_14 : decode cX2_quietNow 14 = .ok (.goto 4, 3) := dk_167 0 4 (dk_at dksX2_quietNow_0 14 rfl rfl)
theorem dX2_quietNow_17 : decode cX2_quietNow 17 = .ok (.iconst 0, 1) := dk_3 (dk_at dksX2_quietNow_0 17 rfl rfl)
theorem dX2_quietNow_18 : decode cX2_quietNow 18 = .ok (.ireturn, 1) := dk_172 (dk_at dksX2_quietNow_0 18 rfl rfl)
abbrev cX2_raises : ByteArray := prog_8_method_17_code
def yX2_raises : MethodName := ⟨RX2, "raises", "(I)V"⟩
def dkwX2_raises_1 : List UInt8 := [46, 96, 79, 177]
abbrev dktX2_raises_1 : List UInt8 := dkwX2_raises_1 ++ []
def dkwX2_raises_0 : List UInt8 := [42, 180, 0, 26, 27, 92, 46, 4, 96, 79, 42, 180, 0, 23, 27, 42, 180, 0, 75, 42, 180, 0, 20, 27]
abbrev dktX2_raises_0 : List UInt8 := dkwX2_raises_0 ++ dktX2_raises_1
theorem dksX2_raises_0 : cX2_raises.data.toList.drop 0 = dktX2_raises_0 := by decide +kernel
theorem dksX2_raises_1 : cX2_raises.data.toList.drop 24 = dktX2_raises_1 := dk_seg dksX2_raises_0 24 rfl rfl
theorem dX2_raises_0 : decode cX2_raises 0 = .ok (.aload_n 0, 1) := dk_42 (dk_at dksX2_raises_0 0 rfl rfl)
theorem dX2_raises_1 : decode cX2_raises 1 = .ok (.getfield 26, 3) := dk_180 0 26 (dk_at dksX2_raises_0 1 rfl rfl)
theorem dX2_raises_4 : decode cX2_raises 4 = .ok (.iload_n 1, 1) := dk_27 (dk_at dksX2_raises_0 4 rfl rfl)
theorem dX2_raises_5 : decode cX2_raises 5 = .ok (.dup2, 1) := dk_92 (dk_at dksX2_raises_0 5 rfl rfl)
theorem dX2_raises_6 : decode cX2_raises 6 = .ok (.iaload, 1) := dk_46 (dk_at dksX2_raises_0 6 rfl rfl)
theorem dX2_raises_7 : decode cX2_raises 7 = .ok (.iconst 1, 1) := dk_4 (dk_at dksX2_raises_0 7 rfl rfl)
theorem dX2_raises_8 : decode cX2_raises 8 = .ok (.iadd, 1) := dk_96 (dk_at dksX2_raises_0 8 rfl rfl)
theorem dX2_raises_9 : decode cX2_raises 9 = .ok (.iastore, 1) := dk_79 (dk_at dksX2_raises_0 9 rfl rfl)
theorem dX2_raises_10 : decode cX2_raises 10 = .ok (.aload_n 0, 1) := dk_42 (dk_at dksX2_raises_0 10 rfl rfl)
theorem dX2_raises_11 : decode cX2_raises 11 = .ok (.getfield 23, 3) := dk_180 0 23 (dk_at dksX2_raises_0 11 rfl rfl)
theorem dX2_raises_14 : decode cX2_raises 14 = .ok (.iload_n 1, 1) := dk_27 (dk_at dksX2_raises_0 14 rfl rfl)
theorem dX2_raises_15 : decode cX2_raises 15 = .ok (.aload_n 0, 1) := dk_42 (dk_at dksX2_raises_0 15 rfl rfl)
theorem dX2_raises_16 : decode cX2_raises 16 = .ok (.getfield 75, 3) := dk_180 0 75 (dk_at dksX2_raises_0 16 rfl rfl)
theorem dX2_raises_19 : decode cX2_raises 19 = .ok (.aload_n 0, 1) := dk_42 (dk_at dksX2_raises_0 19 rfl rfl)
theorem dX2_raises_20 : decode cX2_raises 20 = .ok (.getfield 20, 3) := dk_180 0 20 (dk_at dksX2_raises_0 20 rfl rfl)
theorem dX2_raises_23 : decode cX2_raises 23 = .ok (.iload_n 1, 1) := dk_27 (dk_at dksX2_raises_0 23 rfl rfl)
theorem dX2_raises_24 : decode cX2_raises 24 = .ok (.iaload, 1) := dk_46 (dk_at dksX2_raises_1 0 rfl rfl)
theorem dX2_raises_25 : decode cX2_raises 25 = .ok (.iadd, 1) := dk_96 (dk_at dksX2_raises_1 1 rfl rfl)
theorem dX2_raises_26 : decode cX2_raises 26 = .ok (.iastore, 1) := dk_79 (dk_at dksX2_raises_1 2 rfl rfl)
theorem dX2_raises_27 : decode cX2_raises 27 = .ok (.return_, 1) := dk_177 (dk_at dksX2_raises_1 3 rfl rfl)
abbrev cX2_advance : ByteArray := prog_8_method_19_code
def yX2_advance : MethodName := ⟨RX2, "advance", "(I)I"⟩
def dkwX2_advance_5 : List UInt8 := [182, 0, 84, 132, 2, 1, 132, 4, 1, 167, 255, 194, 132, 3, 1, 167, 255, 170, 28, 172]
abbrev dktX2_advance_5 : List UInt8 := dkwX2_advance_5 ++ []
def dkwX2_advance_4 : List UInt8 := [160, 0, 30, 42, 180, 0, 29, 21, 4, 46, 158, 0, 20, 42, 180, 0, 29, 21, 4, 3, 79, 42, 21, 4]
abbrev dktX2_advance_4 : List UInt8 := dkwX2_advance_4 ++ dktX2_advance_5
def dkwX2_advance_3 : List UInt8 := [162, 0, 59, 42, 21, 4, 182, 0, 62, 153, 0, 44, 42, 180, 0, 75, 42, 180, 0, 23, 21, 4, 46]
abbrev dktX2_advance_3 : List UInt8 := dkwX2_advance_3 ++ dktX2_advance_4
def dkwX2_advance_2 : List UInt8 := [162, 0, 87, 42, 89, 180, 0, 75, 4, 96, 181, 0, 75, 3, 54, 4, 21, 4, 42, 180, 0, 51]
abbrev dktX2_advance_2 : List UInt8 := dkwX2_advance_2 ++ dktX2_advance_3
def dkwX2_advance_1 : List UInt8 := [164, 0, 7, 5, 167, 0, 4, 3, 182, 0, 58, 154, 0, 5, 3, 172, 3, 61, 3, 62, 29, 27]
abbrev dktX2_advance_1 : List UInt8 := dkwX2_advance_1 ++ dktX2_advance_2
def dkwX2_advance_0 : List UInt8 := [42, 27, 4, 17, 3, 232, 184, 0, 54, 154, 0, 7, 4, 167, 0, 19, 42, 180, 0, 75, 27, 96, 18, 88]
abbrev dktX2_advance_0 : List UInt8 := dkwX2_advance_0 ++ dktX2_advance_1
theorem dksX2_advance_0 : cX2_advance.data.toList.drop 0 = dktX2_advance_0 := by decide +kernel
theorem dksX2_advance_1 : cX2_advance.data.toList.drop 24 = dktX2_advance_1 := dk_seg dksX2_advance_0 24 rfl rfl
theorem dksX2_advance_2 : cX2_advance.data.toList.drop 46 = dktX2_advance_2 := dk_seg dksX2_advance_1 22 rfl rfl
theorem dksX2_advance_3 : cX2_advance.data.toList.drop 68 = dktX2_advance_3 := dk_seg dksX2_advance_2 22 rfl rfl
theorem dksX2_advance_4 : cX2_advance.data.toList.drop 91 = dktX2_advance_4 := dk_seg dksX2_advance_3 23 rfl rfl
theorem dksX2_advance_5 : cX2_advance.data.toList.drop 115 = dktX2_advance_5 := dk_seg dksX2_advance_4 24 rfl rfl
theorem dX2_advance_0 : decode cX2_advance 0 = .ok (.aload_n 0, 1) := dk_42 (dk_at dksX2_advance_0 0 rfl rfl)
theorem dX2_advance_1 : decode cX2_advance 1 = .ok (.iload_n 1, 1) := dk_27 (dk_at dksX2_advance_0 1 rfl rfl)
theorem dX2_advance_2 : decode cX2_advance 2 = .ok (.iconst 1, 1) := dk_4 (dk_at dksX2_advance_0 2 rfl rfl)
theorem dX2_advance_3 : decode cX2_advance 3 = .ok (.sipush 1000, 3) := dk_17 3 232 (dk_at dksX2_advance_0 3 rfl rfl)
theorem dX2_advance_6 : decode cX2_advance 6 = .ok (.invokestatic 54, 3) := dk_184 0 54 (dk_at dksX2_advance_0 6 rfl rfl)
theorem dX2_advance_9 : decode cX2_advance 9 = .ok (.ifCond .ne 7, 3) := dk_154 0 7 (dk_at dksX2_advance_0 9 rfl rfl)
theorem dX2_advance_12 : decode cX2_advance 12 = .ok (.iconst 1, 1) := dk_4 (dk_at dksX2_advance_0 12 rfl rfl)
theorem dX2_advance_13 : decode cX2_advance 13 = .ok (.goto 19, 3) := dk_167 0 19 (dk_at dksX2_advance_0 13 rfl rfl)
theorem dX2_advance_16 : decode cX2_advance 16 = .ok (.aload_n 0, 1) := dk_42 (dk_at dksX2_advance_0 16 rfl rfl)
theorem dX2_advance_17 : decode cX2_advance 17 = .ok (.getfield 75, 3) := dk_180 0 75 (dk_at dksX2_advance_0 17 rfl rfl)
theorem dX2_advance_20 : decode cX2_advance 20 = .ok (.iload_n 1, 1) := dk_27 (dk_at dksX2_advance_0 20 rfl rfl)
theorem dX2_advance_21 : decode cX2_advance 21 = .ok (.iadd, 1) := dk_96 (dk_at dksX2_advance_0 21 rfl rfl)
theorem dX2_advance_22 : decode cX2_advance 22 = .ok (.ldc 88, 2) := dk_18 88 (dk_at dksX2_advance_0 22 rfl rfl)
theorem dX2_advance_24 : decode cX2_advance 24 = .ok (.if_icmp .le 7, 3) := dk_164 0 7 (dk_at dksX2_advance_1 0 rfl rfl)
theorem dX2_advance_27 : decode cX2_advance 27 = .ok (.iconst 2, 1) := dk_5 (dk_at dksX2_advance_1 3 rfl rfl)
theorem dX2_advance_28 : decode cX2_advance 28 = .ok (.goto 4, 3) := dk_167 0 4 (dk_at dksX2_advance_1 4 rfl rfl)
theorem dX2_advance_31 : decode cX2_advance 31 = .ok (.iconst 0, 1) := dk_3 (dk_at dksX2_advance_1 7 rfl rfl)
theorem dX2_advance_32 : decode cX2_advance 32 = .ok (.invokevirtual 58, 3) := dk_182 0 58 (dk_at dksX2_advance_1 8 rfl rfl)
theorem dX2_advance_35 : decode cX2_advance 35 = .ok (.ifCond .ne 5, 3) := dk_154 0 5 (dk_at dksX2_advance_1 11 rfl rfl)
theorem dX2_advance_38 : decode cX2_advance 38 = .ok (.iconst 0, 1) := dk_3 (dk_at dksX2_advance_1 14 rfl rfl)
theorem dX2_advance_39 : decode cX2_advance 39 = .ok (.ireturn, 1) := dk_172 (dk_at dksX2_advance_1 15 rfl rfl)
theorem dX2_advance_40 : decode cX2_advance 40 = .ok (.iconst 0, 1) := dk_3 (dk_at dksX2_advance_1 16 rfl rfl)
theorem dX2_advance_41 : decode cX2_advance 41 = .ok (.istore_n 2, 1) := dk_61 (dk_at dksX2_advance_1 17 rfl rfl)
theorem dX2_advance_42 : decode cX2_advance 42 = .ok (.iconst 0, 1) := dk_3 (dk_at dksX2_advance_1 18 rfl rfl)
theorem dX2_advance_43 : decode cX2_advance 43 = .ok (.istore_n 3, 1) := dk_62 (dk_at dksX2_advance_1 19 rfl rfl)
theorem dX2_advance_44 : decode cX2_advance 44 = .ok (.iload_n 3, 1) := dk_29 (dk_at dksX2_advance_1 20 rfl rfl)
theorem dX2_advance_45 : decode cX2_advance 45 = .ok (.iload_n 1, 1) := dk_27 (dk_at dksX2_advance_1 21 rfl rfl)
theorem dX2_advance_46 : decode cX2_advance 46 = .ok (.if_icmp .ge 87, 3) := dk_162 0 87 (dk_at dksX2_advance_2 0 rfl rfl)
theorem dX2_advance_49 : decode cX2_advance 49 = .ok (.aload_n 0, 1) := dk_42 (dk_at dksX2_advance_2 3 rfl rfl)
theorem dX2_advance_50 : decode cX2_advance 50 = .ok (.dup, 1) := dk_89 (dk_at dksX2_advance_2 4 rfl rfl)
theorem dX2_advance_51 : decode cX2_advance 51 = .ok (.getfield 75, 3) := dk_180 0 75 (dk_at dksX2_advance_2 5 rfl rfl)
theorem dX2_advance_54 : decode cX2_advance 54 = .ok (.iconst 1, 1) := dk_4 (dk_at dksX2_advance_2 8 rfl rfl)
theorem dX2_advance_55 : decode cX2_advance 55 = .ok (.iadd, 1) := dk_96 (dk_at dksX2_advance_2 9 rfl rfl)
theorem dX2_advance_56 : decode cX2_advance 56 = .ok (.putfield 75, 3) := dk_181 0 75 (dk_at dksX2_advance_2 10 rfl rfl)
theorem dX2_advance_59 : decode cX2_advance 59 = .ok (.iconst 0, 1) := dk_3 (dk_at dksX2_advance_2 13 rfl rfl)
theorem dX2_advance_60 : decode cX2_advance 60 = .ok (.istore 4, 2) := dk_54 4 (dk_at dksX2_advance_2 14 rfl rfl)
theorem dX2_advance_62 : decode cX2_advance 62 = .ok (.iload 4, 2) := dk_21 4 (dk_at dksX2_advance_2 16 rfl rfl)
theorem dX2_advance_64 : decode cX2_advance 64 = .ok (.aload_n 0, 1) := dk_42 (dk_at dksX2_advance_2 18 rfl rfl)
theorem dX2_advance_65 : decode cX2_advance 65 = .ok (.getfield 51, 3) := dk_180 0 51 (dk_at dksX2_advance_2 19 rfl rfl)
theorem dX2_advance_68 : decode cX2_advance 68 = .ok (.if_icmp .ge 59, 3) := dk_162 0 59 (dk_at dksX2_advance_3 0 rfl rfl)
theorem dX2_advance_71 : decode cX2_advance 71 = .ok (.aload_n 0, 1) := dk_42 (dk_at dksX2_advance_3 3 rfl rfl)
theorem dX2_advance_72 : decode cX2_advance 72 = .ok (.iload 4, 2) := dk_21 4 (dk_at dksX2_advance_3 4 rfl rfl)
theorem dX2_advance_74 : decode cX2_advance 74 = .ok (.invokevirtual 62, 3) := dk_182 0 62 (dk_at dksX2_advance_3 6 rfl rfl)
theorem dX2_advance_77 : decode cX2_advance 77 = .ok (.ifCond .eq 44, 3) := dk_153 0 44 (dk_at dksX2_advance_3 9 rfl rfl)
theorem dX2_advance_80 : decode cX2_advance 80 = .ok (.aload_n 0, 1) := dk_42 (dk_at dksX2_advance_3 12 rfl rfl)
theorem dX2_advance_81 : decode cX2_advance 81 = .ok (.getfield 75, 3) := dk_180 0 75 (dk_at dksX2_advance_3 13 rfl rfl)
theorem dX2_advance_84 : decode cX2_advance 84 = .ok (.aload_n 0, 1) := dk_42 (dk_at dksX2_advance_3 16 rfl rfl)
theorem dX2_advance_85 : decode cX2_advance 85 = .ok (.getfield 23, 3) := dk_180 0 23 (dk_at dksX2_advance_3 17 rfl rfl)
theorem dX2_advance_88 : decode cX2_advance 88 = .ok (.iload 4, 2) := dk_21 4 (dk_at dksX2_advance_3 20 rfl rfl)
theorem dX2_advance_90 : decode cX2_advance 90 = .ok (.iaload, 1) := dk_46 (dk_at dksX2_advance_3 22 rfl rfl)
theorem dX2_advance_91 : decode cX2_advance 91 = .ok (.if_icmp .ne 30, 3) := dk_160 0 30 (dk_at dksX2_advance_4 0 rfl rfl)
theorem dX2_advance_94 : decode cX2_advance 94 = .ok (.aload_n 0, 1) := dk_42 (dk_at dksX2_advance_4 3 rfl rfl)
theorem dX2_advance_95 : decode cX2_advance 95 = .ok (.getfield 29, 3) := dk_180 0 29 (dk_at dksX2_advance_4 4 rfl rfl)
theorem dX2_advance_98 : decode cX2_advance 98 = .ok (.iload 4, 2) := dk_21 4 (dk_at dksX2_advance_4 7 rfl rfl)
theorem dX2_advance_100 : decode cX2_advance 100 = .ok (.iaload, 1) := dk_46 (dk_at dksX2_advance_4 9 rfl rfl)
theorem dX2_advance_101 : decode cX2_advance 101 = .ok (.ifCond .le 20, 3) := dk_158 0 20 (dk_at dksX2_advance_4 10 rfl rfl)
theorem dX2_advance_104 : decode cX2_advance 104 = .ok (.aload_n 0, 1) := dk_42 (dk_at dksX2_advance_4 13 rfl rfl)
theorem dX2_advance_105 : decode cX2_advance 105 = .ok (.getfield 29, 3) := dk_180 0 29 (dk_at dksX2_advance_4 14 rfl rfl)
theorem dX2_advance_108 : decode cX2_advance 108 = .ok (.iload 4, 2) := dk_21 4 (dk_at dksX2_advance_4 17 rfl rfl)
theorem dX2_advance_110 : decode cX2_advance 110 = .ok (.iconst 0, 1) := dk_3 (dk_at dksX2_advance_4 19 rfl rfl)
theorem dX2_advance_111 : decode cX2_advance 111 = .ok (.iastore, 1) := dk_79 (dk_at dksX2_advance_4 20 rfl rfl)
theorem dX2_advance_112 : decode cX2_advance 112 = .ok (.aload_n 0, 1) := dk_42 (dk_at dksX2_advance_4 21 rfl rfl)
theorem dX2_advance_113 : decode cX2_advance 113 = .ok (.iload 4, 2) := dk_21 4 (dk_at dksX2_advance_4 22 rfl rfl)
theorem dX2_advance_115 : decode cX2_advance 115 = .ok (.invokevirtual 84, 3) := dk_182 0 84 (dk_at dksX2_advance_5 0 rfl rfl)
theorem dX2_advance_118 : decode cX2_advance 118 = .ok (.iinc 2 1, 3) := dk_132 2 1 (dk_at dksX2_advance_5 3 rfl rfl)
theorem dX2_advance_121 : decode cX2_advance 121 = .ok (.iinc 4 1, 3) := dk_132 4 1 (dk_at dksX2_advance_5 6 rfl rfl)
theorem dX2_advance_124 : decode cX2_advance 124 = .ok (.goto (-62), 3) := dk_167 255 194 (dk_at dksX2_advance_5 9 rfl rfl)
theorem dX2_advance_127 : decode cX2_advance 127 = .ok (.iinc 3 1, 3) := dk_132 3 1 (dk_at dksX2_advance_5 12 rfl rfl)
theorem dX2_advance_130 : decode cX2_advance 130 = .ok (.goto (-86), 3) := dk_167 255 170 (dk_at dksX2_advance_5 15 rfl rfl)
theorem dX2_advance_133 : decode cX2_advance 133 = .ok (.iload_n 2, 1) := dk_28 (dk_at dksX2_advance_5 18 rfl rfl)
theorem dX2_advance_134 : decode cX2_advance 134 = .ok (.ireturn, 1) := dk_172 (dk_at dksX2_advance_5 19 rfl rfl)
abbrev cX2_satisfies : ByteArray := prog_8_method_20_code
def yX2_satisfies : MethodName := ⟨RX2, "satisfies", "(I)Z"⟩
def dkwX2_satisfies_1 : List UInt8 := [182, 0, 78, 153, 0, 7, 4, 167, 0, 4, 3, 172]
abbrev dktX2_satisfies_1 : List UInt8 := dkwX2_satisfies_1 ++ []
def dkwX2_satisfies_0 : List UInt8 := [42, 42, 27, 182, 0, 62, 153, 0, 7, 3, 167, 0, 4, 4, 182, 0, 58, 153, 0, 15, 42, 27]
abbrev dktX2_satisfies_0 : List UInt8 := dkwX2_satisfies_0 ++ dktX2_satisfies_1
theorem dksX2_satisfies_0 : cX2_satisfies.data.toList.drop 0 = dktX2_satisfies_0 := by decide +kernel
theorem dksX2_satisfies_1 : cX2_satisfies.data.toList.drop 22 = dktX2_satisfies_1 := dk_seg dksX2_satisfies_0 22 rfl rfl
theorem dX2_satisfies_0 : decode cX2_satisfies 0 = .ok (.aload_n 0, 1) := dk_42 (dk_at dksX2_satisfies_0 0 rfl rfl)
theorem dX2_satisfies_1 : decode cX2_satisfies 1 = .ok (.aload_n 0, 1) := dk_42 (dk_at dksX2_satisfies_0 1 rfl rfl)
theorem dX2_satisfies_2 : decode cX2_satisfies 2 = .ok (.iload_n 1, 1) := dk_27 (dk_at dksX2_satisfies_0 2 rfl rfl)
theorem dX2_satisfies_3 : decode cX2_satisfies 3 = .ok (.invokevirtual 62, 3) := dk_182 0 62 (dk_at dksX2_satisfies_0 3 rfl rfl)
theorem dX2_satisfies_6 : decode cX2_satisfies 6 = .ok (.ifCond .eq 7, 3) := dk_153 0 7 (dk_at dksX2_satisfies_0 6 rfl rfl)
theorem dX2_satisfies_9 : decode cX2_satisfies 9 = .ok (.iconst 0, 1) := dk_3 (dk_at dksX2_satisfies_0 9 rfl rfl)
theorem dX2_satisfies_10 : decode cX2_satisfies 10 = .ok (.goto 4, 3) := dk_167 0 4 (dk_at dksX2_satisfies_0 10 rfl rfl)
theorem dX2_satisfies_13 : decode cX2_satisfies 13 = .ok (.iconst 1, 1) := dk_4 (dk_at dksX2_satisfies_0 13 rfl rfl)
theorem dX2_satisfies_14 : decode cX2_satisfies 14 = .ok (.invokevirtual 58, 3) := dk_182 0 58 (dk_at dksX2_satisfies_0 14 rfl rfl)
theorem dX2_satisfies_17 : decode cX2_satisfies 17 = .ok (.ifCond .eq 15, 3) := dk_153 0 15 (dk_at dksX2_satisfies_0 17 rfl rfl)
theorem dX2_satisfies_20 : decode cX2_satisfies 20 = .ok (.aload_n 0, 1) := dk_42 (dk_at dksX2_satisfies_0 20 rfl rfl)
theorem dX2_satisfies_21 : decode cX2_satisfies 21 = .ok (.iload_n 1, 1) := dk_27 (dk_at dksX2_satisfies_0 21 rfl rfl)
theorem dX2_satisfies_22 : decode cX2_satisfies 22 = .ok (.invokevirtual 78, 3) := dk_182 0 78 (dk_at dksX2_satisfies_1 0 rfl rfl)
theorem dX2_satisfies_25 : decode cX2_satisfies 25 = .ok (.ifCond .eq 7, 3) := dk_153 0 7 (dk_at dksX2_satisfies_1 3 rfl rfl)
theorem dX2_satisfies_28 : decode cX2_satisfies 28 = .ok (.iconst 1, 1) := dk_4 (dk_at dksX2_satisfies_1 6 rfl rfl)
theorem dX2_satisfies_29 : decode cX2_satisfies 29 = .ok (.goto 4, 3) := dk_167 0 4 (dk_at dksX2_satisfies_1 7 rfl rfl)
theorem dX2_satisfies_32 : decode cX2_satisfies 32 = .ok (.iconst 0, 1) := dk_3 (dk_at dksX2_satisfies_1 10 rfl rfl)
theorem dX2_satisfies_33 : decode cX2_satisfies 33 = .ok (.ireturn, 1) := dk_172 (dk_at dksX2_satisfies_1 11 rfl rfl)
abbrev cX2_matching : ByteArray := prog_8_method_22_code
def yX2_matching : MethodName := ⟨RX2, "matching", "()I"⟩
def dkwX2_matching_0 : List UInt8 := [42, 3, 181, 0, 47, 42, 182, 0, 89, 172]
abbrev dktX2_matching_0 : List UInt8 := dkwX2_matching_0 ++ []
theorem dksX2_matching_0 : cX2_matching.data.toList.drop 0 = dktX2_matching_0 := by decide +kernel
theorem dX2_matching_0 : decode cX2_matching 0 = .ok (.aload_n 0, 1) := dk_42 (dk_at dksX2_matching_0 0 rfl rfl)
theorem dX2_matching_1 : decode cX2_matching 1 = .ok (.iconst 0, 1) := dk_3 (dk_at dksX2_matching_0 1 rfl rfl)
theorem dX2_matching_2 : decode cX2_matching 2 = .ok (.putfield 47, 3) := dk_181 0 47 (dk_at dksX2_matching_0 2 rfl rfl)
theorem dX2_matching_5 : decode cX2_matching 5 = .ok (.aload_n 0, 1) := dk_42 (dk_at dksX2_matching_0 5 rfl rfl)
theorem dX2_matching_6 : decode cX2_matching 6 = .ok (.invokevirtual 89, 3) := dk_182 0 89 (dk_at dksX2_matching_0 6 rfl rfl)
theorem dX2_matching_9 : decode cX2_matching 9 = .ok (.ireturn, 1) := dk_172 (dk_at dksX2_matching_0 9 rfl rfl)
abbrev cX2_found : ByteArray := prog_8_method_21_code
def yX2_found : MethodName := ⟨RX2, "found", "()I"⟩
def dkwX2_found_1 : List UInt8 := [182, 0, 78, 153, 0, 9, 4, 28, 120, 167, 0, 4, 3, 128, 60, 132, 2, 1, 167, 255, 219, 27, 172]
abbrev dktX2_found_1 : List UInt8 := dkwX2_found_1 ++ []
def dkwX2_found_0 : List UInt8 := [3, 60, 3, 61, 28, 42, 180, 0, 51, 162, 0, 35, 27, 42, 28, 182, 0, 62, 153, 0, 17, 42, 28]
abbrev dktX2_found_0 : List UInt8 := dkwX2_found_0 ++ dktX2_found_1
theorem dksX2_found_0 : cX2_found.data.toList.drop 0 = dktX2_found_0 := by decide +kernel
theorem dksX2_found_1 : cX2_found.data.toList.drop 23 = dktX2_found_1 := dk_seg dksX2_found_0 23 rfl rfl
theorem dX2_found_0 : decode cX2_found 0 = .ok (.iconst 0, 1) := dk_3 (dk_at dksX2_found_0 0 rfl rfl)
theorem dX2_found_1 : decode cX2_found 1 = .ok (.istore_n 1, 1) := dk_60 (dk_at dksX2_found_0 1 rfl rfl)
theorem dX2_found_2 : decode cX2_found 2 = .ok (.iconst 0, 1) := dk_3 (dk_at dksX2_found_0 2 rfl rfl)
theorem dX2_found_3 : decode cX2_found 3 = .ok (.istore_n 2, 1) := dk_61 (dk_at dksX2_found_0 3 rfl rfl)
theorem dX2_found_4 : decode cX2_found 4 = .ok (.iload_n 2, 1) := dk_28 (dk_at dksX2_found_0 4 rfl rfl)
theorem dX2_found_5 : decode cX2_found 5 = .ok (.aload_n 0, 1) := dk_42 (dk_at dksX2_found_0 5 rfl rfl)
theorem dX2_found_6 : decode cX2_found 6 = .ok (.getfield 51, 3) := dk_180 0 51 (dk_at dksX2_found_0 6 rfl rfl)
theorem dX2_found_9 : decode cX2_found 9 = .ok (.if_icmp .ge 35, 3) := dk_162 0 35 (dk_at dksX2_found_0 9 rfl rfl)
theorem dX2_found_12 : decode cX2_found 12 = .ok (.iload_n 1, 1) := dk_27 (dk_at dksX2_found_0 12 rfl rfl)
theorem dX2_found_13 : decode cX2_found 13 = .ok (.aload_n 0, 1) := dk_42 (dk_at dksX2_found_0 13 rfl rfl)
theorem dX2_found_14 : decode cX2_found 14 = .ok (.iload_n 2, 1) := dk_28 (dk_at dksX2_found_0 14 rfl rfl)
theorem dX2_found_15 : decode cX2_found 15 = .ok (.invokevirtual 62, 3) := dk_182 0 62 (dk_at dksX2_found_0 15 rfl rfl)
theorem dX2_found_18 : decode cX2_found 18 = .ok (.ifCond .eq 17, 3) := dk_153 0 17 (dk_at dksX2_found_0 18 rfl rfl)
theorem dX2_found_21 : decode cX2_found 21 = .ok (.aload_n 0, 1) := dk_42 (dk_at dksX2_found_0 21 rfl rfl)
theorem dX2_found_22 : decode cX2_found 22 = .ok (.iload_n 2, 1) := dk_28 (dk_at dksX2_found_0 22 rfl rfl)
theorem dX2_found_23 : decode cX2_found 23 = .ok (.invokevirtual 78, 3) := dk_182 0 78 (dk_at dksX2_found_1 0 rfl rfl)
theorem dX2_found_26 : decode cX2_found 26 = .ok (.ifCond .eq 9, 3) := dk_153 0 9 (dk_at dksX2_found_1 3 rfl rfl)
theorem dX2_found_29 : decode cX2_found 29 = .ok (.iconst 1, 1) := dk_4 (dk_at dksX2_found_1 6 rfl rfl)
theorem dX2_found_30 : decode cX2_found 30 = .ok (.iload_n 2, 1) := dk_28 (dk_at dksX2_found_1 7 rfl rfl)
theorem dX2_found_31 : decode cX2_found 31 = .ok (.ishl, 1) := dk_120 (dk_at dksX2_found_1 8 rfl rfl)
theorem dX2_found_32 : decode cX2_found 32 = .ok (.goto 4, 3) := dk_167 0 4 (dk_at dksX2_found_1 9 rfl rfl)
theorem dX2_found_35 : decode cX2_found 35 = .ok (.iconst 0, 1) := dk_3 (dk_at dksX2_found_1 12 rfl rfl)
theorem dX2_found_36 : decode cX2_found 36 = .ok (.ior, 1) := dk_128 (dk_at dksX2_found_1 13 rfl rfl)
theorem dX2_found_37 : decode cX2_found 37 = .ok (.istore_n 1, 1) := dk_60 (dk_at dksX2_found_1 14 rfl rfl)
theorem dX2_found_38 : decode cX2_found 38 = .ok (.iinc 2 1, 3) := dk_132 2 1 (dk_at dksX2_found_1 15 rfl rfl)
theorem dX2_found_41 : decode cX2_found 41 = .ok (.goto (-37), 3) := dk_167 255 219 (dk_at dksX2_found_1 18 rfl rfl)
theorem dX2_found_44 : decode cX2_found 44 = .ok (.iload_n 1, 1) := dk_27 (dk_at dksX2_found_1 21 rfl rfl)
theorem dX2_found_45 : decode cX2_found 45 = .ok (.ireturn, 1) := dk_172 (dk_at dksX2_found_1 22 rfl rfl)
abbrev cX2_matchingByIndex : ByteArray := prog_8_method_23_code
def yX2_matchingByIndex : MethodName := ⟨RX2, "matchingByIndex", "()I"⟩
def dkwX2_matchingByIndex_0 : List UInt8 := [42, 3, 181, 0, 47, 42, 182, 0, 89, 172]
abbrev dktX2_matchingByIndex_0 : List UInt8 := dkwX2_matchingByIndex_0 ++ []
theorem dksX2_matchingByIndex_0 : cX2_matchingByIndex.data.toList.drop 0 = dktX2_matchingByIndex_0 := by decide +kernel
theorem dX2_matchingByIndex_0 : decode cX2_matchingByIndex 0 = .ok (.aload_n 0, 1) := dk_42 (dk_at dksX2_matchingByIndex_0 0 rfl rfl)
theorem dX2_matchingByIndex_1 : decode cX2_matchingByIndex 1 = .ok (.iconst 0, 1) := dk_3 (dk_at dksX2_matchingByIndex_0 1 rfl rfl)
theorem dX2_matchingByIndex_2 : decode cX2_matchingByIndex 2 = .ok (.putfield 47, 3) := dk_181 0 47 (dk_at dksX2_matchingByIndex_0 2 rfl rfl)
theorem dX2_matchingByIndex_5 : decode cX2_matchingByIndex 5 = .ok (.aload_n 0, 1) := dk_42 (dk_at dksX2_matchingByIndex_0 5 rfl rfl)
theorem dX2_matchingByIndex_6 : decode cX2_matchingByIndex 6 = .ok (.invokevirtual 89, 3) := dk_182 0 89 (dk_at dksX2_matchingByIndex_0 6 rfl rfl)
theorem dX2_matchingByIndex_9 : decode cX2_matchingByIndex 9 = .ok (.ireturn, 1) := dk_172 (dk_at dksX2_matchingByIndex_0 9 rfl rfl)
abbrev cX2_sizeOf : ByteArray := prog_8_method_25_code
def yX2_sizeOf : MethodName := ⟨RX2, "sizeOf", "(I)I"⟩
def dkwX2_sizeOf_1 : List UInt8 := [182, 0, 93, 167, 0, 4, 3, 172]
abbrev dktX2_sizeOf_1 : List UInt8 := dkwX2_sizeOf_1 ++ []
def dkwX2_sizeOf_0 : List UInt8 := [42, 42, 27, 182, 0, 62, 153, 0, 7, 3, 167, 0, 4, 4, 182, 0, 58, 153, 0, 11, 42, 27]
abbrev dktX2_sizeOf_0 : List UInt8 := dkwX2_sizeOf_0 ++ dktX2_sizeOf_1
theorem dksX2_sizeOf_0 : cX2_sizeOf.data.toList.drop 0 = dktX2_sizeOf_0 := by decide +kernel
theorem dksX2_sizeOf_1 : cX2_sizeOf.data.toList.drop 22 = dktX2_sizeOf_1 := dk_seg dksX2_sizeOf_0 22 rfl rfl
theorem dX2_sizeOf_0 : decode cX2_sizeOf 0 = .ok (.aload_n 0, 1) := dk_42 (dk_at dksX2_sizeOf_0 0 rfl rfl)
theorem dX2_sizeOf_1 : decode cX2_sizeOf 1 = .ok (.aload_n 0, 1) := dk_42 (dk_at dksX2_sizeOf_0 1 rfl rfl)
theorem dX2_sizeOf_2 : decode cX2_sizeOf 2 = .ok (.iload_n 1, 1) := dk_27 (dk_at dksX2_sizeOf_0 2 rfl rfl)
theorem dX2_sizeOf_3 : decode cX2_sizeOf 3 = .ok (.invokevirtual 62, 3) := dk_182 0 62 (dk_at dksX2_sizeOf_0 3 rfl rfl)
theorem dX2_sizeOf_6 : decode cX2_sizeOf 6 = .ok (.ifCond .eq 7, 3) := dk_153 0 7 (dk_at dksX2_sizeOf_0 6 rfl rfl)
theorem dX2_sizeOf_9 : decode cX2_sizeOf 9 = .ok (.iconst 0, 1) := dk_3 (dk_at dksX2_sizeOf_0 9 rfl rfl)
theorem dX2_sizeOf_10 : decode cX2_sizeOf 10 = .ok (.goto 4, 3) := dk_167 0 4 (dk_at dksX2_sizeOf_0 10 rfl rfl)
theorem dX2_sizeOf_13 : decode cX2_sizeOf 13 = .ok (.iconst 1, 1) := dk_4 (dk_at dksX2_sizeOf_0 13 rfl rfl)
theorem dX2_sizeOf_14 : decode cX2_sizeOf 14 = .ok (.invokevirtual 58, 3) := dk_182 0 58 (dk_at dksX2_sizeOf_0 14 rfl rfl)
theorem dX2_sizeOf_17 : decode cX2_sizeOf 17 = .ok (.ifCond .eq 11, 3) := dk_153 0 11 (dk_at dksX2_sizeOf_0 17 rfl rfl)
theorem dX2_sizeOf_20 : decode cX2_sizeOf 20 = .ok (.aload_n 0, 1) := dk_42 (dk_at dksX2_sizeOf_0 20 rfl rfl)
theorem dX2_sizeOf_21 : decode cX2_sizeOf 21 = .ok (.iload_n 1, 1) := dk_27 (dk_at dksX2_sizeOf_0 21 rfl rfl)
theorem dX2_sizeOf_22 : decode cX2_sizeOf 22 = .ok (.invokevirtual 93, 3) := dk_182 0 93 (dk_at dksX2_sizeOf_1 0 rfl rfl)
theorem dX2_sizeOf_25 : decode cX2_sizeOf 25 = .ok (.goto 4, 3) := dk_167 0 4 (dk_at dksX2_sizeOf_1 3 rfl rfl)
theorem dX2_sizeOf_28 : decode cX2_sizeOf 28 = .ok (.iconst 0, 1) := dk_3 (dk_at dksX2_sizeOf_1 6 rfl rfl)
theorem dX2_sizeOf_29 : decode cX2_sizeOf 29 = .ok (.ireturn, 1) := dk_172 (dk_at dksX2_sizeOf_1 7 rfl rfl)
abbrev cX2_size : ByteArray := prog_8_method_24_code
def yX2_size : MethodName := ⟨RX2, "size", "(I)I"⟩
def dkwX2_size_4 : List UInt8 := [28, 61, 132, 3, 1, 167, 255, 177, 28, 172]
abbrev dktX2_size_4 : List UInt8 := dkwX2_size_4 ++ []
def dkwX2_size_3 : List UInt8 := [167, 0, 4, 4, 96, 54, 4, 132, 5, 1, 167, 255, 218, 21, 4, 28, 162, 0, 8, 21, 4, 167, 0, 4]
abbrev dktX2_size_3 : List UInt8 := dkwX2_size_3 ++ dktX2_size_4
def dkwX2_size_2 : List UInt8 := [180, 0, 32, 29, 46, 96, 162, 0, 29, 21, 4, 42, 180, 0, 44, 21, 5, 51, 153, 0, 7, 3]
abbrev dktX2_size_2 : List UInt8 := dkwX2_size_2 ++ dktX2_size_3
def dkwX2_size_1 : List UInt8 := [180, 0, 17, 27, 46, 96, 162, 0, 71, 3, 54, 4, 7, 29, 104, 54, 5, 21, 5, 7, 29, 104, 42]
abbrev dktX2_size_1 : List UInt8 := dkwX2_size_1 ++ dktX2_size_2
def dkwX2_size_0 : List UInt8 := [42, 180, 0, 17, 27, 46, 154, 0, 7, 3, 167, 0, 4, 7, 61, 6, 27, 104, 62, 29, 6, 27, 104, 42]
abbrev dktX2_size_0 : List UInt8 := dkwX2_size_0 ++ dktX2_size_1
theorem dksX2_size_0 : cX2_size.data.toList.drop 0 = dktX2_size_0 := by decide +kernel
theorem dksX2_size_1 : cX2_size.data.toList.drop 24 = dktX2_size_1 := dk_seg dksX2_size_0 24 rfl rfl
theorem dksX2_size_2 : cX2_size.data.toList.drop 47 = dktX2_size_2 := dk_seg dksX2_size_1 23 rfl rfl
theorem dksX2_size_3 : cX2_size.data.toList.drop 69 = dktX2_size_3 := dk_seg dksX2_size_2 22 rfl rfl
theorem dksX2_size_4 : cX2_size.data.toList.drop 93 = dktX2_size_4 := dk_seg dksX2_size_3 24 rfl rfl
theorem dX2_size_0 : decode cX2_size 0 = .ok (.aload_n 0, 1) := dk_42 (dk_at dksX2_size_0 0 rfl rfl)
theorem dX2_size_1 : decode cX2_size 1 = .ok (.getfield 17, 3) := dk_180 0 17 (dk_at dksX2_size_0 1 rfl rfl)
theorem dX2_size_4 : decode cX2_size 4 = .ok (.iload_n 1, 1) := dk_27 (dk_at dksX2_size_0 4 rfl rfl)
theorem dX2_size_5 : decode cX2_size 5 = .ok (.iaload, 1) := dk_46 (dk_at dksX2_size_0 5 rfl rfl)
theorem dX2_size_6 : decode cX2_size 6 = .ok (.ifCond .ne 7, 3) := dk_154 0 7 (dk_at dksX2_size_0 6 rfl rfl)
theorem dX2_size_9 : decode cX2_size 9 = .ok (.iconst 0, 1) := dk_3 (dk_at dksX2_size_0 9 rfl rfl)
theorem dX2_size_10 : decode cX2_size 10 = .ok (.goto 4, 3) := dk_167 0 4 (dk_at dksX2_size_0 10 rfl rfl)
theorem dX2_size_13 : decode cX2_size 13 = .ok (.iconst 4, 1) := dk_7 (dk_at dksX2_size_0 13 rfl rfl)
theorem dX2_size_14 : decode cX2_size 14 = .ok (.istore_n 2, 1) := dk_61 (dk_at dksX2_size_0 14 rfl rfl)
theorem dX2_size_15 : decode cX2_size 15 = .ok (.iconst 3, 1) := dk_6 (dk_at dksX2_size_0 15 rfl rfl)
theorem dX2_size_16 : decode cX2_size 16 = .ok (.iload_n 1, 1) := dk_27 (dk_at dksX2_size_0 16 rfl rfl)
theorem dX2_size_17 : decode cX2_size 17 = .ok (.imul, 1) := dk_104 (dk_at dksX2_size_0 17 rfl rfl)
theorem dX2_size_18 : decode cX2_size 18 = .ok (.istore_n 3, 1) := dk_62 (dk_at dksX2_size_0 18 rfl rfl)
theorem dX2_size_19 : decode cX2_size 19 = .ok (.iload_n 3, 1) := dk_29 (dk_at dksX2_size_0 19 rfl rfl)
theorem dX2_size_20 : decode cX2_size 20 = .ok (.iconst 3, 1) := dk_6 (dk_at dksX2_size_0 20 rfl rfl)
theorem dX2_size_21 : decode cX2_size 21 = .ok (.iload_n 1, 1) := dk_27 (dk_at dksX2_size_0 21 rfl rfl)
theorem dX2_size_22 : decode cX2_size 22 = .ok (.imul, 1) := dk_104 (dk_at dksX2_size_0 22 rfl rfl)
theorem dX2_size_23 : decode cX2_size 23 = .ok (.aload_n 0, 1) := dk_42 (dk_at dksX2_size_0 23 rfl rfl)
theorem dX2_size_24 : decode cX2_size 24 = .ok (.getfield 17, 3) := dk_180 0 17 (dk_at dksX2_size_1 0 rfl rfl)
theorem dX2_size_27 : decode cX2_size 27 = .ok (.iload_n 1, 1) := dk_27 (dk_at dksX2_size_1 3 rfl rfl)
theorem dX2_size_28 : decode cX2_size 28 = .ok (.iaload, 1) := dk_46 (dk_at dksX2_size_1 4 rfl rfl)
theorem dX2_size_29 : decode cX2_size 29 = .ok (.iadd, 1) := dk_96 (dk_at dksX2_size_1 5 rfl rfl)
theorem dX2_size_30 : decode cX2_size 30 = .ok (.if_icmp .ge 71, 3) := dk_162 0 71 (dk_at dksX2_size_1 6 rfl rfl)
theorem dX2_size_33 : decode cX2_size 33 = .ok (.iconst 0, 1) := dk_3 (dk_at dksX2_size_1 9 rfl rfl)
theorem dX2_size_34 : decode cX2_size 34 = .ok (.istore 4, 2) := dk_54 4 (dk_at dksX2_size_1 10 rfl rfl)
theorem dX2_size_36 : decode cX2_size 36 = .ok (.iconst 4, 1) := dk_7 (dk_at dksX2_size_1 12 rfl rfl)
theorem dX2_size_37 : decode cX2_size 37 = .ok (.iload_n 3, 1) := dk_29 (dk_at dksX2_size_1 13 rfl rfl)
theorem dX2_size_38 : decode cX2_size 38 = .ok (.imul, 1) := dk_104 (dk_at dksX2_size_1 14 rfl rfl)
theorem dX2_size_39 : decode cX2_size 39 = .ok (.istore 5, 2) := dk_54 5 (dk_at dksX2_size_1 15 rfl rfl)
theorem dX2_size_41 : decode cX2_size 41 = .ok (.iload 5, 2) := dk_21 5 (dk_at dksX2_size_1 17 rfl rfl)
theorem dX2_size_43 : decode cX2_size 43 = .ok (.iconst 4, 1) := dk_7 (dk_at dksX2_size_1 19 rfl rfl)
theorem dX2_size_44 : decode cX2_size 44 = .ok (.iload_n 3, 1) := dk_29 (dk_at dksX2_size_1 20 rfl rfl)
theorem dX2_size_45 : decode cX2_size 45 = .ok (.imul, 1) := dk_104 (dk_at dksX2_size_1 21 rfl rfl)
theorem dX2_size_46 : decode cX2_size 46 = .ok (.aload_n 0, 1) := dk_42 (dk_at dksX2_size_1 22 rfl rfl)
theorem dX2_size_47 : decode cX2_size 47 = .ok (.getfield 32, 3) := dk_180 0 32 (dk_at dksX2_size_2 0 rfl rfl)
theorem dX2_size_50 : decode cX2_size 50 = .ok (.iload_n 3, 1) := dk_29 (dk_at dksX2_size_2 3 rfl rfl)
theorem dX2_size_51 : decode cX2_size 51 = .ok (.iaload, 1) := dk_46 (dk_at dksX2_size_2 4 rfl rfl)
theorem dX2_size_52 : decode cX2_size 52 = .ok (.iadd, 1) := dk_96 (dk_at dksX2_size_2 5 rfl rfl)
theorem dX2_size_53 : decode cX2_size 53 = .ok (.if_icmp .ge 29, 3) := dk_162 0 29 (dk_at dksX2_size_2 6 rfl rfl)
theorem dX2_size_56 : decode cX2_size 56 = .ok (.iload 4, 2) := dk_21 4 (dk_at dksX2_size_2 9 rfl rfl)
theorem dX2_size_58 : decode cX2_size 58 = .ok (.aload_n 0, 1) := dk_42 (dk_at dksX2_size_2 11 rfl rfl)
theorem dX2_size_59 : decode cX2_size 59 = .ok (.getfield 44, 3) := dk_180 0 44 (dk_at dksX2_size_2 12 rfl rfl)
theorem dX2_size_62 : decode cX2_size 62 = .ok (.iload 5, 2) := dk_21 5 (dk_at dksX2_size_2 15 rfl rfl)
theorem dX2_size_64 : decode cX2_size 64 = .ok (.baload, 1) := dk_51 (dk_at dksX2_size_2 17 rfl rfl)
theorem dX2_size_65 : decode cX2_size 65 = .ok (.ifCond .eq 7, 3) := dk_153 0 7 (dk_at dksX2_size_2 18 rfl rfl)
theorem dX2_size_68 : decode cX2_size 68 = .ok (.iconst 0, 1) := dk_3 (dk_at dksX2_size_2 21 rfl rfl)
theorem dX2_size_69 : decode cX2_size 69 = .ok (.goto 4, 3) := dk_167 0 4 (dk_at dksX2_size_3 0 rfl rfl)
theorem dX2_size_72 : decode cX2_size 72 = .ok (.iconst 1, 1) := dk_4 (dk_at dksX2_size_3 3 rfl rfl)
theorem dX2_size_73 : decode cX2_size 73 = .ok (.iadd, 1) := dk_96 (dk_at dksX2_size_3 4 rfl rfl)
theorem dX2_size_74 : decode cX2_size 74 = .ok (.istore 4, 2) := dk_54 4 (dk_at dksX2_size_3 5 rfl rfl)
theorem dX2_size_76 : decode cX2_size 76 = .ok (.iinc 5 1, 3) := dk_132 5 1 (dk_at dksX2_size_3 7 rfl rfl)
theorem dX2_size_79 : decode cX2_size 79 = .ok (.goto (-38), 3) := dk_167 255 218 (dk_at dksX2_size_3 10 rfl rfl)
theorem dX2_size_82 : decode cX2_size 82 = .ok (.iload 4, 2) := dk_21 4 (dk_at dksX2_size_3 13 rfl rfl)
theorem dX2_size_84 : decode cX2_size 84 = .ok (.iload_n 2, 1) := dk_28 (dk_at dksX2_size_3 15 rfl rfl)
theorem dX2_size_85 : decode cX2_size 85 = .ok (.if_icmp .ge 8, 3) := dk_162 0 8 (dk_at dksX2_size_3 16 rfl rfl)
theorem dX2_size_88 : decode cX2_size 88 = .ok (.iload 4, 2) := dk_21 4 (dk_at dksX2_size_3 19 rfl rfl)
theorem dX2_size_90 : decode cX2_size 90 = .ok (.goto 4, 3) := dk_167 0 4 (dk_at dksX2_size_3 21 rfl rfl)
theorem dX2_size_93 : decode cX2_size 93 = .ok (.iload_n 2, 1) := dk_28 (dk_at dksX2_size_4 0 rfl rfl)
theorem dX2_size_94 : decode cX2_size 94 = .ok (.istore_n 2, 1) := dk_61 (dk_at dksX2_size_4 1 rfl rfl)
theorem dX2_size_95 : decode cX2_size 95 = .ok (.iinc 3 1, 3) := dk_132 3 1 (dk_at dksX2_size_4 2 rfl rfl)
theorem dX2_size_98 : decode cX2_size 98 = .ok (.goto (-79), 3) := dk_167 255 177 (dk_at dksX2_size_4 5 rfl rfl)
theorem dX2_size_101 : decode cX2_size 101 = .ok (.iload_n 2, 1) := dk_28 (dk_at dksX2_size_4 8 rfl rfl)
theorem dX2_size_102 : decode cX2_size 102 = .ok (.ireturn, 1) := dk_172 (dk_at dksX2_size_4 9 rfl rfl)
abbrev cX2_withSize : ByteArray := prog_8_method_26_code
def yX2_withSize : MethodName := ⟨RX2, "withSize", "(I)I"⟩
def dkwX2_withSize_2 : List UInt8 := [167, 255, 220, 28, 172]
abbrev dktX2_withSize_2 : List UInt8 := dkwX2_withSize_2 ++ []
def dkwX2_withSize_1 : List UInt8 := [153, 0, 16, 42, 29, 182, 0, 93, 27, 160, 0, 7, 4, 167, 0, 4, 3, 96, 61, 132, 3, 1]
abbrev dktX2_withSize_1 : List UInt8 := dkwX2_withSize_1 ++ dktX2_withSize_2
def dkwX2_withSize_0 : List UInt8 := [42, 3, 181, 0, 47, 3, 61, 3, 62, 29, 42, 180, 0, 51, 162, 0, 34, 28, 42, 29, 182, 0, 62]
abbrev dktX2_withSize_0 : List UInt8 := dkwX2_withSize_0 ++ dktX2_withSize_1
theorem dksX2_withSize_0 : cX2_withSize.data.toList.drop 0 = dktX2_withSize_0 := by decide +kernel
theorem dksX2_withSize_1 : cX2_withSize.data.toList.drop 23 = dktX2_withSize_1 := dk_seg dksX2_withSize_0 23 rfl rfl
theorem dksX2_withSize_2 : cX2_withSize.data.toList.drop 45 = dktX2_withSize_2 := dk_seg dksX2_withSize_1 22 rfl rfl
theorem dX2_withSize_0 : decode cX2_withSize 0 = .ok (.aload_n 0, 1) := dk_42 (dk_at dksX2_withSize_0 0 rfl rfl)
theorem dX2_withSize_1 : decode cX2_withSize 1 = .ok (.iconst 0, 1) := dk_3 (dk_at dksX2_withSize_0 1 rfl rfl)
theorem dX2_withSize_2 : decode cX2_withSize 2 = .ok (.putfield 47, 3) := dk_181 0 47 (dk_at dksX2_withSize_0 2 rfl rfl)
theorem dX2_withSize_5 : decode cX2_withSize 5 = .ok (.iconst 0, 1) := dk_3 (dk_at dksX2_withSize_0 5 rfl rfl)
theorem dX2_withSize_6 : decode cX2_withSize 6 = .ok (.istore_n 2, 1) := dk_61 (dk_at dksX2_withSize_0 6 rfl rfl)
theorem dX2_withSize_7 : decode cX2_withSize 7 = .ok (.iconst 0, 1) := dk_3 (dk_at dksX2_withSize_0 7 rfl rfl)
theorem dX2_withSize_8 : decode cX2_withSize 8 = .ok (.istore_n 3, 1) := dk_62 (dk_at dksX2_withSize_0 8 rfl rfl)
theorem dX2_withSize_9 : decode cX2_withSize 9 = .ok (.iload_n 3, 1) := dk_29 (dk_at dksX2_withSize_0 9 rfl rfl)
theorem dX2_withSize_10 : decode cX2_withSize 10 = .ok (.aload_n 0, 1) := dk_42 (dk_at dksX2_withSize_0 10 rfl rfl)
theorem dX2_withSize_11 : decode cX2_withSize 11 = .ok (.getfield 51, 3) := dk_180 0 51 (dk_at dksX2_withSize_0 11 rfl rfl)
theorem dX2_withSize_14 : decode cX2_withSize 14 = .ok (.if_icmp .ge 34, 3) := dk_162 0 34 (dk_at dksX2_withSize_0 14 rfl rfl)
theorem dX2_withSize_17 : decode cX2_withSize 17 = .ok (.iload_n 2, 1) := dk_28 (dk_at dksX2_withSize_0 17 rfl rfl)
theorem dX2_withSize_18 : decode cX2_withSize 18 = .ok (.aload_n 0, 1) := dk_42 (dk_at dksX2_withSize_0 18 rfl rfl)
theorem dX2_withSize_19 : decode cX2_withSize 19 = .ok (.iload_n 3, 1) := dk_29 (dk_at dksX2_withSize_0 19 rfl rfl)
theorem dX2_withSize_20 : decode cX2_withSize 20 = .ok (.invokevirtual 62, 3) := dk_182 0 62 (dk_at dksX2_withSize_0 20 rfl rfl)
theorem dX2_withSize_23 : decode cX2_withSize 23 = .ok (.ifCond .eq 16, 3) := dk_153 0 16 (dk_at dksX2_withSize_1 0 rfl rfl)
theorem dX2_withSize_26 : decode cX2_withSize 26 = .ok (.aload_n 0, 1) := dk_42 (dk_at dksX2_withSize_1 3 rfl rfl)
theorem dX2_withSize_27 : decode cX2_withSize 27 = .ok (.iload_n 3, 1) := dk_29 (dk_at dksX2_withSize_1 4 rfl rfl)
theorem dX2_withSize_28 : decode cX2_withSize 28 = .ok (.invokevirtual 93, 3) := dk_182 0 93 (dk_at dksX2_withSize_1 5 rfl rfl)
theorem dX2_withSize_31 : decode cX2_withSize 31 = .ok (.iload_n 1, 1) := dk_27 (dk_at dksX2_withSize_1 8 rfl rfl)
theorem dX2_withSize_32 : decode cX2_withSize 32 = .ok (.if_icmp .ne 7, 3) := dk_160 0 7 (dk_at dksX2_withSize_1 9 rfl rfl)
theorem dX2_withSize_35 : decode cX2_withSize 35 = .ok (.iconst 1, 1) := dk_4 (dk_at dksX2_withSize_1 12 rfl rfl)
theorem dX2_withSize_36 : decode cX2_withSize 36 = .ok (.goto 4, 3) := dk_167 0 4 (dk_at dksX2_withSize_1 13 rfl rfl)
theorem dX2_withSize_39 : decode cX2_withSize 39 = .ok (.iconst 0, 1) := dk_3 (dk_at dksX2_withSize_1 16 rfl rfl)
theorem dX2_withSize_40 : decode cX2_withSize 40 = .ok (.iadd, 1) := dk_96 (dk_at dksX2_withSize_1 17 rfl rfl)
theorem dX2_withSize_41 : decode cX2_withSize 41 = .ok (.istore_n 2, 1) := dk_61 (dk_at dksX2_withSize_1 18 rfl rfl)
theorem dX2_withSize_42 : decode cX2_withSize 42 = .ok (.iinc 3 1, 3) := dk_132 3 1 (dk_at dksX2_withSize_1 19 rfl rfl)
theorem dX2_withSize_45 : decode cX2_withSize 45 = .ok (.goto (-36), 3) := dk_167 255 220 (dk_at dksX2_withSize_2 0 rfl rfl)
theorem dX2_withSize_48 : decode cX2_withSize 48 = .ok (.iload_n 2, 1) := dk_28 (dk_at dksX2_withSize_2 3 rfl rfl)
theorem dX2_withSize_49 : decode cX2_withSize 49 = .ok (.ireturn, 1) := dk_172 (dk_at dksX2_withSize_2 4 rfl rfl)
abbrev cX2_pieces : ByteArray := prog_8_method_28_code
def yX2_pieces : MethodName := ⟨RX2, "pieces", "(II)I"⟩
def dkwX2_pieces_2 : List UInt8 := [167, 255, 236, 29, 172]
abbrev dktX2_pieces_2 : List UInt8 := dkwX2_pieces_2 ++ []
def dkwX2_pieces_1 : List UInt8 := [27, 54, 4, 21, 4, 28, 163, 0, 20, 132, 3, 1, 21, 4, 21, 4, 28, 184, 0, 97, 96, 54, 4]
abbrev dktX2_pieces_1 : List UInt8 := dkwX2_pieces_1 ++ dktX2_pieces_2
def dkwX2_pieces_0 : List UInt8 := [42, 27, 28, 184, 0, 68, 153, 0, 7, 3, 167, 0, 4, 4, 182, 0, 58, 154, 0, 5, 3, 172, 3, 62]
abbrev dktX2_pieces_0 : List UInt8 := dkwX2_pieces_0 ++ dktX2_pieces_1
theorem dksX2_pieces_0 : cX2_pieces.data.toList.drop 0 = dktX2_pieces_0 := by decide +kernel
theorem dksX2_pieces_1 : cX2_pieces.data.toList.drop 24 = dktX2_pieces_1 := dk_seg dksX2_pieces_0 24 rfl rfl
theorem dksX2_pieces_2 : cX2_pieces.data.toList.drop 47 = dktX2_pieces_2 := dk_seg dksX2_pieces_1 23 rfl rfl
theorem dX2_pieces_0 : decode cX2_pieces 0 = .ok (.aload_n 0, 1) := dk_42 (dk_at dksX2_pieces_0 0 rfl rfl)
theorem dX2_pieces_1 : decode cX2_pieces 1 = .ok (.iload_n 1, 1) := dk_27 (dk_at dksX2_pieces_0 1 rfl rfl)
theorem dX2_pieces_2 : decode cX2_pieces 2 = .ok (.iload_n 2, 1) := dk_28 (dk_at dksX2_pieces_0 2 rfl rfl)
theorem dX2_pieces_3 : decode cX2_pieces 3 = .ok (.invokestatic 68, 3) := dk_184 0 68 (dk_at dksX2_pieces_0 3 rfl rfl)
theorem dX2_pieces_6 : decode cX2_pieces 6 = .ok (.ifCond .eq 7, 3) := dk_153 0 7 (dk_at dksX2_pieces_0 6 rfl rfl)
theorem dX2_pieces_9 : decode cX2_pieces 9 = .ok (.iconst 0, 1) := dk_3 (dk_at dksX2_pieces_0 9 rfl rfl)
theorem dX2_pieces_10 : decode cX2_pieces 10 = .ok (.goto 4, 3) := dk_167 0 4 (dk_at dksX2_pieces_0 10 rfl rfl)
theorem dX2_pieces_13 : decode cX2_pieces 13 = .ok (.iconst 1, 1) := dk_4 (dk_at dksX2_pieces_0 13 rfl rfl)
theorem dX2_pieces_14 : decode cX2_pieces 14 = .ok (.invokevirtual 58, 3) := dk_182 0 58 (dk_at dksX2_pieces_0 14 rfl rfl)
theorem dX2_pieces_17 : decode cX2_pieces 17 = .ok (.ifCond .ne 5, 3) := dk_154 0 5 (dk_at dksX2_pieces_0 17 rfl rfl)
theorem dX2_pieces_20 : decode cX2_pieces 20 = .ok (.iconst 0, 1) := dk_3 (dk_at dksX2_pieces_0 20 rfl rfl)
theorem dX2_pieces_21 : decode cX2_pieces 21 = .ok (.ireturn, 1) := dk_172 (dk_at dksX2_pieces_0 21 rfl rfl)
theorem dX2_pieces_22 : decode cX2_pieces 22 = .ok (.iconst 0, 1) := dk_3 (dk_at dksX2_pieces_0 22 rfl rfl)
theorem dX2_pieces_23 : decode cX2_pieces 23 = .ok (.istore_n 3, 1) := dk_62 (dk_at dksX2_pieces_0 23 rfl rfl)
theorem dX2_pieces_24 : decode cX2_pieces 24 = .ok (.iload_n 1, 1) := dk_27 (dk_at dksX2_pieces_1 0 rfl rfl)
theorem dX2_pieces_25 : decode cX2_pieces 25 = .ok (.istore 4, 2) := dk_54 4 (dk_at dksX2_pieces_1 1 rfl rfl)
theorem dX2_pieces_27 : decode cX2_pieces 27 = .ok (.iload 4, 2) := dk_21 4 (dk_at dksX2_pieces_1 3 rfl rfl)
theorem dX2_pieces_29 : decode cX2_pieces 29 = .ok (.iload_n 2, 1) := dk_28 (dk_at dksX2_pieces_1 5 rfl rfl)
theorem dX2_pieces_30 : decode cX2_pieces 30 = .ok (.if_icmp .gt 20, 3) := dk_163 0 20 (dk_at dksX2_pieces_1 6 rfl rfl)
theorem dX2_pieces_33 : decode cX2_pieces 33 = .ok (.iinc 3 1, 3) := dk_132 3 1 (dk_at dksX2_pieces_1 9 rfl rfl)
theorem dX2_pieces_36 : decode cX2_pieces 36 = .ok (.iload 4, 2) := dk_21 4 (dk_at dksX2_pieces_1 12 rfl rfl)
theorem dX2_pieces_38 : decode cX2_pieces 38 = .ok (.iload 4, 2) := dk_21 4 (dk_at dksX2_pieces_1 14 rfl rfl)
theorem dX2_pieces_40 : decode cX2_pieces 40 = .ok (.iload_n 2, 1) := dk_28 (dk_at dksX2_pieces_1 16 rfl rfl)
theorem dX2_pieces_41 : decode cX2_pieces 41 = .ok (.invokestatic 97, 3) := dk_184 0 97 (dk_at dksX2_pieces_1 17 rfl rfl)
theorem dX2_pieces_44 : decode cX2_pieces 44 = .ok (.iadd, 1) := dk_96 (dk_at dksX2_pieces_1 20 rfl rfl)
theorem dX2_pieces_45 : decode cX2_pieces 45 = .ok (.istore 4, 2) := dk_54 4 (dk_at dksX2_pieces_1 21 rfl rfl)
theorem dX2_pieces_47 : decode cX2_pieces 47 = .ok (.goto (-20), 3) := dk_167 255 236 (dk_at dksX2_pieces_2 0 rfl rfl)
theorem dX2_pieces_50 : decode cX2_pieces 50 = .ok (.iload_n 3, 1) := dk_29 (dk_at dksX2_pieces_2 3 rfl rfl)
theorem dX2_pieces_51 : decode cX2_pieces 51 = .ok (.ireturn, 1) := dk_172 (dk_at dksX2_pieces_2 4 rfl rfl)
abbrev cX2_piece : ByteArray := prog_8_method_27_code
def yX2_piece : MethodName := ⟨RX2, "piece", "(II)I"⟩
def dkwX2_piece_1 : List UInt8 := [163, 0, 7, 29, 167, 0, 4, 28, 61, 29, 29, 96, 62, 167, 255, 225, 28, 172]
abbrev dktX2_piece_1 : List UInt8 := dkwX2_piece_1 ++ []
def dkwX2_piece_0 : List UInt8 := [4, 61, 5, 62, 29, 16, 64, 163, 0, 31, 26, 29, 112, 154, 0, 16, 26, 29, 96, 4, 100, 27]
abbrev dktX2_piece_0 : List UInt8 := dkwX2_piece_0 ++ dktX2_piece_1
theorem dksX2_piece_0 : cX2_piece.data.toList.drop 0 = dktX2_piece_0 := by decide +kernel
theorem dksX2_piece_1 : cX2_piece.data.toList.drop 22 = dktX2_piece_1 := dk_seg dksX2_piece_0 22 rfl rfl
theorem dX2_piece_0 : decode cX2_piece 0 = .ok (.iconst 1, 1) := dk_4 (dk_at dksX2_piece_0 0 rfl rfl)
theorem dX2_piece_1 : decode cX2_piece 1 = .ok (.istore_n 2, 1) := dk_61 (dk_at dksX2_piece_0 1 rfl rfl)
theorem dX2_piece_2 : decode cX2_piece 2 = .ok (.iconst 2, 1) := dk_5 (dk_at dksX2_piece_0 2 rfl rfl)
theorem dX2_piece_3 : decode cX2_piece 3 = .ok (.istore_n 3, 1) := dk_62 (dk_at dksX2_piece_0 3 rfl rfl)
theorem dX2_piece_4 : decode cX2_piece 4 = .ok (.iload_n 3, 1) := dk_29 (dk_at dksX2_piece_0 4 rfl rfl)
theorem dX2_piece_5 : decode cX2_piece 5 = .ok (.bipush 64, 2) := dk_16 64 (dk_at dksX2_piece_0 5 rfl rfl)
theorem dX2_piece_7 : decode cX2_piece 7 = .ok (.if_icmp .gt 31, 3) := dk_163 0 31 (dk_at dksX2_piece_0 7 rfl rfl)
theorem dX2_piece_10 : decode cX2_piece 10 = .ok (.iload_n 0, 1) := dk_26 (dk_at dksX2_piece_0 10 rfl rfl)
theorem dX2_piece_11 : decode cX2_piece 11 = .ok (.iload_n 3, 1) := dk_29 (dk_at dksX2_piece_0 11 rfl rfl)
theorem dX2_piece_12 : decode cX2_piece 12 = .ok (.irem, 1) := dk_112 (dk_at dksX2_piece_0 12 rfl rfl)
theorem dX2_piece_13 : decode cX2_piece 13 = .ok (.ifCond .ne 16, 3) := dk_154 0 16 (dk_at dksX2_piece_0 13 rfl rfl)
theorem dX2_piece_16 : decode cX2_piece 16 = .ok (.iload_n 0, 1) := dk_26 (dk_at dksX2_piece_0 16 rfl rfl)
theorem dX2_piece_17 : decode cX2_piece 17 = .ok (.iload_n 3, 1) := dk_29 (dk_at dksX2_piece_0 17 rfl rfl)
theorem dX2_piece_18 : decode cX2_piece 18 = .ok (.iadd, 1) := dk_96 (dk_at dksX2_piece_0 18 rfl rfl)
theorem dX2_piece_19 : decode cX2_piece 19 = .ok (.iconst 1, 1) := dk_4 (dk_at dksX2_piece_0 19 rfl rfl)
theorem dX2_piece_20 : decode cX2_piece 20 = .ok (.isub, 1) := dk_100 (dk_at dksX2_piece_0 20 rfl rfl)
theorem dX2_piece_21 : decode cX2_piece 21 = .ok (.iload_n 1, 1) := dk_27 (dk_at dksX2_piece_0 21 rfl rfl)
theorem dX2_piece_22 : decode cX2_piece 22 = .ok (.if_icmp .gt 7, 3) := dk_163 0 7 (dk_at dksX2_piece_1 0 rfl rfl)
theorem dX2_piece_25 : decode cX2_piece 25 = .ok (.iload_n 3, 1) := dk_29 (dk_at dksX2_piece_1 3 rfl rfl)
theorem dX2_piece_26 : decode cX2_piece 26 = .ok (.goto 4, 3) := dk_167 0 4 (dk_at dksX2_piece_1 4 rfl rfl)
theorem dX2_piece_29 : decode cX2_piece 29 = .ok (.iload_n 2, 1) := dk_28 (dk_at dksX2_piece_1 7 rfl rfl)
theorem dX2_piece_30 : decode cX2_piece 30 = .ok (.istore_n 2, 1) := dk_61 (dk_at dksX2_piece_1 8 rfl rfl)
theorem dX2_piece_31 : decode cX2_piece 31 = .ok (.iload_n 3, 1) := dk_29 (dk_at dksX2_piece_1 9 rfl rfl)
theorem dX2_piece_32 : decode cX2_piece 32 = .ok (.iload_n 3, 1) := dk_29 (dk_at dksX2_piece_1 10 rfl rfl)
theorem dX2_piece_33 : decode cX2_piece 33 = .ok (.iadd, 1) := dk_96 (dk_at dksX2_piece_1 11 rfl rfl)
theorem dX2_piece_34 : decode cX2_piece 34 = .ok (.istore_n 3, 1) := dk_62 (dk_at dksX2_piece_1 12 rfl rfl)
theorem dX2_piece_35 : decode cX2_piece 35 = .ok (.goto (-31), 3) := dk_167 255 225 (dk_at dksX2_piece_1 13 rfl rfl)
theorem dX2_piece_38 : decode cX2_piece 38 = .ok (.iload_n 2, 1) := dk_28 (dk_at dksX2_piece_1 16 rfl rfl)
theorem dX2_piece_39 : decode cX2_piece 39 = .ok (.ireturn, 1) := dk_172 (dk_at dksX2_piece_1 17 rfl rfl)
abbrev cX2_pieceAt : ByteArray := prog_8_method_29_code
def yX2_pieceAt : MethodName := ⟨RX2, "pieceAt", "(III)I"⟩
def dkwX2_pieceAt_3 : List UInt8 := [184, 0, 97, 96, 54, 5, 167, 255, 217, 2, 172]
abbrev dktX2_pieceAt_3 : List UInt8 := dkwX2_pieceAt_3 ++ []
def dkwX2_pieceAt_2 : List UInt8 := [160, 0, 16, 16, 100, 21, 5, 104, 21, 5, 28, 184, 0, 97, 96, 172, 132, 4, 1, 21, 5, 21, 5, 28]
abbrev dktX2_pieceAt_2 : List UInt8 := dkwX2_pieceAt_2 ++ dktX2_pieceAt_3
def dkwX2_pieceAt_1 : List UInt8 := [182, 0, 58, 154, 0, 5, 3, 172, 3, 54, 4, 27, 54, 5, 21, 5, 28, 163, 0, 39, 21, 4, 29]
abbrev dktX2_pieceAt_1 : List UInt8 := dkwX2_pieceAt_1 ++ dktX2_pieceAt_2
def dkwX2_pieceAt_0 : List UInt8 := [42, 29, 156, 0, 7, 4, 167, 0, 16, 27, 28, 184, 0, 68, 153, 0, 7, 3, 167, 0, 4, 5]
abbrev dktX2_pieceAt_0 : List UInt8 := dkwX2_pieceAt_0 ++ dktX2_pieceAt_1
theorem dksX2_pieceAt_0 : cX2_pieceAt.data.toList.drop 0 = dktX2_pieceAt_0 := by decide +kernel
theorem dksX2_pieceAt_1 : cX2_pieceAt.data.toList.drop 22 = dktX2_pieceAt_1 := dk_seg dksX2_pieceAt_0 22 rfl rfl
theorem dksX2_pieceAt_2 : cX2_pieceAt.data.toList.drop 45 = dktX2_pieceAt_2 := dk_seg dksX2_pieceAt_1 23 rfl rfl
theorem dksX2_pieceAt_3 : cX2_pieceAt.data.toList.drop 69 = dktX2_pieceAt_3 := dk_seg dksX2_pieceAt_2 24 rfl rfl
theorem dX2_pieceAt_0 : decode cX2_pieceAt 0 = .ok (.aload_n 0, 1) := dk_42 (dk_at dksX2_pieceAt_0 0 rfl rfl)
theorem dX2_pieceAt_1 : decode cX2_pieceAt 1 = .ok (.iload_n 3, 1) := dk_29 (dk_at dksX2_pieceAt_0 1 rfl rfl)
theorem dX2_pieceAt_2 : decode cX2_pieceAt 2 = .ok (.ifCond .ge 7, 3) := dk_156 0 7 (dk_at dksX2_pieceAt_0 2 rfl rfl)
theorem dX2_pieceAt_5 : decode cX2_pieceAt 5 = .ok (.iconst 1, 1) := dk_4 (dk_at dksX2_pieceAt_0 5 rfl rfl)
theorem dX2_pieceAt_6 : decode cX2_pieceAt 6 = .ok (.goto 16, 3) := dk_167 0 16 (dk_at dksX2_pieceAt_0 6 rfl rfl)
theorem dX2_pieceAt_9 : decode cX2_pieceAt 9 = .ok (.iload_n 1, 1) := dk_27 (dk_at dksX2_pieceAt_0 9 rfl rfl)
theorem dX2_pieceAt_10 : decode cX2_pieceAt 10 = .ok (.iload_n 2, 1) := dk_28 (dk_at dksX2_pieceAt_0 10 rfl rfl)
theorem dX2_pieceAt_11 : decode cX2_pieceAt 11 = .ok (.invokestatic 68, 3) := dk_184 0 68 (dk_at dksX2_pieceAt_0 11 rfl rfl)
theorem dX2_pieceAt_14 : decode cX2_pieceAt 14 = .ok (.ifCond .eq 7, 3) := dk_153 0 7 (dk_at dksX2_pieceAt_0 14 rfl rfl)
theorem dX2_pieceAt_17 : decode cX2_pieceAt 17 = .ok (.iconst 0, 1) := dk_3 (dk_at dksX2_pieceAt_0 17 rfl rfl)
theorem dX2_pieceAt_18 : decode cX2_pieceAt 18 = .ok (.goto 4, 3) := dk_167 0 4 (dk_at dksX2_pieceAt_0 18 rfl rfl)
theorem dX2_pieceAt_21 : decode cX2_pieceAt 21 = .ok (.iconst 2, 1) := dk_5 (dk_at dksX2_pieceAt_0 21 rfl rfl)
theorem dX2_pieceAt_22 : decode cX2_pieceAt 22 = .ok (.invokevirtual 58, 3) := dk_182 0 58 (dk_at dksX2_pieceAt_1 0 rfl rfl)
theorem dX2_pieceAt_25 : decode cX2_pieceAt 25 = .ok (.ifCond .ne 5, 3) := dk_154 0 5 (dk_at dksX2_pieceAt_1 3 rfl rfl)
theorem dX2_pieceAt_28 : decode cX2_pieceAt 28 = .ok (.iconst 0, 1) := dk_3 (dk_at dksX2_pieceAt_1 6 rfl rfl)
theorem dX2_pieceAt_29 : decode cX2_pieceAt 29 = .ok (.ireturn, 1) := dk_172 (dk_at dksX2_pieceAt_1 7 rfl rfl)
theorem dX2_pieceAt_30 : decode cX2_pieceAt 30 = .ok (.iconst 0, 1) := dk_3 (dk_at dksX2_pieceAt_1 8 rfl rfl)
theorem dX2_pieceAt_31 : decode cX2_pieceAt 31 = .ok (.istore 4, 2) := dk_54 4 (dk_at dksX2_pieceAt_1 9 rfl rfl)
theorem dX2_pieceAt_33 : decode cX2_pieceAt 33 = .ok (.iload_n 1, 1) := dk_27 (dk_at dksX2_pieceAt_1 11 rfl rfl)
theorem dX2_pieceAt_34 : decode cX2_pieceAt 34 = .ok (.istore 5, 2) := dk_54 5 (dk_at dksX2_pieceAt_1 12 rfl rfl)
theorem dX2_pieceAt_36 : decode cX2_pieceAt 36 = .ok (.iload 5, 2) := dk_21 5 (dk_at dksX2_pieceAt_1 14 rfl rfl)
theorem dX2_pieceAt_38 : decode cX2_pieceAt 38 = .ok (.iload_n 2, 1) := dk_28 (dk_at dksX2_pieceAt_1 16 rfl rfl)
theorem dX2_pieceAt_39 : decode cX2_pieceAt 39 = .ok (.if_icmp .gt 39, 3) := dk_163 0 39 (dk_at dksX2_pieceAt_1 17 rfl rfl)
theorem dX2_pieceAt_42 : decode cX2_pieceAt 42 = .ok (.iload 4, 2) := dk_21 4 (dk_at dksX2_pieceAt_1 20 rfl rfl)
theorem dX2_pieceAt_44 : decode cX2_pieceAt 44 = .ok (.iload_n 3, 1) := dk_29 (dk_at dksX2_pieceAt_1 22 rfl rfl)
theorem dX2_pieceAt_45 : decode cX2_pieceAt 45 = .ok (.if_icmp .ne 16, 3) := dk_160 0 16 (dk_at dksX2_pieceAt_2 0 rfl rfl)
theorem dX2_pieceAt_48 : decode cX2_pieceAt 48 = .ok (.bipush 100, 2) := dk_16 100 (dk_at dksX2_pieceAt_2 3 rfl rfl)
theorem dX2_pieceAt_50 : decode cX2_pieceAt 50 = .ok (.iload 5, 2) := dk_21 5 (dk_at dksX2_pieceAt_2 5 rfl rfl)
theorem dX2_pieceAt_52 : decode cX2_pieceAt 52 = .ok (.imul, 1) := dk_104 (dk_at dksX2_pieceAt_2 7 rfl rfl)
theorem dX2_pieceAt_53 : decode cX2_pieceAt 53 = .ok (.iload 5, 2) := dk_21 5 (dk_at dksX2_pieceAt_2 8 rfl rfl)
theorem dX2_pieceAt_55 : decode cX2_pieceAt 55 = .ok (.iload_n 2, 1) := dk_28 (dk_at dksX2_pieceAt_2 10 rfl rfl)
theorem dX2_pieceAt_56 : decode cX2_pieceAt 56 = .ok (.invokestatic 97, 3) := dk_184 0 97 (dk_at dksX2_pieceAt_2 11 rfl rfl)
theorem dX2_pieceAt_59 : decode cX2_pieceAt 59 = .ok (.iadd, 1) := dk_96 (dk_at dksX2_pieceAt_2 14 rfl rfl)
theorem dX2_pieceAt_60 : decode cX2_pieceAt 60 = .ok (.ireturn, 1) := dk_172 (dk_at dksX2_pieceAt_2 15 rfl rfl)
theorem dX2_pieceAt_61 : decode cX2_pieceAt 61 = .ok (.iinc 4 1, 3) := dk_132 4 1 (dk_at dksX2_pieceAt_2 16 rfl rfl)
theorem dX2_pieceAt_64 : decode cX2_pieceAt 64 = .ok (.iload 5, 2) := dk_21 5 (dk_at dksX2_pieceAt_2 19 rfl rfl)
theorem dX2_pieceAt_66 : decode cX2_pieceAt 66 = .ok (.iload 5, 2) := dk_21 5 (dk_at dksX2_pieceAt_2 21 rfl rfl)
theorem dX2_pieceAt_68 : decode cX2_pieceAt 68 = .ok (.iload_n 2, 1) := dk_28 (dk_at dksX2_pieceAt_2 23 rfl rfl)
theorem dX2_pieceAt_69 : decode cX2_pieceAt 69 = .ok (.invokestatic 97, 3) := dk_184 0 97 (dk_at dksX2_pieceAt_3 0 rfl rfl)
theorem dX2_pieceAt_72 : decode cX2_pieceAt 72 = .ok (.iadd, 1) := dk_96 (dk_at dksX2_pieceAt_3 3 rfl rfl)
theorem dX2_pieceAt_73 : decode cX2_pieceAt 73 = .ok (.istore 5, 2) := dk_54 5 (dk_at dksX2_pieceAt_3 4 rfl rfl)
theorem dX2_pieceAt_75 : decode cX2_pieceAt 75 = .ok (.goto (-39), 3) := dk_167 255 217 (dk_at dksX2_pieceAt_3 6 rfl rfl)
theorem dX2_pieceAt_78 : decode cX2_pieceAt 78 = .ok (.iconst (-1), 1) := dk_2 (dk_at dksX2_pieceAt_3 9 rfl rfl)
theorem dX2_pieceAt_79 : decode cX2_pieceAt 79 = .ok (.ireturn, 1) := dk_172 (dk_at dksX2_pieceAt_3 10 rfl rfl)
abbrev cX2_minute : ByteArray := prog_8_method_30_code
def yX2_minute : MethodName := ⟨RX2, "minute", "()I"⟩
def dkwX2_minute_0 : List UInt8 := [42, 3, 181, 0, 47, 42, 180, 0, 75, 172]
abbrev dktX2_minute_0 : List UInt8 := dkwX2_minute_0 ++ []
theorem dksX2_minute_0 : cX2_minute.data.toList.drop 0 = dktX2_minute_0 := by decide +kernel
theorem dX2_minute_0 : decode cX2_minute 0 = .ok (.aload_n 0, 1) := dk_42 (dk_at dksX2_minute_0 0 rfl rfl)
theorem dX2_minute_1 : decode cX2_minute 1 = .ok (.iconst 0, 1) := dk_3 (dk_at dksX2_minute_0 1 rfl rfl)
theorem dX2_minute_2 : decode cX2_minute 2 = .ok (.putfield 47, 3) := dk_181 0 47 (dk_at dksX2_minute_0 2 rfl rfl)
theorem dX2_minute_5 : decode cX2_minute 5 = .ok (.aload_n 0, 1) := dk_42 (dk_at dksX2_minute_0 5 rfl rfl)
theorem dX2_minute_6 : decode cX2_minute 6 = .ok (.getfield 75, 3) := dk_180 0 75 (dk_at dksX2_minute_0 6 rfl rfl)
theorem dX2_minute_9 : decode cX2_minute 9 = .ok (.ireturn, 1) := dk_172 (dk_at dksX2_minute_0 9 rfl rfl)
abbrev cX2_isQuiet : ByteArray := prog_8_method_31_code
def yX2_isQuiet : MethodName := ⟨RX2, "isQuiet", "(I)Z"⟩
def dkwX2_isQuiet_1 : List UInt8 := [182, 0, 81, 153, 0, 7, 4, 167, 0, 4, 3, 172]
abbrev dktX2_isQuiet_1 : List UInt8 := dkwX2_isQuiet_1 ++ []
def dkwX2_isQuiet_0 : List UInt8 := [42, 42, 27, 182, 0, 62, 153, 0, 7, 3, 167, 0, 4, 4, 182, 0, 58, 153, 0, 15, 42, 27]
abbrev dktX2_isQuiet_0 : List UInt8 := dkwX2_isQuiet_0 ++ dktX2_isQuiet_1
theorem dksX2_isQuiet_0 : cX2_isQuiet.data.toList.drop 0 = dktX2_isQuiet_0 := by decide +kernel
theorem dksX2_isQuiet_1 : cX2_isQuiet.data.toList.drop 22 = dktX2_isQuiet_1 := dk_seg dksX2_isQuiet_0 22 rfl rfl
theorem dX2_isQuiet_0 : decode cX2_isQuiet 0 = .ok (.aload_n 0, 1) := dk_42 (dk_at dksX2_isQuiet_0 0 rfl rfl)
theorem dX2_isQuiet_1 : decode cX2_isQuiet 1 = .ok (.aload_n 0, 1) := dk_42 (dk_at dksX2_isQuiet_0 1 rfl rfl)
theorem dX2_isQuiet_2 : decode cX2_isQuiet 2 = .ok (.iload_n 1, 1) := dk_27 (dk_at dksX2_isQuiet_0 2 rfl rfl)
theorem dX2_isQuiet_3 : decode cX2_isQuiet 3 = .ok (.invokevirtual 62, 3) := dk_182 0 62 (dk_at dksX2_isQuiet_0 3 rfl rfl)
theorem dX2_isQuiet_6 : decode cX2_isQuiet 6 = .ok (.ifCond .eq 7, 3) := dk_153 0 7 (dk_at dksX2_isQuiet_0 6 rfl rfl)
theorem dX2_isQuiet_9 : decode cX2_isQuiet 9 = .ok (.iconst 0, 1) := dk_3 (dk_at dksX2_isQuiet_0 9 rfl rfl)
theorem dX2_isQuiet_10 : decode cX2_isQuiet 10 = .ok (.goto 4, 3) := dk_167 0 4 (dk_at dksX2_isQuiet_0 10 rfl rfl)
theorem dX2_isQuiet_13 : decode cX2_isQuiet 13 = .ok (.iconst 1, 1) := dk_4 (dk_at dksX2_isQuiet_0 13 rfl rfl)
theorem dX2_isQuiet_14 : decode cX2_isQuiet 14 = .ok (.invokevirtual 58, 3) := dk_182 0 58 (dk_at dksX2_isQuiet_0 14 rfl rfl)
theorem dX2_isQuiet_17 : decode cX2_isQuiet 17 = .ok (.ifCond .eq 15, 3) := dk_153 0 15 (dk_at dksX2_isQuiet_0 17 rfl rfl)
theorem dX2_isQuiet_20 : decode cX2_isQuiet 20 = .ok (.aload_n 0, 1) := dk_42 (dk_at dksX2_isQuiet_0 20 rfl rfl)
theorem dX2_isQuiet_21 : decode cX2_isQuiet 21 = .ok (.iload_n 1, 1) := dk_27 (dk_at dksX2_isQuiet_0 21 rfl rfl)
theorem dX2_isQuiet_22 : decode cX2_isQuiet 22 = .ok (.invokevirtual 81, 3) := dk_182 0 81 (dk_at dksX2_isQuiet_1 0 rfl rfl)
theorem dX2_isQuiet_25 : decode cX2_isQuiet 25 = .ok (.ifCond .eq 7, 3) := dk_153 0 7 (dk_at dksX2_isQuiet_1 3 rfl rfl)
theorem dX2_isQuiet_28 : decode cX2_isQuiet 28 = .ok (.iconst 1, 1) := dk_4 (dk_at dksX2_isQuiet_1 6 rfl rfl)
theorem dX2_isQuiet_29 : decode cX2_isQuiet 29 = .ok (.goto 4, 3) := dk_167 0 4 (dk_at dksX2_isQuiet_1 7 rfl rfl)
theorem dX2_isQuiet_32 : decode cX2_isQuiet 32 = .ok (.iconst 0, 1) := dk_3 (dk_at dksX2_isQuiet_1 10 rfl rfl)
theorem dX2_isQuiet_33 : decode cX2_isQuiet 33 = .ok (.ireturn, 1) := dk_172 (dk_at dksX2_isQuiet_1 11 rfl rfl)
abbrev cX2_alerts : ByteArray := prog_8_method_32_code
def yX2_alerts : MethodName := ⟨RX2, "alerts", "(I)I"⟩
def dkwX2_alerts_1 : List UInt8 := [27, 46, 167, 0, 4, 3, 172]
abbrev dktX2_alerts_1 : List UInt8 := dkwX2_alerts_1 ++ []
def dkwX2_alerts_0 : List UInt8 := [42, 42, 27, 182, 0, 62, 153, 0, 7, 3, 167, 0, 4, 4, 182, 0, 58, 153, 0, 12, 42, 180, 0, 26]
abbrev dktX2_alerts_0 : List UInt8 := dkwX2_alerts_0 ++ dktX2_alerts_1
theorem dksX2_alerts_0 : cX2_alerts.data.toList.drop 0 = dktX2_alerts_0 := by decide +kernel
theorem dksX2_alerts_1 : cX2_alerts.data.toList.drop 24 = dktX2_alerts_1 := dk_seg dksX2_alerts_0 24 rfl rfl
theorem dX2_alerts_0 : decode cX2_alerts 0 = .ok (.aload_n 0, 1) := dk_42 (dk_at dksX2_alerts_0 0 rfl rfl)
theorem dX2_alerts_1 : decode cX2_alerts 1 = .ok (.aload_n 0, 1) := dk_42 (dk_at dksX2_alerts_0 1 rfl rfl)
theorem dX2_alerts_2 : decode cX2_alerts 2 = .ok (.iload_n 1, 1) := dk_27 (dk_at dksX2_alerts_0 2 rfl rfl)
theorem dX2_alerts_3 : decode cX2_alerts 3 = .ok (.invokevirtual 62, 3) := dk_182 0 62 (dk_at dksX2_alerts_0 3 rfl rfl)
theorem dX2_alerts_6 : decode cX2_alerts 6 = .ok (.ifCond .eq 7, 3) := dk_153 0 7 (dk_at dksX2_alerts_0 6 rfl rfl)
theorem dX2_alerts_9 : decode cX2_alerts 9 = .ok (.iconst 0, 1) := dk_3 (dk_at dksX2_alerts_0 9 rfl rfl)
theorem dX2_alerts_10 : decode cX2_alerts 10 = .ok (.goto 4, 3) := dk_167 0 4 (dk_at dksX2_alerts_0 10 rfl rfl)
theorem dX2_alerts_13 : decode cX2_alerts 13 = .ok (.iconst 1, 1) := dk_4 (dk_at dksX2_alerts_0 13 rfl rfl)
theorem dX2_alerts_14 : decode cX2_alerts 14 = .ok (.invokevirtual 58, 3) := dk_182 0 58 (dk_at dksX2_alerts_0 14 rfl rfl)
theorem dX2_alerts_17 : decode cX2_alerts 17 = .ok (.ifCond .eq 12, 3) := dk_153 0 12 (dk_at dksX2_alerts_0 17 rfl rfl)
theorem dX2_alerts_20 : decode cX2_alerts 20 = .ok (.aload_n 0, 1) := dk_42 (dk_at dksX2_alerts_0 20 rfl rfl)
theorem dX2_alerts_21 : decode cX2_alerts 21 = .ok (.getfield 26, 3) := dk_180 0 26 (dk_at dksX2_alerts_0 21 rfl rfl)
theorem dX2_alerts_24 : decode cX2_alerts 24 = .ok (.iload_n 1, 1) := dk_27 (dk_at dksX2_alerts_1 0 rfl rfl)
theorem dX2_alerts_25 : decode cX2_alerts 25 = .ok (.iaload, 1) := dk_46 (dk_at dksX2_alerts_1 1 rfl rfl)
theorem dX2_alerts_26 : decode cX2_alerts 26 = .ok (.goto 4, 3) := dk_167 0 4 (dk_at dksX2_alerts_1 2 rfl rfl)
theorem dX2_alerts_29 : decode cX2_alerts 29 = .ok (.iconst 0, 1) := dk_3 (dk_at dksX2_alerts_1 5 rfl rfl)
theorem dX2_alerts_30 : decode cX2_alerts 30 = .ok (.ireturn, 1) := dk_172 (dk_at dksX2_alerts_1 6 rfl rfl)
abbrev cX2_batch : ByteArray := prog_8_method_33_code
def yX2_batch : MethodName := ⟨RX2, "batch", "(I)I"⟩
def dkwX2_batch_1 : List UInt8 := [27, 46, 167, 0, 4, 3, 172]
abbrev dktX2_batch_1 : List UInt8 := dkwX2_batch_1 ++ []
def dkwX2_batch_0 : List UInt8 := [42, 42, 27, 182, 0, 62, 153, 0, 7, 3, 167, 0, 4, 4, 182, 0, 58, 153, 0, 12, 42, 180, 0, 29]
abbrev dktX2_batch_0 : List UInt8 := dkwX2_batch_0 ++ dktX2_batch_1
theorem dksX2_batch_0 : cX2_batch.data.toList.drop 0 = dktX2_batch_0 := by decide +kernel
theorem dksX2_batch_1 : cX2_batch.data.toList.drop 24 = dktX2_batch_1 := dk_seg dksX2_batch_0 24 rfl rfl
theorem dX2_batch_0 : decode cX2_batch 0 = .ok (.aload_n 0, 1) := dk_42 (dk_at dksX2_batch_0 0 rfl rfl)
theorem dX2_batch_1 : decode cX2_batch 1 = .ok (.aload_n 0, 1) := dk_42 (dk_at dksX2_batch_0 1 rfl rfl)
theorem dX2_batch_2 : decode cX2_batch 2 = .ok (.iload_n 1, 1) := dk_27 (dk_at dksX2_batch_0 2 rfl rfl)
theorem dX2_batch_3 : decode cX2_batch 3 = .ok (.invokevirtual 62, 3) := dk_182 0 62 (dk_at dksX2_batch_0 3 rfl rfl)
theorem dX2_batch_6 : decode cX2_batch 6 = .ok (.ifCond .eq 7, 3) := dk_153 0 7 (dk_at dksX2_batch_0 6 rfl rfl)
theorem dX2_batch_9 : decode cX2_batch 9 = .ok (.iconst 0, 1) := dk_3 (dk_at dksX2_batch_0 9 rfl rfl)
theorem dX2_batch_10 : decode cX2_batch 10 = .ok (.goto 4, 3) := dk_167 0 4 (dk_at dksX2_batch_0 10 rfl rfl)
theorem dX2_batch_13 : decode cX2_batch 13 = .ok (.iconst 1, 1) := dk_4 (dk_at dksX2_batch_0 13 rfl rfl)
theorem dX2_batch_14 : decode cX2_batch 14 = .ok (.invokevirtual 58, 3) := dk_182 0 58 (dk_at dksX2_batch_0 14 rfl rfl)
theorem dX2_batch_17 : decode cX2_batch 17 = .ok (.ifCond .eq 12, 3) := dk_153 0 12 (dk_at dksX2_batch_0 17 rfl rfl)
theorem dX2_batch_20 : decode cX2_batch 20 = .ok (.aload_n 0, 1) := dk_42 (dk_at dksX2_batch_0 20 rfl rfl)
theorem dX2_batch_21 : decode cX2_batch 21 = .ok (.getfield 29, 3) := dk_180 0 29 (dk_at dksX2_batch_0 21 rfl rfl)
theorem dX2_batch_24 : decode cX2_batch 24 = .ok (.iload_n 1, 1) := dk_27 (dk_at dksX2_batch_1 0 rfl rfl)
theorem dX2_batch_25 : decode cX2_batch 25 = .ok (.iaload, 1) := dk_46 (dk_at dksX2_batch_1 1 rfl rfl)
theorem dX2_batch_26 : decode cX2_batch 26 = .ok (.goto 4, 3) := dk_167 0 4 (dk_at dksX2_batch_1 2 rfl rfl)
theorem dX2_batch_29 : decode cX2_batch 29 = .ok (.iconst 0, 1) := dk_3 (dk_at dksX2_batch_1 5 rfl rfl)
theorem dX2_batch_30 : decode cX2_batch 30 = .ok (.ireturn, 1) := dk_172 (dk_at dksX2_batch_1 6 rfl rfl)
theorem q22 : (Jvm.Cond.initialized "AlertIndexModel") ∈ lw_all := lw_g (lw_at lw_m1 7 rfl) rfl
theorem q668 : (Jvm.Cond.selects "AlertIndexModel" ({ cls := "java/lang/Object", name := "hashCode", desc := "()I" } : Jvm.MethodName) ({ cls := "java/lang/Object", name := "hashCode", desc := "()I" } : Jvm.MethodName)) ∈ lw_all := lw_g (lw_at lw_m3 173 rfl) rfl
theorem q700 : (Jvm.Cond.selects "AlertIndexModel" ({ cls := "java/lang/Object", name := "equals", desc := "(Ljava/lang/Object;)Z" } : Jvm.MethodName) ({ cls := "java/lang/Object", name := "equals", desc := "(Ljava/lang/Object;)Z" } : Jvm.MethodName)) ∈ lw_all := lw_g (lw_at lw_m3 205 rfl) rfl
theorem q736 : (Jvm.Cond.selects "AlertIndexModel" ({ cls := "java/lang/Object", name := "getClass", desc := "()Ljava/lang/Class;" } : Jvm.MethodName) ({ cls := "java/lang/Object", name := "getClass", desc := "()Ljava/lang/Class;" } : Jvm.MethodName)) ∈ lw_all := lw_g (lw_at lw_m4 1 rfl) rfl
theorem q1448 : (Jvm.Cond.instantiable "AlertIndexModel" (15 : Nat)) ∈ lw_all := lw_g (lw_at lw_m6 233 rfl) rfl
theorem q1450 : (Jvm.Cond.instanceMethod ({ cls := "AlertIndexModel", name := "<init>", desc := "()V" } : Jvm.MethodName)) ∈ lw_all := lw_g (lw_at lw_m6 235 rfl) rfl
theorem q1451 : (Jvm.Cond.code ({ cls := "AlertIndexModel", name := "<init>", desc := "()V" } : Jvm.MethodName) prog_8_method_1_code (2 : Nat) (Option.none : Option Jvm.ClassFile.FieldType)) ∈ lw_all := lw_g (lw_at lw_m6 236 rfl) rfl
theorem q1452 : (Jvm.Cond.methodLink "AlertIndexModel" (1 : Nat) ({ cls := "java/lang/Object", name := "<init>", desc := "()V" } : Jvm.MethodName)) ∈ lw_all := lw_g (lw_at lw_m6 237 rfl) rfl
theorem q1453 : (Jvm.Cond.fieldLink "AlertIndexModel" (47 : Nat) "AlertIndexModel" "thrown" "I") ∈ lw_all := lw_g (lw_at lw_m6 238 rfl) rfl
theorem q1454 : (Jvm.Cond.fieldLink "AlertIndexModel" (75 : Nat) "AlertIndexModel" "minute" "I") ∈ lw_all := lw_g (lw_at lw_m6 239 rfl) rfl
theorem q1455 : (Jvm.Cond.fieldLink "AlertIndexModel" (51 : Nat) "AlertIndexModel" "questions" "I") ∈ lw_all := lw_g (lw_at lw_m7 0 rfl) rfl
theorem q1456 : (Jvm.Cond.fieldLink "AlertIndexModel" (7 : Nat) "AlertIndexModel" "draft" "[I") ∈ lw_all := lw_g (lw_at lw_m7 1 rfl) rfl
theorem q1457 : (Jvm.Cond.fieldLink "AlertIndexModel" (13 : Nat) "AlertIndexModel" "isDropped" "[Z") ∈ lw_all := lw_g (lw_at lw_m7 2 rfl) rfl
theorem q1458 : (Jvm.Cond.fieldLink "AlertIndexModel" (17 : Nat) "AlertIndexModel" "products" "[I") ∈ lw_all := lw_g (lw_at lw_m7 3 rfl) rfl
theorem q1459 : (Jvm.Cond.fieldLink "AlertIndexModel" (20 : Nat) "AlertIndexModel" "quiets" "[I") ∈ lw_all := lw_g (lw_at lw_m7 4 rfl) rfl
theorem q1460 : (Jvm.Cond.fieldLink "AlertIndexModel" (23 : Nat) "AlertIndexModel" "untils" "[I") ∈ lw_all := lw_g (lw_at lw_m7 5 rfl) rfl
theorem q1461 : (Jvm.Cond.fieldLink "AlertIndexModel" (26 : Nat) "AlertIndexModel" "alerts" "[I") ∈ lw_all := lw_g (lw_at lw_m7 6 rfl) rfl
theorem q1462 : (Jvm.Cond.fieldLink "AlertIndexModel" (29 : Nat) "AlertIndexModel" "batches" "[I") ∈ lw_all := lw_g (lw_at lw_m7 7 rfl) rfl
theorem q1463 : (Jvm.Cond.fieldLink "AlertIndexModel" (32 : Nat) "AlertIndexModel" "tests" "[I") ∈ lw_all := lw_g (lw_at lw_m7 8 rfl) rfl
theorem q1464 : (Jvm.Cond.fieldLink "AlertIndexModel" (35 : Nat) "AlertIndexModel" "names" "[I") ∈ lw_all := lw_g (lw_at lw_m7 9 rfl) rfl
theorem q1465 : (Jvm.Cond.fieldLink "AlertIndexModel" (38 : Nat) "AlertIndexModel" "lows" "[I") ∈ lw_all := lw_g (lw_at lw_m7 10 rfl) rfl
theorem q1466 : (Jvm.Cond.fieldLink "AlertIndexModel" (41 : Nat) "AlertIndexModel" "highs" "[I") ∈ lw_all := lw_g (lw_at lw_m7 11 rfl) rfl
theorem q1467 : (Jvm.Cond.fieldLink "AlertIndexModel" (44 : Nat) "AlertIndexModel" "isBarred" "[Z") ∈ lw_all := lw_g (lw_at lw_m7 12 rfl) rfl
theorem q1468 : (Jvm.Cond.lays "AlertIndexModel" "AlertIndexModel" "thrown" "I") ∈ lw_all := lw_g (lw_at lw_m7 13 rfl) rfl
theorem q1469 : (Jvm.Cond.soleField "AlertIndexModel" "thrown") ∈ lw_all := lw_g (lw_at lw_m7 14 rfl) rfl
theorem q1470 : (Jvm.Cond.lays "AlertIndexModel" "AlertIndexModel" "minute" "I") ∈ lw_all := lw_g (lw_at lw_m7 15 rfl) rfl
theorem q1471 : (Jvm.Cond.soleField "AlertIndexModel" "minute") ∈ lw_all := lw_g (lw_at lw_m7 16 rfl) rfl
theorem q1472 : (Jvm.Cond.lays "AlertIndexModel" "AlertIndexModel" "questions" "I") ∈ lw_all := lw_g (lw_at lw_m7 17 rfl) rfl
theorem q1473 : (Jvm.Cond.soleField "AlertIndexModel" "questions") ∈ lw_all := lw_g (lw_at lw_m7 18 rfl) rfl
theorem q1474 : (Jvm.Cond.laysFinal "AlertIndexModel" "AlertIndexModel" "draft" "[I") ∈ lw_all := lw_g (lw_at lw_m7 19 rfl) rfl
theorem q1475 : (Jvm.Cond.soleField "AlertIndexModel" "draft") ∈ lw_all := lw_g (lw_at lw_m7 20 rfl) rfl
theorem q1476 : (Jvm.Cond.laysFinal "AlertIndexModel" "AlertIndexModel" "isDropped" "[Z") ∈ lw_all := lw_g (lw_at lw_m7 21 rfl) rfl
theorem q1477 : (Jvm.Cond.soleField "AlertIndexModel" "isDropped") ∈ lw_all := lw_g (lw_at lw_m7 22 rfl) rfl
theorem q1478 : (Jvm.Cond.laysFinal "AlertIndexModel" "AlertIndexModel" "products" "[I") ∈ lw_all := lw_g (lw_at lw_m7 23 rfl) rfl
theorem q1479 : (Jvm.Cond.soleField "AlertIndexModel" "products") ∈ lw_all := lw_g (lw_at lw_m7 24 rfl) rfl
theorem q1480 : (Jvm.Cond.laysFinal "AlertIndexModel" "AlertIndexModel" "quiets" "[I") ∈ lw_all := lw_g (lw_at lw_m7 25 rfl) rfl
theorem q1481 : (Jvm.Cond.soleField "AlertIndexModel" "quiets") ∈ lw_all := lw_g (lw_at lw_m7 26 rfl) rfl
theorem q1482 : (Jvm.Cond.laysFinal "AlertIndexModel" "AlertIndexModel" "untils" "[I") ∈ lw_all := lw_g (lw_at lw_m7 27 rfl) rfl
theorem q1483 : (Jvm.Cond.soleField "AlertIndexModel" "untils") ∈ lw_all := lw_g (lw_at lw_m7 28 rfl) rfl
theorem q1484 : (Jvm.Cond.laysFinal "AlertIndexModel" "AlertIndexModel" "alerts" "[I") ∈ lw_all := lw_g (lw_at lw_m7 29 rfl) rfl
theorem q1485 : (Jvm.Cond.soleField "AlertIndexModel" "alerts") ∈ lw_all := lw_g (lw_at lw_m7 30 rfl) rfl
theorem q1486 : (Jvm.Cond.laysFinal "AlertIndexModel" "AlertIndexModel" "batches" "[I") ∈ lw_all := lw_g (lw_at lw_m7 31 rfl) rfl
theorem q1487 : (Jvm.Cond.soleField "AlertIndexModel" "batches") ∈ lw_all := lw_g (lw_at lw_m7 32 rfl) rfl
theorem q1488 : (Jvm.Cond.laysFinal "AlertIndexModel" "AlertIndexModel" "tests" "[I") ∈ lw_all := lw_g (lw_at lw_m7 33 rfl) rfl
theorem q1489 : (Jvm.Cond.soleField "AlertIndexModel" "tests") ∈ lw_all := lw_g (lw_at lw_m7 34 rfl) rfl
theorem q1490 : (Jvm.Cond.laysFinal "AlertIndexModel" "AlertIndexModel" "names" "[I") ∈ lw_all := lw_g (lw_at lw_m7 35 rfl) rfl
theorem q1491 : (Jvm.Cond.soleField "AlertIndexModel" "names") ∈ lw_all := lw_g (lw_at lw_m7 36 rfl) rfl
theorem q1492 : (Jvm.Cond.laysFinal "AlertIndexModel" "AlertIndexModel" "lows" "[I") ∈ lw_all := lw_g (lw_at lw_m7 37 rfl) rfl
theorem q1493 : (Jvm.Cond.soleField "AlertIndexModel" "lows") ∈ lw_all := lw_g (lw_at lw_m7 38 rfl) rfl
theorem q1494 : (Jvm.Cond.laysFinal "AlertIndexModel" "AlertIndexModel" "highs" "[I") ∈ lw_all := lw_g (lw_at lw_m7 39 rfl) rfl
theorem q1495 : (Jvm.Cond.soleField "AlertIndexModel" "highs") ∈ lw_all := lw_g (lw_at lw_m7 40 rfl) rfl
theorem q1496 : (Jvm.Cond.laysFinal "AlertIndexModel" "AlertIndexModel" "isBarred" "[Z") ∈ lw_all := lw_g (lw_at lw_m7 41 rfl) rfl
theorem q1497 : (Jvm.Cond.soleField "AlertIndexModel" "isBarred") ∈ lw_all := lw_g (lw_at lw_m7 42 rfl) rfl
theorem q1498 : (Jvm.Cond.superclass "AlertIndexModel" "java/lang/Object") ∈ lw_all := lw_g (lw_at lw_m7 43 rfl) rfl
theorem q1501 : (Jvm.Cond.instanceMethod ({ cls := "AlertIndexModel", name := "thrown", desc := "()I" } : Jvm.MethodName)) ∈ lw_all := lw_g (lw_at lw_m7 46 rfl) rfl
theorem q1502 : (Jvm.Cond.selects "AlertIndexModel" ({ cls := "AlertIndexModel", name := "thrown", desc := "()I" } : Jvm.MethodName) ({ cls := "AlertIndexModel", name := "thrown", desc := "()I" } : Jvm.MethodName)) ∈ lw_all := lw_g (lw_at lw_m7 47 rfl) rfl
theorem q1503 : (Jvm.Cond.code ({ cls := "AlertIndexModel", name := "thrown", desc := "()I" } : Jvm.MethodName) prog_8_method_2_code (1 : Nat) (Option.some Jvm.ClassFile.FieldType.int)) ∈ lw_all := lw_g (lw_at lw_m7 48 rfl) rfl
theorem q1505 : (Jvm.Cond.instanceMethod ({ cls := "AlertIndexModel", name := "question", desc := "()I" } : Jvm.MethodName)) ∈ lw_all := lw_g (lw_at lw_m7 50 rfl) rfl
theorem q1506 : (Jvm.Cond.selects "AlertIndexModel" ({ cls := "AlertIndexModel", name := "question", desc := "()I" } : Jvm.MethodName) ({ cls := "AlertIndexModel", name := "question", desc := "()I" } : Jvm.MethodName)) ∈ lw_all := lw_g (lw_at lw_m7 51 rfl) rfl
theorem q1507 : (Jvm.Cond.code ({ cls := "AlertIndexModel", name := "question", desc := "()I" } : Jvm.MethodName) prog_8_method_8_code (1 : Nat) (Option.some Jvm.ClassFile.FieldType.int)) ∈ lw_all := lw_g (lw_at lw_m7 52 rfl) rfl
theorem q1508 : (Jvm.Cond.methodLink "AlertIndexModel" (58 : Nat) ({ cls := "AlertIndexModel", name := "holds", desc := "(I)Z" } : Jvm.MethodName)) ∈ lw_all := lw_g (lw_at lw_m7 53 rfl) rfl
theorem q1509 : (Jvm.Cond.privateMethod ({ cls := "AlertIndexModel", name := "holds", desc := "(I)Z" } : Jvm.MethodName)) ∈ lw_tbl := lw_at lw_m7 54 rfl
theorem q1510 : (Jvm.Cond.instanceMethod ({ cls := "AlertIndexModel", name := "holds", desc := "(I)Z" } : Jvm.MethodName)) ∈ lw_all := lw_g (lw_at lw_m7 55 rfl) rfl
theorem q1511 : (Jvm.Cond.code ({ cls := "AlertIndexModel", name := "holds", desc := "(I)Z" } : Jvm.MethodName) prog_8_method_3_code (2 : Nat) (Option.some Jvm.ClassFile.FieldType.boolean)) ∈ lw_all := lw_g (lw_at lw_m7 56 rfl) rfl
theorem q1513 : (Jvm.Cond.instanceMethod ({ cls := "AlertIndexModel", name := "product", desc := "(I)I" } : Jvm.MethodName)) ∈ lw_all := lw_g (lw_at lw_m7 58 rfl) rfl
theorem q1514 : (Jvm.Cond.selects "AlertIndexModel" ({ cls := "AlertIndexModel", name := "product", desc := "(I)I" } : Jvm.MethodName) ({ cls := "AlertIndexModel", name := "product", desc := "(I)I" } : Jvm.MethodName)) ∈ lw_all := lw_g (lw_at lw_m7 59 rfl) rfl
theorem q1515 : (Jvm.Cond.code ({ cls := "AlertIndexModel", name := "product", desc := "(I)I" } : Jvm.MethodName) prog_8_method_9_code (3 : Nat) (Option.some Jvm.ClassFile.FieldType.int)) ∈ lw_all := lw_g (lw_at lw_m7 60 rfl) rfl
theorem q1516 : (Jvm.Cond.methodLink "AlertIndexModel" (62 : Nat) ({ cls := "AlertIndexModel", name := "isQuestion", desc := "(I)Z" } : Jvm.MethodName)) ∈ lw_all := lw_g (lw_at lw_m7 61 rfl) rfl
theorem q1517 : (Jvm.Cond.privateMethod ({ cls := "AlertIndexModel", name := "isQuestion", desc := "(I)Z" } : Jvm.MethodName)) ∈ lw_tbl := lw_at lw_m7 62 rfl
theorem q1518 : (Jvm.Cond.instanceMethod ({ cls := "AlertIndexModel", name := "isQuestion", desc := "(I)Z" } : Jvm.MethodName)) ∈ lw_all := lw_g (lw_at lw_m7 63 rfl) rfl
theorem q1519 : (Jvm.Cond.code ({ cls := "AlertIndexModel", name := "isQuestion", desc := "(I)Z" } : Jvm.MethodName) prog_8_method_5_code (2 : Nat) (Option.some Jvm.ClassFile.FieldType.boolean)) ∈ lw_all := lw_g (lw_at lw_m7 64 rfl) rfl
theorem q1520 : (Jvm.Cond.methodLink "AlertIndexModel" (54 : Nat) ({ cls := "AlertIndexModel", name := "isIn", desc := "(III)Z" } : Jvm.MethodName)) ∈ lw_all := lw_g (lw_at lw_m7 65 rfl) rfl
theorem q1521 : (Jvm.Cond.static ({ cls := "AlertIndexModel", name := "isIn", desc := "(III)Z" } : Jvm.MethodName)) ∈ lw_all := lw_g (lw_at lw_m7 66 rfl) rfl
theorem q1522 : (Jvm.Cond.code ({ cls := "AlertIndexModel", name := "isIn", desc := "(III)Z" } : Jvm.MethodName) prog_8_method_4_code (3 : Nat) (Option.some Jvm.ClassFile.FieldType.boolean)) ∈ lw_all := lw_g (lw_at lw_m7 67 rfl) rfl
theorem q1524 : (Jvm.Cond.instanceMethod ({ cls := "AlertIndexModel", name := "test", desc := "(IIIIZ)I" } : Jvm.MethodName)) ∈ lw_all := lw_g (lw_at lw_m7 69 rfl) rfl
theorem q1525 : (Jvm.Cond.selects "AlertIndexModel" ({ cls := "AlertIndexModel", name := "test", desc := "(IIIIZ)I" } : Jvm.MethodName) ({ cls := "AlertIndexModel", name := "test", desc := "(IIIIZ)I" } : Jvm.MethodName)) ∈ lw_all := lw_g (lw_at lw_m7 70 rfl) rfl
theorem q1526 : (Jvm.Cond.code ({ cls := "AlertIndexModel", name := "test", desc := "(IIIIZ)I" } : Jvm.MethodName) prog_8_method_10_code (10 : Nat) (Option.some Jvm.ClassFile.FieldType.int)) ∈ lw_all := lw_g (lw_at lw_m7 71 rfl) rfl
theorem q1527 : (Jvm.Cond.methodLink "AlertIndexModel" (65 : Nat) ({ cls := "AlertIndexModel", name := "isName", desc := "(I)Z" } : Jvm.MethodName)) ∈ lw_all := lw_g (lw_at lw_m7 72 rfl) rfl
theorem q1528 : (Jvm.Cond.static ({ cls := "AlertIndexModel", name := "isName", desc := "(I)Z" } : Jvm.MethodName)) ∈ lw_all := lw_g (lw_at lw_m7 73 rfl) rfl
theorem q1529 : (Jvm.Cond.code ({ cls := "AlertIndexModel", name := "isName", desc := "(I)Z" } : Jvm.MethodName) prog_8_method_6_code (1 : Nat) (Option.some Jvm.ClassFile.FieldType.boolean)) ∈ lw_all := lw_g (lw_at lw_m7 74 rfl) rfl
theorem q1530 : (Jvm.Cond.methodLink "AlertIndexModel" (68 : Nat) ({ cls := "AlertIndexModel", name := "isRange", desc := "(II)Z" } : Jvm.MethodName)) ∈ lw_all := lw_g (lw_at lw_m7 75 rfl) rfl
theorem q1531 : (Jvm.Cond.static ({ cls := "AlertIndexModel", name := "isRange", desc := "(II)Z" } : Jvm.MethodName)) ∈ lw_all := lw_g (lw_at lw_m7 76 rfl) rfl
theorem q1532 : (Jvm.Cond.code ({ cls := "AlertIndexModel", name := "isRange", desc := "(II)Z" } : Jvm.MethodName) prog_8_method_7_code (2 : Nat) (Option.some Jvm.ClassFile.FieldType.boolean)) ∈ lw_all := lw_g (lw_at lw_m7 77 rfl) rfl
theorem q1534 : (Jvm.Cond.instanceMethod ({ cls := "AlertIndexModel", name := "drop", desc := "(I)I" } : Jvm.MethodName)) ∈ lw_all := lw_g (lw_at lw_m7 79 rfl) rfl
theorem q1535 : (Jvm.Cond.selects "AlertIndexModel" ({ cls := "AlertIndexModel", name := "drop", desc := "(I)I" } : Jvm.MethodName) ({ cls := "AlertIndexModel", name := "drop", desc := "(I)I" } : Jvm.MethodName)) ∈ lw_all := lw_g (lw_at lw_m7 80 rfl) rfl
theorem q1536 : (Jvm.Cond.code ({ cls := "AlertIndexModel", name := "drop", desc := "(I)I" } : Jvm.MethodName) prog_8_method_11_code (2 : Nat) (Option.some Jvm.ClassFile.FieldType.int)) ∈ lw_all := lw_g (lw_at lw_m7 81 rfl) rfl
theorem q1538 : (Jvm.Cond.instanceMethod ({ cls := "AlertIndexModel", name := "setQuiet", desc := "(II)I" } : Jvm.MethodName)) ∈ lw_all := lw_g (lw_at lw_m7 83 rfl) rfl
theorem q1539 : (Jvm.Cond.selects "AlertIndexModel" ({ cls := "AlertIndexModel", name := "setQuiet", desc := "(II)I" } : Jvm.MethodName) ({ cls := "AlertIndexModel", name := "setQuiet", desc := "(II)I" } : Jvm.MethodName)) ∈ lw_all := lw_g (lw_at lw_m7 84 rfl) rfl
theorem q1540 : (Jvm.Cond.code ({ cls := "AlertIndexModel", name := "setQuiet", desc := "(II)I" } : Jvm.MethodName) prog_8_method_12_code (5 : Nat) (Option.some Jvm.ClassFile.FieldType.int)) ∈ lw_all := lw_g (lw_at lw_m7 85 rfl) rfl
theorem q1542 : (Jvm.Cond.instanceMethod ({ cls := "AlertIndexModel", name := "set", desc := "(II)I" } : Jvm.MethodName)) ∈ lw_all := lw_g (lw_at lw_m7 87 rfl) rfl
theorem q1543 : (Jvm.Cond.selects "AlertIndexModel" ({ cls := "AlertIndexModel", name := "set", desc := "(II)I" } : Jvm.MethodName) ({ cls := "AlertIndexModel", name := "set", desc := "(II)I" } : Jvm.MethodName)) ∈ lw_all := lw_g (lw_at lw_m7 88 rfl) rfl
theorem q1544 : (Jvm.Cond.code ({ cls := "AlertIndexModel", name := "set", desc := "(II)I" } : Jvm.MethodName) prog_8_method_13_code (4 : Nat) (Option.some Jvm.ClassFile.FieldType.int)) ∈ lw_all := lw_g (lw_at lw_m7 89 rfl) rfl
theorem q1546 : (Jvm.Cond.instanceMethod ({ cls := "AlertIndexModel", name := "come", desc := "()I" } : Jvm.MethodName)) ∈ lw_all := lw_g (lw_at lw_m7 91 rfl) rfl
theorem q1547 : (Jvm.Cond.selects "AlertIndexModel" ({ cls := "AlertIndexModel", name := "come", desc := "()I" } : Jvm.MethodName) ({ cls := "AlertIndexModel", name := "come", desc := "()I" } : Jvm.MethodName)) ∈ lw_all := lw_g (lw_at lw_m7 92 rfl) rfl
theorem q1548 : (Jvm.Cond.code ({ cls := "AlertIndexModel", name := "come", desc := "()I" } : Jvm.MethodName) prog_8_method_18_code (3 : Nat) (Option.some Jvm.ClassFile.FieldType.int)) ∈ lw_all := lw_g (lw_at lw_m7 93 rfl) rfl
theorem q1549 : (Jvm.Cond.methodLink "AlertIndexModel" (78 : Nat) ({ cls := "AlertIndexModel", name := "does", desc := "(I)Z" } : Jvm.MethodName)) ∈ lw_all := lw_g (lw_at lw_m7 94 rfl) rfl
theorem q1550 : (Jvm.Cond.privateMethod ({ cls := "AlertIndexModel", name := "does", desc := "(I)Z" } : Jvm.MethodName)) ∈ lw_tbl := lw_at lw_m7 95 rfl
theorem q1551 : (Jvm.Cond.instanceMethod ({ cls := "AlertIndexModel", name := "does", desc := "(I)Z" } : Jvm.MethodName)) ∈ lw_all := lw_g (lw_at lw_m7 96 rfl) rfl
theorem q1552 : (Jvm.Cond.code ({ cls := "AlertIndexModel", name := "does", desc := "(I)Z" } : Jvm.MethodName) prog_8_method_15_code (6 : Nat) (Option.some Jvm.ClassFile.FieldType.boolean)) ∈ lw_all := lw_g (lw_at lw_m7 97 rfl) rfl
theorem q1553 : (Jvm.Cond.methodLink "AlertIndexModel" (72 : Nat) ({ cls := "AlertIndexModel", name := "isTrue", desc := "(I)Z" } : Jvm.MethodName)) ∈ lw_all := lw_g (lw_at lw_m7 98 rfl) rfl
theorem q1554 : (Jvm.Cond.privateMethod ({ cls := "AlertIndexModel", name := "isTrue", desc := "(I)Z" } : Jvm.MethodName)) ∈ lw_tbl := lw_at lw_m7 99 rfl
theorem q1555 : (Jvm.Cond.instanceMethod ({ cls := "AlertIndexModel", name := "isTrue", desc := "(I)Z" } : Jvm.MethodName)) ∈ lw_all := lw_g (lw_at lw_m7 100 rfl) rfl
theorem q1556 : (Jvm.Cond.code ({ cls := "AlertIndexModel", name := "isTrue", desc := "(I)Z" } : Jvm.MethodName) prog_8_method_14_code (4 : Nat) (Option.some Jvm.ClassFile.FieldType.boolean)) ∈ lw_all := lw_g (lw_at lw_m7 101 rfl) rfl
theorem q1557 : (Jvm.Cond.methodLink "AlertIndexModel" (81 : Nat) ({ cls := "AlertIndexModel", name := "quietNow", desc := "(I)Z" } : Jvm.MethodName)) ∈ lw_all := lw_g (lw_at lw_m7 102 rfl) rfl
theorem q1558 : (Jvm.Cond.privateMethod ({ cls := "AlertIndexModel", name := "quietNow", desc := "(I)Z" } : Jvm.MethodName)) ∈ lw_tbl := lw_at lw_m7 103 rfl
theorem q1559 : (Jvm.Cond.instanceMethod ({ cls := "AlertIndexModel", name := "quietNow", desc := "(I)Z" } : Jvm.MethodName)) ∈ lw_all := lw_g (lw_at lw_m7 104 rfl) rfl
theorem q1560 : (Jvm.Cond.code ({ cls := "AlertIndexModel", name := "quietNow", desc := "(I)Z" } : Jvm.MethodName) prog_8_method_16_code (2 : Nat) (Option.some Jvm.ClassFile.FieldType.boolean)) ∈ lw_all := lw_g (lw_at lw_m7 105 rfl) rfl
theorem q1561 : (Jvm.Cond.methodLink "AlertIndexModel" (84 : Nat) ({ cls := "AlertIndexModel", name := "raises", desc := "(I)V" } : Jvm.MethodName)) ∈ lw_all := lw_g (lw_at lw_m7 106 rfl) rfl
theorem q1562 : (Jvm.Cond.privateMethod ({ cls := "AlertIndexModel", name := "raises", desc := "(I)V" } : Jvm.MethodName)) ∈ lw_tbl := lw_at lw_m7 107 rfl
theorem q1563 : (Jvm.Cond.instanceMethod ({ cls := "AlertIndexModel", name := "raises", desc := "(I)V" } : Jvm.MethodName)) ∈ lw_all := lw_g (lw_at lw_m7 108 rfl) rfl
theorem q1564 : (Jvm.Cond.code ({ cls := "AlertIndexModel", name := "raises", desc := "(I)V" } : Jvm.MethodName) prog_8_method_17_code (2 : Nat) (Option.none : Option Jvm.ClassFile.FieldType)) ∈ lw_all := lw_g (lw_at lw_m7 109 rfl) rfl
theorem q1566 : (Jvm.Cond.instanceMethod ({ cls := "AlertIndexModel", name := "advance", desc := "(I)I" } : Jvm.MethodName)) ∈ lw_all := lw_g (lw_at lw_m7 111 rfl) rfl
theorem q1567 : (Jvm.Cond.selects "AlertIndexModel" ({ cls := "AlertIndexModel", name := "advance", desc := "(I)I" } : Jvm.MethodName) ({ cls := "AlertIndexModel", name := "advance", desc := "(I)I" } : Jvm.MethodName)) ∈ lw_all := lw_g (lw_at lw_m7 112 rfl) rfl
theorem q1568 : (Jvm.Cond.code ({ cls := "AlertIndexModel", name := "advance", desc := "(I)I" } : Jvm.MethodName) prog_8_method_19_code (5 : Nat) (Option.some Jvm.ClassFile.FieldType.int)) ∈ lw_all := lw_g (lw_at lw_m7 113 rfl) rfl
theorem q1569 : (Jvm.Cond.constant "AlertIndexModel" (88 : Nat) (1000000 : Int32)) ∈ lw_all := lw_g (lw_at lw_m7 114 rfl) rfl
theorem q1571 : (Jvm.Cond.instanceMethod ({ cls := "AlertIndexModel", name := "satisfies", desc := "(I)Z" } : Jvm.MethodName)) ∈ lw_all := lw_g (lw_at lw_m7 116 rfl) rfl
theorem q1572 : (Jvm.Cond.selects "AlertIndexModel" ({ cls := "AlertIndexModel", name := "satisfies", desc := "(I)Z" } : Jvm.MethodName) ({ cls := "AlertIndexModel", name := "satisfies", desc := "(I)Z" } : Jvm.MethodName)) ∈ lw_all := lw_g (lw_at lw_m7 117 rfl) rfl
theorem q1573 : (Jvm.Cond.code ({ cls := "AlertIndexModel", name := "satisfies", desc := "(I)Z" } : Jvm.MethodName) prog_8_method_20_code (2 : Nat) (Option.some Jvm.ClassFile.FieldType.boolean)) ∈ lw_all := lw_g (lw_at lw_m7 118 rfl) rfl
theorem q1575 : (Jvm.Cond.instanceMethod ({ cls := "AlertIndexModel", name := "matching", desc := "()I" } : Jvm.MethodName)) ∈ lw_all := lw_g (lw_at lw_m7 120 rfl) rfl
theorem q1576 : (Jvm.Cond.selects "AlertIndexModel" ({ cls := "AlertIndexModel", name := "matching", desc := "()I" } : Jvm.MethodName) ({ cls := "AlertIndexModel", name := "matching", desc := "()I" } : Jvm.MethodName)) ∈ lw_all := lw_g (lw_at lw_m7 121 rfl) rfl
theorem q1577 : (Jvm.Cond.code ({ cls := "AlertIndexModel", name := "matching", desc := "()I" } : Jvm.MethodName) prog_8_method_22_code (1 : Nat) (Option.some Jvm.ClassFile.FieldType.int)) ∈ lw_all := lw_g (lw_at lw_m7 122 rfl) rfl
theorem q1578 : (Jvm.Cond.methodLink "AlertIndexModel" (89 : Nat) ({ cls := "AlertIndexModel", name := "found", desc := "()I" } : Jvm.MethodName)) ∈ lw_all := lw_g (lw_at lw_m7 123 rfl) rfl
theorem q1579 : (Jvm.Cond.privateMethod ({ cls := "AlertIndexModel", name := "found", desc := "()I" } : Jvm.MethodName)) ∈ lw_tbl := lw_at lw_m7 124 rfl
theorem q1580 : (Jvm.Cond.instanceMethod ({ cls := "AlertIndexModel", name := "found", desc := "()I" } : Jvm.MethodName)) ∈ lw_all := lw_g (lw_at lw_m7 125 rfl) rfl
theorem q1581 : (Jvm.Cond.code ({ cls := "AlertIndexModel", name := "found", desc := "()I" } : Jvm.MethodName) prog_8_method_21_code (3 : Nat) (Option.some Jvm.ClassFile.FieldType.int)) ∈ lw_all := lw_g (lw_at lw_m7 126 rfl) rfl
theorem q1583 : (Jvm.Cond.instanceMethod ({ cls := "AlertIndexModel", name := "matchingByIndex", desc := "()I" } : Jvm.MethodName)) ∈ lw_all := lw_g (lw_at lw_m7 128 rfl) rfl
theorem q1584 : (Jvm.Cond.selects "AlertIndexModel" ({ cls := "AlertIndexModel", name := "matchingByIndex", desc := "()I" } : Jvm.MethodName) ({ cls := "AlertIndexModel", name := "matchingByIndex", desc := "()I" } : Jvm.MethodName)) ∈ lw_all := lw_g (lw_at lw_m7 129 rfl) rfl
theorem q1585 : (Jvm.Cond.code ({ cls := "AlertIndexModel", name := "matchingByIndex", desc := "()I" } : Jvm.MethodName) prog_8_method_23_code (1 : Nat) (Option.some Jvm.ClassFile.FieldType.int)) ∈ lw_all := lw_g (lw_at lw_m7 130 rfl) rfl
theorem q1587 : (Jvm.Cond.instanceMethod ({ cls := "AlertIndexModel", name := "sizeOf", desc := "(I)I" } : Jvm.MethodName)) ∈ lw_all := lw_g (lw_at lw_m7 132 rfl) rfl
theorem q1588 : (Jvm.Cond.selects "AlertIndexModel" ({ cls := "AlertIndexModel", name := "sizeOf", desc := "(I)I" } : Jvm.MethodName) ({ cls := "AlertIndexModel", name := "sizeOf", desc := "(I)I" } : Jvm.MethodName)) ∈ lw_all := lw_g (lw_at lw_m7 133 rfl) rfl
theorem q1589 : (Jvm.Cond.code ({ cls := "AlertIndexModel", name := "sizeOf", desc := "(I)I" } : Jvm.MethodName) prog_8_method_25_code (2 : Nat) (Option.some Jvm.ClassFile.FieldType.int)) ∈ lw_all := lw_g (lw_at lw_m7 134 rfl) rfl
theorem q1590 : (Jvm.Cond.methodLink "AlertIndexModel" (93 : Nat) ({ cls := "AlertIndexModel", name := "size", desc := "(I)I" } : Jvm.MethodName)) ∈ lw_all := lw_g (lw_at lw_m7 135 rfl) rfl
theorem q1591 : (Jvm.Cond.privateMethod ({ cls := "AlertIndexModel", name := "size", desc := "(I)I" } : Jvm.MethodName)) ∈ lw_tbl := lw_at lw_m7 136 rfl
theorem q1592 : (Jvm.Cond.instanceMethod ({ cls := "AlertIndexModel", name := "size", desc := "(I)I" } : Jvm.MethodName)) ∈ lw_all := lw_g (lw_at lw_m7 137 rfl) rfl
theorem q1593 : (Jvm.Cond.code ({ cls := "AlertIndexModel", name := "size", desc := "(I)I" } : Jvm.MethodName) prog_8_method_24_code (6 : Nat) (Option.some Jvm.ClassFile.FieldType.int)) ∈ lw_all := lw_g (lw_at lw_m7 138 rfl) rfl
theorem q1595 : (Jvm.Cond.instanceMethod ({ cls := "AlertIndexModel", name := "withSize", desc := "(I)I" } : Jvm.MethodName)) ∈ lw_all := lw_g (lw_at lw_m7 140 rfl) rfl
theorem q1596 : (Jvm.Cond.selects "AlertIndexModel" ({ cls := "AlertIndexModel", name := "withSize", desc := "(I)I" } : Jvm.MethodName) ({ cls := "AlertIndexModel", name := "withSize", desc := "(I)I" } : Jvm.MethodName)) ∈ lw_all := lw_g (lw_at lw_m7 141 rfl) rfl
theorem q1597 : (Jvm.Cond.code ({ cls := "AlertIndexModel", name := "withSize", desc := "(I)I" } : Jvm.MethodName) prog_8_method_26_code (4 : Nat) (Option.some Jvm.ClassFile.FieldType.int)) ∈ lw_all := lw_g (lw_at lw_m7 142 rfl) rfl
theorem q1599 : (Jvm.Cond.instanceMethod ({ cls := "AlertIndexModel", name := "pieces", desc := "(II)I" } : Jvm.MethodName)) ∈ lw_all := lw_g (lw_at lw_m7 144 rfl) rfl
theorem q1600 : (Jvm.Cond.selects "AlertIndexModel" ({ cls := "AlertIndexModel", name := "pieces", desc := "(II)I" } : Jvm.MethodName) ({ cls := "AlertIndexModel", name := "pieces", desc := "(II)I" } : Jvm.MethodName)) ∈ lw_all := lw_g (lw_at lw_m7 145 rfl) rfl
theorem q1601 : (Jvm.Cond.code ({ cls := "AlertIndexModel", name := "pieces", desc := "(II)I" } : Jvm.MethodName) prog_8_method_28_code (5 : Nat) (Option.some Jvm.ClassFile.FieldType.int)) ∈ lw_all := lw_g (lw_at lw_m7 146 rfl) rfl
theorem q1602 : (Jvm.Cond.methodLink "AlertIndexModel" (97 : Nat) ({ cls := "AlertIndexModel", name := "piece", desc := "(II)I" } : Jvm.MethodName)) ∈ lw_all := lw_g (lw_at lw_m7 147 rfl) rfl
theorem q1603 : (Jvm.Cond.static ({ cls := "AlertIndexModel", name := "piece", desc := "(II)I" } : Jvm.MethodName)) ∈ lw_all := lw_g (lw_at lw_m7 148 rfl) rfl
theorem q1604 : (Jvm.Cond.code ({ cls := "AlertIndexModel", name := "piece", desc := "(II)I" } : Jvm.MethodName) prog_8_method_27_code (4 : Nat) (Option.some Jvm.ClassFile.FieldType.int)) ∈ lw_all := lw_g (lw_at lw_m7 149 rfl) rfl
theorem q1606 : (Jvm.Cond.instanceMethod ({ cls := "AlertIndexModel", name := "pieceAt", desc := "(III)I" } : Jvm.MethodName)) ∈ lw_all := lw_g (lw_at lw_m7 151 rfl) rfl
theorem q1607 : (Jvm.Cond.selects "AlertIndexModel" ({ cls := "AlertIndexModel", name := "pieceAt", desc := "(III)I" } : Jvm.MethodName) ({ cls := "AlertIndexModel", name := "pieceAt", desc := "(III)I" } : Jvm.MethodName)) ∈ lw_all := lw_g (lw_at lw_m7 152 rfl) rfl
theorem q1608 : (Jvm.Cond.code ({ cls := "AlertIndexModel", name := "pieceAt", desc := "(III)I" } : Jvm.MethodName) prog_8_method_29_code (6 : Nat) (Option.some Jvm.ClassFile.FieldType.int)) ∈ lw_all := lw_g (lw_at lw_m7 153 rfl) rfl
theorem q1610 : (Jvm.Cond.instanceMethod ({ cls := "AlertIndexModel", name := "minute", desc := "()I" } : Jvm.MethodName)) ∈ lw_all := lw_g (lw_at lw_m7 155 rfl) rfl
theorem q1611 : (Jvm.Cond.selects "AlertIndexModel" ({ cls := "AlertIndexModel", name := "minute", desc := "()I" } : Jvm.MethodName) ({ cls := "AlertIndexModel", name := "minute", desc := "()I" } : Jvm.MethodName)) ∈ lw_all := lw_g (lw_at lw_m7 156 rfl) rfl
theorem q1612 : (Jvm.Cond.code ({ cls := "AlertIndexModel", name := "minute", desc := "()I" } : Jvm.MethodName) prog_8_method_30_code (1 : Nat) (Option.some Jvm.ClassFile.FieldType.int)) ∈ lw_all := lw_g (lw_at lw_m7 157 rfl) rfl
theorem q1614 : (Jvm.Cond.instanceMethod ({ cls := "AlertIndexModel", name := "isQuiet", desc := "(I)Z" } : Jvm.MethodName)) ∈ lw_all := lw_g (lw_at lw_m7 159 rfl) rfl
theorem q1615 : (Jvm.Cond.selects "AlertIndexModel" ({ cls := "AlertIndexModel", name := "isQuiet", desc := "(I)Z" } : Jvm.MethodName) ({ cls := "AlertIndexModel", name := "isQuiet", desc := "(I)Z" } : Jvm.MethodName)) ∈ lw_all := lw_g (lw_at lw_m7 160 rfl) rfl
theorem q1616 : (Jvm.Cond.code ({ cls := "AlertIndexModel", name := "isQuiet", desc := "(I)Z" } : Jvm.MethodName) prog_8_method_31_code (2 : Nat) (Option.some Jvm.ClassFile.FieldType.boolean)) ∈ lw_all := lw_g (lw_at lw_m7 161 rfl) rfl
theorem q1618 : (Jvm.Cond.instanceMethod ({ cls := "AlertIndexModel", name := "alerts", desc := "(I)I" } : Jvm.MethodName)) ∈ lw_all := lw_g (lw_at lw_m7 163 rfl) rfl
theorem q1619 : (Jvm.Cond.selects "AlertIndexModel" ({ cls := "AlertIndexModel", name := "alerts", desc := "(I)I" } : Jvm.MethodName) ({ cls := "AlertIndexModel", name := "alerts", desc := "(I)I" } : Jvm.MethodName)) ∈ lw_all := lw_g (lw_at lw_m7 164 rfl) rfl
theorem q1620 : (Jvm.Cond.code ({ cls := "AlertIndexModel", name := "alerts", desc := "(I)I" } : Jvm.MethodName) prog_8_method_32_code (2 : Nat) (Option.some Jvm.ClassFile.FieldType.int)) ∈ lw_all := lw_g (lw_at lw_m7 165 rfl) rfl
theorem q1622 : (Jvm.Cond.instanceMethod ({ cls := "AlertIndexModel", name := "batch", desc := "(I)I" } : Jvm.MethodName)) ∈ lw_all := lw_g (lw_at lw_m7 167 rfl) rfl
theorem q1623 : (Jvm.Cond.selects "AlertIndexModel" ({ cls := "AlertIndexModel", name := "batch", desc := "(I)I" } : Jvm.MethodName) ({ cls := "AlertIndexModel", name := "batch", desc := "(I)I" } : Jvm.MethodName)) ∈ lw_all := lw_g (lw_at lw_m7 168 rfl) rfl
theorem q1624 : (Jvm.Cond.code ({ cls := "AlertIndexModel", name := "batch", desc := "(I)I" } : Jvm.MethodName) prog_8_method_33_code (2 : Nat) (Option.some Jvm.ClassFile.FieldType.int)) ∈ lw_all := lw_g (lw_at lw_m7 169 rfl) rfl
theorem q1643 : (Jvm.Cond.castable "AlertIndexModel" "java/lang/Object") ∈ lw_tbl := lw_at lw_m7 188 rfl
theorem in_X2 : ∀ w ∈ wsX20, w ∈ lw_all := lw_in wsX20 [1468, 1470, 1472, 1474, 1476, 1478, 1480, 1482, 1484, 1486, 1488, 1490, 1492, 1494, 1496] (by decide +kernel) (by decide +kernel)
/-! AlertIndex$Question -/
set_option maxRecDepth 100000
def RX3 : String := "AlertIndex$Question"
def TX3 : u_T := fun k => match k with
  | 0 => ("AlertIndex$Question", "products", "Ljava/util/List;", true)
  | 1 => ("AlertIndex$Question", "isDropped", "Z", false)
  | 2 => ("AlertIndex$Question", "quiet", "I", false)
  | 3 => ("AlertIndex$Question", "until", "I", false)
  | 4 => ("AlertIndex$Question", "alerts", "I", false)
  | _ => ("AlertIndex$Question", "batch", "I", false)
def tyX3 : Nat → FieldType := fun k => match k with
  | 0 => .object "java/util/List"
  | 1 => .boolean
  | 2 => .int
  | 3 => .int
  | 4 => .int
  | _ => .int
abbrev wsX30 : List Cond := u_ws RX3 TX3 6
theorem nmX3 : ∀ a, a < 6 → ∀ b, b < 6 → a ≠ b → (TX3 a).2.1 ≠ (TX3 b).2.1 := by decide +kernel
theorem tyX3_ok : ∀ k, k < 6 → parseFieldDescriptor (TX3 k).2.2.1 = some (tyX3 k) := by decide +kernel
abbrev cX3_isSatisfied : ByteArray := prog_4_method_2_code
def yX3_isSatisfied : MethodName := ⟨RX3, "isSatisfied", "([I)Z"⟩
def dkwX3_isSatisfied_1 : List UInt8 := [185, 0, 24, 2, 0, 192, 0, 28, 43, 182, 0, 30, 128, 61, 132, 3, 1, 167, 255, 220, 28, 172]
abbrev dktX3_isSatisfied_1 : List UInt8 := dkwX3_isSatisfied_1 ++ []
def dkwX3_isSatisfied_0 : List UInt8 := [3, 61, 3, 62, 29, 42, 180, 0, 12, 185, 0, 18, 1, 0, 162, 0, 29, 28, 42, 180, 0, 12, 29]
abbrev dktX3_isSatisfied_0 : List UInt8 := dkwX3_isSatisfied_0 ++ dktX3_isSatisfied_1
theorem dksX3_isSatisfied_0 : cX3_isSatisfied.data.toList.drop 0 = dktX3_isSatisfied_0 := by decide +kernel
theorem dksX3_isSatisfied_1 : cX3_isSatisfied.data.toList.drop 23 = dktX3_isSatisfied_1 := dk_seg dksX3_isSatisfied_0 23 rfl rfl
theorem dX3_isSatisfied_0 : decode cX3_isSatisfied 0 = .ok (.iconst 0, 1) := dk_3 (dk_at dksX3_isSatisfied_0 0 rfl rfl)
theorem dX3_isSatisfied_1 : decode cX3_isSatisfied 1 = .ok (.istore_n 2, 1) := dk_61 (dk_at dksX3_isSatisfied_0 1 rfl rfl)
theorem dX3_isSatisfied_2 : decode cX3_isSatisfied 2 = .ok (.iconst 0, 1) := dk_3 (dk_at dksX3_isSatisfied_0 2 rfl rfl)
theorem dX3_isSatisfied_3 : decode cX3_isSatisfied 3 = .ok (.istore_n 3, 1) := dk_62 (dk_at dksX3_isSatisfied_0 3 rfl rfl)
theorem dX3_isSatisfied_4 : decode cX3_isSatisfied 4 = .ok (.iload_n 3, 1) := dk_29 (dk_at dksX3_isSatisfied_0 4 rfl rfl)
theorem dX3_isSatisfied_5 : decode cX3_isSatisfied 5 = .ok (.aload_n 0, 1) := dk_42 (dk_at dksX3_isSatisfied_0 5 rfl rfl)
theorem dX3_isSatisfied_6 : decode cX3_isSatisfied 6 = .ok (.getfield 12, 3) := dk_180 0 12 (dk_at dksX3_isSatisfied_0 6 rfl rfl)
theorem dX3_isSatisfied_9 : decode cX3_isSatisfied 9 = .ok (.invokeinterface 18 1, 5) := by decide +kernel
theorem dX3_isSatisfied_14 : decode cX3_isSatisfied 14 = .ok (.if_icmp .ge 29, 3) := dk_162 0 29 (dk_at dksX3_isSatisfied_0 14 rfl rfl)
theorem dX3_isSatisfied_17 : decode cX3_isSatisfied 17 = .ok (.iload_n 2, 1) := dk_28 (dk_at dksX3_isSatisfied_0 17 rfl rfl)
theorem dX3_isSatisfied_18 : decode cX3_isSatisfied 18 = .ok (.aload_n 0, 1) := dk_42 (dk_at dksX3_isSatisfied_0 18 rfl rfl)
theorem dX3_isSatisfied_19 : decode cX3_isSatisfied 19 = .ok (.getfield 12, 3) := dk_180 0 12 (dk_at dksX3_isSatisfied_0 19 rfl rfl)
theorem dX3_isSatisfied_22 : decode cX3_isSatisfied 22 = .ok (.iload_n 3, 1) := dk_29 (dk_at dksX3_isSatisfied_0 22 rfl rfl)
theorem dX3_isSatisfied_23 : decode cX3_isSatisfied 23 = .ok (.invokeinterface 24 2, 5) := by decide +kernel
theorem dX3_isSatisfied_28 : decode cX3_isSatisfied 28 = .ok (.checkcast 28, 3) := dk_192 0 28 (dk_at dksX3_isSatisfied_1 5 rfl rfl)
theorem dX3_isSatisfied_31 : decode cX3_isSatisfied 31 = .ok (.aload_n 1, 1) := dk_43 (dk_at dksX3_isSatisfied_1 8 rfl rfl)
theorem dX3_isSatisfied_32 : decode cX3_isSatisfied 32 = .ok (.invokevirtual 30, 3) := dk_182 0 30 (dk_at dksX3_isSatisfied_1 9 rfl rfl)
theorem dX3_isSatisfied_35 : decode cX3_isSatisfied 35 = .ok (.ior, 1) := dk_128 (dk_at dksX3_isSatisfied_1 12 rfl rfl)
theorem dX3_isSatisfied_36 : decode cX3_isSatisfied 36 = .ok (.istore_n 2, 1) := dk_61 (dk_at dksX3_isSatisfied_1 13 rfl rfl)
theorem dX3_isSatisfied_37 : decode cX3_isSatisfied 37 = .ok (.iinc 3 1, 3) := dk_132 3 1 (dk_at dksX3_isSatisfied_1 14 rfl rfl)
theorem dX3_isSatisfied_40 : decode cX3_isSatisfied 40 = .ok (.goto (-36), 3) := dk_167 255 220 (dk_at dksX3_isSatisfied_1 17 rfl rfl)
theorem dX3_isSatisfied_43 : decode cX3_isSatisfied 43 = .ok (.iload_n 2, 1) := dk_28 (dk_at dksX3_isSatisfied_1 20 rfl rfl)
theorem dX3_isSatisfied_44 : decode cX3_isSatisfied 44 = .ok (.ireturn, 1) := dk_172 (dk_at dksX3_isSatisfied_1 21 rfl rfl)
abbrev cX3_raise : ByteArray := prog_4_method_4_code
def yX3_raise : MethodName := ⟨RX3, "raise", "(I)V"⟩
def dkwX3_raise_1 : List UInt8 := [181, 0, 55, 177]
abbrev dktX3_raise_1 : List UInt8 := dkwX3_raise_1 ++ []
def dkwX3_raise_0 : List UInt8 := [42, 89, 180, 0, 45, 4, 96, 181, 0, 45, 42, 3, 181, 0, 49, 42, 27, 42, 180, 0, 52, 96]
abbrev dktX3_raise_0 : List UInt8 := dkwX3_raise_0 ++ dktX3_raise_1
theorem dksX3_raise_0 : cX3_raise.data.toList.drop 0 = dktX3_raise_0 := by decide +kernel
theorem dksX3_raise_1 : cX3_raise.data.toList.drop 22 = dktX3_raise_1 := dk_seg dksX3_raise_0 22 rfl rfl
theorem dX3_raise_0 : decode cX3_raise 0 = .ok (.aload_n 0, 1) := dk_42 (dk_at dksX3_raise_0 0 rfl rfl)
theorem dX3_raise_1 : decode cX3_raise 1 = .ok (.dup, 1) := dk_89 (dk_at dksX3_raise_0 1 rfl rfl)
theorem dX3_raise_2 : decode cX3_raise 2 = .ok (.getfield 45, 3) := dk_180 0 45 (dk_at dksX3_raise_0 2 rfl rfl)
theorem dX3_raise_5 : decode cX3_raise 5 = .ok (.iconst 1, 1) := dk_4 (dk_at dksX3_raise_0 5 rfl rfl)
theorem dX3_raise_6 : decode cX3_raise 6 = .ok (.iadd, 1) := dk_96 (dk_at dksX3_raise_0 6 rfl rfl)
theorem dX3_raise_7 : decode cX3_raise 7 = .ok (.putfield 45, 3) := dk_181 0 45 (dk_at dksX3_raise_0 7 rfl rfl)
theorem dX3_raise_10 : decode cX3_raise 10 = .ok (.aload_n 0, 1) := dk_42 (dk_at dksX3_raise_0 10 rfl rfl)
theorem dX3_raise_11 : decode cX3_raise 11 = .ok (.iconst 0, 1) := dk_3 (dk_at dksX3_raise_0 11 rfl rfl)
theorem dX3_raise_12 : decode cX3_raise 12 = .ok (.putfield 49, 3) := dk_181 0 49 (dk_at dksX3_raise_0 12 rfl rfl)
theorem dX3_raise_15 : decode cX3_raise 15 = .ok (.aload_n 0, 1) := dk_42 (dk_at dksX3_raise_0 15 rfl rfl)
theorem dX3_raise_16 : decode cX3_raise 16 = .ok (.iload_n 1, 1) := dk_27 (dk_at dksX3_raise_0 16 rfl rfl)
theorem dX3_raise_17 : decode cX3_raise 17 = .ok (.aload_n 0, 1) := dk_42 (dk_at dksX3_raise_0 17 rfl rfl)
theorem dX3_raise_18 : decode cX3_raise 18 = .ok (.getfield 52, 3) := dk_180 0 52 (dk_at dksX3_raise_0 18 rfl rfl)
theorem dX3_raise_21 : decode cX3_raise 21 = .ok (.iadd, 1) := dk_96 (dk_at dksX3_raise_0 21 rfl rfl)
theorem dX3_raise_22 : decode cX3_raise 22 = .ok (.putfield 55, 3) := dk_181 0 55 (dk_at dksX3_raise_1 0 rfl rfl)
theorem dX3_raise_25 : decode cX3_raise 25 = .ok (.return_, 1) := dk_177 (dk_at dksX3_raise_1 3 rfl rfl)
abbrev cX3_size : ByteArray := prog_4_method_3_code
def yX3_size : MethodName := ⟨RX3, "size", "()I"⟩
def dkwX3_size_2 : List UInt8 := [192, 0, 28, 182, 0, 38, 184, 0, 39, 60, 132, 2, 1, 167, 255, 219, 27, 172]
abbrev dktX3_size_2 : List UInt8 := dkwX3_size_2 ++ []
def dkwX3_size_1 : List UInt8 := [180, 0, 12, 185, 0, 18, 1, 0, 162, 0, 30, 27, 42, 180, 0, 12, 28, 185, 0, 24, 2, 0]
abbrev dktX3_size_1 : List UInt8 := dkwX3_size_1 ++ dktX3_size_2
def dkwX3_size_0 : List UInt8 := [42, 180, 0, 12, 185, 0, 34, 1, 0, 153, 0, 7, 3, 167, 0, 4, 7, 60, 3, 61, 28, 42]
abbrev dktX3_size_0 : List UInt8 := dkwX3_size_0 ++ dktX3_size_1
theorem dksX3_size_0 : cX3_size.data.toList.drop 0 = dktX3_size_0 := by decide +kernel
theorem dksX3_size_1 : cX3_size.data.toList.drop 22 = dktX3_size_1 := dk_seg dksX3_size_0 22 rfl rfl
theorem dksX3_size_2 : cX3_size.data.toList.drop 44 = dktX3_size_2 := dk_seg dksX3_size_1 22 rfl rfl
theorem dX3_size_0 : decode cX3_size 0 = .ok (.aload_n 0, 1) := dk_42 (dk_at dksX3_size_0 0 rfl rfl)
theorem dX3_size_1 : decode cX3_size 1 = .ok (.getfield 12, 3) := dk_180 0 12 (dk_at dksX3_size_0 1 rfl rfl)
theorem dX3_size_4 : decode cX3_size 4 = .ok (.invokeinterface 34 1, 5) := by decide +kernel
theorem dX3_size_9 : decode cX3_size 9 = .ok (.ifCond .eq 7, 3) := dk_153 0 7 (dk_at dksX3_size_0 9 rfl rfl)
theorem dX3_size_12 : decode cX3_size 12 = .ok (.iconst 0, 1) := dk_3 (dk_at dksX3_size_0 12 rfl rfl)
theorem dX3_size_13 : decode cX3_size 13 = .ok (.goto 4, 3) := dk_167 0 4 (dk_at dksX3_size_0 13 rfl rfl)
theorem dX3_size_16 : decode cX3_size 16 = .ok (.iconst 4, 1) := dk_7 (dk_at dksX3_size_0 16 rfl rfl)
theorem dX3_size_17 : decode cX3_size 17 = .ok (.istore_n 1, 1) := dk_60 (dk_at dksX3_size_0 17 rfl rfl)
theorem dX3_size_18 : decode cX3_size 18 = .ok (.iconst 0, 1) := dk_3 (dk_at dksX3_size_0 18 rfl rfl)
theorem dX3_size_19 : decode cX3_size 19 = .ok (.istore_n 2, 1) := dk_61 (dk_at dksX3_size_0 19 rfl rfl)
theorem dX3_size_20 : decode cX3_size 20 = .ok (.iload_n 2, 1) := dk_28 (dk_at dksX3_size_0 20 rfl rfl)
theorem dX3_size_21 : decode cX3_size 21 = .ok (.aload_n 0, 1) := dk_42 (dk_at dksX3_size_0 21 rfl rfl)
theorem dX3_size_22 : decode cX3_size 22 = .ok (.getfield 12, 3) := dk_180 0 12 (dk_at dksX3_size_1 0 rfl rfl)
theorem dX3_size_25 : decode cX3_size 25 = .ok (.invokeinterface 18 1, 5) := by decide +kernel
theorem dX3_size_30 : decode cX3_size 30 = .ok (.if_icmp .ge 30, 3) := dk_162 0 30 (dk_at dksX3_size_1 8 rfl rfl)
theorem dX3_size_33 : decode cX3_size 33 = .ok (.iload_n 1, 1) := dk_27 (dk_at dksX3_size_1 11 rfl rfl)
theorem dX3_size_34 : decode cX3_size 34 = .ok (.aload_n 0, 1) := dk_42 (dk_at dksX3_size_1 12 rfl rfl)
theorem dX3_size_35 : decode cX3_size 35 = .ok (.getfield 12, 3) := dk_180 0 12 (dk_at dksX3_size_1 13 rfl rfl)
theorem dX3_size_38 : decode cX3_size 38 = .ok (.iload_n 2, 1) := dk_28 (dk_at dksX3_size_1 16 rfl rfl)
theorem dX3_size_39 : decode cX3_size 39 = .ok (.invokeinterface 24 2, 5) := by decide +kernel
theorem dX3_size_44 : decode cX3_size 44 = .ok (.checkcast 28, 3) := dk_192 0 28 (dk_at dksX3_size_2 0 rfl rfl)
theorem dX3_size_47 : decode cX3_size 47 = .ok (.invokevirtual 38, 3) := dk_182 0 38 (dk_at dksX3_size_2 3 rfl rfl)
theorem dX3_size_50 : decode cX3_size 50 = .ok (.invokestatic 39, 3) := dk_184 0 39 (dk_at dksX3_size_2 6 rfl rfl)
theorem dX3_size_53 : decode cX3_size 53 = .ok (.istore_n 1, 1) := dk_60 (dk_at dksX3_size_2 9 rfl rfl)
theorem dX3_size_54 : decode cX3_size 54 = .ok (.iinc 2 1, 3) := dk_132 2 1 (dk_at dksX3_size_2 10 rfl rfl)
theorem dX3_size_57 : decode cX3_size 57 = .ok (.goto (-37), 3) := dk_167 255 219 (dk_at dksX3_size_2 13 rfl rfl)
theorem dX3_size_60 : decode cX3_size 60 = .ok (.iload_n 1, 1) := dk_27 (dk_at dksX3_size_2 16 rfl rfl)
theorem dX3_size_61 : decode cX3_size 61 = .ok (.ireturn, 1) := dk_172 (dk_at dksX3_size_2 17 rfl rfl)
abbrev cX3_init : ByteArray := prog_4_method_1_code
def yX3_init : MethodName := ⟨RX3, "<init>", "()V"⟩
def dkwX3_init_0 : List UInt8 := [42, 183, 0, 3, 42, 187, 0, 9, 89, 183, 0, 11, 181, 0, 12, 177]
abbrev dktX3_init_0 : List UInt8 := dkwX3_init_0 ++ []
theorem dksX3_init_0 : cX3_init.data.toList.drop 0 = dktX3_init_0 := by decide +kernel
theorem dX3_init_0 : decode cX3_init 0 = .ok (.aload_n 0, 1) := dk_42 (dk_at dksX3_init_0 0 rfl rfl)
theorem dX3_init_1 : decode cX3_init 1 = .ok (.invokespecial 3, 3) := dk_183 0 3 (dk_at dksX3_init_0 1 rfl rfl)
theorem dX3_init_4 : decode cX3_init 4 = .ok (.aload_n 0, 1) := dk_42 (dk_at dksX3_init_0 4 rfl rfl)
theorem dX3_init_5 : decode cX3_init 5 = .ok (.new 9, 3) := dk_187 0 9 (dk_at dksX3_init_0 5 rfl rfl)
theorem dX3_init_8 : decode cX3_init 8 = .ok (.dup, 1) := dk_89 (dk_at dksX3_init_0 8 rfl rfl)
theorem dX3_init_9 : decode cX3_init 9 = .ok (.invokespecial 11, 3) := dk_183 0 11 (dk_at dksX3_init_0 9 rfl rfl)
theorem dX3_init_12 : decode cX3_init 12 = .ok (.putfield 12, 3) := dk_181 0 12 (dk_at dksX3_init_0 12 rfl rfl)
theorem dX3_init_15 : decode cX3_init 15 = .ok (.return_, 1) := dk_177 (dk_at dksX3_init_0 15 rfl rfl)
theorem q27 : (Jvm.Cond.initialized "AlertIndex$Question") ∈ lw_all := lw_g (lw_at lw_m1 12 rfl) rfl
theorem q173 : (Jvm.Cond.instanceMethod ({ cls := "AlertIndex$Question", name := "isSatisfied", desc := "([I)Z" } : Jvm.MethodName)) ∈ lw_all := lw_g (lw_at lw_m1 158 rfl) rfl
theorem q174 : (Jvm.Cond.selects "AlertIndex$Question" ({ cls := "AlertIndex$Question", name := "isSatisfied", desc := "([I)Z" } : Jvm.MethodName) ({ cls := "AlertIndex$Question", name := "isSatisfied", desc := "([I)Z" } : Jvm.MethodName)) ∈ lw_all := lw_g (lw_at lw_m1 159 rfl) rfl
theorem q175 : (Jvm.Cond.code ({ cls := "AlertIndex$Question", name := "isSatisfied", desc := "([I)Z" } : Jvm.MethodName) prog_4_method_2_code (4 : Nat) (Option.some Jvm.ClassFile.FieldType.boolean)) ∈ lw_all := lw_g (lw_at lw_m1 160 rfl) rfl
theorem q176 : (Jvm.Cond.interfaceEntry "AlertIndex$Question" (18 : Nat)) ∈ lw_tbl := lw_at lw_m1 161 rfl
theorem q177 : (Jvm.Cond.methodLink "AlertIndex$Question" (18 : Nat) ({ cls := "java/util/List", name := "size", desc := "()I" } : Jvm.MethodName)) ∈ lw_all := lw_g (lw_at lw_m1 162 rfl) rfl
theorem q178 : (Jvm.Cond.interfaceEntry "AlertIndex$Question" (24 : Nat)) ∈ lw_tbl := lw_at lw_m1 163 rfl
theorem q179 : (Jvm.Cond.methodLink "AlertIndex$Question" (24 : Nat) ({ cls := "java/util/List", name := "get", desc := "(I)Ljava/lang/Object;" } : Jvm.MethodName)) ∈ lw_all := lw_g (lw_at lw_m1 164 rfl) rfl
theorem q180 : (Jvm.Cond.classLink "AlertIndex$Question" (28 : Nat) "AlertIndex$Product") ∈ lw_all := lw_g (lw_at lw_m1 165 rfl) rfl
theorem q181 : (Jvm.Cond.methodLink "AlertIndex$Question" (30 : Nat) ({ cls := "AlertIndex$Product", name := "isTrue", desc := "([I)Z" } : Jvm.MethodName)) ∈ lw_all := lw_g (lw_at lw_m1 166 rfl) rfl
theorem q240 : (Jvm.Cond.instanceMethod ({ cls := "AlertIndex$Question", name := "raise", desc := "(I)V" } : Jvm.MethodName)) ∈ lw_all := lw_g (lw_at lw_m1 225 rfl) rfl
theorem q241 : (Jvm.Cond.selects "AlertIndex$Question" ({ cls := "AlertIndex$Question", name := "raise", desc := "(I)V" } : Jvm.MethodName) ({ cls := "AlertIndex$Question", name := "raise", desc := "(I)V" } : Jvm.MethodName)) ∈ lw_all := lw_g (lw_at lw_m1 226 rfl) rfl
theorem q242 : (Jvm.Cond.code ({ cls := "AlertIndex$Question", name := "raise", desc := "(I)V" } : Jvm.MethodName) prog_4_method_4_code (2 : Nat) (Option.none : Option Jvm.ClassFile.FieldType)) ∈ lw_all := lw_g (lw_at lw_m1 227 rfl) rfl
theorem q666 : (Jvm.Cond.selects "AlertIndex$Question" ({ cls := "java/lang/Object", name := "hashCode", desc := "()I" } : Jvm.MethodName) ({ cls := "java/lang/Object", name := "hashCode", desc := "()I" } : Jvm.MethodName)) ∈ lw_all := lw_g (lw_at lw_m3 171 rfl) rfl
theorem q698 : (Jvm.Cond.selects "AlertIndex$Question" ({ cls := "java/lang/Object", name := "equals", desc := "(Ljava/lang/Object;)Z" } : Jvm.MethodName) ({ cls := "java/lang/Object", name := "equals", desc := "(Ljava/lang/Object;)Z" } : Jvm.MethodName)) ∈ lw_all := lw_g (lw_at lw_m3 203 rfl) rfl
theorem q734 : (Jvm.Cond.selects "AlertIndex$Question" ({ cls := "java/lang/Object", name := "getClass", desc := "()Ljava/lang/Class;" } : Jvm.MethodName) ({ cls := "java/lang/Object", name := "getClass", desc := "()Ljava/lang/Class;" } : Jvm.MethodName)) ∈ lw_all := lw_g (lw_at lw_m3 239 rfl) rfl
theorem q963 : (Jvm.Cond.instanceMethod ({ cls := "AlertIndex$Question", name := "size", desc := "()I" } : Jvm.MethodName)) ∈ lw_all := lw_g (lw_at lw_m4 228 rfl) rfl
theorem q964 : (Jvm.Cond.selects "AlertIndex$Question" ({ cls := "AlertIndex$Question", name := "size", desc := "()I" } : Jvm.MethodName) ({ cls := "AlertIndex$Question", name := "size", desc := "()I" } : Jvm.MethodName)) ∈ lw_all := lw_g (lw_at lw_m4 229 rfl) rfl
theorem q965 : (Jvm.Cond.code ({ cls := "AlertIndex$Question", name := "size", desc := "()I" } : Jvm.MethodName) prog_4_method_3_code (3 : Nat) (Option.some Jvm.ClassFile.FieldType.int)) ∈ lw_all := lw_g (lw_at lw_m4 230 rfl) rfl
theorem q966 : (Jvm.Cond.interfaceEntry "AlertIndex$Question" (34 : Nat)) ∈ lw_tbl := lw_at lw_m4 231 rfl
theorem q967 : (Jvm.Cond.methodLink "AlertIndex$Question" (34 : Nat) ({ cls := "java/util/List", name := "isEmpty", desc := "()Z" } : Jvm.MethodName)) ∈ lw_all := lw_g (lw_at lw_m4 232 rfl) rfl
theorem q975 : (Jvm.Cond.methodLink "AlertIndex$Question" (38 : Nat) ({ cls := "AlertIndex$Product", name := "size", desc := "()I" } : Jvm.MethodName)) ∈ lw_all := lw_g (lw_at lw_m5 0 rfl) rfl
theorem q976 : (Jvm.Cond.methodLink "AlertIndex$Question" (39 : Nat) ({ cls := "java/lang/Math", name := "min", desc := "(II)I" } : Jvm.MethodName)) ∈ lw_all := lw_g (lw_at lw_m5 1 rfl) rfl
theorem q1013 : (Jvm.Cond.instantiable "AlertIndex$Question" (6 : Nat)) ∈ lw_all := lw_g (lw_at lw_m5 38 rfl) rfl
theorem q1015 : (Jvm.Cond.instanceMethod ({ cls := "AlertIndex$Question", name := "<init>", desc := "()V" } : Jvm.MethodName)) ∈ lw_all := lw_g (lw_at lw_m5 40 rfl) rfl
theorem q1016 : (Jvm.Cond.code ({ cls := "AlertIndex$Question", name := "<init>", desc := "()V" } : Jvm.MethodName) prog_4_method_1_code (1 : Nat) (Option.none : Option Jvm.ClassFile.FieldType)) ∈ lw_all := lw_g (lw_at lw_m5 41 rfl) rfl
theorem q1017 : (Jvm.Cond.methodLink "AlertIndex$Question" (3 : Nat) ({ cls := "java/lang/Object", name := "<init>", desc := "()V" } : Jvm.MethodName)) ∈ lw_all := lw_g (lw_at lw_m5 42 rfl) rfl
theorem q1018 : (Jvm.Cond.classLink "AlertIndex$Question" (9 : Nat) "java/util/ArrayList") ∈ lw_all := lw_g (lw_at lw_m5 43 rfl) rfl
theorem q1019 : (Jvm.Cond.methodLink "AlertIndex$Question" (11 : Nat) ({ cls := "java/util/ArrayList", name := "<init>", desc := "()V" } : Jvm.MethodName)) ∈ lw_all := lw_g (lw_at lw_m5 44 rfl) rfl
theorem q1020 : (Jvm.Cond.fieldLink "AlertIndex$Question" (12 : Nat) "AlertIndex$Question" "products" "Ljava/util/List;") ∈ lw_all := lw_g (lw_at lw_m5 45 rfl) rfl
theorem q1023 : (Jvm.Cond.fieldLink "AlertIndex$Question" (52 : Nat) "AlertIndex$Question" "quiet" "I") ∈ lw_all := lw_g (lw_at lw_m5 48 rfl) rfl
theorem q1025 : (Jvm.Cond.fieldLink "AlertIndex$Question" (55 : Nat) "AlertIndex$Question" "until" "I") ∈ lw_all := lw_g (lw_at lw_m5 50 rfl) rfl
theorem q1027 : (Jvm.Cond.fieldLink "AlertIndex$Question" (45 : Nat) "AlertIndex$Question" "alerts" "I") ∈ lw_all := lw_g (lw_at lw_m5 52 rfl) rfl
theorem q1029 : (Jvm.Cond.fieldLink "AlertIndex$Question" (49 : Nat) "AlertIndex$Question" "batch" "I") ∈ lw_all := lw_g (lw_at lw_m5 54 rfl) rfl
theorem q1031 : (Jvm.Cond.laysFinal "AlertIndex$Question" "AlertIndex$Question" "products" "Ljava/util/List;") ∈ lw_all := lw_g (lw_at lw_m5 56 rfl) rfl
theorem q1032 : (Jvm.Cond.soleField "AlertIndex$Question" "products") ∈ lw_all := lw_g (lw_at lw_m5 57 rfl) rfl
theorem q1033 : (Jvm.Cond.lays "AlertIndex$Question" "AlertIndex$Question" "isDropped" "Z") ∈ lw_all := lw_g (lw_at lw_m5 58 rfl) rfl
theorem q1034 : (Jvm.Cond.soleField "AlertIndex$Question" "isDropped") ∈ lw_all := lw_g (lw_at lw_m5 59 rfl) rfl
theorem q1035 : (Jvm.Cond.lays "AlertIndex$Question" "AlertIndex$Question" "quiet" "I") ∈ lw_all := lw_g (lw_at lw_m5 60 rfl) rfl
theorem q1036 : (Jvm.Cond.soleField "AlertIndex$Question" "quiet") ∈ lw_all := lw_g (lw_at lw_m5 61 rfl) rfl
theorem q1037 : (Jvm.Cond.lays "AlertIndex$Question" "AlertIndex$Question" "until" "I") ∈ lw_all := lw_g (lw_at lw_m5 62 rfl) rfl
theorem q1038 : (Jvm.Cond.soleField "AlertIndex$Question" "until") ∈ lw_all := lw_g (lw_at lw_m5 63 rfl) rfl
theorem q1039 : (Jvm.Cond.lays "AlertIndex$Question" "AlertIndex$Question" "alerts" "I") ∈ lw_all := lw_g (lw_at lw_m5 64 rfl) rfl
theorem q1040 : (Jvm.Cond.soleField "AlertIndex$Question" "alerts") ∈ lw_all := lw_g (lw_at lw_m5 65 rfl) rfl
theorem q1041 : (Jvm.Cond.lays "AlertIndex$Question" "AlertIndex$Question" "batch" "I") ∈ lw_all := lw_g (lw_at lw_m5 66 rfl) rfl
theorem q1042 : (Jvm.Cond.soleField "AlertIndex$Question" "batch") ∈ lw_all := lw_g (lw_at lw_m5 67 rfl) rfl
theorem q1043 : (Jvm.Cond.superclass "AlertIndex$Question" "java/lang/Object") ∈ lw_all := lw_g (lw_at lw_m5 68 rfl) rfl
theorem q1645 : (Jvm.Cond.castable "AlertIndex$Question" "java/lang/Object") ∈ lw_tbl := lw_at lw_m7 190 rfl
theorem in_X3 : ∀ w ∈ wsX30, w ∈ lw_all := lw_in wsX30 [1031, 1033, 1035, 1037, 1039, 1041] (by decide +kernel) (by decide +kernel)
/-! AlertIndex$Product -/
set_option maxRecDepth 100000
def RX4 : String := "AlertIndex$Product"
def TX4 : u_T := fun k => match k with
  | 0 => ("AlertIndex$Product", "tests", "Ljava/util/List;", true)
  | 1 => ("AlertIndex$Product", "question", "I", true)
  | _ => ("AlertIndex$Product", "found", "I", false)
def tyX4 : Nat → FieldType := fun k => match k with
  | 0 => .object "java/util/List"
  | 1 => .int
  | _ => .int
abbrev wsX40 : List Cond := u_ws RX4 TX4 3
theorem nmX4 : ∀ a, a < 3 → ∀ b, b < 3 → a ≠ b → (TX4 a).2.1 ≠ (TX4 b).2.1 := by decide +kernel
theorem tyX4_ok : ∀ k, k < 3 → parseFieldDescriptor (TX4 k).2.2.1 = some (tyX4 k) := by decide +kernel
abbrev cX4_isTrue : ByteArray := prog_3_method_3_code
def yX4_isTrue : MethodName := ⟨RX4, "isTrue", "([I)Z"⟩
def dkwX4_isTrue_1 : List UInt8 := [185, 0, 26, 2, 0, 192, 0, 30, 43, 185, 0, 36, 2, 0, 126, 61, 132, 3, 1, 167, 255, 218, 28, 172]
abbrev dktX4_isTrue_1 : List UInt8 := dkwX4_isTrue_1 ++ []
def dkwX4_isTrue_0 : List UInt8 := [4, 61, 3, 62, 29, 42, 180, 0, 10, 185, 0, 20, 1, 0, 162, 0, 31, 28, 42, 180, 0, 10, 29]
abbrev dktX4_isTrue_0 : List UInt8 := dkwX4_isTrue_0 ++ dktX4_isTrue_1
theorem dksX4_isTrue_0 : cX4_isTrue.data.toList.drop 0 = dktX4_isTrue_0 := by decide +kernel
theorem dksX4_isTrue_1 : cX4_isTrue.data.toList.drop 23 = dktX4_isTrue_1 := dk_seg dksX4_isTrue_0 23 rfl rfl
theorem dX4_isTrue_0 : decode cX4_isTrue 0 = .ok (.iconst 1, 1) := dk_4 (dk_at dksX4_isTrue_0 0 rfl rfl)
theorem dX4_isTrue_1 : decode cX4_isTrue 1 = .ok (.istore_n 2, 1) := dk_61 (dk_at dksX4_isTrue_0 1 rfl rfl)
theorem dX4_isTrue_2 : decode cX4_isTrue 2 = .ok (.iconst 0, 1) := dk_3 (dk_at dksX4_isTrue_0 2 rfl rfl)
theorem dX4_isTrue_3 : decode cX4_isTrue 3 = .ok (.istore_n 3, 1) := dk_62 (dk_at dksX4_isTrue_0 3 rfl rfl)
theorem dX4_isTrue_4 : decode cX4_isTrue 4 = .ok (.iload_n 3, 1) := dk_29 (dk_at dksX4_isTrue_0 4 rfl rfl)
theorem dX4_isTrue_5 : decode cX4_isTrue 5 = .ok (.aload_n 0, 1) := dk_42 (dk_at dksX4_isTrue_0 5 rfl rfl)
theorem dX4_isTrue_6 : decode cX4_isTrue 6 = .ok (.getfield 10, 3) := dk_180 0 10 (dk_at dksX4_isTrue_0 6 rfl rfl)
theorem dX4_isTrue_9 : decode cX4_isTrue 9 = .ok (.invokeinterface 20 1, 5) := by decide +kernel
theorem dX4_isTrue_14 : decode cX4_isTrue 14 = .ok (.if_icmp .ge 31, 3) := dk_162 0 31 (dk_at dksX4_isTrue_0 14 rfl rfl)
theorem dX4_isTrue_17 : decode cX4_isTrue 17 = .ok (.iload_n 2, 1) := dk_28 (dk_at dksX4_isTrue_0 17 rfl rfl)
theorem dX4_isTrue_18 : decode cX4_isTrue 18 = .ok (.aload_n 0, 1) := dk_42 (dk_at dksX4_isTrue_0 18 rfl rfl)
theorem dX4_isTrue_19 : decode cX4_isTrue 19 = .ok (.getfield 10, 3) := dk_180 0 10 (dk_at dksX4_isTrue_0 19 rfl rfl)
theorem dX4_isTrue_22 : decode cX4_isTrue 22 = .ok (.iload_n 3, 1) := dk_29 (dk_at dksX4_isTrue_0 22 rfl rfl)
theorem dX4_isTrue_23 : decode cX4_isTrue 23 = .ok (.invokeinterface 26 2, 5) := by decide +kernel
theorem dX4_isTrue_28 : decode cX4_isTrue 28 = .ok (.checkcast 30, 3) := dk_192 0 30 (dk_at dksX4_isTrue_1 5 rfl rfl)
theorem dX4_isTrue_31 : decode cX4_isTrue 31 = .ok (.aload_n 1, 1) := dk_43 (dk_at dksX4_isTrue_1 8 rfl rfl)
theorem dX4_isTrue_32 : decode cX4_isTrue 32 = .ok (.invokeinterface 36 2, 5) := by decide +kernel
theorem dX4_isTrue_37 : decode cX4_isTrue 37 = .ok (.iand, 1) := dk_126 (dk_at dksX4_isTrue_1 14 rfl rfl)
theorem dX4_isTrue_38 : decode cX4_isTrue 38 = .ok (.istore_n 2, 1) := dk_61 (dk_at dksX4_isTrue_1 15 rfl rfl)
theorem dX4_isTrue_39 : decode cX4_isTrue 39 = .ok (.iinc 3 1, 3) := dk_132 3 1 (dk_at dksX4_isTrue_1 16 rfl rfl)
theorem dX4_isTrue_42 : decode cX4_isTrue 42 = .ok (.goto (-38), 3) := dk_167 255 218 (dk_at dksX4_isTrue_1 19 rfl rfl)
theorem dX4_isTrue_45 : decode cX4_isTrue 45 = .ok (.iload_n 2, 1) := dk_28 (dk_at dksX4_isTrue_1 22 rfl rfl)
theorem dX4_isTrue_46 : decode cX4_isTrue 46 = .ok (.ireturn, 1) := dk_172 (dk_at dksX4_isTrue_1 23 rfl rfl)
abbrev cX4_size : ByteArray := prog_3_method_2_code
def yX4_size : MethodName := ⟨RX4, "size", "()I"⟩
def dkwX4_size_2 : List UInt8 := [132, 2, 1, 167, 255, 211, 27, 172]
abbrev dktX4_size_2 : List UInt8 := dkwX4_size_2 ++ []
def dkwX4_size_1 : List UInt8 := [185, 0, 26, 2, 0, 192, 0, 30, 185, 0, 32, 1, 0, 153, 0, 7, 4, 167, 0, 4, 3, 96, 60]
abbrev dktX4_size_1 : List UInt8 := dkwX4_size_1 ++ dktX4_size_2
def dkwX4_size_0 : List UInt8 := [3, 60, 3, 61, 28, 42, 180, 0, 10, 185, 0, 20, 1, 0, 162, 0, 38, 27, 42, 180, 0, 10, 28]
abbrev dktX4_size_0 : List UInt8 := dkwX4_size_0 ++ dktX4_size_1
theorem dksX4_size_0 : cX4_size.data.toList.drop 0 = dktX4_size_0 := by decide +kernel
theorem dksX4_size_1 : cX4_size.data.toList.drop 23 = dktX4_size_1 := dk_seg dksX4_size_0 23 rfl rfl
theorem dksX4_size_2 : cX4_size.data.toList.drop 46 = dktX4_size_2 := dk_seg dksX4_size_1 23 rfl rfl
theorem dX4_size_0 : decode cX4_size 0 = .ok (.iconst 0, 1) := dk_3 (dk_at dksX4_size_0 0 rfl rfl)
theorem dX4_size_1 : decode cX4_size 1 = .ok (.istore_n 1, 1) := dk_60 (dk_at dksX4_size_0 1 rfl rfl)
theorem dX4_size_2 : decode cX4_size 2 = .ok (.iconst 0, 1) := dk_3 (dk_at dksX4_size_0 2 rfl rfl)
theorem dX4_size_3 : decode cX4_size 3 = .ok (.istore_n 2, 1) := dk_61 (dk_at dksX4_size_0 3 rfl rfl)
theorem dX4_size_4 : decode cX4_size 4 = .ok (.iload_n 2, 1) := dk_28 (dk_at dksX4_size_0 4 rfl rfl)
theorem dX4_size_5 : decode cX4_size 5 = .ok (.aload_n 0, 1) := dk_42 (dk_at dksX4_size_0 5 rfl rfl)
theorem dX4_size_6 : decode cX4_size 6 = .ok (.getfield 10, 3) := dk_180 0 10 (dk_at dksX4_size_0 6 rfl rfl)
theorem dX4_size_9 : decode cX4_size 9 = .ok (.invokeinterface 20 1, 5) := by decide +kernel
theorem dX4_size_14 : decode cX4_size 14 = .ok (.if_icmp .ge 38, 3) := dk_162 0 38 (dk_at dksX4_size_0 14 rfl rfl)
theorem dX4_size_17 : decode cX4_size 17 = .ok (.iload_n 1, 1) := dk_27 (dk_at dksX4_size_0 17 rfl rfl)
theorem dX4_size_18 : decode cX4_size 18 = .ok (.aload_n 0, 1) := dk_42 (dk_at dksX4_size_0 18 rfl rfl)
theorem dX4_size_19 : decode cX4_size 19 = .ok (.getfield 10, 3) := dk_180 0 10 (dk_at dksX4_size_0 19 rfl rfl)
theorem dX4_size_22 : decode cX4_size 22 = .ok (.iload_n 2, 1) := dk_28 (dk_at dksX4_size_0 22 rfl rfl)
theorem dX4_size_23 : decode cX4_size 23 = .ok (.invokeinterface 26 2, 5) := by decide +kernel
theorem dX4_size_28 : decode cX4_size 28 = .ok (.checkcast 30, 3) := dk_192 0 30 (dk_at dksX4_size_1 5 rfl rfl)
theorem dX4_size_31 : decode cX4_size 31 = .ok (.invokeinterface 32 1, 5) := by decide +kernel
theorem dX4_size_36 : decode cX4_size 36 = .ok (.ifCond .eq 7, 3) := dk_153 0 7 (dk_at dksX4_size_1 13 rfl rfl)
theorem dX4_size_39 : decode cX4_size 39 = .ok (.iconst 1, 1) := dk_4 (dk_at dksX4_size_1 16 rfl rfl)
theorem dX4_size_40 : decode cX4_size 40 = .ok (.goto 4, 3) := dk_167 0 4 (dk_at dksX4_size_1 17 rfl rfl)
theorem dX4_size_43 : decode cX4_size 43 = .ok (.iconst 0, 1) := dk_3 (dk_at dksX4_size_1 20 rfl rfl)
theorem dX4_size_44 : decode cX4_size 44 = .ok (.iadd, 1) := dk_96 (dk_at dksX4_size_1 21 rfl rfl)
theorem dX4_size_45 : decode cX4_size 45 = .ok (.istore_n 1, 1) := dk_60 (dk_at dksX4_size_1 22 rfl rfl)
theorem dX4_size_46 : decode cX4_size 46 = .ok (.iinc 2 1, 3) := dk_132 2 1 (dk_at dksX4_size_2 0 rfl rfl)
theorem dX4_size_49 : decode cX4_size 49 = .ok (.goto (-45), 3) := dk_167 255 211 (dk_at dksX4_size_2 3 rfl rfl)
theorem dX4_size_52 : decode cX4_size 52 = .ok (.iload_n 1, 1) := dk_27 (dk_at dksX4_size_2 6 rfl rfl)
theorem dX4_size_53 : decode cX4_size 53 = .ok (.ireturn, 1) := dk_172 (dk_at dksX4_size_2 7 rfl rfl)
abbrev cX4_isOpen : ByteArray := prog_3_method_4_code
def yX4_isOpen : MethodName := ⟨RX4, "isOpen", "([I)Z"⟩
def dkwX4_isOpen_3 : List UInt8 := [132, 3, 1, 167, 255, 189, 28, 172]
abbrev dktX4_isOpen_3 : List UInt8 := dkwX4_isOpen_3 ++ []
def dkwX4_isOpen_2 : List UInt8 := [185, 0, 26, 2, 0, 192, 0, 30, 43, 185, 0, 36, 2, 0, 153, 0, 7, 4, 167, 0, 4, 3, 126, 61]
abbrev dktX4_isOpen_2 : List UInt8 := dkwX4_isOpen_2 ++ dktX4_isOpen_3
def dkwX4_isOpen_1 : List UInt8 := [185, 0, 26, 2, 0, 192, 0, 30, 185, 0, 32, 1, 0, 154, 0, 25, 42, 180, 0, 10, 29]
abbrev dktX4_isOpen_1 : List UInt8 := dkwX4_isOpen_1 ++ dktX4_isOpen_2
def dkwX4_isOpen_0 : List UInt8 := [4, 61, 3, 62, 29, 42, 180, 0, 10, 185, 0, 20, 1, 0, 162, 0, 60, 28, 42, 180, 0, 10, 29]
abbrev dktX4_isOpen_0 : List UInt8 := dkwX4_isOpen_0 ++ dktX4_isOpen_1
theorem dksX4_isOpen_0 : cX4_isOpen.data.toList.drop 0 = dktX4_isOpen_0 := by decide +kernel
theorem dksX4_isOpen_1 : cX4_isOpen.data.toList.drop 23 = dktX4_isOpen_1 := dk_seg dksX4_isOpen_0 23 rfl rfl
theorem dksX4_isOpen_2 : cX4_isOpen.data.toList.drop 44 = dktX4_isOpen_2 := dk_seg dksX4_isOpen_1 21 rfl rfl
theorem dksX4_isOpen_3 : cX4_isOpen.data.toList.drop 68 = dktX4_isOpen_3 := dk_seg dksX4_isOpen_2 24 rfl rfl
theorem dX4_isOpen_0 : decode cX4_isOpen 0 = .ok (.iconst 1, 1) := dk_4 (dk_at dksX4_isOpen_0 0 rfl rfl)
theorem dX4_isOpen_1 : decode cX4_isOpen 1 = .ok (.istore_n 2, 1) := dk_61 (dk_at dksX4_isOpen_0 1 rfl rfl)
theorem dX4_isOpen_2 : decode cX4_isOpen 2 = .ok (.iconst 0, 1) := dk_3 (dk_at dksX4_isOpen_0 2 rfl rfl)
theorem dX4_isOpen_3 : decode cX4_isOpen 3 = .ok (.istore_n 3, 1) := dk_62 (dk_at dksX4_isOpen_0 3 rfl rfl)
theorem dX4_isOpen_4 : decode cX4_isOpen 4 = .ok (.iload_n 3, 1) := dk_29 (dk_at dksX4_isOpen_0 4 rfl rfl)
theorem dX4_isOpen_5 : decode cX4_isOpen 5 = .ok (.aload_n 0, 1) := dk_42 (dk_at dksX4_isOpen_0 5 rfl rfl)
theorem dX4_isOpen_6 : decode cX4_isOpen 6 = .ok (.getfield 10, 3) := dk_180 0 10 (dk_at dksX4_isOpen_0 6 rfl rfl)
theorem dX4_isOpen_9 : decode cX4_isOpen 9 = .ok (.invokeinterface 20 1, 5) := by decide +kernel
theorem dX4_isOpen_14 : decode cX4_isOpen 14 = .ok (.if_icmp .ge 60, 3) := dk_162 0 60 (dk_at dksX4_isOpen_0 14 rfl rfl)
theorem dX4_isOpen_17 : decode cX4_isOpen 17 = .ok (.iload_n 2, 1) := dk_28 (dk_at dksX4_isOpen_0 17 rfl rfl)
theorem dX4_isOpen_18 : decode cX4_isOpen 18 = .ok (.aload_n 0, 1) := dk_42 (dk_at dksX4_isOpen_0 18 rfl rfl)
theorem dX4_isOpen_19 : decode cX4_isOpen 19 = .ok (.getfield 10, 3) := dk_180 0 10 (dk_at dksX4_isOpen_0 19 rfl rfl)
theorem dX4_isOpen_22 : decode cX4_isOpen 22 = .ok (.iload_n 3, 1) := dk_29 (dk_at dksX4_isOpen_0 22 rfl rfl)
theorem dX4_isOpen_23 : decode cX4_isOpen 23 = .ok (.invokeinterface 26 2, 5) := by decide +kernel
theorem dX4_isOpen_28 : decode cX4_isOpen 28 = .ok (.checkcast 30, 3) := dk_192 0 30 (dk_at dksX4_isOpen_1 5 rfl rfl)
theorem dX4_isOpen_31 : decode cX4_isOpen 31 = .ok (.invokeinterface 32 1, 5) := by decide +kernel
theorem dX4_isOpen_36 : decode cX4_isOpen 36 = .ok (.ifCond .ne 25, 3) := dk_154 0 25 (dk_at dksX4_isOpen_1 13 rfl rfl)
theorem dX4_isOpen_39 : decode cX4_isOpen 39 = .ok (.aload_n 0, 1) := dk_42 (dk_at dksX4_isOpen_1 16 rfl rfl)
theorem dX4_isOpen_40 : decode cX4_isOpen 40 = .ok (.getfield 10, 3) := dk_180 0 10 (dk_at dksX4_isOpen_1 17 rfl rfl)
theorem dX4_isOpen_43 : decode cX4_isOpen 43 = .ok (.iload_n 3, 1) := dk_29 (dk_at dksX4_isOpen_1 20 rfl rfl)
theorem dX4_isOpen_44 : decode cX4_isOpen 44 = .ok (.invokeinterface 26 2, 5) := by decide +kernel
theorem dX4_isOpen_49 : decode cX4_isOpen 49 = .ok (.checkcast 30, 3) := dk_192 0 30 (dk_at dksX4_isOpen_2 5 rfl rfl)
theorem dX4_isOpen_52 : decode cX4_isOpen 52 = .ok (.aload_n 1, 1) := dk_43 (dk_at dksX4_isOpen_2 8 rfl rfl)
theorem dX4_isOpen_53 : decode cX4_isOpen 53 = .ok (.invokeinterface 36 2, 5) := by decide +kernel
theorem dX4_isOpen_58 : decode cX4_isOpen 58 = .ok (.ifCond .eq 7, 3) := dk_153 0 7 (dk_at dksX4_isOpen_2 14 rfl rfl)
theorem dX4_isOpen_61 : decode cX4_isOpen 61 = .ok (.iconst 1, 1) := dk_4 (dk_at dksX4_isOpen_2 17 rfl rfl)
theorem dX4_isOpen_62 : decode cX4_isOpen 62 = .ok (.goto 4, 3) := dk_167 0 4 (dk_at dksX4_isOpen_2 18 rfl rfl)
theorem dX4_isOpen_65 : decode cX4_isOpen 65 = .ok (.iconst 0, 1) := dk_3 (dk_at dksX4_isOpen_2 21 rfl rfl)
theorem dX4_isOpen_66 : decode cX4_isOpen 66 = .ok (.iand, 1) := dk_126 (dk_at dksX4_isOpen_2 22 rfl rfl)
theorem dX4_isOpen_67 : decode cX4_isOpen 67 = .ok (.istore_n 2, 1) := dk_61 (dk_at dksX4_isOpen_2 23 rfl rfl)
theorem dX4_isOpen_68 : decode cX4_isOpen 68 = .ok (.iinc 3 1, 3) := dk_132 3 1 (dk_at dksX4_isOpen_3 0 rfl rfl)
theorem dX4_isOpen_71 : decode cX4_isOpen 71 = .ok (.goto (-67), 3) := dk_167 255 189 (dk_at dksX4_isOpen_3 3 rfl rfl)
theorem dX4_isOpen_74 : decode cX4_isOpen 74 = .ok (.iload_n 2, 1) := dk_28 (dk_at dksX4_isOpen_3 6 rfl rfl)
theorem dX4_isOpen_75 : decode cX4_isOpen 75 = .ok (.ireturn, 1) := dk_172 (dk_at dksX4_isOpen_3 7 rfl rfl)
abbrev cX4_init : ByteArray := prog_3_method_1_code
def yX4_init : MethodName := ⟨RX4, "<init>", "(I)V"⟩
def dkwX4_init_0 : List UInt8 := [42, 183, 0, 1, 42, 187, 0, 7, 89, 183, 0, 9, 181, 0, 10, 42, 27, 181, 0, 16, 177]
abbrev dktX4_init_0 : List UInt8 := dkwX4_init_0 ++ []
theorem dksX4_init_0 : cX4_init.data.toList.drop 0 = dktX4_init_0 := by decide +kernel
theorem dX4_init_0 : decode cX4_init 0 = .ok (.aload_n 0, 1) := dk_42 (dk_at dksX4_init_0 0 rfl rfl)
theorem dX4_init_1 : decode cX4_init 1 = .ok (.invokespecial 1, 3) := dk_183 0 1 (dk_at dksX4_init_0 1 rfl rfl)
theorem dX4_init_4 : decode cX4_init 4 = .ok (.aload_n 0, 1) := dk_42 (dk_at dksX4_init_0 4 rfl rfl)
theorem dX4_init_5 : decode cX4_init 5 = .ok (.new 7, 3) := dk_187 0 7 (dk_at dksX4_init_0 5 rfl rfl)
theorem dX4_init_8 : decode cX4_init 8 = .ok (.dup, 1) := dk_89 (dk_at dksX4_init_0 8 rfl rfl)
theorem dX4_init_9 : decode cX4_init 9 = .ok (.invokespecial 9, 3) := dk_183 0 9 (dk_at dksX4_init_0 9 rfl rfl)
theorem dX4_init_12 : decode cX4_init 12 = .ok (.putfield 10, 3) := dk_181 0 10 (dk_at dksX4_init_0 12 rfl rfl)
theorem dX4_init_15 : decode cX4_init 15 = .ok (.aload_n 0, 1) := dk_42 (dk_at dksX4_init_0 15 rfl rfl)
theorem dX4_init_16 : decode cX4_init 16 = .ok (.iload_n 1, 1) := dk_27 (dk_at dksX4_init_0 16 rfl rfl)
theorem dX4_init_17 : decode cX4_init 17 = .ok (.putfield 16, 3) := dk_181 0 16 (dk_at dksX4_init_0 17 rfl rfl)
theorem dX4_init_20 : decode cX4_init 20 = .ok (.return_, 1) := dk_177 (dk_at dksX4_init_0 20 rfl rfl)
theorem q37 : (Jvm.Cond.initialized "AlertIndex$Product") ∈ lw_all := lw_g (lw_at lw_m1 22 rfl) rfl
theorem q182 : (Jvm.Cond.instanceMethod ({ cls := "AlertIndex$Product", name := "isTrue", desc := "([I)Z" } : Jvm.MethodName)) ∈ lw_all := lw_g (lw_at lw_m1 167 rfl) rfl
theorem q183 : (Jvm.Cond.selects "AlertIndex$Product" ({ cls := "AlertIndex$Product", name := "isTrue", desc := "([I)Z" } : Jvm.MethodName) ({ cls := "AlertIndex$Product", name := "isTrue", desc := "([I)Z" } : Jvm.MethodName)) ∈ lw_all := lw_g (lw_at lw_m1 168 rfl) rfl
theorem q184 : (Jvm.Cond.code ({ cls := "AlertIndex$Product", name := "isTrue", desc := "([I)Z" } : Jvm.MethodName) prog_3_method_3_code (4 : Nat) (Option.some Jvm.ClassFile.FieldType.boolean)) ∈ lw_all := lw_g (lw_at lw_m1 169 rfl) rfl
theorem q185 : (Jvm.Cond.interfaceEntry "AlertIndex$Product" (20 : Nat)) ∈ lw_tbl := lw_at lw_m1 170 rfl
theorem q186 : (Jvm.Cond.methodLink "AlertIndex$Product" (20 : Nat) ({ cls := "java/util/List", name := "size", desc := "()I" } : Jvm.MethodName)) ∈ lw_all := lw_g (lw_at lw_m1 171 rfl) rfl
theorem q187 : (Jvm.Cond.interfaceEntry "AlertIndex$Product" (26 : Nat)) ∈ lw_tbl := lw_at lw_m1 172 rfl
theorem q188 : (Jvm.Cond.methodLink "AlertIndex$Product" (26 : Nat) ({ cls := "java/util/List", name := "get", desc := "(I)Ljava/lang/Object;" } : Jvm.MethodName)) ∈ lw_all := lw_g (lw_at lw_m1 173 rfl) rfl
theorem q189 : (Jvm.Cond.classLink "AlertIndex$Product" (30 : Nat) "AlertIndex$Test") ∈ lw_all := lw_g (lw_at lw_m1 174 rfl) rfl
theorem q190 : (Jvm.Cond.interfaceEntry "AlertIndex$Product" (36 : Nat)) ∈ lw_tbl := lw_at lw_m1 175 rfl
theorem q191 : (Jvm.Cond.methodLink "AlertIndex$Product" (36 : Nat) ({ cls := "AlertIndex$Test", name := "isTrue", desc := "([I)Z" } : Jvm.MethodName)) ∈ lw_all := lw_g (lw_at lw_m1 176 rfl) rfl
theorem q665 : (Jvm.Cond.selects "AlertIndex$Product" ({ cls := "java/lang/Object", name := "hashCode", desc := "()I" } : Jvm.MethodName) ({ cls := "java/lang/Object", name := "hashCode", desc := "()I" } : Jvm.MethodName)) ∈ lw_all := lw_g (lw_at lw_m3 170 rfl) rfl
theorem q697 : (Jvm.Cond.selects "AlertIndex$Product" ({ cls := "java/lang/Object", name := "equals", desc := "(Ljava/lang/Object;)Z" } : Jvm.MethodName) ({ cls := "java/lang/Object", name := "equals", desc := "(Ljava/lang/Object;)Z" } : Jvm.MethodName)) ∈ lw_all := lw_g (lw_at lw_m3 202 rfl) rfl
theorem q733 : (Jvm.Cond.selects "AlertIndex$Product" ({ cls := "java/lang/Object", name := "getClass", desc := "()Ljava/lang/Class;" } : Jvm.MethodName) ({ cls := "java/lang/Object", name := "getClass", desc := "()Ljava/lang/Class;" } : Jvm.MethodName)) ∈ lw_all := lw_g (lw_at lw_m3 238 rfl) rfl
theorem q938 : (Jvm.Cond.instanceMethod ({ cls := "AlertIndex$Product", name := "size", desc := "()I" } : Jvm.MethodName)) ∈ lw_all := lw_g (lw_at lw_m4 203 rfl) rfl
theorem q939 : (Jvm.Cond.selects "AlertIndex$Product" ({ cls := "AlertIndex$Product", name := "size", desc := "()I" } : Jvm.MethodName) ({ cls := "AlertIndex$Product", name := "size", desc := "()I" } : Jvm.MethodName)) ∈ lw_all := lw_g (lw_at lw_m4 204 rfl) rfl
theorem q940 : (Jvm.Cond.code ({ cls := "AlertIndex$Product", name := "size", desc := "()I" } : Jvm.MethodName) prog_3_method_2_code (3 : Nat) (Option.some Jvm.ClassFile.FieldType.int)) ∈ lw_all := lw_g (lw_at lw_m4 205 rfl) rfl
theorem q941 : (Jvm.Cond.interfaceEntry "AlertIndex$Product" (32 : Nat)) ∈ lw_tbl := lw_at lw_m4 206 rfl
theorem q942 : (Jvm.Cond.methodLink "AlertIndex$Product" (32 : Nat) ({ cls := "AlertIndex$Test", name := "isPlain", desc := "()Z" } : Jvm.MethodName)) ∈ lw_all := lw_g (lw_at lw_m4 207 rfl) rfl
theorem q955 : (Jvm.Cond.instanceMethod ({ cls := "AlertIndex$Product", name := "isOpen", desc := "([I)Z" } : Jvm.MethodName)) ∈ lw_all := lw_g (lw_at lw_m4 220 rfl) rfl
theorem q956 : (Jvm.Cond.selects "AlertIndex$Product" ({ cls := "AlertIndex$Product", name := "isOpen", desc := "([I)Z" } : Jvm.MethodName) ({ cls := "AlertIndex$Product", name := "isOpen", desc := "([I)Z" } : Jvm.MethodName)) ∈ lw_all := lw_g (lw_at lw_m4 221 rfl) rfl
theorem q957 : (Jvm.Cond.code ({ cls := "AlertIndex$Product", name := "isOpen", desc := "([I)Z" } : Jvm.MethodName) prog_3_method_4_code (4 : Nat) (Option.some Jvm.ClassFile.FieldType.boolean)) ∈ lw_all := lw_g (lw_at lw_m4 222 rfl) rfl
theorem q1126 : (Jvm.Cond.instantiable "AlertIndex$Product" (3 : Nat)) ∈ lw_all := lw_g (lw_at lw_m5 151 rfl) rfl
theorem q1128 : (Jvm.Cond.instanceMethod ({ cls := "AlertIndex$Product", name := "<init>", desc := "(I)V" } : Jvm.MethodName)) ∈ lw_all := lw_g (lw_at lw_m5 153 rfl) rfl
theorem q1129 : (Jvm.Cond.code ({ cls := "AlertIndex$Product", name := "<init>", desc := "(I)V" } : Jvm.MethodName) prog_3_method_1_code (2 : Nat) (Option.none : Option Jvm.ClassFile.FieldType)) ∈ lw_all := lw_g (lw_at lw_m5 154 rfl) rfl
theorem q1130 : (Jvm.Cond.methodLink "AlertIndex$Product" (1 : Nat) ({ cls := "java/lang/Object", name := "<init>", desc := "()V" } : Jvm.MethodName)) ∈ lw_all := lw_g (lw_at lw_m5 155 rfl) rfl
theorem q1131 : (Jvm.Cond.classLink "AlertIndex$Product" (7 : Nat) "java/util/ArrayList") ∈ lw_all := lw_g (lw_at lw_m5 156 rfl) rfl
theorem q1132 : (Jvm.Cond.methodLink "AlertIndex$Product" (9 : Nat) ({ cls := "java/util/ArrayList", name := "<init>", desc := "()V" } : Jvm.MethodName)) ∈ lw_all := lw_g (lw_at lw_m5 157 rfl) rfl
theorem q1133 : (Jvm.Cond.fieldLink "AlertIndex$Product" (10 : Nat) "AlertIndex$Product" "tests" "Ljava/util/List;") ∈ lw_all := lw_g (lw_at lw_m5 158 rfl) rfl
theorem q1135 : (Jvm.Cond.fieldLink "AlertIndex$Product" (16 : Nat) "AlertIndex$Product" "question" "I") ∈ lw_all := lw_g (lw_at lw_m5 160 rfl) rfl
theorem q1138 : (Jvm.Cond.laysFinal "AlertIndex$Product" "AlertIndex$Product" "tests" "Ljava/util/List;") ∈ lw_all := lw_g (lw_at lw_m5 163 rfl) rfl
theorem q1139 : (Jvm.Cond.soleField "AlertIndex$Product" "tests") ∈ lw_all := lw_g (lw_at lw_m5 164 rfl) rfl
theorem q1140 : (Jvm.Cond.laysFinal "AlertIndex$Product" "AlertIndex$Product" "question" "I") ∈ lw_all := lw_g (lw_at lw_m5 165 rfl) rfl
theorem q1141 : (Jvm.Cond.soleField "AlertIndex$Product" "question") ∈ lw_all := lw_g (lw_at lw_m5 166 rfl) rfl
theorem q1142 : (Jvm.Cond.lays "AlertIndex$Product" "AlertIndex$Product" "found" "I") ∈ lw_all := lw_g (lw_at lw_m5 167 rfl) rfl
theorem q1143 : (Jvm.Cond.soleField "AlertIndex$Product" "found") ∈ lw_all := lw_g (lw_at lw_m5 168 rfl) rfl
theorem q1144 : (Jvm.Cond.superclass "AlertIndex$Product" "java/lang/Object") ∈ lw_all := lw_g (lw_at lw_m5 169 rfl) rfl
theorem q1648 : (Jvm.Cond.castable "AlertIndex$Product" "java/lang/Object") ∈ lw_tbl := lw_at lw_m7 193 rfl
theorem in_X4 : ∀ w ∈ wsX40, w ∈ lw_all := lw_in wsX40 [1138, 1140, 1142] (by decide +kernel) (by decide +kernel)
/-! AlertIndex$Test -/
set_option maxRecDepth 100000
def RX5 : String := "AlertIndex$Test"
abbrev cX5_isTrue : ByteArray := prog_6_method_4_code
def yX5_isTrue : MethodName := ⟨RX5, "isTrue", "([I)Z"⟩
def dkwX5_isTrue_1 : List UInt8 := [185, 0, 9, 2, 0, 153, 0, 7, 4, 167, 0, 4, 3, 172]
abbrev dktX5_isTrue_1 : List UInt8 := dkwX5_isTrue_1 ++ []
def dkwX5_isTrue_0 : List UInt8 := [43, 42, 185, 0, 3, 1, 0, 46, 2, 159, 0, 24, 42, 43, 42, 185, 0, 3, 1, 0, 46]
abbrev dktX5_isTrue_0 : List UInt8 := dkwX5_isTrue_0 ++ dktX5_isTrue_1
theorem dksX5_isTrue_0 : cX5_isTrue.data.toList.drop 0 = dktX5_isTrue_0 := by decide +kernel
theorem dksX5_isTrue_1 : cX5_isTrue.data.toList.drop 21 = dktX5_isTrue_1 := dk_seg dksX5_isTrue_0 21 rfl rfl
theorem dX5_isTrue_0 : decode cX5_isTrue 0 = .ok (.aload_n 1, 1) := dk_43 (dk_at dksX5_isTrue_0 0 rfl rfl)
theorem dX5_isTrue_1 : decode cX5_isTrue 1 = .ok (.aload_n 0, 1) := dk_42 (dk_at dksX5_isTrue_0 1 rfl rfl)
theorem dX5_isTrue_2 : decode cX5_isTrue 2 = .ok (.invokeinterface 3 1, 5) := by decide +kernel
theorem dX5_isTrue_7 : decode cX5_isTrue 7 = .ok (.iaload, 1) := dk_46 (dk_at dksX5_isTrue_0 7 rfl rfl)
theorem dX5_isTrue_8 : decode cX5_isTrue 8 = .ok (.iconst (-1), 1) := dk_2 (dk_at dksX5_isTrue_0 8 rfl rfl)
theorem dX5_isTrue_9 : decode cX5_isTrue 9 = .ok (.if_icmp .eq 24, 3) := dk_159 0 24 (dk_at dksX5_isTrue_0 9 rfl rfl)
theorem dX5_isTrue_12 : decode cX5_isTrue 12 = .ok (.aload_n 0, 1) := dk_42 (dk_at dksX5_isTrue_0 12 rfl rfl)
theorem dX5_isTrue_13 : decode cX5_isTrue 13 = .ok (.aload_n 1, 1) := dk_43 (dk_at dksX5_isTrue_0 13 rfl rfl)
theorem dX5_isTrue_14 : decode cX5_isTrue 14 = .ok (.aload_n 0, 1) := dk_42 (dk_at dksX5_isTrue_0 14 rfl rfl)
theorem dX5_isTrue_15 : decode cX5_isTrue 15 = .ok (.invokeinterface 3 1, 5) := by decide +kernel
theorem dX5_isTrue_20 : decode cX5_isTrue 20 = .ok (.iaload, 1) := dk_46 (dk_at dksX5_isTrue_0 20 rfl rfl)
theorem dX5_isTrue_21 : decode cX5_isTrue 21 = .ok (.invokeinterface 9 2, 5) := by decide +kernel
theorem dX5_isTrue_26 : decode cX5_isTrue 26 = .ok (.ifCond .eq 7, 3) := dk_153 0 7 (dk_at dksX5_isTrue_1 5 rfl rfl)
theorem dX5_isTrue_29 : decode cX5_isTrue 29 = .ok (.iconst 1, 1) := dk_4 (dk_at dksX5_isTrue_1 8 rfl rfl)
theorem dX5_isTrue_30 : decode cX5_isTrue 30 = .ok (.goto 4, 3) := dk_167 0 4 (dk_at dksX5_isTrue_1 9 rfl rfl)
theorem dX5_isTrue_33 : decode cX5_isTrue 33 = .ok (.iconst 0, 1) := dk_3 (dk_at dksX5_isTrue_1 12 rfl rfl)
theorem dX5_isTrue_34 : decode cX5_isTrue 34 = .ok (.ireturn, 1) := dk_172 (dk_at dksX5_isTrue_1 13 rfl rfl)
abbrev cX5_isPlain : ByteArray := prog_6_method_3_code
def yX5_isPlain : MethodName := ⟨RX5, "isPlain", "()Z"⟩
theorem dX5_isPlain_0 : decode cX5_isPlain 0 = .ok (.iconst 1, 1) := by decide +kernel
theorem dX5_isPlain_1 : decode cX5_isPlain 1 = .ok (.ireturn, 1) := by decide +kernel
abbrev cX5_of : ByteArray := prog_6_method_5_code
def yX5_of : MethodName := ⟨RX5, "of", "(IIIZ)LAlertIndex$Test;"⟩
def dkwX5_of_1 : List UInt8 := [183, 0, 21, 167, 0, 5, 25, 4, 176]
abbrev dktX5_of_1 : List UInt8 := dkwX5_of_1 ++ []
def dkwX5_of_0 : List UInt8 := [187, 0, 13, 89, 26, 27, 28, 183, 0, 15, 58, 4, 29, 153, 0, 15, 187, 0, 19, 89, 25, 4]
abbrev dktX5_of_0 : List UInt8 := dkwX5_of_0 ++ dktX5_of_1
theorem dksX5_of_0 : cX5_of.data.toList.drop 0 = dktX5_of_0 := by decide +kernel
theorem dksX5_of_1 : cX5_of.data.toList.drop 22 = dktX5_of_1 := dk_seg dksX5_of_0 22 rfl rfl
theorem dX5_of_0 : decode cX5_of 0 = .ok (.new 13, 3) := dk_187 0 13 (dk_at dksX5_of_0 0 rfl rfl)
theorem dX5_of_3 : decode cX5_of 3 = .ok (.dup, 1) := dk_89 (dk_at dksX5_of_0 3 rfl rfl)
theorem dX5_of_4 : decode cX5_of 4 = .ok (.iload_n 0, 1) := dk_26 (dk_at dksX5_of_0 4 rfl rfl)
theorem dX5_of_5 : decode cX5_of 5 = .ok (.iload_n 1, 1) := dk_27 (dk_at dksX5_of_0 5 rfl rfl)
theorem dX5_of_6 : decode cX5_of 6 = .ok (.iload_n 2, 1) := dk_28 (dk_at dksX5_of_0 6 rfl rfl)
theorem dX5_of_7 : decode cX5_of 7 = .ok (.invokespecial 15, 3) := dk_183 0 15 (dk_at dksX5_of_0 7 rfl rfl)
theorem dX5_of_10 : decode cX5_of 10 = .ok (.astore 4, 2) := dk_58 4 (dk_at dksX5_of_0 10 rfl rfl)
theorem dX5_of_12 : decode cX5_of 12 = .ok (.iload_n 3, 1) := dk_29 (dk_at dksX5_of_0 12 rfl rfl)
theorem dX5_of_13 : decode cX5_of 13 = .ok (.ifCond .eq 15, 3) := dk_153 0 15 (dk_at dksX5_of_0 13 rfl rfl)
theorem dX5_of_16 : decode cX5_of 16 = .ok (.new 19, 3) := dk_187 0 19 (dk_at dksX5_of_0 16 rfl rfl)
theorem dX5_of_19 : decode cX5_of 19 = .ok (.dup, 1) := dk_89 (dk_at dksX5_of_0 19 rfl rfl)
theorem dX5_of_20 : decode cX5_of 20 = .ok (.aload 4, 2) := dk_25 4 (dk_at dksX5_of_0 20 rfl rfl)
theorem dX5_of_22 : decode cX5_of 22 = .ok (.invokespecial 21, 3) := dk_183 0 21 (dk_at dksX5_of_1 0 rfl rfl)
theorem dX5_of_25 : decode cX5_of 25 = .ok (.goto 5, 3) := dk_167 0 5 (dk_at dksX5_of_1 3 rfl rfl)
theorem dX5_of_28 : decode cX5_of 28 = .ok (.aload 4, 2) := dk_25 4 (dk_at dksX5_of_1 6 rfl rfl)
theorem dX5_of_30 : decode cX5_of 30 = .ok (.areturn, 1) := dk_176 (dk_at dksX5_of_1 8 rfl rfl)
theorem q39 : (Jvm.Cond.initialized "AlertIndex$Test") ∈ lw_all := lw_g (lw_at lw_m1 24 rfl) rfl
theorem q192 : (Jvm.Cond.interfaceMethod "AlertIndex$Test" "AlertIndex$Test" "isTrue" "([I)Z") ∈ lw_tbl := lw_at lw_m1 177 rfl
theorem q193 : (Jvm.Cond.declares ({ cls := "AlertIndex$Test", name := "isTrue", desc := "([I)Z" } : Jvm.MethodName)) ∈ lw_tbl := lw_at lw_m1 178 rfl
theorem q204 : (Jvm.Cond.instanceMethod ({ cls := "AlertIndex$Test", name := "isTrue", desc := "([I)Z" } : Jvm.MethodName)) ∈ lw_all := lw_g (lw_at lw_m1 189 rfl) rfl
theorem q205 : (Jvm.Cond.publicMethod ({ cls := "AlertIndex$Test", name := "isTrue", desc := "([I)Z" } : Jvm.MethodName)) ∈ lw_tbl := lw_at lw_m1 190 rfl
theorem q206 : (Jvm.Cond.code ({ cls := "AlertIndex$Test", name := "isTrue", desc := "([I)Z" } : Jvm.MethodName) prog_6_method_4_code (2 : Nat) (Option.some Jvm.ClassFile.FieldType.boolean)) ∈ lw_all := lw_g (lw_at lw_m1 191 rfl) rfl
theorem q207 : (Jvm.Cond.interfaceEntry "AlertIndex$Test" (3 : Nat)) ∈ lw_tbl := lw_at lw_m1 192 rfl
theorem q208 : (Jvm.Cond.methodLink "AlertIndex$Test" (3 : Nat) ({ cls := "AlertIndex$Test", name := "name", desc := "()I" } : Jvm.MethodName)) ∈ lw_all := lw_g (lw_at lw_m1 193 rfl) rfl
theorem q209 : (Jvm.Cond.interfaceMethod "AlertIndex$Test" "AlertIndex$Test" "name" "()I") ∈ lw_tbl := lw_at lw_m1 194 rfl
theorem q210 : (Jvm.Cond.declares ({ cls := "AlertIndex$Test", name := "name", desc := "()I" } : Jvm.MethodName)) ∈ lw_tbl := lw_at lw_m1 195 rfl
theorem q223 : (Jvm.Cond.interfaceEntry "AlertIndex$Test" (9 : Nat)) ∈ lw_tbl := lw_at lw_m1 208 rfl
theorem q224 : (Jvm.Cond.methodLink "AlertIndex$Test" (9 : Nat) ({ cls := "AlertIndex$Test", name := "has", desc := "(I)Z" } : Jvm.MethodName)) ∈ lw_all := lw_g (lw_at lw_m1 209 rfl) rfl
theorem q225 : (Jvm.Cond.interfaceMethod "AlertIndex$Test" "AlertIndex$Test" "has" "(I)Z") ∈ lw_tbl := lw_at lw_m1 210 rfl
theorem q226 : (Jvm.Cond.declares ({ cls := "AlertIndex$Test", name := "has", desc := "(I)Z" } : Jvm.MethodName)) ∈ lw_tbl := lw_at lw_m1 211 rfl
theorem q943 : (Jvm.Cond.interfaceMethod "AlertIndex$Test" "AlertIndex$Test" "isPlain" "()Z") ∈ lw_tbl := lw_at lw_m4 208 rfl
theorem q944 : (Jvm.Cond.declares ({ cls := "AlertIndex$Test", name := "isPlain", desc := "()Z" } : Jvm.MethodName)) ∈ lw_tbl := lw_at lw_m4 209 rfl
theorem q951 : (Jvm.Cond.instanceMethod ({ cls := "AlertIndex$Test", name := "isPlain", desc := "()Z" } : Jvm.MethodName)) ∈ lw_all := lw_g (lw_at lw_m4 216 rfl) rfl
theorem q952 : (Jvm.Cond.publicMethod ({ cls := "AlertIndex$Test", name := "isPlain", desc := "()Z" } : Jvm.MethodName)) ∈ lw_tbl := lw_at lw_m4 217 rfl
theorem q953 : (Jvm.Cond.code ({ cls := "AlertIndex$Test", name := "isPlain", desc := "()Z" } : Jvm.MethodName) prog_6_method_3_code (1 : Nat) (Option.some Jvm.ClassFile.FieldType.boolean)) ∈ lw_all := lw_g (lw_at lw_m4 218 rfl) rfl
theorem q1167 : (Jvm.Cond.static ({ cls := "AlertIndex$Test", name := "of", desc := "(IIIZ)LAlertIndex$Test;" } : Jvm.MethodName)) ∈ lw_all := lw_g (lw_at lw_m5 192 rfl) rfl
theorem q1168 : (Jvm.Cond.code ({ cls := "AlertIndex$Test", name := "of", desc := "(IIIZ)LAlertIndex$Test;" } : Jvm.MethodName) prog_6_method_5_code (5 : Nat) (Option.some (Jvm.ClassFile.FieldType.object "AlertIndex$Test"))) ∈ lw_all := lw_g (lw_at lw_m5 193 rfl) rfl
theorem q1169 : (Jvm.Cond.classLink "AlertIndex$Test" (13 : Nat) "AlertIndex$Range") ∈ lw_all := lw_g (lw_at lw_m5 194 rfl) rfl
theorem q1171 : (Jvm.Cond.methodLinkNest "AlertIndex$Test" (15 : Nat) ({ cls := "AlertIndex$Range", name := "<init>", desc := "(III)V" } : Jvm.MethodName) "AlertIndex") ∈ lw_tbl := lw_at lw_m5 196 rfl
theorem q1188 : (Jvm.Cond.classLink "AlertIndex$Test" (19 : Nat) "AlertIndex$Barred") ∈ lw_all := lw_g (lw_at lw_m5 213 rfl) rfl
theorem q1190 : (Jvm.Cond.methodLinkNest "AlertIndex$Test" (21 : Nat) ({ cls := "AlertIndex$Barred", name := "<init>", desc := "(LAlertIndex$Test;)V" } : Jvm.MethodName) "AlertIndex") ∈ lw_tbl := lw_at lw_m5 215 rfl
/-! AlertIndex$Range -/
set_option maxRecDepth 100000
def RX6 : String := "AlertIndex$Range"
def TX6 : u_T := fun k => match k with
  | 0 => ("AlertIndex$Range", "name", "I", true)
  | 1 => ("AlertIndex$Range", "low", "I", true)
  | _ => ("AlertIndex$Range", "high", "I", true)
def tyX6 : Nat → FieldType := fun k => match k with
  | 0 => .int
  | 1 => .int
  | _ => .int
abbrev wsX60 : List Cond := u_ws RX6 TX6 3
theorem nmX6 : ∀ a, a < 3 → ∀ b, b < 3 → a ≠ b → (TX6 a).2.1 ≠ (TX6 b).2.1 := by decide +kernel
theorem tyX6_ok : ∀ k, k < 3 → parseFieldDescriptor (TX6 k).2.2.1 = some (tyX6 k) := by decide +kernel
abbrev cX6_name : ByteArray := prog_5_method_6_code
def yX6_name : MethodName := ⟨RX6, "name", "()I"⟩
theorem dX6_name_0 : decode cX6_name 0 = .ok (.aload_n 0, 1) := by decide +kernel
theorem dX6_name_1 : decode cX6_name 1 = .ok (.getfield 7, 3) := by decide +kernel
theorem dX6_name_4 : decode cX6_name 4 = .ok (.ireturn, 1) := by decide +kernel
abbrev cX6_has : ByteArray := prog_5_method_2_code
def yX6_has : MethodName := ⟨RX6, "has", "(I)Z"⟩
def dkwX6_has_0 : List UInt8 := [27, 42, 180, 0, 13, 161, 0, 15, 27, 42, 180, 0, 16, 163, 0, 7, 4, 167, 0, 4, 3, 172]
abbrev dktX6_has_0 : List UInt8 := dkwX6_has_0 ++ []
theorem dksX6_has_0 : cX6_has.data.toList.drop 0 = dktX6_has_0 := by decide +kernel
theorem dX6_has_0 : decode cX6_has 0 = .ok (.iload_n 1, 1) := dk_27 (dk_at dksX6_has_0 0 rfl rfl)
theorem dX6_has_1 : decode cX6_has 1 = .ok (.aload_n 0, 1) := dk_42 (dk_at dksX6_has_0 1 rfl rfl)
theorem dX6_has_2 : decode cX6_has 2 = .ok (.getfield 13, 3) := dk_180 0 13 (dk_at dksX6_has_0 2 rfl rfl)
theorem dX6_has_5 : decode cX6_has 5 = .ok (.if_icmp .lt 15, 3) := dk_161 0 15 (dk_at dksX6_has_0 5 rfl rfl)
theorem dX6_has_8 : decode cX6_has 8 = .ok (.iload_n 1, 1) := dk_27 (dk_at dksX6_has_0 8 rfl rfl)
theorem dX6_has_9 : decode cX6_has 9 = .ok (.aload_n 0, 1) := dk_42 (dk_at dksX6_has_0 9 rfl rfl)
theorem dX6_has_10 : decode cX6_has 10 = .ok (.getfield 16, 3) := dk_180 0 16 (dk_at dksX6_has_0 10 rfl rfl)
theorem dX6_has_13 : decode cX6_has 13 = .ok (.if_icmp .gt 7, 3) := dk_163 0 7 (dk_at dksX6_has_0 13 rfl rfl)
theorem dX6_has_16 : decode cX6_has 16 = .ok (.iconst 1, 1) := dk_4 (dk_at dksX6_has_0 16 rfl rfl)
theorem dX6_has_17 : decode cX6_has 17 = .ok (.goto 4, 3) := dk_167 0 4 (dk_at dksX6_has_0 17 rfl rfl)
theorem dX6_has_20 : decode cX6_has 20 = .ok (.iconst 0, 1) := dk_3 (dk_at dksX6_has_0 20 rfl rfl)
theorem dX6_has_21 : decode cX6_has 21 = .ok (.ireturn, 1) := dk_172 (dk_at dksX6_has_0 21 rfl rfl)
abbrev cX6_hashCode : ByteArray := prog_5_method_4_code
def yX6_hashCode : MethodName := ⟨RX6, "hashCode", "()I"⟩
theorem dX6_hashCode_0 : decode cX6_hashCode 0 = .ok (.aload_n 0, 1) := by decide +kernel
theorem dX6_hashCode_1 : decode cX6_hashCode 1 = .ok (.invokedynamic 23, 5) := by decide +kernel
theorem dX6_hashCode_6 : decode cX6_hashCode 6 = .ok (.ireturn, 1) := by decide +kernel
abbrev cX6_equals : ByteArray := prog_5_method_5_code
def yX6_equals : MethodName := ⟨RX6, "equals", "(Ljava/lang/Object;)Z"⟩
def dkwX6_equals_0 : List UInt8 := [42, 43, 186, 0, 27, 0, 0, 172]
abbrev dktX6_equals_0 : List UInt8 := dkwX6_equals_0 ++ []
theorem dksX6_equals_0 : cX6_equals.data.toList.drop 0 = dktX6_equals_0 := by decide +kernel
theorem dX6_equals_0 : decode cX6_equals 0 = .ok (.aload_n 0, 1) := dk_42 (dk_at dksX6_equals_0 0 rfl rfl)
theorem dX6_equals_1 : decode cX6_equals 1 = .ok (.aload_n 1, 1) := dk_43 (dk_at dksX6_equals_0 1 rfl rfl)
theorem dX6_equals_2 : decode cX6_equals 2 = .ok (.invokedynamic 27, 5) := by decide +kernel
theorem dX6_equals_7 : decode cX6_equals 7 = .ok (.ireturn, 1) := dk_172 (dk_at dksX6_equals_0 7 rfl rfl)
abbrev cX6_init : ByteArray := prog_5_method_1_code
def yX6_init : MethodName := ⟨RX6, "<init>", "(III)V"⟩
def dkwX6_init_0 : List UInt8 := [42, 183, 0, 1, 42, 27, 181, 0, 7, 42, 28, 181, 0, 13, 42, 29, 181, 0, 16, 177]
abbrev dktX6_init_0 : List UInt8 := dkwX6_init_0 ++ []
theorem dksX6_init_0 : cX6_init.data.toList.drop 0 = dktX6_init_0 := by decide +kernel
theorem dX6_init_0 : decode cX6_init 0 = .ok (.aload_n 0, 1) := dk_42 (dk_at dksX6_init_0 0 rfl rfl)
theorem dX6_init_1 : decode cX6_init 1 = .ok (.invokespecial 1, 3) := dk_183 0 1 (dk_at dksX6_init_0 1 rfl rfl)
theorem dX6_init_4 : decode cX6_init 4 = .ok (.aload_n 0, 1) := dk_42 (dk_at dksX6_init_0 4 rfl rfl)
theorem dX6_init_5 : decode cX6_init 5 = .ok (.iload_n 1, 1) := dk_27 (dk_at dksX6_init_0 5 rfl rfl)
theorem dX6_init_6 : decode cX6_init 6 = .ok (.putfield 7, 3) := dk_181 0 7 (dk_at dksX6_init_0 6 rfl rfl)
theorem dX6_init_9 : decode cX6_init 9 = .ok (.aload_n 0, 1) := dk_42 (dk_at dksX6_init_0 9 rfl rfl)
theorem dX6_init_10 : decode cX6_init 10 = .ok (.iload_n 2, 1) := dk_28 (dk_at dksX6_init_0 10 rfl rfl)
theorem dX6_init_11 : decode cX6_init 11 = .ok (.putfield 13, 3) := dk_181 0 13 (dk_at dksX6_init_0 11 rfl rfl)
theorem dX6_init_14 : decode cX6_init 14 = .ok (.aload_n 0, 1) := dk_42 (dk_at dksX6_init_0 14 rfl rfl)
theorem dX6_init_15 : decode cX6_init 15 = .ok (.iload_n 3, 1) := dk_29 (dk_at dksX6_init_0 15 rfl rfl)
theorem dX6_init_16 : decode cX6_init 16 = .ok (.putfield 16, 3) := dk_181 0 16 (dk_at dksX6_init_0 16 rfl rfl)
theorem dX6_init_19 : decode cX6_init 19 = .ok (.return_, 1) := dk_177 (dk_at dksX6_init_0 19 rfl rfl)
abbrev cX6_low : ByteArray := prog_5_method_7_code
def yX6_low : MethodName := ⟨RX6, "low", "()I"⟩
theorem dX6_low_0 : decode cX6_low 0 = .ok (.aload_n 0, 1) := by decide +kernel
theorem dX6_low_1 : decode cX6_low 1 = .ok (.getfield 13, 3) := by decide +kernel
theorem dX6_low_4 : decode cX6_low 4 = .ok (.ireturn, 1) := by decide +kernel
abbrev cX6_high : ByteArray := prog_5_method_8_code
def yX6_high : MethodName := ⟨RX6, "high", "()I"⟩
theorem dX6_high_0 : decode cX6_high 0 = .ok (.aload_n 0, 1) := by decide +kernel
theorem dX6_high_1 : decode cX6_high 1 = .ok (.getfield 16, 3) := by decide +kernel
theorem dX6_high_4 : decode cX6_high 4 = .ok (.ireturn, 1) := by decide +kernel
theorem q41 : (Jvm.Cond.initialized "AlertIndex$Range") ∈ lw_all := lw_g (lw_at lw_m1 26 rfl) rfl
theorem q202 : (Jvm.Cond.castable "AlertIndex$Range" "AlertIndex$Test") ∈ lw_tbl := lw_at lw_m1 187 rfl
theorem q203 : (Jvm.Cond.unhidden "AlertIndex$Range" "isTrue" "([I)Z") ∈ lw_tbl := lw_at lw_m1 188 rfl
theorem q218 : (Jvm.Cond.selects "AlertIndex$Range" ({ cls := "AlertIndex$Test", name := "name", desc := "()I" } : Jvm.MethodName) ({ cls := "AlertIndex$Range", name := "name", desc := "()I" } : Jvm.MethodName)) ∈ lw_all := lw_g (lw_at lw_m1 203 rfl) rfl
theorem q219 : (Jvm.Cond.unhidden "AlertIndex$Range" "name" "()I") ∈ lw_tbl := lw_at lw_m1 204 rfl
theorem q220 : (Jvm.Cond.instanceMethod ({ cls := "AlertIndex$Range", name := "name", desc := "()I" } : Jvm.MethodName)) ∈ lw_all := lw_g (lw_at lw_m1 205 rfl) rfl
theorem q221 : (Jvm.Cond.publicMethod ({ cls := "AlertIndex$Range", name := "name", desc := "()I" } : Jvm.MethodName)) ∈ lw_tbl := lw_at lw_m1 206 rfl
theorem q222 : (Jvm.Cond.code ({ cls := "AlertIndex$Range", name := "name", desc := "()I" } : Jvm.MethodName) prog_5_method_6_code (1 : Nat) (Option.some Jvm.ClassFile.FieldType.int)) ∈ lw_all := lw_g (lw_at lw_m1 207 rfl) rfl
theorem q234 : (Jvm.Cond.selects "AlertIndex$Range" ({ cls := "AlertIndex$Test", name := "has", desc := "(I)Z" } : Jvm.MethodName) ({ cls := "AlertIndex$Range", name := "has", desc := "(I)Z" } : Jvm.MethodName)) ∈ lw_all := lw_g (lw_at lw_m1 219 rfl) rfl
theorem q235 : (Jvm.Cond.unhidden "AlertIndex$Range" "has" "(I)Z") ∈ lw_tbl := lw_at lw_m1 220 rfl
theorem q236 : (Jvm.Cond.instanceMethod ({ cls := "AlertIndex$Range", name := "has", desc := "(I)Z" } : Jvm.MethodName)) ∈ lw_all := lw_g (lw_at lw_m1 221 rfl) rfl
theorem q237 : (Jvm.Cond.publicMethod ({ cls := "AlertIndex$Range", name := "has", desc := "(I)Z" } : Jvm.MethodName)) ∈ lw_tbl := lw_at lw_m1 222 rfl
theorem q238 : (Jvm.Cond.code ({ cls := "AlertIndex$Range", name := "has", desc := "(I)Z" } : Jvm.MethodName) prog_5_method_2_code (2 : Nat) (Option.some Jvm.ClassFile.FieldType.boolean)) ∈ lw_all := lw_g (lw_at lw_m1 223 rfl) rfl
theorem q602 : (Jvm.Cond.instanceMethod ({ cls := "AlertIndex$Range", name := "hashCode", desc := "()I" } : Jvm.MethodName)) ∈ lw_all := lw_g (lw_at lw_m3 107 rfl) rfl
theorem q603 : (Jvm.Cond.code ({ cls := "AlertIndex$Range", name := "hashCode", desc := "()I" } : Jvm.MethodName) prog_5_method_4_code (1 : Nat) (Option.some Jvm.ClassFile.FieldType.int)) ∈ lw_all := lw_g (lw_at lw_m3 108 rfl) rfl
theorem q667 : (Jvm.Cond.selects "AlertIndex$Range" ({ cls := "java/lang/Object", name := "hashCode", desc := "()I" } : Jvm.MethodName) ({ cls := "AlertIndex$Range", name := "hashCode", desc := "()I" } : Jvm.MethodName)) ∈ lw_all := lw_g (lw_at lw_m3 172 rfl) rfl
theorem q689 : (Jvm.Cond.instanceMethod ({ cls := "AlertIndex$Range", name := "equals", desc := "(Ljava/lang/Object;)Z" } : Jvm.MethodName)) ∈ lw_all := lw_g (lw_at lw_m3 194 rfl) rfl
theorem q690 : (Jvm.Cond.code ({ cls := "AlertIndex$Range", name := "equals", desc := "(Ljava/lang/Object;)Z" } : Jvm.MethodName) prog_5_method_5_code (2 : Nat) (Option.some Jvm.ClassFile.FieldType.boolean)) ∈ lw_all := lw_g (lw_at lw_m3 195 rfl) rfl
theorem q699 : (Jvm.Cond.selects "AlertIndex$Range" ({ cls := "java/lang/Object", name := "equals", desc := "(Ljava/lang/Object;)Z" } : Jvm.MethodName) ({ cls := "AlertIndex$Range", name := "equals", desc := "(Ljava/lang/Object;)Z" } : Jvm.MethodName)) ∈ lw_all := lw_g (lw_at lw_m3 204 rfl) rfl
theorem q735 : (Jvm.Cond.selects "AlertIndex$Range" ({ cls := "java/lang/Object", name := "getClass", desc := "()Ljava/lang/Class;" } : Jvm.MethodName) ({ cls := "java/lang/Object", name := "getClass", desc := "()Ljava/lang/Class;" } : Jvm.MethodName)) ∈ lw_all := lw_g (lw_at lw_m4 0 rfl) rfl
theorem q950 : (Jvm.Cond.unhidden "AlertIndex$Range" "isPlain" "()Z") ∈ lw_tbl := lw_at lw_m4 215 rfl
theorem q1170 : (Jvm.Cond.instantiable "AlertIndex$Range" (3 : Nat)) ∈ lw_all := lw_g (lw_at lw_m5 195 rfl) rfl
theorem q1172 : (Jvm.Cond.instanceMethod ({ cls := "AlertIndex$Range", name := "<init>", desc := "(III)V" } : Jvm.MethodName)) ∈ lw_all := lw_g (lw_at lw_m5 197 rfl) rfl
theorem q1173 : (Jvm.Cond.code ({ cls := "AlertIndex$Range", name := "<init>", desc := "(III)V" } : Jvm.MethodName) prog_5_method_1_code (4 : Nat) (Option.none : Option Jvm.ClassFile.FieldType)) ∈ lw_all := lw_g (lw_at lw_m5 198 rfl) rfl
theorem q1174 : (Jvm.Cond.methodLink "AlertIndex$Range" (1 : Nat) ({ cls := "java/lang/Record", name := "<init>", desc := "()V" } : Jvm.MethodName)) ∈ lw_all := lw_g (lw_at lw_m5 199 rfl) rfl
theorem q1178 : (Jvm.Cond.fieldLink "AlertIndex$Range" (7 : Nat) "AlertIndex$Range" "name" "I") ∈ lw_all := lw_g (lw_at lw_m5 203 rfl) rfl
theorem q1179 : (Jvm.Cond.fieldLink "AlertIndex$Range" (13 : Nat) "AlertIndex$Range" "low" "I") ∈ lw_all := lw_g (lw_at lw_m5 204 rfl) rfl
theorem q1180 : (Jvm.Cond.fieldLink "AlertIndex$Range" (16 : Nat) "AlertIndex$Range" "high" "I") ∈ lw_all := lw_g (lw_at lw_m5 205 rfl) rfl
theorem q1181 : (Jvm.Cond.laysFinal "AlertIndex$Range" "AlertIndex$Range" "name" "I") ∈ lw_all := lw_g (lw_at lw_m5 206 rfl) rfl
theorem q1182 : (Jvm.Cond.soleField "AlertIndex$Range" "name") ∈ lw_all := lw_g (lw_at lw_m5 207 rfl) rfl
theorem q1183 : (Jvm.Cond.laysFinal "AlertIndex$Range" "AlertIndex$Range" "low" "I") ∈ lw_all := lw_g (lw_at lw_m5 208 rfl) rfl
theorem q1184 : (Jvm.Cond.soleField "AlertIndex$Range" "low") ∈ lw_all := lw_g (lw_at lw_m5 209 rfl) rfl
theorem q1185 : (Jvm.Cond.laysFinal "AlertIndex$Range" "AlertIndex$Range" "high" "I") ∈ lw_all := lw_g (lw_at lw_m5 210 rfl) rfl
theorem q1186 : (Jvm.Cond.soleField "AlertIndex$Range" "high") ∈ lw_all := lw_g (lw_at lw_m5 211 rfl) rfl
theorem q1187 : (Jvm.Cond.superclass "AlertIndex$Range" "java/lang/Record") ∈ lw_all := lw_g (lw_at lw_m5 212 rfl) rfl
theorem q1204 : (Jvm.Cond.instanceMethod ({ cls := "AlertIndex$Range", name := "low", desc := "()I" } : Jvm.MethodName)) ∈ lw_all := lw_g (lw_at lw_m5 229 rfl) rfl
theorem q1205 : (Jvm.Cond.selects "AlertIndex$Range" ({ cls := "AlertIndex$Range", name := "low", desc := "()I" } : Jvm.MethodName) ({ cls := "AlertIndex$Range", name := "low", desc := "()I" } : Jvm.MethodName)) ∈ lw_all := lw_g (lw_at lw_m5 230 rfl) rfl
theorem q1206 : (Jvm.Cond.code ({ cls := "AlertIndex$Range", name := "low", desc := "()I" } : Jvm.MethodName) prog_5_method_7_code (1 : Nat) (Option.some Jvm.ClassFile.FieldType.int)) ∈ lw_all := lw_g (lw_at lw_m5 231 rfl) rfl
theorem q1208 : (Jvm.Cond.instanceMethod ({ cls := "AlertIndex$Range", name := "high", desc := "()I" } : Jvm.MethodName)) ∈ lw_all := lw_g (lw_at lw_m5 233 rfl) rfl
theorem q1209 : (Jvm.Cond.selects "AlertIndex$Range" ({ cls := "AlertIndex$Range", name := "high", desc := "()I" } : Jvm.MethodName) ({ cls := "AlertIndex$Range", name := "high", desc := "()I" } : Jvm.MethodName)) ∈ lw_all := lw_g (lw_at lw_m5 234 rfl) rfl
theorem q1210 : (Jvm.Cond.code ({ cls := "AlertIndex$Range", name := "high", desc := "()I" } : Jvm.MethodName) prog_5_method_8_code (1 : Nat) (Option.some Jvm.ClassFile.FieldType.int)) ∈ lw_all := lw_g (lw_at lw_m5 235 rfl) rfl
theorem q1636 : (Jvm.Cond.selects "AlertIndex$Range" ({ cls := "AlertIndex$Range", name := "name", desc := "()I" } : Jvm.MethodName) ({ cls := "AlertIndex$Range", name := "name", desc := "()I" } : Jvm.MethodName)) ∈ lw_all := lw_g (lw_at lw_m7 181 rfl) rfl
theorem q1650 : (Jvm.Cond.castable "AlertIndex$Range" "java/lang/Object") ∈ lw_tbl := lw_at lw_m7 195 rfl
theorem in_X6 : ∀ w ∈ wsX60, w ∈ lw_all := lw_in wsX60 [1181, 1183, 1185] (by decide +kernel) (by decide +kernel)
/-! AlertIndex$Barred -/
set_option maxRecDepth 100000
def RX7 : String := "AlertIndex$Barred"
def TX7 : u_T := fun k => match k with
  | _ => ("AlertIndex$Barred", "test", "LAlertIndex$Test;", true)
def tyX7 : Nat → FieldType := fun k => match k with
  | _ => .object "AlertIndex$Test"
abbrev wsX70 : List Cond := u_ws RX7 TX7 1
theorem nmX7 : ∀ a, a < 1 → ∀ b, b < 1 → a ≠ b → (TX7 a).2.1 ≠ (TX7 b).2.1 := by decide +kernel
theorem tyX7_ok : ∀ k, k < 1 → parseFieldDescriptor (TX7 k).2.2.1 = some (tyX7 k) := by decide +kernel
abbrev cX7_isTrue : ByteArray := prog_2_method_5_code
def yX7_isTrue : MethodName := ⟨RX7, "isTrue", "([I)Z"⟩
def dkwX7_isTrue_0 : List UInt8 := [42, 180, 0, 7, 43, 185, 0, 23, 2, 0, 154, 0, 7, 4, 167, 0, 4, 3, 172]
abbrev dktX7_isTrue_0 : List UInt8 := dkwX7_isTrue_0 ++ []
theorem dksX7_isTrue_0 : cX7_isTrue.data.toList.drop 0 = dktX7_isTrue_0 := by decide +kernel
theorem dX7_isTrue_0 : decode cX7_isTrue 0 = .ok (.aload_n 0, 1) := dk_42 (dk_at dksX7_isTrue_0 0 rfl rfl)
theorem dX7_isTrue_1 : decode cX7_isTrue 1 = .ok (.getfield 7, 3) := dk_180 0 7 (dk_at dksX7_isTrue_0 1 rfl rfl)
theorem dX7_isTrue_4 : decode cX7_isTrue 4 = .ok (.aload_n 1, 1) := dk_43 (dk_at dksX7_isTrue_0 4 rfl rfl)
theorem dX7_isTrue_5 : decode cX7_isTrue 5 = .ok (.invokeinterface 23 2, 5) := by decide +kernel
theorem dX7_isTrue_10 : decode cX7_isTrue 10 = .ok (.ifCond .ne 7, 3) := dk_154 0 7 (dk_at dksX7_isTrue_0 10 rfl rfl)
theorem dX7_isTrue_13 : decode cX7_isTrue 13 = .ok (.iconst 1, 1) := dk_4 (dk_at dksX7_isTrue_0 13 rfl rfl)
theorem dX7_isTrue_14 : decode cX7_isTrue 14 = .ok (.goto 4, 3) := dk_167 0 4 (dk_at dksX7_isTrue_0 14 rfl rfl)
theorem dX7_isTrue_17 : decode cX7_isTrue 17 = .ok (.iconst 0, 1) := dk_3 (dk_at dksX7_isTrue_0 17 rfl rfl)
theorem dX7_isTrue_18 : decode cX7_isTrue 18 = .ok (.ireturn, 1) := dk_172 (dk_at dksX7_isTrue_0 18 rfl rfl)
abbrev cX7_name : ByteArray := prog_2_method_2_code
def yX7_name : MethodName := ⟨RX7, "name", "()I"⟩
def dkwX7_name_0 : List UInt8 := [42, 180, 0, 7, 185, 0, 13, 1, 0, 172]
abbrev dktX7_name_0 : List UInt8 := dkwX7_name_0 ++ []
theorem dksX7_name_0 : cX7_name.data.toList.drop 0 = dktX7_name_0 := by decide +kernel
theorem dX7_name_0 : decode cX7_name 0 = .ok (.aload_n 0, 1) := dk_42 (dk_at dksX7_name_0 0 rfl rfl)
theorem dX7_name_1 : decode cX7_name 1 = .ok (.getfield 7, 3) := dk_180 0 7 (dk_at dksX7_name_0 1 rfl rfl)
theorem dX7_name_4 : decode cX7_name 4 = .ok (.invokeinterface 13 1, 5) := by decide +kernel
theorem dX7_name_9 : decode cX7_name 9 = .ok (.ireturn, 1) := dk_172 (dk_at dksX7_name_0 9 rfl rfl)
abbrev cX7_has : ByteArray := prog_2_method_3_code
def yX7_has : MethodName := ⟨RX7, "has", "(I)Z"⟩
def dkwX7_has_0 : List UInt8 := [42, 180, 0, 7, 27, 185, 0, 19, 2, 0, 154, 0, 7, 4, 167, 0, 4, 3, 172]
abbrev dktX7_has_0 : List UInt8 := dkwX7_has_0 ++ []
theorem dksX7_has_0 : cX7_has.data.toList.drop 0 = dktX7_has_0 := by decide +kernel
theorem dX7_has_0 : decode cX7_has 0 = .ok (.aload_n 0, 1) := dk_42 (dk_at dksX7_has_0 0 rfl rfl)
theorem dX7_has_1 : decode cX7_has 1 = .ok (.getfield 7, 3) := dk_180 0 7 (dk_at dksX7_has_0 1 rfl rfl)
theorem dX7_has_4 : decode cX7_has 4 = .ok (.iload_n 1, 1) := dk_27 (dk_at dksX7_has_0 4 rfl rfl)
theorem dX7_has_5 : decode cX7_has 5 = .ok (.invokeinterface 19 2, 5) := by decide +kernel
theorem dX7_has_10 : decode cX7_has 10 = .ok (.ifCond .ne 7, 3) := dk_154 0 7 (dk_at dksX7_has_0 10 rfl rfl)
theorem dX7_has_13 : decode cX7_has 13 = .ok (.iconst 1, 1) := dk_4 (dk_at dksX7_has_0 13 rfl rfl)
theorem dX7_has_14 : decode cX7_has 14 = .ok (.goto 4, 3) := dk_167 0 4 (dk_at dksX7_has_0 14 rfl rfl)
theorem dX7_has_17 : decode cX7_has 17 = .ok (.iconst 0, 1) := dk_3 (dk_at dksX7_has_0 17 rfl rfl)
theorem dX7_has_18 : decode cX7_has 18 = .ok (.ireturn, 1) := dk_172 (dk_at dksX7_has_0 18 rfl rfl)
abbrev cX7_hashCode : ByteArray := prog_2_method_7_code
def yX7_hashCode : MethodName := ⟨RX7, "hashCode", "()I"⟩
theorem dX7_hashCode_0 : decode cX7_hashCode 0 = .ok (.aload_n 0, 1) := by decide +kernel
theorem dX7_hashCode_1 : decode cX7_hashCode 1 = .ok (.invokedynamic 31, 5) := by decide +kernel
theorem dX7_hashCode_6 : decode cX7_hashCode 6 = .ok (.ireturn, 1) := by decide +kernel
abbrev cX7_equals : ByteArray := prog_2_method_8_code
def yX7_equals : MethodName := ⟨RX7, "equals", "(Ljava/lang/Object;)Z"⟩
def dkwX7_equals_0 : List UInt8 := [42, 43, 186, 0, 35, 0, 0, 172]
abbrev dktX7_equals_0 : List UInt8 := dkwX7_equals_0 ++ []
theorem dksX7_equals_0 : cX7_equals.data.toList.drop 0 = dktX7_equals_0 := by decide +kernel
theorem dX7_equals_0 : decode cX7_equals 0 = .ok (.aload_n 0, 1) := dk_42 (dk_at dksX7_equals_0 0 rfl rfl)
theorem dX7_equals_1 : decode cX7_equals 1 = .ok (.aload_n 1, 1) := dk_43 (dk_at dksX7_equals_0 1 rfl rfl)
theorem dX7_equals_2 : decode cX7_equals 2 = .ok (.invokedynamic 35, 5) := by decide +kernel
theorem dX7_equals_7 : decode cX7_equals 7 = .ok (.ireturn, 1) := dk_172 (dk_at dksX7_equals_0 7 rfl rfl)
abbrev cX7_isPlain : ByteArray := prog_2_method_4_code
def yX7_isPlain : MethodName := ⟨RX7, "isPlain", "()Z"⟩
theorem dX7_isPlain_0 : decode cX7_isPlain 0 = .ok (.iconst 0, 1) := by decide +kernel
theorem dX7_isPlain_1 : decode cX7_isPlain 1 = .ok (.ireturn, 1) := by decide +kernel
abbrev cX7_init : ByteArray := prog_2_method_1_code
def yX7_init : MethodName := ⟨RX7, "<init>", "(LAlertIndex$Test;)V"⟩
def dkwX7_init_0 : List UInt8 := [42, 183, 0, 1, 42, 43, 181, 0, 7, 177]
abbrev dktX7_init_0 : List UInt8 := dkwX7_init_0 ++ []
theorem dksX7_init_0 : cX7_init.data.toList.drop 0 = dktX7_init_0 := by decide +kernel
theorem dX7_init_0 : decode cX7_init 0 = .ok (.aload_n 0, 1) := dk_42 (dk_at dksX7_init_0 0 rfl rfl)
theorem dX7_init_1 : decode cX7_init 1 = .ok (.invokespecial 1, 3) := dk_183 0 1 (dk_at dksX7_init_0 1 rfl rfl)
theorem dX7_init_4 : decode cX7_init 4 = .ok (.aload_n 0, 1) := dk_42 (dk_at dksX7_init_0 4 rfl rfl)
theorem dX7_init_5 : decode cX7_init 5 = .ok (.aload_n 1, 1) := dk_43 (dk_at dksX7_init_0 5 rfl rfl)
theorem dX7_init_6 : decode cX7_init 6 = .ok (.putfield 7, 3) := dk_181 0 7 (dk_at dksX7_init_0 6 rfl rfl)
theorem dX7_init_9 : decode cX7_init 9 = .ok (.return_, 1) := dk_177 (dk_at dksX7_init_0 9 rfl rfl)
theorem q42 : (Jvm.Cond.initialized "AlertIndex$Barred") ∈ lw_all := lw_g (lw_at lw_m1 27 rfl) rfl
theorem q194 : (Jvm.Cond.castable "AlertIndex$Barred" "AlertIndex$Test") ∈ lw_tbl := lw_at lw_m1 179 rfl
theorem q195 : (Jvm.Cond.selects "AlertIndex$Barred" ({ cls := "AlertIndex$Test", name := "isTrue", desc := "([I)Z" } : Jvm.MethodName) ({ cls := "AlertIndex$Barred", name := "isTrue", desc := "([I)Z" } : Jvm.MethodName)) ∈ lw_all := lw_g (lw_at lw_m1 180 rfl) rfl
theorem q196 : (Jvm.Cond.unhidden "AlertIndex$Barred" "isTrue" "([I)Z") ∈ lw_tbl := lw_at lw_m1 181 rfl
theorem q197 : (Jvm.Cond.instanceMethod ({ cls := "AlertIndex$Barred", name := "isTrue", desc := "([I)Z" } : Jvm.MethodName)) ∈ lw_all := lw_g (lw_at lw_m1 182 rfl) rfl
theorem q198 : (Jvm.Cond.publicMethod ({ cls := "AlertIndex$Barred", name := "isTrue", desc := "([I)Z" } : Jvm.MethodName)) ∈ lw_tbl := lw_at lw_m1 183 rfl
theorem q199 : (Jvm.Cond.code ({ cls := "AlertIndex$Barred", name := "isTrue", desc := "([I)Z" } : Jvm.MethodName) prog_2_method_5_code (2 : Nat) (Option.some Jvm.ClassFile.FieldType.boolean)) ∈ lw_all := lw_g (lw_at lw_m1 184 rfl) rfl
theorem q200 : (Jvm.Cond.interfaceEntry "AlertIndex$Barred" (23 : Nat)) ∈ lw_tbl := lw_at lw_m1 185 rfl
theorem q201 : (Jvm.Cond.methodLink "AlertIndex$Barred" (23 : Nat) ({ cls := "AlertIndex$Test", name := "isTrue", desc := "([I)Z" } : Jvm.MethodName)) ∈ lw_all := lw_g (lw_at lw_m1 186 rfl) rfl
theorem q211 : (Jvm.Cond.selects "AlertIndex$Barred" ({ cls := "AlertIndex$Test", name := "name", desc := "()I" } : Jvm.MethodName) ({ cls := "AlertIndex$Barred", name := "name", desc := "()I" } : Jvm.MethodName)) ∈ lw_all := lw_g (lw_at lw_m1 196 rfl) rfl
theorem q212 : (Jvm.Cond.unhidden "AlertIndex$Barred" "name" "()I") ∈ lw_tbl := lw_at lw_m1 197 rfl
theorem q213 : (Jvm.Cond.instanceMethod ({ cls := "AlertIndex$Barred", name := "name", desc := "()I" } : Jvm.MethodName)) ∈ lw_all := lw_g (lw_at lw_m1 198 rfl) rfl
theorem q214 : (Jvm.Cond.publicMethod ({ cls := "AlertIndex$Barred", name := "name", desc := "()I" } : Jvm.MethodName)) ∈ lw_tbl := lw_at lw_m1 199 rfl
theorem q215 : (Jvm.Cond.code ({ cls := "AlertIndex$Barred", name := "name", desc := "()I" } : Jvm.MethodName) prog_2_method_2_code (1 : Nat) (Option.some Jvm.ClassFile.FieldType.int)) ∈ lw_all := lw_g (lw_at lw_m1 200 rfl) rfl
theorem q216 : (Jvm.Cond.interfaceEntry "AlertIndex$Barred" (13 : Nat)) ∈ lw_tbl := lw_at lw_m1 201 rfl
theorem q217 : (Jvm.Cond.methodLink "AlertIndex$Barred" (13 : Nat) ({ cls := "AlertIndex$Test", name := "name", desc := "()I" } : Jvm.MethodName)) ∈ lw_all := lw_g (lw_at lw_m1 202 rfl) rfl
theorem q227 : (Jvm.Cond.selects "AlertIndex$Barred" ({ cls := "AlertIndex$Test", name := "has", desc := "(I)Z" } : Jvm.MethodName) ({ cls := "AlertIndex$Barred", name := "has", desc := "(I)Z" } : Jvm.MethodName)) ∈ lw_all := lw_g (lw_at lw_m1 212 rfl) rfl
theorem q228 : (Jvm.Cond.unhidden "AlertIndex$Barred" "has" "(I)Z") ∈ lw_tbl := lw_at lw_m1 213 rfl
theorem q229 : (Jvm.Cond.instanceMethod ({ cls := "AlertIndex$Barred", name := "has", desc := "(I)Z" } : Jvm.MethodName)) ∈ lw_all := lw_g (lw_at lw_m1 214 rfl) rfl
theorem q230 : (Jvm.Cond.publicMethod ({ cls := "AlertIndex$Barred", name := "has", desc := "(I)Z" } : Jvm.MethodName)) ∈ lw_tbl := lw_at lw_m1 215 rfl
theorem q231 : (Jvm.Cond.code ({ cls := "AlertIndex$Barred", name := "has", desc := "(I)Z" } : Jvm.MethodName) prog_2_method_3_code (2 : Nat) (Option.some Jvm.ClassFile.FieldType.boolean)) ∈ lw_all := lw_g (lw_at lw_m1 216 rfl) rfl
theorem q232 : (Jvm.Cond.interfaceEntry "AlertIndex$Barred" (19 : Nat)) ∈ lw_tbl := lw_at lw_m1 217 rfl
theorem q233 : (Jvm.Cond.methodLink "AlertIndex$Barred" (19 : Nat) ({ cls := "AlertIndex$Test", name := "has", desc := "(I)Z" } : Jvm.MethodName)) ∈ lw_all := lw_g (lw_at lw_m1 218 rfl) rfl
theorem q596 : (Jvm.Cond.selects "AlertIndex$Barred" ({ cls := "java/lang/Object", name := "hashCode", desc := "()I" } : Jvm.MethodName) ({ cls := "AlertIndex$Barred", name := "hashCode", desc := "()I" } : Jvm.MethodName)) ∈ lw_all := lw_g (lw_at lw_m3 101 rfl) rfl
theorem q597 : (Jvm.Cond.instanceMethod ({ cls := "AlertIndex$Barred", name := "hashCode", desc := "()I" } : Jvm.MethodName)) ∈ lw_all := lw_g (lw_at lw_m3 102 rfl) rfl
theorem q598 : (Jvm.Cond.code ({ cls := "AlertIndex$Barred", name := "hashCode", desc := "()I" } : Jvm.MethodName) prog_2_method_7_code (1 : Nat) (Option.some Jvm.ClassFile.FieldType.int)) ∈ lw_all := lw_g (lw_at lw_m3 103 rfl) rfl
theorem q683 : (Jvm.Cond.selects "AlertIndex$Barred" ({ cls := "java/lang/Object", name := "equals", desc := "(Ljava/lang/Object;)Z" } : Jvm.MethodName) ({ cls := "AlertIndex$Barred", name := "equals", desc := "(Ljava/lang/Object;)Z" } : Jvm.MethodName)) ∈ lw_all := lw_g (lw_at lw_m3 188 rfl) rfl
theorem q684 : (Jvm.Cond.instanceMethod ({ cls := "AlertIndex$Barred", name := "equals", desc := "(Ljava/lang/Object;)Z" } : Jvm.MethodName)) ∈ lw_all := lw_g (lw_at lw_m3 189 rfl) rfl
theorem q685 : (Jvm.Cond.code ({ cls := "AlertIndex$Barred", name := "equals", desc := "(Ljava/lang/Object;)Z" } : Jvm.MethodName) prog_2_method_8_code (2 : Nat) (Option.some Jvm.ClassFile.FieldType.boolean)) ∈ lw_all := lw_g (lw_at lw_m3 190 rfl) rfl
theorem q732 : (Jvm.Cond.selects "AlertIndex$Barred" ({ cls := "java/lang/Object", name := "getClass", desc := "()Ljava/lang/Class;" } : Jvm.MethodName) ({ cls := "java/lang/Object", name := "getClass", desc := "()Ljava/lang/Class;" } : Jvm.MethodName)) ∈ lw_all := lw_g (lw_at lw_m3 237 rfl) rfl
theorem q945 : (Jvm.Cond.selects "AlertIndex$Barred" ({ cls := "AlertIndex$Test", name := "isPlain", desc := "()Z" } : Jvm.MethodName) ({ cls := "AlertIndex$Barred", name := "isPlain", desc := "()Z" } : Jvm.MethodName)) ∈ lw_all := lw_g (lw_at lw_m4 210 rfl) rfl
theorem q946 : (Jvm.Cond.unhidden "AlertIndex$Barred" "isPlain" "()Z") ∈ lw_tbl := lw_at lw_m4 211 rfl
theorem q947 : (Jvm.Cond.instanceMethod ({ cls := "AlertIndex$Barred", name := "isPlain", desc := "()Z" } : Jvm.MethodName)) ∈ lw_all := lw_g (lw_at lw_m4 212 rfl) rfl
theorem q948 : (Jvm.Cond.publicMethod ({ cls := "AlertIndex$Barred", name := "isPlain", desc := "()Z" } : Jvm.MethodName)) ∈ lw_tbl := lw_at lw_m4 213 rfl
theorem q949 : (Jvm.Cond.code ({ cls := "AlertIndex$Barred", name := "isPlain", desc := "()Z" } : Jvm.MethodName) prog_2_method_4_code (1 : Nat) (Option.some Jvm.ClassFile.FieldType.boolean)) ∈ lw_all := lw_g (lw_at lw_m4 214 rfl) rfl
theorem q1189 : (Jvm.Cond.instantiable "AlertIndex$Barred" (1 : Nat)) ∈ lw_all := lw_g (lw_at lw_m5 214 rfl) rfl
theorem q1191 : (Jvm.Cond.instanceMethod ({ cls := "AlertIndex$Barred", name := "<init>", desc := "(LAlertIndex$Test;)V" } : Jvm.MethodName)) ∈ lw_all := lw_g (lw_at lw_m5 216 rfl) rfl
theorem q1192 : (Jvm.Cond.code ({ cls := "AlertIndex$Barred", name := "<init>", desc := "(LAlertIndex$Test;)V" } : Jvm.MethodName) prog_2_method_1_code (2 : Nat) (Option.none : Option Jvm.ClassFile.FieldType)) ∈ lw_all := lw_g (lw_at lw_m5 217 rfl) rfl
theorem q1193 : (Jvm.Cond.methodLink "AlertIndex$Barred" (1 : Nat) ({ cls := "java/lang/Record", name := "<init>", desc := "()V" } : Jvm.MethodName)) ∈ lw_all := lw_g (lw_at lw_m5 218 rfl) rfl
theorem q1194 : (Jvm.Cond.fieldLink "AlertIndex$Barred" (7 : Nat) "AlertIndex$Barred" "test" "LAlertIndex$Test;") ∈ lw_all := lw_g (lw_at lw_m5 219 rfl) rfl
theorem q1195 : (Jvm.Cond.laysFinal "AlertIndex$Barred" "AlertIndex$Barred" "test" "LAlertIndex$Test;") ∈ lw_all := lw_g (lw_at lw_m5 220 rfl) rfl
theorem q1196 : (Jvm.Cond.soleField "AlertIndex$Barred" "test") ∈ lw_all := lw_g (lw_at lw_m5 221 rfl) rfl
theorem q1197 : (Jvm.Cond.superclass "AlertIndex$Barred" "java/lang/Record") ∈ lw_all := lw_g (lw_at lw_m5 222 rfl) rfl
theorem q1651 : (Jvm.Cond.castable "AlertIndex$Barred" "java/lang/Object") ∈ lw_tbl := lw_at lw_m7 196 rfl
theorem in_X7 : ∀ w ∈ wsX70, w ∈ lw_all := lw_in wsX70 [1195] (by decide +kernel) (by decide +kernel)
/-! the law's own entry -/
set_option maxRecDepth 100000
abbrev cL_law : ByteArray := code
def dkwL_law_45 : List UInt8 := [167, 251, 181, 4, 172]
abbrev dktL_law_45 : List UInt8 := dkwL_law_45 ++ []
def dkwL_law_44 : List UInt8 := [172, 21, 5, 154, 0, 15, 45, 3, 47, 21, 6, 133, 148, 153, 0, 5, 3, 172, 167, 0, 3, 132, 4, 6]
abbrev dktL_law_44 : List UInt8 := dkwL_law_44 ++ dktL_law_45
def dkwL_law_43 : List UInt8 := [54, 5, 44, 42, 21, 4, 4, 96, 46, 182, 0, 138, 54, 6, 44, 182, 0, 73, 21, 5, 159, 0, 5, 3]
abbrev dktL_law_43 : List UInt8 := dkwL_law_43 ++ dktL_law_44
def dkwL_law_42 : List UInt8 := [21, 6, 133, 148, 153, 0, 5, 3, 172, 167, 0, 59, 43, 42, 21, 4, 4, 96, 46, 45, 184, 0, 136]
abbrev dktL_law_42 : List UInt8 := dkwL_law_42 ++ dktL_law_43
def dkwL_law_41 : List UInt8 := [182, 0, 135, 54, 6, 44, 182, 0, 73, 21, 5, 159, 0, 5, 3, 172, 21, 5, 154, 0, 15, 45, 3, 47]
abbrev dktL_law_41 : List UInt8 := dkwL_law_41 ++ dktL_law_42
def dkwL_law_40 : List UInt8 := [167, 0, 115, 43, 42, 21, 4, 4, 96, 46, 45, 184, 0, 133, 54, 5, 44, 42, 21, 4, 4, 96, 46]
abbrev dktL_law_40 : List UInt8 := dkwL_law_40 ++ dktL_law_41
def dkwL_law_39 : List UInt8 := [154, 0, 22, 45, 3, 47, 21, 6, 153, 0, 7, 10, 167, 0, 4, 9, 148, 153, 0, 5, 3, 172]
abbrev dktL_law_39 : List UInt8 := dkwL_law_39 ++ dktL_law_40
def dkwL_law_38 : List UInt8 := [21, 4, 4, 96, 46, 182, 0, 132, 54, 6, 44, 182, 0, 73, 21, 5, 159, 0, 5, 3, 172, 21, 5]
abbrev dktL_law_38 : List UInt8 := dkwL_law_38 ++ dktL_law_39
def dkwL_law_37 : List UInt8 := [44, 182, 0, 129, 159, 0, 180, 3, 172, 43, 42, 21, 4, 4, 96, 46, 45, 184, 0, 130, 54, 5, 44, 42]
abbrev dktL_law_37 : List UInt8 := dkwL_law_37 ++ dktL_law_38
def dkwL_law_36 : List UInt8 := [21, 5, 154, 0, 15, 45, 3, 47, 21, 6, 133, 148, 153, 0, 5, 3, 172, 167, 0, 191, 43, 182, 0, 126]
abbrev dktL_law_36 : List UInt8 := dkwL_law_36 ++ dktL_law_37
def dkwL_law_35 : List UInt8 := [96, 46, 42, 21, 4, 6, 96, 46, 182, 0, 125, 54, 6, 44, 182, 0, 73, 21, 5, 159, 0, 5, 3, 172]
abbrev dktL_law_35 : List UInt8 := dkwL_law_35 ++ dktL_law_36
def dkwL_law_34 : List UInt8 := [46, 42, 21, 4, 6, 96, 46, 45, 184, 0, 122, 54, 5, 44, 42, 21, 4, 4, 96, 46, 42, 21, 4, 5]
abbrev dktL_law_34 : List UInt8 := dkwL_law_34 ++ dktL_law_35
def dkwL_law_33 : List UInt8 := [21, 6, 133, 148, 153, 0, 5, 3, 172, 167, 1, 15, 43, 42, 21, 4, 4, 96, 46, 42, 21, 4, 5, 96]
abbrev dktL_law_33 : List UInt8 := dkwL_law_33 ++ dktL_law_34
def dkwL_law_32 : List UInt8 := [182, 0, 121, 54, 6, 44, 182, 0, 73, 21, 5, 159, 0, 5, 3, 172, 21, 5, 154, 0, 15, 45, 3, 47]
abbrev dktL_law_32 : List UInt8 := dkwL_law_32 ++ dktL_law_33
def dkwL_law_31 : List UInt8 := [5, 96, 46, 45, 184, 0, 119, 54, 5, 44, 42, 21, 4, 4, 96, 46, 42, 21, 4, 5, 96, 46]
abbrev dktL_law_31 : List UInt8 := dkwL_law_31 ++ dktL_law_32
def dkwL_law_30 : List UInt8 := [42, 21, 4, 4, 96, 46, 182, 0, 118, 159, 1, 85, 3, 172, 43, 42, 21, 4, 4, 96, 46, 42, 21, 4]
abbrev dktL_law_30 : List UInt8 := dkwL_law_30 ++ dktL_law_31
def dkwL_law_29 : List UInt8 := [47, 21, 6, 133, 148, 153, 0, 5, 3, 172, 167, 1, 108, 43, 42, 21, 4, 4, 96, 46, 182, 0, 115, 44]
abbrev dktL_law_29 : List UInt8 := dkwL_law_29 ++ dktL_law_30
def dkwL_law_28 : List UInt8 := [46, 182, 0, 114, 54, 6, 44, 182, 0, 73, 21, 5, 159, 0, 5, 3, 172, 21, 5, 154, 0, 15, 45, 3]
abbrev dktL_law_28 : List UInt8 := dkwL_law_28 ++ dktL_law_29
def dkwL_law_27 : List UInt8 := [159, 1, 166, 3, 172, 43, 42, 21, 4, 4, 96, 46, 45, 184, 0, 112, 54, 5, 44, 42, 21, 4, 4, 96]
abbrev dktL_law_27 : List UInt8 := dkwL_law_27 ++ dktL_law_28
def dkwL_law_26 : List UInt8 := [167, 1, 190, 43, 182, 0, 104, 44, 182, 0, 107, 159, 1, 179, 3, 172, 43, 182, 0, 108, 44, 182, 0, 111]
abbrev dktL_law_26 : List UInt8 := dkwL_law_26 ++ dktL_law_27
def dkwL_law_25 : List UInt8 := [154, 0, 22, 45, 3, 47, 21, 6, 153, 0, 7, 10, 167, 0, 4, 9, 148, 153, 0, 5, 3, 172]
abbrev dktL_law_25 : List UInt8 := dkwL_law_25 ++ dktL_law_26
def dkwL_law_24 : List UInt8 := [21, 4, 4, 96, 46, 182, 0, 103, 54, 6, 44, 182, 0, 73, 21, 5, 159, 0, 5, 3, 172, 21, 5]
abbrev dktL_law_24 : List UInt8 := dkwL_law_24 ++ dktL_law_25
def dkwL_law_23 : List UInt8 := [148, 153, 0, 5, 3, 172, 167, 1, 253, 43, 42, 21, 4, 4, 96, 46, 45, 184, 0, 101, 54, 5, 44, 42]
abbrev dktL_law_23 : List UInt8 := dkwL_law_23 ++ dktL_law_24
def dkwL_law_22 : List UInt8 := [54, 6, 44, 182, 0, 73, 21, 5, 159, 0, 5, 3, 172, 21, 5, 154, 0, 15, 45, 3, 47, 21, 6, 133]
abbrev dktL_law_22 : List UInt8 := dkwL_law_22 ++ dktL_law_23
def dkwL_law_21 : List UInt8 := [172, 43, 42, 21, 4, 4, 96, 46, 45, 184, 0, 98, 54, 5, 44, 42, 21, 4, 4, 96, 46, 182, 0, 100]
abbrev dktL_law_21 : List UInt8 := dkwL_law_21 ++ dktL_law_22
def dkwL_law_20 : List UInt8 := [21, 6, 133, 148, 153, 0, 5, 3, 172, 167, 2, 66, 43, 182, 0, 94, 44, 182, 0, 97, 159, 2, 55, 3]
abbrev dktL_law_20 : List UInt8 := dkwL_law_20 ++ dktL_law_21
def dkwL_law_19 : List UInt8 := [182, 0, 93, 54, 6, 44, 182, 0, 73, 21, 5, 159, 0, 5, 3, 172, 21, 5, 154, 0, 15, 45, 3, 47]
abbrev dktL_law_19 : List UInt8 := dkwL_law_19 ++ dktL_law_20
def dkwL_law_18 : List UInt8 := [5, 96, 46, 45, 184, 0, 91, 54, 5, 44, 42, 21, 4, 4, 96, 46, 42, 21, 4, 5, 96, 46]
abbrev dktL_law_18 : List UInt8 := dkwL_law_18 ++ dktL_law_19
def dkwL_law_17 : List UInt8 := [3, 47, 21, 6, 133, 148, 153, 0, 5, 3, 172, 167, 2, 134, 43, 42, 21, 4, 4, 96, 46, 42, 21, 4]
abbrev dktL_law_17 : List UInt8 := dkwL_law_17 ++ dktL_law_18
def dkwL_law_16 : List UInt8 := [96, 46, 182, 0, 90, 54, 6, 44, 182, 0, 73, 21, 5, 159, 0, 5, 3, 172, 21, 5, 154, 0, 15, 45]
abbrev dktL_law_16 : List UInt8 := dkwL_law_16 ++ dktL_law_17
def dkwL_law_15 : List UInt8 := [46, 42, 21, 4, 5, 96, 46, 45, 184, 0, 87, 54, 5, 44, 42, 21, 4, 4, 96, 46, 42, 21, 4, 5]
abbrev dktL_law_15 : List UInt8 := dkwL_law_15 ++ dktL_law_16
def dkwL_law_14 : List UInt8 := [154, 0, 15, 45, 3, 47, 21, 6, 133, 148, 153, 0, 5, 3, 172, 167, 2, 202, 43, 42, 21, 4, 4, 96]
abbrev dktL_law_14 : List UInt8 := dkwL_law_14 ++ dktL_law_15
def dkwL_law_13 : List UInt8 := [21, 4, 4, 96, 46, 182, 0, 86, 54, 6, 44, 182, 0, 73, 21, 5, 159, 0, 5, 3, 172, 21, 5]
abbrev dktL_law_13 : List UInt8 := dkwL_law_13 ++ dktL_law_14
def dkwL_law_12 : List UInt8 := [148, 153, 0, 5, 3, 172, 167, 3, 2, 43, 42, 21, 4, 4, 96, 46, 45, 184, 0, 84, 54, 5, 44, 42]
abbrev dktL_law_12 : List UInt8 := dkwL_law_12 ++ dktL_law_13
def dkwL_law_11 : List UInt8 := [54, 6, 44, 182, 0, 73, 21, 5, 159, 0, 5, 3, 172, 21, 5, 154, 0, 15, 45, 3, 47, 21, 6, 133]
abbrev dktL_law_11 : List UInt8 := dkwL_law_11 ++ dktL_law_12
def dkwL_law_10 : List UInt8 := [42, 21, 4, 7, 96, 46, 42, 21, 4, 8, 96, 46, 153, 0, 7, 4, 167, 0, 4, 3, 182, 0, 83]
abbrev dktL_law_10 : List UInt8 := dkwL_law_10 ++ dktL_law_11
def dkwL_law_9 : List UInt8 := [184, 0, 80, 54, 5, 44, 42, 21, 4, 4, 96, 46, 42, 21, 4, 5, 96, 46, 42, 21, 4, 6, 96, 46]
abbrev dktL_law_9 : List UInt8 := dkwL_law_9 ++ dktL_law_10
def dkwL_law_8 : List UInt8 := [6, 96, 46, 42, 21, 4, 7, 96, 46, 42, 21, 4, 8, 96, 46, 153, 0, 7, 4, 167, 0, 4, 3, 45]
abbrev dktL_law_8 : List UInt8 := dkwL_law_8 ++ dktL_law_9
def dkwL_law_7 : List UInt8 := [153, 0, 5, 3, 172, 167, 3, 122, 43, 42, 21, 4, 4, 96, 46, 42, 21, 4, 5, 96, 46, 42, 21, 4]
abbrev dktL_law_7 : List UInt8 := dkwL_law_7 ++ dktL_law_8
def dkwL_law_6 : List UInt8 := [182, 0, 73, 21, 5, 159, 0, 5, 3, 172, 21, 5, 154, 0, 15, 45, 3, 47, 21, 6, 133, 148]
abbrev dktL_law_6 : List UInt8 := dkwL_law_6 ++ dktL_law_7
def dkwL_law_5 : List UInt8 := [4, 96, 46, 45, 184, 0, 76, 54, 5, 44, 42, 21, 4, 4, 96, 46, 182, 0, 79, 54, 6, 44]
abbrev dktL_law_5 : List UInt8 := dkwL_law_5 ++ dktL_law_6
def dkwL_law_4 : List UInt8 := [21, 5, 154, 0, 15, 45, 3, 47, 21, 6, 133, 148, 153, 0, 5, 3, 172, 167, 3, 178, 43, 42, 21, 4]
abbrev dktL_law_4 : List UInt8 := dkwL_law_4 ++ dktL_law_5
def dkwL_law_3 : List UInt8 := [43, 45, 184, 0, 67, 54, 5, 44, 182, 0, 72, 54, 6, 44, 182, 0, 73, 21, 5, 159, 0, 5, 3, 172]
abbrev dktL_law_3 : List UInt8 := dkwL_law_3 ++ dktL_law_4
def dkwL_law_2 : List UInt8 := [170, 0, 0, 0, 0, 0, 4, 55, 0, 0, 0, 0, 0, 0, 0, 18, 0, 0, 0, 92, 0, 0, 0, 136, 0, 0, 0, 192, 0, 0, 1, 56, 0, 0, 1, 112, 0, 0, 1, 180, 0, 0, 1, 248, 0, 0, 2, 5, 0, 0, 2, 61, 0, 0, 2, 124, 0, 0, 2, 137, 0, 0, 2, 150, 0, 0, 2, 206, 0, 0, 2, 231, 0, 0, 3, 43, 0, 0, 3, 123, 0, 0, 3, 136, 0, 0, 3, 199, 0, 0, 3, 255]
abbrev dktL_law_2 : List UInt8 := dkwL_law_2 ++ dktL_law_3
def dkwL_law_1 : List UInt8 := [21, 4, 42, 190, 16, 6, 100, 163, 4, 71, 42, 21, 4, 46, 16, 31, 126]
abbrev dktL_law_1 : List UInt8 := dkwL_law_1 ++ dktL_law_2
def dkwL_law_0 : List UInt8 := [187, 0, 8, 89, 183, 0, 63, 76, 187, 0, 64, 89, 183, 0, 66, 77, 4, 188, 11, 78, 3, 54, 4]
abbrev dktL_law_0 : List UInt8 := dkwL_law_0 ++ dktL_law_1
theorem dksL_law_0 : cL_law.data.toList.drop 0 = dktL_law_0 := by decide +kernel
theorem dksL_law_1 : cL_law.data.toList.drop 23 = dktL_law_1 := dk_seg dksL_law_0 23 rfl rfl
theorem dksL_law_2 : cL_law.data.toList.drop 40 = dktL_law_2 := dk_seg dksL_law_1 17 rfl rfl
theorem dksL_law_3 : cL_law.data.toList.drop 132 = dktL_law_3 := dk_seg dksL_law_2 92 rfl rfl
theorem dksL_law_4 : cL_law.data.toList.drop 156 = dktL_law_4 := dk_seg dksL_law_3 24 rfl rfl
theorem dksL_law_5 : cL_law.data.toList.drop 180 = dktL_law_5 := dk_seg dksL_law_4 24 rfl rfl
theorem dksL_law_6 : cL_law.data.toList.drop 202 = dktL_law_6 := dk_seg dksL_law_5 22 rfl rfl
theorem dksL_law_7 : cL_law.data.toList.drop 224 = dktL_law_7 := dk_seg dksL_law_6 22 rfl rfl
theorem dksL_law_8 : cL_law.data.toList.drop 248 = dktL_law_8 := dk_seg dksL_law_7 24 rfl rfl
theorem dksL_law_9 : cL_law.data.toList.drop 272 = dktL_law_9 := dk_seg dksL_law_8 24 rfl rfl
theorem dksL_law_10 : cL_law.data.toList.drop 296 = dktL_law_10 := dk_seg dksL_law_9 24 rfl rfl
theorem dksL_law_11 : cL_law.data.toList.drop 319 = dktL_law_11 := dk_seg dksL_law_10 23 rfl rfl
theorem dksL_law_12 : cL_law.data.toList.drop 343 = dktL_law_12 := dk_seg dksL_law_11 24 rfl rfl
theorem dksL_law_13 : cL_law.data.toList.drop 367 = dktL_law_13 := dk_seg dksL_law_12 24 rfl rfl
theorem dksL_law_14 : cL_law.data.toList.drop 390 = dktL_law_14 := dk_seg dksL_law_13 23 rfl rfl
theorem dksL_law_15 : cL_law.data.toList.drop 414 = dktL_law_15 := dk_seg dksL_law_14 24 rfl rfl
theorem dksL_law_16 : cL_law.data.toList.drop 438 = dktL_law_16 := dk_seg dksL_law_15 24 rfl rfl
theorem dksL_law_17 : cL_law.data.toList.drop 462 = dktL_law_17 := dk_seg dksL_law_16 24 rfl rfl
theorem dksL_law_18 : cL_law.data.toList.drop 486 = dktL_law_18 := dk_seg dksL_law_17 24 rfl rfl
theorem dksL_law_19 : cL_law.data.toList.drop 508 = dktL_law_19 := dk_seg dksL_law_18 22 rfl rfl
theorem dksL_law_20 : cL_law.data.toList.drop 532 = dktL_law_20 := dk_seg dksL_law_19 24 rfl rfl
theorem dksL_law_21 : cL_law.data.toList.drop 556 = dktL_law_21 := dk_seg dksL_law_20 24 rfl rfl
theorem dksL_law_22 : cL_law.data.toList.drop 580 = dktL_law_22 := dk_seg dksL_law_21 24 rfl rfl
theorem dksL_law_23 : cL_law.data.toList.drop 604 = dktL_law_23 := dk_seg dksL_law_22 24 rfl rfl
theorem dksL_law_24 : cL_law.data.toList.drop 628 = dktL_law_24 := dk_seg dksL_law_23 24 rfl rfl
theorem dksL_law_25 : cL_law.data.toList.drop 651 = dktL_law_25 := dk_seg dksL_law_24 23 rfl rfl
theorem dksL_law_26 : cL_law.data.toList.drop 673 = dktL_law_26 := dk_seg dksL_law_25 22 rfl rfl
theorem dksL_law_27 : cL_law.data.toList.drop 697 = dktL_law_27 := dk_seg dksL_law_26 24 rfl rfl
theorem dksL_law_28 : cL_law.data.toList.drop 721 = dktL_law_28 := dk_seg dksL_law_27 24 rfl rfl
theorem dksL_law_29 : cL_law.data.toList.drop 745 = dktL_law_29 := dk_seg dksL_law_28 24 rfl rfl
theorem dksL_law_30 : cL_law.data.toList.drop 769 = dktL_law_30 := dk_seg dksL_law_29 24 rfl rfl
theorem dksL_law_31 : cL_law.data.toList.drop 793 = dktL_law_31 := dk_seg dksL_law_30 24 rfl rfl
theorem dksL_law_32 : cL_law.data.toList.drop 815 = dktL_law_32 := dk_seg dksL_law_31 22 rfl rfl
theorem dksL_law_33 : cL_law.data.toList.drop 839 = dktL_law_33 := dk_seg dksL_law_32 24 rfl rfl
theorem dksL_law_34 : cL_law.data.toList.drop 863 = dktL_law_34 := dk_seg dksL_law_33 24 rfl rfl
theorem dksL_law_35 : cL_law.data.toList.drop 887 = dktL_law_35 := dk_seg dksL_law_34 24 rfl rfl
theorem dksL_law_36 : cL_law.data.toList.drop 911 = dktL_law_36 := dk_seg dksL_law_35 24 rfl rfl
theorem dksL_law_37 : cL_law.data.toList.drop 935 = dktL_law_37 := dk_seg dksL_law_36 24 rfl rfl
theorem dksL_law_38 : cL_law.data.toList.drop 959 = dktL_law_38 := dk_seg dksL_law_37 24 rfl rfl
theorem dksL_law_39 : cL_law.data.toList.drop 982 = dktL_law_39 := dk_seg dksL_law_38 23 rfl rfl
theorem dksL_law_40 : cL_law.data.toList.drop 1004 = dktL_law_40 := dk_seg dksL_law_39 22 rfl rfl
theorem dksL_law_41 : cL_law.data.toList.drop 1027 = dktL_law_41 := dk_seg dksL_law_40 23 rfl rfl
theorem dksL_law_42 : cL_law.data.toList.drop 1051 = dktL_law_42 := dk_seg dksL_law_41 24 rfl rfl
theorem dksL_law_43 : cL_law.data.toList.drop 1074 = dktL_law_43 := dk_seg dksL_law_42 23 rfl rfl
theorem dksL_law_44 : cL_law.data.toList.drop 1098 = dktL_law_44 := dk_seg dksL_law_43 24 rfl rfl
theorem dksL_law_45 : cL_law.data.toList.drop 1122 = dktL_law_45 := dk_seg dksL_law_44 24 rfl rfl
theorem dL_law_0 : decode cL_law 0 = .ok (.new 8, 3) := dk_187 0 8 (dk_at dksL_law_0 0 rfl rfl)
theorem dL_law_3 : decode cL_law 3 = .ok (.dup, 1) := dk_89 (dk_at dksL_law_0 3 rfl rfl)
theorem dL_law_4 : decode cL_law 4 = .ok (.invokespecial 63, 3) := dk_183 0 63 (dk_at dksL_law_0 4 rfl rfl)
theorem dL_law_7 : decode cL_law 7 = .ok (.astore_n 1, 1) := dk_76 (dk_at dksL_law_0 7 rfl rfl)
theorem dL_law_8 : decode cL_law 8 = .ok (.new 64, 3) := dk_187 0 64 (dk_at dksL_law_0 8 rfl rfl)
theorem dL_law_11 : decode cL_law 11 = .ok (.dup, 1) := dk_89 (dk_at dksL_law_0 11 rfl rfl)
theorem dL_law_12 : decode cL_law 12 = .ok (.invokespecial 66, 3) := dk_183 0 66 (dk_at dksL_law_0 12 rfl rfl)
theorem dL_law_15 : decode cL_law 15 = .ok (.astore_n 2, 1) := dk_77 (dk_at dksL_law_0 15 rfl rfl)
theorem dL_law_16 : decode cL_law 16 = .ok (.iconst 1, 1) := dk_4 (dk_at dksL_law_0 16 rfl rfl)
theorem dL_law_17 : decode cL_law 17 = .ok (.newarray .long, 2) := dk_188_11 (dk_at dksL_law_0 17 rfl rfl)
theorem dL_law_19 : decode cL_law 19 = .ok (.astore_n 3, 1) := dk_78 (dk_at dksL_law_0 19 rfl rfl)
theorem dL_law_20 : decode cL_law 20 = .ok (.iconst 0, 1) := dk_3 (dk_at dksL_law_0 20 rfl rfl)
theorem dL_law_21 : decode cL_law 21 = .ok (.istore 4, 2) := dk_54 4 (dk_at dksL_law_0 21 rfl rfl)
theorem dL_law_23 : decode cL_law 23 = .ok (.iload 4, 2) := dk_21 4 (dk_at dksL_law_1 0 rfl rfl)
theorem dL_law_25 : decode cL_law 25 = .ok (.aload_n 0, 1) := dk_42 (dk_at dksL_law_1 2 rfl rfl)
theorem dL_law_26 : decode cL_law 26 = .ok (.arraylength, 1) := dk_190 (dk_at dksL_law_1 3 rfl rfl)
theorem dL_law_27 : decode cL_law 27 = .ok (.bipush 6, 2) := dk_16 6 (dk_at dksL_law_1 4 rfl rfl)
theorem dL_law_29 : decode cL_law 29 = .ok (.isub, 1) := dk_100 (dk_at dksL_law_1 6 rfl rfl)
theorem dL_law_30 : decode cL_law 30 = .ok (.if_icmp .gt 1095, 3) := dk_163 4 71 (dk_at dksL_law_1 7 rfl rfl)
theorem dL_law_33 : decode cL_law 33 = .ok (.aload_n 0, 1) := dk_42 (dk_at dksL_law_1 10 rfl rfl)
theorem dL_law_34 : decode cL_law 34 = .ok (.iload 4, 2) := dk_21 4 (dk_at dksL_law_1 11 rfl rfl)
theorem dL_law_36 : decode cL_law 36 = .ok (.iaload, 1) := dk_46 (dk_at dksL_law_1 13 rfl rfl)
theorem dL_law_37 : decode cL_law 37 = .ok (.bipush 31, 2) := dk_16 31 (dk_at dksL_law_1 14 rfl rfl)
theorem dL_law_39 : decode cL_law 39 = .ok (.iand, 1) := dk_126 (dk_at dksL_law_1 16 rfl rfl)
theorem dL_law_40 : decode cL_law 40 = .ok (.tableswitch 1079 0 18 #[92, 136, 192, 312, 368, 436, 504, 517, 573, 636, 649, 662, 718, 743, 811, 891, 904, 967, 1023], 92) := by decide +kernel
theorem dL_law_132 : decode cL_law 132 = .ok (.aload_n 1, 1) := dk_43 (dk_at dksL_law_3 0 rfl rfl)
theorem dL_law_133 : decode cL_law 133 = .ok (.aload_n 3, 1) := dk_45 (dk_at dksL_law_3 1 rfl rfl)
theorem dL_law_134 : decode cL_law 134 = .ok (.invokestatic 67, 3) := dk_184 0 67 (dk_at dksL_law_3 2 rfl rfl)
theorem dL_law_137 : decode cL_law 137 = .ok (.istore 5, 2) := dk_54 5 (dk_at dksL_law_3 5 rfl rfl)
theorem dL_law_139 : decode cL_law 139 = .ok (.aload_n 2, 1) := dk_44 (dk_at dksL_law_3 7 rfl rfl)
theorem dL_law_140 : decode cL_law 140 = .ok (.invokevirtual 72, 3) := dk_182 0 72 (dk_at dksL_law_3 8 rfl rfl)
theorem dL_law_143 : decode cL_law 143 = .ok (.istore 6, 2) := dk_54 6 (dk_at dksL_law_3 11 rfl rfl)
theorem dL_law_145 : decode cL_law 145 = .ok (.aload_n 2, 1) := dk_44 (dk_at dksL_law_3 13 rfl rfl)
theorem dL_law_146 : decode cL_law 146 = .ok (.invokevirtual 73, 3) := dk_182 0 73 (dk_at dksL_law_3 14 rfl rfl)
theorem dL_law_149 : decode cL_law 149 = .ok (.iload 5, 2) := dk_21 5 (dk_at dksL_law_3 17 rfl rfl)
theorem dL_law_151 : decode cL_law 151 = .ok (.if_icmp .eq 5, 3) := dk_159 0 5 (dk_at dksL_law_3 19 rfl rfl)
theorem dL_law_154 : decode cL_law 154 = .ok (.iconst 0, 1) := dk_3 (dk_at dksL_law_3 22 rfl rfl)
theorem dL_law_155 : decode cL_law 155 = .ok (.ireturn, 1) := dk_172 (dk_at dksL_law_3 23 rfl rfl)
theorem dL_law_156 : decode cL_law 156 = .ok (.iload 5, 2) := dk_21 5 (dk_at dksL_law_4 0 rfl rfl)
theorem dL_law_158 : decode cL_law 158 = .ok (.ifCond .ne 15, 3) := dk_154 0 15 (dk_at dksL_law_4 2 rfl rfl)
theorem dL_law_161 : decode cL_law 161 = .ok (.aload_n 3, 1) := dk_45 (dk_at dksL_law_4 5 rfl rfl)
theorem dL_law_162 : decode cL_law 162 = .ok (.iconst 0, 1) := dk_3 (dk_at dksL_law_4 6 rfl rfl)
theorem dL_law_163 : decode cL_law 163 = .ok (.laload, 1) := dk_47 (dk_at dksL_law_4 7 rfl rfl)
theorem dL_law_164 : decode cL_law 164 = .ok (.iload 6, 2) := dk_21 6 (dk_at dksL_law_4 8 rfl rfl)
theorem dL_law_166 : decode cL_law 166 = .ok (.i2l, 1) := dk_133 (dk_at dksL_law_4 10 rfl rfl)
theorem dL_law_167 : decode cL_law 167 = .ok (.lcmp, 1) := dk_148 (dk_at dksL_law_4 11 rfl rfl)
theorem dL_law_168 : decode cL_law 168 = .ok (.ifCond .eq 5, 3) := dk_153 0 5 (dk_at dksL_law_4 12 rfl rfl)
theorem dL_law_171 : decode cL_law 171 = .ok (.iconst 0, 1) := dk_3 (dk_at dksL_law_4 15 rfl rfl)
theorem dL_law_172 : decode cL_law 172 = .ok (.ireturn, 1) := dk_172 (dk_at dksL_law_4 16 rfl rfl)
theorem dL_law_173 : decode cL_law 173 = .ok (.goto 946, 3) := dk_167 3 178 (dk_at dksL_law_4 17 rfl rfl)
theorem dL_law_176 : decode cL_law 176 = .ok (.aload_n 1, 1) := dk_43 (dk_at dksL_law_4 20 rfl rfl)
theorem dL_law_177 : decode cL_law 177 = .ok (.aload_n 0, 1) := dk_42 (dk_at dksL_law_4 21 rfl rfl)
theorem dL_law_178 : decode cL_law 178 = .ok (.iload 4, 2) := dk_21 4 (dk_at dksL_law_4 22 rfl rfl)
theorem dL_law_180 : decode cL_law 180 = .ok (.iconst 1, 1) := dk_4 (dk_at dksL_law_5 0 rfl rfl)
theorem dL_law_181 : decode cL_law 181 = .ok (.iadd, 1) := dk_96 (dk_at dksL_law_5 1 rfl rfl)
theorem dL_law_182 : decode cL_law 182 = .ok (.iaload, 1) := dk_46 (dk_at dksL_law_5 2 rfl rfl)
theorem dL_law_183 : decode cL_law 183 = .ok (.aload_n 3, 1) := dk_45 (dk_at dksL_law_5 3 rfl rfl)
theorem dL_law_184 : decode cL_law 184 = .ok (.invokestatic 76, 3) := dk_184 0 76 (dk_at dksL_law_5 4 rfl rfl)
theorem dL_law_187 : decode cL_law 187 = .ok (.istore 5, 2) := dk_54 5 (dk_at dksL_law_5 7 rfl rfl)
theorem dL_law_189 : decode cL_law 189 = .ok (.aload_n 2, 1) := dk_44 (dk_at dksL_law_5 9 rfl rfl)
theorem dL_law_190 : decode cL_law 190 = .ok (.aload_n 0, 1) := dk_42 (dk_at dksL_law_5 10 rfl rfl)
theorem dL_law_191 : decode cL_law 191 = .ok (.iload 4, 2) := dk_21 4 (dk_at dksL_law_5 11 rfl rfl)
theorem dL_law_193 : decode cL_law 193 = .ok (.iconst 1, 1) := dk_4 (dk_at dksL_law_5 13 rfl rfl)
theorem dL_law_194 : decode cL_law 194 = .ok (.iadd, 1) := dk_96 (dk_at dksL_law_5 14 rfl rfl)
theorem dL_law_195 : decode cL_law 195 = .ok (.iaload, 1) := dk_46 (dk_at dksL_law_5 15 rfl rfl)
theorem dL_law_196 : decode cL_law 196 = .ok (.invokevirtual 79, 3) := dk_182 0 79 (dk_at dksL_law_5 16 rfl rfl)
theorem dL_law_199 : decode cL_law 199 = .ok (.istore 6, 2) := dk_54 6 (dk_at dksL_law_5 19 rfl rfl)
theorem dL_law_201 : decode cL_law 201 = .ok (.aload_n 2, 1) := dk_44 (dk_at dksL_law_5 21 rfl rfl)
theorem dL_law_202 : decode cL_law 202 = .ok (.invokevirtual 73, 3) := dk_182 0 73 (dk_at dksL_law_6 0 rfl rfl)
theorem dL_law_205 : decode cL_law 205 = .ok (.iload 5, 2) := dk_21 5 (dk_at dksL_law_6 3 rfl rfl)
theorem dL_law_207 : decode cL_law 207 = .ok (.if_icmp .eq 5, 3) := dk_159 0 5 (dk_at dksL_law_6 5 rfl rfl)
theorem dL_law_210 : decode cL_law 210 = .ok (.iconst 0, 1) := dk_3 (dk_at dksL_law_6 8 rfl rfl)
theorem dL_law_211 : decode cL_law 211 = .ok (.ireturn, 1) := dk_172 (dk_at dksL_law_6 9 rfl rfl)
theorem dL_law_212 : decode cL_law 212 = .ok (.iload 5, 2) := dk_21 5 (dk_at dksL_law_6 10 rfl rfl)
theorem dL_law_214 : decode cL_law 214 = .ok (.ifCond .ne 15, 3) := dk_154 0 15 (dk_at dksL_law_6 12 rfl rfl)
theorem dL_law_217 : decode cL_law 217 = .ok (.aload_n 3, 1) := dk_45 (dk_at dksL_law_6 15 rfl rfl)
theorem dL_law_218 : decode cL_law 218 = .ok (.iconst 0, 1) := dk_3 (dk_at dksL_law_6 16 rfl rfl)
theorem dL_law_219 : decode cL_law 219 = .ok (.laload, 1) := dk_47 (dk_at dksL_law_6 17 rfl rfl)
theorem dL_law_220 : decode cL_law 220 = .ok (.iload 6, 2) := dk_21 6 (dk_at dksL_law_6 18 rfl rfl)
theorem dL_law_222 : decode cL_law 222 = .ok (.i2l, 1) := dk_133 (dk_at dksL_law_6 20 rfl rfl)
theorem dL_law_223 : decode cL_law 223 = .ok (.lcmp, 1) := dk_148 (dk_at dksL_law_6 21 rfl rfl)
theorem dL_law_224 : decode cL_law 224 = .ok (.ifCond .eq 5, 3) := dk_153 0 5 (dk_at dksL_law_7 0 rfl rfl)
theorem dL_law_227 : decode cL_law 227 = .ok (.iconst 0, 1) := dk_3 (dk_at dksL_law_7 3 rfl rfl)
theorem dL_law_228 : decode cL_law 228 = .ok (.ireturn, 1) := dk_172 (dk_at dksL_law_7 4 rfl rfl)
theorem dL_law_229 : decode cL_law 229 = .ok (.goto 890, 3) := dk_167 3 122 (dk_at dksL_law_7 5 rfl rfl)
theorem dL_law_232 : decode cL_law 232 = .ok (.aload_n 1, 1) := dk_43 (dk_at dksL_law_7 8 rfl rfl)
theorem dL_law_233 : decode cL_law 233 = .ok (.aload_n 0, 1) := dk_42 (dk_at dksL_law_7 9 rfl rfl)
theorem dL_law_234 : decode cL_law 234 = .ok (.iload 4, 2) := dk_21 4 (dk_at dksL_law_7 10 rfl rfl)
theorem dL_law_236 : decode cL_law 236 = .ok (.iconst 1, 1) := dk_4 (dk_at dksL_law_7 12 rfl rfl)
theorem dL_law_237 : decode cL_law 237 = .ok (.iadd, 1) := dk_96 (dk_at dksL_law_7 13 rfl rfl)
theorem dL_law_238 : decode cL_law 238 = .ok (.iaload, 1) := dk_46 (dk_at dksL_law_7 14 rfl rfl)
theorem dL_law_239 : decode cL_law 239 = .ok (.aload_n 0, 1) := dk_42 (dk_at dksL_law_7 15 rfl rfl)
theorem dL_law_240 : decode cL_law 240 = .ok (.iload 4, 2) := dk_21 4 (dk_at dksL_law_7 16 rfl rfl)
theorem dL_law_242 : decode cL_law 242 = .ok (.iconst 2, 1) := dk_5 (dk_at dksL_law_7 18 rfl rfl)
theorem dL_law_243 : decode cL_law 243 = .ok (.iadd, 1) := dk_96 (dk_at dksL_law_7 19 rfl rfl)
theorem dL_law_244 : decode cL_law 244 = .ok (.iaload, 1) := dk_46 (dk_at dksL_law_7 20 rfl rfl)
theorem dL_law_245 : decode cL_law 245 = .ok (.aload_n 0, 1) := dk_42 (dk_at dksL_law_7 21 rfl rfl)
theorem dL_law_246 : decode cL_law 246 = .ok (.iload 4, 2) := dk_21 4 (dk_at dksL_law_7 22 rfl rfl)
theorem dL_law_248 : decode cL_law 248 = .ok (.iconst 3, 1) := dk_6 (dk_at dksL_law_8 0 rfl rfl)
theorem dL_law_249 : decode cL_law 249 = .ok (.iadd, 1) := dk_96 (dk_at dksL_law_8 1 rfl rfl)
theorem dL_law_250 : decode cL_law 250 = .ok (.iaload, 1) := dk_46 (dk_at dksL_law_8 2 rfl rfl)
theorem dL_law_251 : decode cL_law 251 = .ok (.aload_n 0, 1) := dk_42 (dk_at dksL_law_8 3 rfl rfl)
theorem dL_law_252 : decode cL_law 252 = .ok (.iload 4, 2) := dk_21 4 (dk_at dksL_law_8 4 rfl rfl)
theorem dL_law_254 : decode cL_law 254 = .ok (.iconst 4, 1) := dk_7 (dk_at dksL_law_8 6 rfl rfl)
theorem dL_law_255 : decode cL_law 255 = .ok (.iadd, 1) := dk_96 (dk_at dksL_law_8 7 rfl rfl)
theorem dL_law_256 : decode cL_law 256 = .ok (.iaload, 1) := dk_46 (dk_at dksL_law_8 8 rfl rfl)
theorem dL_law_257 : decode cL_law 257 = .ok (.aload_n 0, 1) := dk_42 (dk_at dksL_law_8 9 rfl rfl)
theorem dL_law_258 : decode cL_law 258 = .ok (.iload 4, 2) := dk_21 4 (dk_at dksL_law_8 10 rfl rfl)
theorem dL_law_260 : decode cL_law 260 = .ok (.iconst 5, 1) := dk_8 (dk_at dksL_law_8 12 rfl rfl)
theorem dL_law_261 : decode cL_law 261 = .ok (.iadd, 1) := dk_96 (dk_at dksL_law_8 13 rfl rfl)
theorem dL_law_262 : decode cL_law 262 = .ok (.iaload, 1) := dk_46 (dk_at dksL_law_8 14 rfl rfl)
theorem dL_law_263 : decode cL_law 263 = .ok (.ifCond .eq 7, 3) := dk_153 0 7 (dk_at dksL_law_8 15 rfl rfl)
theorem dL_law_266 : decode cL_law 266 = .ok (.iconst 1, 1) := dk_4 (dk_at dksL_law_8 18 rfl rfl)
theorem dL_law_267 : decode cL_law 267 = .ok (.goto 4, 3) := dk_167 0 4 (dk_at dksL_law_8 19 rfl rfl)
theorem dL_law_270 : decode cL_law 270 = .ok (.iconst 0, 1) := dk_3 (dk_at dksL_law_8 22 rfl rfl)
theorem dL_law_271 : decode cL_law 271 = .ok (.aload_n 3, 1) := dk_45 (dk_at dksL_law_8 23 rfl rfl)
theorem dL_law_272 : decode cL_law 272 = .ok (.invokestatic 80, 3) := dk_184 0 80 (dk_at dksL_law_9 0 rfl rfl)
theorem dL_law_275 : decode cL_law 275 = .ok (.istore 5, 2) := dk_54 5 (dk_at dksL_law_9 3 rfl rfl)
theorem dL_law_277 : decode cL_law 277 = .ok (.aload_n 2, 1) := dk_44 (dk_at dksL_law_9 5 rfl rfl)
theorem dL_law_278 : decode cL_law 278 = .ok (.aload_n 0, 1) := dk_42 (dk_at dksL_law_9 6 rfl rfl)
theorem dL_law_279 : decode cL_law 279 = .ok (.iload 4, 2) := dk_21 4 (dk_at dksL_law_9 7 rfl rfl)
theorem dL_law_281 : decode cL_law 281 = .ok (.iconst 1, 1) := dk_4 (dk_at dksL_law_9 9 rfl rfl)
theorem dL_law_282 : decode cL_law 282 = .ok (.iadd, 1) := dk_96 (dk_at dksL_law_9 10 rfl rfl)
theorem dL_law_283 : decode cL_law 283 = .ok (.iaload, 1) := dk_46 (dk_at dksL_law_9 11 rfl rfl)
theorem dL_law_284 : decode cL_law 284 = .ok (.aload_n 0, 1) := dk_42 (dk_at dksL_law_9 12 rfl rfl)
theorem dL_law_285 : decode cL_law 285 = .ok (.iload 4, 2) := dk_21 4 (dk_at dksL_law_9 13 rfl rfl)
theorem dL_law_287 : decode cL_law 287 = .ok (.iconst 2, 1) := dk_5 (dk_at dksL_law_9 15 rfl rfl)
theorem dL_law_288 : decode cL_law 288 = .ok (.iadd, 1) := dk_96 (dk_at dksL_law_9 16 rfl rfl)
theorem dL_law_289 : decode cL_law 289 = .ok (.iaload, 1) := dk_46 (dk_at dksL_law_9 17 rfl rfl)
theorem dL_law_290 : decode cL_law 290 = .ok (.aload_n 0, 1) := dk_42 (dk_at dksL_law_9 18 rfl rfl)
theorem dL_law_291 : decode cL_law 291 = .ok (.iload 4, 2) := dk_21 4 (dk_at dksL_law_9 19 rfl rfl)
theorem dL_law_293 : decode cL_law 293 = .ok (.iconst 3, 1) := dk_6 (dk_at dksL_law_9 21 rfl rfl)
theorem dL_law_294 : decode cL_law 294 = .ok (.iadd, 1) := dk_96 (dk_at dksL_law_9 22 rfl rfl)
theorem dL_law_295 : decode cL_law 295 = .ok (.iaload, 1) := dk_46 (dk_at dksL_law_9 23 rfl rfl)
theorem dL_law_296 : decode cL_law 296 = .ok (.aload_n 0, 1) := dk_42 (dk_at dksL_law_10 0 rfl rfl)
theorem dL_law_297 : decode cL_law 297 = .ok (.iload 4, 2) := dk_21 4 (dk_at dksL_law_10 1 rfl rfl)
theorem dL_law_299 : decode cL_law 299 = .ok (.iconst 4, 1) := dk_7 (dk_at dksL_law_10 3 rfl rfl)
theorem dL_law_300 : decode cL_law 300 = .ok (.iadd, 1) := dk_96 (dk_at dksL_law_10 4 rfl rfl)
theorem dL_law_301 : decode cL_law 301 = .ok (.iaload, 1) := dk_46 (dk_at dksL_law_10 5 rfl rfl)
theorem dL_law_302 : decode cL_law 302 = .ok (.aload_n 0, 1) := dk_42 (dk_at dksL_law_10 6 rfl rfl)
theorem dL_law_303 : decode cL_law 303 = .ok (.iload 4, 2) := dk_21 4 (dk_at dksL_law_10 7 rfl rfl)
theorem dL_law_305 : decode cL_law 305 = .ok (.iconst 5, 1) := dk_8 (dk_at dksL_law_10 9 rfl rfl)
theorem dL_law_306 : decode cL_law 306 = .ok (.iadd, 1) := dk_96 (dk_at dksL_law_10 10 rfl rfl)
theorem dL_law_307 : decode cL_law 307 = .ok (.iaload, 1) := dk_46 (dk_at dksL_law_10 11 rfl rfl)
theorem dL_law_308 : decode cL_law 308 = .ok (.ifCond .eq 7, 3) := dk_153 0 7 (dk_at dksL_law_10 12 rfl rfl)
theorem dL_law_311 : decode cL_law 311 = .ok (.iconst 1, 1) := dk_4 (dk_at dksL_law_10 15 rfl rfl)
theorem dL_law_312 : decode cL_law 312 = .ok (.goto 4, 3) := dk_167 0 4 (dk_at dksL_law_10 16 rfl rfl)
theorem dL_law_315 : decode cL_law 315 = .ok (.iconst 0, 1) := dk_3 (dk_at dksL_law_10 19 rfl rfl)
theorem dL_law_316 : decode cL_law 316 = .ok (.invokevirtual 83, 3) := dk_182 0 83 (dk_at dksL_law_10 20 rfl rfl)
theorem dL_law_319 : decode cL_law 319 = .ok (.istore 6, 2) := dk_54 6 (dk_at dksL_law_11 0 rfl rfl)
theorem dL_law_321 : decode cL_law 321 = .ok (.aload_n 2, 1) := dk_44 (dk_at dksL_law_11 2 rfl rfl)
theorem dL_law_322 : decode cL_law 322 = .ok (.invokevirtual 73, 3) := dk_182 0 73 (dk_at dksL_law_11 3 rfl rfl)
theorem dL_law_325 : decode cL_law 325 = .ok (.iload 5, 2) := dk_21 5 (dk_at dksL_law_11 6 rfl rfl)
theorem dL_law_327 : decode cL_law 327 = .ok (.if_icmp .eq 5, 3) := dk_159 0 5 (dk_at dksL_law_11 8 rfl rfl)
theorem dL_law_330 : decode cL_law 330 = .ok (.iconst 0, 1) := dk_3 (dk_at dksL_law_11 11 rfl rfl)
theorem dL_law_331 : decode cL_law 331 = .ok (.ireturn, 1) := dk_172 (dk_at dksL_law_11 12 rfl rfl)
theorem dL_law_332 : decode cL_law 332 = .ok (.iload 5, 2) := dk_21 5 (dk_at dksL_law_11 13 rfl rfl)
theorem dL_law_334 : decode cL_law 334 = .ok (.ifCond .ne 15, 3) := dk_154 0 15 (dk_at dksL_law_11 15 rfl rfl)
theorem dL_law_337 : decode cL_law 337 = .ok (.aload_n 3, 1) := dk_45 (dk_at dksL_law_11 18 rfl rfl)
theorem dL_law_338 : decode cL_law 338 = .ok (.iconst 0, 1) := dk_3 (dk_at dksL_law_11 19 rfl rfl)
theorem dL_law_339 : decode cL_law 339 = .ok (.laload, 1) := dk_47 (dk_at dksL_law_11 20 rfl rfl)
theorem dL_law_340 : decode cL_law 340 = .ok (.iload 6, 2) := dk_21 6 (dk_at dksL_law_11 21 rfl rfl)
theorem dL_law_342 : decode cL_law 342 = .ok (.i2l, 1) := dk_133 (dk_at dksL_law_11 23 rfl rfl)
theorem dL_law_343 : decode cL_law 343 = .ok (.lcmp, 1) := dk_148 (dk_at dksL_law_12 0 rfl rfl)
theorem dL_law_344 : decode cL_law 344 = .ok (.ifCond .eq 5, 3) := dk_153 0 5 (dk_at dksL_law_12 1 rfl rfl)
theorem dL_law_347 : decode cL_law 347 = .ok (.iconst 0, 1) := dk_3 (dk_at dksL_law_12 4 rfl rfl)
theorem dL_law_348 : decode cL_law 348 = .ok (.ireturn, 1) := dk_172 (dk_at dksL_law_12 5 rfl rfl)
theorem dL_law_349 : decode cL_law 349 = .ok (.goto 770, 3) := dk_167 3 2 (dk_at dksL_law_12 6 rfl rfl)
theorem dL_law_352 : decode cL_law 352 = .ok (.aload_n 1, 1) := dk_43 (dk_at dksL_law_12 9 rfl rfl)
theorem dL_law_353 : decode cL_law 353 = .ok (.aload_n 0, 1) := dk_42 (dk_at dksL_law_12 10 rfl rfl)
theorem dL_law_354 : decode cL_law 354 = .ok (.iload 4, 2) := dk_21 4 (dk_at dksL_law_12 11 rfl rfl)
theorem dL_law_356 : decode cL_law 356 = .ok (.iconst 1, 1) := dk_4 (dk_at dksL_law_12 13 rfl rfl)
theorem dL_law_357 : decode cL_law 357 = .ok (.iadd, 1) := dk_96 (dk_at dksL_law_12 14 rfl rfl)
theorem dL_law_358 : decode cL_law 358 = .ok (.iaload, 1) := dk_46 (dk_at dksL_law_12 15 rfl rfl)
theorem dL_law_359 : decode cL_law 359 = .ok (.aload_n 3, 1) := dk_45 (dk_at dksL_law_12 16 rfl rfl)
theorem dL_law_360 : decode cL_law 360 = .ok (.invokestatic 84, 3) := dk_184 0 84 (dk_at dksL_law_12 17 rfl rfl)
theorem dL_law_363 : decode cL_law 363 = .ok (.istore 5, 2) := dk_54 5 (dk_at dksL_law_12 20 rfl rfl)
theorem dL_law_365 : decode cL_law 365 = .ok (.aload_n 2, 1) := dk_44 (dk_at dksL_law_12 22 rfl rfl)
theorem dL_law_366 : decode cL_law 366 = .ok (.aload_n 0, 1) := dk_42 (dk_at dksL_law_12 23 rfl rfl)
theorem dL_law_367 : decode cL_law 367 = .ok (.iload 4, 2) := dk_21 4 (dk_at dksL_law_13 0 rfl rfl)
theorem dL_law_369 : decode cL_law 369 = .ok (.iconst 1, 1) := dk_4 (dk_at dksL_law_13 2 rfl rfl)
theorem dL_law_370 : decode cL_law 370 = .ok (.iadd, 1) := dk_96 (dk_at dksL_law_13 3 rfl rfl)
theorem dL_law_371 : decode cL_law 371 = .ok (.iaload, 1) := dk_46 (dk_at dksL_law_13 4 rfl rfl)
theorem dL_law_372 : decode cL_law 372 = .ok (.invokevirtual 86, 3) := dk_182 0 86 (dk_at dksL_law_13 5 rfl rfl)
theorem dL_law_375 : decode cL_law 375 = .ok (.istore 6, 2) := dk_54 6 (dk_at dksL_law_13 8 rfl rfl)
theorem dL_law_377 : decode cL_law 377 = .ok (.aload_n 2, 1) := dk_44 (dk_at dksL_law_13 10 rfl rfl)
theorem dL_law_378 : decode cL_law 378 = .ok (.invokevirtual 73, 3) := dk_182 0 73 (dk_at dksL_law_13 11 rfl rfl)
theorem dL_law_381 : decode cL_law 381 = .ok (.iload 5, 2) := dk_21 5 (dk_at dksL_law_13 14 rfl rfl)
theorem dL_law_383 : decode cL_law 383 = .ok (.if_icmp .eq 5, 3) := dk_159 0 5 (dk_at dksL_law_13 16 rfl rfl)
theorem dL_law_386 : decode cL_law 386 = .ok (.iconst 0, 1) := dk_3 (dk_at dksL_law_13 19 rfl rfl)
theorem dL_law_387 : decode cL_law 387 = .ok (.ireturn, 1) := dk_172 (dk_at dksL_law_13 20 rfl rfl)
theorem dL_law_388 : decode cL_law 388 = .ok (.iload 5, 2) := dk_21 5 (dk_at dksL_law_13 21 rfl rfl)
theorem dL_law_390 : decode cL_law 390 = .ok (.ifCond .ne 15, 3) := dk_154 0 15 (dk_at dksL_law_14 0 rfl rfl)
theorem dL_law_393 : decode cL_law 393 = .ok (.aload_n 3, 1) := dk_45 (dk_at dksL_law_14 3 rfl rfl)
theorem dL_law_394 : decode cL_law 394 = .ok (.iconst 0, 1) := dk_3 (dk_at dksL_law_14 4 rfl rfl)
theorem dL_law_395 : decode cL_law 395 = .ok (.laload, 1) := dk_47 (dk_at dksL_law_14 5 rfl rfl)
theorem dL_law_396 : decode cL_law 396 = .ok (.iload 6, 2) := dk_21 6 (dk_at dksL_law_14 6 rfl rfl)
theorem dL_law_398 : decode cL_law 398 = .ok (.i2l, 1) := dk_133 (dk_at dksL_law_14 8 rfl rfl)
theorem dL_law_399 : decode cL_law 399 = .ok (.lcmp, 1) := dk_148 (dk_at dksL_law_14 9 rfl rfl)
theorem dL_law_400 : decode cL_law 400 = .ok (.ifCond .eq 5, 3) := dk_153 0 5 (dk_at dksL_law_14 10 rfl rfl)
theorem dL_law_403 : decode cL_law 403 = .ok (.iconst 0, 1) := dk_3 (dk_at dksL_law_14 13 rfl rfl)
theorem dL_law_404 : decode cL_law 404 = .ok (.ireturn, 1) := dk_172 (dk_at dksL_law_14 14 rfl rfl)
theorem dL_law_405 : decode cL_law 405 = .ok (.goto 714, 3) := dk_167 2 202 (dk_at dksL_law_14 15 rfl rfl)
theorem dL_law_408 : decode cL_law 408 = .ok (.aload_n 1, 1) := dk_43 (dk_at dksL_law_14 18 rfl rfl)
theorem dL_law_409 : decode cL_law 409 = .ok (.aload_n 0, 1) := dk_42 (dk_at dksL_law_14 19 rfl rfl)
theorem dL_law_410 : decode cL_law 410 = .ok (.iload 4, 2) := dk_21 4 (dk_at dksL_law_14 20 rfl rfl)
theorem dL_law_412 : decode cL_law 412 = .ok (.iconst 1, 1) := dk_4 (dk_at dksL_law_14 22 rfl rfl)
theorem dL_law_413 : decode cL_law 413 = .ok (.iadd, 1) := dk_96 (dk_at dksL_law_14 23 rfl rfl)
theorem dL_law_414 : decode cL_law 414 = .ok (.iaload, 1) := dk_46 (dk_at dksL_law_15 0 rfl rfl)
theorem dL_law_415 : decode cL_law 415 = .ok (.aload_n 0, 1) := dk_42 (dk_at dksL_law_15 1 rfl rfl)
theorem dL_law_416 : decode cL_law 416 = .ok (.iload 4, 2) := dk_21 4 (dk_at dksL_law_15 2 rfl rfl)
theorem dL_law_418 : decode cL_law 418 = .ok (.iconst 2, 1) := dk_5 (dk_at dksL_law_15 4 rfl rfl)
theorem dL_law_419 : decode cL_law 419 = .ok (.iadd, 1) := dk_96 (dk_at dksL_law_15 5 rfl rfl)
theorem dL_law_420 : decode cL_law 420 = .ok (.iaload, 1) := dk_46 (dk_at dksL_law_15 6 rfl rfl)
theorem dL_law_421 : decode cL_law 421 = .ok (.aload_n 3, 1) := dk_45 (dk_at dksL_law_15 7 rfl rfl)
theorem dL_law_422 : decode cL_law 422 = .ok (.invokestatic 87, 3) := dk_184 0 87 (dk_at dksL_law_15 8 rfl rfl)
theorem dL_law_425 : decode cL_law 425 = .ok (.istore 5, 2) := dk_54 5 (dk_at dksL_law_15 11 rfl rfl)
theorem dL_law_427 : decode cL_law 427 = .ok (.aload_n 2, 1) := dk_44 (dk_at dksL_law_15 13 rfl rfl)
theorem dL_law_428 : decode cL_law 428 = .ok (.aload_n 0, 1) := dk_42 (dk_at dksL_law_15 14 rfl rfl)
theorem dL_law_429 : decode cL_law 429 = .ok (.iload 4, 2) := dk_21 4 (dk_at dksL_law_15 15 rfl rfl)
theorem dL_law_431 : decode cL_law 431 = .ok (.iconst 1, 1) := dk_4 (dk_at dksL_law_15 17 rfl rfl)
theorem dL_law_432 : decode cL_law 432 = .ok (.iadd, 1) := dk_96 (dk_at dksL_law_15 18 rfl rfl)
theorem dL_law_433 : decode cL_law 433 = .ok (.iaload, 1) := dk_46 (dk_at dksL_law_15 19 rfl rfl)
theorem dL_law_434 : decode cL_law 434 = .ok (.aload_n 0, 1) := dk_42 (dk_at dksL_law_15 20 rfl rfl)
theorem dL_law_435 : decode cL_law 435 = .ok (.iload 4, 2) := dk_21 4 (dk_at dksL_law_15 21 rfl rfl)
theorem dL_law_437 : decode cL_law 437 = .ok (.iconst 2, 1) := dk_5 (dk_at dksL_law_15 23 rfl rfl)
theorem dL_law_438 : decode cL_law 438 = .ok (.iadd, 1) := dk_96 (dk_at dksL_law_16 0 rfl rfl)
theorem dL_law_439 : decode cL_law 439 = .ok (.iaload, 1) := dk_46 (dk_at dksL_law_16 1 rfl rfl)
theorem dL_law_440 : decode cL_law 440 = .ok (.invokevirtual 90, 3) := dk_182 0 90 (dk_at dksL_law_16 2 rfl rfl)
theorem dL_law_443 : decode cL_law 443 = .ok (.istore 6, 2) := dk_54 6 (dk_at dksL_law_16 5 rfl rfl)
theorem dL_law_445 : decode cL_law 445 = .ok (.aload_n 2, 1) := dk_44 (dk_at dksL_law_16 7 rfl rfl)
theorem dL_law_446 : decode cL_law 446 = .ok (.invokevirtual 73, 3) := dk_182 0 73 (dk_at dksL_law_16 8 rfl rfl)
theorem dL_law_449 : decode cL_law 449 = .ok (.iload 5, 2) := dk_21 5 (dk_at dksL_law_16 11 rfl rfl)
theorem dL_law_451 : decode cL_law 451 = .ok (.if_icmp .eq 5, 3) := dk_159 0 5 (dk_at dksL_law_16 13 rfl rfl)
theorem dL_law_454 : decode cL_law 454 = .ok (.iconst 0, 1) := dk_3 (dk_at dksL_law_16 16 rfl rfl)
theorem dL_law_455 : decode cL_law 455 = .ok (.ireturn, 1) := dk_172 (dk_at dksL_law_16 17 rfl rfl)
theorem dL_law_456 : decode cL_law 456 = .ok (.iload 5, 2) := dk_21 5 (dk_at dksL_law_16 18 rfl rfl)
theorem dL_law_458 : decode cL_law 458 = .ok (.ifCond .ne 15, 3) := dk_154 0 15 (dk_at dksL_law_16 20 rfl rfl)
theorem dL_law_461 : decode cL_law 461 = .ok (.aload_n 3, 1) := dk_45 (dk_at dksL_law_16 23 rfl rfl)
theorem dL_law_462 : decode cL_law 462 = .ok (.iconst 0, 1) := dk_3 (dk_at dksL_law_17 0 rfl rfl)
theorem dL_law_463 : decode cL_law 463 = .ok (.laload, 1) := dk_47 (dk_at dksL_law_17 1 rfl rfl)
theorem dL_law_464 : decode cL_law 464 = .ok (.iload 6, 2) := dk_21 6 (dk_at dksL_law_17 2 rfl rfl)
theorem dL_law_466 : decode cL_law 466 = .ok (.i2l, 1) := dk_133 (dk_at dksL_law_17 4 rfl rfl)
theorem dL_law_467 : decode cL_law 467 = .ok (.lcmp, 1) := dk_148 (dk_at dksL_law_17 5 rfl rfl)
theorem dL_law_468 : decode cL_law 468 = .ok (.ifCond .eq 5, 3) := dk_153 0 5 (dk_at dksL_law_17 6 rfl rfl)
theorem dL_law_471 : decode cL_law 471 = .ok (.iconst 0, 1) := dk_3 (dk_at dksL_law_17 9 rfl rfl)
theorem dL_law_472 : decode cL_law 472 = .ok (.ireturn, 1) := dk_172 (dk_at dksL_law_17 10 rfl rfl)
theorem dL_law_473 : decode cL_law 473 = .ok (.goto 646, 3) := dk_167 2 134 (dk_at dksL_law_17 11 rfl rfl)
theorem dL_law_476 : decode cL_law 476 = .ok (.aload_n 1, 1) := dk_43 (dk_at dksL_law_17 14 rfl rfl)
theorem dL_law_477 : decode cL_law 477 = .ok (.aload_n 0, 1) := dk_42 (dk_at dksL_law_17 15 rfl rfl)
theorem dL_law_478 : decode cL_law 478 = .ok (.iload 4, 2) := dk_21 4 (dk_at dksL_law_17 16 rfl rfl)
theorem dL_law_480 : decode cL_law 480 = .ok (.iconst 1, 1) := dk_4 (dk_at dksL_law_17 18 rfl rfl)
theorem dL_law_481 : decode cL_law 481 = .ok (.iadd, 1) := dk_96 (dk_at dksL_law_17 19 rfl rfl)
theorem dL_law_482 : decode cL_law 482 = .ok (.iaload, 1) := dk_46 (dk_at dksL_law_17 20 rfl rfl)
theorem dL_law_483 : decode cL_law 483 = .ok (.aload_n 0, 1) := dk_42 (dk_at dksL_law_17 21 rfl rfl)
theorem dL_law_484 : decode cL_law 484 = .ok (.iload 4, 2) := dk_21 4 (dk_at dksL_law_17 22 rfl rfl)
theorem dL_law_486 : decode cL_law 486 = .ok (.iconst 2, 1) := dk_5 (dk_at dksL_law_18 0 rfl rfl)
theorem dL_law_487 : decode cL_law 487 = .ok (.iadd, 1) := dk_96 (dk_at dksL_law_18 1 rfl rfl)
theorem dL_law_488 : decode cL_law 488 = .ok (.iaload, 1) := dk_46 (dk_at dksL_law_18 2 rfl rfl)
theorem dL_law_489 : decode cL_law 489 = .ok (.aload_n 3, 1) := dk_45 (dk_at dksL_law_18 3 rfl rfl)
theorem dL_law_490 : decode cL_law 490 = .ok (.invokestatic 91, 3) := dk_184 0 91 (dk_at dksL_law_18 4 rfl rfl)
theorem dL_law_493 : decode cL_law 493 = .ok (.istore 5, 2) := dk_54 5 (dk_at dksL_law_18 7 rfl rfl)
theorem dL_law_495 : decode cL_law 495 = .ok (.aload_n 2, 1) := dk_44 (dk_at dksL_law_18 9 rfl rfl)
theorem dL_law_496 : decode cL_law 496 = .ok (.aload_n 0, 1) := dk_42 (dk_at dksL_law_18 10 rfl rfl)
theorem dL_law_497 : decode cL_law 497 = .ok (.iload 4, 2) := dk_21 4 (dk_at dksL_law_18 11 rfl rfl)
theorem dL_law_499 : decode cL_law 499 = .ok (.iconst 1, 1) := dk_4 (dk_at dksL_law_18 13 rfl rfl)
theorem dL_law_500 : decode cL_law 500 = .ok (.iadd, 1) := dk_96 (dk_at dksL_law_18 14 rfl rfl)
theorem dL_law_501 : decode cL_law 501 = .ok (.iaload, 1) := dk_46 (dk_at dksL_law_18 15 rfl rfl)
theorem dL_law_502 : decode cL_law 502 = .ok (.aload_n 0, 1) := dk_42 (dk_at dksL_law_18 16 rfl rfl)
theorem dL_law_503 : decode cL_law 503 = .ok (.iload 4, 2) := dk_21 4 (dk_at dksL_law_18 17 rfl rfl)
theorem dL_law_505 : decode cL_law 505 = .ok (.iconst 2, 1) := dk_5 (dk_at dksL_law_18 19 rfl rfl)
theorem dL_law_506 : decode cL_law 506 = .ok (.iadd, 1) := dk_96 (dk_at dksL_law_18 20 rfl rfl)
theorem dL_law_507 : decode cL_law 507 = .ok (.iaload, 1) := dk_46 (dk_at dksL_law_18 21 rfl rfl)
theorem dL_law_508 : decode cL_law 508 = .ok (.invokevirtual 93, 3) := dk_182 0 93 (dk_at dksL_law_19 0 rfl rfl)
theorem dL_law_511 : decode cL_law 511 = .ok (.istore 6, 2) := dk_54 6 (dk_at dksL_law_19 3 rfl rfl)
theorem dL_law_513 : decode cL_law 513 = .ok (.aload_n 2, 1) := dk_44 (dk_at dksL_law_19 5 rfl rfl)
theorem dL_law_514 : decode cL_law 514 = .ok (.invokevirtual 73, 3) := dk_182 0 73 (dk_at dksL_law_19 6 rfl rfl)
theorem dL_law_517 : decode cL_law 517 = .ok (.iload 5, 2) := dk_21 5 (dk_at dksL_law_19 9 rfl rfl)
theorem dL_law_519 : decode cL_law 519 = .ok (.if_icmp .eq 5, 3) := dk_159 0 5 (dk_at dksL_law_19 11 rfl rfl)
theorem dL_law_522 : decode cL_law 522 = .ok (.iconst 0, 1) := dk_3 (dk_at dksL_law_19 14 rfl rfl)
theorem dL_law_523 : decode cL_law 523 = .ok (.ireturn, 1) := dk_172 (dk_at dksL_law_19 15 rfl rfl)
theorem dL_law_524 : decode cL_law 524 = .ok (.iload 5, 2) := dk_21 5 (dk_at dksL_law_19 16 rfl rfl)
theorem dL_law_526 : decode cL_law 526 = .ok (.ifCond .ne 15, 3) := dk_154 0 15 (dk_at dksL_law_19 18 rfl rfl)
theorem dL_law_529 : decode cL_law 529 = .ok (.aload_n 3, 1) := dk_45 (dk_at dksL_law_19 21 rfl rfl)
theorem dL_law_530 : decode cL_law 530 = .ok (.iconst 0, 1) := dk_3 (dk_at dksL_law_19 22 rfl rfl)
theorem dL_law_531 : decode cL_law 531 = .ok (.laload, 1) := dk_47 (dk_at dksL_law_19 23 rfl rfl)
theorem dL_law_532 : decode cL_law 532 = .ok (.iload 6, 2) := dk_21 6 (dk_at dksL_law_20 0 rfl rfl)
theorem dL_law_534 : decode cL_law 534 = .ok (.i2l, 1) := dk_133 (dk_at dksL_law_20 2 rfl rfl)
theorem dL_law_535 : decode cL_law 535 = .ok (.lcmp, 1) := dk_148 (dk_at dksL_law_20 3 rfl rfl)
theorem dL_law_536 : decode cL_law 536 = .ok (.ifCond .eq 5, 3) := dk_153 0 5 (dk_at dksL_law_20 4 rfl rfl)
theorem dL_law_539 : decode cL_law 539 = .ok (.iconst 0, 1) := dk_3 (dk_at dksL_law_20 7 rfl rfl)
theorem dL_law_540 : decode cL_law 540 = .ok (.ireturn, 1) := dk_172 (dk_at dksL_law_20 8 rfl rfl)
theorem dL_law_541 : decode cL_law 541 = .ok (.goto 578, 3) := dk_167 2 66 (dk_at dksL_law_20 9 rfl rfl)
theorem dL_law_544 : decode cL_law 544 = .ok (.aload_n 1, 1) := dk_43 (dk_at dksL_law_20 12 rfl rfl)
theorem dL_law_545 : decode cL_law 545 = .ok (.invokevirtual 94, 3) := dk_182 0 94 (dk_at dksL_law_20 13 rfl rfl)
theorem dL_law_548 : decode cL_law 548 = .ok (.aload_n 2, 1) := dk_44 (dk_at dksL_law_20 16 rfl rfl)
theorem dL_law_549 : decode cL_law 549 = .ok (.invokevirtual 97, 3) := dk_182 0 97 (dk_at dksL_law_20 17 rfl rfl)
theorem dL_law_552 : decode cL_law 552 = .ok (.if_icmp .eq 567, 3) := dk_159 2 55 (dk_at dksL_law_20 20 rfl rfl)
theorem dL_law_555 : decode cL_law 555 = .ok (.iconst 0, 1) := dk_3 (dk_at dksL_law_20 23 rfl rfl)
theorem dL_law_556 : decode cL_law 556 = .ok (.ireturn, 1) := dk_172 (dk_at dksL_law_21 0 rfl rfl)
theorem dL_law_557 : decode cL_law 557 = .ok (.aload_n 1, 1) := dk_43 (dk_at dksL_law_21 1 rfl rfl)
theorem dL_law_558 : decode cL_law 558 = .ok (.aload_n 0, 1) := dk_42 (dk_at dksL_law_21 2 rfl rfl)
theorem dL_law_559 : decode cL_law 559 = .ok (.iload 4, 2) := dk_21 4 (dk_at dksL_law_21 3 rfl rfl)
theorem dL_law_561 : decode cL_law 561 = .ok (.iconst 1, 1) := dk_4 (dk_at dksL_law_21 5 rfl rfl)
theorem dL_law_562 : decode cL_law 562 = .ok (.iadd, 1) := dk_96 (dk_at dksL_law_21 6 rfl rfl)
theorem dL_law_563 : decode cL_law 563 = .ok (.iaload, 1) := dk_46 (dk_at dksL_law_21 7 rfl rfl)
theorem dL_law_564 : decode cL_law 564 = .ok (.aload_n 3, 1) := dk_45 (dk_at dksL_law_21 8 rfl rfl)
theorem dL_law_565 : decode cL_law 565 = .ok (.invokestatic 98, 3) := dk_184 0 98 (dk_at dksL_law_21 9 rfl rfl)
theorem dL_law_568 : decode cL_law 568 = .ok (.istore 5, 2) := dk_54 5 (dk_at dksL_law_21 12 rfl rfl)
theorem dL_law_570 : decode cL_law 570 = .ok (.aload_n 2, 1) := dk_44 (dk_at dksL_law_21 14 rfl rfl)
theorem dL_law_571 : decode cL_law 571 = .ok (.aload_n 0, 1) := dk_42 (dk_at dksL_law_21 15 rfl rfl)
theorem dL_law_572 : decode cL_law 572 = .ok (.iload 4, 2) := dk_21 4 (dk_at dksL_law_21 16 rfl rfl)
theorem dL_law_574 : decode cL_law 574 = .ok (.iconst 1, 1) := dk_4 (dk_at dksL_law_21 18 rfl rfl)
theorem dL_law_575 : decode cL_law 575 = .ok (.iadd, 1) := dk_96 (dk_at dksL_law_21 19 rfl rfl)
theorem dL_law_576 : decode cL_law 576 = .ok (.iaload, 1) := dk_46 (dk_at dksL_law_21 20 rfl rfl)
theorem dL_law_577 : decode cL_law 577 = .ok (.invokevirtual 100, 3) := dk_182 0 100 (dk_at dksL_law_21 21 rfl rfl)
theorem dL_law_580 : decode cL_law 580 = .ok (.istore 6, 2) := dk_54 6 (dk_at dksL_law_22 0 rfl rfl)
theorem dL_law_582 : decode cL_law 582 = .ok (.aload_n 2, 1) := dk_44 (dk_at dksL_law_22 2 rfl rfl)
theorem dL_law_583 : decode cL_law 583 = .ok (.invokevirtual 73, 3) := dk_182 0 73 (dk_at dksL_law_22 3 rfl rfl)
theorem dL_law_586 : decode cL_law 586 = .ok (.iload 5, 2) := dk_21 5 (dk_at dksL_law_22 6 rfl rfl)
theorem dL_law_588 : decode cL_law 588 = .ok (.if_icmp .eq 5, 3) := dk_159 0 5 (dk_at dksL_law_22 8 rfl rfl)
theorem dL_law_591 : decode cL_law 591 = .ok (.iconst 0, 1) := dk_3 (dk_at dksL_law_22 11 rfl rfl)
theorem dL_law_592 : decode cL_law 592 = .ok (.ireturn, 1) := dk_172 (dk_at dksL_law_22 12 rfl rfl)
theorem dL_law_593 : decode cL_law 593 = .ok (.iload 5, 2) := dk_21 5 (dk_at dksL_law_22 13 rfl rfl)
theorem dL_law_595 : decode cL_law 595 = .ok (.ifCond .ne 15, 3) := dk_154 0 15 (dk_at dksL_law_22 15 rfl rfl)
theorem dL_law_598 : decode cL_law 598 = .ok (.aload_n 3, 1) := dk_45 (dk_at dksL_law_22 18 rfl rfl)
theorem dL_law_599 : decode cL_law 599 = .ok (.iconst 0, 1) := dk_3 (dk_at dksL_law_22 19 rfl rfl)
theorem dL_law_600 : decode cL_law 600 = .ok (.laload, 1) := dk_47 (dk_at dksL_law_22 20 rfl rfl)
theorem dL_law_601 : decode cL_law 601 = .ok (.iload 6, 2) := dk_21 6 (dk_at dksL_law_22 21 rfl rfl)
theorem dL_law_603 : decode cL_law 603 = .ok (.i2l, 1) := dk_133 (dk_at dksL_law_22 23 rfl rfl)
theorem dL_law_604 : decode cL_law 604 = .ok (.lcmp, 1) := dk_148 (dk_at dksL_law_23 0 rfl rfl)
theorem dL_law_605 : decode cL_law 605 = .ok (.ifCond .eq 5, 3) := dk_153 0 5 (dk_at dksL_law_23 1 rfl rfl)
theorem dL_law_608 : decode cL_law 608 = .ok (.iconst 0, 1) := dk_3 (dk_at dksL_law_23 4 rfl rfl)
theorem dL_law_609 : decode cL_law 609 = .ok (.ireturn, 1) := dk_172 (dk_at dksL_law_23 5 rfl rfl)
theorem dL_law_610 : decode cL_law 610 = .ok (.goto 509, 3) := dk_167 1 253 (dk_at dksL_law_23 6 rfl rfl)
theorem dL_law_613 : decode cL_law 613 = .ok (.aload_n 1, 1) := dk_43 (dk_at dksL_law_23 9 rfl rfl)
theorem dL_law_614 : decode cL_law 614 = .ok (.aload_n 0, 1) := dk_42 (dk_at dksL_law_23 10 rfl rfl)
theorem dL_law_615 : decode cL_law 615 = .ok (.iload 4, 2) := dk_21 4 (dk_at dksL_law_23 11 rfl rfl)
theorem dL_law_617 : decode cL_law 617 = .ok (.iconst 1, 1) := dk_4 (dk_at dksL_law_23 13 rfl rfl)
theorem dL_law_618 : decode cL_law 618 = .ok (.iadd, 1) := dk_96 (dk_at dksL_law_23 14 rfl rfl)
theorem dL_law_619 : decode cL_law 619 = .ok (.iaload, 1) := dk_46 (dk_at dksL_law_23 15 rfl rfl)
theorem dL_law_620 : decode cL_law 620 = .ok (.aload_n 3, 1) := dk_45 (dk_at dksL_law_23 16 rfl rfl)
theorem dL_law_621 : decode cL_law 621 = .ok (.invokestatic 101, 3) := dk_184 0 101 (dk_at dksL_law_23 17 rfl rfl)
theorem dL_law_624 : decode cL_law 624 = .ok (.istore 5, 2) := dk_54 5 (dk_at dksL_law_23 20 rfl rfl)
theorem dL_law_626 : decode cL_law 626 = .ok (.aload_n 2, 1) := dk_44 (dk_at dksL_law_23 22 rfl rfl)
theorem dL_law_627 : decode cL_law 627 = .ok (.aload_n 0, 1) := dk_42 (dk_at dksL_law_23 23 rfl rfl)
theorem dL_law_628 : decode cL_law 628 = .ok (.iload 4, 2) := dk_21 4 (dk_at dksL_law_24 0 rfl rfl)
theorem dL_law_630 : decode cL_law 630 = .ok (.iconst 1, 1) := dk_4 (dk_at dksL_law_24 2 rfl rfl)
theorem dL_law_631 : decode cL_law 631 = .ok (.iadd, 1) := dk_96 (dk_at dksL_law_24 3 rfl rfl)
theorem dL_law_632 : decode cL_law 632 = .ok (.iaload, 1) := dk_46 (dk_at dksL_law_24 4 rfl rfl)
theorem dL_law_633 : decode cL_law 633 = .ok (.invokevirtual 103, 3) := dk_182 0 103 (dk_at dksL_law_24 5 rfl rfl)
theorem dL_law_636 : decode cL_law 636 = .ok (.istore 6, 2) := dk_54 6 (dk_at dksL_law_24 8 rfl rfl)
theorem dL_law_638 : decode cL_law 638 = .ok (.aload_n 2, 1) := dk_44 (dk_at dksL_law_24 10 rfl rfl)
theorem dL_law_639 : decode cL_law 639 = .ok (.invokevirtual 73, 3) := dk_182 0 73 (dk_at dksL_law_24 11 rfl rfl)
theorem dL_law_642 : decode cL_law 642 = .ok (.iload 5, 2) := dk_21 5 (dk_at dksL_law_24 14 rfl rfl)
theorem dL_law_644 : decode cL_law 644 = .ok (.if_icmp .eq 5, 3) := dk_159 0 5 (dk_at dksL_law_24 16 rfl rfl)
theorem dL_law_647 : decode cL_law 647 = .ok (.iconst 0, 1) := dk_3 (dk_at dksL_law_24 19 rfl rfl)
theorem dL_law_648 : decode cL_law 648 = .ok (.ireturn, 1) := dk_172 (dk_at dksL_law_24 20 rfl rfl)
theorem dL_law_649 : decode cL_law 649 = .ok (.iload 5, 2) := dk_21 5 (dk_at dksL_law_24 21 rfl rfl)
theorem dL_law_651 : decode cL_law 651 = .ok (.ifCond .ne 22, 3) := dk_154 0 22 (dk_at dksL_law_25 0 rfl rfl)
theorem dL_law_654 : decode cL_law 654 = .ok (.aload_n 3, 1) := dk_45 (dk_at dksL_law_25 3 rfl rfl)
theorem dL_law_655 : decode cL_law 655 = .ok (.iconst 0, 1) := dk_3 (dk_at dksL_law_25 4 rfl rfl)
theorem dL_law_656 : decode cL_law 656 = .ok (.laload, 1) := dk_47 (dk_at dksL_law_25 5 rfl rfl)
theorem dL_law_657 : decode cL_law 657 = .ok (.iload 6, 2) := dk_21 6 (dk_at dksL_law_25 6 rfl rfl)
theorem dL_law_659 : decode cL_law 659 = .ok (.ifCond .eq 7, 3) := dk_153 0 7 (dk_at dksL_law_25 8 rfl rfl)
theorem dL_law_662 : decode cL_law 662 = .ok (.lconst 1, 1) := dk_10 (dk_at dksL_law_25 11 rfl rfl)
theorem dL_law_663 : decode cL_law 663 = .ok (.goto 4, 3) := dk_167 0 4 (dk_at dksL_law_25 12 rfl rfl)
theorem dL_law_666 : decode cL_law 666 = .ok (.lconst 0, 1) := dk_9 (dk_at dksL_law_25 15 rfl rfl)
theorem dL_law_667 : decode cL_law 667 = .ok (.lcmp, 1) := dk_148 (dk_at dksL_law_25 16 rfl rfl)
theorem dL_law_668 : decode cL_law 668 = .ok (.ifCond .eq 5, 3) := dk_153 0 5 (dk_at dksL_law_25 17 rfl rfl)
theorem dL_law_671 : decode cL_law 671 = .ok (.iconst 0, 1) := dk_3 (dk_at dksL_law_25 20 rfl rfl)
theorem dL_law_672 : decode cL_law 672 = .ok (.ireturn, 1) := dk_172 (dk_at dksL_law_25 21 rfl rfl)
theorem dL_law_673 : decode cL_law 673 = .ok (.goto 446, 3) := dk_167 1 190 (dk_at dksL_law_26 0 rfl rfl)
theorem dL_law_676 : decode cL_law 676 = .ok (.aload_n 1, 1) := dk_43 (dk_at dksL_law_26 3 rfl rfl)
theorem dL_law_677 : decode cL_law 677 = .ok (.invokevirtual 104, 3) := dk_182 0 104 (dk_at dksL_law_26 4 rfl rfl)
theorem dL_law_680 : decode cL_law 680 = .ok (.aload_n 2, 1) := dk_44 (dk_at dksL_law_26 7 rfl rfl)
theorem dL_law_681 : decode cL_law 681 = .ok (.invokevirtual 107, 3) := dk_182 0 107 (dk_at dksL_law_26 8 rfl rfl)
theorem dL_law_684 : decode cL_law 684 = .ok (.if_icmp .eq 435, 3) := dk_159 1 179 (dk_at dksL_law_26 11 rfl rfl)
theorem dL_law_687 : decode cL_law 687 = .ok (.iconst 0, 1) := dk_3 (dk_at dksL_law_26 14 rfl rfl)
theorem dL_law_688 : decode cL_law 688 = .ok (.ireturn, 1) := dk_172 (dk_at dksL_law_26 15 rfl rfl)
theorem dL_law_689 : decode cL_law 689 = .ok (.aload_n 1, 1) := dk_43 (dk_at dksL_law_26 16 rfl rfl)
theorem dL_law_690 : decode cL_law 690 = .ok (.invokevirtual 108, 3) := dk_182 0 108 (dk_at dksL_law_26 17 rfl rfl)
theorem dL_law_693 : decode cL_law 693 = .ok (.aload_n 2, 1) := dk_44 (dk_at dksL_law_26 20 rfl rfl)
theorem dL_law_694 : decode cL_law 694 = .ok (.invokevirtual 111, 3) := dk_182 0 111 (dk_at dksL_law_26 21 rfl rfl)
theorem dL_law_697 : decode cL_law 697 = .ok (.if_icmp .eq 422, 3) := dk_159 1 166 (dk_at dksL_law_27 0 rfl rfl)
theorem dL_law_700 : decode cL_law 700 = .ok (.iconst 0, 1) := dk_3 (dk_at dksL_law_27 3 rfl rfl)
theorem dL_law_701 : decode cL_law 701 = .ok (.ireturn, 1) := dk_172 (dk_at dksL_law_27 4 rfl rfl)
theorem dL_law_702 : decode cL_law 702 = .ok (.aload_n 1, 1) := dk_43 (dk_at dksL_law_27 5 rfl rfl)
theorem dL_law_703 : decode cL_law 703 = .ok (.aload_n 0, 1) := dk_42 (dk_at dksL_law_27 6 rfl rfl)
theorem dL_law_704 : decode cL_law 704 = .ok (.iload 4, 2) := dk_21 4 (dk_at dksL_law_27 7 rfl rfl)
theorem dL_law_706 : decode cL_law 706 = .ok (.iconst 1, 1) := dk_4 (dk_at dksL_law_27 9 rfl rfl)
theorem dL_law_707 : decode cL_law 707 = .ok (.iadd, 1) := dk_96 (dk_at dksL_law_27 10 rfl rfl)
theorem dL_law_708 : decode cL_law 708 = .ok (.iaload, 1) := dk_46 (dk_at dksL_law_27 11 rfl rfl)
theorem dL_law_709 : decode cL_law 709 = .ok (.aload_n 3, 1) := dk_45 (dk_at dksL_law_27 12 rfl rfl)
theorem dL_law_710 : decode cL_law 710 = .ok (.invokestatic 112, 3) := dk_184 0 112 (dk_at dksL_law_27 13 rfl rfl)
theorem dL_law_713 : decode cL_law 713 = .ok (.istore 5, 2) := dk_54 5 (dk_at dksL_law_27 16 rfl rfl)
theorem dL_law_715 : decode cL_law 715 = .ok (.aload_n 2, 1) := dk_44 (dk_at dksL_law_27 18 rfl rfl)
theorem dL_law_716 : decode cL_law 716 = .ok (.aload_n 0, 1) := dk_42 (dk_at dksL_law_27 19 rfl rfl)
theorem dL_law_717 : decode cL_law 717 = .ok (.iload 4, 2) := dk_21 4 (dk_at dksL_law_27 20 rfl rfl)
theorem dL_law_719 : decode cL_law 719 = .ok (.iconst 1, 1) := dk_4 (dk_at dksL_law_27 22 rfl rfl)
theorem dL_law_720 : decode cL_law 720 = .ok (.iadd, 1) := dk_96 (dk_at dksL_law_27 23 rfl rfl)
theorem dL_law_721 : decode cL_law 721 = .ok (.iaload, 1) := dk_46 (dk_at dksL_law_28 0 rfl rfl)
theorem dL_law_722 : decode cL_law 722 = .ok (.invokevirtual 114, 3) := dk_182 0 114 (dk_at dksL_law_28 1 rfl rfl)
theorem dL_law_725 : decode cL_law 725 = .ok (.istore 6, 2) := dk_54 6 (dk_at dksL_law_28 4 rfl rfl)
theorem dL_law_727 : decode cL_law 727 = .ok (.aload_n 2, 1) := dk_44 (dk_at dksL_law_28 6 rfl rfl)
theorem dL_law_728 : decode cL_law 728 = .ok (.invokevirtual 73, 3) := dk_182 0 73 (dk_at dksL_law_28 7 rfl rfl)
theorem dL_law_731 : decode cL_law 731 = .ok (.iload 5, 2) := dk_21 5 (dk_at dksL_law_28 10 rfl rfl)
theorem dL_law_733 : decode cL_law 733 = .ok (.if_icmp .eq 5, 3) := dk_159 0 5 (dk_at dksL_law_28 12 rfl rfl)
theorem dL_law_736 : decode cL_law 736 = .ok (.iconst 0, 1) := dk_3 (dk_at dksL_law_28 15 rfl rfl)
theorem dL_law_737 : decode cL_law 737 = .ok (.ireturn, 1) := dk_172 (dk_at dksL_law_28 16 rfl rfl)
theorem dL_law_738 : decode cL_law 738 = .ok (.iload 5, 2) := dk_21 5 (dk_at dksL_law_28 17 rfl rfl)
theorem dL_law_740 : decode cL_law 740 = .ok (.ifCond .ne 15, 3) := dk_154 0 15 (dk_at dksL_law_28 19 rfl rfl)
theorem dL_law_743 : decode cL_law 743 = .ok (.aload_n 3, 1) := dk_45 (dk_at dksL_law_28 22 rfl rfl)
theorem dL_law_744 : decode cL_law 744 = .ok (.iconst 0, 1) := dk_3 (dk_at dksL_law_28 23 rfl rfl)
theorem dL_law_745 : decode cL_law 745 = .ok (.laload, 1) := dk_47 (dk_at dksL_law_29 0 rfl rfl)
theorem dL_law_746 : decode cL_law 746 = .ok (.iload 6, 2) := dk_21 6 (dk_at dksL_law_29 1 rfl rfl)
theorem dL_law_748 : decode cL_law 748 = .ok (.i2l, 1) := dk_133 (dk_at dksL_law_29 3 rfl rfl)
theorem dL_law_749 : decode cL_law 749 = .ok (.lcmp, 1) := dk_148 (dk_at dksL_law_29 4 rfl rfl)
theorem dL_law_750 : decode cL_law 750 = .ok (.ifCond .eq 5, 3) := dk_153 0 5 (dk_at dksL_law_29 5 rfl rfl)
theorem dL_law_753 : decode cL_law 753 = .ok (.iconst 0, 1) := dk_3 (dk_at dksL_law_29 8 rfl rfl)
theorem dL_law_754 : decode cL_law 754 = .ok (.ireturn, 1) := dk_172 (dk_at dksL_law_29 9 rfl rfl)
theorem dL_law_755 : decode cL_law 755 = .ok (.goto 364, 3) := dk_167 1 108 (dk_at dksL_law_29 10 rfl rfl)
theorem dL_law_758 : decode cL_law 758 = .ok (.aload_n 1, 1) := dk_43 (dk_at dksL_law_29 13 rfl rfl)
theorem dL_law_759 : decode cL_law 759 = .ok (.aload_n 0, 1) := dk_42 (dk_at dksL_law_29 14 rfl rfl)
theorem dL_law_760 : decode cL_law 760 = .ok (.iload 4, 2) := dk_21 4 (dk_at dksL_law_29 15 rfl rfl)
theorem dL_law_762 : decode cL_law 762 = .ok (.iconst 1, 1) := dk_4 (dk_at dksL_law_29 17 rfl rfl)
theorem dL_law_763 : decode cL_law 763 = .ok (.iadd, 1) := dk_96 (dk_at dksL_law_29 18 rfl rfl)
theorem dL_law_764 : decode cL_law 764 = .ok (.iaload, 1) := dk_46 (dk_at dksL_law_29 19 rfl rfl)
theorem dL_law_765 : decode cL_law 765 = .ok (.invokevirtual 115, 3) := dk_182 0 115 (dk_at dksL_law_29 20 rfl rfl)
theorem dL_law_768 : decode cL_law 768 = .ok (.aload_n 2, 1) := dk_44 (dk_at dksL_law_29 23 rfl rfl)
theorem dL_law_769 : decode cL_law 769 = .ok (.aload_n 0, 1) := dk_42 (dk_at dksL_law_30 0 rfl rfl)
theorem dL_law_770 : decode cL_law 770 = .ok (.iload 4, 2) := dk_21 4 (dk_at dksL_law_30 1 rfl rfl)
theorem dL_law_772 : decode cL_law 772 = .ok (.iconst 1, 1) := dk_4 (dk_at dksL_law_30 3 rfl rfl)
theorem dL_law_773 : decode cL_law 773 = .ok (.iadd, 1) := dk_96 (dk_at dksL_law_30 4 rfl rfl)
theorem dL_law_774 : decode cL_law 774 = .ok (.iaload, 1) := dk_46 (dk_at dksL_law_30 5 rfl rfl)
theorem dL_law_775 : decode cL_law 775 = .ok (.invokevirtual 118, 3) := dk_182 0 118 (dk_at dksL_law_30 6 rfl rfl)
theorem dL_law_778 : decode cL_law 778 = .ok (.if_icmp .eq 341, 3) := dk_159 1 85 (dk_at dksL_law_30 9 rfl rfl)
theorem dL_law_781 : decode cL_law 781 = .ok (.iconst 0, 1) := dk_3 (dk_at dksL_law_30 12 rfl rfl)
theorem dL_law_782 : decode cL_law 782 = .ok (.ireturn, 1) := dk_172 (dk_at dksL_law_30 13 rfl rfl)
theorem dL_law_783 : decode cL_law 783 = .ok (.aload_n 1, 1) := dk_43 (dk_at dksL_law_30 14 rfl rfl)
theorem dL_law_784 : decode cL_law 784 = .ok (.aload_n 0, 1) := dk_42 (dk_at dksL_law_30 15 rfl rfl)
theorem dL_law_785 : decode cL_law 785 = .ok (.iload 4, 2) := dk_21 4 (dk_at dksL_law_30 16 rfl rfl)
theorem dL_law_787 : decode cL_law 787 = .ok (.iconst 1, 1) := dk_4 (dk_at dksL_law_30 18 rfl rfl)
theorem dL_law_788 : decode cL_law 788 = .ok (.iadd, 1) := dk_96 (dk_at dksL_law_30 19 rfl rfl)
theorem dL_law_789 : decode cL_law 789 = .ok (.iaload, 1) := dk_46 (dk_at dksL_law_30 20 rfl rfl)
theorem dL_law_790 : decode cL_law 790 = .ok (.aload_n 0, 1) := dk_42 (dk_at dksL_law_30 21 rfl rfl)
theorem dL_law_791 : decode cL_law 791 = .ok (.iload 4, 2) := dk_21 4 (dk_at dksL_law_30 22 rfl rfl)
theorem dL_law_793 : decode cL_law 793 = .ok (.iconst 2, 1) := dk_5 (dk_at dksL_law_31 0 rfl rfl)
theorem dL_law_794 : decode cL_law 794 = .ok (.iadd, 1) := dk_96 (dk_at dksL_law_31 1 rfl rfl)
theorem dL_law_795 : decode cL_law 795 = .ok (.iaload, 1) := dk_46 (dk_at dksL_law_31 2 rfl rfl)
theorem dL_law_796 : decode cL_law 796 = .ok (.aload_n 3, 1) := dk_45 (dk_at dksL_law_31 3 rfl rfl)
theorem dL_law_797 : decode cL_law 797 = .ok (.invokestatic 119, 3) := dk_184 0 119 (dk_at dksL_law_31 4 rfl rfl)
theorem dL_law_800 : decode cL_law 800 = .ok (.istore 5, 2) := dk_54 5 (dk_at dksL_law_31 7 rfl rfl)
theorem dL_law_802 : decode cL_law 802 = .ok (.aload_n 2, 1) := dk_44 (dk_at dksL_law_31 9 rfl rfl)
theorem dL_law_803 : decode cL_law 803 = .ok (.aload_n 0, 1) := dk_42 (dk_at dksL_law_31 10 rfl rfl)
theorem dL_law_804 : decode cL_law 804 = .ok (.iload 4, 2) := dk_21 4 (dk_at dksL_law_31 11 rfl rfl)
theorem dL_law_806 : decode cL_law 806 = .ok (.iconst 1, 1) := dk_4 (dk_at dksL_law_31 13 rfl rfl)
theorem dL_law_807 : decode cL_law 807 = .ok (.iadd, 1) := dk_96 (dk_at dksL_law_31 14 rfl rfl)
theorem dL_law_808 : decode cL_law 808 = .ok (.iaload, 1) := dk_46 (dk_at dksL_law_31 15 rfl rfl)
theorem dL_law_809 : decode cL_law 809 = .ok (.aload_n 0, 1) := dk_42 (dk_at dksL_law_31 16 rfl rfl)
theorem dL_law_810 : decode cL_law 810 = .ok (.iload 4, 2) := dk_21 4 (dk_at dksL_law_31 17 rfl rfl)
theorem dL_law_812 : decode cL_law 812 = .ok (.iconst 2, 1) := dk_5 (dk_at dksL_law_31 19 rfl rfl)
theorem dL_law_813 : decode cL_law 813 = .ok (.iadd, 1) := dk_96 (dk_at dksL_law_31 20 rfl rfl)
theorem dL_law_814 : decode cL_law 814 = .ok (.iaload, 1) := dk_46 (dk_at dksL_law_31 21 rfl rfl)
theorem dL_law_815 : decode cL_law 815 = .ok (.invokevirtual 121, 3) := dk_182 0 121 (dk_at dksL_law_32 0 rfl rfl)
theorem dL_law_818 : decode cL_law 818 = .ok (.istore 6, 2) := dk_54 6 (dk_at dksL_law_32 3 rfl rfl)
theorem dL_law_820 : decode cL_law 820 = .ok (.aload_n 2, 1) := dk_44 (dk_at dksL_law_32 5 rfl rfl)
theorem dL_law_821 : decode cL_law 821 = .ok (.invokevirtual 73, 3) := dk_182 0 73 (dk_at dksL_law_32 6 rfl rfl)
theorem dL_law_824 : decode cL_law 824 = .ok (.iload 5, 2) := dk_21 5 (dk_at dksL_law_32 9 rfl rfl)
theorem dL_law_826 : decode cL_law 826 = .ok (.if_icmp .eq 5, 3) := dk_159 0 5 (dk_at dksL_law_32 11 rfl rfl)
theorem dL_law_829 : decode cL_law 829 = .ok (.iconst 0, 1) := dk_3 (dk_at dksL_law_32 14 rfl rfl)
theorem dL_law_830 : decode cL_law 830 = .ok (.ireturn, 1) := dk_172 (dk_at dksL_law_32 15 rfl rfl)
theorem dL_law_831 : decode cL_law 831 = .ok (.iload 5, 2) := dk_21 5 (dk_at dksL_law_32 16 rfl rfl)
theorem dL_law_833 : decode cL_law 833 = .ok (.ifCond .ne 15, 3) := dk_154 0 15 (dk_at dksL_law_32 18 rfl rfl)
theorem dL_law_836 : decode cL_law 836 = .ok (.aload_n 3, 1) := dk_45 (dk_at dksL_law_32 21 rfl rfl)
theorem dL_law_837 : decode cL_law 837 = .ok (.iconst 0, 1) := dk_3 (dk_at dksL_law_32 22 rfl rfl)
theorem dL_law_838 : decode cL_law 838 = .ok (.laload, 1) := dk_47 (dk_at dksL_law_32 23 rfl rfl)
theorem dL_law_839 : decode cL_law 839 = .ok (.iload 6, 2) := dk_21 6 (dk_at dksL_law_33 0 rfl rfl)
theorem dL_law_841 : decode cL_law 841 = .ok (.i2l, 1) := dk_133 (dk_at dksL_law_33 2 rfl rfl)
theorem dL_law_842 : decode cL_law 842 = .ok (.lcmp, 1) := dk_148 (dk_at dksL_law_33 3 rfl rfl)
theorem dL_law_843 : decode cL_law 843 = .ok (.ifCond .eq 5, 3) := dk_153 0 5 (dk_at dksL_law_33 4 rfl rfl)
theorem dL_law_846 : decode cL_law 846 = .ok (.iconst 0, 1) := dk_3 (dk_at dksL_law_33 7 rfl rfl)
theorem dL_law_847 : decode cL_law 847 = .ok (.ireturn, 1) := dk_172 (dk_at dksL_law_33 8 rfl rfl)
theorem dL_law_848 : decode cL_law 848 = .ok (.goto 271, 3) := dk_167 1 15 (dk_at dksL_law_33 9 rfl rfl)
theorem dL_law_851 : decode cL_law 851 = .ok (.aload_n 1, 1) := dk_43 (dk_at dksL_law_33 12 rfl rfl)
theorem dL_law_852 : decode cL_law 852 = .ok (.aload_n 0, 1) := dk_42 (dk_at dksL_law_33 13 rfl rfl)
theorem dL_law_853 : decode cL_law 853 = .ok (.iload 4, 2) := dk_21 4 (dk_at dksL_law_33 14 rfl rfl)
theorem dL_law_855 : decode cL_law 855 = .ok (.iconst 1, 1) := dk_4 (dk_at dksL_law_33 16 rfl rfl)
theorem dL_law_856 : decode cL_law 856 = .ok (.iadd, 1) := dk_96 (dk_at dksL_law_33 17 rfl rfl)
theorem dL_law_857 : decode cL_law 857 = .ok (.iaload, 1) := dk_46 (dk_at dksL_law_33 18 rfl rfl)
theorem dL_law_858 : decode cL_law 858 = .ok (.aload_n 0, 1) := dk_42 (dk_at dksL_law_33 19 rfl rfl)
theorem dL_law_859 : decode cL_law 859 = .ok (.iload 4, 2) := dk_21 4 (dk_at dksL_law_33 20 rfl rfl)
theorem dL_law_861 : decode cL_law 861 = .ok (.iconst 2, 1) := dk_5 (dk_at dksL_law_33 22 rfl rfl)
theorem dL_law_862 : decode cL_law 862 = .ok (.iadd, 1) := dk_96 (dk_at dksL_law_33 23 rfl rfl)
theorem dL_law_863 : decode cL_law 863 = .ok (.iaload, 1) := dk_46 (dk_at dksL_law_34 0 rfl rfl)
theorem dL_law_864 : decode cL_law 864 = .ok (.aload_n 0, 1) := dk_42 (dk_at dksL_law_34 1 rfl rfl)
theorem dL_law_865 : decode cL_law 865 = .ok (.iload 4, 2) := dk_21 4 (dk_at dksL_law_34 2 rfl rfl)
theorem dL_law_867 : decode cL_law 867 = .ok (.iconst 3, 1) := dk_6 (dk_at dksL_law_34 4 rfl rfl)
theorem dL_law_868 : decode cL_law 868 = .ok (.iadd, 1) := dk_96 (dk_at dksL_law_34 5 rfl rfl)
theorem dL_law_869 : decode cL_law 869 = .ok (.iaload, 1) := dk_46 (dk_at dksL_law_34 6 rfl rfl)
theorem dL_law_870 : decode cL_law 870 = .ok (.aload_n 3, 1) := dk_45 (dk_at dksL_law_34 7 rfl rfl)
theorem dL_law_871 : decode cL_law 871 = .ok (.invokestatic 122, 3) := dk_184 0 122 (dk_at dksL_law_34 8 rfl rfl)
theorem dL_law_874 : decode cL_law 874 = .ok (.istore 5, 2) := dk_54 5 (dk_at dksL_law_34 11 rfl rfl)
theorem dL_law_876 : decode cL_law 876 = .ok (.aload_n 2, 1) := dk_44 (dk_at dksL_law_34 13 rfl rfl)
theorem dL_law_877 : decode cL_law 877 = .ok (.aload_n 0, 1) := dk_42 (dk_at dksL_law_34 14 rfl rfl)
theorem dL_law_878 : decode cL_law 878 = .ok (.iload 4, 2) := dk_21 4 (dk_at dksL_law_34 15 rfl rfl)
theorem dL_law_880 : decode cL_law 880 = .ok (.iconst 1, 1) := dk_4 (dk_at dksL_law_34 17 rfl rfl)
theorem dL_law_881 : decode cL_law 881 = .ok (.iadd, 1) := dk_96 (dk_at dksL_law_34 18 rfl rfl)
theorem dL_law_882 : decode cL_law 882 = .ok (.iaload, 1) := dk_46 (dk_at dksL_law_34 19 rfl rfl)
theorem dL_law_883 : decode cL_law 883 = .ok (.aload_n 0, 1) := dk_42 (dk_at dksL_law_34 20 rfl rfl)
theorem dL_law_884 : decode cL_law 884 = .ok (.iload 4, 2) := dk_21 4 (dk_at dksL_law_34 21 rfl rfl)
theorem dL_law_886 : decode cL_law 886 = .ok (.iconst 2, 1) := dk_5 (dk_at dksL_law_34 23 rfl rfl)
theorem dL_law_887 : decode cL_law 887 = .ok (.iadd, 1) := dk_96 (dk_at dksL_law_35 0 rfl rfl)
theorem dL_law_888 : decode cL_law 888 = .ok (.iaload, 1) := dk_46 (dk_at dksL_law_35 1 rfl rfl)
theorem dL_law_889 : decode cL_law 889 = .ok (.aload_n 0, 1) := dk_42 (dk_at dksL_law_35 2 rfl rfl)
theorem dL_law_890 : decode cL_law 890 = .ok (.iload 4, 2) := dk_21 4 (dk_at dksL_law_35 3 rfl rfl)
theorem dL_law_892 : decode cL_law 892 = .ok (.iconst 3, 1) := dk_6 (dk_at dksL_law_35 5 rfl rfl)
theorem dL_law_893 : decode cL_law 893 = .ok (.iadd, 1) := dk_96 (dk_at dksL_law_35 6 rfl rfl)
theorem dL_law_894 : decode cL_law 894 = .ok (.iaload, 1) := dk_46 (dk_at dksL_law_35 7 rfl rfl)
theorem dL_law_895 : decode cL_law 895 = .ok (.invokevirtual 125, 3) := dk_182 0 125 (dk_at dksL_law_35 8 rfl rfl)
theorem dL_law_898 : decode cL_law 898 = .ok (.istore 6, 2) := dk_54 6 (dk_at dksL_law_35 11 rfl rfl)
theorem dL_law_900 : decode cL_law 900 = .ok (.aload_n 2, 1) := dk_44 (dk_at dksL_law_35 13 rfl rfl)
theorem dL_law_901 : decode cL_law 901 = .ok (.invokevirtual 73, 3) := dk_182 0 73 (dk_at dksL_law_35 14 rfl rfl)
theorem dL_law_904 : decode cL_law 904 = .ok (.iload 5, 2) := dk_21 5 (dk_at dksL_law_35 17 rfl rfl)
theorem dL_law_906 : decode cL_law 906 = .ok (.if_icmp .eq 5, 3) := dk_159 0 5 (dk_at dksL_law_35 19 rfl rfl)
theorem dL_law_909 : decode cL_law 909 = .ok (.iconst 0, 1) := dk_3 (dk_at dksL_law_35 22 rfl rfl)
theorem dL_law_910 : decode cL_law 910 = .ok (.ireturn, 1) := dk_172 (dk_at dksL_law_35 23 rfl rfl)
theorem dL_law_911 : decode cL_law 911 = .ok (.iload 5, 2) := dk_21 5 (dk_at dksL_law_36 0 rfl rfl)
theorem dL_law_913 : decode cL_law 913 = .ok (.ifCond .ne 15, 3) := dk_154 0 15 (dk_at dksL_law_36 2 rfl rfl)
theorem dL_law_916 : decode cL_law 916 = .ok (.aload_n 3, 1) := dk_45 (dk_at dksL_law_36 5 rfl rfl)
theorem dL_law_917 : decode cL_law 917 = .ok (.iconst 0, 1) := dk_3 (dk_at dksL_law_36 6 rfl rfl)
theorem dL_law_918 : decode cL_law 918 = .ok (.laload, 1) := dk_47 (dk_at dksL_law_36 7 rfl rfl)
theorem dL_law_919 : decode cL_law 919 = .ok (.iload 6, 2) := dk_21 6 (dk_at dksL_law_36 8 rfl rfl)
theorem dL_law_921 : decode cL_law 921 = .ok (.i2l, 1) := dk_133 (dk_at dksL_law_36 10 rfl rfl)
theorem dL_law_922 : decode cL_law 922 = .ok (.lcmp, 1) := dk_148 (dk_at dksL_law_36 11 rfl rfl)
theorem dL_law_923 : decode cL_law 923 = .ok (.ifCond .eq 5, 3) := dk_153 0 5 (dk_at dksL_law_36 12 rfl rfl)
theorem dL_law_926 : decode cL_law 926 = .ok (.iconst 0, 1) := dk_3 (dk_at dksL_law_36 15 rfl rfl)
theorem dL_law_927 : decode cL_law 927 = .ok (.ireturn, 1) := dk_172 (dk_at dksL_law_36 16 rfl rfl)
theorem dL_law_928 : decode cL_law 928 = .ok (.goto 191, 3) := dk_167 0 191 (dk_at dksL_law_36 17 rfl rfl)
theorem dL_law_931 : decode cL_law 931 = .ok (.aload_n 1, 1) := dk_43 (dk_at dksL_law_36 20 rfl rfl)
theorem dL_law_932 : decode cL_law 932 = .ok (.invokevirtual 126, 3) := dk_182 0 126 (dk_at dksL_law_36 21 rfl rfl)
theorem dL_law_935 : decode cL_law 935 = .ok (.aload_n 2, 1) := dk_44 (dk_at dksL_law_37 0 rfl rfl)
theorem dL_law_936 : decode cL_law 936 = .ok (.invokevirtual 129, 3) := dk_182 0 129 (dk_at dksL_law_37 1 rfl rfl)
theorem dL_law_939 : decode cL_law 939 = .ok (.if_icmp .eq 180, 3) := dk_159 0 180 (dk_at dksL_law_37 4 rfl rfl)
theorem dL_law_942 : decode cL_law 942 = .ok (.iconst 0, 1) := dk_3 (dk_at dksL_law_37 7 rfl rfl)
theorem dL_law_943 : decode cL_law 943 = .ok (.ireturn, 1) := dk_172 (dk_at dksL_law_37 8 rfl rfl)
theorem dL_law_944 : decode cL_law 944 = .ok (.aload_n 1, 1) := dk_43 (dk_at dksL_law_37 9 rfl rfl)
theorem dL_law_945 : decode cL_law 945 = .ok (.aload_n 0, 1) := dk_42 (dk_at dksL_law_37 10 rfl rfl)
theorem dL_law_946 : decode cL_law 946 = .ok (.iload 4, 2) := dk_21 4 (dk_at dksL_law_37 11 rfl rfl)
theorem dL_law_948 : decode cL_law 948 = .ok (.iconst 1, 1) := dk_4 (dk_at dksL_law_37 13 rfl rfl)
theorem dL_law_949 : decode cL_law 949 = .ok (.iadd, 1) := dk_96 (dk_at dksL_law_37 14 rfl rfl)
theorem dL_law_950 : decode cL_law 950 = .ok (.iaload, 1) := dk_46 (dk_at dksL_law_37 15 rfl rfl)
theorem dL_law_951 : decode cL_law 951 = .ok (.aload_n 3, 1) := dk_45 (dk_at dksL_law_37 16 rfl rfl)
theorem dL_law_952 : decode cL_law 952 = .ok (.invokestatic 130, 3) := dk_184 0 130 (dk_at dksL_law_37 17 rfl rfl)
theorem dL_law_955 : decode cL_law 955 = .ok (.istore 5, 2) := dk_54 5 (dk_at dksL_law_37 20 rfl rfl)
theorem dL_law_957 : decode cL_law 957 = .ok (.aload_n 2, 1) := dk_44 (dk_at dksL_law_37 22 rfl rfl)
theorem dL_law_958 : decode cL_law 958 = .ok (.aload_n 0, 1) := dk_42 (dk_at dksL_law_37 23 rfl rfl)
theorem dL_law_959 : decode cL_law 959 = .ok (.iload 4, 2) := dk_21 4 (dk_at dksL_law_38 0 rfl rfl)
theorem dL_law_961 : decode cL_law 961 = .ok (.iconst 1, 1) := dk_4 (dk_at dksL_law_38 2 rfl rfl)
theorem dL_law_962 : decode cL_law 962 = .ok (.iadd, 1) := dk_96 (dk_at dksL_law_38 3 rfl rfl)
theorem dL_law_963 : decode cL_law 963 = .ok (.iaload, 1) := dk_46 (dk_at dksL_law_38 4 rfl rfl)
theorem dL_law_964 : decode cL_law 964 = .ok (.invokevirtual 132, 3) := dk_182 0 132 (dk_at dksL_law_38 5 rfl rfl)
theorem dL_law_967 : decode cL_law 967 = .ok (.istore 6, 2) := dk_54 6 (dk_at dksL_law_38 8 rfl rfl)
theorem dL_law_969 : decode cL_law 969 = .ok (.aload_n 2, 1) := dk_44 (dk_at dksL_law_38 10 rfl rfl)
theorem dL_law_970 : decode cL_law 970 = .ok (.invokevirtual 73, 3) := dk_182 0 73 (dk_at dksL_law_38 11 rfl rfl)
theorem dL_law_973 : decode cL_law 973 = .ok (.iload 5, 2) := dk_21 5 (dk_at dksL_law_38 14 rfl rfl)
theorem dL_law_975 : decode cL_law 975 = .ok (.if_icmp .eq 5, 3) := dk_159 0 5 (dk_at dksL_law_38 16 rfl rfl)
theorem dL_law_978 : decode cL_law 978 = .ok (.iconst 0, 1) := dk_3 (dk_at dksL_law_38 19 rfl rfl)
theorem dL_law_979 : decode cL_law 979 = .ok (.ireturn, 1) := dk_172 (dk_at dksL_law_38 20 rfl rfl)
theorem dL_law_980 : decode cL_law 980 = .ok (.iload 5, 2) := dk_21 5 (dk_at dksL_law_38 21 rfl rfl)
theorem dL_law_982 : decode cL_law 982 = .ok (.ifCond .ne 22, 3) := dk_154 0 22 (dk_at dksL_law_39 0 rfl rfl)
theorem dL_law_985 : decode cL_law 985 = .ok (.aload_n 3, 1) := dk_45 (dk_at dksL_law_39 3 rfl rfl)
theorem dL_law_986 : decode cL_law 986 = .ok (.iconst 0, 1) := dk_3 (dk_at dksL_law_39 4 rfl rfl)
theorem dL_law_987 : decode cL_law 987 = .ok (.laload, 1) := dk_47 (dk_at dksL_law_39 5 rfl rfl)
theorem dL_law_988 : decode cL_law 988 = .ok (.iload 6, 2) := dk_21 6 (dk_at dksL_law_39 6 rfl rfl)
theorem dL_law_990 : decode cL_law 990 = .ok (.ifCond .eq 7, 3) := dk_153 0 7 (dk_at dksL_law_39 8 rfl rfl)
theorem dL_law_993 : decode cL_law 993 = .ok (.lconst 1, 1) := dk_10 (dk_at dksL_law_39 11 rfl rfl)
theorem dL_law_994 : decode cL_law 994 = .ok (.goto 4, 3) := dk_167 0 4 (dk_at dksL_law_39 12 rfl rfl)
theorem dL_law_997 : decode cL_law 997 = .ok (.lconst 0, 1) := dk_9 (dk_at dksL_law_39 15 rfl rfl)
theorem dL_law_998 : decode cL_law 998 = .ok (.lcmp, 1) := dk_148 (dk_at dksL_law_39 16 rfl rfl)
theorem dL_law_999 : decode cL_law 999 = .ok (.ifCond .eq 5, 3) := dk_153 0 5 (dk_at dksL_law_39 17 rfl rfl)
theorem dL_law_1002 : decode cL_law 1002 = .ok (.iconst 0, 1) := dk_3 (dk_at dksL_law_39 20 rfl rfl)
theorem dL_law_1003 : decode cL_law 1003 = .ok (.ireturn, 1) := dk_172 (dk_at dksL_law_39 21 rfl rfl)
theorem dL_law_1004 : decode cL_law 1004 = .ok (.goto 115, 3) := dk_167 0 115 (dk_at dksL_law_40 0 rfl rfl)
theorem dL_law_1007 : decode cL_law 1007 = .ok (.aload_n 1, 1) := dk_43 (dk_at dksL_law_40 3 rfl rfl)
theorem dL_law_1008 : decode cL_law 1008 = .ok (.aload_n 0, 1) := dk_42 (dk_at dksL_law_40 4 rfl rfl)
theorem dL_law_1009 : decode cL_law 1009 = .ok (.iload 4, 2) := dk_21 4 (dk_at dksL_law_40 5 rfl rfl)
theorem dL_law_1011 : decode cL_law 1011 = .ok (.iconst 1, 1) := dk_4 (dk_at dksL_law_40 7 rfl rfl)
theorem dL_law_1012 : decode cL_law 1012 = .ok (.iadd, 1) := dk_96 (dk_at dksL_law_40 8 rfl rfl)
theorem dL_law_1013 : decode cL_law 1013 = .ok (.iaload, 1) := dk_46 (dk_at dksL_law_40 9 rfl rfl)
theorem dL_law_1014 : decode cL_law 1014 = .ok (.aload_n 3, 1) := dk_45 (dk_at dksL_law_40 10 rfl rfl)
theorem dL_law_1015 : decode cL_law 1015 = .ok (.invokestatic 133, 3) := dk_184 0 133 (dk_at dksL_law_40 11 rfl rfl)
theorem dL_law_1018 : decode cL_law 1018 = .ok (.istore 5, 2) := dk_54 5 (dk_at dksL_law_40 14 rfl rfl)
theorem dL_law_1020 : decode cL_law 1020 = .ok (.aload_n 2, 1) := dk_44 (dk_at dksL_law_40 16 rfl rfl)
theorem dL_law_1021 : decode cL_law 1021 = .ok (.aload_n 0, 1) := dk_42 (dk_at dksL_law_40 17 rfl rfl)
theorem dL_law_1022 : decode cL_law 1022 = .ok (.iload 4, 2) := dk_21 4 (dk_at dksL_law_40 18 rfl rfl)
theorem dL_law_1024 : decode cL_law 1024 = .ok (.iconst 1, 1) := dk_4 (dk_at dksL_law_40 20 rfl rfl)
theorem dL_law_1025 : decode cL_law 1025 = .ok (.iadd, 1) := dk_96 (dk_at dksL_law_40 21 rfl rfl)
theorem dL_law_1026 : decode cL_law 1026 = .ok (.iaload, 1) := dk_46 (dk_at dksL_law_40 22 rfl rfl)
theorem dL_law_1027 : decode cL_law 1027 = .ok (.invokevirtual 135, 3) := dk_182 0 135 (dk_at dksL_law_41 0 rfl rfl)
theorem dL_law_1030 : decode cL_law 1030 = .ok (.istore 6, 2) := dk_54 6 (dk_at dksL_law_41 3 rfl rfl)
theorem dL_law_1032 : decode cL_law 1032 = .ok (.aload_n 2, 1) := dk_44 (dk_at dksL_law_41 5 rfl rfl)
theorem dL_law_1033 : decode cL_law 1033 = .ok (.invokevirtual 73, 3) := dk_182 0 73 (dk_at dksL_law_41 6 rfl rfl)
theorem dL_law_1036 : decode cL_law 1036 = .ok (.iload 5, 2) := dk_21 5 (dk_at dksL_law_41 9 rfl rfl)
theorem dL_law_1038 : decode cL_law 1038 = .ok (.if_icmp .eq 5, 3) := dk_159 0 5 (dk_at dksL_law_41 11 rfl rfl)
theorem dL_law_1041 : decode cL_law 1041 = .ok (.iconst 0, 1) := dk_3 (dk_at dksL_law_41 14 rfl rfl)
theorem dL_law_1042 : decode cL_law 1042 = .ok (.ireturn, 1) := dk_172 (dk_at dksL_law_41 15 rfl rfl)
theorem dL_law_1043 : decode cL_law 1043 = .ok (.iload 5, 2) := dk_21 5 (dk_at dksL_law_41 16 rfl rfl)
theorem dL_law_1045 : decode cL_law 1045 = .ok (.ifCond .ne 15, 3) := dk_154 0 15 (dk_at dksL_law_41 18 rfl rfl)
theorem dL_law_1048 : decode cL_law 1048 = .ok (.aload_n 3, 1) := dk_45 (dk_at dksL_law_41 21 rfl rfl)
theorem dL_law_1049 : decode cL_law 1049 = .ok (.iconst 0, 1) := dk_3 (dk_at dksL_law_41 22 rfl rfl)
theorem dL_law_1050 : decode cL_law 1050 = .ok (.laload, 1) := dk_47 (dk_at dksL_law_41 23 rfl rfl)
theorem dL_law_1051 : decode cL_law 1051 = .ok (.iload 6, 2) := dk_21 6 (dk_at dksL_law_42 0 rfl rfl)
theorem dL_law_1053 : decode cL_law 1053 = .ok (.i2l, 1) := dk_133 (dk_at dksL_law_42 2 rfl rfl)
theorem dL_law_1054 : decode cL_law 1054 = .ok (.lcmp, 1) := dk_148 (dk_at dksL_law_42 3 rfl rfl)
theorem dL_law_1055 : decode cL_law 1055 = .ok (.ifCond .eq 5, 3) := dk_153 0 5 (dk_at dksL_law_42 4 rfl rfl)
theorem dL_law_1058 : decode cL_law 1058 = .ok (.iconst 0, 1) := dk_3 (dk_at dksL_law_42 7 rfl rfl)
theorem dL_law_1059 : decode cL_law 1059 = .ok (.ireturn, 1) := dk_172 (dk_at dksL_law_42 8 rfl rfl)
theorem dL_law_1060 : decode cL_law 1060 = .ok (.goto 59, 3) := dk_167 0 59 (dk_at dksL_law_42 9 rfl rfl)
theorem dL_law_1063 : decode cL_law 1063 = .ok (.aload_n 1, 1) := dk_43 (dk_at dksL_law_42 12 rfl rfl)
theorem dL_law_1064 : decode cL_law 1064 = .ok (.aload_n 0, 1) := dk_42 (dk_at dksL_law_42 13 rfl rfl)
theorem dL_law_1065 : decode cL_law 1065 = .ok (.iload 4, 2) := dk_21 4 (dk_at dksL_law_42 14 rfl rfl)
theorem dL_law_1067 : decode cL_law 1067 = .ok (.iconst 1, 1) := dk_4 (dk_at dksL_law_42 16 rfl rfl)
theorem dL_law_1068 : decode cL_law 1068 = .ok (.iadd, 1) := dk_96 (dk_at dksL_law_42 17 rfl rfl)
theorem dL_law_1069 : decode cL_law 1069 = .ok (.iaload, 1) := dk_46 (dk_at dksL_law_42 18 rfl rfl)
theorem dL_law_1070 : decode cL_law 1070 = .ok (.aload_n 3, 1) := dk_45 (dk_at dksL_law_42 19 rfl rfl)
theorem dL_law_1071 : decode cL_law 1071 = .ok (.invokestatic 136, 3) := dk_184 0 136 (dk_at dksL_law_42 20 rfl rfl)
theorem dL_law_1074 : decode cL_law 1074 = .ok (.istore 5, 2) := dk_54 5 (dk_at dksL_law_43 0 rfl rfl)
theorem dL_law_1076 : decode cL_law 1076 = .ok (.aload_n 2, 1) := dk_44 (dk_at dksL_law_43 2 rfl rfl)
theorem dL_law_1077 : decode cL_law 1077 = .ok (.aload_n 0, 1) := dk_42 (dk_at dksL_law_43 3 rfl rfl)
theorem dL_law_1078 : decode cL_law 1078 = .ok (.iload 4, 2) := dk_21 4 (dk_at dksL_law_43 4 rfl rfl)
theorem dL_law_1080 : decode cL_law 1080 = .ok (.iconst 1, 1) := dk_4 (dk_at dksL_law_43 6 rfl rfl)
theorem dL_law_1081 : decode cL_law 1081 = .ok (.iadd, 1) := dk_96 (dk_at dksL_law_43 7 rfl rfl)
theorem dL_law_1082 : decode cL_law 1082 = .ok (.iaload, 1) := dk_46 (dk_at dksL_law_43 8 rfl rfl)
theorem dL_law_1083 : decode cL_law 1083 = .ok (.invokevirtual 138, 3) := dk_182 0 138 (dk_at dksL_law_43 9 rfl rfl)
theorem dL_law_1086 : decode cL_law 1086 = .ok (.istore 6, 2) := dk_54 6 (dk_at dksL_law_43 12 rfl rfl)
theorem dL_law_1088 : decode cL_law 1088 = .ok (.aload_n 2, 1) := dk_44 (dk_at dksL_law_43 14 rfl rfl)
theorem dL_law_1089 : decode cL_law 1089 = .ok (.invokevirtual 73, 3) := dk_182 0 73 (dk_at dksL_law_43 15 rfl rfl)
theorem dL_law_1092 : decode cL_law 1092 = .ok (.iload 5, 2) := dk_21 5 (dk_at dksL_law_43 18 rfl rfl)
theorem dL_law_1094 : decode cL_law 1094 = .ok (.if_icmp .eq 5, 3) := dk_159 0 5 (dk_at dksL_law_43 20 rfl rfl)
theorem dL_law_1097 : decode cL_law 1097 = .ok (.iconst 0, 1) := dk_3 (dk_at dksL_law_43 23 rfl rfl)
theorem dL_law_1098 : decode cL_law 1098 = .ok (.ireturn, 1) := dk_172 (dk_at dksL_law_44 0 rfl rfl)
theorem dL_law_1099 : decode cL_law 1099 = .ok (.iload 5, 2) := dk_21 5 (dk_at dksL_law_44 1 rfl rfl)
theorem dL_law_1101 : decode cL_law 1101 = .ok (.ifCond .ne 15, 3) := dk_154 0 15 (dk_at dksL_law_44 3 rfl rfl)
theorem dL_law_1104 : decode cL_law 1104 = .ok (.aload_n 3, 1) := dk_45 (dk_at dksL_law_44 6 rfl rfl)
theorem dL_law_1105 : decode cL_law 1105 = .ok (.iconst 0, 1) := dk_3 (dk_at dksL_law_44 7 rfl rfl)
theorem dL_law_1106 : decode cL_law 1106 = .ok (.laload, 1) := dk_47 (dk_at dksL_law_44 8 rfl rfl)
theorem dL_law_1107 : decode cL_law 1107 = .ok (.iload 6, 2) := dk_21 6 (dk_at dksL_law_44 9 rfl rfl)
theorem dL_law_1109 : decode cL_law 1109 = .ok (.i2l, 1) := dk_133 (dk_at dksL_law_44 11 rfl rfl)
theorem dL_law_1110 : decode cL_law 1110 = .ok (.lcmp, 1) := dk_148 (dk_at dksL_law_44 12 rfl rfl)
theorem dL_law_1111 : decode cL_law 1111 = .ok (.ifCond .eq 5, 3) := dk_153 0 5 (dk_at dksL_law_44 13 rfl rfl)
theorem dL_law_1114 : decode cL_law 1114 = .ok (.iconst 0, 1) := dk_3 (dk_at dksL_law_44 16 rfl rfl)
theorem dL_law_1115 : decode cL_law 1115 = .ok (.ireturn, 1) := dk_172 (dk_at dksL_law_44 17 rfl rfl)
theorem dL_law_1116 : decode cL_law 1116 = .ok (.goto 3, 3) := dk_167 0 3 (dk_at dksL_law_44 18 rfl rfl)
theorem dL_law_1119 : decode cL_law 1119 = .ok (.iinc 4 6, 3) := dk_132 4 6 (dk_at dksL_law_44 21 rfl rfl)
theorem dL_law_1122 : decode cL_law 1122 = .ok (.goto (-1099), 3) := dk_167 251 181 (dk_at dksL_law_45 0 rfl rfl)
theorem dL_law_1125 : decode cL_law 1125 = .ok (.iconst 1, 1) := dk_4 (dk_at dksL_law_45 3 rfl rfl)
theorem dL_law_1126 : decode cL_law 1126 = .ok (.ireturn, 1) := dk_172 (dk_at dksL_law_45 4 rfl rfl)
