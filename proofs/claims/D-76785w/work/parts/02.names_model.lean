/-! DECODE ROWS BY BYTES: one lemma an opcode; a method's code is cut into short pieces once, and a row reads its own piece alone. -/
set_option maxRecDepth 100000
/-- the code has just these bytes from pc on -/
def DkAt (code : ByteArray) (pc : Nat) (bs : List UInt8) : Prop := ∀ (j : Nat) (b : UInt8), bs[j]? = some b → code.data.toList[pc + j]? = some b
/-- the piece W has the bytes bs from its place j on -/
def dkIn (W : List UInt8) (j : Nat) (bs : List UInt8) : Bool := decide ((W.drop j).take bs.length = bs)
theorem dk_seg {l W T : List UInt8} {o o2 : Nat} (h : l.drop o = W ++ T) (n : Nat) (hn : W.length = n) (ho : o + n = o2) : l.drop o2 = T := by
  subst ho
  rw [← List.drop_drop, h, List.drop_left' hn]
theorem dk_at {code : ByteArray} {W T bs : List UInt8} {o pc : Nat} (h : code.data.toList.drop o = W ++ T) (j : Nat) (hp : o + j = pc) (hw : dkIn W j bs = true) : DkAt code pc bs := by
  subst hp
  intro i b e
  have h1 := of_decide_eq_true hw
  have h2 : i < bs.length := (List.getElem?_eq_some_iff.mp e).1
  have h3 : W[j + i]? = some b := by
    rw [← h1, List.getElem?_take, if_pos h2, List.getElem?_drop] at e
    exact e
  have h4 : j + i < W.length := (List.getElem?_eq_some_iff.mp h3).1
  have h5 : (code.data.toList.drop o)[j + i]? = some b := by
    rw [h, List.getElem?_append_left h4]
    exact h3
  rw [List.getElem?_drop, ← Nat.add_assoc] at h5
  exact h5
theorem dk_u1 {A : ByteArray} {p : Nat} {b : UInt8} (h : A.data.toList[p]? = some b) : (Reader.u1 : Reader DecodeError Nat) A p = .ok (b.toNat, p + 1) := by
  obtain ⟨h1, h2⟩ := List.getElem?_eq_some_iff.mp h
  have h3 : p < A.size := by simpa using h1
  have h4 : A[p]'h3 = b := h2
  have e : (Reader.u1 : Reader DecodeError Nat) A p = (if h : p < A.size then .ok (A[p].toNat, p + 1) else .error (HasTruncated.truncated p)) := by
    show (do if h : p < A.size then do set (p + 1); Pure.pure A[p].toNat else MonadExcept.throw (HasTruncated.truncated p) : Reader DecodeError Nat) A p = _
    by_cases hi : p < A.size
    · rw [dif_pos hi, dif_pos hi]; rfl
    · rw [dif_neg hi, dif_neg hi]; rfl
  rw [e, dif_pos h3, h4]
theorem dk_bind {α β : Type} {r : Reader DecodeError α} {f : α → Reader DecodeError β} {A : ByteArray} {p s : Nat} {a : α} (h : r A p = .ok (a, s)) : (r >>= f) A p = f a A s := by
  show (do let (a, s) ← r A p; f a A s : Except DecodeError (β × Nat)) = _
  rw [h]
  rfl
theorem dk_map {α β : Type} {r : Reader DecodeError α} {g : α → β} {A : ByteArray} {p s : Nat} {a : α} (h : r A p = .ok (a, s)) : (g <$> r) A p = .ok (g a, s) := by
  show (do let (a, s) ← r A p; .ok (g a, s) : Except DecodeError (β × Nat)) = _
  rw [h]
  rfl
theorem dk_u2 {A : ByteArray} {p : Nat} {a b : UInt8} (h : A.data.toList[p]? = some a) (h2 : A.data.toList[p + 1]? = some b) : (Reader.u2 : Reader DecodeError Nat) A p = .ok (a.toNat * 256 + b.toNat, p + 2) := by
  show (Reader.u1 >>= fun hi => Reader.u1 >>= fun lo => Pure.pure (hi * 256 + lo) : Reader DecodeError Nat) A p = _
  rw [dk_bind (dk_u1 h), dk_bind (dk_u1 h2)]
  rfl
theorem dk_of {code : ByteArray} {pc n : Nat} {i : Instr} (h : Decoder.instr pc code pc = .ok (i, pc + n)) : decode code pc = .ok (i, n) := by
  have e : decode code pc = (match Decoder.instr pc code pc with | .error x => .error x | .ok (j, s) => .ok (j, s - pc)) := by
    show (do let (j, s) ← Decoder.instr pc code pc; Pure.pure (j, s - pc) : Except DecodeError (Instr × Nat)) = _
    cases Decoder.instr pc code pc <;> rfl
  rw [e, h]
  show Except.ok (i, pc + n - pc) = _
  rw [Nat.add_sub_cancel_left]
theorem dk_1 {code : ByteArray} {pc : Nat} (h : DkAt code pc [1]) : decode code pc = .ok (.aconst_null, 1) := dk_of ((dk_bind (dk_u1 (h 0 _ rfl))).trans rfl)
theorem dk_2 {code : ByteArray} {pc : Nat} (h : DkAt code pc [2]) : decode code pc = .ok (.iconst (-1), 1) := dk_of ((dk_bind (dk_u1 (h 0 _ rfl))).trans rfl)
theorem dk_3 {code : ByteArray} {pc : Nat} (h : DkAt code pc [3]) : decode code pc = .ok (.iconst 0, 1) := dk_of ((dk_bind (dk_u1 (h 0 _ rfl))).trans rfl)
theorem dk_4 {code : ByteArray} {pc : Nat} (h : DkAt code pc [4]) : decode code pc = .ok (.iconst 1, 1) := dk_of ((dk_bind (dk_u1 (h 0 _ rfl))).trans rfl)
theorem dk_5 {code : ByteArray} {pc : Nat} (h : DkAt code pc [5]) : decode code pc = .ok (.iconst 2, 1) := dk_of ((dk_bind (dk_u1 (h 0 _ rfl))).trans rfl)
theorem dk_6 {code : ByteArray} {pc : Nat} (h : DkAt code pc [6]) : decode code pc = .ok (.iconst 3, 1) := dk_of ((dk_bind (dk_u1 (h 0 _ rfl))).trans rfl)
theorem dk_7 {code : ByteArray} {pc : Nat} (h : DkAt code pc [7]) : decode code pc = .ok (.iconst 4, 1) := dk_of ((dk_bind (dk_u1 (h 0 _ rfl))).trans rfl)
theorem dk_8 {code : ByteArray} {pc : Nat} (h : DkAt code pc [8]) : decode code pc = .ok (.iconst 5, 1) := dk_of ((dk_bind (dk_u1 (h 0 _ rfl))).trans rfl)
theorem dk_9 {code : ByteArray} {pc : Nat} (h : DkAt code pc [9]) : decode code pc = .ok (.lconst 0, 1) := dk_of ((dk_bind (dk_u1 (h 0 _ rfl))).trans rfl)
theorem dk_10 {code : ByteArray} {pc : Nat} (h : DkAt code pc [10]) : decode code pc = .ok (.lconst 1, 1) := dk_of ((dk_bind (dk_u1 (h 0 _ rfl))).trans rfl)
theorem dk_16 {code : ByteArray} {pc : Nat} (a : UInt8) (h : DkAt code pc [16, a]) : decode code pc = .ok (.bipush (Reader.signed 8 a.toNat), 2) := dk_of ((dk_bind (dk_u1 (h 0 _ rfl))).trans ((dk_bind (dk_map (dk_u1 (h 1 _ rfl)))).trans rfl))
theorem dk_17 {code : ByteArray} {pc : Nat} (a b : UInt8) (h : DkAt code pc [17, a, b]) : decode code pc = .ok (.sipush (Reader.signed 16 (a.toNat * 256 + b.toNat)), 3) := dk_of ((dk_bind (dk_u1 (h 0 _ rfl))).trans ((dk_bind (dk_map (dk_u2 (h 1 _ rfl) (h 2 _ rfl)))).trans rfl))
theorem dk_18 {code : ByteArray} {pc : Nat} (a : UInt8) (h : DkAt code pc [18, a]) : decode code pc = .ok (.ldc a.toNat, 2) := dk_of ((dk_bind (dk_u1 (h 0 _ rfl))).trans ((dk_bind (dk_u1 (h 1 _ rfl))).trans rfl))
theorem dk_19 {code : ByteArray} {pc : Nat} (a b : UInt8) (h : DkAt code pc [19, a, b]) : decode code pc = .ok (.ldc_w (a.toNat * 256 + b.toNat), 3) := dk_of ((dk_bind (dk_u1 (h 0 _ rfl))).trans ((dk_bind (dk_u2 (h 1 _ rfl) (h 2 _ rfl))).trans rfl))
theorem dk_20 {code : ByteArray} {pc : Nat} (a b : UInt8) (h : DkAt code pc [20, a, b]) : decode code pc = .ok (.ldc2_w (a.toNat * 256 + b.toNat), 3) := dk_of ((dk_bind (dk_u1 (h 0 _ rfl))).trans ((dk_bind (dk_u2 (h 1 _ rfl) (h 2 _ rfl))).trans rfl))
theorem dk_21 {code : ByteArray} {pc : Nat} (a : UInt8) (h : DkAt code pc [21, a]) : decode code pc = .ok (.iload a.toNat, 2) := dk_of ((dk_bind (dk_u1 (h 0 _ rfl))).trans ((dk_bind (dk_u1 (h 1 _ rfl))).trans rfl))
theorem dk_22 {code : ByteArray} {pc : Nat} (a : UInt8) (h : DkAt code pc [22, a]) : decode code pc = .ok (.lload a.toNat, 2) := dk_of ((dk_bind (dk_u1 (h 0 _ rfl))).trans ((dk_bind (dk_u1 (h 1 _ rfl))).trans rfl))
theorem dk_25 {code : ByteArray} {pc : Nat} (a : UInt8) (h : DkAt code pc [25, a]) : decode code pc = .ok (.aload a.toNat, 2) := dk_of ((dk_bind (dk_u1 (h 0 _ rfl))).trans ((dk_bind (dk_u1 (h 1 _ rfl))).trans rfl))
theorem dk_26 {code : ByteArray} {pc : Nat} (h : DkAt code pc [26]) : decode code pc = .ok (.iload_n 0, 1) := dk_of ((dk_bind (dk_u1 (h 0 _ rfl))).trans rfl)
theorem dk_27 {code : ByteArray} {pc : Nat} (h : DkAt code pc [27]) : decode code pc = .ok (.iload_n 1, 1) := dk_of ((dk_bind (dk_u1 (h 0 _ rfl))).trans rfl)
theorem dk_28 {code : ByteArray} {pc : Nat} (h : DkAt code pc [28]) : decode code pc = .ok (.iload_n 2, 1) := dk_of ((dk_bind (dk_u1 (h 0 _ rfl))).trans rfl)
theorem dk_29 {code : ByteArray} {pc : Nat} (h : DkAt code pc [29]) : decode code pc = .ok (.iload_n 3, 1) := dk_of ((dk_bind (dk_u1 (h 0 _ rfl))).trans rfl)
theorem dk_30 {code : ByteArray} {pc : Nat} (h : DkAt code pc [30]) : decode code pc = .ok (.lload_n 0, 1) := dk_of ((dk_bind (dk_u1 (h 0 _ rfl))).trans rfl)
theorem dk_31 {code : ByteArray} {pc : Nat} (h : DkAt code pc [31]) : decode code pc = .ok (.lload_n 1, 1) := dk_of ((dk_bind (dk_u1 (h 0 _ rfl))).trans rfl)
theorem dk_32 {code : ByteArray} {pc : Nat} (h : DkAt code pc [32]) : decode code pc = .ok (.lload_n 2, 1) := dk_of ((dk_bind (dk_u1 (h 0 _ rfl))).trans rfl)
theorem dk_33 {code : ByteArray} {pc : Nat} (h : DkAt code pc [33]) : decode code pc = .ok (.lload_n 3, 1) := dk_of ((dk_bind (dk_u1 (h 0 _ rfl))).trans rfl)
theorem dk_42 {code : ByteArray} {pc : Nat} (h : DkAt code pc [42]) : decode code pc = .ok (.aload_n 0, 1) := dk_of ((dk_bind (dk_u1 (h 0 _ rfl))).trans rfl)
theorem dk_43 {code : ByteArray} {pc : Nat} (h : DkAt code pc [43]) : decode code pc = .ok (.aload_n 1, 1) := dk_of ((dk_bind (dk_u1 (h 0 _ rfl))).trans rfl)
theorem dk_44 {code : ByteArray} {pc : Nat} (h : DkAt code pc [44]) : decode code pc = .ok (.aload_n 2, 1) := dk_of ((dk_bind (dk_u1 (h 0 _ rfl))).trans rfl)
theorem dk_45 {code : ByteArray} {pc : Nat} (h : DkAt code pc [45]) : decode code pc = .ok (.aload_n 3, 1) := dk_of ((dk_bind (dk_u1 (h 0 _ rfl))).trans rfl)
theorem dk_46 {code : ByteArray} {pc : Nat} (h : DkAt code pc [46]) : decode code pc = .ok (.iaload, 1) := dk_of ((dk_bind (dk_u1 (h 0 _ rfl))).trans rfl)
theorem dk_47 {code : ByteArray} {pc : Nat} (h : DkAt code pc [47]) : decode code pc = .ok (.laload, 1) := dk_of ((dk_bind (dk_u1 (h 0 _ rfl))).trans rfl)
theorem dk_50 {code : ByteArray} {pc : Nat} (h : DkAt code pc [50]) : decode code pc = .ok (.aaload, 1) := dk_of ((dk_bind (dk_u1 (h 0 _ rfl))).trans rfl)
theorem dk_51 {code : ByteArray} {pc : Nat} (h : DkAt code pc [51]) : decode code pc = .ok (.baload, 1) := dk_of ((dk_bind (dk_u1 (h 0 _ rfl))).trans rfl)
theorem dk_53 {code : ByteArray} {pc : Nat} (h : DkAt code pc [53]) : decode code pc = .ok (.saload, 1) := dk_of ((dk_bind (dk_u1 (h 0 _ rfl))).trans rfl)
theorem dk_54 {code : ByteArray} {pc : Nat} (a : UInt8) (h : DkAt code pc [54, a]) : decode code pc = .ok (.istore a.toNat, 2) := dk_of ((dk_bind (dk_u1 (h 0 _ rfl))).trans ((dk_bind (dk_u1 (h 1 _ rfl))).trans rfl))
theorem dk_55 {code : ByteArray} {pc : Nat} (a : UInt8) (h : DkAt code pc [55, a]) : decode code pc = .ok (.lstore a.toNat, 2) := dk_of ((dk_bind (dk_u1 (h 0 _ rfl))).trans ((dk_bind (dk_u1 (h 1 _ rfl))).trans rfl))
theorem dk_58 {code : ByteArray} {pc : Nat} (a : UInt8) (h : DkAt code pc [58, a]) : decode code pc = .ok (.astore a.toNat, 2) := dk_of ((dk_bind (dk_u1 (h 0 _ rfl))).trans ((dk_bind (dk_u1 (h 1 _ rfl))).trans rfl))
theorem dk_59 {code : ByteArray} {pc : Nat} (h : DkAt code pc [59]) : decode code pc = .ok (.istore_n 0, 1) := dk_of ((dk_bind (dk_u1 (h 0 _ rfl))).trans rfl)
theorem dk_60 {code : ByteArray} {pc : Nat} (h : DkAt code pc [60]) : decode code pc = .ok (.istore_n 1, 1) := dk_of ((dk_bind (dk_u1 (h 0 _ rfl))).trans rfl)
theorem dk_61 {code : ByteArray} {pc : Nat} (h : DkAt code pc [61]) : decode code pc = .ok (.istore_n 2, 1) := dk_of ((dk_bind (dk_u1 (h 0 _ rfl))).trans rfl)
theorem dk_62 {code : ByteArray} {pc : Nat} (h : DkAt code pc [62]) : decode code pc = .ok (.istore_n 3, 1) := dk_of ((dk_bind (dk_u1 (h 0 _ rfl))).trans rfl)
theorem dk_76 {code : ByteArray} {pc : Nat} (h : DkAt code pc [76]) : decode code pc = .ok (.astore_n 1, 1) := dk_of ((dk_bind (dk_u1 (h 0 _ rfl))).trans rfl)
theorem dk_77 {code : ByteArray} {pc : Nat} (h : DkAt code pc [77]) : decode code pc = .ok (.astore_n 2, 1) := dk_of ((dk_bind (dk_u1 (h 0 _ rfl))).trans rfl)
theorem dk_78 {code : ByteArray} {pc : Nat} (h : DkAt code pc [78]) : decode code pc = .ok (.astore_n 3, 1) := dk_of ((dk_bind (dk_u1 (h 0 _ rfl))).trans rfl)
theorem dk_79 {code : ByteArray} {pc : Nat} (h : DkAt code pc [79]) : decode code pc = .ok (.iastore, 1) := dk_of ((dk_bind (dk_u1 (h 0 _ rfl))).trans rfl)
theorem dk_80 {code : ByteArray} {pc : Nat} (h : DkAt code pc [80]) : decode code pc = .ok (.lastore, 1) := dk_of ((dk_bind (dk_u1 (h 0 _ rfl))).trans rfl)
theorem dk_83 {code : ByteArray} {pc : Nat} (h : DkAt code pc [83]) : decode code pc = .ok (.aastore, 1) := dk_of ((dk_bind (dk_u1 (h 0 _ rfl))).trans rfl)
theorem dk_84 {code : ByteArray} {pc : Nat} (h : DkAt code pc [84]) : decode code pc = .ok (.bastore, 1) := dk_of ((dk_bind (dk_u1 (h 0 _ rfl))).trans rfl)
theorem dk_86 {code : ByteArray} {pc : Nat} (h : DkAt code pc [86]) : decode code pc = .ok (.sastore, 1) := dk_of ((dk_bind (dk_u1 (h 0 _ rfl))).trans rfl)
theorem dk_87 {code : ByteArray} {pc : Nat} (h : DkAt code pc [87]) : decode code pc = .ok (.pop, 1) := dk_of ((dk_bind (dk_u1 (h 0 _ rfl))).trans rfl)
theorem dk_89 {code : ByteArray} {pc : Nat} (h : DkAt code pc [89]) : decode code pc = .ok (.dup, 1) := dk_of ((dk_bind (dk_u1 (h 0 _ rfl))).trans rfl)
theorem dk_90 {code : ByteArray} {pc : Nat} (h : DkAt code pc [90]) : decode code pc = .ok (.dup_x1, 1) := dk_of ((dk_bind (dk_u1 (h 0 _ rfl))).trans rfl)
theorem dk_92 {code : ByteArray} {pc : Nat} (h : DkAt code pc [92]) : decode code pc = .ok (.dup2, 1) := dk_of ((dk_bind (dk_u1 (h 0 _ rfl))).trans rfl)
theorem dk_96 {code : ByteArray} {pc : Nat} (h : DkAt code pc [96]) : decode code pc = .ok (.iadd, 1) := dk_of ((dk_bind (dk_u1 (h 0 _ rfl))).trans rfl)
theorem dk_97 {code : ByteArray} {pc : Nat} (h : DkAt code pc [97]) : decode code pc = .ok (.ladd, 1) := dk_of ((dk_bind (dk_u1 (h 0 _ rfl))).trans rfl)
theorem dk_100 {code : ByteArray} {pc : Nat} (h : DkAt code pc [100]) : decode code pc = .ok (.isub, 1) := dk_of ((dk_bind (dk_u1 (h 0 _ rfl))).trans rfl)
theorem dk_104 {code : ByteArray} {pc : Nat} (h : DkAt code pc [104]) : decode code pc = .ok (.imul, 1) := dk_of ((dk_bind (dk_u1 (h 0 _ rfl))).trans rfl)
theorem dk_108 {code : ByteArray} {pc : Nat} (h : DkAt code pc [108]) : decode code pc = .ok (.idiv, 1) := dk_of ((dk_bind (dk_u1 (h 0 _ rfl))).trans rfl)
theorem dk_112 {code : ByteArray} {pc : Nat} (h : DkAt code pc [112]) : decode code pc = .ok (.irem, 1) := dk_of ((dk_bind (dk_u1 (h 0 _ rfl))).trans rfl)
theorem dk_116 {code : ByteArray} {pc : Nat} (h : DkAt code pc [116]) : decode code pc = .ok (.ineg, 1) := dk_of ((dk_bind (dk_u1 (h 0 _ rfl))).trans rfl)
theorem dk_120 {code : ByteArray} {pc : Nat} (h : DkAt code pc [120]) : decode code pc = .ok (.ishl, 1) := dk_of ((dk_bind (dk_u1 (h 0 _ rfl))).trans rfl)
theorem dk_121 {code : ByteArray} {pc : Nat} (h : DkAt code pc [121]) : decode code pc = .ok (.lshl, 1) := dk_of ((dk_bind (dk_u1 (h 0 _ rfl))).trans rfl)
theorem dk_122 {code : ByteArray} {pc : Nat} (h : DkAt code pc [122]) : decode code pc = .ok (.ishr, 1) := dk_of ((dk_bind (dk_u1 (h 0 _ rfl))).trans rfl)
theorem dk_124 {code : ByteArray} {pc : Nat} (h : DkAt code pc [124]) : decode code pc = .ok (.iushr, 1) := dk_of ((dk_bind (dk_u1 (h 0 _ rfl))).trans rfl)
theorem dk_125 {code : ByteArray} {pc : Nat} (h : DkAt code pc [125]) : decode code pc = .ok (.lushr, 1) := dk_of ((dk_bind (dk_u1 (h 0 _ rfl))).trans rfl)
theorem dk_126 {code : ByteArray} {pc : Nat} (h : DkAt code pc [126]) : decode code pc = .ok (.iand, 1) := dk_of ((dk_bind (dk_u1 (h 0 _ rfl))).trans rfl)
theorem dk_127 {code : ByteArray} {pc : Nat} (h : DkAt code pc [127]) : decode code pc = .ok (.land, 1) := dk_of ((dk_bind (dk_u1 (h 0 _ rfl))).trans rfl)
theorem dk_128 {code : ByteArray} {pc : Nat} (h : DkAt code pc [128]) : decode code pc = .ok (.ior, 1) := dk_of ((dk_bind (dk_u1 (h 0 _ rfl))).trans rfl)
theorem dk_129 {code : ByteArray} {pc : Nat} (h : DkAt code pc [129]) : decode code pc = .ok (.lor, 1) := dk_of ((dk_bind (dk_u1 (h 0 _ rfl))).trans rfl)
theorem dk_130 {code : ByteArray} {pc : Nat} (h : DkAt code pc [130]) : decode code pc = .ok (.ixor, 1) := dk_of ((dk_bind (dk_u1 (h 0 _ rfl))).trans rfl)
theorem dk_131 {code : ByteArray} {pc : Nat} (h : DkAt code pc [131]) : decode code pc = .ok (.lxor, 1) := dk_of ((dk_bind (dk_u1 (h 0 _ rfl))).trans rfl)
theorem dk_132 {code : ByteArray} {pc : Nat} (a b : UInt8) (h : DkAt code pc [132, a, b]) : decode code pc = .ok (.iinc a.toNat (Reader.signed 8 b.toNat), 3) := dk_of ((dk_bind (dk_u1 (h 0 _ rfl))).trans ((dk_bind (dk_u1 (h 1 _ rfl))).trans ((dk_bind (dk_map (dk_u1 (h 2 _ rfl)))).trans rfl)))
theorem dk_133 {code : ByteArray} {pc : Nat} (h : DkAt code pc [133]) : decode code pc = .ok (.i2l, 1) := dk_of ((dk_bind (dk_u1 (h 0 _ rfl))).trans rfl)
theorem dk_136 {code : ByteArray} {pc : Nat} (h : DkAt code pc [136]) : decode code pc = .ok (.l2i, 1) := dk_of ((dk_bind (dk_u1 (h 0 _ rfl))).trans rfl)
theorem dk_145 {code : ByteArray} {pc : Nat} (h : DkAt code pc [145]) : decode code pc = .ok (.i2b, 1) := dk_of ((dk_bind (dk_u1 (h 0 _ rfl))).trans rfl)
theorem dk_146 {code : ByteArray} {pc : Nat} (h : DkAt code pc [146]) : decode code pc = .ok (.i2c, 1) := dk_of ((dk_bind (dk_u1 (h 0 _ rfl))).trans rfl)
theorem dk_147 {code : ByteArray} {pc : Nat} (h : DkAt code pc [147]) : decode code pc = .ok (.i2s, 1) := dk_of ((dk_bind (dk_u1 (h 0 _ rfl))).trans rfl)
theorem dk_148 {code : ByteArray} {pc : Nat} (h : DkAt code pc [148]) : decode code pc = .ok (.lcmp, 1) := dk_of ((dk_bind (dk_u1 (h 0 _ rfl))).trans rfl)
theorem dk_153 {code : ByteArray} {pc : Nat} (a b : UInt8) (h : DkAt code pc [153, a, b]) : decode code pc = .ok (.ifCond .eq (Reader.signed 16 (a.toNat * 256 + b.toNat)), 3) := dk_of ((dk_bind (dk_u1 (h 0 _ rfl))).trans ((dk_bind (dk_map (dk_u2 (h 1 _ rfl) (h 2 _ rfl)))).trans rfl))
theorem dk_154 {code : ByteArray} {pc : Nat} (a b : UInt8) (h : DkAt code pc [154, a, b]) : decode code pc = .ok (.ifCond .ne (Reader.signed 16 (a.toNat * 256 + b.toNat)), 3) := dk_of ((dk_bind (dk_u1 (h 0 _ rfl))).trans ((dk_bind (dk_map (dk_u2 (h 1 _ rfl) (h 2 _ rfl)))).trans rfl))
theorem dk_155 {code : ByteArray} {pc : Nat} (a b : UInt8) (h : DkAt code pc [155, a, b]) : decode code pc = .ok (.ifCond .lt (Reader.signed 16 (a.toNat * 256 + b.toNat)), 3) := dk_of ((dk_bind (dk_u1 (h 0 _ rfl))).trans ((dk_bind (dk_map (dk_u2 (h 1 _ rfl) (h 2 _ rfl)))).trans rfl))
theorem dk_156 {code : ByteArray} {pc : Nat} (a b : UInt8) (h : DkAt code pc [156, a, b]) : decode code pc = .ok (.ifCond .ge (Reader.signed 16 (a.toNat * 256 + b.toNat)), 3) := dk_of ((dk_bind (dk_u1 (h 0 _ rfl))).trans ((dk_bind (dk_map (dk_u2 (h 1 _ rfl) (h 2 _ rfl)))).trans rfl))
theorem dk_157 {code : ByteArray} {pc : Nat} (a b : UInt8) (h : DkAt code pc [157, a, b]) : decode code pc = .ok (.ifCond .gt (Reader.signed 16 (a.toNat * 256 + b.toNat)), 3) := dk_of ((dk_bind (dk_u1 (h 0 _ rfl))).trans ((dk_bind (dk_map (dk_u2 (h 1 _ rfl) (h 2 _ rfl)))).trans rfl))
theorem dk_158 {code : ByteArray} {pc : Nat} (a b : UInt8) (h : DkAt code pc [158, a, b]) : decode code pc = .ok (.ifCond .le (Reader.signed 16 (a.toNat * 256 + b.toNat)), 3) := dk_of ((dk_bind (dk_u1 (h 0 _ rfl))).trans ((dk_bind (dk_map (dk_u2 (h 1 _ rfl) (h 2 _ rfl)))).trans rfl))
theorem dk_159 {code : ByteArray} {pc : Nat} (a b : UInt8) (h : DkAt code pc [159, a, b]) : decode code pc = .ok (.if_icmp .eq (Reader.signed 16 (a.toNat * 256 + b.toNat)), 3) := dk_of ((dk_bind (dk_u1 (h 0 _ rfl))).trans ((dk_bind (dk_map (dk_u2 (h 1 _ rfl) (h 2 _ rfl)))).trans rfl))
theorem dk_160 {code : ByteArray} {pc : Nat} (a b : UInt8) (h : DkAt code pc [160, a, b]) : decode code pc = .ok (.if_icmp .ne (Reader.signed 16 (a.toNat * 256 + b.toNat)), 3) := dk_of ((dk_bind (dk_u1 (h 0 _ rfl))).trans ((dk_bind (dk_map (dk_u2 (h 1 _ rfl) (h 2 _ rfl)))).trans rfl))
theorem dk_161 {code : ByteArray} {pc : Nat} (a b : UInt8) (h : DkAt code pc [161, a, b]) : decode code pc = .ok (.if_icmp .lt (Reader.signed 16 (a.toNat * 256 + b.toNat)), 3) := dk_of ((dk_bind (dk_u1 (h 0 _ rfl))).trans ((dk_bind (dk_map (dk_u2 (h 1 _ rfl) (h 2 _ rfl)))).trans rfl))
theorem dk_162 {code : ByteArray} {pc : Nat} (a b : UInt8) (h : DkAt code pc [162, a, b]) : decode code pc = .ok (.if_icmp .ge (Reader.signed 16 (a.toNat * 256 + b.toNat)), 3) := dk_of ((dk_bind (dk_u1 (h 0 _ rfl))).trans ((dk_bind (dk_map (dk_u2 (h 1 _ rfl) (h 2 _ rfl)))).trans rfl))
theorem dk_163 {code : ByteArray} {pc : Nat} (a b : UInt8) (h : DkAt code pc [163, a, b]) : decode code pc = .ok (.if_icmp .gt (Reader.signed 16 (a.toNat * 256 + b.toNat)), 3) := dk_of ((dk_bind (dk_u1 (h 0 _ rfl))).trans ((dk_bind (dk_map (dk_u2 (h 1 _ rfl) (h 2 _ rfl)))).trans rfl))
theorem dk_164 {code : ByteArray} {pc : Nat} (a b : UInt8) (h : DkAt code pc [164, a, b]) : decode code pc = .ok (.if_icmp .le (Reader.signed 16 (a.toNat * 256 + b.toNat)), 3) := dk_of ((dk_bind (dk_u1 (h 0 _ rfl))).trans ((dk_bind (dk_map (dk_u2 (h 1 _ rfl) (h 2 _ rfl)))).trans rfl))
theorem dk_165 {code : ByteArray} {pc : Nat} (a b : UInt8) (h : DkAt code pc [165, a, b]) : decode code pc = .ok (.if_acmp .eq (Reader.signed 16 (a.toNat * 256 + b.toNat)), 3) := dk_of ((dk_bind (dk_u1 (h 0 _ rfl))).trans ((dk_bind (dk_map (dk_u2 (h 1 _ rfl) (h 2 _ rfl)))).trans rfl))
theorem dk_166 {code : ByteArray} {pc : Nat} (a b : UInt8) (h : DkAt code pc [166, a, b]) : decode code pc = .ok (.if_acmp .ne (Reader.signed 16 (a.toNat * 256 + b.toNat)), 3) := dk_of ((dk_bind (dk_u1 (h 0 _ rfl))).trans ((dk_bind (dk_map (dk_u2 (h 1 _ rfl) (h 2 _ rfl)))).trans rfl))
theorem dk_167 {code : ByteArray} {pc : Nat} (a b : UInt8) (h : DkAt code pc [167, a, b]) : decode code pc = .ok (.goto (Reader.signed 16 (a.toNat * 256 + b.toNat)), 3) := dk_of ((dk_bind (dk_u1 (h 0 _ rfl))).trans ((dk_bind (dk_map (dk_u2 (h 1 _ rfl) (h 2 _ rfl)))).trans rfl))
theorem dk_172 {code : ByteArray} {pc : Nat} (h : DkAt code pc [172]) : decode code pc = .ok (.ireturn, 1) := dk_of ((dk_bind (dk_u1 (h 0 _ rfl))).trans rfl)
theorem dk_173 {code : ByteArray} {pc : Nat} (h : DkAt code pc [173]) : decode code pc = .ok (.lreturn, 1) := dk_of ((dk_bind (dk_u1 (h 0 _ rfl))).trans rfl)
theorem dk_176 {code : ByteArray} {pc : Nat} (h : DkAt code pc [176]) : decode code pc = .ok (.areturn, 1) := dk_of ((dk_bind (dk_u1 (h 0 _ rfl))).trans rfl)
theorem dk_177 {code : ByteArray} {pc : Nat} (h : DkAt code pc [177]) : decode code pc = .ok (.return_, 1) := dk_of ((dk_bind (dk_u1 (h 0 _ rfl))).trans rfl)
theorem dk_178 {code : ByteArray} {pc : Nat} (a b : UInt8) (h : DkAt code pc [178, a, b]) : decode code pc = .ok (.getstatic (a.toNat * 256 + b.toNat), 3) := dk_of ((dk_bind (dk_u1 (h 0 _ rfl))).trans ((dk_bind (dk_u2 (h 1 _ rfl) (h 2 _ rfl))).trans rfl))
theorem dk_180 {code : ByteArray} {pc : Nat} (a b : UInt8) (h : DkAt code pc [180, a, b]) : decode code pc = .ok (.getfield (a.toNat * 256 + b.toNat), 3) := dk_of ((dk_bind (dk_u1 (h 0 _ rfl))).trans ((dk_bind (dk_u2 (h 1 _ rfl) (h 2 _ rfl))).trans rfl))
theorem dk_181 {code : ByteArray} {pc : Nat} (a b : UInt8) (h : DkAt code pc [181, a, b]) : decode code pc = .ok (.putfield (a.toNat * 256 + b.toNat), 3) := dk_of ((dk_bind (dk_u1 (h 0 _ rfl))).trans ((dk_bind (dk_u2 (h 1 _ rfl) (h 2 _ rfl))).trans rfl))
theorem dk_182 {code : ByteArray} {pc : Nat} (a b : UInt8) (h : DkAt code pc [182, a, b]) : decode code pc = .ok (.invokevirtual (a.toNat * 256 + b.toNat), 3) := dk_of ((dk_bind (dk_u1 (h 0 _ rfl))).trans ((dk_bind (dk_u2 (h 1 _ rfl) (h 2 _ rfl))).trans rfl))
theorem dk_183 {code : ByteArray} {pc : Nat} (a b : UInt8) (h : DkAt code pc [183, a, b]) : decode code pc = .ok (.invokespecial (a.toNat * 256 + b.toNat), 3) := dk_of ((dk_bind (dk_u1 (h 0 _ rfl))).trans ((dk_bind (dk_u2 (h 1 _ rfl) (h 2 _ rfl))).trans rfl))
theorem dk_184 {code : ByteArray} {pc : Nat} (a b : UInt8) (h : DkAt code pc [184, a, b]) : decode code pc = .ok (.invokestatic (a.toNat * 256 + b.toNat), 3) := dk_of ((dk_bind (dk_u1 (h 0 _ rfl))).trans ((dk_bind (dk_u2 (h 1 _ rfl) (h 2 _ rfl))).trans rfl))
theorem dk_187 {code : ByteArray} {pc : Nat} (a b : UInt8) (h : DkAt code pc [187, a, b]) : decode code pc = .ok (.new (a.toNat * 256 + b.toNat), 3) := dk_of ((dk_bind (dk_u1 (h 0 _ rfl))).trans ((dk_bind (dk_u2 (h 1 _ rfl) (h 2 _ rfl))).trans rfl))
theorem dk_188_4 {code : ByteArray} {pc : Nat} (h : DkAt code pc [188, 4]) : decode code pc = .ok (.newarray .boolean, 2) := dk_of ((dk_bind (dk_u1 (h 0 _ rfl))).trans ((dk_bind (dk_u1 (h 1 _ rfl))).trans rfl))
theorem dk_188_8 {code : ByteArray} {pc : Nat} (h : DkAt code pc [188, 8]) : decode code pc = .ok (.newarray .byte, 2) := dk_of ((dk_bind (dk_u1 (h 0 _ rfl))).trans ((dk_bind (dk_u1 (h 1 _ rfl))).trans rfl))
theorem dk_188_9 {code : ByteArray} {pc : Nat} (h : DkAt code pc [188, 9]) : decode code pc = .ok (.newarray .short, 2) := dk_of ((dk_bind (dk_u1 (h 0 _ rfl))).trans ((dk_bind (dk_u1 (h 1 _ rfl))).trans rfl))
theorem dk_188_10 {code : ByteArray} {pc : Nat} (h : DkAt code pc [188, 10]) : decode code pc = .ok (.newarray .int, 2) := dk_of ((dk_bind (dk_u1 (h 0 _ rfl))).trans ((dk_bind (dk_u1 (h 1 _ rfl))).trans rfl))
theorem dk_188_11 {code : ByteArray} {pc : Nat} (h : DkAt code pc [188, 11]) : decode code pc = .ok (.newarray .long, 2) := dk_of ((dk_bind (dk_u1 (h 0 _ rfl))).trans ((dk_bind (dk_u1 (h 1 _ rfl))).trans rfl))
theorem dk_189 {code : ByteArray} {pc : Nat} (a b : UInt8) (h : DkAt code pc [189, a, b]) : decode code pc = .ok (.anewarray (a.toNat * 256 + b.toNat), 3) := dk_of ((dk_bind (dk_u1 (h 0 _ rfl))).trans ((dk_bind (dk_u2 (h 1 _ rfl) (h 2 _ rfl))).trans rfl))
theorem dk_190 {code : ByteArray} {pc : Nat} (h : DkAt code pc [190]) : decode code pc = .ok (.arraylength, 1) := dk_of ((dk_bind (dk_u1 (h 0 _ rfl))).trans rfl)
theorem dk_191 {code : ByteArray} {pc : Nat} (h : DkAt code pc [191]) : decode code pc = .ok (.athrow, 1) := dk_of ((dk_bind (dk_u1 (h 0 _ rfl))).trans rfl)
theorem dk_192 {code : ByteArray} {pc : Nat} (a b : UInt8) (h : DkAt code pc [192, a, b]) : decode code pc = .ok (.checkcast (a.toNat * 256 + b.toNat), 3) := dk_of ((dk_bind (dk_u1 (h 0 _ rfl))).trans ((dk_bind (dk_u2 (h 1 _ rfl) (h 2 _ rfl))).trans rfl))
theorem dk_193 {code : ByteArray} {pc : Nat} (a b : UInt8) (h : DkAt code pc [193, a, b]) : decode code pc = .ok (.instanceof (a.toNat * 256 + b.toNat), 3) := dk_of ((dk_bind (dk_u1 (h 0 _ rfl))).trans ((dk_bind (dk_u2 (h 1 _ rfl) (h 2 _ rfl))).trans rfl))
theorem dk_194 {code : ByteArray} {pc : Nat} (h : DkAt code pc [194]) : decode code pc = .ok (.monitorenter, 1) := dk_of ((dk_bind (dk_u1 (h 0 _ rfl))).trans rfl)
theorem dk_195 {code : ByteArray} {pc : Nat} (h : DkAt code pc [195]) : decode code pc = .ok (.monitorexit, 1) := dk_of ((dk_bind (dk_u1 (h 0 _ rfl))).trans rfl)
theorem dk_198 {code : ByteArray} {pc : Nat} (a b : UInt8) (h : DkAt code pc [198, a, b]) : decode code pc = .ok (.ifnull (Reader.signed 16 (a.toNat * 256 + b.toNat)), 3) := dk_of ((dk_bind (dk_u1 (h 0 _ rfl))).trans ((dk_bind (dk_map (dk_u2 (h 1 _ rfl) (h 2 _ rfl)))).trans rfl))
theorem dk_199 {code : ByteArray} {pc : Nat} (a b : UInt8) (h : DkAt code pc [199, a, b]) : decode code pc = .ok (.ifnonnull (Reader.signed 16 (a.toNat * 256 + b.toNat)), 3) := dk_of ((dk_bind (dk_u1 (h 0 _ rfl))).trans ((dk_bind (dk_map (dk_u2 (h 1 _ rfl) (h 2 _ rfl)))).trans rfl))
theorem q3358 : (Jvm.Cond.castable "[I" "java/lang/Object") ∈ lw_tbl := lw_at lw_m14 142 rfl
theorem q3361 : (Jvm.Cond.castable "[J" "java/lang/Object") ∈ lw_tbl := lw_at lw_m14 145 rfl
/-! java/lang/Math -/
def RJ18 : String := "java/lang/Math"
abbrev cJ18_max : ByteArray := prog_41_method_65_code
def yJ18_max : MethodName := ⟨RJ18, "max", "(II)I"⟩
def dkwJ18_max_0 : List UInt8 := [26, 27, 161, 0, 7, 26, 167, 0, 4, 27, 172]
abbrev dktJ18_max_0 : List UInt8 := dkwJ18_max_0 ++ []
theorem dksJ18_max_0 : cJ18_max.data.toList.drop 0 = dktJ18_max_0 := by decide +kernel
theorem dJ18_max_0 : decode cJ18_max 0 = .ok (.iload_n 0, 1) := dk_26 (dk_at dksJ18_max_0 0 rfl rfl)
theorem dJ18_max_1 : decode cJ18_max 1 = .ok (.iload_n 1, 1) := dk_27 (dk_at dksJ18_max_0 1 rfl rfl)
theorem dJ18_max_2 : decode cJ18_max 2 = .ok (.if_icmp .lt 7, 3) := dk_161 0 7 (dk_at dksJ18_max_0 2 rfl rfl)
theorem dJ18_max_5 : decode cJ18_max 5 = .ok (.iload_n 0, 1) := dk_26 (dk_at dksJ18_max_0 5 rfl rfl)
theorem dJ18_max_6 : decode cJ18_max 6 = .ok (.goto 4, 3) := dk_167 0 4 (dk_at dksJ18_max_0 6 rfl rfl)
theorem dJ18_max_9 : decode cJ18_max 9 = .ok (.iload_n 1, 1) := dk_27 (dk_at dksJ18_max_0 9 rfl rfl)
theorem dJ18_max_10 : decode cJ18_max 10 = .ok (.ireturn, 1) := dk_172 (dk_at dksJ18_max_0 10 rfl rfl)
abbrev cJ18_min : ByteArray := prog_41_method_69_code
def yJ18_min : MethodName := ⟨RJ18, "min", "(II)I"⟩
def dkwJ18_min_0 : List UInt8 := [26, 27, 163, 0, 7, 26, 167, 0, 4, 27, 172]
abbrev dktJ18_min_0 : List UInt8 := dkwJ18_min_0 ++ []
theorem dksJ18_min_0 : cJ18_min.data.toList.drop 0 = dktJ18_min_0 := by decide +kernel
theorem dJ18_min_0 : decode cJ18_min 0 = .ok (.iload_n 0, 1) := dk_26 (dk_at dksJ18_min_0 0 rfl rfl)
theorem dJ18_min_1 : decode cJ18_min 1 = .ok (.iload_n 1, 1) := dk_27 (dk_at dksJ18_min_0 1 rfl rfl)
theorem dJ18_min_2 : decode cJ18_min 2 = .ok (.if_icmp .gt 7, 3) := dk_163 0 7 (dk_at dksJ18_min_0 2 rfl rfl)
theorem dJ18_min_5 : decode cJ18_min 5 = .ok (.iload_n 0, 1) := dk_26 (dk_at dksJ18_min_0 5 rfl rfl)
theorem dJ18_min_6 : decode cJ18_min 6 = .ok (.goto 4, 3) := dk_167 0 4 (dk_at dksJ18_min_0 6 rfl rfl)
theorem dJ18_min_9 : decode cJ18_min 9 = .ok (.iload_n 1, 1) := dk_27 (dk_at dksJ18_min_0 9 rfl rfl)
theorem dJ18_min_10 : decode cJ18_min 10 = .ok (.ireturn, 1) := dk_172 (dk_at dksJ18_min_0 10 rfl rfl)
theorem q121 : (Jvm.Cond.initialized "java/lang/Math") ∈ lw_all := lw_g (lw_at lw_m1 25 rfl) rfl
theorem q665 : (Jvm.Cond.static ({ cls := "java/lang/Math", name := "max", desc := "(II)I" } : Jvm.MethodName)) ∈ lw_all := lw_g (lw_at lw_m3 89 rfl) rfl
theorem q666 : (Jvm.Cond.code ({ cls := "java/lang/Math", name := "max", desc := "(II)I" } : Jvm.MethodName) prog_41_method_65_code (2 : Nat) (Option.some Jvm.ClassFile.FieldType.int)) ∈ lw_all := lw_g (lw_at lw_m3 90 rfl) rfl
theorem q683 : (Jvm.Cond.static ({ cls := "java/lang/Math", name := "min", desc := "(II)I" } : Jvm.MethodName)) ∈ lw_all := lw_g (lw_at lw_m3 107 rfl) rfl
theorem q684 : (Jvm.Cond.code ({ cls := "java/lang/Math", name := "min", desc := "(II)I" } : Jvm.MethodName) prog_41_method_69_code (2 : Nat) (Option.some Jvm.ClassFile.FieldType.int)) ∈ lw_all := lw_g (lw_at lw_m3 108 rfl) rfl
/-! CreditBrokerModel -/
def RX3 : String := "CreditBrokerModel"
def TX3 : u_T := fun k => match k with
  | 0 => ("CreditBrokerModel", "g", "[I", true)
  | 1 => ("CreditBrokerModel", "was", "[I", true)
  | 2 => ("CreditBrokerModel", "kept", "[I", true)
  | 3 => ("CreditBrokerModel", "hasImage", "Z", false)
  | 4 => ("CreditBrokerModel", "refusals", "[I", true)
  | 5 => ("CreditBrokerModel", "waits", "[I", true)
  | 6 => ("CreditBrokerModel", "tape", "[I", true)
  | 7 => ("CreditBrokerModel", "taped", "I", false)
  | 8 => ("CreditBrokerModel", "place", "I", false)
  | 9 => ("CreditBrokerModel", "read", "[I", true)
  | 10 => ("CreditBrokerModel", "readMany", "I", false)
  | 11 => ("CreditBrokerModel", "order", "[I", true)
  | 12 => ("CreditBrokerModel", "orderMany", "I", false)
  | 13 => ("CreditBrokerModel", "sorts", "[I", true)
  | 14 => ("CreditBrokerModel", "sizes", "[I", true)
  | 15 => ("CreditBrokerModel", "elements", "[J", true)
  | _ => ("CreditBrokerModel", "causes", "[I", true)
def tyX3 : Nat → FieldType := fun k => match k with
  | 0 => .array .int
  | 1 => .array .int
  | 2 => .array .int
  | 3 => .boolean
  | 4 => .array .int
  | 5 => .array .int
  | 6 => .array .int
  | 7 => .int
  | 8 => .int
  | 9 => .array .int
  | 10 => .int
  | 11 => .array .int
  | 12 => .int
  | 13 => .array .int
  | 14 => .array .int
  | 15 => .array .long
  | _ => .array .int
abbrev wsX30 : List Cond := u_ws RX3 TX3 17
theorem nmX3 : ∀ a, a < 17 → ∀ b, b < 17 → a ≠ b → (TX3 a).2.1 ≠ (TX3 b).2.1 := by decide +kernel
theorem tyX3_ok : ∀ k, k < 17 → parseFieldDescriptor (TX3 k).2.2.1 = some (tyX3 k) := by decide +kernel
abbrev cX3_init : ByteArray := prog_24_method_1_code
def yX3_init : MethodName := ⟨RX3, "<init>", "()V"⟩
def dkwX3_init_7 : List UInt8 := [8, 4, 79, 177]
abbrev dktX3_init_7 : List UInt8 := dkwX3_init_7 ++ []
def dkwX3_init_6 : List UInt8 := [181, 0, 37, 42, 17, 1, 64, 188, 11, 181, 0, 40, 42, 16, 32, 188, 10, 181, 0, 44, 42, 180, 0, 9]
abbrev dktX3_init_6 : List UInt8 := dkwX3_init_6 ++ dktX3_init_7
def dkwX3_init_5 : List UInt8 := [79, 89, 8, 2, 79, 89, 16, 6, 2, 79, 89, 16, 7, 2, 79, 181, 0, 34, 42, 16, 8, 188, 10]
abbrev dktX3_init_5 : List UInt8 := dkwX3_init_5 ++ dktX3_init_6
def dkwX3_init_4 : List UInt8 := [42, 16, 8, 188, 10, 89, 3, 2, 79, 89, 4, 2, 79, 89, 5, 2, 79, 89, 6, 2, 79, 89, 7, 2]
abbrev dktX3_init_4 : List UInt8 := dkwX3_init_4 ++ dktX3_init_5
def dkwX3_init_3 : List UInt8 := [42, 17, 0, 250, 188, 10, 181, 0, 25, 42, 7, 188, 10, 181, 0, 28, 42, 16, 20, 188, 10, 181, 0, 31]
abbrev dktX3_init_3 : List UInt8 := dkwX3_init_3 ++ dktX3_init_4
def dkwX3_init_2 : List UInt8 := [89, 4, 4, 79, 89, 5, 5, 79, 89, 6, 6, 79, 89, 7, 8, 79, 89, 8, 16, 8, 79, 181, 0, 22]
abbrev dktX3_init_2 : List UInt8 := dkwX3_init_2 ++ dktX3_init_3
def dkwX3_init_1 : List UInt8 := [17, 30, 239, 188, 10, 181, 0, 16, 42, 8, 188, 10, 181, 0, 19, 42, 16, 6, 188, 10, 89, 3, 3, 79]
abbrev dktX3_init_1 : List UInt8 := dkwX3_init_1 ++ dktX3_init_2
def dkwX3_init_0 : List UInt8 := [42, 183, 0, 1, 42, 17, 30, 239, 188, 10, 181, 0, 9, 42, 17, 30, 239, 188, 10, 181, 0, 13, 42]
abbrev dktX3_init_0 : List UInt8 := dkwX3_init_0 ++ dktX3_init_1
theorem dksX3_init_0 : cX3_init.data.toList.drop 0 = dktX3_init_0 := by decide +kernel
theorem dksX3_init_1 : cX3_init.data.toList.drop 23 = dktX3_init_1 := dk_seg dksX3_init_0 23 rfl rfl
theorem dksX3_init_2 : cX3_init.data.toList.drop 47 = dktX3_init_2 := dk_seg dksX3_init_1 24 rfl rfl
theorem dksX3_init_3 : cX3_init.data.toList.drop 71 = dktX3_init_3 := dk_seg dksX3_init_2 24 rfl rfl
theorem dksX3_init_4 : cX3_init.data.toList.drop 95 = dktX3_init_4 := dk_seg dksX3_init_3 24 rfl rfl
theorem dksX3_init_5 : cX3_init.data.toList.drop 119 = dktX3_init_5 := dk_seg dksX3_init_4 24 rfl rfl
theorem dksX3_init_6 : cX3_init.data.toList.drop 142 = dktX3_init_6 := dk_seg dksX3_init_5 23 rfl rfl
theorem dksX3_init_7 : cX3_init.data.toList.drop 166 = dktX3_init_7 := dk_seg dksX3_init_6 24 rfl rfl
theorem dX3_init_0 : decode cX3_init 0 = .ok (.aload_n 0, 1) := dk_42 (dk_at dksX3_init_0 0 rfl rfl)
theorem dX3_init_1 : decode cX3_init 1 = .ok (.invokespecial 1, 3) := dk_183 0 1 (dk_at dksX3_init_0 1 rfl rfl)
theorem dX3_init_4 : decode cX3_init 4 = .ok (.aload_n 0, 1) := dk_42 (dk_at dksX3_init_0 4 rfl rfl)
theorem dX3_init_5 : decode cX3_init 5 = .ok (.sipush 7919, 3) := dk_17 30 239 (dk_at dksX3_init_0 5 rfl rfl)
theorem dX3_init_8 : decode cX3_init 8 = .ok (.newarray .int, 2) := dk_188_10 (dk_at dksX3_init_0 8 rfl rfl)
theorem dX3_init_10 : decode cX3_init 10 = .ok (.putfield 9, 3) := dk_181 0 9 (dk_at dksX3_init_0 10 rfl rfl)
theorem dX3_init_13 : decode cX3_init 13 = .ok (.aload_n 0, 1) := dk_42 (dk_at dksX3_init_0 13 rfl rfl)
theorem dX3_init_14 : decode cX3_init 14 = .ok (.sipush 7919, 3) := dk_17 30 239 (dk_at dksX3_init_0 14 rfl rfl)
theorem dX3_init_17 : decode cX3_init 17 = .ok (.newarray .int, 2) := dk_188_10 (dk_at dksX3_init_0 17 rfl rfl)
theorem dX3_init_19 : decode cX3_init 19 = .ok (.putfield 13, 3) := dk_181 0 13 (dk_at dksX3_init_0 19 rfl rfl)
theorem dX3_init_22 : decode cX3_init 22 = .ok (.aload_n 0, 1) := dk_42 (dk_at dksX3_init_0 22 rfl rfl)
theorem dX3_init_23 : decode cX3_init 23 = .ok (.sipush 7919, 3) := dk_17 30 239 (dk_at dksX3_init_1 0 rfl rfl)
theorem dX3_init_26 : decode cX3_init 26 = .ok (.newarray .int, 2) := dk_188_10 (dk_at dksX3_init_1 3 rfl rfl)
theorem dX3_init_28 : decode cX3_init 28 = .ok (.putfield 16, 3) := dk_181 0 16 (dk_at dksX3_init_1 5 rfl rfl)
theorem dX3_init_31 : decode cX3_init 31 = .ok (.aload_n 0, 1) := dk_42 (dk_at dksX3_init_1 8 rfl rfl)
theorem dX3_init_32 : decode cX3_init 32 = .ok (.iconst 5, 1) := dk_8 (dk_at dksX3_init_1 9 rfl rfl)
theorem dX3_init_33 : decode cX3_init 33 = .ok (.newarray .int, 2) := dk_188_10 (dk_at dksX3_init_1 10 rfl rfl)
theorem dX3_init_35 : decode cX3_init 35 = .ok (.putfield 19, 3) := dk_181 0 19 (dk_at dksX3_init_1 12 rfl rfl)
theorem dX3_init_38 : decode cX3_init 38 = .ok (.aload_n 0, 1) := dk_42 (dk_at dksX3_init_1 15 rfl rfl)
theorem dX3_init_39 : decode cX3_init 39 = .ok (.bipush 6, 2) := dk_16 6 (dk_at dksX3_init_1 16 rfl rfl)
theorem dX3_init_41 : decode cX3_init 41 = .ok (.newarray .int, 2) := dk_188_10 (dk_at dksX3_init_1 18 rfl rfl)
theorem dX3_init_43 : decode cX3_init 43 = .ok (.dup, 1) := dk_89 (dk_at dksX3_init_1 20 rfl rfl)
theorem dX3_init_44 : decode cX3_init 44 = .ok (.iconst 0, 1) := dk_3 (dk_at dksX3_init_1 21 rfl rfl)
theorem dX3_init_45 : decode cX3_init 45 = .ok (.iconst 0, 1) := dk_3 (dk_at dksX3_init_1 22 rfl rfl)
theorem dX3_init_46 : decode cX3_init 46 = .ok (.iastore, 1) := dk_79 (dk_at dksX3_init_1 23 rfl rfl)
theorem dX3_init_47 : decode cX3_init 47 = .ok (.dup, 1) := dk_89 (dk_at dksX3_init_2 0 rfl rfl)
theorem dX3_init_48 : decode cX3_init 48 = .ok (.iconst 1, 1) := dk_4 (dk_at dksX3_init_2 1 rfl rfl)
theorem dX3_init_49 : decode cX3_init 49 = .ok (.iconst 1, 1) := dk_4 (dk_at dksX3_init_2 2 rfl rfl)
theorem dX3_init_50 : decode cX3_init 50 = .ok (.iastore, 1) := dk_79 (dk_at dksX3_init_2 3 rfl rfl)
theorem dX3_init_51 : decode cX3_init 51 = .ok (.dup, 1) := dk_89 (dk_at dksX3_init_2 4 rfl rfl)
theorem dX3_init_52 : decode cX3_init 52 = .ok (.iconst 2, 1) := dk_5 (dk_at dksX3_init_2 5 rfl rfl)
theorem dX3_init_53 : decode cX3_init 53 = .ok (.iconst 2, 1) := dk_5 (dk_at dksX3_init_2 6 rfl rfl)
theorem dX3_init_54 : decode cX3_init 54 = .ok (.iastore, 1) := dk_79 (dk_at dksX3_init_2 7 rfl rfl)
theorem dX3_init_55 : decode cX3_init 55 = .ok (.dup, 1) := dk_89 (dk_at dksX3_init_2 8 rfl rfl)
theorem dX3_init_56 : decode cX3_init 56 = .ok (.iconst 3, 1) := dk_6 (dk_at dksX3_init_2 9 rfl rfl)
theorem dX3_init_57 : decode cX3_init 57 = .ok (.iconst 3, 1) := dk_6 (dk_at dksX3_init_2 10 rfl rfl)
theorem dX3_init_58 : decode cX3_init 58 = .ok (.iastore, 1) := dk_79 (dk_at dksX3_init_2 11 rfl rfl)
theorem dX3_init_59 : decode cX3_init 59 = .ok (.dup, 1) := dk_89 (dk_at dksX3_init_2 12 rfl rfl)
theorem dX3_init_60 : decode cX3_init 60 = .ok (.iconst 4, 1) := dk_7 (dk_at dksX3_init_2 13 rfl rfl)
theorem dX3_init_61 : decode cX3_init 61 = .ok (.iconst 5, 1) := dk_8 (dk_at dksX3_init_2 14 rfl rfl)
theorem dX3_init_62 : decode cX3_init 62 = .ok (.iastore, 1) := dk_79 (dk_at dksX3_init_2 15 rfl rfl)
theorem dX3_init_63 : decode cX3_init 63 = .ok (.dup, 1) := dk_89 (dk_at dksX3_init_2 16 rfl rfl)
theorem dX3_init_64 : decode cX3_init 64 = .ok (.iconst 5, 1) := dk_8 (dk_at dksX3_init_2 17 rfl rfl)
theorem dX3_init_65 : decode cX3_init 65 = .ok (.bipush 8, 2) := dk_16 8 (dk_at dksX3_init_2 18 rfl rfl)
theorem dX3_init_67 : decode cX3_init 67 = .ok (.iastore, 1) := dk_79 (dk_at dksX3_init_2 20 rfl rfl)
theorem dX3_init_68 : decode cX3_init 68 = .ok (.putfield 22, 3) := dk_181 0 22 (dk_at dksX3_init_2 21 rfl rfl)
theorem dX3_init_71 : decode cX3_init 71 = .ok (.aload_n 0, 1) := dk_42 (dk_at dksX3_init_3 0 rfl rfl)
theorem dX3_init_72 : decode cX3_init 72 = .ok (.sipush 250, 3) := dk_17 0 250 (dk_at dksX3_init_3 1 rfl rfl)
theorem dX3_init_75 : decode cX3_init 75 = .ok (.newarray .int, 2) := dk_188_10 (dk_at dksX3_init_3 4 rfl rfl)
theorem dX3_init_77 : decode cX3_init 77 = .ok (.putfield 25, 3) := dk_181 0 25 (dk_at dksX3_init_3 6 rfl rfl)
theorem dX3_init_80 : decode cX3_init 80 = .ok (.aload_n 0, 1) := dk_42 (dk_at dksX3_init_3 9 rfl rfl)
theorem dX3_init_81 : decode cX3_init 81 = .ok (.iconst 4, 1) := dk_7 (dk_at dksX3_init_3 10 rfl rfl)
theorem dX3_init_82 : decode cX3_init 82 = .ok (.newarray .int, 2) := dk_188_10 (dk_at dksX3_init_3 11 rfl rfl)
theorem dX3_init_84 : decode cX3_init 84 = .ok (.putfield 28, 3) := dk_181 0 28 (dk_at dksX3_init_3 13 rfl rfl)
theorem dX3_init_87 : decode cX3_init 87 = .ok (.aload_n 0, 1) := dk_42 (dk_at dksX3_init_3 16 rfl rfl)
theorem dX3_init_88 : decode cX3_init 88 = .ok (.bipush 20, 2) := dk_16 20 (dk_at dksX3_init_3 17 rfl rfl)
theorem dX3_init_90 : decode cX3_init 90 = .ok (.newarray .int, 2) := dk_188_10 (dk_at dksX3_init_3 19 rfl rfl)
theorem dX3_init_92 : decode cX3_init 92 = .ok (.putfield 31, 3) := dk_181 0 31 (dk_at dksX3_init_3 21 rfl rfl)
theorem dX3_init_95 : decode cX3_init 95 = .ok (.aload_n 0, 1) := dk_42 (dk_at dksX3_init_4 0 rfl rfl)
theorem dX3_init_96 : decode cX3_init 96 = .ok (.bipush 8, 2) := dk_16 8 (dk_at dksX3_init_4 1 rfl rfl)
theorem dX3_init_98 : decode cX3_init 98 = .ok (.newarray .int, 2) := dk_188_10 (dk_at dksX3_init_4 3 rfl rfl)
theorem dX3_init_100 : decode cX3_init 100 = .ok (.dup, 1) := dk_89 (dk_at dksX3_init_4 5 rfl rfl)
theorem dX3_init_101 : decode cX3_init 101 = .ok (.iconst 0, 1) := dk_3 (dk_at dksX3_init_4 6 rfl rfl)
theorem dX3_init_102 : decode cX3_init 102 = .ok (.iconst (-1), 1) := dk_2 (dk_at dksX3_init_4 7 rfl rfl)
theorem dX3_init_103 : decode cX3_init 103 = .ok (.iastore, 1) := dk_79 (dk_at dksX3_init_4 8 rfl rfl)
theorem dX3_init_104 : decode cX3_init 104 = .ok (.dup, 1) := dk_89 (dk_at dksX3_init_4 9 rfl rfl)
theorem dX3_init_105 : decode cX3_init 105 = .ok (.iconst 1, 1) := dk_4 (dk_at dksX3_init_4 10 rfl rfl)
theorem dX3_init_106 : decode cX3_init 106 = .ok (.iconst (-1), 1) := dk_2 (dk_at dksX3_init_4 11 rfl rfl)
theorem dX3_init_107 : decode cX3_init 107 = .ok (.iastore, 1) := dk_79 (dk_at dksX3_init_4 12 rfl rfl)
theorem dX3_init_108 : decode cX3_init 108 = .ok (.dup, 1) := dk_89 (dk_at dksX3_init_4 13 rfl rfl)
theorem dX3_init_109 : decode cX3_init 109 = .ok (.iconst 2, 1) := dk_5 (dk_at dksX3_init_4 14 rfl rfl)
theorem dX3_init_110 : decode cX3_init 110 = .ok (.iconst (-1), 1) := dk_2 (dk_at dksX3_init_4 15 rfl rfl)
theorem dX3_init_111 : decode cX3_init 111 = .ok (.iastore, 1) := dk_79 (dk_at dksX3_init_4 16 rfl rfl)
theorem dX3_init_112 : decode cX3_init 112 = .ok (.dup, 1) := dk_89 (dk_at dksX3_init_4 17 rfl rfl)
theorem dX3_init_113 : decode cX3_init 113 = .ok (.iconst 3, 1) := dk_6 (dk_at dksX3_init_4 18 rfl rfl)
theorem dX3_init_114 : decode cX3_init 114 = .ok (.iconst (-1), 1) := dk_2 (dk_at dksX3_init_4 19 rfl rfl)
theorem dX3_init_115 : decode cX3_init 115 = .ok (.iastore, 1) := dk_79 (dk_at dksX3_init_4 20 rfl rfl)
theorem dX3_init_116 : decode cX3_init 116 = .ok (.dup, 1) := dk_89 (dk_at dksX3_init_4 21 rfl rfl)
theorem dX3_init_117 : decode cX3_init 117 = .ok (.iconst 4, 1) := dk_7 (dk_at dksX3_init_4 22 rfl rfl)
theorem dX3_init_118 : decode cX3_init 118 = .ok (.iconst (-1), 1) := dk_2 (dk_at dksX3_init_4 23 rfl rfl)
theorem dX3_init_119 : decode cX3_init 119 = .ok (.iastore, 1) := dk_79 (dk_at dksX3_init_5 0 rfl rfl)
theorem dX3_init_120 : decode cX3_init 120 = .ok (.dup, 1) := dk_89 (dk_at dksX3_init_5 1 rfl rfl)
theorem dX3_init_121 : decode cX3_init 121 = .ok (.iconst 5, 1) := dk_8 (dk_at dksX3_init_5 2 rfl rfl)
theorem dX3_init_122 : decode cX3_init 122 = .ok (.iconst (-1), 1) := dk_2 (dk_at dksX3_init_5 3 rfl rfl)
theorem dX3_init_123 : decode cX3_init 123 = .ok (.iastore, 1) := dk_79 (dk_at dksX3_init_5 4 rfl rfl)
theorem dX3_init_124 : decode cX3_init 124 = .ok (.dup, 1) := dk_89 (dk_at dksX3_init_5 5 rfl rfl)
theorem dX3_init_125 : decode cX3_init 125 = .ok (.bipush 6, 2) := dk_16 6 (dk_at dksX3_init_5 6 rfl rfl)
theorem dX3_init_127 : decode cX3_init 127 = .ok (.iconst (-1), 1) := dk_2 (dk_at dksX3_init_5 8 rfl rfl)
theorem dX3_init_128 : decode cX3_init 128 = .ok (.iastore, 1) := dk_79 (dk_at dksX3_init_5 9 rfl rfl)
theorem dX3_init_129 : decode cX3_init 129 = .ok (.dup, 1) := dk_89 (dk_at dksX3_init_5 10 rfl rfl)
theorem dX3_init_130 : decode cX3_init 130 = .ok (.bipush 7, 2) := dk_16 7 (dk_at dksX3_init_5 11 rfl rfl)
theorem dX3_init_132 : decode cX3_init 132 = .ok (.iconst (-1), 1) := dk_2 (dk_at dksX3_init_5 13 rfl rfl)
theorem dX3_init_133 : decode cX3_init 133 = .ok (.iastore, 1) := dk_79 (dk_at dksX3_init_5 14 rfl rfl)
theorem dX3_init_134 : decode cX3_init 134 = .ok (.putfield 34, 3) := dk_181 0 34 (dk_at dksX3_init_5 15 rfl rfl)
theorem dX3_init_137 : decode cX3_init 137 = .ok (.aload_n 0, 1) := dk_42 (dk_at dksX3_init_5 18 rfl rfl)
theorem dX3_init_138 : decode cX3_init 138 = .ok (.bipush 8, 2) := dk_16 8 (dk_at dksX3_init_5 19 rfl rfl)
theorem dX3_init_140 : decode cX3_init 140 = .ok (.newarray .int, 2) := dk_188_10 (dk_at dksX3_init_5 21 rfl rfl)
theorem dX3_init_142 : decode cX3_init 142 = .ok (.putfield 37, 3) := dk_181 0 37 (dk_at dksX3_init_6 0 rfl rfl)
theorem dX3_init_145 : decode cX3_init 145 = .ok (.aload_n 0, 1) := dk_42 (dk_at dksX3_init_6 3 rfl rfl)
theorem dX3_init_146 : decode cX3_init 146 = .ok (.sipush 320, 3) := dk_17 1 64 (dk_at dksX3_init_6 4 rfl rfl)
theorem dX3_init_149 : decode cX3_init 149 = .ok (.newarray .long, 2) := dk_188_11 (dk_at dksX3_init_6 7 rfl rfl)
theorem dX3_init_151 : decode cX3_init 151 = .ok (.putfield 40, 3) := dk_181 0 40 (dk_at dksX3_init_6 9 rfl rfl)
theorem dX3_init_154 : decode cX3_init 154 = .ok (.aload_n 0, 1) := dk_42 (dk_at dksX3_init_6 12 rfl rfl)
theorem dX3_init_155 : decode cX3_init 155 = .ok (.bipush 32, 2) := dk_16 32 (dk_at dksX3_init_6 13 rfl rfl)
theorem dX3_init_157 : decode cX3_init 157 = .ok (.newarray .int, 2) := dk_188_10 (dk_at dksX3_init_6 15 rfl rfl)
theorem dX3_init_159 : decode cX3_init 159 = .ok (.putfield 44, 3) := dk_181 0 44 (dk_at dksX3_init_6 17 rfl rfl)
theorem dX3_init_162 : decode cX3_init 162 = .ok (.aload_n 0, 1) := dk_42 (dk_at dksX3_init_6 20 rfl rfl)
theorem dX3_init_163 : decode cX3_init 163 = .ok (.getfield 9, 3) := dk_180 0 9 (dk_at dksX3_init_6 21 rfl rfl)
theorem dX3_init_166 : decode cX3_init 166 = .ok (.iconst 5, 1) := dk_8 (dk_at dksX3_init_7 0 rfl rfl)
theorem dX3_init_167 : decode cX3_init 167 = .ok (.iconst 1, 1) := dk_4 (dk_at dksX3_init_7 1 rfl rfl)
theorem dX3_init_168 : decode cX3_init 168 = .ok (.iastore, 1) := dk_79 (dk_at dksX3_init_7 2 rfl rfl)
theorem dX3_init_169 : decode cX3_init 169 = .ok (.return_, 1) := dk_177 (dk_at dksX3_init_7 3 rfl rfl)
abbrev cX3_feed : ByteArray := prog_24_method_15_code
def yX3_feed : MethodName := ⟨RX3, "feed", "(I)I"⟩
def dkwX3_feed_2 : List UInt8 := [89, 180, 0, 79, 4, 96, 181, 0, 79, 42, 180, 0, 79, 172]
abbrev dktX3_feed_2 : List UInt8 := dkwX3_feed_2 ++ []
def dkwX3_feed_1 : List UInt8 := [17, 0, 250, 160, 0, 10, 42, 16, 170, 182, 0, 75, 172, 42, 180, 0, 25, 42, 180, 0, 79, 27, 79, 42]
abbrev dktX3_feed_1 : List UInt8 := dkwX3_feed_1 ++ dktX3_feed_2
def dkwX3_feed_0 : List UInt8 := [27, 133, 9, 20, 0, 73, 184, 0, 47, 154, 0, 10, 42, 16, 174, 182, 0, 75, 172, 42, 180, 0, 79]
abbrev dktX3_feed_0 : List UInt8 := dkwX3_feed_0 ++ dktX3_feed_1
theorem dksX3_feed_0 : cX3_feed.data.toList.drop 0 = dktX3_feed_0 := by decide +kernel
theorem dksX3_feed_1 : cX3_feed.data.toList.drop 23 = dktX3_feed_1 := dk_seg dksX3_feed_0 23 rfl rfl
theorem dksX3_feed_2 : cX3_feed.data.toList.drop 47 = dktX3_feed_2 := dk_seg dksX3_feed_1 24 rfl rfl
theorem dX3_feed_0 : decode cX3_feed 0 = .ok (.iload_n 1, 1) := dk_27 (dk_at dksX3_feed_0 0 rfl rfl)
theorem dX3_feed_1 : decode cX3_feed 1 = .ok (.i2l, 1) := dk_133 (dk_at dksX3_feed_0 1 rfl rfl)
theorem dX3_feed_2 : decode cX3_feed 2 = .ok (.lconst 0, 1) := dk_9 (dk_at dksX3_feed_0 2 rfl rfl)
theorem dX3_feed_3 : decode cX3_feed 3 = .ok (.ldc2_w 73, 3) := dk_20 0 73 (dk_at dksX3_feed_0 3 rfl rfl)
theorem dX3_feed_6 : decode cX3_feed 6 = .ok (.invokestatic 47, 3) := dk_184 0 47 (dk_at dksX3_feed_0 6 rfl rfl)
theorem dX3_feed_9 : decode cX3_feed 9 = .ok (.ifCond .ne 10, 3) := dk_154 0 10 (dk_at dksX3_feed_0 9 rfl rfl)
theorem dX3_feed_12 : decode cX3_feed 12 = .ok (.aload_n 0, 1) := dk_42 (dk_at dksX3_feed_0 12 rfl rfl)
theorem dX3_feed_13 : decode cX3_feed 13 = .ok (.bipush (-82), 2) := dk_16 174 (dk_at dksX3_feed_0 13 rfl rfl)
theorem dX3_feed_15 : decode cX3_feed 15 = .ok (.invokevirtual 75, 3) := dk_182 0 75 (dk_at dksX3_feed_0 15 rfl rfl)
theorem dX3_feed_18 : decode cX3_feed 18 = .ok (.ireturn, 1) := dk_172 (dk_at dksX3_feed_0 18 rfl rfl)
theorem dX3_feed_19 : decode cX3_feed 19 = .ok (.aload_n 0, 1) := dk_42 (dk_at dksX3_feed_0 19 rfl rfl)
theorem dX3_feed_20 : decode cX3_feed 20 = .ok (.getfield 79, 3) := dk_180 0 79 (dk_at dksX3_feed_0 20 rfl rfl)
theorem dX3_feed_23 : decode cX3_feed 23 = .ok (.sipush 250, 3) := dk_17 0 250 (dk_at dksX3_feed_1 0 rfl rfl)
theorem dX3_feed_26 : decode cX3_feed 26 = .ok (.if_icmp .ne 10, 3) := dk_160 0 10 (dk_at dksX3_feed_1 3 rfl rfl)
theorem dX3_feed_29 : decode cX3_feed 29 = .ok (.aload_n 0, 1) := dk_42 (dk_at dksX3_feed_1 6 rfl rfl)
theorem dX3_feed_30 : decode cX3_feed 30 = .ok (.bipush (-86), 2) := dk_16 170 (dk_at dksX3_feed_1 7 rfl rfl)
theorem dX3_feed_32 : decode cX3_feed 32 = .ok (.invokevirtual 75, 3) := dk_182 0 75 (dk_at dksX3_feed_1 9 rfl rfl)
theorem dX3_feed_35 : decode cX3_feed 35 = .ok (.ireturn, 1) := dk_172 (dk_at dksX3_feed_1 12 rfl rfl)
theorem dX3_feed_36 : decode cX3_feed 36 = .ok (.aload_n 0, 1) := dk_42 (dk_at dksX3_feed_1 13 rfl rfl)
theorem dX3_feed_37 : decode cX3_feed 37 = .ok (.getfield 25, 3) := dk_180 0 25 (dk_at dksX3_feed_1 14 rfl rfl)
theorem dX3_feed_40 : decode cX3_feed 40 = .ok (.aload_n 0, 1) := dk_42 (dk_at dksX3_feed_1 17 rfl rfl)
theorem dX3_feed_41 : decode cX3_feed 41 = .ok (.getfield 79, 3) := dk_180 0 79 (dk_at dksX3_feed_1 18 rfl rfl)
theorem dX3_feed_44 : decode cX3_feed 44 = .ok (.iload_n 1, 1) := dk_27 (dk_at dksX3_feed_1 21 rfl rfl)
theorem dX3_feed_45 : decode cX3_feed 45 = .ok (.iastore, 1) := dk_79 (dk_at dksX3_feed_1 22 rfl rfl)
theorem dX3_feed_46 : decode cX3_feed 46 = .ok (.aload_n 0, 1) := dk_42 (dk_at dksX3_feed_1 23 rfl rfl)
theorem dX3_feed_47 : decode cX3_feed 47 = .ok (.dup, 1) := dk_89 (dk_at dksX3_feed_2 0 rfl rfl)
theorem dX3_feed_48 : decode cX3_feed 48 = .ok (.getfield 79, 3) := dk_180 0 79 (dk_at dksX3_feed_2 1 rfl rfl)
theorem dX3_feed_51 : decode cX3_feed 51 = .ok (.iconst 1, 1) := dk_4 (dk_at dksX3_feed_2 4 rfl rfl)
theorem dX3_feed_52 : decode cX3_feed 52 = .ok (.iadd, 1) := dk_96 (dk_at dksX3_feed_2 5 rfl rfl)
theorem dX3_feed_53 : decode cX3_feed 53 = .ok (.putfield 79, 3) := dk_181 0 79 (dk_at dksX3_feed_2 6 rfl rfl)
theorem dX3_feed_56 : decode cX3_feed 56 = .ok (.aload_n 0, 1) := dk_42 (dk_at dksX3_feed_2 9 rfl rfl)
theorem dX3_feed_57 : decode cX3_feed 57 = .ok (.getfield 79, 3) := dk_180 0 79 (dk_at dksX3_feed_2 10 rfl rfl)
theorem dX3_feed_60 : decode cX3_feed 60 = .ok (.ireturn, 1) := dk_172 (dk_at dksX3_feed_2 13 rfl rfl)
abbrev cX3_in : ByteArray := prog_24_method_2_code
def yX3_in : MethodName := ⟨RX3, "in", "(JJJ)Z"⟩
def dkwX3_in_0 : List UInt8 := [30, 32, 148, 155, 0, 14, 30, 22, 4, 148, 157, 0, 7, 4, 167, 0, 4, 3, 172]
abbrev dktX3_in_0 : List UInt8 := dkwX3_in_0 ++ []
theorem dksX3_in_0 : cX3_in.data.toList.drop 0 = dktX3_in_0 := by decide +kernel
theorem dX3_in_0 : decode cX3_in 0 = .ok (.lload_n 0, 1) := dk_30 (dk_at dksX3_in_0 0 rfl rfl)
theorem dX3_in_1 : decode cX3_in 1 = .ok (.lload_n 2, 1) := dk_32 (dk_at dksX3_in_0 1 rfl rfl)
theorem dX3_in_2 : decode cX3_in 2 = .ok (.lcmp, 1) := dk_148 (dk_at dksX3_in_0 2 rfl rfl)
theorem dX3_in_3 : decode cX3_in 3 = .ok (.ifCond .lt 14, 3) := dk_155 0 14 (dk_at dksX3_in_0 3 rfl rfl)
theorem dX3_in_6 : decode cX3_in 6 = .ok (.lload_n 0, 1) := dk_30 (dk_at dksX3_in_0 6 rfl rfl)
theorem dX3_in_7 : decode cX3_in 7 = .ok (.lload 4, 2) := dk_22 4 (dk_at dksX3_in_0 7 rfl rfl)
theorem dX3_in_9 : decode cX3_in 9 = .ok (.lcmp, 1) := dk_148 (dk_at dksX3_in_0 9 rfl rfl)
theorem dX3_in_10 : decode cX3_in 10 = .ok (.ifCond .gt 7, 3) := dk_157 0 7 (dk_at dksX3_in_0 10 rfl rfl)
theorem dX3_in_13 : decode cX3_in 13 = .ok (.iconst 1, 1) := dk_4 (dk_at dksX3_in_0 13 rfl rfl)
theorem dX3_in_14 : decode cX3_in 14 = .ok (.goto 4, 3) := dk_167 0 4 (dk_at dksX3_in_0 14 rfl rfl)
theorem dX3_in_17 : decode cX3_in 17 = .ok (.iconst 0, 1) := dk_3 (dk_at dksX3_in_0 17 rfl rfl)
theorem dX3_in_18 : decode cX3_in 18 = .ok (.ireturn, 1) := dk_172 (dk_at dksX3_in_0 18 rfl rfl)
abbrev cX3_refused : ByteArray := prog_24_method_3_code
def yX3_refused : MethodName := ⟨RX3, "refused", "(I)I"⟩
def dkwX3_refused_0 : List UInt8 := [42, 180, 0, 19, 27, 116, 16, 82, 100, 92, 46, 4, 96, 79, 27, 172]
abbrev dktX3_refused_0 : List UInt8 := dkwX3_refused_0 ++ []
theorem dksX3_refused_0 : cX3_refused.data.toList.drop 0 = dktX3_refused_0 := by decide +kernel
theorem dX3_refused_0 : decode cX3_refused 0 = .ok (.aload_n 0, 1) := dk_42 (dk_at dksX3_refused_0 0 rfl rfl)
theorem dX3_refused_1 : decode cX3_refused 1 = .ok (.getfield 19, 3) := dk_180 0 19 (dk_at dksX3_refused_0 1 rfl rfl)
theorem dX3_refused_4 : decode cX3_refused 4 = .ok (.iload_n 1, 1) := dk_27 (dk_at dksX3_refused_0 4 rfl rfl)
theorem dX3_refused_5 : decode cX3_refused 5 = .ok (.ineg, 1) := dk_116 (dk_at dksX3_refused_0 5 rfl rfl)
theorem dX3_refused_6 : decode cX3_refused 6 = .ok (.bipush 82, 2) := dk_16 82 (dk_at dksX3_refused_0 6 rfl rfl)
theorem dX3_refused_8 : decode cX3_refused 8 = .ok (.isub, 1) := dk_100 (dk_at dksX3_refused_0 8 rfl rfl)
theorem dX3_refused_9 : decode cX3_refused 9 = .ok (.dup2, 1) := dk_92 (dk_at dksX3_refused_0 9 rfl rfl)
theorem dX3_refused_10 : decode cX3_refused 10 = .ok (.iaload, 1) := dk_46 (dk_at dksX3_refused_0 10 rfl rfl)
theorem dX3_refused_11 : decode cX3_refused 11 = .ok (.iconst 1, 1) := dk_4 (dk_at dksX3_refused_0 11 rfl rfl)
theorem dX3_refused_12 : decode cX3_refused 12 = .ok (.iadd, 1) := dk_96 (dk_at dksX3_refused_0 12 rfl rfl)
theorem dX3_refused_13 : decode cX3_refused 13 = .ok (.iastore, 1) := dk_79 (dk_at dksX3_refused_0 13 rfl rfl)
theorem dX3_refused_14 : decode cX3_refused 14 = .ok (.iload_n 1, 1) := dk_27 (dk_at dksX3_refused_0 14 rfl rfl)
theorem dX3_refused_15 : decode cX3_refused 15 = .ok (.ireturn, 1) := dk_172 (dk_at dksX3_refused_0 15 rfl rfl)
abbrev cX3_wipe : ByteArray := prog_24_method_16_code
def yX3_wipe : MethodName := ⟨RX3, "wipe", "()I"⟩
def dkwX3_wipe_0 : List UInt8 := [42, 180, 0, 79, 60, 42, 3, 181, 0, 79, 27, 172]
abbrev dktX3_wipe_0 : List UInt8 := dkwX3_wipe_0 ++ []
theorem dksX3_wipe_0 : cX3_wipe.data.toList.drop 0 = dktX3_wipe_0 := by decide +kernel
theorem dX3_wipe_0 : decode cX3_wipe 0 = .ok (.aload_n 0, 1) := dk_42 (dk_at dksX3_wipe_0 0 rfl rfl)
theorem dX3_wipe_1 : decode cX3_wipe 1 = .ok (.getfield 79, 3) := dk_180 0 79 (dk_at dksX3_wipe_0 1 rfl rfl)
theorem dX3_wipe_4 : decode cX3_wipe 4 = .ok (.istore_n 1, 1) := dk_60 (dk_at dksX3_wipe_0 4 rfl rfl)
theorem dX3_wipe_5 : decode cX3_wipe 5 = .ok (.aload_n 0, 1) := dk_42 (dk_at dksX3_wipe_0 5 rfl rfl)
theorem dX3_wipe_6 : decode cX3_wipe 6 = .ok (.iconst 0, 1) := dk_3 (dk_at dksX3_wipe_0 6 rfl rfl)
theorem dX3_wipe_7 : decode cX3_wipe 7 = .ok (.putfield 79, 3) := dk_181 0 79 (dk_at dksX3_wipe_0 7 rfl rfl)
theorem dX3_wipe_10 : decode cX3_wipe 10 = .ok (.iload_n 1, 1) := dk_27 (dk_at dksX3_wipe_0 10 rfl rfl)
theorem dX3_wipe_11 : decode cX3_wipe 11 = .ok (.ireturn, 1) := dk_172 (dk_at dksX3_wipe_0 11 rfl rfl)
abbrev cX3_topic : ByteArray := prog_24_method_20_code
def yX3_topic : MethodName := ⟨RX3, "topic", "()I"⟩
def dkwX3_topic_2 : List UInt8 := [180, 0, 28, 27, 46, 79, 132, 1, 1, 167, 255, 230, 42, 180, 0, 86, 172]
abbrev dktX3_topic_2 : List UInt8 := dkwX3_topic_2 ++ []
def dkwX3_topic_1 : List UInt8 := [42, 180, 0, 86, 79, 3, 60, 27, 42, 180, 0, 86, 162, 0, 24, 42, 180, 0, 9, 16, 7, 27, 96, 42]
abbrev dktX3_topic_1 : List UInt8 := dkwX3_topic_1 ++ dktX3_topic_2
def dkwX3_topic_0 : List UInt8 := [42, 3, 182, 0, 96, 154, 0, 8, 42, 182, 0, 100, 172, 42, 3, 181, 0, 79, 42, 180, 0, 9, 16, 6]
abbrev dktX3_topic_0 : List UInt8 := dkwX3_topic_0 ++ dktX3_topic_1
theorem dksX3_topic_0 : cX3_topic.data.toList.drop 0 = dktX3_topic_0 := by decide +kernel
theorem dksX3_topic_1 : cX3_topic.data.toList.drop 24 = dktX3_topic_1 := dk_seg dksX3_topic_0 24 rfl rfl
theorem dksX3_topic_2 : cX3_topic.data.toList.drop 48 = dktX3_topic_2 := dk_seg dksX3_topic_1 24 rfl rfl
theorem dX3_topic_0 : decode cX3_topic 0 = .ok (.aload_n 0, 1) := dk_42 (dk_at dksX3_topic_0 0 rfl rfl)
theorem dX3_topic_1 : decode cX3_topic 1 = .ok (.iconst 0, 1) := dk_3 (dk_at dksX3_topic_0 1 rfl rfl)
theorem dX3_topic_2 : decode cX3_topic 2 = .ok (.invokevirtual 96, 3) := dk_182 0 96 (dk_at dksX3_topic_0 2 rfl rfl)
theorem dX3_topic_5 : decode cX3_topic 5 = .ok (.ifCond .ne 8, 3) := dk_154 0 8 (dk_at dksX3_topic_0 5 rfl rfl)
theorem dX3_topic_8 : decode cX3_topic 8 = .ok (.aload_n 0, 1) := dk_42 (dk_at dksX3_topic_0 8 rfl rfl)
theorem dX3_topic_9 : decode cX3_topic 9 = .ok (.invokevirtual 100, 3) := dk_182 0 100 (dk_at dksX3_topic_0 9 rfl rfl)
theorem dX3_topic_12 : decode cX3_topic 12 = .ok (.ireturn, 1) := dk_172 (dk_at dksX3_topic_0 12 rfl rfl)
theorem dX3_topic_13 : decode cX3_topic 13 = .ok (.aload_n 0, 1) := dk_42 (dk_at dksX3_topic_0 13 rfl rfl)
theorem dX3_topic_14 : decode cX3_topic 14 = .ok (.iconst 0, 1) := dk_3 (dk_at dksX3_topic_0 14 rfl rfl)
theorem dX3_topic_15 : decode cX3_topic 15 = .ok (.putfield 79, 3) := dk_181 0 79 (dk_at dksX3_topic_0 15 rfl rfl)
theorem dX3_topic_18 : decode cX3_topic 18 = .ok (.aload_n 0, 1) := dk_42 (dk_at dksX3_topic_0 18 rfl rfl)
theorem dX3_topic_19 : decode cX3_topic 19 = .ok (.getfield 9, 3) := dk_180 0 9 (dk_at dksX3_topic_0 19 rfl rfl)
theorem dX3_topic_22 : decode cX3_topic 22 = .ok (.bipush 6, 2) := dk_16 6 (dk_at dksX3_topic_0 22 rfl rfl)
theorem dX3_topic_24 : decode cX3_topic 24 = .ok (.aload_n 0, 1) := dk_42 (dk_at dksX3_topic_1 0 rfl rfl)
theorem dX3_topic_25 : decode cX3_topic 25 = .ok (.getfield 86, 3) := dk_180 0 86 (dk_at dksX3_topic_1 1 rfl rfl)
theorem dX3_topic_28 : decode cX3_topic 28 = .ok (.iastore, 1) := dk_79 (dk_at dksX3_topic_1 4 rfl rfl)
theorem dX3_topic_29 : decode cX3_topic 29 = .ok (.iconst 0, 1) := dk_3 (dk_at dksX3_topic_1 5 rfl rfl)
theorem dX3_topic_30 : decode cX3_topic 30 = .ok (.istore_n 1, 1) := dk_60 (dk_at dksX3_topic_1 6 rfl rfl)
theorem dX3_topic_31 : decode cX3_topic 31 = .ok (.iload_n 1, 1) := dk_27 (dk_at dksX3_topic_1 7 rfl rfl)
theorem dX3_topic_32 : decode cX3_topic 32 = .ok (.aload_n 0, 1) := dk_42 (dk_at dksX3_topic_1 8 rfl rfl)
theorem dX3_topic_33 : decode cX3_topic 33 = .ok (.getfield 86, 3) := dk_180 0 86 (dk_at dksX3_topic_1 9 rfl rfl)
theorem dX3_topic_36 : decode cX3_topic 36 = .ok (.if_icmp .ge 24, 3) := dk_162 0 24 (dk_at dksX3_topic_1 12 rfl rfl)
theorem dX3_topic_39 : decode cX3_topic 39 = .ok (.aload_n 0, 1) := dk_42 (dk_at dksX3_topic_1 15 rfl rfl)
theorem dX3_topic_40 : decode cX3_topic 40 = .ok (.getfield 9, 3) := dk_180 0 9 (dk_at dksX3_topic_1 16 rfl rfl)
theorem dX3_topic_43 : decode cX3_topic 43 = .ok (.bipush 7, 2) := dk_16 7 (dk_at dksX3_topic_1 19 rfl rfl)
theorem dX3_topic_45 : decode cX3_topic 45 = .ok (.iload_n 1, 1) := dk_27 (dk_at dksX3_topic_1 21 rfl rfl)
theorem dX3_topic_46 : decode cX3_topic 46 = .ok (.iadd, 1) := dk_96 (dk_at dksX3_topic_1 22 rfl rfl)
theorem dX3_topic_47 : decode cX3_topic 47 = .ok (.aload_n 0, 1) := dk_42 (dk_at dksX3_topic_1 23 rfl rfl)
theorem dX3_topic_48 : decode cX3_topic 48 = .ok (.getfield 28, 3) := dk_180 0 28 (dk_at dksX3_topic_2 0 rfl rfl)
theorem dX3_topic_51 : decode cX3_topic 51 = .ok (.iload_n 1, 1) := dk_27 (dk_at dksX3_topic_2 3 rfl rfl)
theorem dX3_topic_52 : decode cX3_topic 52 = .ok (.iaload, 1) := dk_46 (dk_at dksX3_topic_2 4 rfl rfl)
theorem dX3_topic_53 : decode cX3_topic 53 = .ok (.iastore, 1) := dk_79 (dk_at dksX3_topic_2 5 rfl rfl)
theorem dX3_topic_54 : decode cX3_topic 54 = .ok (.iinc 1 1, 3) := dk_132 1 1 (dk_at dksX3_topic_2 6 rfl rfl)
theorem dX3_topic_57 : decode cX3_topic 57 = .ok (.goto (-26), 3) := dk_167 255 230 (dk_at dksX3_topic_2 9 rfl rfl)
theorem dX3_topic_60 : decode cX3_topic 60 = .ok (.aload_n 0, 1) := dk_42 (dk_at dksX3_topic_2 12 rfl rfl)
theorem dX3_topic_61 : decode cX3_topic 61 = .ok (.getfield 86, 3) := dk_180 0 86 (dk_at dksX3_topic_2 13 rfl rfl)
theorem dX3_topic_64 : decode cX3_topic 64 = .ok (.ireturn, 1) := dk_172 (dk_at dksX3_topic_2 16 rfl rfl)
abbrev cX3_isRead : ByteArray := prog_24_method_18_code
def yX3_isRead : MethodName := ⟨RX3, "isRead", "(Z)Z"⟩
def dkwX3_isRead_9 : List UInt8 := [16, 253, 160, 0, 5, 3, 172, 42, 89, 180, 0, 83, 4, 96, 181, 0, 83, 167, 255, 40]
abbrev dktX3_isRead_9 : List UInt8 := dkwX3_isRead_9 ++ []
def dkwX3_isRead_8 : List UInt8 := [16, 46, 160, 0, 27, 42, 180, 0, 86, 7, 159, 0, 19, 42, 180, 0, 28, 42, 180, 0, 86, 4, 100, 46]
abbrev dktX3_isRead_8 : List UInt8 := dkwX3_isRead_8 ++ dktX3_isRead_9
def dkwX3_isRead_7 : List UInt8 := [181, 0, 86, 42, 180, 0, 83, 42, 180, 0, 79, 160, 0, 5, 4, 172, 42, 42, 180, 0, 83, 182, 0, 89]
abbrev dktX3_isRead_7 : List UInt8 := dkwX3_isRead_7 ++ dktX3_isRead_8
def dkwX3_isRead_6 : List UInt8 := [154, 0, 5, 3, 172, 42, 180, 0, 28, 42, 180, 0, 86, 29, 79, 42, 89, 180, 0, 86, 4, 96]
abbrev dktX3_isRead_6 : List UInt8 := dkwX3_isRead_6 ++ dktX3_isRead_7
def dkwX3_isRead_5 : List UInt8 := [100, 4, 96, 62, 42, 89, 180, 0, 83, 4, 96, 181, 0, 83, 132, 4, 1, 167, 255, 197, 21, 4]
abbrev dktX3_isRead_5 : List UInt8 := dkwX3_isRead_5 ++ dktX3_isRead_6
def dkwX3_isRead_4 : List UInt8 := [20, 0, 94, 184, 0, 47, 153, 0, 38, 16, 27, 29, 104, 42, 42, 180, 0, 83, 182, 0, 89, 96, 16, 97]
abbrev dktX3_isRead_4 : List UInt8 := dkwX3_isRead_4 ++ dktX3_isRead_5
def dkwX3_isRead_3 : List UInt8 := [3, 62, 3, 54, 4, 21, 4, 7, 162, 0, 59, 42, 42, 180, 0, 83, 182, 0, 89, 133, 20, 0, 92]
abbrev dktX3_isRead_3 : List UInt8 := dkwX3_isRead_3 ++ dktX3_isRead_4
def dkwX3_isRead_2 : List UInt8 := [160, 0, 8, 16, 254, 167, 0, 5, 16, 253, 79, 42, 89, 180, 0, 83, 4, 96, 181, 0, 83, 167, 0, 87]
abbrev dktX3_isRead_2 : List UInt8 := dkwX3_isRead_2 ++ dktX3_isRead_3
def dkwX3_isRead_1 : List UInt8 := [16, 42, 159, 0, 9, 28, 16, 35, 160, 0, 38, 42, 180, 0, 28, 42, 180, 0, 86, 28, 16, 42]
abbrev dktX3_isRead_1 : List UInt8 := dkwX3_isRead_1 ++ dktX3_isRead_2
def dkwX3_isRead_0 : List UInt8 := [42, 3, 181, 0, 83, 42, 3, 181, 0, 86, 42, 42, 180, 0, 83, 182, 0, 89, 61, 27, 153, 0, 50, 28]
abbrev dktX3_isRead_0 : List UInt8 := dkwX3_isRead_0 ++ dktX3_isRead_1
theorem dksX3_isRead_0 : cX3_isRead.data.toList.drop 0 = dktX3_isRead_0 := by decide +kernel
theorem dksX3_isRead_1 : cX3_isRead.data.toList.drop 24 = dktX3_isRead_1 := dk_seg dksX3_isRead_0 24 rfl rfl
theorem dksX3_isRead_2 : cX3_isRead.data.toList.drop 46 = dktX3_isRead_2 := dk_seg dksX3_isRead_1 22 rfl rfl
theorem dksX3_isRead_3 : cX3_isRead.data.toList.drop 70 = dktX3_isRead_3 := dk_seg dksX3_isRead_2 24 rfl rfl
theorem dksX3_isRead_4 : cX3_isRead.data.toList.drop 93 = dktX3_isRead_4 := dk_seg dksX3_isRead_3 23 rfl rfl
theorem dksX3_isRead_5 : cX3_isRead.data.toList.drop 117 = dktX3_isRead_5 := dk_seg dksX3_isRead_4 24 rfl rfl
theorem dksX3_isRead_6 : cX3_isRead.data.toList.drop 139 = dktX3_isRead_6 := dk_seg dksX3_isRead_5 22 rfl rfl
theorem dksX3_isRead_7 : cX3_isRead.data.toList.drop 161 = dktX3_isRead_7 := dk_seg dksX3_isRead_6 22 rfl rfl
theorem dksX3_isRead_8 : cX3_isRead.data.toList.drop 185 = dktX3_isRead_8 := dk_seg dksX3_isRead_7 24 rfl rfl
theorem dksX3_isRead_9 : cX3_isRead.data.toList.drop 209 = dktX3_isRead_9 := dk_seg dksX3_isRead_8 24 rfl rfl
theorem dX3_isRead_0 : decode cX3_isRead 0 = .ok (.aload_n 0, 1) := dk_42 (dk_at dksX3_isRead_0 0 rfl rfl)
theorem dX3_isRead_1 : decode cX3_isRead 1 = .ok (.iconst 0, 1) := dk_3 (dk_at dksX3_isRead_0 1 rfl rfl)
theorem dX3_isRead_2 : decode cX3_isRead 2 = .ok (.putfield 83, 3) := dk_181 0 83 (dk_at dksX3_isRead_0 2 rfl rfl)
theorem dX3_isRead_5 : decode cX3_isRead 5 = .ok (.aload_n 0, 1) := dk_42 (dk_at dksX3_isRead_0 5 rfl rfl)
theorem dX3_isRead_6 : decode cX3_isRead 6 = .ok (.iconst 0, 1) := dk_3 (dk_at dksX3_isRead_0 6 rfl rfl)
theorem dX3_isRead_7 : decode cX3_isRead 7 = .ok (.putfield 86, 3) := dk_181 0 86 (dk_at dksX3_isRead_0 7 rfl rfl)
theorem dX3_isRead_10 : decode cX3_isRead 10 = .ok (.aload_n 0, 1) := dk_42 (dk_at dksX3_isRead_0 10 rfl rfl)
theorem dX3_isRead_11 : decode cX3_isRead 11 = .ok (.aload_n 0, 1) := dk_42 (dk_at dksX3_isRead_0 11 rfl rfl)
theorem dX3_isRead_12 : decode cX3_isRead 12 = .ok (.getfield 83, 3) := dk_180 0 83 (dk_at dksX3_isRead_0 12 rfl rfl)
theorem dX3_isRead_15 : decode cX3_isRead 15 = .ok (.invokevirtual 89, 3) := dk_182 0 89 (dk_at dksX3_isRead_0 15 rfl rfl)
theorem dX3_isRead_18 : decode cX3_isRead 18 = .ok (.istore_n 2, 1) := dk_61 (dk_at dksX3_isRead_0 18 rfl rfl)
theorem dX3_isRead_19 : decode cX3_isRead 19 = .ok (.iload_n 1, 1) := dk_27 (dk_at dksX3_isRead_0 19 rfl rfl)
theorem dX3_isRead_20 : decode cX3_isRead 20 = .ok (.ifCond .eq 50, 3) := dk_153 0 50 (dk_at dksX3_isRead_0 20 rfl rfl)
theorem dX3_isRead_23 : decode cX3_isRead 23 = .ok (.iload_n 2, 1) := dk_28 (dk_at dksX3_isRead_0 23 rfl rfl)
theorem dX3_isRead_24 : decode cX3_isRead 24 = .ok (.bipush 42, 2) := dk_16 42 (dk_at dksX3_isRead_1 0 rfl rfl)
theorem dX3_isRead_26 : decode cX3_isRead 26 = .ok (.if_icmp .eq 9, 3) := dk_159 0 9 (dk_at dksX3_isRead_1 2 rfl rfl)
theorem dX3_isRead_29 : decode cX3_isRead 29 = .ok (.iload_n 2, 1) := dk_28 (dk_at dksX3_isRead_1 5 rfl rfl)
theorem dX3_isRead_30 : decode cX3_isRead 30 = .ok (.bipush 35, 2) := dk_16 35 (dk_at dksX3_isRead_1 6 rfl rfl)
theorem dX3_isRead_32 : decode cX3_isRead 32 = .ok (.if_icmp .ne 38, 3) := dk_160 0 38 (dk_at dksX3_isRead_1 8 rfl rfl)
theorem dX3_isRead_35 : decode cX3_isRead 35 = .ok (.aload_n 0, 1) := dk_42 (dk_at dksX3_isRead_1 11 rfl rfl)
theorem dX3_isRead_36 : decode cX3_isRead 36 = .ok (.getfield 28, 3) := dk_180 0 28 (dk_at dksX3_isRead_1 12 rfl rfl)
theorem dX3_isRead_39 : decode cX3_isRead 39 = .ok (.aload_n 0, 1) := dk_42 (dk_at dksX3_isRead_1 15 rfl rfl)
theorem dX3_isRead_40 : decode cX3_isRead 40 = .ok (.getfield 86, 3) := dk_180 0 86 (dk_at dksX3_isRead_1 16 rfl rfl)
theorem dX3_isRead_43 : decode cX3_isRead 43 = .ok (.iload_n 2, 1) := dk_28 (dk_at dksX3_isRead_1 19 rfl rfl)
theorem dX3_isRead_44 : decode cX3_isRead 44 = .ok (.bipush 42, 2) := dk_16 42 (dk_at dksX3_isRead_1 20 rfl rfl)
theorem dX3_isRead_46 : decode cX3_isRead 46 = .ok (.if_icmp .ne 8, 3) := dk_160 0 8 (dk_at dksX3_isRead_2 0 rfl rfl)
theorem dX3_isRead_49 : decode cX3_isRead 49 = .ok (.bipush (-2), 2) := dk_16 254 (dk_at dksX3_isRead_2 3 rfl rfl)
theorem dX3_isRead_51 : decode cX3_isRead 51 = .ok (.goto 5, 3) := dk_167 0 5 (dk_at dksX3_isRead_2 5 rfl rfl)
theorem dX3_isRead_54 : decode cX3_isRead 54 = .ok (.bipush (-3), 2) := dk_16 253 (dk_at dksX3_isRead_2 8 rfl rfl)
theorem dX3_isRead_56 : decode cX3_isRead 56 = .ok (.iastore, 1) := dk_79 (dk_at dksX3_isRead_2 10 rfl rfl)
theorem dX3_isRead_57 : decode cX3_isRead 57 = .ok (.aload_n 0, 1) := dk_42 (dk_at dksX3_isRead_2 11 rfl rfl)
theorem dX3_isRead_58 : decode cX3_isRead 58 = .ok (.dup, 1) := dk_89 (dk_at dksX3_isRead_2 12 rfl rfl)
theorem dX3_isRead_59 : decode cX3_isRead 59 = .ok (.getfield 83, 3) := dk_180 0 83 (dk_at dksX3_isRead_2 13 rfl rfl)
theorem dX3_isRead_62 : decode cX3_isRead 62 = .ok (.iconst 1, 1) := dk_4 (dk_at dksX3_isRead_2 16 rfl rfl)
theorem dX3_isRead_63 : decode cX3_isRead 63 = .ok (.iadd, 1) := dk_96 (dk_at dksX3_isRead_2 17 rfl rfl)
theorem dX3_isRead_64 : decode cX3_isRead 64 = .ok (.putfield 83, 3) := dk_181 0 83 (dk_at dksX3_isRead_2 18 rfl rfl)
theorem dX3_isRead_67 : decode cX3_isRead 67 = .ok (.goto 87, 3) := dk_167 0 87 (dk_at dksX3_isRead_2 21 rfl rfl)
theorem dX3_isRead_70 : decode cX3_isRead 70 = .ok (.iconst 0, 1) := dk_3 (dk_at dksX3_isRead_3 0 rfl rfl)
theorem dX3_isRead_71 : decode cX3_isRead 71 = .ok (.istore_n 3, 1) := dk_62 (dk_at dksX3_isRead_3 1 rfl rfl)
theorem dX3_isRead_72 : decode cX3_isRead 72 = .ok (.iconst 0, 1) := dk_3 (dk_at dksX3_isRead_3 2 rfl rfl)
theorem dX3_isRead_73 : decode cX3_isRead 73 = .ok (.istore 4, 2) := dk_54 4 (dk_at dksX3_isRead_3 3 rfl rfl)
theorem dX3_isRead_75 : decode cX3_isRead 75 = .ok (.iload 4, 2) := dk_21 4 (dk_at dksX3_isRead_3 5 rfl rfl)
theorem dX3_isRead_77 : decode cX3_isRead 77 = .ok (.iconst 4, 1) := dk_7 (dk_at dksX3_isRead_3 7 rfl rfl)
theorem dX3_isRead_78 : decode cX3_isRead 78 = .ok (.if_icmp .ge 59, 3) := dk_162 0 59 (dk_at dksX3_isRead_3 8 rfl rfl)
theorem dX3_isRead_81 : decode cX3_isRead 81 = .ok (.aload_n 0, 1) := dk_42 (dk_at dksX3_isRead_3 11 rfl rfl)
theorem dX3_isRead_82 : decode cX3_isRead 82 = .ok (.aload_n 0, 1) := dk_42 (dk_at dksX3_isRead_3 12 rfl rfl)
theorem dX3_isRead_83 : decode cX3_isRead 83 = .ok (.getfield 83, 3) := dk_180 0 83 (dk_at dksX3_isRead_3 13 rfl rfl)
theorem dX3_isRead_86 : decode cX3_isRead 86 = .ok (.invokevirtual 89, 3) := dk_182 0 89 (dk_at dksX3_isRead_3 16 rfl rfl)
theorem dX3_isRead_89 : decode cX3_isRead 89 = .ok (.i2l, 1) := dk_133 (dk_at dksX3_isRead_3 19 rfl rfl)
theorem dX3_isRead_90 : decode cX3_isRead 90 = .ok (.ldc2_w 92, 3) := dk_20 0 92 (dk_at dksX3_isRead_3 20 rfl rfl)
theorem dX3_isRead_93 : decode cX3_isRead 93 = .ok (.ldc2_w 94, 3) := dk_20 0 94 (dk_at dksX3_isRead_4 0 rfl rfl)
theorem dX3_isRead_96 : decode cX3_isRead 96 = .ok (.invokestatic 47, 3) := dk_184 0 47 (dk_at dksX3_isRead_4 3 rfl rfl)
theorem dX3_isRead_99 : decode cX3_isRead 99 = .ok (.ifCond .eq 38, 3) := dk_153 0 38 (dk_at dksX3_isRead_4 6 rfl rfl)
theorem dX3_isRead_102 : decode cX3_isRead 102 = .ok (.bipush 27, 2) := dk_16 27 (dk_at dksX3_isRead_4 9 rfl rfl)
theorem dX3_isRead_104 : decode cX3_isRead 104 = .ok (.iload_n 3, 1) := dk_29 (dk_at dksX3_isRead_4 11 rfl rfl)
theorem dX3_isRead_105 : decode cX3_isRead 105 = .ok (.imul, 1) := dk_104 (dk_at dksX3_isRead_4 12 rfl rfl)
theorem dX3_isRead_106 : decode cX3_isRead 106 = .ok (.aload_n 0, 1) := dk_42 (dk_at dksX3_isRead_4 13 rfl rfl)
theorem dX3_isRead_107 : decode cX3_isRead 107 = .ok (.aload_n 0, 1) := dk_42 (dk_at dksX3_isRead_4 14 rfl rfl)
theorem dX3_isRead_108 : decode cX3_isRead 108 = .ok (.getfield 83, 3) := dk_180 0 83 (dk_at dksX3_isRead_4 15 rfl rfl)
theorem dX3_isRead_111 : decode cX3_isRead 111 = .ok (.invokevirtual 89, 3) := dk_182 0 89 (dk_at dksX3_isRead_4 18 rfl rfl)
theorem dX3_isRead_114 : decode cX3_isRead 114 = .ok (.iadd, 1) := dk_96 (dk_at dksX3_isRead_4 21 rfl rfl)
theorem dX3_isRead_115 : decode cX3_isRead 115 = .ok (.bipush 97, 2) := dk_16 97 (dk_at dksX3_isRead_4 22 rfl rfl)
theorem dX3_isRead_117 : decode cX3_isRead 117 = .ok (.isub, 1) := dk_100 (dk_at dksX3_isRead_5 0 rfl rfl)
theorem dX3_isRead_118 : decode cX3_isRead 118 = .ok (.iconst 1, 1) := dk_4 (dk_at dksX3_isRead_5 1 rfl rfl)
theorem dX3_isRead_119 : decode cX3_isRead 119 = .ok (.iadd, 1) := dk_96 (dk_at dksX3_isRead_5 2 rfl rfl)
theorem dX3_isRead_120 : decode cX3_isRead 120 = .ok (.istore_n 3, 1) := dk_62 (dk_at dksX3_isRead_5 3 rfl rfl)
theorem dX3_isRead_121 : decode cX3_isRead 121 = .ok (.aload_n 0, 1) := dk_42 (dk_at dksX3_isRead_5 4 rfl rfl)
theorem dX3_isRead_122 : decode cX3_isRead 122 = .ok (.dup, 1) := dk_89 (dk_at dksX3_isRead_5 5 rfl rfl)
theorem dX3_isRead_123 : decode cX3_isRead 123 = .ok (.getfield 83, 3) := dk_180 0 83 (dk_at dksX3_isRead_5 6 rfl rfl)
theorem dX3_isRead_126 : decode cX3_isRead 126 = .ok (.iconst 1, 1) := dk_4 (dk_at dksX3_isRead_5 9 rfl rfl)
theorem dX3_isRead_127 : decode cX3_isRead 127 = .ok (.iadd, 1) := dk_96 (dk_at dksX3_isRead_5 10 rfl rfl)
theorem dX3_isRead_128 : decode cX3_isRead 128 = .ok (.putfield 83, 3) := dk_181 0 83 (dk_at dksX3_isRead_5 11 rfl rfl)
theorem dX3_isRead_131 : decode cX3_isRead 131 = .ok (.iinc 4 1, 3) := dk_132 4 1 (dk_at dksX3_isRead_5 14 rfl rfl)
theorem dX3_isRead_134 : decode cX3_isRead 134 = .ok (.goto (-59), 3) := dk_167 255 197 (dk_at dksX3_isRead_5 17 rfl rfl)
theorem dX3_isRead_137 : decode cX3_isRead 137 = .ok (.iload 4, 2) := dk_21 4 (dk_at dksX3_isRead_5 20 rfl rfl)
theorem dX3_isRead_139 : decode cX3_isRead 139 = .ok (.ifCond .ne 5, 3) := dk_154 0 5 (dk_at dksX3_isRead_6 0 rfl rfl)
theorem dX3_isRead_142 : decode cX3_isRead 142 = .ok (.iconst 0, 1) := dk_3 (dk_at dksX3_isRead_6 3 rfl rfl)
theorem dX3_isRead_143 : decode cX3_isRead 143 = .ok (.ireturn, 1) := dk_172 (dk_at dksX3_isRead_6 4 rfl rfl)
theorem dX3_isRead_144 : decode cX3_isRead 144 = .ok (.aload_n 0, 1) := dk_42 (dk_at dksX3_isRead_6 5 rfl rfl)
theorem dX3_isRead_145 : decode cX3_isRead 145 = .ok (.getfield 28, 3) := dk_180 0 28 (dk_at dksX3_isRead_6 6 rfl rfl)
theorem dX3_isRead_148 : decode cX3_isRead 148 = .ok (.aload_n 0, 1) := dk_42 (dk_at dksX3_isRead_6 9 rfl rfl)
theorem dX3_isRead_149 : decode cX3_isRead 149 = .ok (.getfield 86, 3) := dk_180 0 86 (dk_at dksX3_isRead_6 10 rfl rfl)
theorem dX3_isRead_152 : decode cX3_isRead 152 = .ok (.iload_n 3, 1) := dk_29 (dk_at dksX3_isRead_6 13 rfl rfl)
theorem dX3_isRead_153 : decode cX3_isRead 153 = .ok (.iastore, 1) := dk_79 (dk_at dksX3_isRead_6 14 rfl rfl)
theorem dX3_isRead_154 : decode cX3_isRead 154 = .ok (.aload_n 0, 1) := dk_42 (dk_at dksX3_isRead_6 15 rfl rfl)
theorem dX3_isRead_155 : decode cX3_isRead 155 = .ok (.dup, 1) := dk_89 (dk_at dksX3_isRead_6 16 rfl rfl)
theorem dX3_isRead_156 : decode cX3_isRead 156 = .ok (.getfield 86, 3) := dk_180 0 86 (dk_at dksX3_isRead_6 17 rfl rfl)
theorem dX3_isRead_159 : decode cX3_isRead 159 = .ok (.iconst 1, 1) := dk_4 (dk_at dksX3_isRead_6 20 rfl rfl)
theorem dX3_isRead_160 : decode cX3_isRead 160 = .ok (.iadd, 1) := dk_96 (dk_at dksX3_isRead_6 21 rfl rfl)
theorem dX3_isRead_161 : decode cX3_isRead 161 = .ok (.putfield 86, 3) := dk_181 0 86 (dk_at dksX3_isRead_7 0 rfl rfl)
theorem dX3_isRead_164 : decode cX3_isRead 164 = .ok (.aload_n 0, 1) := dk_42 (dk_at dksX3_isRead_7 3 rfl rfl)
theorem dX3_isRead_165 : decode cX3_isRead 165 = .ok (.getfield 83, 3) := dk_180 0 83 (dk_at dksX3_isRead_7 4 rfl rfl)
theorem dX3_isRead_168 : decode cX3_isRead 168 = .ok (.aload_n 0, 1) := dk_42 (dk_at dksX3_isRead_7 7 rfl rfl)
theorem dX3_isRead_169 : decode cX3_isRead 169 = .ok (.getfield 79, 3) := dk_180 0 79 (dk_at dksX3_isRead_7 8 rfl rfl)
theorem dX3_isRead_172 : decode cX3_isRead 172 = .ok (.if_icmp .ne 5, 3) := dk_160 0 5 (dk_at dksX3_isRead_7 11 rfl rfl)
theorem dX3_isRead_175 : decode cX3_isRead 175 = .ok (.iconst 1, 1) := dk_4 (dk_at dksX3_isRead_7 14 rfl rfl)
theorem dX3_isRead_176 : decode cX3_isRead 176 = .ok (.ireturn, 1) := dk_172 (dk_at dksX3_isRead_7 15 rfl rfl)
theorem dX3_isRead_177 : decode cX3_isRead 177 = .ok (.aload_n 0, 1) := dk_42 (dk_at dksX3_isRead_7 16 rfl rfl)
theorem dX3_isRead_178 : decode cX3_isRead 178 = .ok (.aload_n 0, 1) := dk_42 (dk_at dksX3_isRead_7 17 rfl rfl)
theorem dX3_isRead_179 : decode cX3_isRead 179 = .ok (.getfield 83, 3) := dk_180 0 83 (dk_at dksX3_isRead_7 18 rfl rfl)
theorem dX3_isRead_182 : decode cX3_isRead 182 = .ok (.invokevirtual 89, 3) := dk_182 0 89 (dk_at dksX3_isRead_7 21 rfl rfl)
theorem dX3_isRead_185 : decode cX3_isRead 185 = .ok (.bipush 46, 2) := dk_16 46 (dk_at dksX3_isRead_8 0 rfl rfl)
theorem dX3_isRead_187 : decode cX3_isRead 187 = .ok (.if_icmp .ne 27, 3) := dk_160 0 27 (dk_at dksX3_isRead_8 2 rfl rfl)
theorem dX3_isRead_190 : decode cX3_isRead 190 = .ok (.aload_n 0, 1) := dk_42 (dk_at dksX3_isRead_8 5 rfl rfl)
theorem dX3_isRead_191 : decode cX3_isRead 191 = .ok (.getfield 86, 3) := dk_180 0 86 (dk_at dksX3_isRead_8 6 rfl rfl)
theorem dX3_isRead_194 : decode cX3_isRead 194 = .ok (.iconst 4, 1) := dk_7 (dk_at dksX3_isRead_8 9 rfl rfl)
theorem dX3_isRead_195 : decode cX3_isRead 195 = .ok (.if_icmp .eq 19, 3) := dk_159 0 19 (dk_at dksX3_isRead_8 10 rfl rfl)
theorem dX3_isRead_198 : decode cX3_isRead 198 = .ok (.aload_n 0, 1) := dk_42 (dk_at dksX3_isRead_8 13 rfl rfl)
theorem dX3_isRead_199 : decode cX3_isRead 199 = .ok (.getfield 28, 3) := dk_180 0 28 (dk_at dksX3_isRead_8 14 rfl rfl)
theorem dX3_isRead_202 : decode cX3_isRead 202 = .ok (.aload_n 0, 1) := dk_42 (dk_at dksX3_isRead_8 17 rfl rfl)
theorem dX3_isRead_203 : decode cX3_isRead 203 = .ok (.getfield 86, 3) := dk_180 0 86 (dk_at dksX3_isRead_8 18 rfl rfl)
theorem dX3_isRead_206 : decode cX3_isRead 206 = .ok (.iconst 1, 1) := dk_4 (dk_at dksX3_isRead_8 21 rfl rfl)
theorem dX3_isRead_207 : decode cX3_isRead 207 = .ok (.isub, 1) := dk_100 (dk_at dksX3_isRead_8 22 rfl rfl)
theorem dX3_isRead_208 : decode cX3_isRead 208 = .ok (.iaload, 1) := dk_46 (dk_at dksX3_isRead_8 23 rfl rfl)
theorem dX3_isRead_209 : decode cX3_isRead 209 = .ok (.bipush (-3), 2) := dk_16 253 (dk_at dksX3_isRead_9 0 rfl rfl)
theorem dX3_isRead_211 : decode cX3_isRead 211 = .ok (.if_icmp .ne 5, 3) := dk_160 0 5 (dk_at dksX3_isRead_9 2 rfl rfl)
theorem dX3_isRead_214 : decode cX3_isRead 214 = .ok (.iconst 0, 1) := dk_3 (dk_at dksX3_isRead_9 5 rfl rfl)
theorem dX3_isRead_215 : decode cX3_isRead 215 = .ok (.ireturn, 1) := dk_172 (dk_at dksX3_isRead_9 6 rfl rfl)
theorem dX3_isRead_216 : decode cX3_isRead 216 = .ok (.aload_n 0, 1) := dk_42 (dk_at dksX3_isRead_9 7 rfl rfl)
theorem dX3_isRead_217 : decode cX3_isRead 217 = .ok (.dup, 1) := dk_89 (dk_at dksX3_isRead_9 8 rfl rfl)
theorem dX3_isRead_218 : decode cX3_isRead 218 = .ok (.getfield 83, 3) := dk_180 0 83 (dk_at dksX3_isRead_9 9 rfl rfl)
theorem dX3_isRead_221 : decode cX3_isRead 221 = .ok (.iconst 1, 1) := dk_4 (dk_at dksX3_isRead_9 12 rfl rfl)
theorem dX3_isRead_222 : decode cX3_isRead 222 = .ok (.iadd, 1) := dk_96 (dk_at dksX3_isRead_9 13 rfl rfl)
theorem dX3_isRead_223 : decode cX3_isRead 223 = .ok (.putfield 83, 3) := dk_181 0 83 (dk_at dksX3_isRead_9 14 rfl rfl)
theorem dX3_isRead_226 : decode cX3_isRead 226 = .ok (.goto (-216), 3) := dk_167 255 40 (dk_at dksX3_isRead_9 17 rfl rfl)
abbrev cX3_byteAt : ByteArray := prog_24_method_17_code
def yX3_byteAt : MethodName := ⟨RX3, "byteAt", "(I)I"⟩
def dkwX3_byteAt_0 : List UInt8 := [27, 42, 180, 0, 79, 162, 0, 12, 42, 180, 0, 25, 27, 46, 167, 0, 4, 2, 172]
abbrev dktX3_byteAt_0 : List UInt8 := dkwX3_byteAt_0 ++ []
theorem dksX3_byteAt_0 : cX3_byteAt.data.toList.drop 0 = dktX3_byteAt_0 := by decide +kernel
theorem dX3_byteAt_0 : decode cX3_byteAt 0 = .ok (.iload_n 1, 1) := dk_27 (dk_at dksX3_byteAt_0 0 rfl rfl)
theorem dX3_byteAt_1 : decode cX3_byteAt 1 = .ok (.aload_n 0, 1) := dk_42 (dk_at dksX3_byteAt_0 1 rfl rfl)
theorem dX3_byteAt_2 : decode cX3_byteAt 2 = .ok (.getfield 79, 3) := dk_180 0 79 (dk_at dksX3_byteAt_0 2 rfl rfl)
theorem dX3_byteAt_5 : decode cX3_byteAt 5 = .ok (.if_icmp .ge 12, 3) := dk_162 0 12 (dk_at dksX3_byteAt_0 5 rfl rfl)
theorem dX3_byteAt_8 : decode cX3_byteAt 8 = .ok (.aload_n 0, 1) := dk_42 (dk_at dksX3_byteAt_0 8 rfl rfl)
theorem dX3_byteAt_9 : decode cX3_byteAt 9 = .ok (.getfield 25, 3) := dk_180 0 25 (dk_at dksX3_byteAt_0 9 rfl rfl)
theorem dX3_byteAt_12 : decode cX3_byteAt 12 = .ok (.iload_n 1, 1) := dk_27 (dk_at dksX3_byteAt_0 12 rfl rfl)
theorem dX3_byteAt_13 : decode cX3_byteAt 13 = .ok (.iaload, 1) := dk_46 (dk_at dksX3_byteAt_0 13 rfl rfl)
theorem dX3_byteAt_14 : decode cX3_byteAt 14 = .ok (.goto 4, 3) := dk_167 0 4 (dk_at dksX3_byteAt_0 14 rfl rfl)
theorem dX3_byteAt_17 : decode cX3_byteAt 17 = .ok (.iconst (-1), 1) := dk_2 (dk_at dksX3_byteAt_0 17 rfl rfl)
theorem dX3_byteAt_18 : decode cX3_byteAt 18 = .ok (.ireturn, 1) := dk_172 (dk_at dksX3_byteAt_0 18 rfl rfl)
abbrev cX3_faulty : ByteArray := prog_24_method_19_code
def yX3_faulty : MethodName := ⟨RX3, "faulty", "()I"⟩
def dkwX3_faulty_0 : List UInt8 := [42, 3, 181, 0, 79, 42, 180, 0, 19, 3, 92, 46, 4, 96, 79, 17, 254, 212, 42, 180, 0, 83, 100, 172]
abbrev dktX3_faulty_0 : List UInt8 := dkwX3_faulty_0 ++ []
theorem dksX3_faulty_0 : cX3_faulty.data.toList.drop 0 = dktX3_faulty_0 := by decide +kernel
theorem dX3_faulty_0 : decode cX3_faulty 0 = .ok (.aload_n 0, 1) := dk_42 (dk_at dksX3_faulty_0 0 rfl rfl)
theorem dX3_faulty_1 : decode cX3_faulty 1 = .ok (.iconst 0, 1) := dk_3 (dk_at dksX3_faulty_0 1 rfl rfl)
theorem dX3_faulty_2 : decode cX3_faulty 2 = .ok (.putfield 79, 3) := dk_181 0 79 (dk_at dksX3_faulty_0 2 rfl rfl)
theorem dX3_faulty_5 : decode cX3_faulty 5 = .ok (.aload_n 0, 1) := dk_42 (dk_at dksX3_faulty_0 5 rfl rfl)
theorem dX3_faulty_6 : decode cX3_faulty 6 = .ok (.getfield 19, 3) := dk_180 0 19 (dk_at dksX3_faulty_0 6 rfl rfl)
theorem dX3_faulty_9 : decode cX3_faulty 9 = .ok (.iconst 0, 1) := dk_3 (dk_at dksX3_faulty_0 9 rfl rfl)
theorem dX3_faulty_10 : decode cX3_faulty 10 = .ok (.dup2, 1) := dk_92 (dk_at dksX3_faulty_0 10 rfl rfl)
theorem dX3_faulty_11 : decode cX3_faulty 11 = .ok (.iaload, 1) := dk_46 (dk_at dksX3_faulty_0 11 rfl rfl)
theorem dX3_faulty_12 : decode cX3_faulty 12 = .ok (.iconst 1, 1) := dk_4 (dk_at dksX3_faulty_0 12 rfl rfl)
theorem dX3_faulty_13 : decode cX3_faulty 13 = .ok (.iadd, 1) := dk_96 (dk_at dksX3_faulty_0 13 rfl rfl)
theorem dX3_faulty_14 : decode cX3_faulty 14 = .ok (.iastore, 1) := dk_79 (dk_at dksX3_faulty_0 14 rfl rfl)
theorem dX3_faulty_15 : decode cX3_faulty 15 = .ok (.sipush (-300), 3) := dk_17 254 212 (dk_at dksX3_faulty_0 15 rfl rfl)
theorem dX3_faulty_18 : decode cX3_faulty 18 = .ok (.aload_n 0, 1) := dk_42 (dk_at dksX3_faulty_0 18 rfl rfl)
theorem dX3_faulty_19 : decode cX3_faulty 19 = .ok (.getfield 83, 3) := dk_180 0 83 (dk_at dksX3_faulty_0 19 rfl rfl)
theorem dX3_faulty_22 : decode cX3_faulty 22 = .ok (.isub, 1) := dk_100 (dk_at dksX3_faulty_0 22 rfl rfl)
theorem dX3_faulty_23 : decode cX3_faulty 23 = .ok (.ireturn, 1) := dk_172 (dk_at dksX3_faulty_0 23 rfl rfl)
abbrev cX3_queue : ByteArray := prog_24_method_21_code
def yX3_queue : MethodName := ⟨RX3, "queue", "(IIII)I"⟩
def dkwX3_queue_11 : List UInt8 := [2, 182, 0, 62, 42, 180, 0, 9, 3, 21, 6, 4, 96, 79, 21, 6, 172]
abbrev dktX3_queue_11 : List UInt8 := dkwX3_queue_11 ++ []
def dkwX3_queue_10 : List UInt8 := [42, 21, 6, 16, 28, 29, 182, 0, 62, 42, 21, 6, 16, 29, 21, 4, 182, 0, 62, 42, 21, 6, 16, 31]
abbrev dktX3_queue_10 : List UInt8 := dkwX3_queue_10 ++ dktX3_queue_11
def dkwX3_queue_9 : List UInt8 := [132, 7, 1, 167, 255, 228, 42, 21, 6, 16, 26, 27, 182, 0, 62, 42, 21, 6, 16, 27, 28, 182, 0, 62]
abbrev dktX3_queue_9 : List UInt8 := dkwX3_queue_9 ++ dktX3_queue_10
def dkwX3_queue_8 : List UInt8 := [21, 5, 162, 0, 27, 42, 21, 6, 16, 6, 21, 7, 96, 42, 180, 0, 25, 21, 7, 46, 182, 0, 62]
abbrev dktX3_queue_8 : List UInt8 := dkwX3_queue_8 ++ dktX3_queue_9
def dkwX3_queue_7 : List UInt8 := [46, 182, 0, 62, 132, 7, 1, 167, 255, 227, 42, 21, 6, 8, 21, 5, 182, 0, 62, 3, 54, 7, 21, 7]
abbrev dktX3_queue_7 : List UInt8 := dkwX3_queue_7 ++ dktX3_queue_8
def dkwX3_queue_6 : List UInt8 := [54, 7, 21, 7, 42, 180, 0, 86, 162, 0, 26, 42, 21, 6, 4, 21, 7, 96, 42, 180, 0, 28, 21, 7]
abbrev dktX3_queue_6 : List UInt8 := dkwX3_queue_6 ++ dktX3_queue_7
def dkwX3_queue_5 : List UInt8 := [21, 7, 3, 182, 0, 62, 132, 7, 1, 167, 255, 236, 42, 21, 6, 3, 42, 180, 0, 86, 182, 0, 62, 3]
abbrev dktX3_queue_5 : List UInt8 := dkwX3_queue_5 ++ dktX3_queue_6
def dkwX3_queue_4 : List UInt8 := [160, 0, 10, 42, 16, 170, 182, 0, 75, 172, 3, 54, 7, 21, 7, 17, 2, 44, 162, 0, 18, 42, 21, 6]
abbrev dktX3_queue_4 : List UInt8 := dkwX3_queue_4 ++ dktX3_queue_5
def dkwX3_queue_3 : List UInt8 := [180, 0, 79, 54, 5, 42, 3, 181, 0, 79, 42, 180, 0, 9, 3, 46, 54, 6, 21, 6, 16, 8]
abbrev dktX3_queue_3 : List UInt8 := dkwX3_queue_3 ++ dktX3_queue_4
def dkwX3_queue_2 : List UInt8 := [154, 0, 10, 42, 16, 174, 182, 0, 75, 172, 42, 4, 182, 0, 96, 154, 0, 8, 42, 182, 0, 100, 172, 42]
abbrev dktX3_queue_2 : List UInt8 := dkwX3_queue_2 ++ dktX3_queue_3
def dkwX3_queue_1 : List UInt8 := [29, 133, 10, 20, 0, 108, 184, 0, 47, 153, 0, 16, 21, 4, 133, 9, 20, 0, 110, 184, 0, 47]
abbrev dktX3_queue_1 : List UInt8 := dkwX3_queue_1 ++ dktX3_queue_2
def dkwX3_queue_0 : List UInt8 := [27, 133, 10, 20, 0, 104, 184, 0, 47, 153, 0, 40, 28, 133, 10, 20, 0, 106, 184, 0, 47, 153, 0, 28]
abbrev dktX3_queue_0 : List UInt8 := dkwX3_queue_0 ++ dktX3_queue_1
theorem dksX3_queue_0 : cX3_queue.data.toList.drop 0 = dktX3_queue_0 := by decide +kernel
theorem dksX3_queue_1 : cX3_queue.data.toList.drop 24 = dktX3_queue_1 := dk_seg dksX3_queue_0 24 rfl rfl
theorem dksX3_queue_2 : cX3_queue.data.toList.drop 46 = dktX3_queue_2 := dk_seg dksX3_queue_1 22 rfl rfl
theorem dksX3_queue_3 : cX3_queue.data.toList.drop 70 = dktX3_queue_3 := dk_seg dksX3_queue_2 24 rfl rfl
theorem dksX3_queue_4 : cX3_queue.data.toList.drop 92 = dktX3_queue_4 := dk_seg dksX3_queue_3 22 rfl rfl
theorem dksX3_queue_5 : cX3_queue.data.toList.drop 116 = dktX3_queue_5 := dk_seg dksX3_queue_4 24 rfl rfl
theorem dksX3_queue_6 : cX3_queue.data.toList.drop 140 = dktX3_queue_6 := dk_seg dksX3_queue_5 24 rfl rfl
theorem dksX3_queue_7 : cX3_queue.data.toList.drop 164 = dktX3_queue_7 := dk_seg dksX3_queue_6 24 rfl rfl
theorem dksX3_queue_8 : cX3_queue.data.toList.drop 188 = dktX3_queue_8 := dk_seg dksX3_queue_7 24 rfl rfl
theorem dksX3_queue_9 : cX3_queue.data.toList.drop 211 = dktX3_queue_9 := dk_seg dksX3_queue_8 23 rfl rfl
theorem dksX3_queue_10 : cX3_queue.data.toList.drop 235 = dktX3_queue_10 := dk_seg dksX3_queue_9 24 rfl rfl
theorem dksX3_queue_11 : cX3_queue.data.toList.drop 259 = dktX3_queue_11 := dk_seg dksX3_queue_10 24 rfl rfl
theorem dX3_queue_0 : decode cX3_queue 0 = .ok (.iload_n 1, 1) := dk_27 (dk_at dksX3_queue_0 0 rfl rfl)
theorem dX3_queue_1 : decode cX3_queue 1 = .ok (.i2l, 1) := dk_133 (dk_at dksX3_queue_0 1 rfl rfl)
theorem dX3_queue_2 : decode cX3_queue 2 = .ok (.lconst 1, 1) := dk_10 (dk_at dksX3_queue_0 2 rfl rfl)
theorem dX3_queue_3 : decode cX3_queue 3 = .ok (.ldc2_w 104, 3) := dk_20 0 104 (dk_at dksX3_queue_0 3 rfl rfl)
theorem dX3_queue_6 : decode cX3_queue 6 = .ok (.invokestatic 47, 3) := dk_184 0 47 (dk_at dksX3_queue_0 6 rfl rfl)
theorem dX3_queue_9 : decode cX3_queue 9 = .ok (.ifCond .eq 40, 3) := dk_153 0 40 (dk_at dksX3_queue_0 9 rfl rfl)
theorem dX3_queue_12 : decode cX3_queue 12 = .ok (.iload_n 2, 1) := dk_28 (dk_at dksX3_queue_0 12 rfl rfl)
theorem dX3_queue_13 : decode cX3_queue 13 = .ok (.i2l, 1) := dk_133 (dk_at dksX3_queue_0 13 rfl rfl)
theorem dX3_queue_14 : decode cX3_queue 14 = .ok (.lconst 1, 1) := dk_10 (dk_at dksX3_queue_0 14 rfl rfl)
theorem dX3_queue_15 : decode cX3_queue 15 = .ok (.ldc2_w 106, 3) := dk_20 0 106 (dk_at dksX3_queue_0 15 rfl rfl)
theorem dX3_queue_18 : decode cX3_queue 18 = .ok (.invokestatic 47, 3) := dk_184 0 47 (dk_at dksX3_queue_0 18 rfl rfl)
theorem dX3_queue_21 : decode cX3_queue 21 = .ok (.ifCond .eq 28, 3) := dk_153 0 28 (dk_at dksX3_queue_0 21 rfl rfl)
theorem dX3_queue_24 : decode cX3_queue 24 = .ok (.iload_n 3, 1) := dk_29 (dk_at dksX3_queue_1 0 rfl rfl)
theorem dX3_queue_25 : decode cX3_queue 25 = .ok (.i2l, 1) := dk_133 (dk_at dksX3_queue_1 1 rfl rfl)
theorem dX3_queue_26 : decode cX3_queue 26 = .ok (.lconst 1, 1) := dk_10 (dk_at dksX3_queue_1 2 rfl rfl)
theorem dX3_queue_27 : decode cX3_queue 27 = .ok (.ldc2_w 108, 3) := dk_20 0 108 (dk_at dksX3_queue_1 3 rfl rfl)
theorem dX3_queue_30 : decode cX3_queue 30 = .ok (.invokestatic 47, 3) := dk_184 0 47 (dk_at dksX3_queue_1 6 rfl rfl)
theorem dX3_queue_33 : decode cX3_queue 33 = .ok (.ifCond .eq 16, 3) := dk_153 0 16 (dk_at dksX3_queue_1 9 rfl rfl)
theorem dX3_queue_36 : decode cX3_queue 36 = .ok (.iload 4, 2) := dk_21 4 (dk_at dksX3_queue_1 12 rfl rfl)
theorem dX3_queue_38 : decode cX3_queue 38 = .ok (.i2l, 1) := dk_133 (dk_at dksX3_queue_1 14 rfl rfl)
theorem dX3_queue_39 : decode cX3_queue 39 = .ok (.lconst 0, 1) := dk_9 (dk_at dksX3_queue_1 15 rfl rfl)
theorem dX3_queue_40 : decode cX3_queue 40 = .ok (.ldc2_w 110, 3) := dk_20 0 110 (dk_at dksX3_queue_1 16 rfl rfl)
theorem dX3_queue_43 : decode cX3_queue 43 = .ok (.invokestatic 47, 3) := dk_184 0 47 (dk_at dksX3_queue_1 19 rfl rfl)
theorem dX3_queue_46 : decode cX3_queue 46 = .ok (.ifCond .ne 10, 3) := dk_154 0 10 (dk_at dksX3_queue_2 0 rfl rfl)
theorem dX3_queue_49 : decode cX3_queue 49 = .ok (.aload_n 0, 1) := dk_42 (dk_at dksX3_queue_2 3 rfl rfl)
theorem dX3_queue_50 : decode cX3_queue 50 = .ok (.bipush (-82), 2) := dk_16 174 (dk_at dksX3_queue_2 4 rfl rfl)
theorem dX3_queue_52 : decode cX3_queue 52 = .ok (.invokevirtual 75, 3) := dk_182 0 75 (dk_at dksX3_queue_2 6 rfl rfl)
theorem dX3_queue_55 : decode cX3_queue 55 = .ok (.ireturn, 1) := dk_172 (dk_at dksX3_queue_2 9 rfl rfl)
theorem dX3_queue_56 : decode cX3_queue 56 = .ok (.aload_n 0, 1) := dk_42 (dk_at dksX3_queue_2 10 rfl rfl)
theorem dX3_queue_57 : decode cX3_queue 57 = .ok (.iconst 1, 1) := dk_4 (dk_at dksX3_queue_2 11 rfl rfl)
theorem dX3_queue_58 : decode cX3_queue 58 = .ok (.invokevirtual 96, 3) := dk_182 0 96 (dk_at dksX3_queue_2 12 rfl rfl)
theorem dX3_queue_61 : decode cX3_queue 61 = .ok (.ifCond .ne 8, 3) := dk_154 0 8 (dk_at dksX3_queue_2 15 rfl rfl)
theorem dX3_queue_64 : decode cX3_queue 64 = .ok (.aload_n 0, 1) := dk_42 (dk_at dksX3_queue_2 18 rfl rfl)
theorem dX3_queue_65 : decode cX3_queue 65 = .ok (.invokevirtual 100, 3) := dk_182 0 100 (dk_at dksX3_queue_2 19 rfl rfl)
theorem dX3_queue_68 : decode cX3_queue 68 = .ok (.ireturn, 1) := dk_172 (dk_at dksX3_queue_2 22 rfl rfl)
theorem dX3_queue_69 : decode cX3_queue 69 = .ok (.aload_n 0, 1) := dk_42 (dk_at dksX3_queue_2 23 rfl rfl)
theorem dX3_queue_70 : decode cX3_queue 70 = .ok (.getfield 79, 3) := dk_180 0 79 (dk_at dksX3_queue_3 0 rfl rfl)
theorem dX3_queue_73 : decode cX3_queue 73 = .ok (.istore 5, 2) := dk_54 5 (dk_at dksX3_queue_3 3 rfl rfl)
theorem dX3_queue_75 : decode cX3_queue 75 = .ok (.aload_n 0, 1) := dk_42 (dk_at dksX3_queue_3 5 rfl rfl)
theorem dX3_queue_76 : decode cX3_queue 76 = .ok (.iconst 0, 1) := dk_3 (dk_at dksX3_queue_3 6 rfl rfl)
theorem dX3_queue_77 : decode cX3_queue 77 = .ok (.putfield 79, 3) := dk_181 0 79 (dk_at dksX3_queue_3 7 rfl rfl)
theorem dX3_queue_80 : decode cX3_queue 80 = .ok (.aload_n 0, 1) := dk_42 (dk_at dksX3_queue_3 10 rfl rfl)
theorem dX3_queue_81 : decode cX3_queue 81 = .ok (.getfield 9, 3) := dk_180 0 9 (dk_at dksX3_queue_3 11 rfl rfl)
theorem dX3_queue_84 : decode cX3_queue 84 = .ok (.iconst 0, 1) := dk_3 (dk_at dksX3_queue_3 14 rfl rfl)
theorem dX3_queue_85 : decode cX3_queue 85 = .ok (.iaload, 1) := dk_46 (dk_at dksX3_queue_3 15 rfl rfl)
theorem dX3_queue_86 : decode cX3_queue 86 = .ok (.istore 6, 2) := dk_54 6 (dk_at dksX3_queue_3 16 rfl rfl)
theorem dX3_queue_88 : decode cX3_queue 88 = .ok (.iload 6, 2) := dk_21 6 (dk_at dksX3_queue_3 18 rfl rfl)
theorem dX3_queue_90 : decode cX3_queue 90 = .ok (.bipush 8, 2) := dk_16 8 (dk_at dksX3_queue_3 20 rfl rfl)
theorem dX3_queue_92 : decode cX3_queue 92 = .ok (.if_icmp .ne 10, 3) := dk_160 0 10 (dk_at dksX3_queue_4 0 rfl rfl)
theorem dX3_queue_95 : decode cX3_queue 95 = .ok (.aload_n 0, 1) := dk_42 (dk_at dksX3_queue_4 3 rfl rfl)
theorem dX3_queue_96 : decode cX3_queue 96 = .ok (.bipush (-86), 2) := dk_16 170 (dk_at dksX3_queue_4 4 rfl rfl)
theorem dX3_queue_98 : decode cX3_queue 98 = .ok (.invokevirtual 75, 3) := dk_182 0 75 (dk_at dksX3_queue_4 6 rfl rfl)
theorem dX3_queue_101 : decode cX3_queue 101 = .ok (.ireturn, 1) := dk_172 (dk_at dksX3_queue_4 9 rfl rfl)
theorem dX3_queue_102 : decode cX3_queue 102 = .ok (.iconst 0, 1) := dk_3 (dk_at dksX3_queue_4 10 rfl rfl)
theorem dX3_queue_103 : decode cX3_queue 103 = .ok (.istore 7, 2) := dk_54 7 (dk_at dksX3_queue_4 11 rfl rfl)
theorem dX3_queue_105 : decode cX3_queue 105 = .ok (.iload 7, 2) := dk_21 7 (dk_at dksX3_queue_4 13 rfl rfl)
theorem dX3_queue_107 : decode cX3_queue 107 = .ok (.sipush 556, 3) := dk_17 2 44 (dk_at dksX3_queue_4 15 rfl rfl)
theorem dX3_queue_110 : decode cX3_queue 110 = .ok (.if_icmp .ge 18, 3) := dk_162 0 18 (dk_at dksX3_queue_4 18 rfl rfl)
theorem dX3_queue_113 : decode cX3_queue 113 = .ok (.aload_n 0, 1) := dk_42 (dk_at dksX3_queue_4 21 rfl rfl)
theorem dX3_queue_114 : decode cX3_queue 114 = .ok (.iload 6, 2) := dk_21 6 (dk_at dksX3_queue_4 22 rfl rfl)
theorem dX3_queue_116 : decode cX3_queue 116 = .ok (.iload 7, 2) := dk_21 7 (dk_at dksX3_queue_5 0 rfl rfl)
theorem dX3_queue_118 : decode cX3_queue 118 = .ok (.iconst 0, 1) := dk_3 (dk_at dksX3_queue_5 2 rfl rfl)
theorem dX3_queue_119 : decode cX3_queue 119 = .ok (.invokevirtual 62, 3) := dk_182 0 62 (dk_at dksX3_queue_5 3 rfl rfl)
theorem dX3_queue_122 : decode cX3_queue 122 = .ok (.iinc 7 1, 3) := dk_132 7 1 (dk_at dksX3_queue_5 6 rfl rfl)
theorem dX3_queue_125 : decode cX3_queue 125 = .ok (.goto (-20), 3) := dk_167 255 236 (dk_at dksX3_queue_5 9 rfl rfl)
theorem dX3_queue_128 : decode cX3_queue 128 = .ok (.aload_n 0, 1) := dk_42 (dk_at dksX3_queue_5 12 rfl rfl)
theorem dX3_queue_129 : decode cX3_queue 129 = .ok (.iload 6, 2) := dk_21 6 (dk_at dksX3_queue_5 13 rfl rfl)
theorem dX3_queue_131 : decode cX3_queue 131 = .ok (.iconst 0, 1) := dk_3 (dk_at dksX3_queue_5 15 rfl rfl)
theorem dX3_queue_132 : decode cX3_queue 132 = .ok (.aload_n 0, 1) := dk_42 (dk_at dksX3_queue_5 16 rfl rfl)
theorem dX3_queue_133 : decode cX3_queue 133 = .ok (.getfield 86, 3) := dk_180 0 86 (dk_at dksX3_queue_5 17 rfl rfl)
theorem dX3_queue_136 : decode cX3_queue 136 = .ok (.invokevirtual 62, 3) := dk_182 0 62 (dk_at dksX3_queue_5 20 rfl rfl)
theorem dX3_queue_139 : decode cX3_queue 139 = .ok (.iconst 0, 1) := dk_3 (dk_at dksX3_queue_5 23 rfl rfl)
theorem dX3_queue_140 : decode cX3_queue 140 = .ok (.istore 7, 2) := dk_54 7 (dk_at dksX3_queue_6 0 rfl rfl)
theorem dX3_queue_142 : decode cX3_queue 142 = .ok (.iload 7, 2) := dk_21 7 (dk_at dksX3_queue_6 2 rfl rfl)
theorem dX3_queue_144 : decode cX3_queue 144 = .ok (.aload_n 0, 1) := dk_42 (dk_at dksX3_queue_6 4 rfl rfl)
theorem dX3_queue_145 : decode cX3_queue 145 = .ok (.getfield 86, 3) := dk_180 0 86 (dk_at dksX3_queue_6 5 rfl rfl)
theorem dX3_queue_148 : decode cX3_queue 148 = .ok (.if_icmp .ge 26, 3) := dk_162 0 26 (dk_at dksX3_queue_6 8 rfl rfl)
theorem dX3_queue_151 : decode cX3_queue 151 = .ok (.aload_n 0, 1) := dk_42 (dk_at dksX3_queue_6 11 rfl rfl)
theorem dX3_queue_152 : decode cX3_queue 152 = .ok (.iload 6, 2) := dk_21 6 (dk_at dksX3_queue_6 12 rfl rfl)
theorem dX3_queue_154 : decode cX3_queue 154 = .ok (.iconst 1, 1) := dk_4 (dk_at dksX3_queue_6 14 rfl rfl)
theorem dX3_queue_155 : decode cX3_queue 155 = .ok (.iload 7, 2) := dk_21 7 (dk_at dksX3_queue_6 15 rfl rfl)
theorem dX3_queue_157 : decode cX3_queue 157 = .ok (.iadd, 1) := dk_96 (dk_at dksX3_queue_6 17 rfl rfl)
theorem dX3_queue_158 : decode cX3_queue 158 = .ok (.aload_n 0, 1) := dk_42 (dk_at dksX3_queue_6 18 rfl rfl)
theorem dX3_queue_159 : decode cX3_queue 159 = .ok (.getfield 28, 3) := dk_180 0 28 (dk_at dksX3_queue_6 19 rfl rfl)
theorem dX3_queue_162 : decode cX3_queue 162 = .ok (.iload 7, 2) := dk_21 7 (dk_at dksX3_queue_6 22 rfl rfl)
theorem dX3_queue_164 : decode cX3_queue 164 = .ok (.iaload, 1) := dk_46 (dk_at dksX3_queue_7 0 rfl rfl)
theorem dX3_queue_165 : decode cX3_queue 165 = .ok (.invokevirtual 62, 3) := dk_182 0 62 (dk_at dksX3_queue_7 1 rfl rfl)
theorem dX3_queue_168 : decode cX3_queue 168 = .ok (.iinc 7 1, 3) := dk_132 7 1 (dk_at dksX3_queue_7 4 rfl rfl)
theorem dX3_queue_171 : decode cX3_queue 171 = .ok (.goto (-29), 3) := dk_167 255 227 (dk_at dksX3_queue_7 7 rfl rfl)
theorem dX3_queue_174 : decode cX3_queue 174 = .ok (.aload_n 0, 1) := dk_42 (dk_at dksX3_queue_7 10 rfl rfl)
theorem dX3_queue_175 : decode cX3_queue 175 = .ok (.iload 6, 2) := dk_21 6 (dk_at dksX3_queue_7 11 rfl rfl)
theorem dX3_queue_177 : decode cX3_queue 177 = .ok (.iconst 5, 1) := dk_8 (dk_at dksX3_queue_7 13 rfl rfl)
theorem dX3_queue_178 : decode cX3_queue 178 = .ok (.iload 5, 2) := dk_21 5 (dk_at dksX3_queue_7 14 rfl rfl)
theorem dX3_queue_180 : decode cX3_queue 180 = .ok (.invokevirtual 62, 3) := dk_182 0 62 (dk_at dksX3_queue_7 16 rfl rfl)
theorem dX3_queue_183 : decode cX3_queue 183 = .ok (.iconst 0, 1) := dk_3 (dk_at dksX3_queue_7 19 rfl rfl)
theorem dX3_queue_184 : decode cX3_queue 184 = .ok (.istore 7, 2) := dk_54 7 (dk_at dksX3_queue_7 20 rfl rfl)
theorem dX3_queue_186 : decode cX3_queue 186 = .ok (.iload 7, 2) := dk_21 7 (dk_at dksX3_queue_7 22 rfl rfl)
theorem dX3_queue_188 : decode cX3_queue 188 = .ok (.iload 5, 2) := dk_21 5 (dk_at dksX3_queue_8 0 rfl rfl)
theorem dX3_queue_190 : decode cX3_queue 190 = .ok (.if_icmp .ge 27, 3) := dk_162 0 27 (dk_at dksX3_queue_8 2 rfl rfl)
theorem dX3_queue_193 : decode cX3_queue 193 = .ok (.aload_n 0, 1) := dk_42 (dk_at dksX3_queue_8 5 rfl rfl)
theorem dX3_queue_194 : decode cX3_queue 194 = .ok (.iload 6, 2) := dk_21 6 (dk_at dksX3_queue_8 6 rfl rfl)
theorem dX3_queue_196 : decode cX3_queue 196 = .ok (.bipush 6, 2) := dk_16 6 (dk_at dksX3_queue_8 8 rfl rfl)
theorem dX3_queue_198 : decode cX3_queue 198 = .ok (.iload 7, 2) := dk_21 7 (dk_at dksX3_queue_8 10 rfl rfl)
theorem dX3_queue_200 : decode cX3_queue 200 = .ok (.iadd, 1) := dk_96 (dk_at dksX3_queue_8 12 rfl rfl)
theorem dX3_queue_201 : decode cX3_queue 201 = .ok (.aload_n 0, 1) := dk_42 (dk_at dksX3_queue_8 13 rfl rfl)
theorem dX3_queue_202 : decode cX3_queue 202 = .ok (.getfield 25, 3) := dk_180 0 25 (dk_at dksX3_queue_8 14 rfl rfl)
theorem dX3_queue_205 : decode cX3_queue 205 = .ok (.iload 7, 2) := dk_21 7 (dk_at dksX3_queue_8 17 rfl rfl)
theorem dX3_queue_207 : decode cX3_queue 207 = .ok (.iaload, 1) := dk_46 (dk_at dksX3_queue_8 19 rfl rfl)
theorem dX3_queue_208 : decode cX3_queue 208 = .ok (.invokevirtual 62, 3) := dk_182 0 62 (dk_at dksX3_queue_8 20 rfl rfl)
theorem dX3_queue_211 : decode cX3_queue 211 = .ok (.iinc 7 1, 3) := dk_132 7 1 (dk_at dksX3_queue_9 0 rfl rfl)
theorem dX3_queue_214 : decode cX3_queue 214 = .ok (.goto (-28), 3) := dk_167 255 228 (dk_at dksX3_queue_9 3 rfl rfl)
theorem dX3_queue_217 : decode cX3_queue 217 = .ok (.aload_n 0, 1) := dk_42 (dk_at dksX3_queue_9 6 rfl rfl)
theorem dX3_queue_218 : decode cX3_queue 218 = .ok (.iload 6, 2) := dk_21 6 (dk_at dksX3_queue_9 7 rfl rfl)
theorem dX3_queue_220 : decode cX3_queue 220 = .ok (.bipush 26, 2) := dk_16 26 (dk_at dksX3_queue_9 9 rfl rfl)
theorem dX3_queue_222 : decode cX3_queue 222 = .ok (.iload_n 1, 1) := dk_27 (dk_at dksX3_queue_9 11 rfl rfl)
theorem dX3_queue_223 : decode cX3_queue 223 = .ok (.invokevirtual 62, 3) := dk_182 0 62 (dk_at dksX3_queue_9 12 rfl rfl)
theorem dX3_queue_226 : decode cX3_queue 226 = .ok (.aload_n 0, 1) := dk_42 (dk_at dksX3_queue_9 15 rfl rfl)
theorem dX3_queue_227 : decode cX3_queue 227 = .ok (.iload 6, 2) := dk_21 6 (dk_at dksX3_queue_9 16 rfl rfl)
theorem dX3_queue_229 : decode cX3_queue 229 = .ok (.bipush 27, 2) := dk_16 27 (dk_at dksX3_queue_9 18 rfl rfl)
theorem dX3_queue_231 : decode cX3_queue 231 = .ok (.iload_n 2, 1) := dk_28 (dk_at dksX3_queue_9 20 rfl rfl)
theorem dX3_queue_232 : decode cX3_queue 232 = .ok (.invokevirtual 62, 3) := dk_182 0 62 (dk_at dksX3_queue_9 21 rfl rfl)
theorem dX3_queue_235 : decode cX3_queue 235 = .ok (.aload_n 0, 1) := dk_42 (dk_at dksX3_queue_10 0 rfl rfl)
theorem dX3_queue_236 : decode cX3_queue 236 = .ok (.iload 6, 2) := dk_21 6 (dk_at dksX3_queue_10 1 rfl rfl)
theorem dX3_queue_238 : decode cX3_queue 238 = .ok (.bipush 28, 2) := dk_16 28 (dk_at dksX3_queue_10 3 rfl rfl)
theorem dX3_queue_240 : decode cX3_queue 240 = .ok (.iload_n 3, 1) := dk_29 (dk_at dksX3_queue_10 5 rfl rfl)
theorem dX3_queue_241 : decode cX3_queue 241 = .ok (.invokevirtual 62, 3) := dk_182 0 62 (dk_at dksX3_queue_10 6 rfl rfl)
theorem dX3_queue_244 : decode cX3_queue 244 = .ok (.aload_n 0, 1) := dk_42 (dk_at dksX3_queue_10 9 rfl rfl)
theorem dX3_queue_245 : decode cX3_queue 245 = .ok (.iload 6, 2) := dk_21 6 (dk_at dksX3_queue_10 10 rfl rfl)
theorem dX3_queue_247 : decode cX3_queue 247 = .ok (.bipush 29, 2) := dk_16 29 (dk_at dksX3_queue_10 12 rfl rfl)
theorem dX3_queue_249 : decode cX3_queue 249 = .ok (.iload 4, 2) := dk_21 4 (dk_at dksX3_queue_10 14 rfl rfl)
theorem dX3_queue_251 : decode cX3_queue 251 = .ok (.invokevirtual 62, 3) := dk_182 0 62 (dk_at dksX3_queue_10 16 rfl rfl)
theorem dX3_queue_254 : decode cX3_queue 254 = .ok (.aload_n 0, 1) := dk_42 (dk_at dksX3_queue_10 19 rfl rfl)
theorem dX3_queue_255 : decode cX3_queue 255 = .ok (.iload 6, 2) := dk_21 6 (dk_at dksX3_queue_10 20 rfl rfl)
theorem dX3_queue_257 : decode cX3_queue 257 = .ok (.bipush 31, 2) := dk_16 31 (dk_at dksX3_queue_10 22 rfl rfl)
theorem dX3_queue_259 : decode cX3_queue 259 = .ok (.iconst (-1), 1) := dk_2 (dk_at dksX3_queue_11 0 rfl rfl)
theorem dX3_queue_260 : decode cX3_queue 260 = .ok (.invokevirtual 62, 3) := dk_182 0 62 (dk_at dksX3_queue_11 1 rfl rfl)
theorem dX3_queue_263 : decode cX3_queue 263 = .ok (.aload_n 0, 1) := dk_42 (dk_at dksX3_queue_11 4 rfl rfl)
theorem dX3_queue_264 : decode cX3_queue 264 = .ok (.getfield 9, 3) := dk_180 0 9 (dk_at dksX3_queue_11 5 rfl rfl)
theorem dX3_queue_267 : decode cX3_queue 267 = .ok (.iconst 0, 1) := dk_3 (dk_at dksX3_queue_11 8 rfl rfl)
theorem dX3_queue_268 : decode cX3_queue 268 = .ok (.iload 6, 2) := dk_21 6 (dk_at dksX3_queue_11 9 rfl rfl)
theorem dX3_queue_270 : decode cX3_queue 270 = .ok (.iconst 1, 1) := dk_4 (dk_at dksX3_queue_11 11 rfl rfl)
theorem dX3_queue_271 : decode cX3_queue 271 = .ok (.iadd, 1) := dk_96 (dk_at dksX3_queue_11 12 rfl rfl)
theorem dX3_queue_272 : decode cX3_queue 272 = .ok (.iastore, 1) := dk_79 (dk_at dksX3_queue_11 13 rfl rfl)
theorem dX3_queue_273 : decode cX3_queue 273 = .ok (.iload 6, 2) := dk_21 6 (dk_at dksX3_queue_11 14 rfl rfl)
theorem dX3_queue_275 : decode cX3_queue 275 = .ok (.ireturn, 1) := dk_172 (dk_at dksX3_queue_11 16 rfl rfl)
abbrev cX3_is : ByteArray := prog_24_method_6_code
def yX3_is : MethodName := ⟨RX3, "is", "(III)V"⟩
def dkwX3_is_0 : List UInt8 := [42, 180, 0, 9, 17, 13, 143, 17, 2, 44, 27, 104, 96, 28, 96, 29, 79, 177]
abbrev dktX3_is_0 : List UInt8 := dkwX3_is_0 ++ []
theorem dksX3_is_0 : cX3_is.data.toList.drop 0 = dktX3_is_0 := by decide +kernel
theorem dX3_is_0 : decode cX3_is 0 = .ok (.aload_n 0, 1) := dk_42 (dk_at dksX3_is_0 0 rfl rfl)
theorem dX3_is_1 : decode cX3_is 1 = .ok (.getfield 9, 3) := dk_180 0 9 (dk_at dksX3_is_0 1 rfl rfl)
theorem dX3_is_4 : decode cX3_is 4 = .ok (.sipush 3471, 3) := dk_17 13 143 (dk_at dksX3_is_0 4 rfl rfl)
theorem dX3_is_7 : decode cX3_is 7 = .ok (.sipush 556, 3) := dk_17 2 44 (dk_at dksX3_is_0 7 rfl rfl)
theorem dX3_is_10 : decode cX3_is 10 = .ok (.iload_n 1, 1) := dk_27 (dk_at dksX3_is_0 10 rfl rfl)
theorem dX3_is_11 : decode cX3_is 11 = .ok (.imul, 1) := dk_104 (dk_at dksX3_is_0 11 rfl rfl)
theorem dX3_is_12 : decode cX3_is 12 = .ok (.iadd, 1) := dk_96 (dk_at dksX3_is_0 12 rfl rfl)
theorem dX3_is_13 : decode cX3_is 13 = .ok (.iload_n 2, 1) := dk_28 (dk_at dksX3_is_0 13 rfl rfl)
theorem dX3_is_14 : decode cX3_is 14 = .ok (.iadd, 1) := dk_96 (dk_at dksX3_is_0 14 rfl rfl)
theorem dX3_is_15 : decode cX3_is 15 = .ok (.iload_n 3, 1) := dk_29 (dk_at dksX3_is_0 15 rfl rfl)
theorem dX3_is_16 : decode cX3_is 16 = .ok (.iastore, 1) := dk_79 (dk_at dksX3_is_0 16 rfl rfl)
theorem dX3_is_17 : decode cX3_is 17 = .ok (.return_, 1) := dk_177 (dk_at dksX3_is_0 17 rfl rfl)
abbrev cX3_fits : ByteArray := prog_24_method_25_code
def yX3_fits : MethodName := ⟨RX3, "fits", "()I"⟩
def dkwX3_fits_2 : List UInt8 := [128, 60, 132, 2, 1, 167, 255, 225, 27, 172]
abbrev dktX3_fits_2 : List UInt8 := dkwX3_fits_2 ++ []
def dkwX3_fits_1 : List UInt8 := [180, 0, 9, 3, 46, 162, 0, 27, 27, 42, 28, 182, 0, 119, 153, 0, 9, 4, 28, 120, 167, 0, 4, 3]
abbrev dktX3_fits_1 : List UInt8 := dkwX3_fits_1 ++ dktX3_fits_2
def dkwX3_fits_0 : List UInt8 := [42, 180, 0, 9, 16, 6, 46, 154, 0, 10, 42, 16, 171, 182, 0, 75, 172, 3, 60, 3, 61, 28, 42]
abbrev dktX3_fits_0 : List UInt8 := dkwX3_fits_0 ++ dktX3_fits_1
theorem dksX3_fits_0 : cX3_fits.data.toList.drop 0 = dktX3_fits_0 := by decide +kernel
theorem dksX3_fits_1 : cX3_fits.data.toList.drop 23 = dktX3_fits_1 := dk_seg dksX3_fits_0 23 rfl rfl
theorem dksX3_fits_2 : cX3_fits.data.toList.drop 47 = dktX3_fits_2 := dk_seg dksX3_fits_1 24 rfl rfl
theorem dX3_fits_0 : decode cX3_fits 0 = .ok (.aload_n 0, 1) := dk_42 (dk_at dksX3_fits_0 0 rfl rfl)
theorem dX3_fits_1 : decode cX3_fits 1 = .ok (.getfield 9, 3) := dk_180 0 9 (dk_at dksX3_fits_0 1 rfl rfl)
theorem dX3_fits_4 : decode cX3_fits 4 = .ok (.bipush 6, 2) := dk_16 6 (dk_at dksX3_fits_0 4 rfl rfl)
theorem dX3_fits_6 : decode cX3_fits 6 = .ok (.iaload, 1) := dk_46 (dk_at dksX3_fits_0 6 rfl rfl)
theorem dX3_fits_7 : decode cX3_fits 7 = .ok (.ifCond .ne 10, 3) := dk_154 0 10 (dk_at dksX3_fits_0 7 rfl rfl)
theorem dX3_fits_10 : decode cX3_fits 10 = .ok (.aload_n 0, 1) := dk_42 (dk_at dksX3_fits_0 10 rfl rfl)
theorem dX3_fits_11 : decode cX3_fits 11 = .ok (.bipush (-85), 2) := dk_16 171 (dk_at dksX3_fits_0 11 rfl rfl)
theorem dX3_fits_13 : decode cX3_fits 13 = .ok (.invokevirtual 75, 3) := dk_182 0 75 (dk_at dksX3_fits_0 13 rfl rfl)
theorem dX3_fits_16 : decode cX3_fits 16 = .ok (.ireturn, 1) := dk_172 (dk_at dksX3_fits_0 16 rfl rfl)
theorem dX3_fits_17 : decode cX3_fits 17 = .ok (.iconst 0, 1) := dk_3 (dk_at dksX3_fits_0 17 rfl rfl)
theorem dX3_fits_18 : decode cX3_fits 18 = .ok (.istore_n 1, 1) := dk_60 (dk_at dksX3_fits_0 18 rfl rfl)
theorem dX3_fits_19 : decode cX3_fits 19 = .ok (.iconst 0, 1) := dk_3 (dk_at dksX3_fits_0 19 rfl rfl)
theorem dX3_fits_20 : decode cX3_fits 20 = .ok (.istore_n 2, 1) := dk_61 (dk_at dksX3_fits_0 20 rfl rfl)
theorem dX3_fits_21 : decode cX3_fits 21 = .ok (.iload_n 2, 1) := dk_28 (dk_at dksX3_fits_0 21 rfl rfl)
theorem dX3_fits_22 : decode cX3_fits 22 = .ok (.aload_n 0, 1) := dk_42 (dk_at dksX3_fits_0 22 rfl rfl)
theorem dX3_fits_23 : decode cX3_fits 23 = .ok (.getfield 9, 3) := dk_180 0 9 (dk_at dksX3_fits_1 0 rfl rfl)
theorem dX3_fits_26 : decode cX3_fits 26 = .ok (.iconst 0, 1) := dk_3 (dk_at dksX3_fits_1 3 rfl rfl)
theorem dX3_fits_27 : decode cX3_fits 27 = .ok (.iaload, 1) := dk_46 (dk_at dksX3_fits_1 4 rfl rfl)
theorem dX3_fits_28 : decode cX3_fits 28 = .ok (.if_icmp .ge 27, 3) := dk_162 0 27 (dk_at dksX3_fits_1 5 rfl rfl)
theorem dX3_fits_31 : decode cX3_fits 31 = .ok (.iload_n 1, 1) := dk_27 (dk_at dksX3_fits_1 8 rfl rfl)
theorem dX3_fits_32 : decode cX3_fits 32 = .ok (.aload_n 0, 1) := dk_42 (dk_at dksX3_fits_1 9 rfl rfl)
theorem dX3_fits_33 : decode cX3_fits 33 = .ok (.iload_n 2, 1) := dk_28 (dk_at dksX3_fits_1 10 rfl rfl)
theorem dX3_fits_34 : decode cX3_fits 34 = .ok (.invokevirtual 119, 3) := dk_182 0 119 (dk_at dksX3_fits_1 11 rfl rfl)
theorem dX3_fits_37 : decode cX3_fits 37 = .ok (.ifCond .eq 9, 3) := dk_153 0 9 (dk_at dksX3_fits_1 14 rfl rfl)
theorem dX3_fits_40 : decode cX3_fits 40 = .ok (.iconst 1, 1) := dk_4 (dk_at dksX3_fits_1 17 rfl rfl)
theorem dX3_fits_41 : decode cX3_fits 41 = .ok (.iload_n 2, 1) := dk_28 (dk_at dksX3_fits_1 18 rfl rfl)
theorem dX3_fits_42 : decode cX3_fits 42 = .ok (.ishl, 1) := dk_120 (dk_at dksX3_fits_1 19 rfl rfl)
theorem dX3_fits_43 : decode cX3_fits 43 = .ok (.goto 4, 3) := dk_167 0 4 (dk_at dksX3_fits_1 20 rfl rfl)
theorem dX3_fits_46 : decode cX3_fits 46 = .ok (.iconst 0, 1) := dk_3 (dk_at dksX3_fits_1 23 rfl rfl)
theorem dX3_fits_47 : decode cX3_fits 47 = .ok (.ior, 1) := dk_128 (dk_at dksX3_fits_2 0 rfl rfl)
theorem dX3_fits_48 : decode cX3_fits 48 = .ok (.istore_n 1, 1) := dk_60 (dk_at dksX3_fits_2 1 rfl rfl)
theorem dX3_fits_49 : decode cX3_fits 49 = .ok (.iinc 2 1, 3) := dk_132 2 1 (dk_at dksX3_fits_2 2 rfl rfl)
theorem dX3_fits_52 : decode cX3_fits 52 = .ok (.goto (-31), 3) := dk_167 255 225 (dk_at dksX3_fits_2 5 rfl rfl)
theorem dX3_fits_55 : decode cX3_fits 55 = .ok (.iload_n 1, 1) := dk_27 (dk_at dksX3_fits_2 8 rfl rfl)
theorem dX3_fits_56 : decode cX3_fits 56 = .ok (.ireturn, 1) := dk_172 (dk_at dksX3_fits_2 9 rfl rfl)
abbrev cX3_isFit : ByteArray := prog_24_method_24_code
def yX3_isFit : MethodName := ⟨RX3, "isFit", "(I)Z"⟩
def dkwX3_isFit_2 : List UInt8 := [180, 0, 9, 16, 7, 28, 96, 46, 159, 0, 5, 3, 172, 132, 2, 1, 167, 255, 211, 4, 172]
abbrev dktX3_isFit_2 : List UInt8 := dkwX3_isFit_2 ++ []
def dkwX3_isFit_1 : List UInt8 := [16, 6, 46, 162, 0, 40, 42, 27, 28, 182, 0, 116, 16, 254, 159, 0, 23, 42, 27, 28, 182, 0, 116, 42]
abbrev dktX3_isFit_1 : List UInt8 := dkwX3_isFit_1 ++ dktX3_isFit_2
def dkwX3_isFit_0 : List UInt8 := [42, 27, 42, 180, 0, 9, 16, 6, 46, 182, 0, 112, 154, 0, 5, 3, 172, 3, 61, 28, 42, 180, 0, 9]
abbrev dktX3_isFit_0 : List UInt8 := dkwX3_isFit_0 ++ dktX3_isFit_1
theorem dksX3_isFit_0 : cX3_isFit.data.toList.drop 0 = dktX3_isFit_0 := by decide +kernel
theorem dksX3_isFit_1 : cX3_isFit.data.toList.drop 24 = dktX3_isFit_1 := dk_seg dksX3_isFit_0 24 rfl rfl
theorem dksX3_isFit_2 : cX3_isFit.data.toList.drop 48 = dktX3_isFit_2 := dk_seg dksX3_isFit_1 24 rfl rfl
theorem dX3_isFit_0 : decode cX3_isFit 0 = .ok (.aload_n 0, 1) := dk_42 (dk_at dksX3_isFit_0 0 rfl rfl)
theorem dX3_isFit_1 : decode cX3_isFit 1 = .ok (.iload_n 1, 1) := dk_27 (dk_at dksX3_isFit_0 1 rfl rfl)
theorem dX3_isFit_2 : decode cX3_isFit 2 = .ok (.aload_n 0, 1) := dk_42 (dk_at dksX3_isFit_0 2 rfl rfl)
theorem dX3_isFit_3 : decode cX3_isFit 3 = .ok (.getfield 9, 3) := dk_180 0 9 (dk_at dksX3_isFit_0 3 rfl rfl)
theorem dX3_isFit_6 : decode cX3_isFit 6 = .ok (.bipush 6, 2) := dk_16 6 (dk_at dksX3_isFit_0 6 rfl rfl)
theorem dX3_isFit_8 : decode cX3_isFit 8 = .ok (.iaload, 1) := dk_46 (dk_at dksX3_isFit_0 8 rfl rfl)
theorem dX3_isFit_9 : decode cX3_isFit 9 = .ok (.invokevirtual 112, 3) := dk_182 0 112 (dk_at dksX3_isFit_0 9 rfl rfl)
theorem dX3_isFit_12 : decode cX3_isFit 12 = .ok (.ifCond .ne 5, 3) := dk_154 0 5 (dk_at dksX3_isFit_0 12 rfl rfl)
theorem dX3_isFit_15 : decode cX3_isFit 15 = .ok (.iconst 0, 1) := dk_3 (dk_at dksX3_isFit_0 15 rfl rfl)
theorem dX3_isFit_16 : decode cX3_isFit 16 = .ok (.ireturn, 1) := dk_172 (dk_at dksX3_isFit_0 16 rfl rfl)
theorem dX3_isFit_17 : decode cX3_isFit 17 = .ok (.iconst 0, 1) := dk_3 (dk_at dksX3_isFit_0 17 rfl rfl)
theorem dX3_isFit_18 : decode cX3_isFit 18 = .ok (.istore_n 2, 1) := dk_61 (dk_at dksX3_isFit_0 18 rfl rfl)
theorem dX3_isFit_19 : decode cX3_isFit 19 = .ok (.iload_n 2, 1) := dk_28 (dk_at dksX3_isFit_0 19 rfl rfl)
theorem dX3_isFit_20 : decode cX3_isFit 20 = .ok (.aload_n 0, 1) := dk_42 (dk_at dksX3_isFit_0 20 rfl rfl)
theorem dX3_isFit_21 : decode cX3_isFit 21 = .ok (.getfield 9, 3) := dk_180 0 9 (dk_at dksX3_isFit_0 21 rfl rfl)
theorem dX3_isFit_24 : decode cX3_isFit 24 = .ok (.bipush 6, 2) := dk_16 6 (dk_at dksX3_isFit_1 0 rfl rfl)
theorem dX3_isFit_26 : decode cX3_isFit 26 = .ok (.iaload, 1) := dk_46 (dk_at dksX3_isFit_1 2 rfl rfl)
theorem dX3_isFit_27 : decode cX3_isFit 27 = .ok (.if_icmp .ge 40, 3) := dk_162 0 40 (dk_at dksX3_isFit_1 3 rfl rfl)
theorem dX3_isFit_30 : decode cX3_isFit 30 = .ok (.aload_n 0, 1) := dk_42 (dk_at dksX3_isFit_1 6 rfl rfl)
theorem dX3_isFit_31 : decode cX3_isFit 31 = .ok (.iload_n 1, 1) := dk_27 (dk_at dksX3_isFit_1 7 rfl rfl)
theorem dX3_isFit_32 : decode cX3_isFit 32 = .ok (.iload_n 2, 1) := dk_28 (dk_at dksX3_isFit_1 8 rfl rfl)
theorem dX3_isFit_33 : decode cX3_isFit 33 = .ok (.invokevirtual 116, 3) := dk_182 0 116 (dk_at dksX3_isFit_1 9 rfl rfl)
theorem dX3_isFit_36 : decode cX3_isFit 36 = .ok (.bipush (-2), 2) := dk_16 254 (dk_at dksX3_isFit_1 12 rfl rfl)
theorem dX3_isFit_38 : decode cX3_isFit 38 = .ok (.if_icmp .eq 23, 3) := dk_159 0 23 (dk_at dksX3_isFit_1 14 rfl rfl)
theorem dX3_isFit_41 : decode cX3_isFit 41 = .ok (.aload_n 0, 1) := dk_42 (dk_at dksX3_isFit_1 17 rfl rfl)
theorem dX3_isFit_42 : decode cX3_isFit 42 = .ok (.iload_n 1, 1) := dk_27 (dk_at dksX3_isFit_1 18 rfl rfl)
theorem dX3_isFit_43 : decode cX3_isFit 43 = .ok (.iload_n 2, 1) := dk_28 (dk_at dksX3_isFit_1 19 rfl rfl)
theorem dX3_isFit_44 : decode cX3_isFit 44 = .ok (.invokevirtual 116, 3) := dk_182 0 116 (dk_at dksX3_isFit_1 20 rfl rfl)
theorem dX3_isFit_47 : decode cX3_isFit 47 = .ok (.aload_n 0, 1) := dk_42 (dk_at dksX3_isFit_1 23 rfl rfl)
theorem dX3_isFit_48 : decode cX3_isFit 48 = .ok (.getfield 9, 3) := dk_180 0 9 (dk_at dksX3_isFit_2 0 rfl rfl)
theorem dX3_isFit_51 : decode cX3_isFit 51 = .ok (.bipush 7, 2) := dk_16 7 (dk_at dksX3_isFit_2 3 rfl rfl)
theorem dX3_isFit_53 : decode cX3_isFit 53 = .ok (.iload_n 2, 1) := dk_28 (dk_at dksX3_isFit_2 5 rfl rfl)
theorem dX3_isFit_54 : decode cX3_isFit 54 = .ok (.iadd, 1) := dk_96 (dk_at dksX3_isFit_2 6 rfl rfl)
theorem dX3_isFit_55 : decode cX3_isFit 55 = .ok (.iaload, 1) := dk_46 (dk_at dksX3_isFit_2 7 rfl rfl)
theorem dX3_isFit_56 : decode cX3_isFit 56 = .ok (.if_icmp .eq 5, 3) := dk_159 0 5 (dk_at dksX3_isFit_2 8 rfl rfl)
theorem dX3_isFit_59 : decode cX3_isFit 59 = .ok (.iconst 0, 1) := dk_3 (dk_at dksX3_isFit_2 11 rfl rfl)
theorem dX3_isFit_60 : decode cX3_isFit 60 = .ok (.ireturn, 1) := dk_172 (dk_at dksX3_isFit_2 12 rfl rfl)
theorem dX3_isFit_61 : decode cX3_isFit 61 = .ok (.iinc 2 1, 3) := dk_132 2 1 (dk_at dksX3_isFit_2 13 rfl rfl)
theorem dX3_isFit_64 : decode cX3_isFit 64 = .ok (.goto (-45), 3) := dk_167 255 211 (dk_at dksX3_isFit_2 16 rfl rfl)
theorem dX3_isFit_67 : decode cX3_isFit 67 = .ok (.iconst 1, 1) := dk_4 (dk_at dksX3_isFit_2 19 rfl rfl)
theorem dX3_isFit_68 : decode cX3_isFit 68 = .ok (.ireturn, 1) := dk_172 (dk_at dksX3_isFit_2 20 rfl rfl)
abbrev cX3_isLong : ByteArray := prog_24_method_22_code
def yX3_isLong : MethodName := ⟨RX3, "isLong", "(II)Z"⟩
def dkwX3_isLong_2 : List UInt8 := [42, 27, 3, 182, 0, 59, 160, 0, 7, 4, 167, 0, 4, 3, 172]
abbrev dktX3_isLong_2 : List UInt8 := dkwX3_isLong_2 ++ []
def dkwX3_isLong_1 : List UInt8 := [153, 0, 23, 28, 42, 27, 3, 182, 0, 59, 4, 100, 161, 0, 7, 4, 167, 0, 22, 3, 167, 0, 18, 28]
abbrev dktX3_isLong_1 : List UInt8 := dkwX3_isLong_1 ++ dktX3_isLong_2
def dkwX3_isLong_0 : List UInt8 := [42, 27, 42, 27, 3, 182, 0, 59, 182, 0, 59, 16, 253, 160, 0, 7, 4, 167, 0, 4, 3, 62, 29]
abbrev dktX3_isLong_0 : List UInt8 := dkwX3_isLong_0 ++ dktX3_isLong_1
theorem dksX3_isLong_0 : cX3_isLong.data.toList.drop 0 = dktX3_isLong_0 := by decide +kernel
theorem dksX3_isLong_1 : cX3_isLong.data.toList.drop 23 = dktX3_isLong_1 := dk_seg dksX3_isLong_0 23 rfl rfl
theorem dksX3_isLong_2 : cX3_isLong.data.toList.drop 47 = dktX3_isLong_2 := dk_seg dksX3_isLong_1 24 rfl rfl
theorem dX3_isLong_0 : decode cX3_isLong 0 = .ok (.aload_n 0, 1) := dk_42 (dk_at dksX3_isLong_0 0 rfl rfl)
theorem dX3_isLong_1 : decode cX3_isLong 1 = .ok (.iload_n 1, 1) := dk_27 (dk_at dksX3_isLong_0 1 rfl rfl)
theorem dX3_isLong_2 : decode cX3_isLong 2 = .ok (.aload_n 0, 1) := dk_42 (dk_at dksX3_isLong_0 2 rfl rfl)
theorem dX3_isLong_3 : decode cX3_isLong 3 = .ok (.iload_n 1, 1) := dk_27 (dk_at dksX3_isLong_0 3 rfl rfl)
theorem dX3_isLong_4 : decode cX3_isLong 4 = .ok (.iconst 0, 1) := dk_3 (dk_at dksX3_isLong_0 4 rfl rfl)
theorem dX3_isLong_5 : decode cX3_isLong 5 = .ok (.invokevirtual 59, 3) := dk_182 0 59 (dk_at dksX3_isLong_0 5 rfl rfl)
theorem dX3_isLong_8 : decode cX3_isLong 8 = .ok (.invokevirtual 59, 3) := dk_182 0 59 (dk_at dksX3_isLong_0 8 rfl rfl)
theorem dX3_isLong_11 : decode cX3_isLong 11 = .ok (.bipush (-3), 2) := dk_16 253 (dk_at dksX3_isLong_0 11 rfl rfl)
theorem dX3_isLong_13 : decode cX3_isLong 13 = .ok (.if_icmp .ne 7, 3) := dk_160 0 7 (dk_at dksX3_isLong_0 13 rfl rfl)
theorem dX3_isLong_16 : decode cX3_isLong 16 = .ok (.iconst 1, 1) := dk_4 (dk_at dksX3_isLong_0 16 rfl rfl)
theorem dX3_isLong_17 : decode cX3_isLong 17 = .ok (.goto 4, 3) := dk_167 0 4 (dk_at dksX3_isLong_0 17 rfl rfl)
theorem dX3_isLong_20 : decode cX3_isLong 20 = .ok (.iconst 0, 1) := dk_3 (dk_at dksX3_isLong_0 20 rfl rfl)
theorem dX3_isLong_21 : decode cX3_isLong 21 = .ok (.istore_n 3, 1) := dk_62 (dk_at dksX3_isLong_0 21 rfl rfl)
theorem dX3_isLong_22 : decode cX3_isLong 22 = .ok (.iload_n 3, 1) := dk_29 (dk_at dksX3_isLong_0 22 rfl rfl)
theorem dX3_isLong_23 : decode cX3_isLong 23 = .ok (.ifCond .eq 23, 3) := dk_153 0 23 (dk_at dksX3_isLong_1 0 rfl rfl)
theorem dX3_isLong_26 : decode cX3_isLong 26 = .ok (.iload_n 2, 1) := dk_28 (dk_at dksX3_isLong_1 3 rfl rfl)
theorem dX3_isLong_27 : decode cX3_isLong 27 = .ok (.aload_n 0, 1) := dk_42 (dk_at dksX3_isLong_1 4 rfl rfl)
theorem dX3_isLong_28 : decode cX3_isLong 28 = .ok (.iload_n 1, 1) := dk_27 (dk_at dksX3_isLong_1 5 rfl rfl)
theorem dX3_isLong_29 : decode cX3_isLong 29 = .ok (.iconst 0, 1) := dk_3 (dk_at dksX3_isLong_1 6 rfl rfl)
theorem dX3_isLong_30 : decode cX3_isLong 30 = .ok (.invokevirtual 59, 3) := dk_182 0 59 (dk_at dksX3_isLong_1 7 rfl rfl)
theorem dX3_isLong_33 : decode cX3_isLong 33 = .ok (.iconst 1, 1) := dk_4 (dk_at dksX3_isLong_1 10 rfl rfl)
theorem dX3_isLong_34 : decode cX3_isLong 34 = .ok (.isub, 1) := dk_100 (dk_at dksX3_isLong_1 11 rfl rfl)
theorem dX3_isLong_35 : decode cX3_isLong 35 = .ok (.if_icmp .lt 7, 3) := dk_161 0 7 (dk_at dksX3_isLong_1 12 rfl rfl)
theorem dX3_isLong_38 : decode cX3_isLong 38 = .ok (.iconst 1, 1) := dk_4 (dk_at dksX3_isLong_1 15 rfl rfl)
theorem dX3_isLong_39 : decode cX3_isLong 39 = .ok (.goto 22, 3) := dk_167 0 22 (dk_at dksX3_isLong_1 16 rfl rfl)
theorem dX3_isLong_42 : decode cX3_isLong 42 = .ok (.iconst 0, 1) := dk_3 (dk_at dksX3_isLong_1 19 rfl rfl)
theorem dX3_isLong_43 : decode cX3_isLong 43 = .ok (.goto 18, 3) := dk_167 0 18 (dk_at dksX3_isLong_1 20 rfl rfl)
theorem dX3_isLong_46 : decode cX3_isLong 46 = .ok (.iload_n 2, 1) := dk_28 (dk_at dksX3_isLong_1 23 rfl rfl)
theorem dX3_isLong_47 : decode cX3_isLong 47 = .ok (.aload_n 0, 1) := dk_42 (dk_at dksX3_isLong_2 0 rfl rfl)
theorem dX3_isLong_48 : decode cX3_isLong 48 = .ok (.iload_n 1, 1) := dk_27 (dk_at dksX3_isLong_2 1 rfl rfl)
theorem dX3_isLong_49 : decode cX3_isLong 49 = .ok (.iconst 0, 1) := dk_3 (dk_at dksX3_isLong_2 2 rfl rfl)
theorem dX3_isLong_50 : decode cX3_isLong 50 = .ok (.invokevirtual 59, 3) := dk_182 0 59 (dk_at dksX3_isLong_2 3 rfl rfl)
theorem dX3_isLong_53 : decode cX3_isLong 53 = .ok (.if_icmp .ne 7, 3) := dk_160 0 7 (dk_at dksX3_isLong_2 6 rfl rfl)
theorem dX3_isLong_56 : decode cX3_isLong 56 = .ok (.iconst 1, 1) := dk_4 (dk_at dksX3_isLong_2 9 rfl rfl)
theorem dX3_isLong_57 : decode cX3_isLong 57 = .ok (.goto 4, 3) := dk_167 0 4 (dk_at dksX3_isLong_2 10 rfl rfl)
theorem dX3_isLong_60 : decode cX3_isLong 60 = .ok (.iconst 0, 1) := dk_3 (dk_at dksX3_isLong_2 13 rfl rfl)
theorem dX3_isLong_61 : decode cX3_isLong 61 = .ok (.ireturn, 1) := dk_172 (dk_at dksX3_isLong_2 14 rfl rfl)
abbrev cX3_of : ByteArray := prog_24_method_5_code
def yX3_of : MethodName := ⟨RX3, "of", "(II)I"⟩
def dkwX3_of_0 : List UInt8 := [42, 180, 0, 9, 17, 13, 143, 17, 2, 44, 27, 104, 96, 28, 96, 46, 172]
abbrev dktX3_of_0 : List UInt8 := dkwX3_of_0 ++ []
theorem dksX3_of_0 : cX3_of.data.toList.drop 0 = dktX3_of_0 := by decide +kernel
theorem dX3_of_0 : decode cX3_of 0 = .ok (.aload_n 0, 1) := dk_42 (dk_at dksX3_of_0 0 rfl rfl)
theorem dX3_of_1 : decode cX3_of 1 = .ok (.getfield 9, 3) := dk_180 0 9 (dk_at dksX3_of_0 1 rfl rfl)
theorem dX3_of_4 : decode cX3_of 4 = .ok (.sipush 3471, 3) := dk_17 13 143 (dk_at dksX3_of_0 4 rfl rfl)
theorem dX3_of_7 : decode cX3_of 7 = .ok (.sipush 556, 3) := dk_17 2 44 (dk_at dksX3_of_0 7 rfl rfl)
theorem dX3_of_10 : decode cX3_of 10 = .ok (.iload_n 1, 1) := dk_27 (dk_at dksX3_of_0 10 rfl rfl)
theorem dX3_of_11 : decode cX3_of 11 = .ok (.imul, 1) := dk_104 (dk_at dksX3_of_0 11 rfl rfl)
theorem dX3_of_12 : decode cX3_of 12 = .ok (.iadd, 1) := dk_96 (dk_at dksX3_of_0 12 rfl rfl)
theorem dX3_of_13 : decode cX3_of 13 = .ok (.iload_n 2, 1) := dk_28 (dk_at dksX3_of_0 13 rfl rfl)
theorem dX3_of_14 : decode cX3_of 14 = .ok (.iadd, 1) := dk_96 (dk_at dksX3_of_0 14 rfl rfl)
theorem dX3_of_15 : decode cX3_of 15 = .ok (.iaload, 1) := dk_46 (dk_at dksX3_of_0 15 rfl rfl)
theorem dX3_of_16 : decode cX3_of 16 = .ok (.ireturn, 1) := dk_172 (dk_at dksX3_of_0 16 rfl rfl)
abbrev cX3_partOf : ByteArray := prog_24_method_23_code
def yX3_partOf : MethodName := ⟨RX3, "partOf", "(II)I"⟩
def dkwX3_partOf_1 : List UInt8 := [16, 254, 167, 0, 11, 42, 27, 4, 28, 96, 182, 0, 59, 172]
abbrev dktX3_partOf_1 : List UInt8 := dkwX3_partOf_1 ++ []
def dkwX3_partOf_0 : List UInt8 := [28, 42, 27, 3, 182, 0, 59, 162, 0, 16, 42, 27, 4, 28, 96, 182, 0, 59, 16, 253, 160, 0, 8]
abbrev dktX3_partOf_0 : List UInt8 := dkwX3_partOf_0 ++ dktX3_partOf_1
theorem dksX3_partOf_0 : cX3_partOf.data.toList.drop 0 = dktX3_partOf_0 := by decide +kernel
theorem dksX3_partOf_1 : cX3_partOf.data.toList.drop 23 = dktX3_partOf_1 := dk_seg dksX3_partOf_0 23 rfl rfl
theorem dX3_partOf_0 : decode cX3_partOf 0 = .ok (.iload_n 2, 1) := dk_28 (dk_at dksX3_partOf_0 0 rfl rfl)
theorem dX3_partOf_1 : decode cX3_partOf 1 = .ok (.aload_n 0, 1) := dk_42 (dk_at dksX3_partOf_0 1 rfl rfl)
theorem dX3_partOf_2 : decode cX3_partOf 2 = .ok (.iload_n 1, 1) := dk_27 (dk_at dksX3_partOf_0 2 rfl rfl)
theorem dX3_partOf_3 : decode cX3_partOf 3 = .ok (.iconst 0, 1) := dk_3 (dk_at dksX3_partOf_0 3 rfl rfl)
theorem dX3_partOf_4 : decode cX3_partOf 4 = .ok (.invokevirtual 59, 3) := dk_182 0 59 (dk_at dksX3_partOf_0 4 rfl rfl)
theorem dX3_partOf_7 : decode cX3_partOf 7 = .ok (.if_icmp .ge 16, 3) := dk_162 0 16 (dk_at dksX3_partOf_0 7 rfl rfl)
theorem dX3_partOf_10 : decode cX3_partOf 10 = .ok (.aload_n 0, 1) := dk_42 (dk_at dksX3_partOf_0 10 rfl rfl)
theorem dX3_partOf_11 : decode cX3_partOf 11 = .ok (.iload_n 1, 1) := dk_27 (dk_at dksX3_partOf_0 11 rfl rfl)
theorem dX3_partOf_12 : decode cX3_partOf 12 = .ok (.iconst 1, 1) := dk_4 (dk_at dksX3_partOf_0 12 rfl rfl)
theorem dX3_partOf_13 : decode cX3_partOf 13 = .ok (.iload_n 2, 1) := dk_28 (dk_at dksX3_partOf_0 13 rfl rfl)
theorem dX3_partOf_14 : decode cX3_partOf 14 = .ok (.iadd, 1) := dk_96 (dk_at dksX3_partOf_0 14 rfl rfl)
theorem dX3_partOf_15 : decode cX3_partOf 15 = .ok (.invokevirtual 59, 3) := dk_182 0 59 (dk_at dksX3_partOf_0 15 rfl rfl)
theorem dX3_partOf_18 : decode cX3_partOf 18 = .ok (.bipush (-3), 2) := dk_16 253 (dk_at dksX3_partOf_0 18 rfl rfl)
theorem dX3_partOf_20 : decode cX3_partOf 20 = .ok (.if_icmp .ne 8, 3) := dk_160 0 8 (dk_at dksX3_partOf_0 20 rfl rfl)
theorem dX3_partOf_23 : decode cX3_partOf 23 = .ok (.bipush (-2), 2) := dk_16 254 (dk_at dksX3_partOf_1 0 rfl rfl)
theorem dX3_partOf_25 : decode cX3_partOf 25 = .ok (.goto 11, 3) := dk_167 0 11 (dk_at dksX3_partOf_1 2 rfl rfl)
theorem dX3_partOf_28 : decode cX3_partOf 28 = .ok (.aload_n 0, 1) := dk_42 (dk_at dksX3_partOf_1 5 rfl rfl)
theorem dX3_partOf_29 : decode cX3_partOf 29 = .ok (.iload_n 1, 1) := dk_27 (dk_at dksX3_partOf_1 6 rfl rfl)
theorem dX3_partOf_30 : decode cX3_partOf 30 = .ok (.iconst 1, 1) := dk_4 (dk_at dksX3_partOf_1 7 rfl rfl)
theorem dX3_partOf_31 : decode cX3_partOf 31 = .ok (.iload_n 2, 1) := dk_28 (dk_at dksX3_partOf_1 8 rfl rfl)
theorem dX3_partOf_32 : decode cX3_partOf 32 = .ok (.iadd, 1) := dk_96 (dk_at dksX3_partOf_1 9 rfl rfl)
theorem dX3_partOf_33 : decode cX3_partOf 33 = .ok (.invokevirtual 59, 3) := dk_182 0 59 (dk_at dksX3_partOf_1 10 rfl rfl)
theorem dX3_partOf_36 : decode cX3_partOf 36 = .ok (.ireturn, 1) := dk_172 (dk_at dksX3_partOf_1 13 rfl rfl)
abbrev cX3_covers : ByteArray := prog_24_method_26_code
def yX3_covers : MethodName := ⟨RX3, "covers", "(II)I"⟩
def dkwX3_covers_4 : List UInt8 := [132, 4, 1, 167, 255, 216, 132, 3, 1, 167, 255, 179, 4, 172]
abbrev dktX3_covers_4 : List UInt8 := dkwX3_covers_4 ++ []
def dkwX3_covers_3 : List UInt8 := [159, 0, 22, 42, 27, 21, 4, 182, 0, 116, 42, 28, 21, 4, 182, 0, 116, 159, 0, 5, 3, 172]
abbrev dktX3_covers_3 : List UInt8 := dkwX3_covers_3 ++ dktX3_covers_4
def dkwX3_covers_2 : List UInt8 := [154, 0, 5, 3, 172, 3, 54, 4, 21, 4, 29, 162, 0, 40, 42, 27, 21, 4, 182, 0, 116, 16, 254]
abbrev dktX3_covers_2 : List UInt8 := dkwX3_covers_2 ++ dktX3_covers_3
def dkwX3_covers_1 : List UInt8 := [62, 29, 7, 163, 0, 78, 42, 28, 29, 182, 0, 112, 154, 0, 6, 167, 0, 60, 42, 27, 29, 182, 0, 112]
abbrev dktX3_covers_1 : List UInt8 := dkwX3_covers_1 ++ dktX3_covers_2
def dkwX3_covers_0 : List UInt8 := [42, 27, 182, 0, 122, 153, 0, 11, 42, 28, 182, 0, 122, 154, 0, 10, 42, 16, 174, 182, 0, 75, 172, 4]
abbrev dktX3_covers_0 : List UInt8 := dkwX3_covers_0 ++ dktX3_covers_1
theorem dksX3_covers_0 : cX3_covers.data.toList.drop 0 = dktX3_covers_0 := by decide +kernel
theorem dksX3_covers_1 : cX3_covers.data.toList.drop 24 = dktX3_covers_1 := dk_seg dksX3_covers_0 24 rfl rfl
theorem dksX3_covers_2 : cX3_covers.data.toList.drop 48 = dktX3_covers_2 := dk_seg dksX3_covers_1 24 rfl rfl
theorem dksX3_covers_3 : cX3_covers.data.toList.drop 71 = dktX3_covers_3 := dk_seg dksX3_covers_2 23 rfl rfl
theorem dksX3_covers_4 : cX3_covers.data.toList.drop 93 = dktX3_covers_4 := dk_seg dksX3_covers_3 22 rfl rfl
theorem dX3_covers_0 : decode cX3_covers 0 = .ok (.aload_n 0, 1) := dk_42 (dk_at dksX3_covers_0 0 rfl rfl)
theorem dX3_covers_1 : decode cX3_covers 1 = .ok (.iload_n 1, 1) := dk_27 (dk_at dksX3_covers_0 1 rfl rfl)
theorem dX3_covers_2 : decode cX3_covers 2 = .ok (.invokevirtual 122, 3) := dk_182 0 122 (dk_at dksX3_covers_0 2 rfl rfl)
theorem dX3_covers_5 : decode cX3_covers 5 = .ok (.ifCond .eq 11, 3) := dk_153 0 11 (dk_at dksX3_covers_0 5 rfl rfl)
theorem dX3_covers_8 : decode cX3_covers 8 = .ok (.aload_n 0, 1) := dk_42 (dk_at dksX3_covers_0 8 rfl rfl)
theorem dX3_covers_9 : decode cX3_covers 9 = .ok (.iload_n 2, 1) := dk_28 (dk_at dksX3_covers_0 9 rfl rfl)
theorem dX3_covers_10 : decode cX3_covers 10 = .ok (.invokevirtual 122, 3) := dk_182 0 122 (dk_at dksX3_covers_0 10 rfl rfl)
theorem dX3_covers_13 : decode cX3_covers 13 = .ok (.ifCond .ne 10, 3) := dk_154 0 10 (dk_at dksX3_covers_0 13 rfl rfl)
theorem dX3_covers_16 : decode cX3_covers 16 = .ok (.aload_n 0, 1) := dk_42 (dk_at dksX3_covers_0 16 rfl rfl)
theorem dX3_covers_17 : decode cX3_covers 17 = .ok (.bipush (-82), 2) := dk_16 174 (dk_at dksX3_covers_0 17 rfl rfl)
theorem dX3_covers_19 : decode cX3_covers 19 = .ok (.invokevirtual 75, 3) := dk_182 0 75 (dk_at dksX3_covers_0 19 rfl rfl)
theorem dX3_covers_22 : decode cX3_covers 22 = .ok (.ireturn, 1) := dk_172 (dk_at dksX3_covers_0 22 rfl rfl)
theorem dX3_covers_23 : decode cX3_covers 23 = .ok (.iconst 1, 1) := dk_4 (dk_at dksX3_covers_0 23 rfl rfl)
theorem dX3_covers_24 : decode cX3_covers 24 = .ok (.istore_n 3, 1) := dk_62 (dk_at dksX3_covers_1 0 rfl rfl)
theorem dX3_covers_25 : decode cX3_covers 25 = .ok (.iload_n 3, 1) := dk_29 (dk_at dksX3_covers_1 1 rfl rfl)
theorem dX3_covers_26 : decode cX3_covers 26 = .ok (.iconst 4, 1) := dk_7 (dk_at dksX3_covers_1 2 rfl rfl)
theorem dX3_covers_27 : decode cX3_covers 27 = .ok (.if_icmp .gt 78, 3) := dk_163 0 78 (dk_at dksX3_covers_1 3 rfl rfl)
theorem dX3_covers_30 : decode cX3_covers 30 = .ok (.aload_n 0, 1) := dk_42 (dk_at dksX3_covers_1 6 rfl rfl)
theorem dX3_covers_31 : decode cX3_covers 31 = .ok (.iload_n 2, 1) := dk_28 (dk_at dksX3_covers_1 7 rfl rfl)
theorem dX3_covers_32 : decode cX3_covers 32 = .ok (.iload_n 3, 1) := dk_29 (dk_at dksX3_covers_1 8 rfl rfl)
theorem dX3_covers_33 : decode cX3_covers 33 = .ok (.invokevirtual 112, 3) := dk_182 0 112 (dk_at dksX3_covers_1 9 rfl rfl)
theorem dX3_covers_36 : decode cX3_covers 36 = .ok (.ifCond .ne 6, 3) := dk_154 0 6 (dk_at dksX3_covers_1 12 rfl rfl)
theorem dX3_covers_39 : decode cX3_covers 39 = .ok (.goto 60, 3) := dk_167 0 60 (dk_at dksX3_covers_1 15 rfl rfl)
theorem dX3_covers_42 : decode cX3_covers 42 = .ok (.aload_n 0, 1) := dk_42 (dk_at dksX3_covers_1 18 rfl rfl)
theorem dX3_covers_43 : decode cX3_covers 43 = .ok (.iload_n 1, 1) := dk_27 (dk_at dksX3_covers_1 19 rfl rfl)
theorem dX3_covers_44 : decode cX3_covers 44 = .ok (.iload_n 3, 1) := dk_29 (dk_at dksX3_covers_1 20 rfl rfl)
theorem dX3_covers_45 : decode cX3_covers 45 = .ok (.invokevirtual 112, 3) := dk_182 0 112 (dk_at dksX3_covers_1 21 rfl rfl)
theorem dX3_covers_48 : decode cX3_covers 48 = .ok (.ifCond .ne 5, 3) := dk_154 0 5 (dk_at dksX3_covers_2 0 rfl rfl)
theorem dX3_covers_51 : decode cX3_covers 51 = .ok (.iconst 0, 1) := dk_3 (dk_at dksX3_covers_2 3 rfl rfl)
theorem dX3_covers_52 : decode cX3_covers 52 = .ok (.ireturn, 1) := dk_172 (dk_at dksX3_covers_2 4 rfl rfl)
theorem dX3_covers_53 : decode cX3_covers 53 = .ok (.iconst 0, 1) := dk_3 (dk_at dksX3_covers_2 5 rfl rfl)
theorem dX3_covers_54 : decode cX3_covers 54 = .ok (.istore 4, 2) := dk_54 4 (dk_at dksX3_covers_2 6 rfl rfl)
theorem dX3_covers_56 : decode cX3_covers 56 = .ok (.iload 4, 2) := dk_21 4 (dk_at dksX3_covers_2 8 rfl rfl)
theorem dX3_covers_58 : decode cX3_covers 58 = .ok (.iload_n 3, 1) := dk_29 (dk_at dksX3_covers_2 10 rfl rfl)
theorem dX3_covers_59 : decode cX3_covers 59 = .ok (.if_icmp .ge 40, 3) := dk_162 0 40 (dk_at dksX3_covers_2 11 rfl rfl)
theorem dX3_covers_62 : decode cX3_covers 62 = .ok (.aload_n 0, 1) := dk_42 (dk_at dksX3_covers_2 14 rfl rfl)
theorem dX3_covers_63 : decode cX3_covers 63 = .ok (.iload_n 1, 1) := dk_27 (dk_at dksX3_covers_2 15 rfl rfl)
theorem dX3_covers_64 : decode cX3_covers 64 = .ok (.iload 4, 2) := dk_21 4 (dk_at dksX3_covers_2 16 rfl rfl)
theorem dX3_covers_66 : decode cX3_covers 66 = .ok (.invokevirtual 116, 3) := dk_182 0 116 (dk_at dksX3_covers_2 18 rfl rfl)
theorem dX3_covers_69 : decode cX3_covers 69 = .ok (.bipush (-2), 2) := dk_16 254 (dk_at dksX3_covers_2 21 rfl rfl)
theorem dX3_covers_71 : decode cX3_covers 71 = .ok (.if_icmp .eq 22, 3) := dk_159 0 22 (dk_at dksX3_covers_3 0 rfl rfl)
theorem dX3_covers_74 : decode cX3_covers 74 = .ok (.aload_n 0, 1) := dk_42 (dk_at dksX3_covers_3 3 rfl rfl)
theorem dX3_covers_75 : decode cX3_covers 75 = .ok (.iload_n 1, 1) := dk_27 (dk_at dksX3_covers_3 4 rfl rfl)
theorem dX3_covers_76 : decode cX3_covers 76 = .ok (.iload 4, 2) := dk_21 4 (dk_at dksX3_covers_3 5 rfl rfl)
theorem dX3_covers_78 : decode cX3_covers 78 = .ok (.invokevirtual 116, 3) := dk_182 0 116 (dk_at dksX3_covers_3 7 rfl rfl)
theorem dX3_covers_81 : decode cX3_covers 81 = .ok (.aload_n 0, 1) := dk_42 (dk_at dksX3_covers_3 10 rfl rfl)
theorem dX3_covers_82 : decode cX3_covers 82 = .ok (.iload_n 2, 1) := dk_28 (dk_at dksX3_covers_3 11 rfl rfl)
theorem dX3_covers_83 : decode cX3_covers 83 = .ok (.iload 4, 2) := dk_21 4 (dk_at dksX3_covers_3 12 rfl rfl)
theorem dX3_covers_85 : decode cX3_covers 85 = .ok (.invokevirtual 116, 3) := dk_182 0 116 (dk_at dksX3_covers_3 14 rfl rfl)
theorem dX3_covers_88 : decode cX3_covers 88 = .ok (.if_icmp .eq 5, 3) := dk_159 0 5 (dk_at dksX3_covers_3 17 rfl rfl)
theorem dX3_covers_91 : decode cX3_covers 91 = .ok (.iconst 0, 1) := dk_3 (dk_at dksX3_covers_3 20 rfl rfl)
theorem dX3_covers_92 : decode cX3_covers 92 = .ok (.ireturn, 1) := dk_172 (dk_at dksX3_covers_3 21 rfl rfl)
theorem dX3_covers_93 : decode cX3_covers 93 = .ok (.iinc 4 1, 3) := dk_132 4 1 (dk_at dksX3_covers_4 0 rfl rfl)
theorem dX3_covers_96 : decode cX3_covers 96 = .ok (.goto (-40), 3) := dk_167 255 216 (dk_at dksX3_covers_4 3 rfl rfl)
theorem dX3_covers_99 : decode cX3_covers 99 = .ok (.iinc 3 1, 3) := dk_132 3 1 (dk_at dksX3_covers_4 6 rfl rfl)
theorem dX3_covers_102 : decode cX3_covers 102 = .ok (.goto (-77), 3) := dk_167 255 179 (dk_at dksX3_covers_4 9 rfl rfl)
theorem dX3_covers_105 : decode cX3_covers 105 = .ok (.iconst 1, 1) := dk_4 (dk_at dksX3_covers_4 12 rfl rfl)
theorem dX3_covers_106 : decode cX3_covers 106 = .ok (.ireturn, 1) := dk_172 (dk_at dksX3_covers_4 13 rfl rfl)
abbrev cX3_isQueue : ByteArray := prog_24_method_7_code
def yX3_isQueue : MethodName := ⟨RX3, "isQueue", "(I)Z"⟩
def dkwX3_isQueue_0 : List UInt8 := [27, 133, 9, 42, 180, 0, 9, 3, 46, 4, 100, 133, 184, 0, 47, 172]
abbrev dktX3_isQueue_0 : List UInt8 := dkwX3_isQueue_0 ++ []
theorem dksX3_isQueue_0 : cX3_isQueue.data.toList.drop 0 = dktX3_isQueue_0 := by decide +kernel
theorem dX3_isQueue_0 : decode cX3_isQueue 0 = .ok (.iload_n 1, 1) := dk_27 (dk_at dksX3_isQueue_0 0 rfl rfl)
theorem dX3_isQueue_1 : decode cX3_isQueue 1 = .ok (.i2l, 1) := dk_133 (dk_at dksX3_isQueue_0 1 rfl rfl)
theorem dX3_isQueue_2 : decode cX3_isQueue 2 = .ok (.lconst 0, 1) := dk_9 (dk_at dksX3_isQueue_0 2 rfl rfl)
theorem dX3_isQueue_3 : decode cX3_isQueue 3 = .ok (.aload_n 0, 1) := dk_42 (dk_at dksX3_isQueue_0 3 rfl rfl)
theorem dX3_isQueue_4 : decode cX3_isQueue 4 = .ok (.getfield 9, 3) := dk_180 0 9 (dk_at dksX3_isQueue_0 4 rfl rfl)
theorem dX3_isQueue_7 : decode cX3_isQueue 7 = .ok (.iconst 0, 1) := dk_3 (dk_at dksX3_isQueue_0 7 rfl rfl)
theorem dX3_isQueue_8 : decode cX3_isQueue 8 = .ok (.iaload, 1) := dk_46 (dk_at dksX3_isQueue_0 8 rfl rfl)
theorem dX3_isQueue_9 : decode cX3_isQueue 9 = .ok (.iconst 1, 1) := dk_4 (dk_at dksX3_isQueue_0 9 rfl rfl)
theorem dX3_isQueue_10 : decode cX3_isQueue 10 = .ok (.isub, 1) := dk_100 (dk_at dksX3_isQueue_0 10 rfl rfl)
theorem dX3_isQueue_11 : decode cX3_isQueue 11 = .ok (.i2l, 1) := dk_133 (dk_at dksX3_isQueue_0 11 rfl rfl)
theorem dX3_isQueue_12 : decode cX3_isQueue 12 = .ok (.invokestatic 47, 3) := dk_184 0 47 (dk_at dksX3_isQueue_0 12 rfl rfl)
theorem dX3_isQueue_15 : decode cX3_isQueue 15 = .ok (.ireturn, 1) := dk_172 (dk_at dksX3_isQueue_0 15 rfl rfl)
abbrev cX3_pattern : ByteArray := prog_24_method_27_code
def yX3_pattern : MethodName := ⟨RX3, "pattern", "(II)I"⟩
def dkwX3_pattern_1 : List UInt8 := [4, 100, 133, 184, 0, 47, 153, 0, 15, 42, 27, 16, 6, 28, 96, 182, 0, 59, 167, 0, 4, 2, 172]
abbrev dktX3_pattern_1 : List UInt8 := dkwX3_pattern_1 ++ []
def dkwX3_pattern_0 : List UInt8 := [42, 27, 182, 0, 122, 154, 0, 10, 42, 16, 174, 182, 0, 75, 172, 28, 133, 9, 42, 27, 8, 182, 0, 59]
abbrev dktX3_pattern_0 : List UInt8 := dkwX3_pattern_0 ++ dktX3_pattern_1
theorem dksX3_pattern_0 : cX3_pattern.data.toList.drop 0 = dktX3_pattern_0 := by decide +kernel
theorem dksX3_pattern_1 : cX3_pattern.data.toList.drop 24 = dktX3_pattern_1 := dk_seg dksX3_pattern_0 24 rfl rfl
theorem dX3_pattern_0 : decode cX3_pattern 0 = .ok (.aload_n 0, 1) := dk_42 (dk_at dksX3_pattern_0 0 rfl rfl)
theorem dX3_pattern_1 : decode cX3_pattern 1 = .ok (.iload_n 1, 1) := dk_27 (dk_at dksX3_pattern_0 1 rfl rfl)
theorem dX3_pattern_2 : decode cX3_pattern 2 = .ok (.invokevirtual 122, 3) := dk_182 0 122 (dk_at dksX3_pattern_0 2 rfl rfl)
theorem dX3_pattern_5 : decode cX3_pattern 5 = .ok (.ifCond .ne 10, 3) := dk_154 0 10 (dk_at dksX3_pattern_0 5 rfl rfl)
theorem dX3_pattern_8 : decode cX3_pattern 8 = .ok (.aload_n 0, 1) := dk_42 (dk_at dksX3_pattern_0 8 rfl rfl)
theorem dX3_pattern_9 : decode cX3_pattern 9 = .ok (.bipush (-82), 2) := dk_16 174 (dk_at dksX3_pattern_0 9 rfl rfl)
theorem dX3_pattern_11 : decode cX3_pattern 11 = .ok (.invokevirtual 75, 3) := dk_182 0 75 (dk_at dksX3_pattern_0 11 rfl rfl)
theorem dX3_pattern_14 : decode cX3_pattern 14 = .ok (.ireturn, 1) := dk_172 (dk_at dksX3_pattern_0 14 rfl rfl)
theorem dX3_pattern_15 : decode cX3_pattern 15 = .ok (.iload_n 2, 1) := dk_28 (dk_at dksX3_pattern_0 15 rfl rfl)
theorem dX3_pattern_16 : decode cX3_pattern 16 = .ok (.i2l, 1) := dk_133 (dk_at dksX3_pattern_0 16 rfl rfl)
theorem dX3_pattern_17 : decode cX3_pattern 17 = .ok (.lconst 0, 1) := dk_9 (dk_at dksX3_pattern_0 17 rfl rfl)
theorem dX3_pattern_18 : decode cX3_pattern 18 = .ok (.aload_n 0, 1) := dk_42 (dk_at dksX3_pattern_0 18 rfl rfl)
theorem dX3_pattern_19 : decode cX3_pattern 19 = .ok (.iload_n 1, 1) := dk_27 (dk_at dksX3_pattern_0 19 rfl rfl)
theorem dX3_pattern_20 : decode cX3_pattern 20 = .ok (.iconst 5, 1) := dk_8 (dk_at dksX3_pattern_0 20 rfl rfl)
theorem dX3_pattern_21 : decode cX3_pattern 21 = .ok (.invokevirtual 59, 3) := dk_182 0 59 (dk_at dksX3_pattern_0 21 rfl rfl)
theorem dX3_pattern_24 : decode cX3_pattern 24 = .ok (.iconst 1, 1) := dk_4 (dk_at dksX3_pattern_1 0 rfl rfl)
theorem dX3_pattern_25 : decode cX3_pattern 25 = .ok (.isub, 1) := dk_100 (dk_at dksX3_pattern_1 1 rfl rfl)
theorem dX3_pattern_26 : decode cX3_pattern 26 = .ok (.i2l, 1) := dk_133 (dk_at dksX3_pattern_1 2 rfl rfl)
theorem dX3_pattern_27 : decode cX3_pattern 27 = .ok (.invokestatic 47, 3) := dk_184 0 47 (dk_at dksX3_pattern_1 3 rfl rfl)
theorem dX3_pattern_30 : decode cX3_pattern 30 = .ok (.ifCond .eq 15, 3) := dk_153 0 15 (dk_at dksX3_pattern_1 6 rfl rfl)
theorem dX3_pattern_33 : decode cX3_pattern 33 = .ok (.aload_n 0, 1) := dk_42 (dk_at dksX3_pattern_1 9 rfl rfl)
theorem dX3_pattern_34 : decode cX3_pattern 34 = .ok (.iload_n 1, 1) := dk_27 (dk_at dksX3_pattern_1 10 rfl rfl)
theorem dX3_pattern_35 : decode cX3_pattern 35 = .ok (.bipush 6, 2) := dk_16 6 (dk_at dksX3_pattern_1 11 rfl rfl)
theorem dX3_pattern_37 : decode cX3_pattern 37 = .ok (.iload_n 2, 1) := dk_28 (dk_at dksX3_pattern_1 13 rfl rfl)
theorem dX3_pattern_38 : decode cX3_pattern 38 = .ok (.iadd, 1) := dk_96 (dk_at dksX3_pattern_1 14 rfl rfl)
theorem dX3_pattern_39 : decode cX3_pattern 39 = .ok (.invokevirtual 59, 3) := dk_182 0 59 (dk_at dksX3_pattern_1 15 rfl rfl)
theorem dX3_pattern_42 : decode cX3_pattern 42 = .ok (.goto 4, 3) := dk_167 0 4 (dk_at dksX3_pattern_1 18 rfl rfl)
theorem dX3_pattern_45 : decode cX3_pattern 45 = .ok (.iconst (-1), 1) := dk_2 (dk_at dksX3_pattern_1 21 rfl rfl)
theorem dX3_pattern_46 : decode cX3_pattern 46 = .ok (.ireturn, 1) := dk_172 (dk_at dksX3_pattern_1 22 rfl rfl)
abbrev cX3_publish : ByteArray := prog_24_method_35_code
def yX3_publish : MethodName := ⟨RX3, "publish", "(III)I"⟩
def dkwX3_publish_3 : List UInt8 := [29, 182, 0, 151, 172]
abbrev dktX3_publish_3 : List UInt8 := dkwX3_publish_3 ++ []
def dkwX3_publish_2 : List UInt8 := [42, 180, 0, 9, 5, 46, 17, 1, 44, 160, 0, 12, 42, 16, 170, 182, 0, 75, 167, 0, 10, 42, 27, 28]
abbrev dktX3_publish_2 : List UInt8 := dkwX3_publish_2 ++ dktX3_publish_3
def dkwX3_publish_1 : List UInt8 := [42, 16, 174, 182, 0, 75, 172, 42, 180, 0, 9, 16, 6, 46, 154, 0, 10, 42, 16, 171, 182, 0, 75, 172]
abbrev dktX3_publish_1 : List UInt8 := dkwX3_publish_1 ++ dktX3_publish_2
def dkwX3_publish_0 : List UInt8 := [27, 133, 9, 20, 0, 147, 184, 0, 47, 153, 0, 15, 28, 133, 9, 20, 0, 149, 184, 0, 47, 154, 0, 10]
abbrev dktX3_publish_0 : List UInt8 := dkwX3_publish_0 ++ dktX3_publish_1
theorem dksX3_publish_0 : cX3_publish.data.toList.drop 0 = dktX3_publish_0 := by decide +kernel
theorem dksX3_publish_1 : cX3_publish.data.toList.drop 24 = dktX3_publish_1 := dk_seg dksX3_publish_0 24 rfl rfl
theorem dksX3_publish_2 : cX3_publish.data.toList.drop 48 = dktX3_publish_2 := dk_seg dksX3_publish_1 24 rfl rfl
theorem dksX3_publish_3 : cX3_publish.data.toList.drop 72 = dktX3_publish_3 := dk_seg dksX3_publish_2 24 rfl rfl
theorem dX3_publish_0 : decode cX3_publish 0 = .ok (.iload_n 1, 1) := dk_27 (dk_at dksX3_publish_0 0 rfl rfl)
theorem dX3_publish_1 : decode cX3_publish 1 = .ok (.i2l, 1) := dk_133 (dk_at dksX3_publish_0 1 rfl rfl)
theorem dX3_publish_2 : decode cX3_publish 2 = .ok (.lconst 0, 1) := dk_9 (dk_at dksX3_publish_0 2 rfl rfl)
theorem dX3_publish_3 : decode cX3_publish 3 = .ok (.ldc2_w 147, 3) := dk_20 0 147 (dk_at dksX3_publish_0 3 rfl rfl)
theorem dX3_publish_6 : decode cX3_publish 6 = .ok (.invokestatic 47, 3) := dk_184 0 47 (dk_at dksX3_publish_0 6 rfl rfl)
theorem dX3_publish_9 : decode cX3_publish 9 = .ok (.ifCond .eq 15, 3) := dk_153 0 15 (dk_at dksX3_publish_0 9 rfl rfl)
theorem dX3_publish_12 : decode cX3_publish 12 = .ok (.iload_n 2, 1) := dk_28 (dk_at dksX3_publish_0 12 rfl rfl)
theorem dX3_publish_13 : decode cX3_publish 13 = .ok (.i2l, 1) := dk_133 (dk_at dksX3_publish_0 13 rfl rfl)
theorem dX3_publish_14 : decode cX3_publish 14 = .ok (.lconst 0, 1) := dk_9 (dk_at dksX3_publish_0 14 rfl rfl)
theorem dX3_publish_15 : decode cX3_publish 15 = .ok (.ldc2_w 149, 3) := dk_20 0 149 (dk_at dksX3_publish_0 15 rfl rfl)
theorem dX3_publish_18 : decode cX3_publish 18 = .ok (.invokestatic 47, 3) := dk_184 0 47 (dk_at dksX3_publish_0 18 rfl rfl)
theorem dX3_publish_21 : decode cX3_publish 21 = .ok (.ifCond .ne 10, 3) := dk_154 0 10 (dk_at dksX3_publish_0 21 rfl rfl)
theorem dX3_publish_24 : decode cX3_publish 24 = .ok (.aload_n 0, 1) := dk_42 (dk_at dksX3_publish_1 0 rfl rfl)
theorem dX3_publish_25 : decode cX3_publish 25 = .ok (.bipush (-82), 2) := dk_16 174 (dk_at dksX3_publish_1 1 rfl rfl)
theorem dX3_publish_27 : decode cX3_publish 27 = .ok (.invokevirtual 75, 3) := dk_182 0 75 (dk_at dksX3_publish_1 3 rfl rfl)
theorem dX3_publish_30 : decode cX3_publish 30 = .ok (.ireturn, 1) := dk_172 (dk_at dksX3_publish_1 6 rfl rfl)
theorem dX3_publish_31 : decode cX3_publish 31 = .ok (.aload_n 0, 1) := dk_42 (dk_at dksX3_publish_1 7 rfl rfl)
theorem dX3_publish_32 : decode cX3_publish 32 = .ok (.getfield 9, 3) := dk_180 0 9 (dk_at dksX3_publish_1 8 rfl rfl)
theorem dX3_publish_35 : decode cX3_publish 35 = .ok (.bipush 6, 2) := dk_16 6 (dk_at dksX3_publish_1 11 rfl rfl)
theorem dX3_publish_37 : decode cX3_publish 37 = .ok (.iaload, 1) := dk_46 (dk_at dksX3_publish_1 13 rfl rfl)
theorem dX3_publish_38 : decode cX3_publish 38 = .ok (.ifCond .ne 10, 3) := dk_154 0 10 (dk_at dksX3_publish_1 14 rfl rfl)
theorem dX3_publish_41 : decode cX3_publish 41 = .ok (.aload_n 0, 1) := dk_42 (dk_at dksX3_publish_1 17 rfl rfl)
theorem dX3_publish_42 : decode cX3_publish 42 = .ok (.bipush (-85), 2) := dk_16 171 (dk_at dksX3_publish_1 18 rfl rfl)
theorem dX3_publish_44 : decode cX3_publish 44 = .ok (.invokevirtual 75, 3) := dk_182 0 75 (dk_at dksX3_publish_1 20 rfl rfl)
theorem dX3_publish_47 : decode cX3_publish 47 = .ok (.ireturn, 1) := dk_172 (dk_at dksX3_publish_1 23 rfl rfl)
theorem dX3_publish_48 : decode cX3_publish 48 = .ok (.aload_n 0, 1) := dk_42 (dk_at dksX3_publish_2 0 rfl rfl)
theorem dX3_publish_49 : decode cX3_publish 49 = .ok (.getfield 9, 3) := dk_180 0 9 (dk_at dksX3_publish_2 1 rfl rfl)
theorem dX3_publish_52 : decode cX3_publish 52 = .ok (.iconst 2, 1) := dk_5 (dk_at dksX3_publish_2 4 rfl rfl)
theorem dX3_publish_53 : decode cX3_publish 53 = .ok (.iaload, 1) := dk_46 (dk_at dksX3_publish_2 5 rfl rfl)
theorem dX3_publish_54 : decode cX3_publish 54 = .ok (.sipush 300, 3) := dk_17 1 44 (dk_at dksX3_publish_2 6 rfl rfl)
theorem dX3_publish_57 : decode cX3_publish 57 = .ok (.if_icmp .ne 12, 3) := dk_160 0 12 (dk_at dksX3_publish_2 9 rfl rfl)
theorem dX3_publish_60 : decode cX3_publish 60 = .ok (.aload_n 0, 1) := dk_42 (dk_at dksX3_publish_2 12 rfl rfl)
theorem dX3_publish_61 : decode cX3_publish 61 = .ok (.bipush (-86), 2) := dk_16 170 (dk_at dksX3_publish_2 13 rfl rfl)
theorem dX3_publish_63 : decode cX3_publish 63 = .ok (.invokevirtual 75, 3) := dk_182 0 75 (dk_at dksX3_publish_2 15 rfl rfl)
theorem dX3_publish_66 : decode cX3_publish 66 = .ok (.goto 10, 3) := dk_167 0 10 (dk_at dksX3_publish_2 18 rfl rfl)
theorem dX3_publish_69 : decode cX3_publish 69 = .ok (.aload_n 0, 1) := dk_42 (dk_at dksX3_publish_2 21 rfl rfl)
theorem dX3_publish_70 : decode cX3_publish 70 = .ok (.iload_n 1, 1) := dk_27 (dk_at dksX3_publish_2 22 rfl rfl)
theorem dX3_publish_71 : decode cX3_publish 71 = .ok (.iload_n 2, 1) := dk_28 (dk_at dksX3_publish_2 23 rfl rfl)
theorem dX3_publish_72 : decode cX3_publish 72 = .ok (.iload_n 3, 1) := dk_29 (dk_at dksX3_publish_3 0 rfl rfl)
theorem dX3_publish_73 : decode cX3_publish 73 = .ok (.invokevirtual 151, 3) := dk_182 0 151 (dk_at dksX3_publish_3 1 rfl rfl)
theorem dX3_publish_76 : decode cX3_publish 76 = .ok (.ireturn, 1) := dk_172 (dk_at dksX3_publish_3 4 rfl rfl)
abbrev cX3_publishes : ByteArray := prog_24_method_36_code
def yX3_publishes : MethodName := ⟨RX3, "publishes", "(III)I"⟩
def dkwX3_publishes_9 : List UInt8 := [167, 255, 161, 21, 6, 172]
abbrev dktX3_publishes_9 : List UInt8 := dkwX3_publishes_9 ++ []
def dkwX3_publishes_8 : List UInt8 := [180, 0, 9, 21, 8, 6, 96, 4, 79, 167, 0, 11, 42, 21, 7, 21, 4, 182, 0, 154, 132, 7, 1]
abbrev dktX3_publishes_8 : List UInt8 := dkwX3_publishes_8 ++ dktX3_publishes_9
def dkwX3_publishes_7 : List UInt8 := [54, 8, 42, 21, 8, 7, 96, 3, 16, 6, 42, 21, 7, 16, 26, 182, 0, 59, 182, 0, 132, 42]
abbrev dktX3_publishes_7 : List UInt8 := dkwX3_publishes_7 ++ dktX3_publishes_8
def dkwX3_publishes_6 : List UInt8 := [16, 35, 182, 0, 59, 42, 21, 7, 16, 26, 182, 0, 59, 160, 0, 45, 42, 21, 7, 21, 4, 182, 0, 129]
abbrev dktX3_publishes_6 : List UInt8 := dkwX3_publishes_6 ++ dktX3_publishes_7
def dkwX3_publishes_5 : List UInt8 := [42, 180, 0, 9, 3, 46, 162, 0, 90, 42, 21, 7, 182, 0, 119, 153, 0, 75, 132, 6, 1, 42, 21, 7]
abbrev dktX3_publishes_5 : List UInt8 := dkwX3_publishes_5 ++ dktX3_publishes_6
def dkwX3_publishes_4 : List UInt8 := [180, 0, 9, 7, 46, 79, 42, 180, 0, 9, 5, 21, 4, 4, 96, 79, 3, 54, 6, 3, 54, 7, 21, 7]
abbrev dktX3_publishes_4 : List UInt8 := dkwX3_publishes_4 ++ dktX3_publishes_5
def dkwX3_publishes_3 : List UInt8 := [96, 28, 79, 42, 180, 0, 9, 21, 5, 16, 7, 96, 29, 79, 42, 180, 0, 9, 21, 5, 16, 8, 96, 42]
abbrev dktX3_publishes_3 : List UInt8 := dkwX3_publishes_3 ++ dktX3_publishes_4
def dkwX3_publishes_2 : List UInt8 := [132, 6, 1, 167, 255, 227, 42, 180, 0, 9, 21, 5, 8, 96, 27, 79, 42, 180, 0, 9, 21, 5, 16, 6]
abbrev dktX3_publishes_2 : List UInt8 := dkwX3_publishes_2 ++ dktX3_publishes_3
def dkwX3_publishes_1 : List UInt8 := [162, 0, 29, 42, 180, 0, 9, 21, 5, 21, 6, 96, 42, 180, 0, 9, 16, 6, 21, 6, 96, 46, 79]
abbrev dktX3_publishes_1 : List UInt8 := dkwX3_publishes_1 ++ dktX3_publishes_2
def dkwX3_publishes_0 : List UInt8 := [42, 180, 0, 9, 5, 46, 54, 4, 16, 51, 16, 9, 21, 4, 104, 96, 54, 5, 3, 54, 6, 21, 6, 8]
abbrev dktX3_publishes_0 : List UInt8 := dkwX3_publishes_0 ++ dktX3_publishes_1
theorem dksX3_publishes_0 : cX3_publishes.data.toList.drop 0 = dktX3_publishes_0 := by decide +kernel
theorem dksX3_publishes_1 : cX3_publishes.data.toList.drop 24 = dktX3_publishes_1 := dk_seg dksX3_publishes_0 24 rfl rfl
theorem dksX3_publishes_2 : cX3_publishes.data.toList.drop 47 = dktX3_publishes_2 := dk_seg dksX3_publishes_1 23 rfl rfl
theorem dksX3_publishes_3 : cX3_publishes.data.toList.drop 71 = dktX3_publishes_3 := dk_seg dksX3_publishes_2 24 rfl rfl
theorem dksX3_publishes_4 : cX3_publishes.data.toList.drop 95 = dktX3_publishes_4 := dk_seg dksX3_publishes_3 24 rfl rfl
theorem dksX3_publishes_5 : cX3_publishes.data.toList.drop 119 = dktX3_publishes_5 := dk_seg dksX3_publishes_4 24 rfl rfl
theorem dksX3_publishes_6 : cX3_publishes.data.toList.drop 143 = dktX3_publishes_6 := dk_seg dksX3_publishes_5 24 rfl rfl
theorem dksX3_publishes_7 : cX3_publishes.data.toList.drop 167 = dktX3_publishes_7 := dk_seg dksX3_publishes_6 24 rfl rfl
theorem dksX3_publishes_8 : cX3_publishes.data.toList.drop 189 = dktX3_publishes_8 := dk_seg dksX3_publishes_7 22 rfl rfl
theorem dksX3_publishes_9 : cX3_publishes.data.toList.drop 212 = dktX3_publishes_9 := dk_seg dksX3_publishes_8 23 rfl rfl
theorem dX3_publishes_0 : decode cX3_publishes 0 = .ok (.aload_n 0, 1) := dk_42 (dk_at dksX3_publishes_0 0 rfl rfl)
theorem dX3_publishes_1 : decode cX3_publishes 1 = .ok (.getfield 9, 3) := dk_180 0 9 (dk_at dksX3_publishes_0 1 rfl rfl)
theorem dX3_publishes_4 : decode cX3_publishes 4 = .ok (.iconst 2, 1) := dk_5 (dk_at dksX3_publishes_0 4 rfl rfl)
theorem dX3_publishes_5 : decode cX3_publishes 5 = .ok (.iaload, 1) := dk_46 (dk_at dksX3_publishes_0 5 rfl rfl)
theorem dX3_publishes_6 : decode cX3_publishes 6 = .ok (.istore 4, 2) := dk_54 4 (dk_at dksX3_publishes_0 6 rfl rfl)
theorem dX3_publishes_8 : decode cX3_publishes 8 = .ok (.bipush 51, 2) := dk_16 51 (dk_at dksX3_publishes_0 8 rfl rfl)
theorem dX3_publishes_10 : decode cX3_publishes 10 = .ok (.bipush 9, 2) := dk_16 9 (dk_at dksX3_publishes_0 10 rfl rfl)
theorem dX3_publishes_12 : decode cX3_publishes 12 = .ok (.iload 4, 2) := dk_21 4 (dk_at dksX3_publishes_0 12 rfl rfl)
theorem dX3_publishes_14 : decode cX3_publishes 14 = .ok (.imul, 1) := dk_104 (dk_at dksX3_publishes_0 14 rfl rfl)
theorem dX3_publishes_15 : decode cX3_publishes 15 = .ok (.iadd, 1) := dk_96 (dk_at dksX3_publishes_0 15 rfl rfl)
theorem dX3_publishes_16 : decode cX3_publishes 16 = .ok (.istore 5, 2) := dk_54 5 (dk_at dksX3_publishes_0 16 rfl rfl)
theorem dX3_publishes_18 : decode cX3_publishes 18 = .ok (.iconst 0, 1) := dk_3 (dk_at dksX3_publishes_0 18 rfl rfl)
theorem dX3_publishes_19 : decode cX3_publishes 19 = .ok (.istore 6, 2) := dk_54 6 (dk_at dksX3_publishes_0 19 rfl rfl)
theorem dX3_publishes_21 : decode cX3_publishes 21 = .ok (.iload 6, 2) := dk_21 6 (dk_at dksX3_publishes_0 21 rfl rfl)
theorem dX3_publishes_23 : decode cX3_publishes 23 = .ok (.iconst 5, 1) := dk_8 (dk_at dksX3_publishes_0 23 rfl rfl)
theorem dX3_publishes_24 : decode cX3_publishes 24 = .ok (.if_icmp .ge 29, 3) := dk_162 0 29 (dk_at dksX3_publishes_1 0 rfl rfl)
theorem dX3_publishes_27 : decode cX3_publishes 27 = .ok (.aload_n 0, 1) := dk_42 (dk_at dksX3_publishes_1 3 rfl rfl)
theorem dX3_publishes_28 : decode cX3_publishes 28 = .ok (.getfield 9, 3) := dk_180 0 9 (dk_at dksX3_publishes_1 4 rfl rfl)
theorem dX3_publishes_31 : decode cX3_publishes 31 = .ok (.iload 5, 2) := dk_21 5 (dk_at dksX3_publishes_1 7 rfl rfl)
theorem dX3_publishes_33 : decode cX3_publishes 33 = .ok (.iload 6, 2) := dk_21 6 (dk_at dksX3_publishes_1 9 rfl rfl)
theorem dX3_publishes_35 : decode cX3_publishes 35 = .ok (.iadd, 1) := dk_96 (dk_at dksX3_publishes_1 11 rfl rfl)
theorem dX3_publishes_36 : decode cX3_publishes 36 = .ok (.aload_n 0, 1) := dk_42 (dk_at dksX3_publishes_1 12 rfl rfl)
theorem dX3_publishes_37 : decode cX3_publishes 37 = .ok (.getfield 9, 3) := dk_180 0 9 (dk_at dksX3_publishes_1 13 rfl rfl)
theorem dX3_publishes_40 : decode cX3_publishes 40 = .ok (.bipush 6, 2) := dk_16 6 (dk_at dksX3_publishes_1 16 rfl rfl)
theorem dX3_publishes_42 : decode cX3_publishes 42 = .ok (.iload 6, 2) := dk_21 6 (dk_at dksX3_publishes_1 18 rfl rfl)
theorem dX3_publishes_44 : decode cX3_publishes 44 = .ok (.iadd, 1) := dk_96 (dk_at dksX3_publishes_1 20 rfl rfl)
theorem dX3_publishes_45 : decode cX3_publishes 45 = .ok (.iaload, 1) := dk_46 (dk_at dksX3_publishes_1 21 rfl rfl)
theorem dX3_publishes_46 : decode cX3_publishes 46 = .ok (.iastore, 1) := dk_79 (dk_at dksX3_publishes_1 22 rfl rfl)
theorem dX3_publishes_47 : decode cX3_publishes 47 = .ok (.iinc 6 1, 3) := dk_132 6 1 (dk_at dksX3_publishes_2 0 rfl rfl)
theorem dX3_publishes_50 : decode cX3_publishes 50 = .ok (.goto (-29), 3) := dk_167 255 227 (dk_at dksX3_publishes_2 3 rfl rfl)
theorem dX3_publishes_53 : decode cX3_publishes 53 = .ok (.aload_n 0, 1) := dk_42 (dk_at dksX3_publishes_2 6 rfl rfl)
theorem dX3_publishes_54 : decode cX3_publishes 54 = .ok (.getfield 9, 3) := dk_180 0 9 (dk_at dksX3_publishes_2 7 rfl rfl)
theorem dX3_publishes_57 : decode cX3_publishes 57 = .ok (.iload 5, 2) := dk_21 5 (dk_at dksX3_publishes_2 10 rfl rfl)
theorem dX3_publishes_59 : decode cX3_publishes 59 = .ok (.iconst 5, 1) := dk_8 (dk_at dksX3_publishes_2 12 rfl rfl)
theorem dX3_publishes_60 : decode cX3_publishes 60 = .ok (.iadd, 1) := dk_96 (dk_at dksX3_publishes_2 13 rfl rfl)
theorem dX3_publishes_61 : decode cX3_publishes 61 = .ok (.iload_n 1, 1) := dk_27 (dk_at dksX3_publishes_2 14 rfl rfl)
theorem dX3_publishes_62 : decode cX3_publishes 62 = .ok (.iastore, 1) := dk_79 (dk_at dksX3_publishes_2 15 rfl rfl)
theorem dX3_publishes_63 : decode cX3_publishes 63 = .ok (.aload_n 0, 1) := dk_42 (dk_at dksX3_publishes_2 16 rfl rfl)
theorem dX3_publishes_64 : decode cX3_publishes 64 = .ok (.getfield 9, 3) := dk_180 0 9 (dk_at dksX3_publishes_2 17 rfl rfl)
theorem dX3_publishes_67 : decode cX3_publishes 67 = .ok (.iload 5, 2) := dk_21 5 (dk_at dksX3_publishes_2 20 rfl rfl)
theorem dX3_publishes_69 : decode cX3_publishes 69 = .ok (.bipush 6, 2) := dk_16 6 (dk_at dksX3_publishes_2 22 rfl rfl)
theorem dX3_publishes_71 : decode cX3_publishes 71 = .ok (.iadd, 1) := dk_96 (dk_at dksX3_publishes_3 0 rfl rfl)
theorem dX3_publishes_72 : decode cX3_publishes 72 = .ok (.iload_n 2, 1) := dk_28 (dk_at dksX3_publishes_3 1 rfl rfl)
theorem dX3_publishes_73 : decode cX3_publishes 73 = .ok (.iastore, 1) := dk_79 (dk_at dksX3_publishes_3 2 rfl rfl)
theorem dX3_publishes_74 : decode cX3_publishes 74 = .ok (.aload_n 0, 1) := dk_42 (dk_at dksX3_publishes_3 3 rfl rfl)
theorem dX3_publishes_75 : decode cX3_publishes 75 = .ok (.getfield 9, 3) := dk_180 0 9 (dk_at dksX3_publishes_3 4 rfl rfl)
theorem dX3_publishes_78 : decode cX3_publishes 78 = .ok (.iload 5, 2) := dk_21 5 (dk_at dksX3_publishes_3 7 rfl rfl)
theorem dX3_publishes_80 : decode cX3_publishes 80 = .ok (.bipush 7, 2) := dk_16 7 (dk_at dksX3_publishes_3 9 rfl rfl)
theorem dX3_publishes_82 : decode cX3_publishes 82 = .ok (.iadd, 1) := dk_96 (dk_at dksX3_publishes_3 11 rfl rfl)
theorem dX3_publishes_83 : decode cX3_publishes 83 = .ok (.iload_n 3, 1) := dk_29 (dk_at dksX3_publishes_3 12 rfl rfl)
theorem dX3_publishes_84 : decode cX3_publishes 84 = .ok (.iastore, 1) := dk_79 (dk_at dksX3_publishes_3 13 rfl rfl)
theorem dX3_publishes_85 : decode cX3_publishes 85 = .ok (.aload_n 0, 1) := dk_42 (dk_at dksX3_publishes_3 14 rfl rfl)
theorem dX3_publishes_86 : decode cX3_publishes 86 = .ok (.getfield 9, 3) := dk_180 0 9 (dk_at dksX3_publishes_3 15 rfl rfl)
theorem dX3_publishes_89 : decode cX3_publishes 89 = .ok (.iload 5, 2) := dk_21 5 (dk_at dksX3_publishes_3 18 rfl rfl)
theorem dX3_publishes_91 : decode cX3_publishes 91 = .ok (.bipush 8, 2) := dk_16 8 (dk_at dksX3_publishes_3 20 rfl rfl)
theorem dX3_publishes_93 : decode cX3_publishes 93 = .ok (.iadd, 1) := dk_96 (dk_at dksX3_publishes_3 22 rfl rfl)
theorem dX3_publishes_94 : decode cX3_publishes 94 = .ok (.aload_n 0, 1) := dk_42 (dk_at dksX3_publishes_3 23 rfl rfl)
theorem dX3_publishes_95 : decode cX3_publishes 95 = .ok (.getfield 9, 3) := dk_180 0 9 (dk_at dksX3_publishes_4 0 rfl rfl)
theorem dX3_publishes_98 : decode cX3_publishes 98 = .ok (.iconst 4, 1) := dk_7 (dk_at dksX3_publishes_4 3 rfl rfl)
theorem dX3_publishes_99 : decode cX3_publishes 99 = .ok (.iaload, 1) := dk_46 (dk_at dksX3_publishes_4 4 rfl rfl)
theorem dX3_publishes_100 : decode cX3_publishes 100 = .ok (.iastore, 1) := dk_79 (dk_at dksX3_publishes_4 5 rfl rfl)
theorem dX3_publishes_101 : decode cX3_publishes 101 = .ok (.aload_n 0, 1) := dk_42 (dk_at dksX3_publishes_4 6 rfl rfl)
theorem dX3_publishes_102 : decode cX3_publishes 102 = .ok (.getfield 9, 3) := dk_180 0 9 (dk_at dksX3_publishes_4 7 rfl rfl)
theorem dX3_publishes_105 : decode cX3_publishes 105 = .ok (.iconst 2, 1) := dk_5 (dk_at dksX3_publishes_4 10 rfl rfl)
theorem dX3_publishes_106 : decode cX3_publishes 106 = .ok (.iload 4, 2) := dk_21 4 (dk_at dksX3_publishes_4 11 rfl rfl)
theorem dX3_publishes_108 : decode cX3_publishes 108 = .ok (.iconst 1, 1) := dk_4 (dk_at dksX3_publishes_4 13 rfl rfl)
theorem dX3_publishes_109 : decode cX3_publishes 109 = .ok (.iadd, 1) := dk_96 (dk_at dksX3_publishes_4 14 rfl rfl)
theorem dX3_publishes_110 : decode cX3_publishes 110 = .ok (.iastore, 1) := dk_79 (dk_at dksX3_publishes_4 15 rfl rfl)
theorem dX3_publishes_111 : decode cX3_publishes 111 = .ok (.iconst 0, 1) := dk_3 (dk_at dksX3_publishes_4 16 rfl rfl)
theorem dX3_publishes_112 : decode cX3_publishes 112 = .ok (.istore 6, 2) := dk_54 6 (dk_at dksX3_publishes_4 17 rfl rfl)
theorem dX3_publishes_114 : decode cX3_publishes 114 = .ok (.iconst 0, 1) := dk_3 (dk_at dksX3_publishes_4 19 rfl rfl)
theorem dX3_publishes_115 : decode cX3_publishes 115 = .ok (.istore 7, 2) := dk_54 7 (dk_at dksX3_publishes_4 20 rfl rfl)
theorem dX3_publishes_117 : decode cX3_publishes 117 = .ok (.iload 7, 2) := dk_21 7 (dk_at dksX3_publishes_4 22 rfl rfl)
theorem dX3_publishes_119 : decode cX3_publishes 119 = .ok (.aload_n 0, 1) := dk_42 (dk_at dksX3_publishes_5 0 rfl rfl)
theorem dX3_publishes_120 : decode cX3_publishes 120 = .ok (.getfield 9, 3) := dk_180 0 9 (dk_at dksX3_publishes_5 1 rfl rfl)
theorem dX3_publishes_123 : decode cX3_publishes 123 = .ok (.iconst 0, 1) := dk_3 (dk_at dksX3_publishes_5 4 rfl rfl)
theorem dX3_publishes_124 : decode cX3_publishes 124 = .ok (.iaload, 1) := dk_46 (dk_at dksX3_publishes_5 5 rfl rfl)
theorem dX3_publishes_125 : decode cX3_publishes 125 = .ok (.if_icmp .ge 90, 3) := dk_162 0 90 (dk_at dksX3_publishes_5 6 rfl rfl)
theorem dX3_publishes_128 : decode cX3_publishes 128 = .ok (.aload_n 0, 1) := dk_42 (dk_at dksX3_publishes_5 9 rfl rfl)
theorem dX3_publishes_129 : decode cX3_publishes 129 = .ok (.iload 7, 2) := dk_21 7 (dk_at dksX3_publishes_5 10 rfl rfl)
theorem dX3_publishes_131 : decode cX3_publishes 131 = .ok (.invokevirtual 119, 3) := dk_182 0 119 (dk_at dksX3_publishes_5 12 rfl rfl)
theorem dX3_publishes_134 : decode cX3_publishes 134 = .ok (.ifCond .eq 75, 3) := dk_153 0 75 (dk_at dksX3_publishes_5 15 rfl rfl)
theorem dX3_publishes_137 : decode cX3_publishes 137 = .ok (.iinc 6 1, 3) := dk_132 6 1 (dk_at dksX3_publishes_5 18 rfl rfl)
theorem dX3_publishes_140 : decode cX3_publishes 140 = .ok (.aload_n 0, 1) := dk_42 (dk_at dksX3_publishes_5 21 rfl rfl)
theorem dX3_publishes_141 : decode cX3_publishes 141 = .ok (.iload 7, 2) := dk_21 7 (dk_at dksX3_publishes_5 22 rfl rfl)
theorem dX3_publishes_143 : decode cX3_publishes 143 = .ok (.bipush 35, 2) := dk_16 35 (dk_at dksX3_publishes_6 0 rfl rfl)
theorem dX3_publishes_145 : decode cX3_publishes 145 = .ok (.invokevirtual 59, 3) := dk_182 0 59 (dk_at dksX3_publishes_6 2 rfl rfl)
theorem dX3_publishes_148 : decode cX3_publishes 148 = .ok (.aload_n 0, 1) := dk_42 (dk_at dksX3_publishes_6 5 rfl rfl)
theorem dX3_publishes_149 : decode cX3_publishes 149 = .ok (.iload 7, 2) := dk_21 7 (dk_at dksX3_publishes_6 6 rfl rfl)
theorem dX3_publishes_151 : decode cX3_publishes 151 = .ok (.bipush 26, 2) := dk_16 26 (dk_at dksX3_publishes_6 8 rfl rfl)
theorem dX3_publishes_153 : decode cX3_publishes 153 = .ok (.invokevirtual 59, 3) := dk_182 0 59 (dk_at dksX3_publishes_6 10 rfl rfl)
theorem dX3_publishes_156 : decode cX3_publishes 156 = .ok (.if_icmp .ne 45, 3) := dk_160 0 45 (dk_at dksX3_publishes_6 13 rfl rfl)
theorem dX3_publishes_159 : decode cX3_publishes 159 = .ok (.aload_n 0, 1) := dk_42 (dk_at dksX3_publishes_6 16 rfl rfl)
theorem dX3_publishes_160 : decode cX3_publishes 160 = .ok (.iload 7, 2) := dk_21 7 (dk_at dksX3_publishes_6 17 rfl rfl)
theorem dX3_publishes_162 : decode cX3_publishes 162 = .ok (.iload 4, 2) := dk_21 4 (dk_at dksX3_publishes_6 19 rfl rfl)
theorem dX3_publishes_164 : decode cX3_publishes 164 = .ok (.invokevirtual 129, 3) := dk_182 0 129 (dk_at dksX3_publishes_6 21 rfl rfl)
theorem dX3_publishes_167 : decode cX3_publishes 167 = .ok (.istore 8, 2) := dk_54 8 (dk_at dksX3_publishes_7 0 rfl rfl)
theorem dX3_publishes_169 : decode cX3_publishes 169 = .ok (.aload_n 0, 1) := dk_42 (dk_at dksX3_publishes_7 2 rfl rfl)
theorem dX3_publishes_170 : decode cX3_publishes 170 = .ok (.iload 8, 2) := dk_21 8 (dk_at dksX3_publishes_7 3 rfl rfl)
theorem dX3_publishes_172 : decode cX3_publishes 172 = .ok (.iconst 4, 1) := dk_7 (dk_at dksX3_publishes_7 5 rfl rfl)
theorem dX3_publishes_173 : decode cX3_publishes 173 = .ok (.iadd, 1) := dk_96 (dk_at dksX3_publishes_7 6 rfl rfl)
theorem dX3_publishes_174 : decode cX3_publishes 174 = .ok (.iconst 0, 1) := dk_3 (dk_at dksX3_publishes_7 7 rfl rfl)
theorem dX3_publishes_175 : decode cX3_publishes 175 = .ok (.bipush 6, 2) := dk_16 6 (dk_at dksX3_publishes_7 8 rfl rfl)
theorem dX3_publishes_177 : decode cX3_publishes 177 = .ok (.aload_n 0, 1) := dk_42 (dk_at dksX3_publishes_7 10 rfl rfl)
theorem dX3_publishes_178 : decode cX3_publishes 178 = .ok (.iload 7, 2) := dk_21 7 (dk_at dksX3_publishes_7 11 rfl rfl)
theorem dX3_publishes_180 : decode cX3_publishes 180 = .ok (.bipush 26, 2) := dk_16 26 (dk_at dksX3_publishes_7 13 rfl rfl)
theorem dX3_publishes_182 : decode cX3_publishes 182 = .ok (.invokevirtual 59, 3) := dk_182 0 59 (dk_at dksX3_publishes_7 15 rfl rfl)
theorem dX3_publishes_185 : decode cX3_publishes 185 = .ok (.invokevirtual 132, 3) := dk_182 0 132 (dk_at dksX3_publishes_7 18 rfl rfl)
theorem dX3_publishes_188 : decode cX3_publishes 188 = .ok (.aload_n 0, 1) := dk_42 (dk_at dksX3_publishes_7 21 rfl rfl)
theorem dX3_publishes_189 : decode cX3_publishes 189 = .ok (.getfield 9, 3) := dk_180 0 9 (dk_at dksX3_publishes_8 0 rfl rfl)
theorem dX3_publishes_192 : decode cX3_publishes 192 = .ok (.iload 8, 2) := dk_21 8 (dk_at dksX3_publishes_8 3 rfl rfl)
theorem dX3_publishes_194 : decode cX3_publishes 194 = .ok (.iconst 3, 1) := dk_6 (dk_at dksX3_publishes_8 5 rfl rfl)
theorem dX3_publishes_195 : decode cX3_publishes 195 = .ok (.iadd, 1) := dk_96 (dk_at dksX3_publishes_8 6 rfl rfl)
theorem dX3_publishes_196 : decode cX3_publishes 196 = .ok (.iconst 1, 1) := dk_4 (dk_at dksX3_publishes_8 7 rfl rfl)
theorem dX3_publishes_197 : decode cX3_publishes 197 = .ok (.iastore, 1) := dk_79 (dk_at dksX3_publishes_8 8 rfl rfl)
theorem dX3_publishes_198 : decode cX3_publishes 198 = .ok (.goto 11, 3) := dk_167 0 11 (dk_at dksX3_publishes_8 9 rfl rfl)
theorem dX3_publishes_201 : decode cX3_publishes 201 = .ok (.aload_n 0, 1) := dk_42 (dk_at dksX3_publishes_8 12 rfl rfl)
theorem dX3_publishes_202 : decode cX3_publishes 202 = .ok (.iload 7, 2) := dk_21 7 (dk_at dksX3_publishes_8 13 rfl rfl)
theorem dX3_publishes_204 : decode cX3_publishes 204 = .ok (.iload 4, 2) := dk_21 4 (dk_at dksX3_publishes_8 15 rfl rfl)
theorem dX3_publishes_206 : decode cX3_publishes 206 = .ok (.invokevirtual 154, 3) := dk_182 0 154 (dk_at dksX3_publishes_8 17 rfl rfl)
theorem dX3_publishes_209 : decode cX3_publishes 209 = .ok (.iinc 7 1, 3) := dk_132 7 1 (dk_at dksX3_publishes_8 20 rfl rfl)
theorem dX3_publishes_212 : decode cX3_publishes 212 = .ok (.goto (-95), 3) := dk_167 255 161 (dk_at dksX3_publishes_9 0 rfl rfl)
theorem dX3_publishes_215 : decode cX3_publishes 215 = .ok (.iload 6, 2) := dk_21 6 (dk_at dksX3_publishes_9 3 rfl rfl)
theorem dX3_publishes_217 : decode cX3_publishes 217 = .ok (.ireturn, 1) := dk_172 (dk_at dksX3_publishes_9 5 rfl rfl)
abbrev cX3_newDead : ByteArray := prog_24_method_30_code
def yX3_newDead : MethodName := ⟨RX3, "newDead", "(II)I"⟩
def dkwX3_newDead_5 : List UInt8 := [27, 16, 34, 182, 0, 59, 4, 96, 182, 0, 62, 29, 172]
abbrev dktX3_newDead_5 : List UInt8 := dkwX3_newDead_5 ++ []
def dkwX3_newDead_4 : List UInt8 := [29, 5, 96, 42, 180, 0, 9, 7, 46, 79, 42, 180, 0, 9, 29, 6, 96, 3, 79, 42, 27, 16, 34, 42]
abbrev dktX3_newDead_4 : List UInt8 := dkwX3_newDead_4 ++ dktX3_newDead_5
def dkwX3_newDead_3 : List UInt8 := [46, 4, 96, 79, 42, 180, 0, 9, 29, 28, 79, 42, 180, 0, 9, 29, 4, 96, 27, 79, 42, 180, 0, 9]
abbrev dktX3_newDead_3 : List UInt8 := dkwX3_newDead_3 ++ dktX3_newDead_4
def dkwX3_newDead_2 : List UInt8 := [6, 16, 29, 79, 17, 10, 191, 16, 24, 42, 180, 0, 9, 6, 46, 104, 96, 62, 42, 180, 0, 9, 6, 92]
abbrev dktX3_newDead_2 : List UInt8 := dkwX3_newDead_2 ++ dktX3_newDead_3
def dkwX3_newDead_1 : List UInt8 := [180, 0, 9, 29, 42, 180, 0, 9, 29, 16, 24, 96, 46, 79, 132, 3, 1, 167, 255, 231, 42, 180, 0, 9]
abbrev dktX3_newDead_1 : List UInt8 := dkwX3_newDead_1 ++ dktX3_newDead_2
def dkwX3_newDead_0 : List UInt8 := [42, 180, 0, 9, 6, 46, 16, 30, 160, 0, 43, 17, 10, 191, 62, 29, 17, 13, 119, 162, 0, 24, 42]
abbrev dktX3_newDead_0 : List UInt8 := dkwX3_newDead_0 ++ dktX3_newDead_1
theorem dksX3_newDead_0 : cX3_newDead.data.toList.drop 0 = dktX3_newDead_0 := by decide +kernel
theorem dksX3_newDead_1 : cX3_newDead.data.toList.drop 23 = dktX3_newDead_1 := dk_seg dksX3_newDead_0 23 rfl rfl
theorem dksX3_newDead_2 : cX3_newDead.data.toList.drop 47 = dktX3_newDead_2 := dk_seg dksX3_newDead_1 24 rfl rfl
theorem dksX3_newDead_3 : cX3_newDead.data.toList.drop 71 = dktX3_newDead_3 := dk_seg dksX3_newDead_2 24 rfl rfl
theorem dksX3_newDead_4 : cX3_newDead.data.toList.drop 95 = dktX3_newDead_4 := dk_seg dksX3_newDead_3 24 rfl rfl
theorem dksX3_newDead_5 : cX3_newDead.data.toList.drop 119 = dktX3_newDead_5 := dk_seg dksX3_newDead_4 24 rfl rfl
theorem dX3_newDead_0 : decode cX3_newDead 0 = .ok (.aload_n 0, 1) := dk_42 (dk_at dksX3_newDead_0 0 rfl rfl)
theorem dX3_newDead_1 : decode cX3_newDead 1 = .ok (.getfield 9, 3) := dk_180 0 9 (dk_at dksX3_newDead_0 1 rfl rfl)
theorem dX3_newDead_4 : decode cX3_newDead 4 = .ok (.iconst 3, 1) := dk_6 (dk_at dksX3_newDead_0 4 rfl rfl)
theorem dX3_newDead_5 : decode cX3_newDead 5 = .ok (.iaload, 1) := dk_46 (dk_at dksX3_newDead_0 5 rfl rfl)
theorem dX3_newDead_6 : decode cX3_newDead 6 = .ok (.bipush 30, 2) := dk_16 30 (dk_at dksX3_newDead_0 6 rfl rfl)
theorem dX3_newDead_8 : decode cX3_newDead 8 = .ok (.if_icmp .ne 43, 3) := dk_160 0 43 (dk_at dksX3_newDead_0 8 rfl rfl)
theorem dX3_newDead_11 : decode cX3_newDead 11 = .ok (.sipush 2751, 3) := dk_17 10 191 (dk_at dksX3_newDead_0 11 rfl rfl)
theorem dX3_newDead_14 : decode cX3_newDead 14 = .ok (.istore_n 3, 1) := dk_62 (dk_at dksX3_newDead_0 14 rfl rfl)
theorem dX3_newDead_15 : decode cX3_newDead 15 = .ok (.iload_n 3, 1) := dk_29 (dk_at dksX3_newDead_0 15 rfl rfl)
theorem dX3_newDead_16 : decode cX3_newDead 16 = .ok (.sipush 3447, 3) := dk_17 13 119 (dk_at dksX3_newDead_0 16 rfl rfl)
theorem dX3_newDead_19 : decode cX3_newDead 19 = .ok (.if_icmp .ge 24, 3) := dk_162 0 24 (dk_at dksX3_newDead_0 19 rfl rfl)
theorem dX3_newDead_22 : decode cX3_newDead 22 = .ok (.aload_n 0, 1) := dk_42 (dk_at dksX3_newDead_0 22 rfl rfl)
theorem dX3_newDead_23 : decode cX3_newDead 23 = .ok (.getfield 9, 3) := dk_180 0 9 (dk_at dksX3_newDead_1 0 rfl rfl)
theorem dX3_newDead_26 : decode cX3_newDead 26 = .ok (.iload_n 3, 1) := dk_29 (dk_at dksX3_newDead_1 3 rfl rfl)
theorem dX3_newDead_27 : decode cX3_newDead 27 = .ok (.aload_n 0, 1) := dk_42 (dk_at dksX3_newDead_1 4 rfl rfl)
theorem dX3_newDead_28 : decode cX3_newDead 28 = .ok (.getfield 9, 3) := dk_180 0 9 (dk_at dksX3_newDead_1 5 rfl rfl)
theorem dX3_newDead_31 : decode cX3_newDead 31 = .ok (.iload_n 3, 1) := dk_29 (dk_at dksX3_newDead_1 8 rfl rfl)
theorem dX3_newDead_32 : decode cX3_newDead 32 = .ok (.bipush 24, 2) := dk_16 24 (dk_at dksX3_newDead_1 9 rfl rfl)
theorem dX3_newDead_34 : decode cX3_newDead 34 = .ok (.iadd, 1) := dk_96 (dk_at dksX3_newDead_1 11 rfl rfl)
theorem dX3_newDead_35 : decode cX3_newDead 35 = .ok (.iaload, 1) := dk_46 (dk_at dksX3_newDead_1 12 rfl rfl)
theorem dX3_newDead_36 : decode cX3_newDead 36 = .ok (.iastore, 1) := dk_79 (dk_at dksX3_newDead_1 13 rfl rfl)
theorem dX3_newDead_37 : decode cX3_newDead 37 = .ok (.iinc 3 1, 3) := dk_132 3 1 (dk_at dksX3_newDead_1 14 rfl rfl)
theorem dX3_newDead_40 : decode cX3_newDead 40 = .ok (.goto (-25), 3) := dk_167 255 231 (dk_at dksX3_newDead_1 17 rfl rfl)
theorem dX3_newDead_43 : decode cX3_newDead 43 = .ok (.aload_n 0, 1) := dk_42 (dk_at dksX3_newDead_1 20 rfl rfl)
theorem dX3_newDead_44 : decode cX3_newDead 44 = .ok (.getfield 9, 3) := dk_180 0 9 (dk_at dksX3_newDead_1 21 rfl rfl)
theorem dX3_newDead_47 : decode cX3_newDead 47 = .ok (.iconst 3, 1) := dk_6 (dk_at dksX3_newDead_2 0 rfl rfl)
theorem dX3_newDead_48 : decode cX3_newDead 48 = .ok (.bipush 29, 2) := dk_16 29 (dk_at dksX3_newDead_2 1 rfl rfl)
theorem dX3_newDead_50 : decode cX3_newDead 50 = .ok (.iastore, 1) := dk_79 (dk_at dksX3_newDead_2 3 rfl rfl)
theorem dX3_newDead_51 : decode cX3_newDead 51 = .ok (.sipush 2751, 3) := dk_17 10 191 (dk_at dksX3_newDead_2 4 rfl rfl)
theorem dX3_newDead_54 : decode cX3_newDead 54 = .ok (.bipush 24, 2) := dk_16 24 (dk_at dksX3_newDead_2 7 rfl rfl)
theorem dX3_newDead_56 : decode cX3_newDead 56 = .ok (.aload_n 0, 1) := dk_42 (dk_at dksX3_newDead_2 9 rfl rfl)
theorem dX3_newDead_57 : decode cX3_newDead 57 = .ok (.getfield 9, 3) := dk_180 0 9 (dk_at dksX3_newDead_2 10 rfl rfl)
theorem dX3_newDead_60 : decode cX3_newDead 60 = .ok (.iconst 3, 1) := dk_6 (dk_at dksX3_newDead_2 13 rfl rfl)
theorem dX3_newDead_61 : decode cX3_newDead 61 = .ok (.iaload, 1) := dk_46 (dk_at dksX3_newDead_2 14 rfl rfl)
theorem dX3_newDead_62 : decode cX3_newDead 62 = .ok (.imul, 1) := dk_104 (dk_at dksX3_newDead_2 15 rfl rfl)
theorem dX3_newDead_63 : decode cX3_newDead 63 = .ok (.iadd, 1) := dk_96 (dk_at dksX3_newDead_2 16 rfl rfl)
theorem dX3_newDead_64 : decode cX3_newDead 64 = .ok (.istore_n 3, 1) := dk_62 (dk_at dksX3_newDead_2 17 rfl rfl)
theorem dX3_newDead_65 : decode cX3_newDead 65 = .ok (.aload_n 0, 1) := dk_42 (dk_at dksX3_newDead_2 18 rfl rfl)
theorem dX3_newDead_66 : decode cX3_newDead 66 = .ok (.getfield 9, 3) := dk_180 0 9 (dk_at dksX3_newDead_2 19 rfl rfl)
theorem dX3_newDead_69 : decode cX3_newDead 69 = .ok (.iconst 3, 1) := dk_6 (dk_at dksX3_newDead_2 22 rfl rfl)
theorem dX3_newDead_70 : decode cX3_newDead 70 = .ok (.dup2, 1) := dk_92 (dk_at dksX3_newDead_2 23 rfl rfl)
theorem dX3_newDead_71 : decode cX3_newDead 71 = .ok (.iaload, 1) := dk_46 (dk_at dksX3_newDead_3 0 rfl rfl)
theorem dX3_newDead_72 : decode cX3_newDead 72 = .ok (.iconst 1, 1) := dk_4 (dk_at dksX3_newDead_3 1 rfl rfl)
theorem dX3_newDead_73 : decode cX3_newDead 73 = .ok (.iadd, 1) := dk_96 (dk_at dksX3_newDead_3 2 rfl rfl)
theorem dX3_newDead_74 : decode cX3_newDead 74 = .ok (.iastore, 1) := dk_79 (dk_at dksX3_newDead_3 3 rfl rfl)
theorem dX3_newDead_75 : decode cX3_newDead 75 = .ok (.aload_n 0, 1) := dk_42 (dk_at dksX3_newDead_3 4 rfl rfl)
theorem dX3_newDead_76 : decode cX3_newDead 76 = .ok (.getfield 9, 3) := dk_180 0 9 (dk_at dksX3_newDead_3 5 rfl rfl)
theorem dX3_newDead_79 : decode cX3_newDead 79 = .ok (.iload_n 3, 1) := dk_29 (dk_at dksX3_newDead_3 8 rfl rfl)
theorem dX3_newDead_80 : decode cX3_newDead 80 = .ok (.iload_n 2, 1) := dk_28 (dk_at dksX3_newDead_3 9 rfl rfl)
theorem dX3_newDead_81 : decode cX3_newDead 81 = .ok (.iastore, 1) := dk_79 (dk_at dksX3_newDead_3 10 rfl rfl)
theorem dX3_newDead_82 : decode cX3_newDead 82 = .ok (.aload_n 0, 1) := dk_42 (dk_at dksX3_newDead_3 11 rfl rfl)
theorem dX3_newDead_83 : decode cX3_newDead 83 = .ok (.getfield 9, 3) := dk_180 0 9 (dk_at dksX3_newDead_3 12 rfl rfl)
theorem dX3_newDead_86 : decode cX3_newDead 86 = .ok (.iload_n 3, 1) := dk_29 (dk_at dksX3_newDead_3 15 rfl rfl)
theorem dX3_newDead_87 : decode cX3_newDead 87 = .ok (.iconst 1, 1) := dk_4 (dk_at dksX3_newDead_3 16 rfl rfl)
theorem dX3_newDead_88 : decode cX3_newDead 88 = .ok (.iadd, 1) := dk_96 (dk_at dksX3_newDead_3 17 rfl rfl)
theorem dX3_newDead_89 : decode cX3_newDead 89 = .ok (.iload_n 1, 1) := dk_27 (dk_at dksX3_newDead_3 18 rfl rfl)
theorem dX3_newDead_90 : decode cX3_newDead 90 = .ok (.iastore, 1) := dk_79 (dk_at dksX3_newDead_3 19 rfl rfl)
theorem dX3_newDead_91 : decode cX3_newDead 91 = .ok (.aload_n 0, 1) := dk_42 (dk_at dksX3_newDead_3 20 rfl rfl)
theorem dX3_newDead_92 : decode cX3_newDead 92 = .ok (.getfield 9, 3) := dk_180 0 9 (dk_at dksX3_newDead_3 21 rfl rfl)
theorem dX3_newDead_95 : decode cX3_newDead 95 = .ok (.iload_n 3, 1) := dk_29 (dk_at dksX3_newDead_4 0 rfl rfl)
theorem dX3_newDead_96 : decode cX3_newDead 96 = .ok (.iconst 2, 1) := dk_5 (dk_at dksX3_newDead_4 1 rfl rfl)
theorem dX3_newDead_97 : decode cX3_newDead 97 = .ok (.iadd, 1) := dk_96 (dk_at dksX3_newDead_4 2 rfl rfl)
theorem dX3_newDead_98 : decode cX3_newDead 98 = .ok (.aload_n 0, 1) := dk_42 (dk_at dksX3_newDead_4 3 rfl rfl)
theorem dX3_newDead_99 : decode cX3_newDead 99 = .ok (.getfield 9, 3) := dk_180 0 9 (dk_at dksX3_newDead_4 4 rfl rfl)
theorem dX3_newDead_102 : decode cX3_newDead 102 = .ok (.iconst 4, 1) := dk_7 (dk_at dksX3_newDead_4 7 rfl rfl)
theorem dX3_newDead_103 : decode cX3_newDead 103 = .ok (.iaload, 1) := dk_46 (dk_at dksX3_newDead_4 8 rfl rfl)
theorem dX3_newDead_104 : decode cX3_newDead 104 = .ok (.iastore, 1) := dk_79 (dk_at dksX3_newDead_4 9 rfl rfl)
theorem dX3_newDead_105 : decode cX3_newDead 105 = .ok (.aload_n 0, 1) := dk_42 (dk_at dksX3_newDead_4 10 rfl rfl)
theorem dX3_newDead_106 : decode cX3_newDead 106 = .ok (.getfield 9, 3) := dk_180 0 9 (dk_at dksX3_newDead_4 11 rfl rfl)
theorem dX3_newDead_109 : decode cX3_newDead 109 = .ok (.iload_n 3, 1) := dk_29 (dk_at dksX3_newDead_4 14 rfl rfl)
theorem dX3_newDead_110 : decode cX3_newDead 110 = .ok (.iconst 3, 1) := dk_6 (dk_at dksX3_newDead_4 15 rfl rfl)
theorem dX3_newDead_111 : decode cX3_newDead 111 = .ok (.iadd, 1) := dk_96 (dk_at dksX3_newDead_4 16 rfl rfl)
theorem dX3_newDead_112 : decode cX3_newDead 112 = .ok (.iconst 0, 1) := dk_3 (dk_at dksX3_newDead_4 17 rfl rfl)
theorem dX3_newDead_113 : decode cX3_newDead 113 = .ok (.iastore, 1) := dk_79 (dk_at dksX3_newDead_4 18 rfl rfl)
theorem dX3_newDead_114 : decode cX3_newDead 114 = .ok (.aload_n 0, 1) := dk_42 (dk_at dksX3_newDead_4 19 rfl rfl)
theorem dX3_newDead_115 : decode cX3_newDead 115 = .ok (.iload_n 1, 1) := dk_27 (dk_at dksX3_newDead_4 20 rfl rfl)
theorem dX3_newDead_116 : decode cX3_newDead 116 = .ok (.bipush 34, 2) := dk_16 34 (dk_at dksX3_newDead_4 21 rfl rfl)
theorem dX3_newDead_118 : decode cX3_newDead 118 = .ok (.aload_n 0, 1) := dk_42 (dk_at dksX3_newDead_4 23 rfl rfl)
theorem dX3_newDead_119 : decode cX3_newDead 119 = .ok (.iload_n 1, 1) := dk_27 (dk_at dksX3_newDead_5 0 rfl rfl)
theorem dX3_newDead_120 : decode cX3_newDead 120 = .ok (.bipush 34, 2) := dk_16 34 (dk_at dksX3_newDead_5 1 rfl rfl)
theorem dX3_newDead_122 : decode cX3_newDead 122 = .ok (.invokevirtual 59, 3) := dk_182 0 59 (dk_at dksX3_newDead_5 3 rfl rfl)
theorem dX3_newDead_125 : decode cX3_newDead 125 = .ok (.iconst 1, 1) := dk_4 (dk_at dksX3_newDead_5 6 rfl rfl)
theorem dX3_newDead_126 : decode cX3_newDead 126 = .ok (.iadd, 1) := dk_96 (dk_at dksX3_newDead_5 7 rfl rfl)
theorem dX3_newDead_127 : decode cX3_newDead 127 = .ok (.invokevirtual 62, 3) := dk_182 0 62 (dk_at dksX3_newDead_5 8 rfl rfl)
theorem dX3_newDead_130 : decode cX3_newDead 130 = .ok (.iload_n 3, 1) := dk_29 (dk_at dksX3_newDead_5 11 rfl rfl)
theorem dX3_newDead_131 : decode cX3_newDead 131 = .ok (.ireturn, 1) := dk_172 (dk_at dksX3_newDead_5 12 rfl rfl)
abbrev cX3_ahead : ByteArray := prog_24_method_31_code
def yX3_ahead : MethodName := ⟨RX3, "ahead", "(IIII)V"⟩
def dkwX3_ahead_1 : List UInt8 := [180, 0, 9, 27, 5, 96, 21, 4, 79, 42, 180, 0, 9, 27, 6, 96, 28, 79, 177]
abbrev dktX3_ahead_1 : List UInt8 := dkwX3_ahead_1 ++ []
def dkwX3_ahead_0 : List UInt8 := [42, 180, 0, 9, 27, 29, 79, 42, 180, 0, 9, 27, 4, 96, 42, 180, 0, 9, 7, 46, 79, 42]
abbrev dktX3_ahead_0 : List UInt8 := dkwX3_ahead_0 ++ dktX3_ahead_1
theorem dksX3_ahead_0 : cX3_ahead.data.toList.drop 0 = dktX3_ahead_0 := by decide +kernel
theorem dksX3_ahead_1 : cX3_ahead.data.toList.drop 22 = dktX3_ahead_1 := dk_seg dksX3_ahead_0 22 rfl rfl
theorem dX3_ahead_0 : decode cX3_ahead 0 = .ok (.aload_n 0, 1) := dk_42 (dk_at dksX3_ahead_0 0 rfl rfl)
theorem dX3_ahead_1 : decode cX3_ahead 1 = .ok (.getfield 9, 3) := dk_180 0 9 (dk_at dksX3_ahead_0 1 rfl rfl)
theorem dX3_ahead_4 : decode cX3_ahead 4 = .ok (.iload_n 1, 1) := dk_27 (dk_at dksX3_ahead_0 4 rfl rfl)
theorem dX3_ahead_5 : decode cX3_ahead 5 = .ok (.iload_n 3, 1) := dk_29 (dk_at dksX3_ahead_0 5 rfl rfl)
theorem dX3_ahead_6 : decode cX3_ahead 6 = .ok (.iastore, 1) := dk_79 (dk_at dksX3_ahead_0 6 rfl rfl)
theorem dX3_ahead_7 : decode cX3_ahead 7 = .ok (.aload_n 0, 1) := dk_42 (dk_at dksX3_ahead_0 7 rfl rfl)
theorem dX3_ahead_8 : decode cX3_ahead 8 = .ok (.getfield 9, 3) := dk_180 0 9 (dk_at dksX3_ahead_0 8 rfl rfl)
theorem dX3_ahead_11 : decode cX3_ahead 11 = .ok (.iload_n 1, 1) := dk_27 (dk_at dksX3_ahead_0 11 rfl rfl)
theorem dX3_ahead_12 : decode cX3_ahead 12 = .ok (.iconst 1, 1) := dk_4 (dk_at dksX3_ahead_0 12 rfl rfl)
theorem dX3_ahead_13 : decode cX3_ahead 13 = .ok (.iadd, 1) := dk_96 (dk_at dksX3_ahead_0 13 rfl rfl)
theorem dX3_ahead_14 : decode cX3_ahead 14 = .ok (.aload_n 0, 1) := dk_42 (dk_at dksX3_ahead_0 14 rfl rfl)
theorem dX3_ahead_15 : decode cX3_ahead 15 = .ok (.getfield 9, 3) := dk_180 0 9 (dk_at dksX3_ahead_0 15 rfl rfl)
theorem dX3_ahead_18 : decode cX3_ahead 18 = .ok (.iconst 4, 1) := dk_7 (dk_at dksX3_ahead_0 18 rfl rfl)
theorem dX3_ahead_19 : decode cX3_ahead 19 = .ok (.iaload, 1) := dk_46 (dk_at dksX3_ahead_0 19 rfl rfl)
theorem dX3_ahead_20 : decode cX3_ahead 20 = .ok (.iastore, 1) := dk_79 (dk_at dksX3_ahead_0 20 rfl rfl)
theorem dX3_ahead_21 : decode cX3_ahead 21 = .ok (.aload_n 0, 1) := dk_42 (dk_at dksX3_ahead_0 21 rfl rfl)
theorem dX3_ahead_22 : decode cX3_ahead 22 = .ok (.getfield 9, 3) := dk_180 0 9 (dk_at dksX3_ahead_1 0 rfl rfl)
theorem dX3_ahead_25 : decode cX3_ahead 25 = .ok (.iload_n 1, 1) := dk_27 (dk_at dksX3_ahead_1 3 rfl rfl)
theorem dX3_ahead_26 : decode cX3_ahead 26 = .ok (.iconst 2, 1) := dk_5 (dk_at dksX3_ahead_1 4 rfl rfl)
theorem dX3_ahead_27 : decode cX3_ahead 27 = .ok (.iadd, 1) := dk_96 (dk_at dksX3_ahead_1 5 rfl rfl)
theorem dX3_ahead_28 : decode cX3_ahead 28 = .ok (.iload 4, 2) := dk_21 4 (dk_at dksX3_ahead_1 6 rfl rfl)
theorem dX3_ahead_30 : decode cX3_ahead 30 = .ok (.iastore, 1) := dk_79 (dk_at dksX3_ahead_1 8 rfl rfl)
theorem dX3_ahead_31 : decode cX3_ahead 31 = .ok (.aload_n 0, 1) := dk_42 (dk_at dksX3_ahead_1 9 rfl rfl)
theorem dX3_ahead_32 : decode cX3_ahead 32 = .ok (.getfield 9, 3) := dk_180 0 9 (dk_at dksX3_ahead_1 10 rfl rfl)
theorem dX3_ahead_35 : decode cX3_ahead 35 = .ok (.iload_n 1, 1) := dk_27 (dk_at dksX3_ahead_1 13 rfl rfl)
theorem dX3_ahead_36 : decode cX3_ahead 36 = .ok (.iconst 3, 1) := dk_6 (dk_at dksX3_ahead_1 14 rfl rfl)
theorem dX3_ahead_37 : decode cX3_ahead 37 = .ok (.iadd, 1) := dk_96 (dk_at dksX3_ahead_1 15 rfl rfl)
theorem dX3_ahead_38 : decode cX3_ahead 38 = .ok (.iload_n 2, 1) := dk_28 (dk_at dksX3_ahead_1 16 rfl rfl)
theorem dX3_ahead_39 : decode cX3_ahead 39 = .ok (.iastore, 1) := dk_79 (dk_at dksX3_ahead_1 17 rfl rfl)
theorem dX3_ahead_40 : decode cX3_ahead 40 = .ok (.return_, 1) := dk_177 (dk_at dksX3_ahead_1 18 rfl rfl)
abbrev cX3_comes : ByteArray := prog_24_method_29_code
def yX3_comes : MethodName := ⟨RX3, "comes", "(II)V"⟩
def dkwX3_comes_6 : List UInt8 := [96, 182, 0, 62, 177]
abbrev dktX3_comes_6 : List UInt8 := dkwX3_comes_6 ++ []
def dkwX3_comes_5 : List UInt8 := [42, 27, 21, 4, 6, 2, 182, 0, 125, 42, 27, 21, 4, 7, 2, 182, 0, 125, 42, 27, 16, 35, 29, 4]
abbrev dktX3_comes_5 : List UInt8 := dkwX3_comes_5 ++ dktX3_comes_6
def dkwX3_comes_4 : List UInt8 := [27, 21, 4, 21, 5, 3, 182, 0, 125, 132, 5, 1, 167, 255, 236, 42, 27, 21, 4, 3, 28, 182, 0, 125]
abbrev dktX3_comes_4 : List UInt8 := dkwX3_comes_4 ++ dktX3_comes_5
def dkwX3_comes_3 : List UInt8 := [96, 182, 0, 59, 182, 0, 62, 132, 5, 255, 167, 255, 220, 3, 54, 5, 21, 5, 16, 26, 162, 0, 19, 42]
abbrev dktX3_comes_3 : List UInt8 := dkwX3_comes_3 ++ dktX3_comes_4
def dkwX3_comes_2 : List UInt8 := [16, 26, 21, 4, 104, 161, 0, 32, 42, 27, 16, 36, 21, 5, 96, 16, 26, 96, 42, 27, 16, 36, 21, 5]
abbrev dktX3_comes_2 : List UInt8 := dkwX3_comes_2 ++ dktX3_comes_3
def dkwX3_comes_1 : List UInt8 := [182, 0, 66, 28, 164, 0, 9, 132, 4, 255, 167, 255, 234, 16, 26, 29, 104, 4, 100, 54, 5, 21, 5]
abbrev dktX3_comes_1 : List UInt8 := dkwX3_comes_1 ++ dktX3_comes_2
def dkwX3_comes_0 : List UInt8 := [42, 27, 16, 35, 182, 0, 59, 62, 29, 54, 4, 21, 4, 158, 0, 23, 42, 27, 21, 4, 4, 100, 3]
abbrev dktX3_comes_0 : List UInt8 := dkwX3_comes_0 ++ dktX3_comes_1
theorem dksX3_comes_0 : cX3_comes.data.toList.drop 0 = dktX3_comes_0 := by decide +kernel
theorem dksX3_comes_1 : cX3_comes.data.toList.drop 23 = dktX3_comes_1 := dk_seg dksX3_comes_0 23 rfl rfl
theorem dksX3_comes_2 : cX3_comes.data.toList.drop 46 = dktX3_comes_2 := dk_seg dksX3_comes_1 23 rfl rfl
theorem dksX3_comes_3 : cX3_comes.data.toList.drop 70 = dktX3_comes_3 := dk_seg dksX3_comes_2 24 rfl rfl
theorem dksX3_comes_4 : cX3_comes.data.toList.drop 94 = dktX3_comes_4 := dk_seg dksX3_comes_3 24 rfl rfl
theorem dksX3_comes_5 : cX3_comes.data.toList.drop 118 = dktX3_comes_5 := dk_seg dksX3_comes_4 24 rfl rfl
theorem dksX3_comes_6 : cX3_comes.data.toList.drop 142 = dktX3_comes_6 := dk_seg dksX3_comes_5 24 rfl rfl
theorem dX3_comes_0 : decode cX3_comes 0 = .ok (.aload_n 0, 1) := dk_42 (dk_at dksX3_comes_0 0 rfl rfl)
theorem dX3_comes_1 : decode cX3_comes 1 = .ok (.iload_n 1, 1) := dk_27 (dk_at dksX3_comes_0 1 rfl rfl)
theorem dX3_comes_2 : decode cX3_comes 2 = .ok (.bipush 35, 2) := dk_16 35 (dk_at dksX3_comes_0 2 rfl rfl)
theorem dX3_comes_4 : decode cX3_comes 4 = .ok (.invokevirtual 59, 3) := dk_182 0 59 (dk_at dksX3_comes_0 4 rfl rfl)
theorem dX3_comes_7 : decode cX3_comes 7 = .ok (.istore_n 3, 1) := dk_62 (dk_at dksX3_comes_0 7 rfl rfl)
theorem dX3_comes_8 : decode cX3_comes 8 = .ok (.iload_n 3, 1) := dk_29 (dk_at dksX3_comes_0 8 rfl rfl)
theorem dX3_comes_9 : decode cX3_comes 9 = .ok (.istore 4, 2) := dk_54 4 (dk_at dksX3_comes_0 9 rfl rfl)
theorem dX3_comes_11 : decode cX3_comes 11 = .ok (.iload 4, 2) := dk_21 4 (dk_at dksX3_comes_0 11 rfl rfl)
theorem dX3_comes_13 : decode cX3_comes 13 = .ok (.ifCond .le 23, 3) := dk_158 0 23 (dk_at dksX3_comes_0 13 rfl rfl)
theorem dX3_comes_16 : decode cX3_comes 16 = .ok (.aload_n 0, 1) := dk_42 (dk_at dksX3_comes_0 16 rfl rfl)
theorem dX3_comes_17 : decode cX3_comes 17 = .ok (.iload_n 1, 1) := dk_27 (dk_at dksX3_comes_0 17 rfl rfl)
theorem dX3_comes_18 : decode cX3_comes 18 = .ok (.iload 4, 2) := dk_21 4 (dk_at dksX3_comes_0 18 rfl rfl)
theorem dX3_comes_20 : decode cX3_comes 20 = .ok (.iconst 1, 1) := dk_4 (dk_at dksX3_comes_0 20 rfl rfl)
theorem dX3_comes_21 : decode cX3_comes 21 = .ok (.isub, 1) := dk_100 (dk_at dksX3_comes_0 21 rfl rfl)
theorem dX3_comes_22 : decode cX3_comes 22 = .ok (.iconst 0, 1) := dk_3 (dk_at dksX3_comes_0 22 rfl rfl)
theorem dX3_comes_23 : decode cX3_comes 23 = .ok (.invokevirtual 66, 3) := dk_182 0 66 (dk_at dksX3_comes_1 0 rfl rfl)
theorem dX3_comes_26 : decode cX3_comes 26 = .ok (.iload_n 2, 1) := dk_28 (dk_at dksX3_comes_1 3 rfl rfl)
theorem dX3_comes_27 : decode cX3_comes 27 = .ok (.if_icmp .le 9, 3) := dk_164 0 9 (dk_at dksX3_comes_1 4 rfl rfl)
theorem dX3_comes_30 : decode cX3_comes 30 = .ok (.iinc 4 (-1), 3) := dk_132 4 255 (dk_at dksX3_comes_1 7 rfl rfl)
theorem dX3_comes_33 : decode cX3_comes 33 = .ok (.goto (-22), 3) := dk_167 255 234 (dk_at dksX3_comes_1 10 rfl rfl)
theorem dX3_comes_36 : decode cX3_comes 36 = .ok (.bipush 26, 2) := dk_16 26 (dk_at dksX3_comes_1 13 rfl rfl)
theorem dX3_comes_38 : decode cX3_comes 38 = .ok (.iload_n 3, 1) := dk_29 (dk_at dksX3_comes_1 15 rfl rfl)
theorem dX3_comes_39 : decode cX3_comes 39 = .ok (.imul, 1) := dk_104 (dk_at dksX3_comes_1 16 rfl rfl)
theorem dX3_comes_40 : decode cX3_comes 40 = .ok (.iconst 1, 1) := dk_4 (dk_at dksX3_comes_1 17 rfl rfl)
theorem dX3_comes_41 : decode cX3_comes 41 = .ok (.isub, 1) := dk_100 (dk_at dksX3_comes_1 18 rfl rfl)
theorem dX3_comes_42 : decode cX3_comes 42 = .ok (.istore 5, 2) := dk_54 5 (dk_at dksX3_comes_1 19 rfl rfl)
theorem dX3_comes_44 : decode cX3_comes 44 = .ok (.iload 5, 2) := dk_21 5 (dk_at dksX3_comes_1 21 rfl rfl)
theorem dX3_comes_46 : decode cX3_comes 46 = .ok (.bipush 26, 2) := dk_16 26 (dk_at dksX3_comes_2 0 rfl rfl)
theorem dX3_comes_48 : decode cX3_comes 48 = .ok (.iload 4, 2) := dk_21 4 (dk_at dksX3_comes_2 2 rfl rfl)
theorem dX3_comes_50 : decode cX3_comes 50 = .ok (.imul, 1) := dk_104 (dk_at dksX3_comes_2 4 rfl rfl)
theorem dX3_comes_51 : decode cX3_comes 51 = .ok (.if_icmp .lt 32, 3) := dk_161 0 32 (dk_at dksX3_comes_2 5 rfl rfl)
theorem dX3_comes_54 : decode cX3_comes 54 = .ok (.aload_n 0, 1) := dk_42 (dk_at dksX3_comes_2 8 rfl rfl)
theorem dX3_comes_55 : decode cX3_comes 55 = .ok (.iload_n 1, 1) := dk_27 (dk_at dksX3_comes_2 9 rfl rfl)
theorem dX3_comes_56 : decode cX3_comes 56 = .ok (.bipush 36, 2) := dk_16 36 (dk_at dksX3_comes_2 10 rfl rfl)
theorem dX3_comes_58 : decode cX3_comes 58 = .ok (.iload 5, 2) := dk_21 5 (dk_at dksX3_comes_2 12 rfl rfl)
theorem dX3_comes_60 : decode cX3_comes 60 = .ok (.iadd, 1) := dk_96 (dk_at dksX3_comes_2 14 rfl rfl)
theorem dX3_comes_61 : decode cX3_comes 61 = .ok (.bipush 26, 2) := dk_16 26 (dk_at dksX3_comes_2 15 rfl rfl)
theorem dX3_comes_63 : decode cX3_comes 63 = .ok (.iadd, 1) := dk_96 (dk_at dksX3_comes_2 17 rfl rfl)
theorem dX3_comes_64 : decode cX3_comes 64 = .ok (.aload_n 0, 1) := dk_42 (dk_at dksX3_comes_2 18 rfl rfl)
theorem dX3_comes_65 : decode cX3_comes 65 = .ok (.iload_n 1, 1) := dk_27 (dk_at dksX3_comes_2 19 rfl rfl)
theorem dX3_comes_66 : decode cX3_comes 66 = .ok (.bipush 36, 2) := dk_16 36 (dk_at dksX3_comes_2 20 rfl rfl)
theorem dX3_comes_68 : decode cX3_comes 68 = .ok (.iload 5, 2) := dk_21 5 (dk_at dksX3_comes_2 22 rfl rfl)
theorem dX3_comes_70 : decode cX3_comes 70 = .ok (.iadd, 1) := dk_96 (dk_at dksX3_comes_3 0 rfl rfl)
theorem dX3_comes_71 : decode cX3_comes 71 = .ok (.invokevirtual 59, 3) := dk_182 0 59 (dk_at dksX3_comes_3 1 rfl rfl)
theorem dX3_comes_74 : decode cX3_comes 74 = .ok (.invokevirtual 62, 3) := dk_182 0 62 (dk_at dksX3_comes_3 4 rfl rfl)
theorem dX3_comes_77 : decode cX3_comes 77 = .ok (.iinc 5 (-1), 3) := dk_132 5 255 (dk_at dksX3_comes_3 7 rfl rfl)
theorem dX3_comes_80 : decode cX3_comes 80 = .ok (.goto (-36), 3) := dk_167 255 220 (dk_at dksX3_comes_3 10 rfl rfl)
theorem dX3_comes_83 : decode cX3_comes 83 = .ok (.iconst 0, 1) := dk_3 (dk_at dksX3_comes_3 13 rfl rfl)
theorem dX3_comes_84 : decode cX3_comes 84 = .ok (.istore 5, 2) := dk_54 5 (dk_at dksX3_comes_3 14 rfl rfl)
theorem dX3_comes_86 : decode cX3_comes 86 = .ok (.iload 5, 2) := dk_21 5 (dk_at dksX3_comes_3 16 rfl rfl)
theorem dX3_comes_88 : decode cX3_comes 88 = .ok (.bipush 26, 2) := dk_16 26 (dk_at dksX3_comes_3 18 rfl rfl)
theorem dX3_comes_90 : decode cX3_comes 90 = .ok (.if_icmp .ge 19, 3) := dk_162 0 19 (dk_at dksX3_comes_3 20 rfl rfl)
theorem dX3_comes_93 : decode cX3_comes 93 = .ok (.aload_n 0, 1) := dk_42 (dk_at dksX3_comes_3 23 rfl rfl)
theorem dX3_comes_94 : decode cX3_comes 94 = .ok (.iload_n 1, 1) := dk_27 (dk_at dksX3_comes_4 0 rfl rfl)
theorem dX3_comes_95 : decode cX3_comes 95 = .ok (.iload 4, 2) := dk_21 4 (dk_at dksX3_comes_4 1 rfl rfl)
theorem dX3_comes_97 : decode cX3_comes 97 = .ok (.iload 5, 2) := dk_21 5 (dk_at dksX3_comes_4 3 rfl rfl)
theorem dX3_comes_99 : decode cX3_comes 99 = .ok (.iconst 0, 1) := dk_3 (dk_at dksX3_comes_4 5 rfl rfl)
theorem dX3_comes_100 : decode cX3_comes 100 = .ok (.invokevirtual 125, 3) := dk_182 0 125 (dk_at dksX3_comes_4 6 rfl rfl)
theorem dX3_comes_103 : decode cX3_comes 103 = .ok (.iinc 5 1, 3) := dk_132 5 1 (dk_at dksX3_comes_4 9 rfl rfl)
theorem dX3_comes_106 : decode cX3_comes 106 = .ok (.goto (-20), 3) := dk_167 255 236 (dk_at dksX3_comes_4 12 rfl rfl)
theorem dX3_comes_109 : decode cX3_comes 109 = .ok (.aload_n 0, 1) := dk_42 (dk_at dksX3_comes_4 15 rfl rfl)
theorem dX3_comes_110 : decode cX3_comes 110 = .ok (.iload_n 1, 1) := dk_27 (dk_at dksX3_comes_4 16 rfl rfl)
theorem dX3_comes_111 : decode cX3_comes 111 = .ok (.iload 4, 2) := dk_21 4 (dk_at dksX3_comes_4 17 rfl rfl)
theorem dX3_comes_113 : decode cX3_comes 113 = .ok (.iconst 0, 1) := dk_3 (dk_at dksX3_comes_4 19 rfl rfl)
theorem dX3_comes_114 : decode cX3_comes 114 = .ok (.iload_n 2, 1) := dk_28 (dk_at dksX3_comes_4 20 rfl rfl)
theorem dX3_comes_115 : decode cX3_comes 115 = .ok (.invokevirtual 125, 3) := dk_182 0 125 (dk_at dksX3_comes_4 21 rfl rfl)
theorem dX3_comes_118 : decode cX3_comes 118 = .ok (.aload_n 0, 1) := dk_42 (dk_at dksX3_comes_5 0 rfl rfl)
theorem dX3_comes_119 : decode cX3_comes 119 = .ok (.iload_n 1, 1) := dk_27 (dk_at dksX3_comes_5 1 rfl rfl)
theorem dX3_comes_120 : decode cX3_comes 120 = .ok (.iload 4, 2) := dk_21 4 (dk_at dksX3_comes_5 2 rfl rfl)
theorem dX3_comes_122 : decode cX3_comes 122 = .ok (.iconst 3, 1) := dk_6 (dk_at dksX3_comes_5 4 rfl rfl)
theorem dX3_comes_123 : decode cX3_comes 123 = .ok (.iconst (-1), 1) := dk_2 (dk_at dksX3_comes_5 5 rfl rfl)
theorem dX3_comes_124 : decode cX3_comes 124 = .ok (.invokevirtual 125, 3) := dk_182 0 125 (dk_at dksX3_comes_5 6 rfl rfl)
theorem dX3_comes_127 : decode cX3_comes 127 = .ok (.aload_n 0, 1) := dk_42 (dk_at dksX3_comes_5 9 rfl rfl)
theorem dX3_comes_128 : decode cX3_comes 128 = .ok (.iload_n 1, 1) := dk_27 (dk_at dksX3_comes_5 10 rfl rfl)
theorem dX3_comes_129 : decode cX3_comes 129 = .ok (.iload 4, 2) := dk_21 4 (dk_at dksX3_comes_5 11 rfl rfl)
theorem dX3_comes_131 : decode cX3_comes 131 = .ok (.iconst 4, 1) := dk_7 (dk_at dksX3_comes_5 13 rfl rfl)
theorem dX3_comes_132 : decode cX3_comes 132 = .ok (.iconst (-1), 1) := dk_2 (dk_at dksX3_comes_5 14 rfl rfl)
theorem dX3_comes_133 : decode cX3_comes 133 = .ok (.invokevirtual 125, 3) := dk_182 0 125 (dk_at dksX3_comes_5 15 rfl rfl)
theorem dX3_comes_136 : decode cX3_comes 136 = .ok (.aload_n 0, 1) := dk_42 (dk_at dksX3_comes_5 18 rfl rfl)
theorem dX3_comes_137 : decode cX3_comes 137 = .ok (.iload_n 1, 1) := dk_27 (dk_at dksX3_comes_5 19 rfl rfl)
theorem dX3_comes_138 : decode cX3_comes 138 = .ok (.bipush 35, 2) := dk_16 35 (dk_at dksX3_comes_5 20 rfl rfl)
theorem dX3_comes_140 : decode cX3_comes 140 = .ok (.iload_n 3, 1) := dk_29 (dk_at dksX3_comes_5 22 rfl rfl)
theorem dX3_comes_141 : decode cX3_comes 141 = .ok (.iconst 1, 1) := dk_4 (dk_at dksX3_comes_5 23 rfl rfl)
theorem dX3_comes_142 : decode cX3_comes 142 = .ok (.iadd, 1) := dk_96 (dk_at dksX3_comes_6 0 rfl rfl)
theorem dX3_comes_143 : decode cX3_comes 143 = .ok (.invokevirtual 62, 3) := dk_182 0 62 (dk_at dksX3_comes_6 1 rfl rfl)
theorem dX3_comes_146 : decode cX3_comes 146 = .ok (.return_, 1) := dk_177 (dk_at dksX3_comes_6 4 rfl rfl)
abbrev cX3_letterOf : ByteArray := prog_24_method_12_code
def yX3_letterOf : MethodName := ⟨RX3, "letterOf", "(III)I"⟩
def dkwX3_letterOf_0 : List UInt8 := [42, 27, 16, 36, 16, 26, 28, 104, 96, 29, 96, 182, 0, 59, 172]
abbrev dktX3_letterOf_0 : List UInt8 := dkwX3_letterOf_0 ++ []
theorem dksX3_letterOf_0 : cX3_letterOf.data.toList.drop 0 = dktX3_letterOf_0 := by decide +kernel
theorem dX3_letterOf_0 : decode cX3_letterOf 0 = .ok (.aload_n 0, 1) := dk_42 (dk_at dksX3_letterOf_0 0 rfl rfl)
theorem dX3_letterOf_1 : decode cX3_letterOf 1 = .ok (.iload_n 1, 1) := dk_27 (dk_at dksX3_letterOf_0 1 rfl rfl)
theorem dX3_letterOf_2 : decode cX3_letterOf 2 = .ok (.bipush 36, 2) := dk_16 36 (dk_at dksX3_letterOf_0 2 rfl rfl)
theorem dX3_letterOf_4 : decode cX3_letterOf 4 = .ok (.bipush 26, 2) := dk_16 26 (dk_at dksX3_letterOf_0 4 rfl rfl)
theorem dX3_letterOf_6 : decode cX3_letterOf 6 = .ok (.iload_n 2, 1) := dk_28 (dk_at dksX3_letterOf_0 6 rfl rfl)
theorem dX3_letterOf_7 : decode cX3_letterOf 7 = .ok (.imul, 1) := dk_104 (dk_at dksX3_letterOf_0 7 rfl rfl)
theorem dX3_letterOf_8 : decode cX3_letterOf 8 = .ok (.iadd, 1) := dk_96 (dk_at dksX3_letterOf_0 8 rfl rfl)
theorem dX3_letterOf_9 : decode cX3_letterOf 9 = .ok (.iload_n 3, 1) := dk_29 (dk_at dksX3_letterOf_0 9 rfl rfl)
theorem dX3_letterOf_10 : decode cX3_letterOf 10 = .ok (.iadd, 1) := dk_96 (dk_at dksX3_letterOf_0 10 rfl rfl)
theorem dX3_letterOf_11 : decode cX3_letterOf 11 = .ok (.invokevirtual 59, 3) := dk_182 0 59 (dk_at dksX3_letterOf_0 11 rfl rfl)
theorem dX3_letterOf_14 : decode cX3_letterOf 14 = .ok (.ireturn, 1) := dk_172 (dk_at dksX3_letterOf_0 14 rfl rfl)
abbrev cX3_letterIs : ByteArray := prog_24_method_13_code
def yX3_letterIs : MethodName := ⟨RX3, "letterIs", "(IIII)V"⟩
def dkwX3_letterIs_0 : List UInt8 := [42, 27, 16, 36, 16, 26, 28, 104, 96, 29, 96, 21, 4, 182, 0, 62, 177]
abbrev dktX3_letterIs_0 : List UInt8 := dkwX3_letterIs_0 ++ []
theorem dksX3_letterIs_0 : cX3_letterIs.data.toList.drop 0 = dktX3_letterIs_0 := by decide +kernel
theorem dX3_letterIs_0 : decode cX3_letterIs 0 = .ok (.aload_n 0, 1) := dk_42 (dk_at dksX3_letterIs_0 0 rfl rfl)
theorem dX3_letterIs_1 : decode cX3_letterIs 1 = .ok (.iload_n 1, 1) := dk_27 (dk_at dksX3_letterIs_0 1 rfl rfl)
theorem dX3_letterIs_2 : decode cX3_letterIs 2 = .ok (.bipush 36, 2) := dk_16 36 (dk_at dksX3_letterIs_0 2 rfl rfl)
theorem dX3_letterIs_4 : decode cX3_letterIs 4 = .ok (.bipush 26, 2) := dk_16 26 (dk_at dksX3_letterIs_0 4 rfl rfl)
theorem dX3_letterIs_6 : decode cX3_letterIs 6 = .ok (.iload_n 2, 1) := dk_28 (dk_at dksX3_letterIs_0 6 rfl rfl)
theorem dX3_letterIs_7 : decode cX3_letterIs 7 = .ok (.imul, 1) := dk_104 (dk_at dksX3_letterIs_0 7 rfl rfl)
theorem dX3_letterIs_8 : decode cX3_letterIs 8 = .ok (.iadd, 1) := dk_96 (dk_at dksX3_letterIs_0 8 rfl rfl)
theorem dX3_letterIs_9 : decode cX3_letterIs 9 = .ok (.iload_n 3, 1) := dk_29 (dk_at dksX3_letterIs_0 9 rfl rfl)
theorem dX3_letterIs_10 : decode cX3_letterIs 10 = .ok (.iadd, 1) := dk_96 (dk_at dksX3_letterIs_0 10 rfl rfl)
theorem dX3_letterIs_11 : decode cX3_letterIs 11 = .ok (.iload 4, 2) := dk_21 4 (dk_at dksX3_letterIs_0 11 rfl rfl)
theorem dX3_letterIs_13 : decode cX3_letterIs 13 = .ok (.invokevirtual 62, 3) := dk_182 0 62 (dk_at dksX3_letterIs_0 13 rfl rfl)
theorem dX3_letterIs_16 : decode cX3_letterIs 16 = .ok (.return_, 1) := dk_177 (dk_at dksX3_letterIs_0 16 rfl rfl)
abbrev cX3_give : ByteArray := prog_24_method_41_code
def yX3_give : MethodName := ⟨RX3, "give", "(I)I"⟩
def dkwX3_give_0 : List UInt8 := [42, 27, 182, 0, 122, 153, 0, 11, 42, 27, 182, 0, 172, 167, 0, 9, 42, 16, 174, 182, 0, 75, 172]
abbrev dktX3_give_0 : List UInt8 := dkwX3_give_0 ++ []
theorem dksX3_give_0 : cX3_give.data.toList.drop 0 = dktX3_give_0 := by decide +kernel
theorem dX3_give_0 : decode cX3_give 0 = .ok (.aload_n 0, 1) := dk_42 (dk_at dksX3_give_0 0 rfl rfl)
theorem dX3_give_1 : decode cX3_give 1 = .ok (.iload_n 1, 1) := dk_27 (dk_at dksX3_give_0 1 rfl rfl)
theorem dX3_give_2 : decode cX3_give 2 = .ok (.invokevirtual 122, 3) := dk_182 0 122 (dk_at dksX3_give_0 2 rfl rfl)
theorem dX3_give_5 : decode cX3_give 5 = .ok (.ifCond .eq 11, 3) := dk_153 0 11 (dk_at dksX3_give_0 5 rfl rfl)
theorem dX3_give_8 : decode cX3_give 8 = .ok (.aload_n 0, 1) := dk_42 (dk_at dksX3_give_0 8 rfl rfl)
theorem dX3_give_9 : decode cX3_give 9 = .ok (.iload_n 1, 1) := dk_27 (dk_at dksX3_give_0 9 rfl rfl)
theorem dX3_give_10 : decode cX3_give 10 = .ok (.invokevirtual 172, 3) := dk_182 0 172 (dk_at dksX3_give_0 10 rfl rfl)
theorem dX3_give_13 : decode cX3_give 13 = .ok (.goto 9, 3) := dk_167 0 9 (dk_at dksX3_give_0 13 rfl rfl)
theorem dX3_give_16 : decode cX3_give 16 = .ok (.aload_n 0, 1) := dk_42 (dk_at dksX3_give_0 16 rfl rfl)
theorem dX3_give_17 : decode cX3_give 17 = .ok (.bipush (-82), 2) := dk_16 174 (dk_at dksX3_give_0 17 rfl rfl)
theorem dX3_give_19 : decode cX3_give 19 = .ok (.invokevirtual 75, 3) := dk_182 0 75 (dk_at dksX3_give_0 19 rfl rfl)
theorem dX3_give_22 : decode cX3_give 22 = .ok (.ireturn, 1) := dk_172 (dk_at dksX3_give_0 22 rfl rfl)
abbrev cX3_gives : ByteArray := prog_24_method_40_code
def yX3_gives : MethodName := ⟨RX3, "gives", "(I)I"⟩
def dkwX3_gives_5 : List UInt8 := [182, 0, 62, 42, 27, 28, 3, 182, 0, 66, 172]
abbrev dktX3_gives_5 : List UInt8 := dkwX3_gives_5 ++ []
def dkwX3_gives_4 : List UInt8 := [96, 79, 42, 27, 16, 31, 29, 182, 0, 62, 42, 27, 16, 32, 42, 27, 16, 32, 182, 0, 59, 4, 96]
abbrev dktX3_gives_4 : List UInt8 := dkwX3_gives_4 ++ dktX3_gives_5
def dkwX3_gives_3 : List UInt8 := [104, 96, 4, 96, 92, 46, 4, 100, 79, 42, 180, 0, 9, 16, 11, 7, 29, 104, 96, 6, 96, 92, 46, 4]
abbrev dktX3_gives_3 : List UInt8 := dkwX3_gives_3 ++ dktX3_gives_4
def dkwX3_gives_2 : List UInt8 := [180, 0, 9, 7, 46, 42, 27, 16, 28, 182, 0, 59, 96, 182, 0, 125, 42, 180, 0, 9, 16, 11, 7, 29]
abbrev dktX3_gives_2 : List UInt8 := dkwX3_gives_2 ++ dktX3_gives_3
def dkwX3_gives_1 : List UInt8 := [2, 172, 42, 27, 28, 4, 5, 182, 0, 125, 42, 27, 28, 6, 29, 182, 0, 125, 42, 27, 28, 7, 42]
abbrev dktX3_gives_1 : List UInt8 := dkwX3_gives_1 ++ dktX3_gives_2
def dkwX3_gives_0 : List UInt8 := [42, 27, 182, 0, 166, 61, 28, 156, 0, 7, 2, 167, 0, 8, 42, 27, 182, 0, 169, 62, 29, 156, 0, 5]
abbrev dktX3_gives_0 : List UInt8 := dkwX3_gives_0 ++ dktX3_gives_1
theorem dksX3_gives_0 : cX3_gives.data.toList.drop 0 = dktX3_gives_0 := by decide +kernel
theorem dksX3_gives_1 : cX3_gives.data.toList.drop 24 = dktX3_gives_1 := dk_seg dksX3_gives_0 24 rfl rfl
theorem dksX3_gives_2 : cX3_gives.data.toList.drop 47 = dktX3_gives_2 := dk_seg dksX3_gives_1 23 rfl rfl
theorem dksX3_gives_3 : cX3_gives.data.toList.drop 71 = dktX3_gives_3 := dk_seg dksX3_gives_2 24 rfl rfl
theorem dksX3_gives_4 : cX3_gives.data.toList.drop 95 = dktX3_gives_4 := dk_seg dksX3_gives_3 24 rfl rfl
theorem dksX3_gives_5 : cX3_gives.data.toList.drop 118 = dktX3_gives_5 := dk_seg dksX3_gives_4 23 rfl rfl
theorem dX3_gives_0 : decode cX3_gives 0 = .ok (.aload_n 0, 1) := dk_42 (dk_at dksX3_gives_0 0 rfl rfl)
theorem dX3_gives_1 : decode cX3_gives 1 = .ok (.iload_n 1, 1) := dk_27 (dk_at dksX3_gives_0 1 rfl rfl)
theorem dX3_gives_2 : decode cX3_gives 2 = .ok (.invokevirtual 166, 3) := dk_182 0 166 (dk_at dksX3_gives_0 2 rfl rfl)
theorem dX3_gives_5 : decode cX3_gives 5 = .ok (.istore_n 2, 1) := dk_61 (dk_at dksX3_gives_0 5 rfl rfl)
theorem dX3_gives_6 : decode cX3_gives 6 = .ok (.iload_n 2, 1) := dk_28 (dk_at dksX3_gives_0 6 rfl rfl)
theorem dX3_gives_7 : decode cX3_gives 7 = .ok (.ifCond .ge 7, 3) := dk_156 0 7 (dk_at dksX3_gives_0 7 rfl rfl)
theorem dX3_gives_10 : decode cX3_gives 10 = .ok (.iconst (-1), 1) := dk_2 (dk_at dksX3_gives_0 10 rfl rfl)
theorem dX3_gives_11 : decode cX3_gives 11 = .ok (.goto 8, 3) := dk_167 0 8 (dk_at dksX3_gives_0 11 rfl rfl)
theorem dX3_gives_14 : decode cX3_gives 14 = .ok (.aload_n 0, 1) := dk_42 (dk_at dksX3_gives_0 14 rfl rfl)
theorem dX3_gives_15 : decode cX3_gives 15 = .ok (.iload_n 1, 1) := dk_27 (dk_at dksX3_gives_0 15 rfl rfl)
theorem dX3_gives_16 : decode cX3_gives 16 = .ok (.invokevirtual 169, 3) := dk_182 0 169 (dk_at dksX3_gives_0 16 rfl rfl)
theorem dX3_gives_19 : decode cX3_gives 19 = .ok (.istore_n 3, 1) := dk_62 (dk_at dksX3_gives_0 19 rfl rfl)
theorem dX3_gives_20 : decode cX3_gives 20 = .ok (.iload_n 3, 1) := dk_29 (dk_at dksX3_gives_0 20 rfl rfl)
theorem dX3_gives_21 : decode cX3_gives 21 = .ok (.ifCond .ge 5, 3) := dk_156 0 5 (dk_at dksX3_gives_0 21 rfl rfl)
theorem dX3_gives_24 : decode cX3_gives 24 = .ok (.iconst (-1), 1) := dk_2 (dk_at dksX3_gives_1 0 rfl rfl)
theorem dX3_gives_25 : decode cX3_gives 25 = .ok (.ireturn, 1) := dk_172 (dk_at dksX3_gives_1 1 rfl rfl)
theorem dX3_gives_26 : decode cX3_gives 26 = .ok (.aload_n 0, 1) := dk_42 (dk_at dksX3_gives_1 2 rfl rfl)
theorem dX3_gives_27 : decode cX3_gives 27 = .ok (.iload_n 1, 1) := dk_27 (dk_at dksX3_gives_1 3 rfl rfl)
theorem dX3_gives_28 : decode cX3_gives 28 = .ok (.iload_n 2, 1) := dk_28 (dk_at dksX3_gives_1 4 rfl rfl)
theorem dX3_gives_29 : decode cX3_gives 29 = .ok (.iconst 1, 1) := dk_4 (dk_at dksX3_gives_1 5 rfl rfl)
theorem dX3_gives_30 : decode cX3_gives 30 = .ok (.iconst 2, 1) := dk_5 (dk_at dksX3_gives_1 6 rfl rfl)
theorem dX3_gives_31 : decode cX3_gives 31 = .ok (.invokevirtual 125, 3) := dk_182 0 125 (dk_at dksX3_gives_1 7 rfl rfl)
theorem dX3_gives_34 : decode cX3_gives 34 = .ok (.aload_n 0, 1) := dk_42 (dk_at dksX3_gives_1 10 rfl rfl)
theorem dX3_gives_35 : decode cX3_gives 35 = .ok (.iload_n 1, 1) := dk_27 (dk_at dksX3_gives_1 11 rfl rfl)
theorem dX3_gives_36 : decode cX3_gives 36 = .ok (.iload_n 2, 1) := dk_28 (dk_at dksX3_gives_1 12 rfl rfl)
theorem dX3_gives_37 : decode cX3_gives 37 = .ok (.iconst 3, 1) := dk_6 (dk_at dksX3_gives_1 13 rfl rfl)
theorem dX3_gives_38 : decode cX3_gives 38 = .ok (.iload_n 3, 1) := dk_29 (dk_at dksX3_gives_1 14 rfl rfl)
theorem dX3_gives_39 : decode cX3_gives 39 = .ok (.invokevirtual 125, 3) := dk_182 0 125 (dk_at dksX3_gives_1 15 rfl rfl)
theorem dX3_gives_42 : decode cX3_gives 42 = .ok (.aload_n 0, 1) := dk_42 (dk_at dksX3_gives_1 18 rfl rfl)
theorem dX3_gives_43 : decode cX3_gives 43 = .ok (.iload_n 1, 1) := dk_27 (dk_at dksX3_gives_1 19 rfl rfl)
theorem dX3_gives_44 : decode cX3_gives 44 = .ok (.iload_n 2, 1) := dk_28 (dk_at dksX3_gives_1 20 rfl rfl)
theorem dX3_gives_45 : decode cX3_gives 45 = .ok (.iconst 4, 1) := dk_7 (dk_at dksX3_gives_1 21 rfl rfl)
theorem dX3_gives_46 : decode cX3_gives 46 = .ok (.aload_n 0, 1) := dk_42 (dk_at dksX3_gives_1 22 rfl rfl)
theorem dX3_gives_47 : decode cX3_gives 47 = .ok (.getfield 9, 3) := dk_180 0 9 (dk_at dksX3_gives_2 0 rfl rfl)
theorem dX3_gives_50 : decode cX3_gives 50 = .ok (.iconst 4, 1) := dk_7 (dk_at dksX3_gives_2 3 rfl rfl)
theorem dX3_gives_51 : decode cX3_gives 51 = .ok (.iaload, 1) := dk_46 (dk_at dksX3_gives_2 4 rfl rfl)
theorem dX3_gives_52 : decode cX3_gives 52 = .ok (.aload_n 0, 1) := dk_42 (dk_at dksX3_gives_2 5 rfl rfl)
theorem dX3_gives_53 : decode cX3_gives 53 = .ok (.iload_n 1, 1) := dk_27 (dk_at dksX3_gives_2 6 rfl rfl)
theorem dX3_gives_54 : decode cX3_gives 54 = .ok (.bipush 28, 2) := dk_16 28 (dk_at dksX3_gives_2 7 rfl rfl)
theorem dX3_gives_56 : decode cX3_gives 56 = .ok (.invokevirtual 59, 3) := dk_182 0 59 (dk_at dksX3_gives_2 9 rfl rfl)
theorem dX3_gives_59 : decode cX3_gives 59 = .ok (.iadd, 1) := dk_96 (dk_at dksX3_gives_2 12 rfl rfl)
theorem dX3_gives_60 : decode cX3_gives 60 = .ok (.invokevirtual 125, 3) := dk_182 0 125 (dk_at dksX3_gives_2 13 rfl rfl)
theorem dX3_gives_63 : decode cX3_gives 63 = .ok (.aload_n 0, 1) := dk_42 (dk_at dksX3_gives_2 16 rfl rfl)
theorem dX3_gives_64 : decode cX3_gives 64 = .ok (.getfield 9, 3) := dk_180 0 9 (dk_at dksX3_gives_2 17 rfl rfl)
theorem dX3_gives_67 : decode cX3_gives 67 = .ok (.bipush 11, 2) := dk_16 11 (dk_at dksX3_gives_2 20 rfl rfl)
theorem dX3_gives_69 : decode cX3_gives 69 = .ok (.iconst 4, 1) := dk_7 (dk_at dksX3_gives_2 22 rfl rfl)
theorem dX3_gives_70 : decode cX3_gives 70 = .ok (.iload_n 3, 1) := dk_29 (dk_at dksX3_gives_2 23 rfl rfl)
theorem dX3_gives_71 : decode cX3_gives 71 = .ok (.imul, 1) := dk_104 (dk_at dksX3_gives_3 0 rfl rfl)
theorem dX3_gives_72 : decode cX3_gives 72 = .ok (.iadd, 1) := dk_96 (dk_at dksX3_gives_3 1 rfl rfl)
theorem dX3_gives_73 : decode cX3_gives 73 = .ok (.iconst 1, 1) := dk_4 (dk_at dksX3_gives_3 2 rfl rfl)
theorem dX3_gives_74 : decode cX3_gives 74 = .ok (.iadd, 1) := dk_96 (dk_at dksX3_gives_3 3 rfl rfl)
theorem dX3_gives_75 : decode cX3_gives 75 = .ok (.dup2, 1) := dk_92 (dk_at dksX3_gives_3 4 rfl rfl)
theorem dX3_gives_76 : decode cX3_gives 76 = .ok (.iaload, 1) := dk_46 (dk_at dksX3_gives_3 5 rfl rfl)
theorem dX3_gives_77 : decode cX3_gives 77 = .ok (.iconst 1, 1) := dk_4 (dk_at dksX3_gives_3 6 rfl rfl)
theorem dX3_gives_78 : decode cX3_gives 78 = .ok (.isub, 1) := dk_100 (dk_at dksX3_gives_3 7 rfl rfl)
theorem dX3_gives_79 : decode cX3_gives 79 = .ok (.iastore, 1) := dk_79 (dk_at dksX3_gives_3 8 rfl rfl)
theorem dX3_gives_80 : decode cX3_gives 80 = .ok (.aload_n 0, 1) := dk_42 (dk_at dksX3_gives_3 9 rfl rfl)
theorem dX3_gives_81 : decode cX3_gives 81 = .ok (.getfield 9, 3) := dk_180 0 9 (dk_at dksX3_gives_3 10 rfl rfl)
theorem dX3_gives_84 : decode cX3_gives 84 = .ok (.bipush 11, 2) := dk_16 11 (dk_at dksX3_gives_3 13 rfl rfl)
theorem dX3_gives_86 : decode cX3_gives 86 = .ok (.iconst 4, 1) := dk_7 (dk_at dksX3_gives_3 15 rfl rfl)
theorem dX3_gives_87 : decode cX3_gives 87 = .ok (.iload_n 3, 1) := dk_29 (dk_at dksX3_gives_3 16 rfl rfl)
theorem dX3_gives_88 : decode cX3_gives 88 = .ok (.imul, 1) := dk_104 (dk_at dksX3_gives_3 17 rfl rfl)
theorem dX3_gives_89 : decode cX3_gives 89 = .ok (.iadd, 1) := dk_96 (dk_at dksX3_gives_3 18 rfl rfl)
theorem dX3_gives_90 : decode cX3_gives 90 = .ok (.iconst 3, 1) := dk_6 (dk_at dksX3_gives_3 19 rfl rfl)
theorem dX3_gives_91 : decode cX3_gives 91 = .ok (.iadd, 1) := dk_96 (dk_at dksX3_gives_3 20 rfl rfl)
theorem dX3_gives_92 : decode cX3_gives 92 = .ok (.dup2, 1) := dk_92 (dk_at dksX3_gives_3 21 rfl rfl)
theorem dX3_gives_93 : decode cX3_gives 93 = .ok (.iaload, 1) := dk_46 (dk_at dksX3_gives_3 22 rfl rfl)
theorem dX3_gives_94 : decode cX3_gives 94 = .ok (.iconst 1, 1) := dk_4 (dk_at dksX3_gives_3 23 rfl rfl)
theorem dX3_gives_95 : decode cX3_gives 95 = .ok (.iadd, 1) := dk_96 (dk_at dksX3_gives_4 0 rfl rfl)
theorem dX3_gives_96 : decode cX3_gives 96 = .ok (.iastore, 1) := dk_79 (dk_at dksX3_gives_4 1 rfl rfl)
theorem dX3_gives_97 : decode cX3_gives 97 = .ok (.aload_n 0, 1) := dk_42 (dk_at dksX3_gives_4 2 rfl rfl)
theorem dX3_gives_98 : decode cX3_gives 98 = .ok (.iload_n 1, 1) := dk_27 (dk_at dksX3_gives_4 3 rfl rfl)
theorem dX3_gives_99 : decode cX3_gives 99 = .ok (.bipush 31, 2) := dk_16 31 (dk_at dksX3_gives_4 4 rfl rfl)
theorem dX3_gives_101 : decode cX3_gives 101 = .ok (.iload_n 3, 1) := dk_29 (dk_at dksX3_gives_4 6 rfl rfl)
theorem dX3_gives_102 : decode cX3_gives 102 = .ok (.invokevirtual 62, 3) := dk_182 0 62 (dk_at dksX3_gives_4 7 rfl rfl)
theorem dX3_gives_105 : decode cX3_gives 105 = .ok (.aload_n 0, 1) := dk_42 (dk_at dksX3_gives_4 10 rfl rfl)
theorem dX3_gives_106 : decode cX3_gives 106 = .ok (.iload_n 1, 1) := dk_27 (dk_at dksX3_gives_4 11 rfl rfl)
theorem dX3_gives_107 : decode cX3_gives 107 = .ok (.bipush 32, 2) := dk_16 32 (dk_at dksX3_gives_4 12 rfl rfl)
theorem dX3_gives_109 : decode cX3_gives 109 = .ok (.aload_n 0, 1) := dk_42 (dk_at dksX3_gives_4 14 rfl rfl)
theorem dX3_gives_110 : decode cX3_gives 110 = .ok (.iload_n 1, 1) := dk_27 (dk_at dksX3_gives_4 15 rfl rfl)
theorem dX3_gives_111 : decode cX3_gives 111 = .ok (.bipush 32, 2) := dk_16 32 (dk_at dksX3_gives_4 16 rfl rfl)
theorem dX3_gives_113 : decode cX3_gives 113 = .ok (.invokevirtual 59, 3) := dk_182 0 59 (dk_at dksX3_gives_4 18 rfl rfl)
theorem dX3_gives_116 : decode cX3_gives 116 = .ok (.iconst 1, 1) := dk_4 (dk_at dksX3_gives_4 21 rfl rfl)
theorem dX3_gives_117 : decode cX3_gives 117 = .ok (.iadd, 1) := dk_96 (dk_at dksX3_gives_4 22 rfl rfl)
theorem dX3_gives_118 : decode cX3_gives 118 = .ok (.invokevirtual 62, 3) := dk_182 0 62 (dk_at dksX3_gives_5 0 rfl rfl)
theorem dX3_gives_121 : decode cX3_gives 121 = .ok (.aload_n 0, 1) := dk_42 (dk_at dksX3_gives_5 3 rfl rfl)
theorem dX3_gives_122 : decode cX3_gives 122 = .ok (.iload_n 1, 1) := dk_27 (dk_at dksX3_gives_5 4 rfl rfl)
theorem dX3_gives_123 : decode cX3_gives 123 = .ok (.iload_n 2, 1) := dk_28 (dk_at dksX3_gives_5 5 rfl rfl)
theorem dX3_gives_124 : decode cX3_gives 124 = .ok (.iconst 0, 1) := dk_3 (dk_at dksX3_gives_5 6 rfl rfl)
theorem dX3_gives_125 : decode cX3_gives 125 = .ok (.invokevirtual 66, 3) := dk_182 0 66 (dk_at dksX3_gives_5 7 rfl rfl)
theorem dX3_gives_128 : decode cX3_gives 128 = .ok (.ireturn, 1) := dk_172 (dk_at dksX3_gives_5 10 rfl rfl)
abbrev cX3_nextOf : ByteArray := prog_24_method_38_code
def yX3_nextOf : MethodName := ⟨RX3, "nextOf", "(I)I"⟩
def dkwX3_nextOf_2 : List UInt8 := [182, 0, 66, 16, 6, 182, 0, 70, 164, 0, 5, 29, 61, 132, 3, 1, 167, 255, 198, 28, 172]
abbrev dktX3_nextOf_2 : List UInt8 := dkwX3_nextOf_2 ++ []
def dkwX3_nextOf_1 : List UInt8 := [28, 155, 0, 32, 42, 42, 27, 29, 3, 182, 0, 66, 16, 6, 182, 0, 70, 42, 42, 27, 28, 3]
abbrev dktX3_nextOf_1 : List UInt8 := dkwX3_nextOf_1 ++ dktX3_nextOf_2
def dkwX3_nextOf_0 : List UInt8 := [2, 61, 3, 62, 29, 42, 27, 16, 35, 182, 0, 59, 162, 0, 53, 42, 27, 29, 182, 0, 160, 153, 0, 38]
abbrev dktX3_nextOf_0 : List UInt8 := dkwX3_nextOf_0 ++ dktX3_nextOf_1
theorem dksX3_nextOf_0 : cX3_nextOf.data.toList.drop 0 = dktX3_nextOf_0 := by decide +kernel
theorem dksX3_nextOf_1 : cX3_nextOf.data.toList.drop 24 = dktX3_nextOf_1 := dk_seg dksX3_nextOf_0 24 rfl rfl
theorem dksX3_nextOf_2 : cX3_nextOf.data.toList.drop 46 = dktX3_nextOf_2 := dk_seg dksX3_nextOf_1 22 rfl rfl
theorem dX3_nextOf_0 : decode cX3_nextOf 0 = .ok (.iconst (-1), 1) := dk_2 (dk_at dksX3_nextOf_0 0 rfl rfl)
theorem dX3_nextOf_1 : decode cX3_nextOf 1 = .ok (.istore_n 2, 1) := dk_61 (dk_at dksX3_nextOf_0 1 rfl rfl)
theorem dX3_nextOf_2 : decode cX3_nextOf 2 = .ok (.iconst 0, 1) := dk_3 (dk_at dksX3_nextOf_0 2 rfl rfl)
theorem dX3_nextOf_3 : decode cX3_nextOf 3 = .ok (.istore_n 3, 1) := dk_62 (dk_at dksX3_nextOf_0 3 rfl rfl)
theorem dX3_nextOf_4 : decode cX3_nextOf 4 = .ok (.iload_n 3, 1) := dk_29 (dk_at dksX3_nextOf_0 4 rfl rfl)
theorem dX3_nextOf_5 : decode cX3_nextOf 5 = .ok (.aload_n 0, 1) := dk_42 (dk_at dksX3_nextOf_0 5 rfl rfl)
theorem dX3_nextOf_6 : decode cX3_nextOf 6 = .ok (.iload_n 1, 1) := dk_27 (dk_at dksX3_nextOf_0 6 rfl rfl)
theorem dX3_nextOf_7 : decode cX3_nextOf 7 = .ok (.bipush 35, 2) := dk_16 35 (dk_at dksX3_nextOf_0 7 rfl rfl)
theorem dX3_nextOf_9 : decode cX3_nextOf 9 = .ok (.invokevirtual 59, 3) := dk_182 0 59 (dk_at dksX3_nextOf_0 9 rfl rfl)
theorem dX3_nextOf_12 : decode cX3_nextOf 12 = .ok (.if_icmp .ge 53, 3) := dk_162 0 53 (dk_at dksX3_nextOf_0 12 rfl rfl)
theorem dX3_nextOf_15 : decode cX3_nextOf 15 = .ok (.aload_n 0, 1) := dk_42 (dk_at dksX3_nextOf_0 15 rfl rfl)
theorem dX3_nextOf_16 : decode cX3_nextOf 16 = .ok (.iload_n 1, 1) := dk_27 (dk_at dksX3_nextOf_0 16 rfl rfl)
theorem dX3_nextOf_17 : decode cX3_nextOf 17 = .ok (.iload_n 3, 1) := dk_29 (dk_at dksX3_nextOf_0 17 rfl rfl)
theorem dX3_nextOf_18 : decode cX3_nextOf 18 = .ok (.invokevirtual 160, 3) := dk_182 0 160 (dk_at dksX3_nextOf_0 18 rfl rfl)
theorem dX3_nextOf_21 : decode cX3_nextOf 21 = .ok (.ifCond .eq 38, 3) := dk_153 0 38 (dk_at dksX3_nextOf_0 21 rfl rfl)
theorem dX3_nextOf_24 : decode cX3_nextOf 24 = .ok (.iload_n 2, 1) := dk_28 (dk_at dksX3_nextOf_1 0 rfl rfl)
theorem dX3_nextOf_25 : decode cX3_nextOf 25 = .ok (.ifCond .lt 32, 3) := dk_155 0 32 (dk_at dksX3_nextOf_1 1 rfl rfl)
theorem dX3_nextOf_28 : decode cX3_nextOf 28 = .ok (.aload_n 0, 1) := dk_42 (dk_at dksX3_nextOf_1 4 rfl rfl)
theorem dX3_nextOf_29 : decode cX3_nextOf 29 = .ok (.aload_n 0, 1) := dk_42 (dk_at dksX3_nextOf_1 5 rfl rfl)
theorem dX3_nextOf_30 : decode cX3_nextOf 30 = .ok (.iload_n 1, 1) := dk_27 (dk_at dksX3_nextOf_1 6 rfl rfl)
theorem dX3_nextOf_31 : decode cX3_nextOf 31 = .ok (.iload_n 3, 1) := dk_29 (dk_at dksX3_nextOf_1 7 rfl rfl)
theorem dX3_nextOf_32 : decode cX3_nextOf 32 = .ok (.iconst 0, 1) := dk_3 (dk_at dksX3_nextOf_1 8 rfl rfl)
theorem dX3_nextOf_33 : decode cX3_nextOf 33 = .ok (.invokevirtual 66, 3) := dk_182 0 66 (dk_at dksX3_nextOf_1 9 rfl rfl)
theorem dX3_nextOf_36 : decode cX3_nextOf 36 = .ok (.bipush 6, 2) := dk_16 6 (dk_at dksX3_nextOf_1 12 rfl rfl)
theorem dX3_nextOf_38 : decode cX3_nextOf 38 = .ok (.invokevirtual 70, 3) := dk_182 0 70 (dk_at dksX3_nextOf_1 14 rfl rfl)
theorem dX3_nextOf_41 : decode cX3_nextOf 41 = .ok (.aload_n 0, 1) := dk_42 (dk_at dksX3_nextOf_1 17 rfl rfl)
theorem dX3_nextOf_42 : decode cX3_nextOf 42 = .ok (.aload_n 0, 1) := dk_42 (dk_at dksX3_nextOf_1 18 rfl rfl)
theorem dX3_nextOf_43 : decode cX3_nextOf 43 = .ok (.iload_n 1, 1) := dk_27 (dk_at dksX3_nextOf_1 19 rfl rfl)
theorem dX3_nextOf_44 : decode cX3_nextOf 44 = .ok (.iload_n 2, 1) := dk_28 (dk_at dksX3_nextOf_1 20 rfl rfl)
theorem dX3_nextOf_45 : decode cX3_nextOf 45 = .ok (.iconst 0, 1) := dk_3 (dk_at dksX3_nextOf_1 21 rfl rfl)
theorem dX3_nextOf_46 : decode cX3_nextOf 46 = .ok (.invokevirtual 66, 3) := dk_182 0 66 (dk_at dksX3_nextOf_2 0 rfl rfl)
theorem dX3_nextOf_49 : decode cX3_nextOf 49 = .ok (.bipush 6, 2) := dk_16 6 (dk_at dksX3_nextOf_2 3 rfl rfl)
theorem dX3_nextOf_51 : decode cX3_nextOf 51 = .ok (.invokevirtual 70, 3) := dk_182 0 70 (dk_at dksX3_nextOf_2 5 rfl rfl)
theorem dX3_nextOf_54 : decode cX3_nextOf 54 = .ok (.if_icmp .le 5, 3) := dk_164 0 5 (dk_at dksX3_nextOf_2 8 rfl rfl)
theorem dX3_nextOf_57 : decode cX3_nextOf 57 = .ok (.iload_n 3, 1) := dk_29 (dk_at dksX3_nextOf_2 11 rfl rfl)
theorem dX3_nextOf_58 : decode cX3_nextOf 58 = .ok (.istore_n 2, 1) := dk_61 (dk_at dksX3_nextOf_2 12 rfl rfl)
theorem dX3_nextOf_59 : decode cX3_nextOf 59 = .ok (.iinc 3 1, 3) := dk_132 3 1 (dk_at dksX3_nextOf_2 13 rfl rfl)
theorem dX3_nextOf_62 : decode cX3_nextOf 62 = .ok (.goto (-58), 3) := dk_167 255 198 (dk_at dksX3_nextOf_2 16 rfl rfl)
theorem dX3_nextOf_65 : decode cX3_nextOf 65 = .ok (.iload_n 2, 1) := dk_28 (dk_at dksX3_nextOf_2 19 rfl rfl)
theorem dX3_nextOf_66 : decode cX3_nextOf 66 = .ok (.ireturn, 1) := dk_172 (dk_at dksX3_nextOf_2 20 rfl rfl)
abbrev cX3_may : ByteArray := prog_24_method_37_code
def yX3_may : MethodName := ⟨RX3, "may", "(II)Z"⟩
def dkwX3_may_1 : List UInt8 := [182, 0, 157, 42, 27, 28, 182, 0, 157, 160, 0, 5, 3, 172, 132, 3, 1, 167, 255, 231, 4, 172]
abbrev dktX3_may_1 : List UInt8 := dkwX3_may_1 ++ []
def dkwX3_may_0 : List UInt8 := [42, 27, 28, 4, 182, 0, 66, 153, 0, 5, 3, 172, 3, 62, 29, 28, 162, 0, 26, 42, 27, 29]
abbrev dktX3_may_0 : List UInt8 := dkwX3_may_0 ++ dktX3_may_1
theorem dksX3_may_0 : cX3_may.data.toList.drop 0 = dktX3_may_0 := by decide +kernel
theorem dksX3_may_1 : cX3_may.data.toList.drop 22 = dktX3_may_1 := dk_seg dksX3_may_0 22 rfl rfl
theorem dX3_may_0 : decode cX3_may 0 = .ok (.aload_n 0, 1) := dk_42 (dk_at dksX3_may_0 0 rfl rfl)
theorem dX3_may_1 : decode cX3_may 1 = .ok (.iload_n 1, 1) := dk_27 (dk_at dksX3_may_0 1 rfl rfl)
theorem dX3_may_2 : decode cX3_may 2 = .ok (.iload_n 2, 1) := dk_28 (dk_at dksX3_may_0 2 rfl rfl)
theorem dX3_may_3 : decode cX3_may 3 = .ok (.iconst 1, 1) := dk_4 (dk_at dksX3_may_0 3 rfl rfl)
theorem dX3_may_4 : decode cX3_may 4 = .ok (.invokevirtual 66, 3) := dk_182 0 66 (dk_at dksX3_may_0 4 rfl rfl)
theorem dX3_may_7 : decode cX3_may 7 = .ok (.ifCond .eq 5, 3) := dk_153 0 5 (dk_at dksX3_may_0 7 rfl rfl)
theorem dX3_may_10 : decode cX3_may 10 = .ok (.iconst 0, 1) := dk_3 (dk_at dksX3_may_0 10 rfl rfl)
theorem dX3_may_11 : decode cX3_may 11 = .ok (.ireturn, 1) := dk_172 (dk_at dksX3_may_0 11 rfl rfl)
theorem dX3_may_12 : decode cX3_may 12 = .ok (.iconst 0, 1) := dk_3 (dk_at dksX3_may_0 12 rfl rfl)
theorem dX3_may_13 : decode cX3_may 13 = .ok (.istore_n 3, 1) := dk_62 (dk_at dksX3_may_0 13 rfl rfl)
theorem dX3_may_14 : decode cX3_may 14 = .ok (.iload_n 3, 1) := dk_29 (dk_at dksX3_may_0 14 rfl rfl)
theorem dX3_may_15 : decode cX3_may 15 = .ok (.iload_n 2, 1) := dk_28 (dk_at dksX3_may_0 15 rfl rfl)
theorem dX3_may_16 : decode cX3_may 16 = .ok (.if_icmp .ge 26, 3) := dk_162 0 26 (dk_at dksX3_may_0 16 rfl rfl)
theorem dX3_may_19 : decode cX3_may 19 = .ok (.aload_n 0, 1) := dk_42 (dk_at dksX3_may_0 19 rfl rfl)
theorem dX3_may_20 : decode cX3_may 20 = .ok (.iload_n 1, 1) := dk_27 (dk_at dksX3_may_0 20 rfl rfl)
theorem dX3_may_21 : decode cX3_may 21 = .ok (.iload_n 3, 1) := dk_29 (dk_at dksX3_may_0 21 rfl rfl)
theorem dX3_may_22 : decode cX3_may 22 = .ok (.invokevirtual 157, 3) := dk_182 0 157 (dk_at dksX3_may_1 0 rfl rfl)
theorem dX3_may_25 : decode cX3_may 25 = .ok (.aload_n 0, 1) := dk_42 (dk_at dksX3_may_1 3 rfl rfl)
theorem dX3_may_26 : decode cX3_may 26 = .ok (.iload_n 1, 1) := dk_27 (dk_at dksX3_may_1 4 rfl rfl)
theorem dX3_may_27 : decode cX3_may 27 = .ok (.iload_n 2, 1) := dk_28 (dk_at dksX3_may_1 5 rfl rfl)
theorem dX3_may_28 : decode cX3_may 28 = .ok (.invokevirtual 157, 3) := dk_182 0 157 (dk_at dksX3_may_1 6 rfl rfl)
theorem dX3_may_31 : decode cX3_may 31 = .ok (.if_icmp .ne 5, 3) := dk_160 0 5 (dk_at dksX3_may_1 9 rfl rfl)
theorem dX3_may_34 : decode cX3_may 34 = .ok (.iconst 0, 1) := dk_3 (dk_at dksX3_may_1 12 rfl rfl)
theorem dX3_may_35 : decode cX3_may 35 = .ok (.ireturn, 1) := dk_172 (dk_at dksX3_may_1 13 rfl rfl)
theorem dX3_may_36 : decode cX3_may 36 = .ok (.iinc 3 1, 3) := dk_132 3 1 (dk_at dksX3_may_1 14 rfl rfl)
theorem dX3_may_39 : decode cX3_may 39 = .ok (.goto (-25), 3) := dk_167 255 231 (dk_at dksX3_may_1 17 rfl rfl)
theorem dX3_may_42 : decode cX3_may 42 = .ok (.iconst 1, 1) := dk_4 (dk_at dksX3_may_1 20 rfl rfl)
theorem dX3_may_43 : decode cX3_may 43 = .ok (.ireturn, 1) := dk_172 (dk_at dksX3_may_1 21 rfl rfl)
abbrev cX3_keyOf : ByteArray := prog_24_method_14_code
def yX3_keyOf : MethodName := ⟨RX3, "keyOf", "(II)I"⟩
def dkwX3_keyOf_0 : List UInt8 := [42, 42, 27, 28, 3, 182, 0, 66, 8, 182, 0, 70, 172]
abbrev dktX3_keyOf_0 : List UInt8 := dkwX3_keyOf_0 ++ []
theorem dksX3_keyOf_0 : cX3_keyOf.data.toList.drop 0 = dktX3_keyOf_0 := by decide +kernel
theorem dX3_keyOf_0 : decode cX3_keyOf 0 = .ok (.aload_n 0, 1) := dk_42 (dk_at dksX3_keyOf_0 0 rfl rfl)
theorem dX3_keyOf_1 : decode cX3_keyOf 1 = .ok (.aload_n 0, 1) := dk_42 (dk_at dksX3_keyOf_0 1 rfl rfl)
theorem dX3_keyOf_2 : decode cX3_keyOf 2 = .ok (.iload_n 1, 1) := dk_27 (dk_at dksX3_keyOf_0 2 rfl rfl)
theorem dX3_keyOf_3 : decode cX3_keyOf 3 = .ok (.iload_n 2, 1) := dk_28 (dk_at dksX3_keyOf_0 3 rfl rfl)
theorem dX3_keyOf_4 : decode cX3_keyOf 4 = .ok (.iconst 0, 1) := dk_3 (dk_at dksX3_keyOf_0 4 rfl rfl)
theorem dX3_keyOf_5 : decode cX3_keyOf 5 = .ok (.invokevirtual 66, 3) := dk_182 0 66 (dk_at dksX3_keyOf_0 5 rfl rfl)
theorem dX3_keyOf_8 : decode cX3_keyOf 8 = .ok (.iconst 5, 1) := dk_8 (dk_at dksX3_keyOf_0 8 rfl rfl)
theorem dX3_keyOf_9 : decode cX3_keyOf 9 = .ok (.invokevirtual 70, 3) := dk_182 0 70 (dk_at dksX3_keyOf_0 9 rfl rfl)
theorem dX3_keyOf_12 : decode cX3_keyOf 12 = .ok (.ireturn, 1) := dk_172 (dk_at dksX3_keyOf_0 12 rfl rfl)
abbrev cX3_message : ByteArray := prog_24_method_11_code
def yX3_message : MethodName := ⟨RX3, "message", "(II)I"⟩
def dkwX3_message_0 : List UInt8 := [42, 180, 0, 9, 16, 51, 16, 9, 27, 104, 96, 28, 96, 46, 172]
abbrev dktX3_message_0 : List UInt8 := dkwX3_message_0 ++ []
theorem dksX3_message_0 : cX3_message.data.toList.drop 0 = dktX3_message_0 := by decide +kernel
theorem dX3_message_0 : decode cX3_message 0 = .ok (.aload_n 0, 1) := dk_42 (dk_at dksX3_message_0 0 rfl rfl)
theorem dX3_message_1 : decode cX3_message 1 = .ok (.getfield 9, 3) := dk_180 0 9 (dk_at dksX3_message_0 1 rfl rfl)
theorem dX3_message_4 : decode cX3_message 4 = .ok (.bipush 51, 2) := dk_16 51 (dk_at dksX3_message_0 4 rfl rfl)
theorem dX3_message_6 : decode cX3_message 6 = .ok (.bipush 9, 2) := dk_16 9 (dk_at dksX3_message_0 6 rfl rfl)
theorem dX3_message_8 : decode cX3_message 8 = .ok (.iload_n 1, 1) := dk_27 (dk_at dksX3_message_0 8 rfl rfl)
theorem dX3_message_9 : decode cX3_message 9 = .ok (.imul, 1) := dk_104 (dk_at dksX3_message_0 9 rfl rfl)
theorem dX3_message_10 : decode cX3_message 10 = .ok (.iadd, 1) := dk_96 (dk_at dksX3_message_0 10 rfl rfl)
theorem dX3_message_11 : decode cX3_message 11 = .ok (.iload_n 2, 1) := dk_28 (dk_at dksX3_message_0 11 rfl rfl)
theorem dX3_message_12 : decode cX3_message 12 = .ok (.iadd, 1) := dk_96 (dk_at dksX3_message_0 12 rfl rfl)
theorem dX3_message_13 : decode cX3_message 13 = .ok (.iaload, 1) := dk_46 (dk_at dksX3_message_0 13 rfl rfl)
theorem dX3_message_14 : decode cX3_message 14 = .ok (.ireturn, 1) := dk_172 (dk_at dksX3_message_0 14 rfl rfl)
abbrev cX3_who : ByteArray := prog_24_method_39_code
def yX3_who : MethodName := ⟨RX3, "who", "(I)I"⟩
def dkwX3_who_5 : List UInt8 := [158, 0, 5, 29, 172, 132, 2, 1, 167, 255, 197, 2, 172]
abbrev dktX3_who_5 : List UInt8 := dkwX3_who_5 ++ []
def dkwX3_who_4 : List UInt8 := [182, 0, 163, 153, 0, 24, 42, 29, 3, 182, 0, 55, 27, 160, 0, 14, 42, 29, 4, 182, 0, 55]
abbrev dktX3_who_4 : List UInt8 := dkwX3_who_4 ++ dktX3_who_5
def dkwX3_who_3 : List UInt8 := [4, 46, 163, 0, 55, 42, 27, 16, 31, 182, 0, 59, 28, 96, 42, 180, 0, 9, 4, 46, 112, 62, 42, 29]
abbrev dktX3_who_3 : List UInt8 := dkwX3_who_3 ++ dktX3_who_4
def dkwX3_who_2 : List UInt8 := [158, 0, 7, 28, 167, 0, 4, 2, 172, 132, 2, 1, 167, 255, 210, 2, 172, 4, 61, 28, 42, 180, 0, 9]
abbrev dktX3_who_2 : List UInt8 := dkwX3_who_2 ++ dktX3_who_3
def dkwX3_who_1 : List UInt8 := [28, 182, 0, 163, 153, 0, 28, 42, 28, 3, 182, 0, 55, 27, 160, 0, 18, 42, 28, 4, 182, 0, 55]
abbrev dktX3_who_1 : List UInt8 := dkwX3_who_1 ++ dktX3_who_2
def dkwX3_who_0 : List UInt8 := [42, 27, 16, 30, 182, 0, 59, 4, 160, 0, 56, 3, 61, 28, 42, 180, 0, 9, 4, 46, 162, 0, 42, 42]
abbrev dktX3_who_0 : List UInt8 := dkwX3_who_0 ++ dktX3_who_1
theorem dksX3_who_0 : cX3_who.data.toList.drop 0 = dktX3_who_0 := by decide +kernel
theorem dksX3_who_1 : cX3_who.data.toList.drop 24 = dktX3_who_1 := dk_seg dksX3_who_0 24 rfl rfl
theorem dksX3_who_2 : cX3_who.data.toList.drop 47 = dktX3_who_2 := dk_seg dksX3_who_1 23 rfl rfl
theorem dksX3_who_3 : cX3_who.data.toList.drop 71 = dktX3_who_3 := dk_seg dksX3_who_2 24 rfl rfl
theorem dksX3_who_4 : cX3_who.data.toList.drop 95 = dktX3_who_4 := dk_seg dksX3_who_3 24 rfl rfl
theorem dksX3_who_5 : cX3_who.data.toList.drop 117 = dktX3_who_5 := dk_seg dksX3_who_4 22 rfl rfl
theorem dX3_who_0 : decode cX3_who 0 = .ok (.aload_n 0, 1) := dk_42 (dk_at dksX3_who_0 0 rfl rfl)
theorem dX3_who_1 : decode cX3_who 1 = .ok (.iload_n 1, 1) := dk_27 (dk_at dksX3_who_0 1 rfl rfl)
theorem dX3_who_2 : decode cX3_who 2 = .ok (.bipush 30, 2) := dk_16 30 (dk_at dksX3_who_0 2 rfl rfl)
theorem dX3_who_4 : decode cX3_who 4 = .ok (.invokevirtual 59, 3) := dk_182 0 59 (dk_at dksX3_who_0 4 rfl rfl)
theorem dX3_who_7 : decode cX3_who 7 = .ok (.iconst 1, 1) := dk_4 (dk_at dksX3_who_0 7 rfl rfl)
theorem dX3_who_8 : decode cX3_who 8 = .ok (.if_icmp .ne 56, 3) := dk_160 0 56 (dk_at dksX3_who_0 8 rfl rfl)
theorem dX3_who_11 : decode cX3_who 11 = .ok (.iconst 0, 1) := dk_3 (dk_at dksX3_who_0 11 rfl rfl)
theorem dX3_who_12 : decode cX3_who 12 = .ok (.istore_n 2, 1) := dk_61 (dk_at dksX3_who_0 12 rfl rfl)
theorem dX3_who_13 : decode cX3_who 13 = .ok (.iload_n 2, 1) := dk_28 (dk_at dksX3_who_0 13 rfl rfl)
theorem dX3_who_14 : decode cX3_who 14 = .ok (.aload_n 0, 1) := dk_42 (dk_at dksX3_who_0 14 rfl rfl)
theorem dX3_who_15 : decode cX3_who 15 = .ok (.getfield 9, 3) := dk_180 0 9 (dk_at dksX3_who_0 15 rfl rfl)
theorem dX3_who_18 : decode cX3_who 18 = .ok (.iconst 1, 1) := dk_4 (dk_at dksX3_who_0 18 rfl rfl)
theorem dX3_who_19 : decode cX3_who 19 = .ok (.iaload, 1) := dk_46 (dk_at dksX3_who_0 19 rfl rfl)
theorem dX3_who_20 : decode cX3_who 20 = .ok (.if_icmp .ge 42, 3) := dk_162 0 42 (dk_at dksX3_who_0 20 rfl rfl)
theorem dX3_who_23 : decode cX3_who 23 = .ok (.aload_n 0, 1) := dk_42 (dk_at dksX3_who_0 23 rfl rfl)
theorem dX3_who_24 : decode cX3_who 24 = .ok (.iload_n 2, 1) := dk_28 (dk_at dksX3_who_1 0 rfl rfl)
theorem dX3_who_25 : decode cX3_who 25 = .ok (.invokevirtual 163, 3) := dk_182 0 163 (dk_at dksX3_who_1 1 rfl rfl)
theorem dX3_who_28 : decode cX3_who 28 = .ok (.ifCond .eq 28, 3) := dk_153 0 28 (dk_at dksX3_who_1 4 rfl rfl)
theorem dX3_who_31 : decode cX3_who 31 = .ok (.aload_n 0, 1) := dk_42 (dk_at dksX3_who_1 7 rfl rfl)
theorem dX3_who_32 : decode cX3_who 32 = .ok (.iload_n 2, 1) := dk_28 (dk_at dksX3_who_1 8 rfl rfl)
theorem dX3_who_33 : decode cX3_who 33 = .ok (.iconst 0, 1) := dk_3 (dk_at dksX3_who_1 9 rfl rfl)
theorem dX3_who_34 : decode cX3_who 34 = .ok (.invokevirtual 55, 3) := dk_182 0 55 (dk_at dksX3_who_1 10 rfl rfl)
theorem dX3_who_37 : decode cX3_who 37 = .ok (.iload_n 1, 1) := dk_27 (dk_at dksX3_who_1 13 rfl rfl)
theorem dX3_who_38 : decode cX3_who 38 = .ok (.if_icmp .ne 18, 3) := dk_160 0 18 (dk_at dksX3_who_1 14 rfl rfl)
theorem dX3_who_41 : decode cX3_who 41 = .ok (.aload_n 0, 1) := dk_42 (dk_at dksX3_who_1 17 rfl rfl)
theorem dX3_who_42 : decode cX3_who 42 = .ok (.iload_n 2, 1) := dk_28 (dk_at dksX3_who_1 18 rfl rfl)
theorem dX3_who_43 : decode cX3_who 43 = .ok (.iconst 1, 1) := dk_4 (dk_at dksX3_who_1 19 rfl rfl)
theorem dX3_who_44 : decode cX3_who 44 = .ok (.invokevirtual 55, 3) := dk_182 0 55 (dk_at dksX3_who_1 20 rfl rfl)
theorem dX3_who_47 : decode cX3_who 47 = .ok (.ifCond .le 7, 3) := dk_158 0 7 (dk_at dksX3_who_2 0 rfl rfl)
theorem dX3_who_50 : decode cX3_who 50 = .ok (.iload_n 2, 1) := dk_28 (dk_at dksX3_who_2 3 rfl rfl)
theorem dX3_who_51 : decode cX3_who 51 = .ok (.goto 4, 3) := dk_167 0 4 (dk_at dksX3_who_2 4 rfl rfl)
theorem dX3_who_54 : decode cX3_who 54 = .ok (.iconst (-1), 1) := dk_2 (dk_at dksX3_who_2 7 rfl rfl)
theorem dX3_who_55 : decode cX3_who 55 = .ok (.ireturn, 1) := dk_172 (dk_at dksX3_who_2 8 rfl rfl)
theorem dX3_who_56 : decode cX3_who 56 = .ok (.iinc 2 1, 3) := dk_132 2 1 (dk_at dksX3_who_2 9 rfl rfl)
theorem dX3_who_59 : decode cX3_who 59 = .ok (.goto (-46), 3) := dk_167 255 210 (dk_at dksX3_who_2 12 rfl rfl)
theorem dX3_who_62 : decode cX3_who 62 = .ok (.iconst (-1), 1) := dk_2 (dk_at dksX3_who_2 15 rfl rfl)
theorem dX3_who_63 : decode cX3_who 63 = .ok (.ireturn, 1) := dk_172 (dk_at dksX3_who_2 16 rfl rfl)
theorem dX3_who_64 : decode cX3_who 64 = .ok (.iconst 1, 1) := dk_4 (dk_at dksX3_who_2 17 rfl rfl)
theorem dX3_who_65 : decode cX3_who 65 = .ok (.istore_n 2, 1) := dk_61 (dk_at dksX3_who_2 18 rfl rfl)
theorem dX3_who_66 : decode cX3_who 66 = .ok (.iload_n 2, 1) := dk_28 (dk_at dksX3_who_2 19 rfl rfl)
theorem dX3_who_67 : decode cX3_who 67 = .ok (.aload_n 0, 1) := dk_42 (dk_at dksX3_who_2 20 rfl rfl)
theorem dX3_who_68 : decode cX3_who 68 = .ok (.getfield 9, 3) := dk_180 0 9 (dk_at dksX3_who_2 21 rfl rfl)
theorem dX3_who_71 : decode cX3_who 71 = .ok (.iconst 1, 1) := dk_4 (dk_at dksX3_who_3 0 rfl rfl)
theorem dX3_who_72 : decode cX3_who 72 = .ok (.iaload, 1) := dk_46 (dk_at dksX3_who_3 1 rfl rfl)
theorem dX3_who_73 : decode cX3_who 73 = .ok (.if_icmp .gt 55, 3) := dk_163 0 55 (dk_at dksX3_who_3 2 rfl rfl)
theorem dX3_who_76 : decode cX3_who 76 = .ok (.aload_n 0, 1) := dk_42 (dk_at dksX3_who_3 5 rfl rfl)
theorem dX3_who_77 : decode cX3_who 77 = .ok (.iload_n 1, 1) := dk_27 (dk_at dksX3_who_3 6 rfl rfl)
theorem dX3_who_78 : decode cX3_who 78 = .ok (.bipush 31, 2) := dk_16 31 (dk_at dksX3_who_3 7 rfl rfl)
theorem dX3_who_80 : decode cX3_who 80 = .ok (.invokevirtual 59, 3) := dk_182 0 59 (dk_at dksX3_who_3 9 rfl rfl)
theorem dX3_who_83 : decode cX3_who 83 = .ok (.iload_n 2, 1) := dk_28 (dk_at dksX3_who_3 12 rfl rfl)
theorem dX3_who_84 : decode cX3_who 84 = .ok (.iadd, 1) := dk_96 (dk_at dksX3_who_3 13 rfl rfl)
theorem dX3_who_85 : decode cX3_who 85 = .ok (.aload_n 0, 1) := dk_42 (dk_at dksX3_who_3 14 rfl rfl)
theorem dX3_who_86 : decode cX3_who 86 = .ok (.getfield 9, 3) := dk_180 0 9 (dk_at dksX3_who_3 15 rfl rfl)
theorem dX3_who_89 : decode cX3_who 89 = .ok (.iconst 1, 1) := dk_4 (dk_at dksX3_who_3 18 rfl rfl)
theorem dX3_who_90 : decode cX3_who 90 = .ok (.iaload, 1) := dk_46 (dk_at dksX3_who_3 19 rfl rfl)
theorem dX3_who_91 : decode cX3_who 91 = .ok (.irem, 1) := dk_112 (dk_at dksX3_who_3 20 rfl rfl)
theorem dX3_who_92 : decode cX3_who 92 = .ok (.istore_n 3, 1) := dk_62 (dk_at dksX3_who_3 21 rfl rfl)
theorem dX3_who_93 : decode cX3_who 93 = .ok (.aload_n 0, 1) := dk_42 (dk_at dksX3_who_3 22 rfl rfl)
theorem dX3_who_94 : decode cX3_who 94 = .ok (.iload_n 3, 1) := dk_29 (dk_at dksX3_who_3 23 rfl rfl)
theorem dX3_who_95 : decode cX3_who 95 = .ok (.invokevirtual 163, 3) := dk_182 0 163 (dk_at dksX3_who_4 0 rfl rfl)
theorem dX3_who_98 : decode cX3_who 98 = .ok (.ifCond .eq 24, 3) := dk_153 0 24 (dk_at dksX3_who_4 3 rfl rfl)
theorem dX3_who_101 : decode cX3_who 101 = .ok (.aload_n 0, 1) := dk_42 (dk_at dksX3_who_4 6 rfl rfl)
theorem dX3_who_102 : decode cX3_who 102 = .ok (.iload_n 3, 1) := dk_29 (dk_at dksX3_who_4 7 rfl rfl)
theorem dX3_who_103 : decode cX3_who 103 = .ok (.iconst 0, 1) := dk_3 (dk_at dksX3_who_4 8 rfl rfl)
theorem dX3_who_104 : decode cX3_who 104 = .ok (.invokevirtual 55, 3) := dk_182 0 55 (dk_at dksX3_who_4 9 rfl rfl)
theorem dX3_who_107 : decode cX3_who 107 = .ok (.iload_n 1, 1) := dk_27 (dk_at dksX3_who_4 12 rfl rfl)
theorem dX3_who_108 : decode cX3_who 108 = .ok (.if_icmp .ne 14, 3) := dk_160 0 14 (dk_at dksX3_who_4 13 rfl rfl)
theorem dX3_who_111 : decode cX3_who 111 = .ok (.aload_n 0, 1) := dk_42 (dk_at dksX3_who_4 16 rfl rfl)
theorem dX3_who_112 : decode cX3_who 112 = .ok (.iload_n 3, 1) := dk_29 (dk_at dksX3_who_4 17 rfl rfl)
theorem dX3_who_113 : decode cX3_who 113 = .ok (.iconst 1, 1) := dk_4 (dk_at dksX3_who_4 18 rfl rfl)
theorem dX3_who_114 : decode cX3_who 114 = .ok (.invokevirtual 55, 3) := dk_182 0 55 (dk_at dksX3_who_4 19 rfl rfl)
theorem dX3_who_117 : decode cX3_who 117 = .ok (.ifCond .le 5, 3) := dk_158 0 5 (dk_at dksX3_who_5 0 rfl rfl)
theorem dX3_who_120 : decode cX3_who 120 = .ok (.iload_n 3, 1) := dk_29 (dk_at dksX3_who_5 3 rfl rfl)
theorem dX3_who_121 : decode cX3_who 121 = .ok (.ireturn, 1) := dk_172 (dk_at dksX3_who_5 4 rfl rfl)
theorem dX3_who_122 : decode cX3_who 122 = .ok (.iinc 2 1, 3) := dk_132 2 1 (dk_at dksX3_who_5 5 rfl rfl)
theorem dX3_who_125 : decode cX3_who 125 = .ok (.goto (-59), 3) := dk_167 255 197 (dk_at dksX3_who_5 8 rfl rfl)
theorem dX3_who_128 : decode cX3_who 128 = .ok (.iconst (-1), 1) := dk_2 (dk_at dksX3_who_5 11 rfl rfl)
theorem dX3_who_129 : decode cX3_who 129 = .ok (.ireturn, 1) := dk_172 (dk_at dksX3_who_5 12 rfl rfl)
abbrev cX3_isHere : ByteArray := prog_24_method_10_code
def yX3_isHere : MethodName := ⟨RX3, "isHere", "(I)Z"⟩
def dkwX3_isHere_0 : List UInt8 := [42, 27, 182, 0, 51, 153, 0, 16, 42, 27, 5, 182, 0, 55, 154, 0, 7, 4, 167, 0, 4, 3, 172]
abbrev dktX3_isHere_0 : List UInt8 := dkwX3_isHere_0 ++ []
theorem dksX3_isHere_0 : cX3_isHere.data.toList.drop 0 = dktX3_isHere_0 := by decide +kernel
theorem dX3_isHere_0 : decode cX3_isHere 0 = .ok (.aload_n 0, 1) := dk_42 (dk_at dksX3_isHere_0 0 rfl rfl)
theorem dX3_isHere_1 : decode cX3_isHere 1 = .ok (.iload_n 1, 1) := dk_27 (dk_at dksX3_isHere_0 1 rfl rfl)
theorem dX3_isHere_2 : decode cX3_isHere 2 = .ok (.invokevirtual 51, 3) := dk_182 0 51 (dk_at dksX3_isHere_0 2 rfl rfl)
theorem dX3_isHere_5 : decode cX3_isHere 5 = .ok (.ifCond .eq 16, 3) := dk_153 0 16 (dk_at dksX3_isHere_0 5 rfl rfl)
theorem dX3_isHere_8 : decode cX3_isHere 8 = .ok (.aload_n 0, 1) := dk_42 (dk_at dksX3_isHere_0 8 rfl rfl)
theorem dX3_isHere_9 : decode cX3_isHere 9 = .ok (.iload_n 1, 1) := dk_27 (dk_at dksX3_isHere_0 9 rfl rfl)
theorem dX3_isHere_10 : decode cX3_isHere 10 = .ok (.iconst 2, 1) := dk_5 (dk_at dksX3_isHere_0 10 rfl rfl)
theorem dX3_isHere_11 : decode cX3_isHere 11 = .ok (.invokevirtual 55, 3) := dk_182 0 55 (dk_at dksX3_isHere_0 11 rfl rfl)
theorem dX3_isHere_14 : decode cX3_isHere 14 = .ok (.ifCond .ne 7, 3) := dk_154 0 7 (dk_at dksX3_isHere_0 14 rfl rfl)
theorem dX3_isHere_17 : decode cX3_isHere 17 = .ok (.iconst 1, 1) := dk_4 (dk_at dksX3_isHere_0 17 rfl rfl)
theorem dX3_isHere_18 : decode cX3_isHere 18 = .ok (.goto 4, 3) := dk_167 0 4 (dk_at dksX3_isHere_0 18 rfl rfl)
theorem dX3_isHere_21 : decode cX3_isHere 21 = .ok (.iconst 0, 1) := dk_3 (dk_at dksX3_isHere_0 21 rfl rfl)
theorem dX3_isHere_22 : decode cX3_isHere 22 = .ok (.ireturn, 1) := dk_172 (dk_at dksX3_isHere_0 22 rfl rfl)
abbrev cX3_isConsumer : ByteArray := prog_24_method_9_code
def yX3_isConsumer : MethodName := ⟨RX3, "isConsumer", "(I)Z"⟩
def dkwX3_isConsumer_0 : List UInt8 := [27, 133, 9, 42, 180, 0, 9, 4, 46, 4, 100, 133, 184, 0, 47, 172]
abbrev dktX3_isConsumer_0 : List UInt8 := dkwX3_isConsumer_0 ++ []
theorem dksX3_isConsumer_0 : cX3_isConsumer.data.toList.drop 0 = dktX3_isConsumer_0 := by decide +kernel
theorem dX3_isConsumer_0 : decode cX3_isConsumer 0 = .ok (.iload_n 1, 1) := dk_27 (dk_at dksX3_isConsumer_0 0 rfl rfl)
theorem dX3_isConsumer_1 : decode cX3_isConsumer 1 = .ok (.i2l, 1) := dk_133 (dk_at dksX3_isConsumer_0 1 rfl rfl)
theorem dX3_isConsumer_2 : decode cX3_isConsumer 2 = .ok (.lconst 0, 1) := dk_9 (dk_at dksX3_isConsumer_0 2 rfl rfl)
theorem dX3_isConsumer_3 : decode cX3_isConsumer 3 = .ok (.aload_n 0, 1) := dk_42 (dk_at dksX3_isConsumer_0 3 rfl rfl)
theorem dX3_isConsumer_4 : decode cX3_isConsumer 4 = .ok (.getfield 9, 3) := dk_180 0 9 (dk_at dksX3_isConsumer_0 4 rfl rfl)
theorem dX3_isConsumer_7 : decode cX3_isConsumer 7 = .ok (.iconst 1, 1) := dk_4 (dk_at dksX3_isConsumer_0 7 rfl rfl)
theorem dX3_isConsumer_8 : decode cX3_isConsumer 8 = .ok (.iaload, 1) := dk_46 (dk_at dksX3_isConsumer_0 8 rfl rfl)
theorem dX3_isConsumer_9 : decode cX3_isConsumer 9 = .ok (.iconst 1, 1) := dk_4 (dk_at dksX3_isConsumer_0 9 rfl rfl)
theorem dX3_isConsumer_10 : decode cX3_isConsumer 10 = .ok (.isub, 1) := dk_100 (dk_at dksX3_isConsumer_0 10 rfl rfl)
theorem dX3_isConsumer_11 : decode cX3_isConsumer 11 = .ok (.i2l, 1) := dk_133 (dk_at dksX3_isConsumer_0 11 rfl rfl)
theorem dX3_isConsumer_12 : decode cX3_isConsumer 12 = .ok (.invokestatic 47, 3) := dk_184 0 47 (dk_at dksX3_isConsumer_0 12 rfl rfl)
theorem dX3_isConsumer_15 : decode cX3_isConsumer 15 = .ok (.ireturn, 1) := dk_172 (dk_at dksX3_isConsumer_0 15 rfl rfl)
abbrev cX3_ofConsumer : ByteArray := prog_24_method_8_code
def yX3_ofConsumer : MethodName := ⟨RX3, "ofConsumer", "(II)I"⟩
def dkwX3_ofConsumer_0 : List UInt8 := [42, 180, 0, 9, 16, 11, 7, 27, 104, 96, 28, 96, 46, 172]
abbrev dktX3_ofConsumer_0 : List UInt8 := dkwX3_ofConsumer_0 ++ []
theorem dksX3_ofConsumer_0 : cX3_ofConsumer.data.toList.drop 0 = dktX3_ofConsumer_0 := by decide +kernel
theorem dX3_ofConsumer_0 : decode cX3_ofConsumer 0 = .ok (.aload_n 0, 1) := dk_42 (dk_at dksX3_ofConsumer_0 0 rfl rfl)
theorem dX3_ofConsumer_1 : decode cX3_ofConsumer 1 = .ok (.getfield 9, 3) := dk_180 0 9 (dk_at dksX3_ofConsumer_0 1 rfl rfl)
theorem dX3_ofConsumer_4 : decode cX3_ofConsumer 4 = .ok (.bipush 11, 2) := dk_16 11 (dk_at dksX3_ofConsumer_0 4 rfl rfl)
theorem dX3_ofConsumer_6 : decode cX3_ofConsumer 6 = .ok (.iconst 4, 1) := dk_7 (dk_at dksX3_ofConsumer_0 6 rfl rfl)
theorem dX3_ofConsumer_7 : decode cX3_ofConsumer 7 = .ok (.iload_n 1, 1) := dk_27 (dk_at dksX3_ofConsumer_0 7 rfl rfl)
theorem dX3_ofConsumer_8 : decode cX3_ofConsumer 8 = .ok (.imul, 1) := dk_104 (dk_at dksX3_ofConsumer_0 8 rfl rfl)
theorem dX3_ofConsumer_9 : decode cX3_ofConsumer 9 = .ok (.iadd, 1) := dk_96 (dk_at dksX3_ofConsumer_0 9 rfl rfl)
theorem dX3_ofConsumer_10 : decode cX3_ofConsumer 10 = .ok (.iload_n 2, 1) := dk_28 (dk_at dksX3_ofConsumer_0 10 rfl rfl)
theorem dX3_ofConsumer_11 : decode cX3_ofConsumer 11 = .ok (.iadd, 1) := dk_96 (dk_at dksX3_ofConsumer_0 11 rfl rfl)
theorem dX3_ofConsumer_12 : decode cX3_ofConsumer 12 = .ok (.iaload, 1) := dk_46 (dk_at dksX3_ofConsumer_0 12 rfl rfl)
theorem dX3_ofConsumer_13 : decode cX3_ofConsumer 13 = .ok (.ireturn, 1) := dk_172 (dk_at dksX3_ofConsumer_0 13 rfl rfl)
abbrev cX3_giveAll : ByteArray := prog_24_method_42_code
def yX3_giveAll : MethodName := ⟨RX3, "giveAll", "(I)I"⟩
def dkwX3_giveAll_1 : List UInt8 := [155, 0, 9, 132, 2, 1, 167, 255, 245, 28, 172]
abbrev dktX3_giveAll_1 : List UInt8 := dkwX3_giveAll_1 ++ []
def dkwX3_giveAll_0 : List UInt8 := [42, 27, 182, 0, 122, 154, 0, 10, 42, 16, 174, 182, 0, 75, 172, 3, 61, 42, 27, 182, 0, 172]
abbrev dktX3_giveAll_0 : List UInt8 := dkwX3_giveAll_0 ++ dktX3_giveAll_1
theorem dksX3_giveAll_0 : cX3_giveAll.data.toList.drop 0 = dktX3_giveAll_0 := by decide +kernel
theorem dksX3_giveAll_1 : cX3_giveAll.data.toList.drop 22 = dktX3_giveAll_1 := dk_seg dksX3_giveAll_0 22 rfl rfl
theorem dX3_giveAll_0 : decode cX3_giveAll 0 = .ok (.aload_n 0, 1) := dk_42 (dk_at dksX3_giveAll_0 0 rfl rfl)
theorem dX3_giveAll_1 : decode cX3_giveAll 1 = .ok (.iload_n 1, 1) := dk_27 (dk_at dksX3_giveAll_0 1 rfl rfl)
theorem dX3_giveAll_2 : decode cX3_giveAll 2 = .ok (.invokevirtual 122, 3) := dk_182 0 122 (dk_at dksX3_giveAll_0 2 rfl rfl)
theorem dX3_giveAll_5 : decode cX3_giveAll 5 = .ok (.ifCond .ne 10, 3) := dk_154 0 10 (dk_at dksX3_giveAll_0 5 rfl rfl)
theorem dX3_giveAll_8 : decode cX3_giveAll 8 = .ok (.aload_n 0, 1) := dk_42 (dk_at dksX3_giveAll_0 8 rfl rfl)
theorem dX3_giveAll_9 : decode cX3_giveAll 9 = .ok (.bipush (-82), 2) := dk_16 174 (dk_at dksX3_giveAll_0 9 rfl rfl)
theorem dX3_giveAll_11 : decode cX3_giveAll 11 = .ok (.invokevirtual 75, 3) := dk_182 0 75 (dk_at dksX3_giveAll_0 11 rfl rfl)
theorem dX3_giveAll_14 : decode cX3_giveAll 14 = .ok (.ireturn, 1) := dk_172 (dk_at dksX3_giveAll_0 14 rfl rfl)
theorem dX3_giveAll_15 : decode cX3_giveAll 15 = .ok (.iconst 0, 1) := dk_3 (dk_at dksX3_giveAll_0 15 rfl rfl)
theorem dX3_giveAll_16 : decode cX3_giveAll 16 = .ok (.istore_n 2, 1) := dk_61 (dk_at dksX3_giveAll_0 16 rfl rfl)
theorem dX3_giveAll_17 : decode cX3_giveAll 17 = .ok (.aload_n 0, 1) := dk_42 (dk_at dksX3_giveAll_0 17 rfl rfl)
theorem dX3_giveAll_18 : decode cX3_giveAll 18 = .ok (.iload_n 1, 1) := dk_27 (dk_at dksX3_giveAll_0 18 rfl rfl)
theorem dX3_giveAll_19 : decode cX3_giveAll 19 = .ok (.invokevirtual 172, 3) := dk_182 0 172 (dk_at dksX3_giveAll_0 19 rfl rfl)
theorem dX3_giveAll_22 : decode cX3_giveAll 22 = .ok (.ifCond .lt 9, 3) := dk_155 0 9 (dk_at dksX3_giveAll_1 0 rfl rfl)
theorem dX3_giveAll_25 : decode cX3_giveAll 25 = .ok (.iinc 2 1, 3) := dk_132 2 1 (dk_at dksX3_giveAll_1 3 rfl rfl)
theorem dX3_giveAll_28 : decode cX3_giveAll 28 = .ok (.goto (-11), 3) := dk_167 255 245 (dk_at dksX3_giveAll_1 6 rfl rfl)
theorem dX3_giveAll_31 : decode cX3_giveAll 31 = .ok (.iload_n 2, 1) := dk_28 (dk_at dksX3_giveAll_1 9 rfl rfl)
theorem dX3_giveAll_32 : decode cX3_giveAll 32 = .ok (.ireturn, 1) := dk_172 (dk_at dksX3_giveAll_1 10 rfl rfl)
abbrev cX3_ack : ByteArray := prog_24_method_47_code
def yX3_ack : MethodName := ⟨RX3, "ack", "(II)I"⟩
def dkwX3_ack_1 : List UInt8 := [182, 0, 75, 172, 42, 27, 42, 27, 28, 182, 0, 183, 182, 0, 186, 42, 27, 182, 0, 189, 172]
abbrev dktX3_ack_1 : List UInt8 := dkwX3_ack_1 ++ []
def dkwX3_ack_0 : List UInt8 := [42, 27, 182, 0, 163, 153, 0, 16, 28, 155, 0, 12, 42, 27, 28, 182, 0, 183, 156, 0, 10, 42, 16, 174]
abbrev dktX3_ack_0 : List UInt8 := dkwX3_ack_0 ++ dktX3_ack_1
theorem dksX3_ack_0 : cX3_ack.data.toList.drop 0 = dktX3_ack_0 := by decide +kernel
theorem dksX3_ack_1 : cX3_ack.data.toList.drop 24 = dktX3_ack_1 := dk_seg dksX3_ack_0 24 rfl rfl
theorem dX3_ack_0 : decode cX3_ack 0 = .ok (.aload_n 0, 1) := dk_42 (dk_at dksX3_ack_0 0 rfl rfl)
theorem dX3_ack_1 : decode cX3_ack 1 = .ok (.iload_n 1, 1) := dk_27 (dk_at dksX3_ack_0 1 rfl rfl)
theorem dX3_ack_2 : decode cX3_ack 2 = .ok (.invokevirtual 163, 3) := dk_182 0 163 (dk_at dksX3_ack_0 2 rfl rfl)
theorem dX3_ack_5 : decode cX3_ack 5 = .ok (.ifCond .eq 16, 3) := dk_153 0 16 (dk_at dksX3_ack_0 5 rfl rfl)
theorem dX3_ack_8 : decode cX3_ack 8 = .ok (.iload_n 2, 1) := dk_28 (dk_at dksX3_ack_0 8 rfl rfl)
theorem dX3_ack_9 : decode cX3_ack 9 = .ok (.ifCond .lt 12, 3) := dk_155 0 12 (dk_at dksX3_ack_0 9 rfl rfl)
theorem dX3_ack_12 : decode cX3_ack 12 = .ok (.aload_n 0, 1) := dk_42 (dk_at dksX3_ack_0 12 rfl rfl)
theorem dX3_ack_13 : decode cX3_ack 13 = .ok (.iload_n 1, 1) := dk_27 (dk_at dksX3_ack_0 13 rfl rfl)
theorem dX3_ack_14 : decode cX3_ack 14 = .ok (.iload_n 2, 1) := dk_28 (dk_at dksX3_ack_0 14 rfl rfl)
theorem dX3_ack_15 : decode cX3_ack 15 = .ok (.invokevirtual 183, 3) := dk_182 0 183 (dk_at dksX3_ack_0 15 rfl rfl)
theorem dX3_ack_18 : decode cX3_ack 18 = .ok (.ifCond .ge 10, 3) := dk_156 0 10 (dk_at dksX3_ack_0 18 rfl rfl)
theorem dX3_ack_21 : decode cX3_ack 21 = .ok (.aload_n 0, 1) := dk_42 (dk_at dksX3_ack_0 21 rfl rfl)
theorem dX3_ack_22 : decode cX3_ack 22 = .ok (.bipush (-82), 2) := dk_16 174 (dk_at dksX3_ack_0 22 rfl rfl)
theorem dX3_ack_24 : decode cX3_ack 24 = .ok (.invokevirtual 75, 3) := dk_182 0 75 (dk_at dksX3_ack_1 0 rfl rfl)
theorem dX3_ack_27 : decode cX3_ack 27 = .ok (.ireturn, 1) := dk_172 (dk_at dksX3_ack_1 3 rfl rfl)
theorem dX3_ack_28 : decode cX3_ack 28 = .ok (.aload_n 0, 1) := dk_42 (dk_at dksX3_ack_1 4 rfl rfl)
theorem dX3_ack_29 : decode cX3_ack 29 = .ok (.iload_n 1, 1) := dk_27 (dk_at dksX3_ack_1 5 rfl rfl)
theorem dX3_ack_30 : decode cX3_ack 30 = .ok (.aload_n 0, 1) := dk_42 (dk_at dksX3_ack_1 6 rfl rfl)
theorem dX3_ack_31 : decode cX3_ack 31 = .ok (.iload_n 1, 1) := dk_27 (dk_at dksX3_ack_1 7 rfl rfl)
theorem dX3_ack_32 : decode cX3_ack 32 = .ok (.iload_n 2, 1) := dk_28 (dk_at dksX3_ack_1 8 rfl rfl)
theorem dX3_ack_33 : decode cX3_ack 33 = .ok (.invokevirtual 183, 3) := dk_182 0 183 (dk_at dksX3_ack_1 9 rfl rfl)
theorem dX3_ack_36 : decode cX3_ack 36 = .ok (.invokevirtual 186, 3) := dk_182 0 186 (dk_at dksX3_ack_1 12 rfl rfl)
theorem dX3_ack_39 : decode cX3_ack 39 = .ok (.aload_n 0, 1) := dk_42 (dk_at dksX3_ack_1 15 rfl rfl)
theorem dX3_ack_40 : decode cX3_ack 40 = .ok (.iload_n 1, 1) := dk_27 (dk_at dksX3_ack_1 16 rfl rfl)
theorem dX3_ack_41 : decode cX3_ack 41 = .ok (.invokevirtual 189, 3) := dk_182 0 189 (dk_at dksX3_ack_1 17 rfl rfl)
theorem dX3_ack_44 : decode cX3_ack 44 = .ok (.ireturn, 1) := dk_172 (dk_at dksX3_ack_1 20 rfl rfl)
abbrev cX3_outAt : ByteArray := prog_24_method_44_code
def yX3_outAt : MethodName := ⟨RX3, "outAt", "(II)I"⟩
def dkwX3_outAt_2 : List UInt8 := [160, 0, 6, 21, 4, 172, 132, 4, 1, 167, 255, 210, 2, 172]
abbrev dktX3_outAt_2 : List UInt8 := dkwX3_outAt_2 ++ []
def dkwX3_outAt_1 : List UInt8 := [21, 4, 6, 182, 0, 66, 27, 160, 0, 22, 28, 155, 0, 15, 42, 29, 21, 4, 3, 182, 0, 66, 28]
abbrev dktX3_outAt_1 : List UInt8 := dkwX3_outAt_1 ++ dktX3_outAt_2
def dkwX3_outAt_0 : List UInt8 := [42, 27, 3, 182, 0, 55, 62, 3, 54, 4, 21, 4, 42, 29, 16, 35, 182, 0, 59, 162, 0, 40, 42, 29]
abbrev dktX3_outAt_0 : List UInt8 := dkwX3_outAt_0 ++ dktX3_outAt_1
theorem dksX3_outAt_0 : cX3_outAt.data.toList.drop 0 = dktX3_outAt_0 := by decide +kernel
theorem dksX3_outAt_1 : cX3_outAt.data.toList.drop 24 = dktX3_outAt_1 := dk_seg dksX3_outAt_0 24 rfl rfl
theorem dksX3_outAt_2 : cX3_outAt.data.toList.drop 47 = dktX3_outAt_2 := dk_seg dksX3_outAt_1 23 rfl rfl
theorem dX3_outAt_0 : decode cX3_outAt 0 = .ok (.aload_n 0, 1) := dk_42 (dk_at dksX3_outAt_0 0 rfl rfl)
theorem dX3_outAt_1 : decode cX3_outAt 1 = .ok (.iload_n 1, 1) := dk_27 (dk_at dksX3_outAt_0 1 rfl rfl)
theorem dX3_outAt_2 : decode cX3_outAt 2 = .ok (.iconst 0, 1) := dk_3 (dk_at dksX3_outAt_0 2 rfl rfl)
theorem dX3_outAt_3 : decode cX3_outAt 3 = .ok (.invokevirtual 55, 3) := dk_182 0 55 (dk_at dksX3_outAt_0 3 rfl rfl)
theorem dX3_outAt_6 : decode cX3_outAt 6 = .ok (.istore_n 3, 1) := dk_62 (dk_at dksX3_outAt_0 6 rfl rfl)
theorem dX3_outAt_7 : decode cX3_outAt 7 = .ok (.iconst 0, 1) := dk_3 (dk_at dksX3_outAt_0 7 rfl rfl)
theorem dX3_outAt_8 : decode cX3_outAt 8 = .ok (.istore 4, 2) := dk_54 4 (dk_at dksX3_outAt_0 8 rfl rfl)
theorem dX3_outAt_10 : decode cX3_outAt 10 = .ok (.iload 4, 2) := dk_21 4 (dk_at dksX3_outAt_0 10 rfl rfl)
theorem dX3_outAt_12 : decode cX3_outAt 12 = .ok (.aload_n 0, 1) := dk_42 (dk_at dksX3_outAt_0 12 rfl rfl)
theorem dX3_outAt_13 : decode cX3_outAt 13 = .ok (.iload_n 3, 1) := dk_29 (dk_at dksX3_outAt_0 13 rfl rfl)
theorem dX3_outAt_14 : decode cX3_outAt 14 = .ok (.bipush 35, 2) := dk_16 35 (dk_at dksX3_outAt_0 14 rfl rfl)
theorem dX3_outAt_16 : decode cX3_outAt 16 = .ok (.invokevirtual 59, 3) := dk_182 0 59 (dk_at dksX3_outAt_0 16 rfl rfl)
theorem dX3_outAt_19 : decode cX3_outAt 19 = .ok (.if_icmp .ge 40, 3) := dk_162 0 40 (dk_at dksX3_outAt_0 19 rfl rfl)
theorem dX3_outAt_22 : decode cX3_outAt 22 = .ok (.aload_n 0, 1) := dk_42 (dk_at dksX3_outAt_0 22 rfl rfl)
theorem dX3_outAt_23 : decode cX3_outAt 23 = .ok (.iload_n 3, 1) := dk_29 (dk_at dksX3_outAt_0 23 rfl rfl)
theorem dX3_outAt_24 : decode cX3_outAt 24 = .ok (.iload 4, 2) := dk_21 4 (dk_at dksX3_outAt_1 0 rfl rfl)
theorem dX3_outAt_26 : decode cX3_outAt 26 = .ok (.iconst 3, 1) := dk_6 (dk_at dksX3_outAt_1 2 rfl rfl)
theorem dX3_outAt_27 : decode cX3_outAt 27 = .ok (.invokevirtual 66, 3) := dk_182 0 66 (dk_at dksX3_outAt_1 3 rfl rfl)
theorem dX3_outAt_30 : decode cX3_outAt 30 = .ok (.iload_n 1, 1) := dk_27 (dk_at dksX3_outAt_1 6 rfl rfl)
theorem dX3_outAt_31 : decode cX3_outAt 31 = .ok (.if_icmp .ne 22, 3) := dk_160 0 22 (dk_at dksX3_outAt_1 7 rfl rfl)
theorem dX3_outAt_34 : decode cX3_outAt 34 = .ok (.iload_n 2, 1) := dk_28 (dk_at dksX3_outAt_1 10 rfl rfl)
theorem dX3_outAt_35 : decode cX3_outAt 35 = .ok (.ifCond .lt 15, 3) := dk_155 0 15 (dk_at dksX3_outAt_1 11 rfl rfl)
theorem dX3_outAt_38 : decode cX3_outAt 38 = .ok (.aload_n 0, 1) := dk_42 (dk_at dksX3_outAt_1 14 rfl rfl)
theorem dX3_outAt_39 : decode cX3_outAt 39 = .ok (.iload_n 3, 1) := dk_29 (dk_at dksX3_outAt_1 15 rfl rfl)
theorem dX3_outAt_40 : decode cX3_outAt 40 = .ok (.iload 4, 2) := dk_21 4 (dk_at dksX3_outAt_1 16 rfl rfl)
theorem dX3_outAt_42 : decode cX3_outAt 42 = .ok (.iconst 0, 1) := dk_3 (dk_at dksX3_outAt_1 18 rfl rfl)
theorem dX3_outAt_43 : decode cX3_outAt 43 = .ok (.invokevirtual 66, 3) := dk_182 0 66 (dk_at dksX3_outAt_1 19 rfl rfl)
theorem dX3_outAt_46 : decode cX3_outAt 46 = .ok (.iload_n 2, 1) := dk_28 (dk_at dksX3_outAt_1 22 rfl rfl)
theorem dX3_outAt_47 : decode cX3_outAt 47 = .ok (.if_icmp .ne 6, 3) := dk_160 0 6 (dk_at dksX3_outAt_2 0 rfl rfl)
theorem dX3_outAt_50 : decode cX3_outAt 50 = .ok (.iload 4, 2) := dk_21 4 (dk_at dksX3_outAt_2 3 rfl rfl)
theorem dX3_outAt_52 : decode cX3_outAt 52 = .ok (.ireturn, 1) := dk_172 (dk_at dksX3_outAt_2 5 rfl rfl)
theorem dX3_outAt_53 : decode cX3_outAt 53 = .ok (.iinc 4 1, 3) := dk_132 4 1 (dk_at dksX3_outAt_2 6 rfl rfl)
theorem dX3_outAt_56 : decode cX3_outAt 56 = .ok (.goto (-46), 3) := dk_167 255 210 (dk_at dksX3_outAt_2 9 rfl rfl)
theorem dX3_outAt_59 : decode cX3_outAt 59 = .ok (.iconst (-1), 1) := dk_2 (dk_at dksX3_outAt_2 12 rfl rfl)
theorem dX3_outAt_60 : decode cX3_outAt 60 = .ok (.ireturn, 1) := dk_172 (dk_at dksX3_outAt_2 13 rfl rfl)
abbrev cX3_acks : ByteArray := prog_24_method_45_code
def yX3_acks : MethodName := ⟨RX3, "acks", "(II)V"⟩
def dkwX3_acks_1 : List UInt8 := [16, 33, 182, 0, 59, 4, 96, 182, 0, 62, 177]
abbrev dktX3_acks_1 : List UInt8 := dkwX3_acks_1 ++ []
def dkwX3_acks_0 : List UInt8 := [42, 27, 3, 182, 0, 55, 62, 42, 29, 28, 182, 0, 135, 42, 27, 182, 0, 175, 42, 29, 16, 33, 42, 29]
abbrev dktX3_acks_0 : List UInt8 := dkwX3_acks_0 ++ dktX3_acks_1
theorem dksX3_acks_0 : cX3_acks.data.toList.drop 0 = dktX3_acks_0 := by decide +kernel
theorem dksX3_acks_1 : cX3_acks.data.toList.drop 24 = dktX3_acks_1 := dk_seg dksX3_acks_0 24 rfl rfl
theorem dX3_acks_0 : decode cX3_acks 0 = .ok (.aload_n 0, 1) := dk_42 (dk_at dksX3_acks_0 0 rfl rfl)
theorem dX3_acks_1 : decode cX3_acks 1 = .ok (.iload_n 1, 1) := dk_27 (dk_at dksX3_acks_0 1 rfl rfl)
theorem dX3_acks_2 : decode cX3_acks 2 = .ok (.iconst 0, 1) := dk_3 (dk_at dksX3_acks_0 2 rfl rfl)
theorem dX3_acks_3 : decode cX3_acks 3 = .ok (.invokevirtual 55, 3) := dk_182 0 55 (dk_at dksX3_acks_0 3 rfl rfl)
theorem dX3_acks_6 : decode cX3_acks 6 = .ok (.istore_n 3, 1) := dk_62 (dk_at dksX3_acks_0 6 rfl rfl)
theorem dX3_acks_7 : decode cX3_acks 7 = .ok (.aload_n 0, 1) := dk_42 (dk_at dksX3_acks_0 7 rfl rfl)
theorem dX3_acks_8 : decode cX3_acks 8 = .ok (.iload_n 3, 1) := dk_29 (dk_at dksX3_acks_0 8 rfl rfl)
theorem dX3_acks_9 : decode cX3_acks 9 = .ok (.iload_n 2, 1) := dk_28 (dk_at dksX3_acks_0 9 rfl rfl)
theorem dX3_acks_10 : decode cX3_acks 10 = .ok (.invokevirtual 135, 3) := dk_182 0 135 (dk_at dksX3_acks_0 10 rfl rfl)
theorem dX3_acks_13 : decode cX3_acks 13 = .ok (.aload_n 0, 1) := dk_42 (dk_at dksX3_acks_0 13 rfl rfl)
theorem dX3_acks_14 : decode cX3_acks 14 = .ok (.iload_n 1, 1) := dk_27 (dk_at dksX3_acks_0 14 rfl rfl)
theorem dX3_acks_15 : decode cX3_acks 15 = .ok (.invokevirtual 175, 3) := dk_182 0 175 (dk_at dksX3_acks_0 15 rfl rfl)
theorem dX3_acks_18 : decode cX3_acks 18 = .ok (.aload_n 0, 1) := dk_42 (dk_at dksX3_acks_0 18 rfl rfl)
theorem dX3_acks_19 : decode cX3_acks 19 = .ok (.iload_n 3, 1) := dk_29 (dk_at dksX3_acks_0 19 rfl rfl)
theorem dX3_acks_20 : decode cX3_acks 20 = .ok (.bipush 33, 2) := dk_16 33 (dk_at dksX3_acks_0 20 rfl rfl)
theorem dX3_acks_22 : decode cX3_acks 22 = .ok (.aload_n 0, 1) := dk_42 (dk_at dksX3_acks_0 22 rfl rfl)
theorem dX3_acks_23 : decode cX3_acks 23 = .ok (.iload_n 3, 1) := dk_29 (dk_at dksX3_acks_0 23 rfl rfl)
theorem dX3_acks_24 : decode cX3_acks 24 = .ok (.bipush 33, 2) := dk_16 33 (dk_at dksX3_acks_1 0 rfl rfl)
theorem dX3_acks_26 : decode cX3_acks 26 = .ok (.invokevirtual 59, 3) := dk_182 0 59 (dk_at dksX3_acks_1 2 rfl rfl)
theorem dX3_acks_29 : decode cX3_acks 29 = .ok (.iconst 1, 1) := dk_4 (dk_at dksX3_acks_1 5 rfl rfl)
theorem dX3_acks_30 : decode cX3_acks 30 = .ok (.iadd, 1) := dk_96 (dk_at dksX3_acks_1 6 rfl rfl)
theorem dX3_acks_31 : decode cX3_acks 31 = .ok (.invokevirtual 62, 3) := dk_182 0 62 (dk_at dksX3_acks_1 7 rfl rfl)
theorem dX3_acks_34 : decode cX3_acks 34 = .ok (.return_, 1) := dk_177 (dk_at dksX3_acks_1 10 rfl rfl)
abbrev cX3_goes : ByteArray := prog_24_method_28_code
def yX3_goes : MethodName := ⟨RX3, "goes", "(II)V"⟩
def dkwX3_goes_2 : List UInt8 := [182, 0, 62, 132, 4, 1, 167, 255, 221, 42, 27, 16, 35, 29, 182, 0, 62, 177]
abbrev dktX3_goes_2 : List UInt8 := dkwX3_goes_2 ++ []
def dkwX3_goes_1 : List UInt8 := [162, 0, 32, 42, 27, 16, 36, 21, 4, 96, 42, 27, 16, 36, 21, 4, 96, 16, 26, 96, 182, 0, 59]
abbrev dktX3_goes_1 : List UInt8 := dkwX3_goes_1 ++ dktX3_goes_2
def dkwX3_goes_0 : List UInt8 := [42, 27, 16, 35, 182, 0, 59, 4, 100, 62, 16, 26, 28, 104, 54, 4, 21, 4, 16, 26, 29, 104]
abbrev dktX3_goes_0 : List UInt8 := dkwX3_goes_0 ++ dktX3_goes_1
theorem dksX3_goes_0 : cX3_goes.data.toList.drop 0 = dktX3_goes_0 := by decide +kernel
theorem dksX3_goes_1 : cX3_goes.data.toList.drop 22 = dktX3_goes_1 := dk_seg dksX3_goes_0 22 rfl rfl
theorem dksX3_goes_2 : cX3_goes.data.toList.drop 45 = dktX3_goes_2 := dk_seg dksX3_goes_1 23 rfl rfl
theorem dX3_goes_0 : decode cX3_goes 0 = .ok (.aload_n 0, 1) := dk_42 (dk_at dksX3_goes_0 0 rfl rfl)
theorem dX3_goes_1 : decode cX3_goes 1 = .ok (.iload_n 1, 1) := dk_27 (dk_at dksX3_goes_0 1 rfl rfl)
theorem dX3_goes_2 : decode cX3_goes 2 = .ok (.bipush 35, 2) := dk_16 35 (dk_at dksX3_goes_0 2 rfl rfl)
theorem dX3_goes_4 : decode cX3_goes 4 = .ok (.invokevirtual 59, 3) := dk_182 0 59 (dk_at dksX3_goes_0 4 rfl rfl)
theorem dX3_goes_7 : decode cX3_goes 7 = .ok (.iconst 1, 1) := dk_4 (dk_at dksX3_goes_0 7 rfl rfl)
theorem dX3_goes_8 : decode cX3_goes 8 = .ok (.isub, 1) := dk_100 (dk_at dksX3_goes_0 8 rfl rfl)
theorem dX3_goes_9 : decode cX3_goes 9 = .ok (.istore_n 3, 1) := dk_62 (dk_at dksX3_goes_0 9 rfl rfl)
theorem dX3_goes_10 : decode cX3_goes 10 = .ok (.bipush 26, 2) := dk_16 26 (dk_at dksX3_goes_0 10 rfl rfl)
theorem dX3_goes_12 : decode cX3_goes 12 = .ok (.iload_n 2, 1) := dk_28 (dk_at dksX3_goes_0 12 rfl rfl)
theorem dX3_goes_13 : decode cX3_goes 13 = .ok (.imul, 1) := dk_104 (dk_at dksX3_goes_0 13 rfl rfl)
theorem dX3_goes_14 : decode cX3_goes 14 = .ok (.istore 4, 2) := dk_54 4 (dk_at dksX3_goes_0 14 rfl rfl)
theorem dX3_goes_16 : decode cX3_goes 16 = .ok (.iload 4, 2) := dk_21 4 (dk_at dksX3_goes_0 16 rfl rfl)
theorem dX3_goes_18 : decode cX3_goes 18 = .ok (.bipush 26, 2) := dk_16 26 (dk_at dksX3_goes_0 18 rfl rfl)
theorem dX3_goes_20 : decode cX3_goes 20 = .ok (.iload_n 3, 1) := dk_29 (dk_at dksX3_goes_0 20 rfl rfl)
theorem dX3_goes_21 : decode cX3_goes 21 = .ok (.imul, 1) := dk_104 (dk_at dksX3_goes_0 21 rfl rfl)
theorem dX3_goes_22 : decode cX3_goes 22 = .ok (.if_icmp .ge 32, 3) := dk_162 0 32 (dk_at dksX3_goes_1 0 rfl rfl)
theorem dX3_goes_25 : decode cX3_goes 25 = .ok (.aload_n 0, 1) := dk_42 (dk_at dksX3_goes_1 3 rfl rfl)
theorem dX3_goes_26 : decode cX3_goes 26 = .ok (.iload_n 1, 1) := dk_27 (dk_at dksX3_goes_1 4 rfl rfl)
theorem dX3_goes_27 : decode cX3_goes 27 = .ok (.bipush 36, 2) := dk_16 36 (dk_at dksX3_goes_1 5 rfl rfl)
theorem dX3_goes_29 : decode cX3_goes 29 = .ok (.iload 4, 2) := dk_21 4 (dk_at dksX3_goes_1 7 rfl rfl)
theorem dX3_goes_31 : decode cX3_goes 31 = .ok (.iadd, 1) := dk_96 (dk_at dksX3_goes_1 9 rfl rfl)
theorem dX3_goes_32 : decode cX3_goes 32 = .ok (.aload_n 0, 1) := dk_42 (dk_at dksX3_goes_1 10 rfl rfl)
theorem dX3_goes_33 : decode cX3_goes 33 = .ok (.iload_n 1, 1) := dk_27 (dk_at dksX3_goes_1 11 rfl rfl)
theorem dX3_goes_34 : decode cX3_goes 34 = .ok (.bipush 36, 2) := dk_16 36 (dk_at dksX3_goes_1 12 rfl rfl)
theorem dX3_goes_36 : decode cX3_goes 36 = .ok (.iload 4, 2) := dk_21 4 (dk_at dksX3_goes_1 14 rfl rfl)
theorem dX3_goes_38 : decode cX3_goes 38 = .ok (.iadd, 1) := dk_96 (dk_at dksX3_goes_1 16 rfl rfl)
theorem dX3_goes_39 : decode cX3_goes 39 = .ok (.bipush 26, 2) := dk_16 26 (dk_at dksX3_goes_1 17 rfl rfl)
theorem dX3_goes_41 : decode cX3_goes 41 = .ok (.iadd, 1) := dk_96 (dk_at dksX3_goes_1 19 rfl rfl)
theorem dX3_goes_42 : decode cX3_goes 42 = .ok (.invokevirtual 59, 3) := dk_182 0 59 (dk_at dksX3_goes_1 20 rfl rfl)
theorem dX3_goes_45 : decode cX3_goes 45 = .ok (.invokevirtual 62, 3) := dk_182 0 62 (dk_at dksX3_goes_2 0 rfl rfl)
theorem dX3_goes_48 : decode cX3_goes 48 = .ok (.iinc 4 1, 3) := dk_132 4 1 (dk_at dksX3_goes_2 3 rfl rfl)
theorem dX3_goes_51 : decode cX3_goes 51 = .ok (.goto (-35), 3) := dk_167 255 221 (dk_at dksX3_goes_2 6 rfl rfl)
theorem dX3_goes_54 : decode cX3_goes 54 = .ok (.aload_n 0, 1) := dk_42 (dk_at dksX3_goes_2 9 rfl rfl)
theorem dX3_goes_55 : decode cX3_goes 55 = .ok (.iload_n 1, 1) := dk_27 (dk_at dksX3_goes_2 10 rfl rfl)
theorem dX3_goes_56 : decode cX3_goes 56 = .ok (.bipush 35, 2) := dk_16 35 (dk_at dksX3_goes_2 11 rfl rfl)
theorem dX3_goes_58 : decode cX3_goes 58 = .ok (.iload_n 3, 1) := dk_29 (dk_at dksX3_goes_2 13 rfl rfl)
theorem dX3_goes_59 : decode cX3_goes 59 = .ok (.invokevirtual 62, 3) := dk_182 0 62 (dk_at dksX3_goes_2 14 rfl rfl)
theorem dX3_goes_62 : decode cX3_goes 62 = .ok (.return_, 1) := dk_177 (dk_at dksX3_goes_2 17 rfl rfl)
abbrev cX3_credits : ByteArray := prog_24_method_34_code
def yX3_credits : MethodName := ⟨RX3, "credits", "(I)V"⟩
def dkwX3_credits_1 : List UInt8 := [184, 0, 142, 79, 177]
abbrev dktX3_credits_1 : List UInt8 := dkwX3_credits_1 ++ []
def dkwX3_credits_0 : List UInt8 := [42, 180, 0, 9, 16, 11, 7, 27, 104, 96, 4, 96, 16, 9, 42, 27, 4, 182, 0, 55, 4, 96]
abbrev dktX3_credits_0 : List UInt8 := dkwX3_credits_0 ++ dktX3_credits_1
theorem dksX3_credits_0 : cX3_credits.data.toList.drop 0 = dktX3_credits_0 := by decide +kernel
theorem dksX3_credits_1 : cX3_credits.data.toList.drop 22 = dktX3_credits_1 := dk_seg dksX3_credits_0 22 rfl rfl
theorem dX3_credits_0 : decode cX3_credits 0 = .ok (.aload_n 0, 1) := dk_42 (dk_at dksX3_credits_0 0 rfl rfl)
theorem dX3_credits_1 : decode cX3_credits 1 = .ok (.getfield 9, 3) := dk_180 0 9 (dk_at dksX3_credits_0 1 rfl rfl)
theorem dX3_credits_4 : decode cX3_credits 4 = .ok (.bipush 11, 2) := dk_16 11 (dk_at dksX3_credits_0 4 rfl rfl)
theorem dX3_credits_6 : decode cX3_credits 6 = .ok (.iconst 4, 1) := dk_7 (dk_at dksX3_credits_0 6 rfl rfl)
theorem dX3_credits_7 : decode cX3_credits 7 = .ok (.iload_n 1, 1) := dk_27 (dk_at dksX3_credits_0 7 rfl rfl)
theorem dX3_credits_8 : decode cX3_credits 8 = .ok (.imul, 1) := dk_104 (dk_at dksX3_credits_0 8 rfl rfl)
theorem dX3_credits_9 : decode cX3_credits 9 = .ok (.iadd, 1) := dk_96 (dk_at dksX3_credits_0 9 rfl rfl)
theorem dX3_credits_10 : decode cX3_credits 10 = .ok (.iconst 1, 1) := dk_4 (dk_at dksX3_credits_0 10 rfl rfl)
theorem dX3_credits_11 : decode cX3_credits 11 = .ok (.iadd, 1) := dk_96 (dk_at dksX3_credits_0 11 rfl rfl)
theorem dX3_credits_12 : decode cX3_credits 12 = .ok (.bipush 9, 2) := dk_16 9 (dk_at dksX3_credits_0 12 rfl rfl)
theorem dX3_credits_14 : decode cX3_credits 14 = .ok (.aload_n 0, 1) := dk_42 (dk_at dksX3_credits_0 14 rfl rfl)
theorem dX3_credits_15 : decode cX3_credits 15 = .ok (.iload_n 1, 1) := dk_27 (dk_at dksX3_credits_0 15 rfl rfl)
theorem dX3_credits_16 : decode cX3_credits 16 = .ok (.iconst 1, 1) := dk_4 (dk_at dksX3_credits_0 16 rfl rfl)
theorem dX3_credits_17 : decode cX3_credits 17 = .ok (.invokevirtual 55, 3) := dk_182 0 55 (dk_at dksX3_credits_0 17 rfl rfl)
theorem dX3_credits_20 : decode cX3_credits 20 = .ok (.iconst 1, 1) := dk_4 (dk_at dksX3_credits_0 20 rfl rfl)
theorem dX3_credits_21 : decode cX3_credits 21 = .ok (.iadd, 1) := dk_96 (dk_at dksX3_credits_0 21 rfl rfl)
theorem dX3_credits_22 : decode cX3_credits 22 = .ok (.invokestatic 142, 3) := dk_184 0 142 (dk_at dksX3_credits_1 0 rfl rfl)
theorem dX3_credits_25 : decode cX3_credits 25 = .ok (.iastore, 1) := dk_79 (dk_at dksX3_credits_1 3 rfl rfl)
theorem dX3_credits_26 : decode cX3_credits 26 = .ok (.return_, 1) := dk_177 (dk_at dksX3_credits_1 4 rfl rfl)
abbrev cX3_outOf : ByteArray := prog_24_method_43_code
def yX3_outOf : MethodName := ⟨RX3, "outOf", "(I)I"⟩
def dkwX3_outOf_2 : List UInt8 := [167, 255, 221, 29, 172]
abbrev dktX3_outOf_2 : List UInt8 := dkwX3_outOf_2 ++ []
def dkwX3_outOf_1 : List UInt8 := [29, 42, 28, 21, 4, 6, 182, 0, 66, 27, 160, 0, 7, 4, 167, 0, 4, 3, 96, 62, 132, 4, 1]
abbrev dktX3_outOf_1 : List UInt8 := dkwX3_outOf_1 ++ dktX3_outOf_2
def dkwX3_outOf_0 : List UInt8 := [42, 27, 3, 182, 0, 55, 61, 3, 62, 3, 54, 4, 21, 4, 42, 28, 16, 35, 182, 0, 59, 162, 0, 29]
abbrev dktX3_outOf_0 : List UInt8 := dkwX3_outOf_0 ++ dktX3_outOf_1
theorem dksX3_outOf_0 : cX3_outOf.data.toList.drop 0 = dktX3_outOf_0 := by decide +kernel
theorem dksX3_outOf_1 : cX3_outOf.data.toList.drop 24 = dktX3_outOf_1 := dk_seg dksX3_outOf_0 24 rfl rfl
theorem dksX3_outOf_2 : cX3_outOf.data.toList.drop 47 = dktX3_outOf_2 := dk_seg dksX3_outOf_1 23 rfl rfl
theorem dX3_outOf_0 : decode cX3_outOf 0 = .ok (.aload_n 0, 1) := dk_42 (dk_at dksX3_outOf_0 0 rfl rfl)
theorem dX3_outOf_1 : decode cX3_outOf 1 = .ok (.iload_n 1, 1) := dk_27 (dk_at dksX3_outOf_0 1 rfl rfl)
theorem dX3_outOf_2 : decode cX3_outOf 2 = .ok (.iconst 0, 1) := dk_3 (dk_at dksX3_outOf_0 2 rfl rfl)
theorem dX3_outOf_3 : decode cX3_outOf 3 = .ok (.invokevirtual 55, 3) := dk_182 0 55 (dk_at dksX3_outOf_0 3 rfl rfl)
theorem dX3_outOf_6 : decode cX3_outOf 6 = .ok (.istore_n 2, 1) := dk_61 (dk_at dksX3_outOf_0 6 rfl rfl)
theorem dX3_outOf_7 : decode cX3_outOf 7 = .ok (.iconst 0, 1) := dk_3 (dk_at dksX3_outOf_0 7 rfl rfl)
theorem dX3_outOf_8 : decode cX3_outOf 8 = .ok (.istore_n 3, 1) := dk_62 (dk_at dksX3_outOf_0 8 rfl rfl)
theorem dX3_outOf_9 : decode cX3_outOf 9 = .ok (.iconst 0, 1) := dk_3 (dk_at dksX3_outOf_0 9 rfl rfl)
theorem dX3_outOf_10 : decode cX3_outOf 10 = .ok (.istore 4, 2) := dk_54 4 (dk_at dksX3_outOf_0 10 rfl rfl)
theorem dX3_outOf_12 : decode cX3_outOf 12 = .ok (.iload 4, 2) := dk_21 4 (dk_at dksX3_outOf_0 12 rfl rfl)
theorem dX3_outOf_14 : decode cX3_outOf 14 = .ok (.aload_n 0, 1) := dk_42 (dk_at dksX3_outOf_0 14 rfl rfl)
theorem dX3_outOf_15 : decode cX3_outOf 15 = .ok (.iload_n 2, 1) := dk_28 (dk_at dksX3_outOf_0 15 rfl rfl)
theorem dX3_outOf_16 : decode cX3_outOf 16 = .ok (.bipush 35, 2) := dk_16 35 (dk_at dksX3_outOf_0 16 rfl rfl)
theorem dX3_outOf_18 : decode cX3_outOf 18 = .ok (.invokevirtual 59, 3) := dk_182 0 59 (dk_at dksX3_outOf_0 18 rfl rfl)
theorem dX3_outOf_21 : decode cX3_outOf 21 = .ok (.if_icmp .ge 29, 3) := dk_162 0 29 (dk_at dksX3_outOf_0 21 rfl rfl)
theorem dX3_outOf_24 : decode cX3_outOf 24 = .ok (.iload_n 3, 1) := dk_29 (dk_at dksX3_outOf_1 0 rfl rfl)
theorem dX3_outOf_25 : decode cX3_outOf 25 = .ok (.aload_n 0, 1) := dk_42 (dk_at dksX3_outOf_1 1 rfl rfl)
theorem dX3_outOf_26 : decode cX3_outOf 26 = .ok (.iload_n 2, 1) := dk_28 (dk_at dksX3_outOf_1 2 rfl rfl)
theorem dX3_outOf_27 : decode cX3_outOf 27 = .ok (.iload 4, 2) := dk_21 4 (dk_at dksX3_outOf_1 3 rfl rfl)
theorem dX3_outOf_29 : decode cX3_outOf 29 = .ok (.iconst 3, 1) := dk_6 (dk_at dksX3_outOf_1 5 rfl rfl)
theorem dX3_outOf_30 : decode cX3_outOf 30 = .ok (.invokevirtual 66, 3) := dk_182 0 66 (dk_at dksX3_outOf_1 6 rfl rfl)
theorem dX3_outOf_33 : decode cX3_outOf 33 = .ok (.iload_n 1, 1) := dk_27 (dk_at dksX3_outOf_1 9 rfl rfl)
theorem dX3_outOf_34 : decode cX3_outOf 34 = .ok (.if_icmp .ne 7, 3) := dk_160 0 7 (dk_at dksX3_outOf_1 10 rfl rfl)
theorem dX3_outOf_37 : decode cX3_outOf 37 = .ok (.iconst 1, 1) := dk_4 (dk_at dksX3_outOf_1 13 rfl rfl)
theorem dX3_outOf_38 : decode cX3_outOf 38 = .ok (.goto 4, 3) := dk_167 0 4 (dk_at dksX3_outOf_1 14 rfl rfl)
theorem dX3_outOf_41 : decode cX3_outOf 41 = .ok (.iconst 0, 1) := dk_3 (dk_at dksX3_outOf_1 17 rfl rfl)
theorem dX3_outOf_42 : decode cX3_outOf 42 = .ok (.iadd, 1) := dk_96 (dk_at dksX3_outOf_1 18 rfl rfl)
theorem dX3_outOf_43 : decode cX3_outOf 43 = .ok (.istore_n 3, 1) := dk_62 (dk_at dksX3_outOf_1 19 rfl rfl)
theorem dX3_outOf_44 : decode cX3_outOf 44 = .ok (.iinc 4 1, 3) := dk_132 4 1 (dk_at dksX3_outOf_1 20 rfl rfl)
theorem dX3_outOf_47 : decode cX3_outOf 47 = .ok (.goto (-35), 3) := dk_167 255 221 (dk_at dksX3_outOf_2 0 rfl rfl)
theorem dX3_outOf_50 : decode cX3_outOf 50 = .ok (.iload_n 3, 1) := dk_29 (dk_at dksX3_outOf_2 3 rfl rfl)
theorem dX3_outOf_51 : decode cX3_outOf 51 = .ok (.ireturn, 1) := dk_172 (dk_at dksX3_outOf_2 4 rfl rfl)
abbrev cX3_nack : ByteArray := prog_24_method_48_code
def yX3_nack : MethodName := ⟨RX3, "nack", "(II)I"⟩
def dkwX3_nack_1 : List UInt8 := [182, 0, 75, 172, 42, 27, 42, 27, 28, 182, 0, 183, 182, 0, 192, 172]
abbrev dktX3_nack_1 : List UInt8 := dkwX3_nack_1 ++ []
def dkwX3_nack_0 : List UInt8 := [42, 27, 182, 0, 163, 153, 0, 16, 28, 155, 0, 12, 42, 27, 28, 182, 0, 183, 156, 0, 10, 42, 16, 174]
abbrev dktX3_nack_0 : List UInt8 := dkwX3_nack_0 ++ dktX3_nack_1
theorem dksX3_nack_0 : cX3_nack.data.toList.drop 0 = dktX3_nack_0 := by decide +kernel
theorem dksX3_nack_1 : cX3_nack.data.toList.drop 24 = dktX3_nack_1 := dk_seg dksX3_nack_0 24 rfl rfl
theorem dX3_nack_0 : decode cX3_nack 0 = .ok (.aload_n 0, 1) := dk_42 (dk_at dksX3_nack_0 0 rfl rfl)
theorem dX3_nack_1 : decode cX3_nack 1 = .ok (.iload_n 1, 1) := dk_27 (dk_at dksX3_nack_0 1 rfl rfl)
theorem dX3_nack_2 : decode cX3_nack 2 = .ok (.invokevirtual 163, 3) := dk_182 0 163 (dk_at dksX3_nack_0 2 rfl rfl)
theorem dX3_nack_5 : decode cX3_nack 5 = .ok (.ifCond .eq 16, 3) := dk_153 0 16 (dk_at dksX3_nack_0 5 rfl rfl)
theorem dX3_nack_8 : decode cX3_nack 8 = .ok (.iload_n 2, 1) := dk_28 (dk_at dksX3_nack_0 8 rfl rfl)
theorem dX3_nack_9 : decode cX3_nack 9 = .ok (.ifCond .lt 12, 3) := dk_155 0 12 (dk_at dksX3_nack_0 9 rfl rfl)
theorem dX3_nack_12 : decode cX3_nack 12 = .ok (.aload_n 0, 1) := dk_42 (dk_at dksX3_nack_0 12 rfl rfl)
theorem dX3_nack_13 : decode cX3_nack 13 = .ok (.iload_n 1, 1) := dk_27 (dk_at dksX3_nack_0 13 rfl rfl)
theorem dX3_nack_14 : decode cX3_nack 14 = .ok (.iload_n 2, 1) := dk_28 (dk_at dksX3_nack_0 14 rfl rfl)
theorem dX3_nack_15 : decode cX3_nack 15 = .ok (.invokevirtual 183, 3) := dk_182 0 183 (dk_at dksX3_nack_0 15 rfl rfl)
theorem dX3_nack_18 : decode cX3_nack 18 = .ok (.ifCond .ge 10, 3) := dk_156 0 10 (dk_at dksX3_nack_0 18 rfl rfl)
theorem dX3_nack_21 : decode cX3_nack 21 = .ok (.aload_n 0, 1) := dk_42 (dk_at dksX3_nack_0 21 rfl rfl)
theorem dX3_nack_22 : decode cX3_nack 22 = .ok (.bipush (-82), 2) := dk_16 174 (dk_at dksX3_nack_0 22 rfl rfl)
theorem dX3_nack_24 : decode cX3_nack 24 = .ok (.invokevirtual 75, 3) := dk_182 0 75 (dk_at dksX3_nack_1 0 rfl rfl)
theorem dX3_nack_27 : decode cX3_nack 27 = .ok (.ireturn, 1) := dk_172 (dk_at dksX3_nack_1 3 rfl rfl)
theorem dX3_nack_28 : decode cX3_nack 28 = .ok (.aload_n 0, 1) := dk_42 (dk_at dksX3_nack_1 4 rfl rfl)
theorem dX3_nack_29 : decode cX3_nack 29 = .ok (.iload_n 1, 1) := dk_27 (dk_at dksX3_nack_1 5 rfl rfl)
theorem dX3_nack_30 : decode cX3_nack 30 = .ok (.aload_n 0, 1) := dk_42 (dk_at dksX3_nack_1 6 rfl rfl)
theorem dX3_nack_31 : decode cX3_nack 31 = .ok (.iload_n 1, 1) := dk_27 (dk_at dksX3_nack_1 7 rfl rfl)
theorem dX3_nack_32 : decode cX3_nack 32 = .ok (.iload_n 2, 1) := dk_28 (dk_at dksX3_nack_1 8 rfl rfl)
theorem dX3_nack_33 : decode cX3_nack 33 = .ok (.invokevirtual 183, 3) := dk_182 0 183 (dk_at dksX3_nack_1 9 rfl rfl)
theorem dX3_nack_36 : decode cX3_nack 36 = .ok (.invokevirtual 192, 3) := dk_182 0 192 (dk_at dksX3_nack_1 12 rfl rfl)
theorem dX3_nack_39 : decode cX3_nack 39 = .ok (.ireturn, 1) := dk_172 (dk_at dksX3_nack_1 15 rfl rfl)
abbrev cX3_refuses : ByteArray := prog_24_method_46_code
def yX3_refuses : MethodName := ⟨RX3, "refuses", "(II)I"⟩
def dkwX3_refuses_1 : List UInt8 := [29, 28, 6, 27, 182, 0, 179, 54, 5, 21, 4, 172]
abbrev dktX3_refuses_1 : List UInt8 := dkwX3_refuses_1 ++ []
def dkwX3_refuses_0 : List UInt8 := [42, 27, 3, 182, 0, 55, 62, 42, 29, 28, 5, 182, 0, 66, 4, 96, 54, 4, 42, 27, 182, 0, 175, 42]
abbrev dktX3_refuses_0 : List UInt8 := dkwX3_refuses_0 ++ dktX3_refuses_1
theorem dksX3_refuses_0 : cX3_refuses.data.toList.drop 0 = dktX3_refuses_0 := by decide +kernel
theorem dksX3_refuses_1 : cX3_refuses.data.toList.drop 24 = dktX3_refuses_1 := dk_seg dksX3_refuses_0 24 rfl rfl
theorem dX3_refuses_0 : decode cX3_refuses 0 = .ok (.aload_n 0, 1) := dk_42 (dk_at dksX3_refuses_0 0 rfl rfl)
theorem dX3_refuses_1 : decode cX3_refuses 1 = .ok (.iload_n 1, 1) := dk_27 (dk_at dksX3_refuses_0 1 rfl rfl)
theorem dX3_refuses_2 : decode cX3_refuses 2 = .ok (.iconst 0, 1) := dk_3 (dk_at dksX3_refuses_0 2 rfl rfl)
theorem dX3_refuses_3 : decode cX3_refuses 3 = .ok (.invokevirtual 55, 3) := dk_182 0 55 (dk_at dksX3_refuses_0 3 rfl rfl)
theorem dX3_refuses_6 : decode cX3_refuses 6 = .ok (.istore_n 3, 1) := dk_62 (dk_at dksX3_refuses_0 6 rfl rfl)
theorem dX3_refuses_7 : decode cX3_refuses 7 = .ok (.aload_n 0, 1) := dk_42 (dk_at dksX3_refuses_0 7 rfl rfl)
theorem dX3_refuses_8 : decode cX3_refuses 8 = .ok (.iload_n 3, 1) := dk_29 (dk_at dksX3_refuses_0 8 rfl rfl)
theorem dX3_refuses_9 : decode cX3_refuses 9 = .ok (.iload_n 2, 1) := dk_28 (dk_at dksX3_refuses_0 9 rfl rfl)
theorem dX3_refuses_10 : decode cX3_refuses 10 = .ok (.iconst 2, 1) := dk_5 (dk_at dksX3_refuses_0 10 rfl rfl)
theorem dX3_refuses_11 : decode cX3_refuses 11 = .ok (.invokevirtual 66, 3) := dk_182 0 66 (dk_at dksX3_refuses_0 11 rfl rfl)
theorem dX3_refuses_14 : decode cX3_refuses 14 = .ok (.iconst 1, 1) := dk_4 (dk_at dksX3_refuses_0 14 rfl rfl)
theorem dX3_refuses_15 : decode cX3_refuses 15 = .ok (.iadd, 1) := dk_96 (dk_at dksX3_refuses_0 15 rfl rfl)
theorem dX3_refuses_16 : decode cX3_refuses 16 = .ok (.istore 4, 2) := dk_54 4 (dk_at dksX3_refuses_0 16 rfl rfl)
theorem dX3_refuses_18 : decode cX3_refuses 18 = .ok (.aload_n 0, 1) := dk_42 (dk_at dksX3_refuses_0 18 rfl rfl)
theorem dX3_refuses_19 : decode cX3_refuses 19 = .ok (.iload_n 1, 1) := dk_27 (dk_at dksX3_refuses_0 19 rfl rfl)
theorem dX3_refuses_20 : decode cX3_refuses 20 = .ok (.invokevirtual 175, 3) := dk_182 0 175 (dk_at dksX3_refuses_0 20 rfl rfl)
theorem dX3_refuses_23 : decode cX3_refuses 23 = .ok (.aload_n 0, 1) := dk_42 (dk_at dksX3_refuses_0 23 rfl rfl)
theorem dX3_refuses_24 : decode cX3_refuses 24 = .ok (.iload_n 3, 1) := dk_29 (dk_at dksX3_refuses_1 0 rfl rfl)
theorem dX3_refuses_25 : decode cX3_refuses 25 = .ok (.iload_n 2, 1) := dk_28 (dk_at dksX3_refuses_1 1 rfl rfl)
theorem dX3_refuses_26 : decode cX3_refuses 26 = .ok (.iconst 3, 1) := dk_6 (dk_at dksX3_refuses_1 2 rfl rfl)
theorem dX3_refuses_27 : decode cX3_refuses 27 = .ok (.iload_n 1, 1) := dk_27 (dk_at dksX3_refuses_1 3 rfl rfl)
theorem dX3_refuses_28 : decode cX3_refuses 28 = .ok (.invokevirtual 179, 3) := dk_182 0 179 (dk_at dksX3_refuses_1 4 rfl rfl)
theorem dX3_refuses_31 : decode cX3_refuses 31 = .ok (.istore 5, 2) := dk_54 5 (dk_at dksX3_refuses_1 7 rfl rfl)
theorem dX3_refuses_33 : decode cX3_refuses 33 = .ok (.iload 4, 2) := dk_21 4 (dk_at dksX3_refuses_1 9 rfl rfl)
theorem dX3_refuses_35 : decode cX3_refuses 35 = .ok (.ireturn, 1) := dk_172 (dk_at dksX3_refuses_1 11 rfl rfl)
abbrev cX3_fails : ByteArray := prog_24_method_33_code
def yX3_fails : MethodName := ⟨RX3, "fails", "(IIII)Z"⟩
def dkwX3_fails_7 : List UInt8 := [182, 0, 139, 4, 172, 3, 172]
abbrev dktX3_fails_7 : List UInt8 := dkwX3_fails_7 ++ []
def dkwX3_fails_6 : List UInt8 := [4, 4, 182, 0, 125, 21, 5, 42, 27, 16, 27, 182, 0, 59, 160, 0, 13, 42, 27, 28, 3, 3]
abbrev dktX3_fails_6 : List UInt8 := dkwX3_fails_6 ++ dktX3_fails_7
def dkwX3_fails_5 : List UInt8 := [42, 27, 28, 7, 42, 180, 0, 9, 7, 46, 42, 180, 0, 22, 21, 5, 46, 96, 182, 0, 125, 42, 27, 28]
abbrev dktX3_fails_5 : List UInt8 := dkwX3_fails_5 ++ dktX3_fails_6
def dkwX3_fails_4 : List UInt8 := [21, 6, 4, 96, 182, 0, 125, 42, 27, 28, 5, 21, 5, 182, 0, 125, 42, 27, 28, 6, 2, 182, 0, 125]
abbrev dktX3_fails_4 : List UInt8 := dkwX3_fails_4 ++ dktX3_fails_5
def dkwX3_fails_3 : List UInt8 := [16, 36, 96, 16, 26, 28, 104, 96, 16, 6, 96, 21, 5, 29, 21, 4, 182, 0, 132, 42, 27, 28, 8]
abbrev dktX3_fails_3 : List UInt8 := dkwX3_fails_3 ++ dktX3_fails_4
def dkwX3_fails_2 : List UInt8 := [96, 182, 0, 66, 182, 0, 125, 132, 7, 255, 167, 255, 226, 42, 17, 13, 143, 17, 2, 44, 27, 104, 96]
abbrev dktX3_fails_2 : List UInt8 := dkwX3_fails_2 ++ dktX3_fails_3
def dkwX3_fails_1 : List UInt8 := [4, 100, 54, 7, 21, 7, 155, 0, 31, 42, 27, 28, 16, 10, 21, 7, 96, 42, 27, 28, 16, 6, 21, 7]
abbrev dktX3_fails_1 : List UInt8 := dkwX3_fails_1 ++ dktX3_fails_2
def dkwX3_fails_0 : List UInt8 := [42, 27, 28, 5, 182, 0, 66, 4, 96, 54, 5, 42, 27, 28, 8, 182, 0, 66, 54, 6, 7, 21, 6, 104]
abbrev dktX3_fails_0 : List UInt8 := dkwX3_fails_0 ++ dktX3_fails_1
theorem dksX3_fails_0 : cX3_fails.data.toList.drop 0 = dktX3_fails_0 := by decide +kernel
theorem dksX3_fails_1 : cX3_fails.data.toList.drop 24 = dktX3_fails_1 := dk_seg dksX3_fails_0 24 rfl rfl
theorem dksX3_fails_2 : cX3_fails.data.toList.drop 48 = dktX3_fails_2 := dk_seg dksX3_fails_1 24 rfl rfl
theorem dksX3_fails_3 : cX3_fails.data.toList.drop 71 = dktX3_fails_3 := dk_seg dksX3_fails_2 23 rfl rfl
theorem dksX3_fails_4 : cX3_fails.data.toList.drop 94 = dktX3_fails_4 := dk_seg dksX3_fails_3 23 rfl rfl
theorem dksX3_fails_5 : cX3_fails.data.toList.drop 118 = dktX3_fails_5 := dk_seg dksX3_fails_4 24 rfl rfl
theorem dksX3_fails_6 : cX3_fails.data.toList.drop 142 = dktX3_fails_6 := dk_seg dksX3_fails_5 24 rfl rfl
theorem dksX3_fails_7 : cX3_fails.data.toList.drop 164 = dktX3_fails_7 := dk_seg dksX3_fails_6 22 rfl rfl
theorem dX3_fails_0 : decode cX3_fails 0 = .ok (.aload_n 0, 1) := dk_42 (dk_at dksX3_fails_0 0 rfl rfl)
theorem dX3_fails_1 : decode cX3_fails 1 = .ok (.iload_n 1, 1) := dk_27 (dk_at dksX3_fails_0 1 rfl rfl)
theorem dX3_fails_2 : decode cX3_fails 2 = .ok (.iload_n 2, 1) := dk_28 (dk_at dksX3_fails_0 2 rfl rfl)
theorem dX3_fails_3 : decode cX3_fails 3 = .ok (.iconst 2, 1) := dk_5 (dk_at dksX3_fails_0 3 rfl rfl)
theorem dX3_fails_4 : decode cX3_fails 4 = .ok (.invokevirtual 66, 3) := dk_182 0 66 (dk_at dksX3_fails_0 4 rfl rfl)
theorem dX3_fails_7 : decode cX3_fails 7 = .ok (.iconst 1, 1) := dk_4 (dk_at dksX3_fails_0 7 rfl rfl)
theorem dX3_fails_8 : decode cX3_fails 8 = .ok (.iadd, 1) := dk_96 (dk_at dksX3_fails_0 8 rfl rfl)
theorem dX3_fails_9 : decode cX3_fails 9 = .ok (.istore 5, 2) := dk_54 5 (dk_at dksX3_fails_0 9 rfl rfl)
theorem dX3_fails_11 : decode cX3_fails 11 = .ok (.aload_n 0, 1) := dk_42 (dk_at dksX3_fails_0 11 rfl rfl)
theorem dX3_fails_12 : decode cX3_fails 12 = .ok (.iload_n 1, 1) := dk_27 (dk_at dksX3_fails_0 12 rfl rfl)
theorem dX3_fails_13 : decode cX3_fails 13 = .ok (.iload_n 2, 1) := dk_28 (dk_at dksX3_fails_0 13 rfl rfl)
theorem dX3_fails_14 : decode cX3_fails 14 = .ok (.iconst 5, 1) := dk_8 (dk_at dksX3_fails_0 14 rfl rfl)
theorem dX3_fails_15 : decode cX3_fails 15 = .ok (.invokevirtual 66, 3) := dk_182 0 66 (dk_at dksX3_fails_0 15 rfl rfl)
theorem dX3_fails_18 : decode cX3_fails 18 = .ok (.istore 6, 2) := dk_54 6 (dk_at dksX3_fails_0 18 rfl rfl)
theorem dX3_fails_20 : decode cX3_fails 20 = .ok (.iconst 4, 1) := dk_7 (dk_at dksX3_fails_0 20 rfl rfl)
theorem dX3_fails_21 : decode cX3_fails 21 = .ok (.iload 6, 2) := dk_21 6 (dk_at dksX3_fails_0 21 rfl rfl)
theorem dX3_fails_23 : decode cX3_fails 23 = .ok (.imul, 1) := dk_104 (dk_at dksX3_fails_0 23 rfl rfl)
theorem dX3_fails_24 : decode cX3_fails 24 = .ok (.iconst 1, 1) := dk_4 (dk_at dksX3_fails_1 0 rfl rfl)
theorem dX3_fails_25 : decode cX3_fails 25 = .ok (.isub, 1) := dk_100 (dk_at dksX3_fails_1 1 rfl rfl)
theorem dX3_fails_26 : decode cX3_fails 26 = .ok (.istore 7, 2) := dk_54 7 (dk_at dksX3_fails_1 2 rfl rfl)
theorem dX3_fails_28 : decode cX3_fails 28 = .ok (.iload 7, 2) := dk_21 7 (dk_at dksX3_fails_1 4 rfl rfl)
theorem dX3_fails_30 : decode cX3_fails 30 = .ok (.ifCond .lt 31, 3) := dk_155 0 31 (dk_at dksX3_fails_1 6 rfl rfl)
theorem dX3_fails_33 : decode cX3_fails 33 = .ok (.aload_n 0, 1) := dk_42 (dk_at dksX3_fails_1 9 rfl rfl)
theorem dX3_fails_34 : decode cX3_fails 34 = .ok (.iload_n 1, 1) := dk_27 (dk_at dksX3_fails_1 10 rfl rfl)
theorem dX3_fails_35 : decode cX3_fails 35 = .ok (.iload_n 2, 1) := dk_28 (dk_at dksX3_fails_1 11 rfl rfl)
theorem dX3_fails_36 : decode cX3_fails 36 = .ok (.bipush 10, 2) := dk_16 10 (dk_at dksX3_fails_1 12 rfl rfl)
theorem dX3_fails_38 : decode cX3_fails 38 = .ok (.iload 7, 2) := dk_21 7 (dk_at dksX3_fails_1 14 rfl rfl)
theorem dX3_fails_40 : decode cX3_fails 40 = .ok (.iadd, 1) := dk_96 (dk_at dksX3_fails_1 16 rfl rfl)
theorem dX3_fails_41 : decode cX3_fails 41 = .ok (.aload_n 0, 1) := dk_42 (dk_at dksX3_fails_1 17 rfl rfl)
theorem dX3_fails_42 : decode cX3_fails 42 = .ok (.iload_n 1, 1) := dk_27 (dk_at dksX3_fails_1 18 rfl rfl)
theorem dX3_fails_43 : decode cX3_fails 43 = .ok (.iload_n 2, 1) := dk_28 (dk_at dksX3_fails_1 19 rfl rfl)
theorem dX3_fails_44 : decode cX3_fails 44 = .ok (.bipush 6, 2) := dk_16 6 (dk_at dksX3_fails_1 20 rfl rfl)
theorem dX3_fails_46 : decode cX3_fails 46 = .ok (.iload 7, 2) := dk_21 7 (dk_at dksX3_fails_1 22 rfl rfl)
theorem dX3_fails_48 : decode cX3_fails 48 = .ok (.iadd, 1) := dk_96 (dk_at dksX3_fails_2 0 rfl rfl)
theorem dX3_fails_49 : decode cX3_fails 49 = .ok (.invokevirtual 66, 3) := dk_182 0 66 (dk_at dksX3_fails_2 1 rfl rfl)
theorem dX3_fails_52 : decode cX3_fails 52 = .ok (.invokevirtual 125, 3) := dk_182 0 125 (dk_at dksX3_fails_2 4 rfl rfl)
theorem dX3_fails_55 : decode cX3_fails 55 = .ok (.iinc 7 (-1), 3) := dk_132 7 255 (dk_at dksX3_fails_2 7 rfl rfl)
theorem dX3_fails_58 : decode cX3_fails 58 = .ok (.goto (-30), 3) := dk_167 255 226 (dk_at dksX3_fails_2 10 rfl rfl)
theorem dX3_fails_61 : decode cX3_fails 61 = .ok (.aload_n 0, 1) := dk_42 (dk_at dksX3_fails_2 13 rfl rfl)
theorem dX3_fails_62 : decode cX3_fails 62 = .ok (.sipush 3471, 3) := dk_17 13 143 (dk_at dksX3_fails_2 14 rfl rfl)
theorem dX3_fails_65 : decode cX3_fails 65 = .ok (.sipush 556, 3) := dk_17 2 44 (dk_at dksX3_fails_2 17 rfl rfl)
theorem dX3_fails_68 : decode cX3_fails 68 = .ok (.iload_n 1, 1) := dk_27 (dk_at dksX3_fails_2 20 rfl rfl)
theorem dX3_fails_69 : decode cX3_fails 69 = .ok (.imul, 1) := dk_104 (dk_at dksX3_fails_2 21 rfl rfl)
theorem dX3_fails_70 : decode cX3_fails 70 = .ok (.iadd, 1) := dk_96 (dk_at dksX3_fails_2 22 rfl rfl)
theorem dX3_fails_71 : decode cX3_fails 71 = .ok (.bipush 36, 2) := dk_16 36 (dk_at dksX3_fails_3 0 rfl rfl)
theorem dX3_fails_73 : decode cX3_fails 73 = .ok (.iadd, 1) := dk_96 (dk_at dksX3_fails_3 2 rfl rfl)
theorem dX3_fails_74 : decode cX3_fails 74 = .ok (.bipush 26, 2) := dk_16 26 (dk_at dksX3_fails_3 3 rfl rfl)
theorem dX3_fails_76 : decode cX3_fails 76 = .ok (.iload_n 2, 1) := dk_28 (dk_at dksX3_fails_3 5 rfl rfl)
theorem dX3_fails_77 : decode cX3_fails 77 = .ok (.imul, 1) := dk_104 (dk_at dksX3_fails_3 6 rfl rfl)
theorem dX3_fails_78 : decode cX3_fails 78 = .ok (.iadd, 1) := dk_96 (dk_at dksX3_fails_3 7 rfl rfl)
theorem dX3_fails_79 : decode cX3_fails 79 = .ok (.bipush 6, 2) := dk_16 6 (dk_at dksX3_fails_3 8 rfl rfl)
theorem dX3_fails_81 : decode cX3_fails 81 = .ok (.iadd, 1) := dk_96 (dk_at dksX3_fails_3 10 rfl rfl)
theorem dX3_fails_82 : decode cX3_fails 82 = .ok (.iload 5, 2) := dk_21 5 (dk_at dksX3_fails_3 11 rfl rfl)
theorem dX3_fails_84 : decode cX3_fails 84 = .ok (.iload_n 3, 1) := dk_29 (dk_at dksX3_fails_3 13 rfl rfl)
theorem dX3_fails_85 : decode cX3_fails 85 = .ok (.iload 4, 2) := dk_21 4 (dk_at dksX3_fails_3 14 rfl rfl)
theorem dX3_fails_87 : decode cX3_fails 87 = .ok (.invokevirtual 132, 3) := dk_182 0 132 (dk_at dksX3_fails_3 16 rfl rfl)
theorem dX3_fails_90 : decode cX3_fails 90 = .ok (.aload_n 0, 1) := dk_42 (dk_at dksX3_fails_3 19 rfl rfl)
theorem dX3_fails_91 : decode cX3_fails 91 = .ok (.iload_n 1, 1) := dk_27 (dk_at dksX3_fails_3 20 rfl rfl)
theorem dX3_fails_92 : decode cX3_fails 92 = .ok (.iload_n 2, 1) := dk_28 (dk_at dksX3_fails_3 21 rfl rfl)
theorem dX3_fails_93 : decode cX3_fails 93 = .ok (.iconst 5, 1) := dk_8 (dk_at dksX3_fails_3 22 rfl rfl)
theorem dX3_fails_94 : decode cX3_fails 94 = .ok (.iload 6, 2) := dk_21 6 (dk_at dksX3_fails_4 0 rfl rfl)
theorem dX3_fails_96 : decode cX3_fails 96 = .ok (.iconst 1, 1) := dk_4 (dk_at dksX3_fails_4 2 rfl rfl)
theorem dX3_fails_97 : decode cX3_fails 97 = .ok (.iadd, 1) := dk_96 (dk_at dksX3_fails_4 3 rfl rfl)
theorem dX3_fails_98 : decode cX3_fails 98 = .ok (.invokevirtual 125, 3) := dk_182 0 125 (dk_at dksX3_fails_4 4 rfl rfl)
theorem dX3_fails_101 : decode cX3_fails 101 = .ok (.aload_n 0, 1) := dk_42 (dk_at dksX3_fails_4 7 rfl rfl)
theorem dX3_fails_102 : decode cX3_fails 102 = .ok (.iload_n 1, 1) := dk_27 (dk_at dksX3_fails_4 8 rfl rfl)
theorem dX3_fails_103 : decode cX3_fails 103 = .ok (.iload_n 2, 1) := dk_28 (dk_at dksX3_fails_4 9 rfl rfl)
theorem dX3_fails_104 : decode cX3_fails 104 = .ok (.iconst 2, 1) := dk_5 (dk_at dksX3_fails_4 10 rfl rfl)
theorem dX3_fails_105 : decode cX3_fails 105 = .ok (.iload 5, 2) := dk_21 5 (dk_at dksX3_fails_4 11 rfl rfl)
theorem dX3_fails_107 : decode cX3_fails 107 = .ok (.invokevirtual 125, 3) := dk_182 0 125 (dk_at dksX3_fails_4 13 rfl rfl)
theorem dX3_fails_110 : decode cX3_fails 110 = .ok (.aload_n 0, 1) := dk_42 (dk_at dksX3_fails_4 16 rfl rfl)
theorem dX3_fails_111 : decode cX3_fails 111 = .ok (.iload_n 1, 1) := dk_27 (dk_at dksX3_fails_4 17 rfl rfl)
theorem dX3_fails_112 : decode cX3_fails 112 = .ok (.iload_n 2, 1) := dk_28 (dk_at dksX3_fails_4 18 rfl rfl)
theorem dX3_fails_113 : decode cX3_fails 113 = .ok (.iconst 3, 1) := dk_6 (dk_at dksX3_fails_4 19 rfl rfl)
theorem dX3_fails_114 : decode cX3_fails 114 = .ok (.iconst (-1), 1) := dk_2 (dk_at dksX3_fails_4 20 rfl rfl)
theorem dX3_fails_115 : decode cX3_fails 115 = .ok (.invokevirtual 125, 3) := dk_182 0 125 (dk_at dksX3_fails_4 21 rfl rfl)
theorem dX3_fails_118 : decode cX3_fails 118 = .ok (.aload_n 0, 1) := dk_42 (dk_at dksX3_fails_5 0 rfl rfl)
theorem dX3_fails_119 : decode cX3_fails 119 = .ok (.iload_n 1, 1) := dk_27 (dk_at dksX3_fails_5 1 rfl rfl)
theorem dX3_fails_120 : decode cX3_fails 120 = .ok (.iload_n 2, 1) := dk_28 (dk_at dksX3_fails_5 2 rfl rfl)
theorem dX3_fails_121 : decode cX3_fails 121 = .ok (.iconst 4, 1) := dk_7 (dk_at dksX3_fails_5 3 rfl rfl)
theorem dX3_fails_122 : decode cX3_fails 122 = .ok (.aload_n 0, 1) := dk_42 (dk_at dksX3_fails_5 4 rfl rfl)
theorem dX3_fails_123 : decode cX3_fails 123 = .ok (.getfield 9, 3) := dk_180 0 9 (dk_at dksX3_fails_5 5 rfl rfl)
theorem dX3_fails_126 : decode cX3_fails 126 = .ok (.iconst 4, 1) := dk_7 (dk_at dksX3_fails_5 8 rfl rfl)
theorem dX3_fails_127 : decode cX3_fails 127 = .ok (.iaload, 1) := dk_46 (dk_at dksX3_fails_5 9 rfl rfl)
theorem dX3_fails_128 : decode cX3_fails 128 = .ok (.aload_n 0, 1) := dk_42 (dk_at dksX3_fails_5 10 rfl rfl)
theorem dX3_fails_129 : decode cX3_fails 129 = .ok (.getfield 22, 3) := dk_180 0 22 (dk_at dksX3_fails_5 11 rfl rfl)
theorem dX3_fails_132 : decode cX3_fails 132 = .ok (.iload 5, 2) := dk_21 5 (dk_at dksX3_fails_5 14 rfl rfl)
theorem dX3_fails_134 : decode cX3_fails 134 = .ok (.iaload, 1) := dk_46 (dk_at dksX3_fails_5 16 rfl rfl)
theorem dX3_fails_135 : decode cX3_fails 135 = .ok (.iadd, 1) := dk_96 (dk_at dksX3_fails_5 17 rfl rfl)
theorem dX3_fails_136 : decode cX3_fails 136 = .ok (.invokevirtual 125, 3) := dk_182 0 125 (dk_at dksX3_fails_5 18 rfl rfl)
theorem dX3_fails_139 : decode cX3_fails 139 = .ok (.aload_n 0, 1) := dk_42 (dk_at dksX3_fails_5 21 rfl rfl)
theorem dX3_fails_140 : decode cX3_fails 140 = .ok (.iload_n 1, 1) := dk_27 (dk_at dksX3_fails_5 22 rfl rfl)
theorem dX3_fails_141 : decode cX3_fails 141 = .ok (.iload_n 2, 1) := dk_28 (dk_at dksX3_fails_5 23 rfl rfl)
theorem dX3_fails_142 : decode cX3_fails 142 = .ok (.iconst 1, 1) := dk_4 (dk_at dksX3_fails_6 0 rfl rfl)
theorem dX3_fails_143 : decode cX3_fails 143 = .ok (.iconst 1, 1) := dk_4 (dk_at dksX3_fails_6 1 rfl rfl)
theorem dX3_fails_144 : decode cX3_fails 144 = .ok (.invokevirtual 125, 3) := dk_182 0 125 (dk_at dksX3_fails_6 2 rfl rfl)
theorem dX3_fails_147 : decode cX3_fails 147 = .ok (.iload 5, 2) := dk_21 5 (dk_at dksX3_fails_6 5 rfl rfl)
theorem dX3_fails_149 : decode cX3_fails 149 = .ok (.aload_n 0, 1) := dk_42 (dk_at dksX3_fails_6 7 rfl rfl)
theorem dX3_fails_150 : decode cX3_fails 150 = .ok (.iload_n 1, 1) := dk_27 (dk_at dksX3_fails_6 8 rfl rfl)
theorem dX3_fails_151 : decode cX3_fails 151 = .ok (.bipush 27, 2) := dk_16 27 (dk_at dksX3_fails_6 9 rfl rfl)
theorem dX3_fails_153 : decode cX3_fails 153 = .ok (.invokevirtual 59, 3) := dk_182 0 59 (dk_at dksX3_fails_6 11 rfl rfl)
theorem dX3_fails_156 : decode cX3_fails 156 = .ok (.if_icmp .ne 13, 3) := dk_160 0 13 (dk_at dksX3_fails_6 14 rfl rfl)
theorem dX3_fails_159 : decode cX3_fails 159 = .ok (.aload_n 0, 1) := dk_42 (dk_at dksX3_fails_6 17 rfl rfl)
theorem dX3_fails_160 : decode cX3_fails 160 = .ok (.iload_n 1, 1) := dk_27 (dk_at dksX3_fails_6 18 rfl rfl)
theorem dX3_fails_161 : decode cX3_fails 161 = .ok (.iload_n 2, 1) := dk_28 (dk_at dksX3_fails_6 19 rfl rfl)
theorem dX3_fails_162 : decode cX3_fails 162 = .ok (.iconst 0, 1) := dk_3 (dk_at dksX3_fails_6 20 rfl rfl)
theorem dX3_fails_163 : decode cX3_fails 163 = .ok (.iconst 0, 1) := dk_3 (dk_at dksX3_fails_6 21 rfl rfl)
theorem dX3_fails_164 : decode cX3_fails 164 = .ok (.invokevirtual 139, 3) := dk_182 0 139 (dk_at dksX3_fails_7 0 rfl rfl)
theorem dX3_fails_167 : decode cX3_fails 167 = .ok (.iconst 1, 1) := dk_4 (dk_at dksX3_fails_7 3 rfl rfl)
theorem dX3_fails_168 : decode cX3_fails 168 = .ok (.ireturn, 1) := dk_172 (dk_at dksX3_fails_7 4 rfl rfl)
theorem dX3_fails_169 : decode cX3_fails 169 = .ok (.iconst 0, 1) := dk_3 (dk_at dksX3_fails_7 5 rfl rfl)
theorem dX3_fails_170 : decode cX3_fails 170 = .ok (.ireturn, 1) := dk_172 (dk_at dksX3_fails_7 6 rfl rfl)
abbrev cX3_dies : ByteArray := prog_24_method_32_code
def yX3_dies : MethodName := ⟨RX3, "dies", "(IIII)V"⟩
def dkwX3_dies_4 : List UInt8 := [167, 255, 216, 42, 180, 0, 9, 21, 5, 6, 96, 21, 6, 21, 7, 96, 79, 42, 27, 28, 182, 0, 135, 177]
abbrev dktX3_dies_4 : List UInt8 := dkwX3_dies_4 ++ []
def dkwX3_dies_3 : List UInt8 := [96, 7, 21, 7, 104, 96, 21, 8, 96, 42, 27, 28, 16, 6, 21, 8, 96, 182, 0, 66, 79, 132, 8, 1]
abbrev dktX3_dies_3 : List UInt8 := dkwX3_dies_3 ++ dktX3_dies_4
def dkwX3_dies_2 : List UInt8 := [21, 4, 182, 0, 132, 3, 54, 8, 21, 8, 7, 21, 6, 104, 162, 0, 37, 42, 180, 0, 9, 21, 5, 7]
abbrev dktX3_dies_2 : List UInt8 := dkwX3_dies_2 ++ dktX3_dies_3
def dkwX3_dies_1 : List UInt8 := [158, 0, 7, 4, 167, 0, 4, 3, 54, 7, 21, 7, 4, 160, 0, 16, 42, 21, 5, 7, 96, 21, 6, 29]
abbrev dktX3_dies_1 : List UInt8 := dkwX3_dies_1 ++ dktX3_dies_2
def dkwX3_dies_0 : List UInt8 := [42, 27, 42, 27, 28, 3, 182, 0, 66, 182, 0, 129, 54, 5, 42, 27, 28, 8, 182, 0, 66, 54, 6, 29]
abbrev dktX3_dies_0 : List UInt8 := dkwX3_dies_0 ++ dktX3_dies_1
theorem dksX3_dies_0 : cX3_dies.data.toList.drop 0 = dktX3_dies_0 := by decide +kernel
theorem dksX3_dies_1 : cX3_dies.data.toList.drop 24 = dktX3_dies_1 := dk_seg dksX3_dies_0 24 rfl rfl
theorem dksX3_dies_2 : cX3_dies.data.toList.drop 48 = dktX3_dies_2 := dk_seg dksX3_dies_1 24 rfl rfl
theorem dksX3_dies_3 : cX3_dies.data.toList.drop 72 = dktX3_dies_3 := dk_seg dksX3_dies_2 24 rfl rfl
theorem dksX3_dies_4 : cX3_dies.data.toList.drop 96 = dktX3_dies_4 := dk_seg dksX3_dies_3 24 rfl rfl
theorem dX3_dies_0 : decode cX3_dies 0 = .ok (.aload_n 0, 1) := dk_42 (dk_at dksX3_dies_0 0 rfl rfl)
theorem dX3_dies_1 : decode cX3_dies 1 = .ok (.iload_n 1, 1) := dk_27 (dk_at dksX3_dies_0 1 rfl rfl)
theorem dX3_dies_2 : decode cX3_dies 2 = .ok (.aload_n 0, 1) := dk_42 (dk_at dksX3_dies_0 2 rfl rfl)
theorem dX3_dies_3 : decode cX3_dies 3 = .ok (.iload_n 1, 1) := dk_27 (dk_at dksX3_dies_0 3 rfl rfl)
theorem dX3_dies_4 : decode cX3_dies 4 = .ok (.iload_n 2, 1) := dk_28 (dk_at dksX3_dies_0 4 rfl rfl)
theorem dX3_dies_5 : decode cX3_dies 5 = .ok (.iconst 0, 1) := dk_3 (dk_at dksX3_dies_0 5 rfl rfl)
theorem dX3_dies_6 : decode cX3_dies 6 = .ok (.invokevirtual 66, 3) := dk_182 0 66 (dk_at dksX3_dies_0 6 rfl rfl)
theorem dX3_dies_9 : decode cX3_dies 9 = .ok (.invokevirtual 129, 3) := dk_182 0 129 (dk_at dksX3_dies_0 9 rfl rfl)
theorem dX3_dies_12 : decode cX3_dies 12 = .ok (.istore 5, 2) := dk_54 5 (dk_at dksX3_dies_0 12 rfl rfl)
theorem dX3_dies_14 : decode cX3_dies 14 = .ok (.aload_n 0, 1) := dk_42 (dk_at dksX3_dies_0 14 rfl rfl)
theorem dX3_dies_15 : decode cX3_dies 15 = .ok (.iload_n 1, 1) := dk_27 (dk_at dksX3_dies_0 15 rfl rfl)
theorem dX3_dies_16 : decode cX3_dies 16 = .ok (.iload_n 2, 1) := dk_28 (dk_at dksX3_dies_0 16 rfl rfl)
theorem dX3_dies_17 : decode cX3_dies 17 = .ok (.iconst 5, 1) := dk_8 (dk_at dksX3_dies_0 17 rfl rfl)
theorem dX3_dies_18 : decode cX3_dies 18 = .ok (.invokevirtual 66, 3) := dk_182 0 66 (dk_at dksX3_dies_0 18 rfl rfl)
theorem dX3_dies_21 : decode cX3_dies 21 = .ok (.istore 6, 2) := dk_54 6 (dk_at dksX3_dies_0 21 rfl rfl)
theorem dX3_dies_23 : decode cX3_dies 23 = .ok (.iload_n 3, 1) := dk_29 (dk_at dksX3_dies_0 23 rfl rfl)
theorem dX3_dies_24 : decode cX3_dies 24 = .ok (.ifCond .le 7, 3) := dk_158 0 7 (dk_at dksX3_dies_1 0 rfl rfl)
theorem dX3_dies_27 : decode cX3_dies 27 = .ok (.iconst 1, 1) := dk_4 (dk_at dksX3_dies_1 3 rfl rfl)
theorem dX3_dies_28 : decode cX3_dies 28 = .ok (.goto 4, 3) := dk_167 0 4 (dk_at dksX3_dies_1 4 rfl rfl)
theorem dX3_dies_31 : decode cX3_dies 31 = .ok (.iconst 0, 1) := dk_3 (dk_at dksX3_dies_1 7 rfl rfl)
theorem dX3_dies_32 : decode cX3_dies 32 = .ok (.istore 7, 2) := dk_54 7 (dk_at dksX3_dies_1 8 rfl rfl)
theorem dX3_dies_34 : decode cX3_dies 34 = .ok (.iload 7, 2) := dk_21 7 (dk_at dksX3_dies_1 10 rfl rfl)
theorem dX3_dies_36 : decode cX3_dies 36 = .ok (.iconst 1, 1) := dk_4 (dk_at dksX3_dies_1 12 rfl rfl)
theorem dX3_dies_37 : decode cX3_dies 37 = .ok (.if_icmp .ne 16, 3) := dk_160 0 16 (dk_at dksX3_dies_1 13 rfl rfl)
theorem dX3_dies_40 : decode cX3_dies 40 = .ok (.aload_n 0, 1) := dk_42 (dk_at dksX3_dies_1 16 rfl rfl)
theorem dX3_dies_41 : decode cX3_dies 41 = .ok (.iload 5, 2) := dk_21 5 (dk_at dksX3_dies_1 17 rfl rfl)
theorem dX3_dies_43 : decode cX3_dies 43 = .ok (.iconst 4, 1) := dk_7 (dk_at dksX3_dies_1 19 rfl rfl)
theorem dX3_dies_44 : decode cX3_dies 44 = .ok (.iadd, 1) := dk_96 (dk_at dksX3_dies_1 20 rfl rfl)
theorem dX3_dies_45 : decode cX3_dies 45 = .ok (.iload 6, 2) := dk_21 6 (dk_at dksX3_dies_1 21 rfl rfl)
theorem dX3_dies_47 : decode cX3_dies 47 = .ok (.iload_n 3, 1) := dk_29 (dk_at dksX3_dies_1 23 rfl rfl)
theorem dX3_dies_48 : decode cX3_dies 48 = .ok (.iload 4, 2) := dk_21 4 (dk_at dksX3_dies_2 0 rfl rfl)
theorem dX3_dies_50 : decode cX3_dies 50 = .ok (.invokevirtual 132, 3) := dk_182 0 132 (dk_at dksX3_dies_2 2 rfl rfl)
theorem dX3_dies_53 : decode cX3_dies 53 = .ok (.iconst 0, 1) := dk_3 (dk_at dksX3_dies_2 5 rfl rfl)
theorem dX3_dies_54 : decode cX3_dies 54 = .ok (.istore 8, 2) := dk_54 8 (dk_at dksX3_dies_2 6 rfl rfl)
theorem dX3_dies_56 : decode cX3_dies 56 = .ok (.iload 8, 2) := dk_21 8 (dk_at dksX3_dies_2 8 rfl rfl)
theorem dX3_dies_58 : decode cX3_dies 58 = .ok (.iconst 4, 1) := dk_7 (dk_at dksX3_dies_2 10 rfl rfl)
theorem dX3_dies_59 : decode cX3_dies 59 = .ok (.iload 6, 2) := dk_21 6 (dk_at dksX3_dies_2 11 rfl rfl)
theorem dX3_dies_61 : decode cX3_dies 61 = .ok (.imul, 1) := dk_104 (dk_at dksX3_dies_2 13 rfl rfl)
theorem dX3_dies_62 : decode cX3_dies 62 = .ok (.if_icmp .ge 37, 3) := dk_162 0 37 (dk_at dksX3_dies_2 14 rfl rfl)
theorem dX3_dies_65 : decode cX3_dies 65 = .ok (.aload_n 0, 1) := dk_42 (dk_at dksX3_dies_2 17 rfl rfl)
theorem dX3_dies_66 : decode cX3_dies 66 = .ok (.getfield 9, 3) := dk_180 0 9 (dk_at dksX3_dies_2 18 rfl rfl)
theorem dX3_dies_69 : decode cX3_dies 69 = .ok (.iload 5, 2) := dk_21 5 (dk_at dksX3_dies_2 21 rfl rfl)
theorem dX3_dies_71 : decode cX3_dies 71 = .ok (.iconst 4, 1) := dk_7 (dk_at dksX3_dies_2 23 rfl rfl)
theorem dX3_dies_72 : decode cX3_dies 72 = .ok (.iadd, 1) := dk_96 (dk_at dksX3_dies_3 0 rfl rfl)
theorem dX3_dies_73 : decode cX3_dies 73 = .ok (.iconst 4, 1) := dk_7 (dk_at dksX3_dies_3 1 rfl rfl)
theorem dX3_dies_74 : decode cX3_dies 74 = .ok (.iload 7, 2) := dk_21 7 (dk_at dksX3_dies_3 2 rfl rfl)
theorem dX3_dies_76 : decode cX3_dies 76 = .ok (.imul, 1) := dk_104 (dk_at dksX3_dies_3 4 rfl rfl)
theorem dX3_dies_77 : decode cX3_dies 77 = .ok (.iadd, 1) := dk_96 (dk_at dksX3_dies_3 5 rfl rfl)
theorem dX3_dies_78 : decode cX3_dies 78 = .ok (.iload 8, 2) := dk_21 8 (dk_at dksX3_dies_3 6 rfl rfl)
theorem dX3_dies_80 : decode cX3_dies 80 = .ok (.iadd, 1) := dk_96 (dk_at dksX3_dies_3 8 rfl rfl)
theorem dX3_dies_81 : decode cX3_dies 81 = .ok (.aload_n 0, 1) := dk_42 (dk_at dksX3_dies_3 9 rfl rfl)
theorem dX3_dies_82 : decode cX3_dies 82 = .ok (.iload_n 1, 1) := dk_27 (dk_at dksX3_dies_3 10 rfl rfl)
theorem dX3_dies_83 : decode cX3_dies 83 = .ok (.iload_n 2, 1) := dk_28 (dk_at dksX3_dies_3 11 rfl rfl)
theorem dX3_dies_84 : decode cX3_dies 84 = .ok (.bipush 6, 2) := dk_16 6 (dk_at dksX3_dies_3 12 rfl rfl)
theorem dX3_dies_86 : decode cX3_dies 86 = .ok (.iload 8, 2) := dk_21 8 (dk_at dksX3_dies_3 14 rfl rfl)
theorem dX3_dies_88 : decode cX3_dies 88 = .ok (.iadd, 1) := dk_96 (dk_at dksX3_dies_3 16 rfl rfl)
theorem dX3_dies_89 : decode cX3_dies 89 = .ok (.invokevirtual 66, 3) := dk_182 0 66 (dk_at dksX3_dies_3 17 rfl rfl)
theorem dX3_dies_92 : decode cX3_dies 92 = .ok (.iastore, 1) := dk_79 (dk_at dksX3_dies_3 20 rfl rfl)
theorem dX3_dies_93 : decode cX3_dies 93 = .ok (.iinc 8 1, 3) := dk_132 8 1 (dk_at dksX3_dies_3 21 rfl rfl)
theorem dX3_dies_96 : decode cX3_dies 96 = .ok (.goto (-40), 3) := dk_167 255 216 (dk_at dksX3_dies_4 0 rfl rfl)
theorem dX3_dies_99 : decode cX3_dies 99 = .ok (.aload_n 0, 1) := dk_42 (dk_at dksX3_dies_4 3 rfl rfl)
theorem dX3_dies_100 : decode cX3_dies 100 = .ok (.getfield 9, 3) := dk_180 0 9 (dk_at dksX3_dies_4 4 rfl rfl)
theorem dX3_dies_103 : decode cX3_dies 103 = .ok (.iload 5, 2) := dk_21 5 (dk_at dksX3_dies_4 7 rfl rfl)
theorem dX3_dies_105 : decode cX3_dies 105 = .ok (.iconst 3, 1) := dk_6 (dk_at dksX3_dies_4 9 rfl rfl)
theorem dX3_dies_106 : decode cX3_dies 106 = .ok (.iadd, 1) := dk_96 (dk_at dksX3_dies_4 10 rfl rfl)
theorem dX3_dies_107 : decode cX3_dies 107 = .ok (.iload 6, 2) := dk_21 6 (dk_at dksX3_dies_4 11 rfl rfl)
theorem dX3_dies_109 : decode cX3_dies 109 = .ok (.iload 7, 2) := dk_21 7 (dk_at dksX3_dies_4 13 rfl rfl)
theorem dX3_dies_111 : decode cX3_dies 111 = .ok (.iadd, 1) := dk_96 (dk_at dksX3_dies_4 15 rfl rfl)
theorem dX3_dies_112 : decode cX3_dies 112 = .ok (.iastore, 1) := dk_79 (dk_at dksX3_dies_4 16 rfl rfl)
theorem dX3_dies_113 : decode cX3_dies 113 = .ok (.aload_n 0, 1) := dk_42 (dk_at dksX3_dies_4 17 rfl rfl)
theorem dX3_dies_114 : decode cX3_dies 114 = .ok (.iload_n 1, 1) := dk_27 (dk_at dksX3_dies_4 18 rfl rfl)
theorem dX3_dies_115 : decode cX3_dies 115 = .ok (.iload_n 2, 1) := dk_28 (dk_at dksX3_dies_4 19 rfl rfl)
theorem dX3_dies_116 : decode cX3_dies 116 = .ok (.invokevirtual 135, 3) := dk_182 0 135 (dk_at dksX3_dies_4 20 rfl rfl)
theorem dX3_dies_119 : decode cX3_dies 119 = .ok (.return_, 1) := dk_177 (dk_at dksX3_dies_4 23 rfl rfl)
abbrev cX3_exclusive : ByteArray := prog_24_method_49_code
def yX3_exclusive : MethodName := ⟨RX3, "exclusive", "(II)I"⟩
def dkwX3_exclusive_1 : List UInt8 := [172, 42, 27, 16, 30, 182, 0, 59, 62, 42, 27, 16, 30, 28, 182, 0, 62, 29, 172]
abbrev dktX3_exclusive_1 : List UInt8 := dkwX3_exclusive_1 ++ []
def dkwX3_exclusive_0 : List UInt8 := [42, 27, 182, 0, 122, 153, 0, 13, 28, 133, 9, 10, 184, 0, 47, 154, 0, 10, 42, 16, 174, 182, 0, 75]
abbrev dktX3_exclusive_0 : List UInt8 := dkwX3_exclusive_0 ++ dktX3_exclusive_1
theorem dksX3_exclusive_0 : cX3_exclusive.data.toList.drop 0 = dktX3_exclusive_0 := by decide +kernel
theorem dksX3_exclusive_1 : cX3_exclusive.data.toList.drop 24 = dktX3_exclusive_1 := dk_seg dksX3_exclusive_0 24 rfl rfl
theorem dX3_exclusive_0 : decode cX3_exclusive 0 = .ok (.aload_n 0, 1) := dk_42 (dk_at dksX3_exclusive_0 0 rfl rfl)
theorem dX3_exclusive_1 : decode cX3_exclusive 1 = .ok (.iload_n 1, 1) := dk_27 (dk_at dksX3_exclusive_0 1 rfl rfl)
theorem dX3_exclusive_2 : decode cX3_exclusive 2 = .ok (.invokevirtual 122, 3) := dk_182 0 122 (dk_at dksX3_exclusive_0 2 rfl rfl)
theorem dX3_exclusive_5 : decode cX3_exclusive 5 = .ok (.ifCond .eq 13, 3) := dk_153 0 13 (dk_at dksX3_exclusive_0 5 rfl rfl)
theorem dX3_exclusive_8 : decode cX3_exclusive 8 = .ok (.iload_n 2, 1) := dk_28 (dk_at dksX3_exclusive_0 8 rfl rfl)
theorem dX3_exclusive_9 : decode cX3_exclusive 9 = .ok (.i2l, 1) := dk_133 (dk_at dksX3_exclusive_0 9 rfl rfl)
theorem dX3_exclusive_10 : decode cX3_exclusive 10 = .ok (.lconst 0, 1) := dk_9 (dk_at dksX3_exclusive_0 10 rfl rfl)
theorem dX3_exclusive_11 : decode cX3_exclusive 11 = .ok (.lconst 1, 1) := dk_10 (dk_at dksX3_exclusive_0 11 rfl rfl)
theorem dX3_exclusive_12 : decode cX3_exclusive 12 = .ok (.invokestatic 47, 3) := dk_184 0 47 (dk_at dksX3_exclusive_0 12 rfl rfl)
theorem dX3_exclusive_15 : decode cX3_exclusive 15 = .ok (.ifCond .ne 10, 3) := dk_154 0 10 (dk_at dksX3_exclusive_0 15 rfl rfl)
theorem dX3_exclusive_18 : decode cX3_exclusive 18 = .ok (.aload_n 0, 1) := dk_42 (dk_at dksX3_exclusive_0 18 rfl rfl)
theorem dX3_exclusive_19 : decode cX3_exclusive 19 = .ok (.bipush (-82), 2) := dk_16 174 (dk_at dksX3_exclusive_0 19 rfl rfl)
theorem dX3_exclusive_21 : decode cX3_exclusive 21 = .ok (.invokevirtual 75, 3) := dk_182 0 75 (dk_at dksX3_exclusive_0 21 rfl rfl)
theorem dX3_exclusive_24 : decode cX3_exclusive 24 = .ok (.ireturn, 1) := dk_172 (dk_at dksX3_exclusive_1 0 rfl rfl)
theorem dX3_exclusive_25 : decode cX3_exclusive 25 = .ok (.aload_n 0, 1) := dk_42 (dk_at dksX3_exclusive_1 1 rfl rfl)
theorem dX3_exclusive_26 : decode cX3_exclusive 26 = .ok (.iload_n 1, 1) := dk_27 (dk_at dksX3_exclusive_1 2 rfl rfl)
theorem dX3_exclusive_27 : decode cX3_exclusive 27 = .ok (.bipush 30, 2) := dk_16 30 (dk_at dksX3_exclusive_1 3 rfl rfl)
theorem dX3_exclusive_29 : decode cX3_exclusive 29 = .ok (.invokevirtual 59, 3) := dk_182 0 59 (dk_at dksX3_exclusive_1 5 rfl rfl)
theorem dX3_exclusive_32 : decode cX3_exclusive 32 = .ok (.istore_n 3, 1) := dk_62 (dk_at dksX3_exclusive_1 8 rfl rfl)
theorem dX3_exclusive_33 : decode cX3_exclusive 33 = .ok (.aload_n 0, 1) := dk_42 (dk_at dksX3_exclusive_1 9 rfl rfl)
theorem dX3_exclusive_34 : decode cX3_exclusive 34 = .ok (.iload_n 1, 1) := dk_27 (dk_at dksX3_exclusive_1 10 rfl rfl)
theorem dX3_exclusive_35 : decode cX3_exclusive 35 = .ok (.bipush 30, 2) := dk_16 30 (dk_at dksX3_exclusive_1 11 rfl rfl)
theorem dX3_exclusive_37 : decode cX3_exclusive 37 = .ok (.iload_n 2, 1) := dk_28 (dk_at dksX3_exclusive_1 13 rfl rfl)
theorem dX3_exclusive_38 : decode cX3_exclusive 38 = .ok (.invokevirtual 62, 3) := dk_182 0 62 (dk_at dksX3_exclusive_1 14 rfl rfl)
theorem dX3_exclusive_41 : decode cX3_exclusive 41 = .ok (.iload_n 3, 1) := dk_29 (dk_at dksX3_exclusive_1 17 rfl rfl)
theorem dX3_exclusive_42 : decode cX3_exclusive 42 = .ok (.ireturn, 1) := dk_172 (dk_at dksX3_exclusive_1 18 rfl rfl)
abbrev cX3_consumer : ByteArray := prog_24_method_50_code
def yX3_consumer : MethodName := ⟨RX3, "consumer", "(I)I"⟩
def dkwX3_consumer_4 : List UInt8 := [4, 96, 79, 28, 172]
abbrev dktX3_consumer_4 : List UInt8 := dkwX3_consumer_4 ++ []
def dkwX3_consumer_3 : List UInt8 := [5, 96, 3, 79, 42, 180, 0, 9, 16, 11, 7, 28, 104, 96, 6, 96, 3, 79, 42, 180, 0, 9, 4, 28]
abbrev dktX3_consumer_3 : List UInt8 := dkwX3_consumer_3 ++ dktX3_consumer_4
def dkwX3_consumer_2 : List UInt8 := [42, 180, 0, 9, 16, 11, 7, 28, 104, 96, 4, 96, 3, 79, 42, 180, 0, 9, 16, 11, 7, 28, 104, 96]
abbrev dktX3_consumer_2 : List UInt8 := dkwX3_consumer_2 ++ dktX3_consumer_3
def dkwX3_consumer_1 : List UInt8 := [16, 10, 160, 0, 10, 42, 16, 170, 182, 0, 75, 172, 42, 180, 0, 9, 16, 11, 7, 28, 104, 96, 27, 79]
abbrev dktX3_consumer_1 : List UInt8 := dkwX3_consumer_1 ++ dktX3_consumer_2
def dkwX3_consumer_0 : List UInt8 := [42, 27, 182, 0, 122, 154, 0, 10, 42, 16, 174, 182, 0, 75, 172, 42, 180, 0, 9, 4, 46, 61, 28]
abbrev dktX3_consumer_0 : List UInt8 := dkwX3_consumer_0 ++ dktX3_consumer_1
theorem dksX3_consumer_0 : cX3_consumer.data.toList.drop 0 = dktX3_consumer_0 := by decide +kernel
theorem dksX3_consumer_1 : cX3_consumer.data.toList.drop 23 = dktX3_consumer_1 := dk_seg dksX3_consumer_0 23 rfl rfl
theorem dksX3_consumer_2 : cX3_consumer.data.toList.drop 47 = dktX3_consumer_2 := dk_seg dksX3_consumer_1 24 rfl rfl
theorem dksX3_consumer_3 : cX3_consumer.data.toList.drop 71 = dktX3_consumer_3 := dk_seg dksX3_consumer_2 24 rfl rfl
theorem dksX3_consumer_4 : cX3_consumer.data.toList.drop 95 = dktX3_consumer_4 := dk_seg dksX3_consumer_3 24 rfl rfl
theorem dX3_consumer_0 : decode cX3_consumer 0 = .ok (.aload_n 0, 1) := dk_42 (dk_at dksX3_consumer_0 0 rfl rfl)
theorem dX3_consumer_1 : decode cX3_consumer 1 = .ok (.iload_n 1, 1) := dk_27 (dk_at dksX3_consumer_0 1 rfl rfl)
theorem dX3_consumer_2 : decode cX3_consumer 2 = .ok (.invokevirtual 122, 3) := dk_182 0 122 (dk_at dksX3_consumer_0 2 rfl rfl)
theorem dX3_consumer_5 : decode cX3_consumer 5 = .ok (.ifCond .ne 10, 3) := dk_154 0 10 (dk_at dksX3_consumer_0 5 rfl rfl)
theorem dX3_consumer_8 : decode cX3_consumer 8 = .ok (.aload_n 0, 1) := dk_42 (dk_at dksX3_consumer_0 8 rfl rfl)
theorem dX3_consumer_9 : decode cX3_consumer 9 = .ok (.bipush (-82), 2) := dk_16 174 (dk_at dksX3_consumer_0 9 rfl rfl)
theorem dX3_consumer_11 : decode cX3_consumer 11 = .ok (.invokevirtual 75, 3) := dk_182 0 75 (dk_at dksX3_consumer_0 11 rfl rfl)
theorem dX3_consumer_14 : decode cX3_consumer 14 = .ok (.ireturn, 1) := dk_172 (dk_at dksX3_consumer_0 14 rfl rfl)
theorem dX3_consumer_15 : decode cX3_consumer 15 = .ok (.aload_n 0, 1) := dk_42 (dk_at dksX3_consumer_0 15 rfl rfl)
theorem dX3_consumer_16 : decode cX3_consumer 16 = .ok (.getfield 9, 3) := dk_180 0 9 (dk_at dksX3_consumer_0 16 rfl rfl)
theorem dX3_consumer_19 : decode cX3_consumer 19 = .ok (.iconst 1, 1) := dk_4 (dk_at dksX3_consumer_0 19 rfl rfl)
theorem dX3_consumer_20 : decode cX3_consumer 20 = .ok (.iaload, 1) := dk_46 (dk_at dksX3_consumer_0 20 rfl rfl)
theorem dX3_consumer_21 : decode cX3_consumer 21 = .ok (.istore_n 2, 1) := dk_61 (dk_at dksX3_consumer_0 21 rfl rfl)
theorem dX3_consumer_22 : decode cX3_consumer 22 = .ok (.iload_n 2, 1) := dk_28 (dk_at dksX3_consumer_0 22 rfl rfl)
theorem dX3_consumer_23 : decode cX3_consumer 23 = .ok (.bipush 10, 2) := dk_16 10 (dk_at dksX3_consumer_1 0 rfl rfl)
theorem dX3_consumer_25 : decode cX3_consumer 25 = .ok (.if_icmp .ne 10, 3) := dk_160 0 10 (dk_at dksX3_consumer_1 2 rfl rfl)
theorem dX3_consumer_28 : decode cX3_consumer 28 = .ok (.aload_n 0, 1) := dk_42 (dk_at dksX3_consumer_1 5 rfl rfl)
theorem dX3_consumer_29 : decode cX3_consumer 29 = .ok (.bipush (-86), 2) := dk_16 170 (dk_at dksX3_consumer_1 6 rfl rfl)
theorem dX3_consumer_31 : decode cX3_consumer 31 = .ok (.invokevirtual 75, 3) := dk_182 0 75 (dk_at dksX3_consumer_1 8 rfl rfl)
theorem dX3_consumer_34 : decode cX3_consumer 34 = .ok (.ireturn, 1) := dk_172 (dk_at dksX3_consumer_1 11 rfl rfl)
theorem dX3_consumer_35 : decode cX3_consumer 35 = .ok (.aload_n 0, 1) := dk_42 (dk_at dksX3_consumer_1 12 rfl rfl)
theorem dX3_consumer_36 : decode cX3_consumer 36 = .ok (.getfield 9, 3) := dk_180 0 9 (dk_at dksX3_consumer_1 13 rfl rfl)
theorem dX3_consumer_39 : decode cX3_consumer 39 = .ok (.bipush 11, 2) := dk_16 11 (dk_at dksX3_consumer_1 16 rfl rfl)
theorem dX3_consumer_41 : decode cX3_consumer 41 = .ok (.iconst 4, 1) := dk_7 (dk_at dksX3_consumer_1 18 rfl rfl)
theorem dX3_consumer_42 : decode cX3_consumer 42 = .ok (.iload_n 2, 1) := dk_28 (dk_at dksX3_consumer_1 19 rfl rfl)
theorem dX3_consumer_43 : decode cX3_consumer 43 = .ok (.imul, 1) := dk_104 (dk_at dksX3_consumer_1 20 rfl rfl)
theorem dX3_consumer_44 : decode cX3_consumer 44 = .ok (.iadd, 1) := dk_96 (dk_at dksX3_consumer_1 21 rfl rfl)
theorem dX3_consumer_45 : decode cX3_consumer 45 = .ok (.iload_n 1, 1) := dk_27 (dk_at dksX3_consumer_1 22 rfl rfl)
theorem dX3_consumer_46 : decode cX3_consumer 46 = .ok (.iastore, 1) := dk_79 (dk_at dksX3_consumer_1 23 rfl rfl)
theorem dX3_consumer_47 : decode cX3_consumer 47 = .ok (.aload_n 0, 1) := dk_42 (dk_at dksX3_consumer_2 0 rfl rfl)
theorem dX3_consumer_48 : decode cX3_consumer 48 = .ok (.getfield 9, 3) := dk_180 0 9 (dk_at dksX3_consumer_2 1 rfl rfl)
theorem dX3_consumer_51 : decode cX3_consumer 51 = .ok (.bipush 11, 2) := dk_16 11 (dk_at dksX3_consumer_2 4 rfl rfl)
theorem dX3_consumer_53 : decode cX3_consumer 53 = .ok (.iconst 4, 1) := dk_7 (dk_at dksX3_consumer_2 6 rfl rfl)
theorem dX3_consumer_54 : decode cX3_consumer 54 = .ok (.iload_n 2, 1) := dk_28 (dk_at dksX3_consumer_2 7 rfl rfl)
theorem dX3_consumer_55 : decode cX3_consumer 55 = .ok (.imul, 1) := dk_104 (dk_at dksX3_consumer_2 8 rfl rfl)
theorem dX3_consumer_56 : decode cX3_consumer 56 = .ok (.iadd, 1) := dk_96 (dk_at dksX3_consumer_2 9 rfl rfl)
theorem dX3_consumer_57 : decode cX3_consumer 57 = .ok (.iconst 1, 1) := dk_4 (dk_at dksX3_consumer_2 10 rfl rfl)
theorem dX3_consumer_58 : decode cX3_consumer 58 = .ok (.iadd, 1) := dk_96 (dk_at dksX3_consumer_2 11 rfl rfl)
theorem dX3_consumer_59 : decode cX3_consumer 59 = .ok (.iconst 0, 1) := dk_3 (dk_at dksX3_consumer_2 12 rfl rfl)
theorem dX3_consumer_60 : decode cX3_consumer 60 = .ok (.iastore, 1) := dk_79 (dk_at dksX3_consumer_2 13 rfl rfl)
theorem dX3_consumer_61 : decode cX3_consumer 61 = .ok (.aload_n 0, 1) := dk_42 (dk_at dksX3_consumer_2 14 rfl rfl)
theorem dX3_consumer_62 : decode cX3_consumer 62 = .ok (.getfield 9, 3) := dk_180 0 9 (dk_at dksX3_consumer_2 15 rfl rfl)
theorem dX3_consumer_65 : decode cX3_consumer 65 = .ok (.bipush 11, 2) := dk_16 11 (dk_at dksX3_consumer_2 18 rfl rfl)
theorem dX3_consumer_67 : decode cX3_consumer 67 = .ok (.iconst 4, 1) := dk_7 (dk_at dksX3_consumer_2 20 rfl rfl)
theorem dX3_consumer_68 : decode cX3_consumer 68 = .ok (.iload_n 2, 1) := dk_28 (dk_at dksX3_consumer_2 21 rfl rfl)
theorem dX3_consumer_69 : decode cX3_consumer 69 = .ok (.imul, 1) := dk_104 (dk_at dksX3_consumer_2 22 rfl rfl)
theorem dX3_consumer_70 : decode cX3_consumer 70 = .ok (.iadd, 1) := dk_96 (dk_at dksX3_consumer_2 23 rfl rfl)
theorem dX3_consumer_71 : decode cX3_consumer 71 = .ok (.iconst 2, 1) := dk_5 (dk_at dksX3_consumer_3 0 rfl rfl)
theorem dX3_consumer_72 : decode cX3_consumer 72 = .ok (.iadd, 1) := dk_96 (dk_at dksX3_consumer_3 1 rfl rfl)
theorem dX3_consumer_73 : decode cX3_consumer 73 = .ok (.iconst 0, 1) := dk_3 (dk_at dksX3_consumer_3 2 rfl rfl)
theorem dX3_consumer_74 : decode cX3_consumer 74 = .ok (.iastore, 1) := dk_79 (dk_at dksX3_consumer_3 3 rfl rfl)
theorem dX3_consumer_75 : decode cX3_consumer 75 = .ok (.aload_n 0, 1) := dk_42 (dk_at dksX3_consumer_3 4 rfl rfl)
theorem dX3_consumer_76 : decode cX3_consumer 76 = .ok (.getfield 9, 3) := dk_180 0 9 (dk_at dksX3_consumer_3 5 rfl rfl)
theorem dX3_consumer_79 : decode cX3_consumer 79 = .ok (.bipush 11, 2) := dk_16 11 (dk_at dksX3_consumer_3 8 rfl rfl)
theorem dX3_consumer_81 : decode cX3_consumer 81 = .ok (.iconst 4, 1) := dk_7 (dk_at dksX3_consumer_3 10 rfl rfl)
theorem dX3_consumer_82 : decode cX3_consumer 82 = .ok (.iload_n 2, 1) := dk_28 (dk_at dksX3_consumer_3 11 rfl rfl)
theorem dX3_consumer_83 : decode cX3_consumer 83 = .ok (.imul, 1) := dk_104 (dk_at dksX3_consumer_3 12 rfl rfl)
theorem dX3_consumer_84 : decode cX3_consumer 84 = .ok (.iadd, 1) := dk_96 (dk_at dksX3_consumer_3 13 rfl rfl)
theorem dX3_consumer_85 : decode cX3_consumer 85 = .ok (.iconst 3, 1) := dk_6 (dk_at dksX3_consumer_3 14 rfl rfl)
theorem dX3_consumer_86 : decode cX3_consumer 86 = .ok (.iadd, 1) := dk_96 (dk_at dksX3_consumer_3 15 rfl rfl)
theorem dX3_consumer_87 : decode cX3_consumer 87 = .ok (.iconst 0, 1) := dk_3 (dk_at dksX3_consumer_3 16 rfl rfl)
theorem dX3_consumer_88 : decode cX3_consumer 88 = .ok (.iastore, 1) := dk_79 (dk_at dksX3_consumer_3 17 rfl rfl)
theorem dX3_consumer_89 : decode cX3_consumer 89 = .ok (.aload_n 0, 1) := dk_42 (dk_at dksX3_consumer_3 18 rfl rfl)
theorem dX3_consumer_90 : decode cX3_consumer 90 = .ok (.getfield 9, 3) := dk_180 0 9 (dk_at dksX3_consumer_3 19 rfl rfl)
theorem dX3_consumer_93 : decode cX3_consumer 93 = .ok (.iconst 1, 1) := dk_4 (dk_at dksX3_consumer_3 22 rfl rfl)
theorem dX3_consumer_94 : decode cX3_consumer 94 = .ok (.iload_n 2, 1) := dk_28 (dk_at dksX3_consumer_3 23 rfl rfl)
theorem dX3_consumer_95 : decode cX3_consumer 95 = .ok (.iconst 1, 1) := dk_4 (dk_at dksX3_consumer_4 0 rfl rfl)
theorem dX3_consumer_96 : decode cX3_consumer 96 = .ok (.iadd, 1) := dk_96 (dk_at dksX3_consumer_4 1 rfl rfl)
theorem dX3_consumer_97 : decode cX3_consumer 97 = .ok (.iastore, 1) := dk_79 (dk_at dksX3_consumer_4 2 rfl rfl)
theorem dX3_consumer_98 : decode cX3_consumer 98 = .ok (.iload_n 2, 1) := dk_28 (dk_at dksX3_consumer_4 3 rfl rfl)
theorem dX3_consumer_99 : decode cX3_consumer 99 = .ok (.ireturn, 1) := dk_172 (dk_at dksX3_consumer_4 4 rfl rfl)
abbrev cX3_leave : ByteArray := prog_24_method_51_code
def yX3_leave : MethodName := ⟨RX3, "leave", "(I)I"⟩
def dkwX3_leave_4 : List UInt8 := [180, 0, 9, 16, 11, 7, 27, 104, 96, 4, 96, 3, 79, 28, 172]
abbrev dktX3_leave_4 : List UInt8 := dkwX3_leave_4 ++ []
def dkwX3_leave_3 : List UInt8 := [2, 182, 0, 183, 62, 167, 255, 203, 42, 180, 0, 9, 16, 11, 7, 27, 104, 96, 5, 96, 4, 79, 42]
abbrev dktX3_leave_3 : List UInt8 := dkwX3_leave_3 ++ dktX3_leave_4
def dkwX3_leave_2 : List UInt8 := [29, 6, 2, 182, 0, 125, 42, 42, 27, 3, 182, 0, 55, 29, 7, 2, 182, 0, 125, 132, 2, 1, 42, 27]
abbrev dktX3_leave_2 : List UInt8 := dkwX3_leave_2 ++ dktX3_leave_3
def dkwX3_leave_1 : List UInt8 := [29, 155, 0, 55, 42, 42, 27, 3, 182, 0, 55, 29, 4, 3, 182, 0, 125, 42, 42, 27, 3, 182, 0, 55]
abbrev dktX3_leave_1 : List UInt8 := dkwX3_leave_1 ++ dktX3_leave_2
def dkwX3_leave_0 : List UInt8 := [42, 27, 182, 0, 163, 154, 0, 10, 42, 16, 174, 182, 0, 75, 172, 3, 61, 42, 27, 2, 182, 0, 183, 62]
abbrev dktX3_leave_0 : List UInt8 := dkwX3_leave_0 ++ dktX3_leave_1
theorem dksX3_leave_0 : cX3_leave.data.toList.drop 0 = dktX3_leave_0 := by decide +kernel
theorem dksX3_leave_1 : cX3_leave.data.toList.drop 24 = dktX3_leave_1 := dk_seg dksX3_leave_0 24 rfl rfl
theorem dksX3_leave_2 : cX3_leave.data.toList.drop 48 = dktX3_leave_2 := dk_seg dksX3_leave_1 24 rfl rfl
theorem dksX3_leave_3 : cX3_leave.data.toList.drop 72 = dktX3_leave_3 := dk_seg dksX3_leave_2 24 rfl rfl
theorem dksX3_leave_4 : cX3_leave.data.toList.drop 95 = dktX3_leave_4 := dk_seg dksX3_leave_3 23 rfl rfl
theorem dX3_leave_0 : decode cX3_leave 0 = .ok (.aload_n 0, 1) := dk_42 (dk_at dksX3_leave_0 0 rfl rfl)
theorem dX3_leave_1 : decode cX3_leave 1 = .ok (.iload_n 1, 1) := dk_27 (dk_at dksX3_leave_0 1 rfl rfl)
theorem dX3_leave_2 : decode cX3_leave 2 = .ok (.invokevirtual 163, 3) := dk_182 0 163 (dk_at dksX3_leave_0 2 rfl rfl)
theorem dX3_leave_5 : decode cX3_leave 5 = .ok (.ifCond .ne 10, 3) := dk_154 0 10 (dk_at dksX3_leave_0 5 rfl rfl)
theorem dX3_leave_8 : decode cX3_leave 8 = .ok (.aload_n 0, 1) := dk_42 (dk_at dksX3_leave_0 8 rfl rfl)
theorem dX3_leave_9 : decode cX3_leave 9 = .ok (.bipush (-82), 2) := dk_16 174 (dk_at dksX3_leave_0 9 rfl rfl)
theorem dX3_leave_11 : decode cX3_leave 11 = .ok (.invokevirtual 75, 3) := dk_182 0 75 (dk_at dksX3_leave_0 11 rfl rfl)
theorem dX3_leave_14 : decode cX3_leave 14 = .ok (.ireturn, 1) := dk_172 (dk_at dksX3_leave_0 14 rfl rfl)
theorem dX3_leave_15 : decode cX3_leave 15 = .ok (.iconst 0, 1) := dk_3 (dk_at dksX3_leave_0 15 rfl rfl)
theorem dX3_leave_16 : decode cX3_leave 16 = .ok (.istore_n 2, 1) := dk_61 (dk_at dksX3_leave_0 16 rfl rfl)
theorem dX3_leave_17 : decode cX3_leave 17 = .ok (.aload_n 0, 1) := dk_42 (dk_at dksX3_leave_0 17 rfl rfl)
theorem dX3_leave_18 : decode cX3_leave 18 = .ok (.iload_n 1, 1) := dk_27 (dk_at dksX3_leave_0 18 rfl rfl)
theorem dX3_leave_19 : decode cX3_leave 19 = .ok (.iconst (-1), 1) := dk_2 (dk_at dksX3_leave_0 19 rfl rfl)
theorem dX3_leave_20 : decode cX3_leave 20 = .ok (.invokevirtual 183, 3) := dk_182 0 183 (dk_at dksX3_leave_0 20 rfl rfl)
theorem dX3_leave_23 : decode cX3_leave 23 = .ok (.istore_n 3, 1) := dk_62 (dk_at dksX3_leave_0 23 rfl rfl)
theorem dX3_leave_24 : decode cX3_leave 24 = .ok (.iload_n 3, 1) := dk_29 (dk_at dksX3_leave_1 0 rfl rfl)
theorem dX3_leave_25 : decode cX3_leave 25 = .ok (.ifCond .lt 55, 3) := dk_155 0 55 (dk_at dksX3_leave_1 1 rfl rfl)
theorem dX3_leave_28 : decode cX3_leave 28 = .ok (.aload_n 0, 1) := dk_42 (dk_at dksX3_leave_1 4 rfl rfl)
theorem dX3_leave_29 : decode cX3_leave 29 = .ok (.aload_n 0, 1) := dk_42 (dk_at dksX3_leave_1 5 rfl rfl)
theorem dX3_leave_30 : decode cX3_leave 30 = .ok (.iload_n 1, 1) := dk_27 (dk_at dksX3_leave_1 6 rfl rfl)
theorem dX3_leave_31 : decode cX3_leave 31 = .ok (.iconst 0, 1) := dk_3 (dk_at dksX3_leave_1 7 rfl rfl)
theorem dX3_leave_32 : decode cX3_leave 32 = .ok (.invokevirtual 55, 3) := dk_182 0 55 (dk_at dksX3_leave_1 8 rfl rfl)
theorem dX3_leave_35 : decode cX3_leave 35 = .ok (.iload_n 3, 1) := dk_29 (dk_at dksX3_leave_1 11 rfl rfl)
theorem dX3_leave_36 : decode cX3_leave 36 = .ok (.iconst 1, 1) := dk_4 (dk_at dksX3_leave_1 12 rfl rfl)
theorem dX3_leave_37 : decode cX3_leave 37 = .ok (.iconst 0, 1) := dk_3 (dk_at dksX3_leave_1 13 rfl rfl)
theorem dX3_leave_38 : decode cX3_leave 38 = .ok (.invokevirtual 125, 3) := dk_182 0 125 (dk_at dksX3_leave_1 14 rfl rfl)
theorem dX3_leave_41 : decode cX3_leave 41 = .ok (.aload_n 0, 1) := dk_42 (dk_at dksX3_leave_1 17 rfl rfl)
theorem dX3_leave_42 : decode cX3_leave 42 = .ok (.aload_n 0, 1) := dk_42 (dk_at dksX3_leave_1 18 rfl rfl)
theorem dX3_leave_43 : decode cX3_leave 43 = .ok (.iload_n 1, 1) := dk_27 (dk_at dksX3_leave_1 19 rfl rfl)
theorem dX3_leave_44 : decode cX3_leave 44 = .ok (.iconst 0, 1) := dk_3 (dk_at dksX3_leave_1 20 rfl rfl)
theorem dX3_leave_45 : decode cX3_leave 45 = .ok (.invokevirtual 55, 3) := dk_182 0 55 (dk_at dksX3_leave_1 21 rfl rfl)
theorem dX3_leave_48 : decode cX3_leave 48 = .ok (.iload_n 3, 1) := dk_29 (dk_at dksX3_leave_2 0 rfl rfl)
theorem dX3_leave_49 : decode cX3_leave 49 = .ok (.iconst 3, 1) := dk_6 (dk_at dksX3_leave_2 1 rfl rfl)
theorem dX3_leave_50 : decode cX3_leave 50 = .ok (.iconst (-1), 1) := dk_2 (dk_at dksX3_leave_2 2 rfl rfl)
theorem dX3_leave_51 : decode cX3_leave 51 = .ok (.invokevirtual 125, 3) := dk_182 0 125 (dk_at dksX3_leave_2 3 rfl rfl)
theorem dX3_leave_54 : decode cX3_leave 54 = .ok (.aload_n 0, 1) := dk_42 (dk_at dksX3_leave_2 6 rfl rfl)
theorem dX3_leave_55 : decode cX3_leave 55 = .ok (.aload_n 0, 1) := dk_42 (dk_at dksX3_leave_2 7 rfl rfl)
theorem dX3_leave_56 : decode cX3_leave 56 = .ok (.iload_n 1, 1) := dk_27 (dk_at dksX3_leave_2 8 rfl rfl)
theorem dX3_leave_57 : decode cX3_leave 57 = .ok (.iconst 0, 1) := dk_3 (dk_at dksX3_leave_2 9 rfl rfl)
theorem dX3_leave_58 : decode cX3_leave 58 = .ok (.invokevirtual 55, 3) := dk_182 0 55 (dk_at dksX3_leave_2 10 rfl rfl)
theorem dX3_leave_61 : decode cX3_leave 61 = .ok (.iload_n 3, 1) := dk_29 (dk_at dksX3_leave_2 13 rfl rfl)
theorem dX3_leave_62 : decode cX3_leave 62 = .ok (.iconst 4, 1) := dk_7 (dk_at dksX3_leave_2 14 rfl rfl)
theorem dX3_leave_63 : decode cX3_leave 63 = .ok (.iconst (-1), 1) := dk_2 (dk_at dksX3_leave_2 15 rfl rfl)
theorem dX3_leave_64 : decode cX3_leave 64 = .ok (.invokevirtual 125, 3) := dk_182 0 125 (dk_at dksX3_leave_2 16 rfl rfl)
theorem dX3_leave_67 : decode cX3_leave 67 = .ok (.iinc 2 1, 3) := dk_132 2 1 (dk_at dksX3_leave_2 19 rfl rfl)
theorem dX3_leave_70 : decode cX3_leave 70 = .ok (.aload_n 0, 1) := dk_42 (dk_at dksX3_leave_2 22 rfl rfl)
theorem dX3_leave_71 : decode cX3_leave 71 = .ok (.iload_n 1, 1) := dk_27 (dk_at dksX3_leave_2 23 rfl rfl)
theorem dX3_leave_72 : decode cX3_leave 72 = .ok (.iconst (-1), 1) := dk_2 (dk_at dksX3_leave_3 0 rfl rfl)
theorem dX3_leave_73 : decode cX3_leave 73 = .ok (.invokevirtual 183, 3) := dk_182 0 183 (dk_at dksX3_leave_3 1 rfl rfl)
theorem dX3_leave_76 : decode cX3_leave 76 = .ok (.istore_n 3, 1) := dk_62 (dk_at dksX3_leave_3 4 rfl rfl)
theorem dX3_leave_77 : decode cX3_leave 77 = .ok (.goto (-53), 3) := dk_167 255 203 (dk_at dksX3_leave_3 5 rfl rfl)
theorem dX3_leave_80 : decode cX3_leave 80 = .ok (.aload_n 0, 1) := dk_42 (dk_at dksX3_leave_3 8 rfl rfl)
theorem dX3_leave_81 : decode cX3_leave 81 = .ok (.getfield 9, 3) := dk_180 0 9 (dk_at dksX3_leave_3 9 rfl rfl)
theorem dX3_leave_84 : decode cX3_leave 84 = .ok (.bipush 11, 2) := dk_16 11 (dk_at dksX3_leave_3 12 rfl rfl)
theorem dX3_leave_86 : decode cX3_leave 86 = .ok (.iconst 4, 1) := dk_7 (dk_at dksX3_leave_3 14 rfl rfl)
theorem dX3_leave_87 : decode cX3_leave 87 = .ok (.iload_n 1, 1) := dk_27 (dk_at dksX3_leave_3 15 rfl rfl)
theorem dX3_leave_88 : decode cX3_leave 88 = .ok (.imul, 1) := dk_104 (dk_at dksX3_leave_3 16 rfl rfl)
theorem dX3_leave_89 : decode cX3_leave 89 = .ok (.iadd, 1) := dk_96 (dk_at dksX3_leave_3 17 rfl rfl)
theorem dX3_leave_90 : decode cX3_leave 90 = .ok (.iconst 2, 1) := dk_5 (dk_at dksX3_leave_3 18 rfl rfl)
theorem dX3_leave_91 : decode cX3_leave 91 = .ok (.iadd, 1) := dk_96 (dk_at dksX3_leave_3 19 rfl rfl)
theorem dX3_leave_92 : decode cX3_leave 92 = .ok (.iconst 1, 1) := dk_4 (dk_at dksX3_leave_3 20 rfl rfl)
theorem dX3_leave_93 : decode cX3_leave 93 = .ok (.iastore, 1) := dk_79 (dk_at dksX3_leave_3 21 rfl rfl)
theorem dX3_leave_94 : decode cX3_leave 94 = .ok (.aload_n 0, 1) := dk_42 (dk_at dksX3_leave_3 22 rfl rfl)
theorem dX3_leave_95 : decode cX3_leave 95 = .ok (.getfield 9, 3) := dk_180 0 9 (dk_at dksX3_leave_4 0 rfl rfl)
theorem dX3_leave_98 : decode cX3_leave 98 = .ok (.bipush 11, 2) := dk_16 11 (dk_at dksX3_leave_4 3 rfl rfl)
theorem dX3_leave_100 : decode cX3_leave 100 = .ok (.iconst 4, 1) := dk_7 (dk_at dksX3_leave_4 5 rfl rfl)
theorem dX3_leave_101 : decode cX3_leave 101 = .ok (.iload_n 1, 1) := dk_27 (dk_at dksX3_leave_4 6 rfl rfl)
theorem dX3_leave_102 : decode cX3_leave 102 = .ok (.imul, 1) := dk_104 (dk_at dksX3_leave_4 7 rfl rfl)
theorem dX3_leave_103 : decode cX3_leave 103 = .ok (.iadd, 1) := dk_96 (dk_at dksX3_leave_4 8 rfl rfl)
theorem dX3_leave_104 : decode cX3_leave 104 = .ok (.iconst 1, 1) := dk_4 (dk_at dksX3_leave_4 9 rfl rfl)
theorem dX3_leave_105 : decode cX3_leave 105 = .ok (.iadd, 1) := dk_96 (dk_at dksX3_leave_4 10 rfl rfl)
theorem dX3_leave_106 : decode cX3_leave 106 = .ok (.iconst 0, 1) := dk_3 (dk_at dksX3_leave_4 11 rfl rfl)
theorem dX3_leave_107 : decode cX3_leave 107 = .ok (.iastore, 1) := dk_79 (dk_at dksX3_leave_4 12 rfl rfl)
theorem dX3_leave_108 : decode cX3_leave 108 = .ok (.iload_n 2, 1) := dk_28 (dk_at dksX3_leave_4 13 rfl rfl)
theorem dX3_leave_109 : decode cX3_leave 109 = .ok (.ireturn, 1) := dk_172 (dk_at dksX3_leave_4 14 rfl rfl)
abbrev cX3_credit : ByteArray := prog_24_method_52_code
def yX3_credit : MethodName := ⟨RX3, "credit", "(II)I"⟩
def dkwX3_credit_2 : List UInt8 := [42, 180, 0, 9, 16, 11, 7, 27, 104, 96, 4, 96, 92, 46, 28, 96, 79, 42, 27, 4, 182, 0, 55, 172]
abbrev dktX3_credit_2 : List UInt8 := dkwX3_credit_2 ++ []
def dkwX3_credit_1 : List UInt8 := [182, 0, 75, 172, 42, 27, 4, 182, 0, 55, 28, 96, 16, 9, 164, 0, 10, 42, 16, 170, 182, 0, 75, 172]
abbrev dktX3_credit_1 : List UInt8 := dkwX3_credit_1 ++ dktX3_credit_2
def dkwX3_credit_0 : List UInt8 := [42, 27, 182, 0, 163, 153, 0, 15, 28, 133, 10, 20, 0, 195, 184, 0, 47, 154, 0, 10, 42, 16, 174]
abbrev dktX3_credit_0 : List UInt8 := dkwX3_credit_0 ++ dktX3_credit_1
theorem dksX3_credit_0 : cX3_credit.data.toList.drop 0 = dktX3_credit_0 := by decide +kernel
theorem dksX3_credit_1 : cX3_credit.data.toList.drop 23 = dktX3_credit_1 := dk_seg dksX3_credit_0 23 rfl rfl
theorem dksX3_credit_2 : cX3_credit.data.toList.drop 47 = dktX3_credit_2 := dk_seg dksX3_credit_1 24 rfl rfl
theorem dX3_credit_0 : decode cX3_credit 0 = .ok (.aload_n 0, 1) := dk_42 (dk_at dksX3_credit_0 0 rfl rfl)
theorem dX3_credit_1 : decode cX3_credit 1 = .ok (.iload_n 1, 1) := dk_27 (dk_at dksX3_credit_0 1 rfl rfl)
theorem dX3_credit_2 : decode cX3_credit 2 = .ok (.invokevirtual 163, 3) := dk_182 0 163 (dk_at dksX3_credit_0 2 rfl rfl)
theorem dX3_credit_5 : decode cX3_credit 5 = .ok (.ifCond .eq 15, 3) := dk_153 0 15 (dk_at dksX3_credit_0 5 rfl rfl)
theorem dX3_credit_8 : decode cX3_credit 8 = .ok (.iload_n 2, 1) := dk_28 (dk_at dksX3_credit_0 8 rfl rfl)
theorem dX3_credit_9 : decode cX3_credit 9 = .ok (.i2l, 1) := dk_133 (dk_at dksX3_credit_0 9 rfl rfl)
theorem dX3_credit_10 : decode cX3_credit 10 = .ok (.lconst 1, 1) := dk_10 (dk_at dksX3_credit_0 10 rfl rfl)
theorem dX3_credit_11 : decode cX3_credit 11 = .ok (.ldc2_w 195, 3) := dk_20 0 195 (dk_at dksX3_credit_0 11 rfl rfl)
theorem dX3_credit_14 : decode cX3_credit 14 = .ok (.invokestatic 47, 3) := dk_184 0 47 (dk_at dksX3_credit_0 14 rfl rfl)
theorem dX3_credit_17 : decode cX3_credit 17 = .ok (.ifCond .ne 10, 3) := dk_154 0 10 (dk_at dksX3_credit_0 17 rfl rfl)
theorem dX3_credit_20 : decode cX3_credit 20 = .ok (.aload_n 0, 1) := dk_42 (dk_at dksX3_credit_0 20 rfl rfl)
theorem dX3_credit_21 : decode cX3_credit 21 = .ok (.bipush (-82), 2) := dk_16 174 (dk_at dksX3_credit_0 21 rfl rfl)
theorem dX3_credit_23 : decode cX3_credit 23 = .ok (.invokevirtual 75, 3) := dk_182 0 75 (dk_at dksX3_credit_1 0 rfl rfl)
theorem dX3_credit_26 : decode cX3_credit 26 = .ok (.ireturn, 1) := dk_172 (dk_at dksX3_credit_1 3 rfl rfl)
theorem dX3_credit_27 : decode cX3_credit 27 = .ok (.aload_n 0, 1) := dk_42 (dk_at dksX3_credit_1 4 rfl rfl)
theorem dX3_credit_28 : decode cX3_credit 28 = .ok (.iload_n 1, 1) := dk_27 (dk_at dksX3_credit_1 5 rfl rfl)
theorem dX3_credit_29 : decode cX3_credit 29 = .ok (.iconst 1, 1) := dk_4 (dk_at dksX3_credit_1 6 rfl rfl)
theorem dX3_credit_30 : decode cX3_credit 30 = .ok (.invokevirtual 55, 3) := dk_182 0 55 (dk_at dksX3_credit_1 7 rfl rfl)
theorem dX3_credit_33 : decode cX3_credit 33 = .ok (.iload_n 2, 1) := dk_28 (dk_at dksX3_credit_1 10 rfl rfl)
theorem dX3_credit_34 : decode cX3_credit 34 = .ok (.iadd, 1) := dk_96 (dk_at dksX3_credit_1 11 rfl rfl)
theorem dX3_credit_35 : decode cX3_credit 35 = .ok (.bipush 9, 2) := dk_16 9 (dk_at dksX3_credit_1 12 rfl rfl)
theorem dX3_credit_37 : decode cX3_credit 37 = .ok (.if_icmp .le 10, 3) := dk_164 0 10 (dk_at dksX3_credit_1 14 rfl rfl)
theorem dX3_credit_40 : decode cX3_credit 40 = .ok (.aload_n 0, 1) := dk_42 (dk_at dksX3_credit_1 17 rfl rfl)
theorem dX3_credit_41 : decode cX3_credit 41 = .ok (.bipush (-86), 2) := dk_16 170 (dk_at dksX3_credit_1 18 rfl rfl)
theorem dX3_credit_43 : decode cX3_credit 43 = .ok (.invokevirtual 75, 3) := dk_182 0 75 (dk_at dksX3_credit_1 20 rfl rfl)
theorem dX3_credit_46 : decode cX3_credit 46 = .ok (.ireturn, 1) := dk_172 (dk_at dksX3_credit_1 23 rfl rfl)
theorem dX3_credit_47 : decode cX3_credit 47 = .ok (.aload_n 0, 1) := dk_42 (dk_at dksX3_credit_2 0 rfl rfl)
theorem dX3_credit_48 : decode cX3_credit 48 = .ok (.getfield 9, 3) := dk_180 0 9 (dk_at dksX3_credit_2 1 rfl rfl)
theorem dX3_credit_51 : decode cX3_credit 51 = .ok (.bipush 11, 2) := dk_16 11 (dk_at dksX3_credit_2 4 rfl rfl)
theorem dX3_credit_53 : decode cX3_credit 53 = .ok (.iconst 4, 1) := dk_7 (dk_at dksX3_credit_2 6 rfl rfl)
theorem dX3_credit_54 : decode cX3_credit 54 = .ok (.iload_n 1, 1) := dk_27 (dk_at dksX3_credit_2 7 rfl rfl)
theorem dX3_credit_55 : decode cX3_credit 55 = .ok (.imul, 1) := dk_104 (dk_at dksX3_credit_2 8 rfl rfl)
theorem dX3_credit_56 : decode cX3_credit 56 = .ok (.iadd, 1) := dk_96 (dk_at dksX3_credit_2 9 rfl rfl)
theorem dX3_credit_57 : decode cX3_credit 57 = .ok (.iconst 1, 1) := dk_4 (dk_at dksX3_credit_2 10 rfl rfl)
theorem dX3_credit_58 : decode cX3_credit 58 = .ok (.iadd, 1) := dk_96 (dk_at dksX3_credit_2 11 rfl rfl)
theorem dX3_credit_59 : decode cX3_credit 59 = .ok (.dup2, 1) := dk_92 (dk_at dksX3_credit_2 12 rfl rfl)
theorem dX3_credit_60 : decode cX3_credit 60 = .ok (.iaload, 1) := dk_46 (dk_at dksX3_credit_2 13 rfl rfl)
theorem dX3_credit_61 : decode cX3_credit 61 = .ok (.iload_n 2, 1) := dk_28 (dk_at dksX3_credit_2 14 rfl rfl)
theorem dX3_credit_62 : decode cX3_credit 62 = .ok (.iadd, 1) := dk_96 (dk_at dksX3_credit_2 15 rfl rfl)
theorem dX3_credit_63 : decode cX3_credit 63 = .ok (.iastore, 1) := dk_79 (dk_at dksX3_credit_2 16 rfl rfl)
theorem dX3_credit_64 : decode cX3_credit 64 = .ok (.aload_n 0, 1) := dk_42 (dk_at dksX3_credit_2 17 rfl rfl)
theorem dX3_credit_65 : decode cX3_credit 65 = .ok (.iload_n 1, 1) := dk_27 (dk_at dksX3_credit_2 18 rfl rfl)
theorem dX3_credit_66 : decode cX3_credit 66 = .ok (.iconst 1, 1) := dk_4 (dk_at dksX3_credit_2 19 rfl rfl)
theorem dX3_credit_67 : decode cX3_credit 67 = .ok (.invokevirtual 55, 3) := dk_182 0 55 (dk_at dksX3_credit_2 20 rfl rfl)
theorem dX3_credit_70 : decode cX3_credit 70 = .ok (.ireturn, 1) := dk_172 (dk_at dksX3_credit_2 23 rfl rfl)
abbrev cX3_pass : ByteArray := prog_24_method_55_code
def yX3_pass : MethodName := ⟨RX3, "pass", "(I)I"⟩
def dkwX3_pass_1 : List UInt8 := [182, 0, 75, 172]
abbrev dktX3_pass_1 : List UInt8 := dkwX3_pass_1 ++ []
def dkwX3_pass_0 : List UInt8 := [27, 133, 9, 20, 0, 108, 184, 0, 47, 153, 0, 11, 42, 27, 182, 0, 200, 167, 0, 9, 42, 16, 174]
abbrev dktX3_pass_0 : List UInt8 := dkwX3_pass_0 ++ dktX3_pass_1
theorem dksX3_pass_0 : cX3_pass.data.toList.drop 0 = dktX3_pass_0 := by decide +kernel
theorem dksX3_pass_1 : cX3_pass.data.toList.drop 23 = dktX3_pass_1 := dk_seg dksX3_pass_0 23 rfl rfl
theorem dX3_pass_0 : decode cX3_pass 0 = .ok (.iload_n 1, 1) := dk_27 (dk_at dksX3_pass_0 0 rfl rfl)
theorem dX3_pass_1 : decode cX3_pass 1 = .ok (.i2l, 1) := dk_133 (dk_at dksX3_pass_0 1 rfl rfl)
theorem dX3_pass_2 : decode cX3_pass 2 = .ok (.lconst 0, 1) := dk_9 (dk_at dksX3_pass_0 2 rfl rfl)
theorem dX3_pass_3 : decode cX3_pass 3 = .ok (.ldc2_w 108, 3) := dk_20 0 108 (dk_at dksX3_pass_0 3 rfl rfl)
theorem dX3_pass_6 : decode cX3_pass 6 = .ok (.invokestatic 47, 3) := dk_184 0 47 (dk_at dksX3_pass_0 6 rfl rfl)
theorem dX3_pass_9 : decode cX3_pass 9 = .ok (.ifCond .eq 11, 3) := dk_153 0 11 (dk_at dksX3_pass_0 9 rfl rfl)
theorem dX3_pass_12 : decode cX3_pass 12 = .ok (.aload_n 0, 1) := dk_42 (dk_at dksX3_pass_0 12 rfl rfl)
theorem dX3_pass_13 : decode cX3_pass 13 = .ok (.iload_n 1, 1) := dk_27 (dk_at dksX3_pass_0 13 rfl rfl)
theorem dX3_pass_14 : decode cX3_pass 14 = .ok (.invokevirtual 200, 3) := dk_182 0 200 (dk_at dksX3_pass_0 14 rfl rfl)
theorem dX3_pass_17 : decode cX3_pass 17 = .ok (.goto 9, 3) := dk_167 0 9 (dk_at dksX3_pass_0 17 rfl rfl)
theorem dX3_pass_20 : decode cX3_pass 20 = .ok (.aload_n 0, 1) := dk_42 (dk_at dksX3_pass_0 20 rfl rfl)
theorem dX3_pass_21 : decode cX3_pass 21 = .ok (.bipush (-82), 2) := dk_16 174 (dk_at dksX3_pass_0 21 rfl rfl)
theorem dX3_pass_23 : decode cX3_pass 23 = .ok (.invokevirtual 75, 3) := dk_182 0 75 (dk_at dksX3_pass_1 0 rfl rfl)
theorem dX3_pass_26 : decode cX3_pass 26 = .ok (.ireturn, 1) := dk_172 (dk_at dksX3_pass_1 3 rfl rfl)
abbrev cX3_passes : ByteArray := prog_24_method_54_code
def yX3_passes : MethodName := ⟨RX3, "passes", "(I)I"⟩
def dkwX3_passes_3 : List UInt8 := [167, 255, 223, 132, 4, 1, 167, 255, 203, 132, 3, 1, 167, 255, 179, 28, 172]
abbrev dktX3_passes_3 : List UInt8 := dkwX3_passes_3 ++ []
def dkwX3_passes_2 : List UInt8 := [162, 0, 26, 42, 21, 4, 21, 5, 182, 0, 197, 153, 0, 9, 132, 2, 1, 167, 255, 229, 132, 5, 1]
abbrev dktX3_passes_2 : List UInt8 := dkwX3_passes_2 ++ dktX3_passes_3
def dkwX3_passes_1 : List UInt8 := [42, 180, 0, 9, 3, 46, 162, 0, 48, 3, 54, 5, 21, 5, 42, 21, 4, 16, 35, 182, 0, 59]
abbrev dktX3_passes_1 : List UInt8 := dkwX3_passes_1 ++ dktX3_passes_2
def dkwX3_passes_0 : List UInt8 := [3, 61, 3, 62, 29, 27, 162, 0, 78, 42, 180, 0, 9, 7, 92, 46, 4, 96, 79, 3, 54, 4, 21, 4]
abbrev dktX3_passes_0 : List UInt8 := dkwX3_passes_0 ++ dktX3_passes_1
theorem dksX3_passes_0 : cX3_passes.data.toList.drop 0 = dktX3_passes_0 := by decide +kernel
theorem dksX3_passes_1 : cX3_passes.data.toList.drop 24 = dktX3_passes_1 := dk_seg dksX3_passes_0 24 rfl rfl
theorem dksX3_passes_2 : cX3_passes.data.toList.drop 46 = dktX3_passes_2 := dk_seg dksX3_passes_1 22 rfl rfl
theorem dksX3_passes_3 : cX3_passes.data.toList.drop 69 = dktX3_passes_3 := dk_seg dksX3_passes_2 23 rfl rfl
theorem dX3_passes_0 : decode cX3_passes 0 = .ok (.iconst 0, 1) := dk_3 (dk_at dksX3_passes_0 0 rfl rfl)
theorem dX3_passes_1 : decode cX3_passes 1 = .ok (.istore_n 2, 1) := dk_61 (dk_at dksX3_passes_0 1 rfl rfl)
theorem dX3_passes_2 : decode cX3_passes 2 = .ok (.iconst 0, 1) := dk_3 (dk_at dksX3_passes_0 2 rfl rfl)
theorem dX3_passes_3 : decode cX3_passes 3 = .ok (.istore_n 3, 1) := dk_62 (dk_at dksX3_passes_0 3 rfl rfl)
theorem dX3_passes_4 : decode cX3_passes 4 = .ok (.iload_n 3, 1) := dk_29 (dk_at dksX3_passes_0 4 rfl rfl)
theorem dX3_passes_5 : decode cX3_passes 5 = .ok (.iload_n 1, 1) := dk_27 (dk_at dksX3_passes_0 5 rfl rfl)
theorem dX3_passes_6 : decode cX3_passes 6 = .ok (.if_icmp .ge 78, 3) := dk_162 0 78 (dk_at dksX3_passes_0 6 rfl rfl)
theorem dX3_passes_9 : decode cX3_passes 9 = .ok (.aload_n 0, 1) := dk_42 (dk_at dksX3_passes_0 9 rfl rfl)
theorem dX3_passes_10 : decode cX3_passes 10 = .ok (.getfield 9, 3) := dk_180 0 9 (dk_at dksX3_passes_0 10 rfl rfl)
theorem dX3_passes_13 : decode cX3_passes 13 = .ok (.iconst 4, 1) := dk_7 (dk_at dksX3_passes_0 13 rfl rfl)
theorem dX3_passes_14 : decode cX3_passes 14 = .ok (.dup2, 1) := dk_92 (dk_at dksX3_passes_0 14 rfl rfl)
theorem dX3_passes_15 : decode cX3_passes 15 = .ok (.iaload, 1) := dk_46 (dk_at dksX3_passes_0 15 rfl rfl)
theorem dX3_passes_16 : decode cX3_passes 16 = .ok (.iconst 1, 1) := dk_4 (dk_at dksX3_passes_0 16 rfl rfl)
theorem dX3_passes_17 : decode cX3_passes 17 = .ok (.iadd, 1) := dk_96 (dk_at dksX3_passes_0 17 rfl rfl)
theorem dX3_passes_18 : decode cX3_passes 18 = .ok (.iastore, 1) := dk_79 (dk_at dksX3_passes_0 18 rfl rfl)
theorem dX3_passes_19 : decode cX3_passes 19 = .ok (.iconst 0, 1) := dk_3 (dk_at dksX3_passes_0 19 rfl rfl)
theorem dX3_passes_20 : decode cX3_passes 20 = .ok (.istore 4, 2) := dk_54 4 (dk_at dksX3_passes_0 20 rfl rfl)
theorem dX3_passes_22 : decode cX3_passes 22 = .ok (.iload 4, 2) := dk_21 4 (dk_at dksX3_passes_0 22 rfl rfl)
theorem dX3_passes_24 : decode cX3_passes 24 = .ok (.aload_n 0, 1) := dk_42 (dk_at dksX3_passes_1 0 rfl rfl)
theorem dX3_passes_25 : decode cX3_passes 25 = .ok (.getfield 9, 3) := dk_180 0 9 (dk_at dksX3_passes_1 1 rfl rfl)
theorem dX3_passes_28 : decode cX3_passes 28 = .ok (.iconst 0, 1) := dk_3 (dk_at dksX3_passes_1 4 rfl rfl)
theorem dX3_passes_29 : decode cX3_passes 29 = .ok (.iaload, 1) := dk_46 (dk_at dksX3_passes_1 5 rfl rfl)
theorem dX3_passes_30 : decode cX3_passes 30 = .ok (.if_icmp .ge 48, 3) := dk_162 0 48 (dk_at dksX3_passes_1 6 rfl rfl)
theorem dX3_passes_33 : decode cX3_passes 33 = .ok (.iconst 0, 1) := dk_3 (dk_at dksX3_passes_1 9 rfl rfl)
theorem dX3_passes_34 : decode cX3_passes 34 = .ok (.istore 5, 2) := dk_54 5 (dk_at dksX3_passes_1 10 rfl rfl)
theorem dX3_passes_36 : decode cX3_passes 36 = .ok (.iload 5, 2) := dk_21 5 (dk_at dksX3_passes_1 12 rfl rfl)
theorem dX3_passes_38 : decode cX3_passes 38 = .ok (.aload_n 0, 1) := dk_42 (dk_at dksX3_passes_1 14 rfl rfl)
theorem dX3_passes_39 : decode cX3_passes 39 = .ok (.iload 4, 2) := dk_21 4 (dk_at dksX3_passes_1 15 rfl rfl)
theorem dX3_passes_41 : decode cX3_passes 41 = .ok (.bipush 35, 2) := dk_16 35 (dk_at dksX3_passes_1 17 rfl rfl)
theorem dX3_passes_43 : decode cX3_passes 43 = .ok (.invokevirtual 59, 3) := dk_182 0 59 (dk_at dksX3_passes_1 19 rfl rfl)
theorem dX3_passes_46 : decode cX3_passes 46 = .ok (.if_icmp .ge 26, 3) := dk_162 0 26 (dk_at dksX3_passes_2 0 rfl rfl)
theorem dX3_passes_49 : decode cX3_passes 49 = .ok (.aload_n 0, 1) := dk_42 (dk_at dksX3_passes_2 3 rfl rfl)
theorem dX3_passes_50 : decode cX3_passes 50 = .ok (.iload 4, 2) := dk_21 4 (dk_at dksX3_passes_2 4 rfl rfl)
theorem dX3_passes_52 : decode cX3_passes 52 = .ok (.iload 5, 2) := dk_21 5 (dk_at dksX3_passes_2 6 rfl rfl)
theorem dX3_passes_54 : decode cX3_passes 54 = .ok (.invokevirtual 197, 3) := dk_182 0 197 (dk_at dksX3_passes_2 8 rfl rfl)
theorem dX3_passes_57 : decode cX3_passes 57 = .ok (.ifCond .eq 9, 3) := dk_153 0 9 (dk_at dksX3_passes_2 11 rfl rfl)
theorem dX3_passes_60 : decode cX3_passes 60 = .ok (.iinc 2 1, 3) := dk_132 2 1 (dk_at dksX3_passes_2 14 rfl rfl)
theorem dX3_passes_63 : decode cX3_passes 63 = .ok (.goto (-27), 3) := dk_167 255 229 (dk_at dksX3_passes_2 17 rfl rfl)
theorem dX3_passes_66 : decode cX3_passes 66 = .ok (.iinc 5 1, 3) := dk_132 5 1 (dk_at dksX3_passes_2 20 rfl rfl)
theorem dX3_passes_69 : decode cX3_passes 69 = .ok (.goto (-33), 3) := dk_167 255 223 (dk_at dksX3_passes_3 0 rfl rfl)
theorem dX3_passes_72 : decode cX3_passes 72 = .ok (.iinc 4 1, 3) := dk_132 4 1 (dk_at dksX3_passes_3 3 rfl rfl)
theorem dX3_passes_75 : decode cX3_passes 75 = .ok (.goto (-53), 3) := dk_167 255 203 (dk_at dksX3_passes_3 6 rfl rfl)
theorem dX3_passes_78 : decode cX3_passes 78 = .ok (.iinc 3 1, 3) := dk_132 3 1 (dk_at dksX3_passes_3 9 rfl rfl)
theorem dX3_passes_81 : decode cX3_passes 81 = .ok (.goto (-77), 3) := dk_167 255 179 (dk_at dksX3_passes_3 12 rfl rfl)
theorem dX3_passes_84 : decode cX3_passes 84 = .ok (.iload_n 2, 1) := dk_28 (dk_at dksX3_passes_3 15 rfl rfl)
theorem dX3_passes_85 : decode cX3_passes 85 = .ok (.ireturn, 1) := dk_172 (dk_at dksX3_passes_3 16 rfl rfl)
abbrev cX3_ages : ByteArray := prog_24_method_53_code
def yX3_ages : MethodName := ⟨RX3, "ages", "(II)Z"⟩
def dkwX3_ages_6 : List UInt8 := [182, 0, 59, 161, 0, 13, 42, 27, 28, 8, 29, 182, 0, 139, 4, 172, 3, 172]
abbrev dktX3_ages_6 : List UInt8 := dkwX3_ages_6 ++ []
def dkwX3_ages_5 : List UInt8 := [4, 182, 0, 66, 154, 0, 34, 42, 27, 16, 29, 182, 0, 59, 158, 0, 24, 29, 42, 27, 16, 29]
abbrev dktX3_ages_5 : List UInt8 := dkwX3_ages_5 ++ dktX3_ages_6
def dkwX3_ages_4 : List UInt8 := [42, 180, 0, 9, 7, 46, 42, 42, 27, 28, 3, 182, 0, 66, 16, 8, 182, 0, 70, 100, 62, 42, 27, 28]
abbrev dktX3_ages_4 : List UInt8 := dkwX3_ages_4 ++ dktX3_ages_5
def dkwX3_ages_3 : List UInt8 := [180, 0, 9, 7, 46, 163, 0, 19, 42, 27, 28, 4, 3, 182, 0, 125, 42, 27, 28, 7, 2, 182, 0, 125]
abbrev dktX3_ages_3 : List UInt8 := dkwX3_ages_3 ++ dktX3_ages_4
def dkwX3_ages_2 : List UInt8 := [153, 0, 5, 4, 172, 42, 27, 28, 4, 182, 0, 66, 4, 160, 0, 35, 42, 27, 28, 7, 182, 0, 66, 42]
abbrev dktX3_ages_2 : List UInt8 := dkwX3_ages_2 ++ dktX3_ages_3
def dkwX3_ages_1 : List UInt8 := [163, 0, 29, 42, 27, 28, 6, 182, 0, 66, 62, 42, 29, 182, 0, 175, 42, 27, 28, 7, 29, 182, 0, 179]
abbrev dktX3_ages_1 : List UInt8 := dkwX3_ages_1 ++ dktX3_ages_2
def dkwX3_ages_0 : List UInt8 := [42, 27, 28, 4, 182, 0, 66, 5, 160, 0, 45, 42, 27, 28, 7, 182, 0, 66, 42, 180, 0, 9, 7, 46]
abbrev dktX3_ages_0 : List UInt8 := dkwX3_ages_0 ++ dktX3_ages_1
theorem dksX3_ages_0 : cX3_ages.data.toList.drop 0 = dktX3_ages_0 := by decide +kernel
theorem dksX3_ages_1 : cX3_ages.data.toList.drop 24 = dktX3_ages_1 := dk_seg dksX3_ages_0 24 rfl rfl
theorem dksX3_ages_2 : cX3_ages.data.toList.drop 48 = dktX3_ages_2 := dk_seg dksX3_ages_1 24 rfl rfl
theorem dksX3_ages_3 : cX3_ages.data.toList.drop 72 = dktX3_ages_3 := dk_seg dksX3_ages_2 24 rfl rfl
theorem dksX3_ages_4 : cX3_ages.data.toList.drop 96 = dktX3_ages_4 := dk_seg dksX3_ages_3 24 rfl rfl
theorem dksX3_ages_5 : cX3_ages.data.toList.drop 120 = dktX3_ages_5 := dk_seg dksX3_ages_4 24 rfl rfl
theorem dksX3_ages_6 : cX3_ages.data.toList.drop 142 = dktX3_ages_6 := dk_seg dksX3_ages_5 22 rfl rfl
theorem dX3_ages_0 : decode cX3_ages 0 = .ok (.aload_n 0, 1) := dk_42 (dk_at dksX3_ages_0 0 rfl rfl)
theorem dX3_ages_1 : decode cX3_ages 1 = .ok (.iload_n 1, 1) := dk_27 (dk_at dksX3_ages_0 1 rfl rfl)
theorem dX3_ages_2 : decode cX3_ages 2 = .ok (.iload_n 2, 1) := dk_28 (dk_at dksX3_ages_0 2 rfl rfl)
theorem dX3_ages_3 : decode cX3_ages 3 = .ok (.iconst 1, 1) := dk_4 (dk_at dksX3_ages_0 3 rfl rfl)
theorem dX3_ages_4 : decode cX3_ages 4 = .ok (.invokevirtual 66, 3) := dk_182 0 66 (dk_at dksX3_ages_0 4 rfl rfl)
theorem dX3_ages_7 : decode cX3_ages 7 = .ok (.iconst 2, 1) := dk_5 (dk_at dksX3_ages_0 7 rfl rfl)
theorem dX3_ages_8 : decode cX3_ages 8 = .ok (.if_icmp .ne 45, 3) := dk_160 0 45 (dk_at dksX3_ages_0 8 rfl rfl)
theorem dX3_ages_11 : decode cX3_ages 11 = .ok (.aload_n 0, 1) := dk_42 (dk_at dksX3_ages_0 11 rfl rfl)
theorem dX3_ages_12 : decode cX3_ages 12 = .ok (.iload_n 1, 1) := dk_27 (dk_at dksX3_ages_0 12 rfl rfl)
theorem dX3_ages_13 : decode cX3_ages 13 = .ok (.iload_n 2, 1) := dk_28 (dk_at dksX3_ages_0 13 rfl rfl)
theorem dX3_ages_14 : decode cX3_ages 14 = .ok (.iconst 4, 1) := dk_7 (dk_at dksX3_ages_0 14 rfl rfl)
theorem dX3_ages_15 : decode cX3_ages 15 = .ok (.invokevirtual 66, 3) := dk_182 0 66 (dk_at dksX3_ages_0 15 rfl rfl)
theorem dX3_ages_18 : decode cX3_ages 18 = .ok (.aload_n 0, 1) := dk_42 (dk_at dksX3_ages_0 18 rfl rfl)
theorem dX3_ages_19 : decode cX3_ages 19 = .ok (.getfield 9, 3) := dk_180 0 9 (dk_at dksX3_ages_0 19 rfl rfl)
theorem dX3_ages_22 : decode cX3_ages 22 = .ok (.iconst 4, 1) := dk_7 (dk_at dksX3_ages_0 22 rfl rfl)
theorem dX3_ages_23 : decode cX3_ages 23 = .ok (.iaload, 1) := dk_46 (dk_at dksX3_ages_0 23 rfl rfl)
theorem dX3_ages_24 : decode cX3_ages 24 = .ok (.if_icmp .gt 29, 3) := dk_163 0 29 (dk_at dksX3_ages_1 0 rfl rfl)
theorem dX3_ages_27 : decode cX3_ages 27 = .ok (.aload_n 0, 1) := dk_42 (dk_at dksX3_ages_1 3 rfl rfl)
theorem dX3_ages_28 : decode cX3_ages 28 = .ok (.iload_n 1, 1) := dk_27 (dk_at dksX3_ages_1 4 rfl rfl)
theorem dX3_ages_29 : decode cX3_ages 29 = .ok (.iload_n 2, 1) := dk_28 (dk_at dksX3_ages_1 5 rfl rfl)
theorem dX3_ages_30 : decode cX3_ages 30 = .ok (.iconst 3, 1) := dk_6 (dk_at dksX3_ages_1 6 rfl rfl)
theorem dX3_ages_31 : decode cX3_ages 31 = .ok (.invokevirtual 66, 3) := dk_182 0 66 (dk_at dksX3_ages_1 7 rfl rfl)
theorem dX3_ages_34 : decode cX3_ages 34 = .ok (.istore_n 3, 1) := dk_62 (dk_at dksX3_ages_1 10 rfl rfl)
theorem dX3_ages_35 : decode cX3_ages 35 = .ok (.aload_n 0, 1) := dk_42 (dk_at dksX3_ages_1 11 rfl rfl)
theorem dX3_ages_36 : decode cX3_ages 36 = .ok (.iload_n 3, 1) := dk_29 (dk_at dksX3_ages_1 12 rfl rfl)
theorem dX3_ages_37 : decode cX3_ages 37 = .ok (.invokevirtual 175, 3) := dk_182 0 175 (dk_at dksX3_ages_1 13 rfl rfl)
theorem dX3_ages_40 : decode cX3_ages 40 = .ok (.aload_n 0, 1) := dk_42 (dk_at dksX3_ages_1 16 rfl rfl)
theorem dX3_ages_41 : decode cX3_ages 41 = .ok (.iload_n 1, 1) := dk_27 (dk_at dksX3_ages_1 17 rfl rfl)
theorem dX3_ages_42 : decode cX3_ages 42 = .ok (.iload_n 2, 1) := dk_28 (dk_at dksX3_ages_1 18 rfl rfl)
theorem dX3_ages_43 : decode cX3_ages 43 = .ok (.iconst 4, 1) := dk_7 (dk_at dksX3_ages_1 19 rfl rfl)
theorem dX3_ages_44 : decode cX3_ages 44 = .ok (.iload_n 3, 1) := dk_29 (dk_at dksX3_ages_1 20 rfl rfl)
theorem dX3_ages_45 : decode cX3_ages 45 = .ok (.invokevirtual 179, 3) := dk_182 0 179 (dk_at dksX3_ages_1 21 rfl rfl)
theorem dX3_ages_48 : decode cX3_ages 48 = .ok (.ifCond .eq 5, 3) := dk_153 0 5 (dk_at dksX3_ages_2 0 rfl rfl)
theorem dX3_ages_51 : decode cX3_ages 51 = .ok (.iconst 1, 1) := dk_4 (dk_at dksX3_ages_2 3 rfl rfl)
theorem dX3_ages_52 : decode cX3_ages 52 = .ok (.ireturn, 1) := dk_172 (dk_at dksX3_ages_2 4 rfl rfl)
theorem dX3_ages_53 : decode cX3_ages 53 = .ok (.aload_n 0, 1) := dk_42 (dk_at dksX3_ages_2 5 rfl rfl)
theorem dX3_ages_54 : decode cX3_ages 54 = .ok (.iload_n 1, 1) := dk_27 (dk_at dksX3_ages_2 6 rfl rfl)
theorem dX3_ages_55 : decode cX3_ages 55 = .ok (.iload_n 2, 1) := dk_28 (dk_at dksX3_ages_2 7 rfl rfl)
theorem dX3_ages_56 : decode cX3_ages 56 = .ok (.iconst 1, 1) := dk_4 (dk_at dksX3_ages_2 8 rfl rfl)
theorem dX3_ages_57 : decode cX3_ages 57 = .ok (.invokevirtual 66, 3) := dk_182 0 66 (dk_at dksX3_ages_2 9 rfl rfl)
theorem dX3_ages_60 : decode cX3_ages 60 = .ok (.iconst 1, 1) := dk_4 (dk_at dksX3_ages_2 12 rfl rfl)
theorem dX3_ages_61 : decode cX3_ages 61 = .ok (.if_icmp .ne 35, 3) := dk_160 0 35 (dk_at dksX3_ages_2 13 rfl rfl)
theorem dX3_ages_64 : decode cX3_ages 64 = .ok (.aload_n 0, 1) := dk_42 (dk_at dksX3_ages_2 16 rfl rfl)
theorem dX3_ages_65 : decode cX3_ages 65 = .ok (.iload_n 1, 1) := dk_27 (dk_at dksX3_ages_2 17 rfl rfl)
theorem dX3_ages_66 : decode cX3_ages 66 = .ok (.iload_n 2, 1) := dk_28 (dk_at dksX3_ages_2 18 rfl rfl)
theorem dX3_ages_67 : decode cX3_ages 67 = .ok (.iconst 4, 1) := dk_7 (dk_at dksX3_ages_2 19 rfl rfl)
theorem dX3_ages_68 : decode cX3_ages 68 = .ok (.invokevirtual 66, 3) := dk_182 0 66 (dk_at dksX3_ages_2 20 rfl rfl)
theorem dX3_ages_71 : decode cX3_ages 71 = .ok (.aload_n 0, 1) := dk_42 (dk_at dksX3_ages_2 23 rfl rfl)
theorem dX3_ages_72 : decode cX3_ages 72 = .ok (.getfield 9, 3) := dk_180 0 9 (dk_at dksX3_ages_3 0 rfl rfl)
theorem dX3_ages_75 : decode cX3_ages 75 = .ok (.iconst 4, 1) := dk_7 (dk_at dksX3_ages_3 3 rfl rfl)
theorem dX3_ages_76 : decode cX3_ages 76 = .ok (.iaload, 1) := dk_46 (dk_at dksX3_ages_3 4 rfl rfl)
theorem dX3_ages_77 : decode cX3_ages 77 = .ok (.if_icmp .gt 19, 3) := dk_163 0 19 (dk_at dksX3_ages_3 5 rfl rfl)
theorem dX3_ages_80 : decode cX3_ages 80 = .ok (.aload_n 0, 1) := dk_42 (dk_at dksX3_ages_3 8 rfl rfl)
theorem dX3_ages_81 : decode cX3_ages 81 = .ok (.iload_n 1, 1) := dk_27 (dk_at dksX3_ages_3 9 rfl rfl)
theorem dX3_ages_82 : decode cX3_ages 82 = .ok (.iload_n 2, 1) := dk_28 (dk_at dksX3_ages_3 10 rfl rfl)
theorem dX3_ages_83 : decode cX3_ages 83 = .ok (.iconst 1, 1) := dk_4 (dk_at dksX3_ages_3 11 rfl rfl)
theorem dX3_ages_84 : decode cX3_ages 84 = .ok (.iconst 0, 1) := dk_3 (dk_at dksX3_ages_3 12 rfl rfl)
theorem dX3_ages_85 : decode cX3_ages 85 = .ok (.invokevirtual 125, 3) := dk_182 0 125 (dk_at dksX3_ages_3 13 rfl rfl)
theorem dX3_ages_88 : decode cX3_ages 88 = .ok (.aload_n 0, 1) := dk_42 (dk_at dksX3_ages_3 16 rfl rfl)
theorem dX3_ages_89 : decode cX3_ages 89 = .ok (.iload_n 1, 1) := dk_27 (dk_at dksX3_ages_3 17 rfl rfl)
theorem dX3_ages_90 : decode cX3_ages 90 = .ok (.iload_n 2, 1) := dk_28 (dk_at dksX3_ages_3 18 rfl rfl)
theorem dX3_ages_91 : decode cX3_ages 91 = .ok (.iconst 4, 1) := dk_7 (dk_at dksX3_ages_3 19 rfl rfl)
theorem dX3_ages_92 : decode cX3_ages 92 = .ok (.iconst (-1), 1) := dk_2 (dk_at dksX3_ages_3 20 rfl rfl)
theorem dX3_ages_93 : decode cX3_ages 93 = .ok (.invokevirtual 125, 3) := dk_182 0 125 (dk_at dksX3_ages_3 21 rfl rfl)
theorem dX3_ages_96 : decode cX3_ages 96 = .ok (.aload_n 0, 1) := dk_42 (dk_at dksX3_ages_4 0 rfl rfl)
theorem dX3_ages_97 : decode cX3_ages 97 = .ok (.getfield 9, 3) := dk_180 0 9 (dk_at dksX3_ages_4 1 rfl rfl)
theorem dX3_ages_100 : decode cX3_ages 100 = .ok (.iconst 4, 1) := dk_7 (dk_at dksX3_ages_4 4 rfl rfl)
theorem dX3_ages_101 : decode cX3_ages 101 = .ok (.iaload, 1) := dk_46 (dk_at dksX3_ages_4 5 rfl rfl)
theorem dX3_ages_102 : decode cX3_ages 102 = .ok (.aload_n 0, 1) := dk_42 (dk_at dksX3_ages_4 6 rfl rfl)
theorem dX3_ages_103 : decode cX3_ages 103 = .ok (.aload_n 0, 1) := dk_42 (dk_at dksX3_ages_4 7 rfl rfl)
theorem dX3_ages_104 : decode cX3_ages 104 = .ok (.iload_n 1, 1) := dk_27 (dk_at dksX3_ages_4 8 rfl rfl)
theorem dX3_ages_105 : decode cX3_ages 105 = .ok (.iload_n 2, 1) := dk_28 (dk_at dksX3_ages_4 9 rfl rfl)
theorem dX3_ages_106 : decode cX3_ages 106 = .ok (.iconst 0, 1) := dk_3 (dk_at dksX3_ages_4 10 rfl rfl)
theorem dX3_ages_107 : decode cX3_ages 107 = .ok (.invokevirtual 66, 3) := dk_182 0 66 (dk_at dksX3_ages_4 11 rfl rfl)
theorem dX3_ages_110 : decode cX3_ages 110 = .ok (.bipush 8, 2) := dk_16 8 (dk_at dksX3_ages_4 14 rfl rfl)
theorem dX3_ages_112 : decode cX3_ages 112 = .ok (.invokevirtual 70, 3) := dk_182 0 70 (dk_at dksX3_ages_4 16 rfl rfl)
theorem dX3_ages_115 : decode cX3_ages 115 = .ok (.isub, 1) := dk_100 (dk_at dksX3_ages_4 19 rfl rfl)
theorem dX3_ages_116 : decode cX3_ages 116 = .ok (.istore_n 3, 1) := dk_62 (dk_at dksX3_ages_4 20 rfl rfl)
theorem dX3_ages_117 : decode cX3_ages 117 = .ok (.aload_n 0, 1) := dk_42 (dk_at dksX3_ages_4 21 rfl rfl)
theorem dX3_ages_118 : decode cX3_ages 118 = .ok (.iload_n 1, 1) := dk_27 (dk_at dksX3_ages_4 22 rfl rfl)
theorem dX3_ages_119 : decode cX3_ages 119 = .ok (.iload_n 2, 1) := dk_28 (dk_at dksX3_ages_4 23 rfl rfl)
theorem dX3_ages_120 : decode cX3_ages 120 = .ok (.iconst 1, 1) := dk_4 (dk_at dksX3_ages_5 0 rfl rfl)
theorem dX3_ages_121 : decode cX3_ages 121 = .ok (.invokevirtual 66, 3) := dk_182 0 66 (dk_at dksX3_ages_5 1 rfl rfl)
theorem dX3_ages_124 : decode cX3_ages 124 = .ok (.ifCond .ne 34, 3) := dk_154 0 34 (dk_at dksX3_ages_5 4 rfl rfl)
theorem dX3_ages_127 : decode cX3_ages 127 = .ok (.aload_n 0, 1) := dk_42 (dk_at dksX3_ages_5 7 rfl rfl)
theorem dX3_ages_128 : decode cX3_ages 128 = .ok (.iload_n 1, 1) := dk_27 (dk_at dksX3_ages_5 8 rfl rfl)
theorem dX3_ages_129 : decode cX3_ages 129 = .ok (.bipush 29, 2) := dk_16 29 (dk_at dksX3_ages_5 9 rfl rfl)
theorem dX3_ages_131 : decode cX3_ages 131 = .ok (.invokevirtual 59, 3) := dk_182 0 59 (dk_at dksX3_ages_5 11 rfl rfl)
theorem dX3_ages_134 : decode cX3_ages 134 = .ok (.ifCond .le 24, 3) := dk_158 0 24 (dk_at dksX3_ages_5 14 rfl rfl)
theorem dX3_ages_137 : decode cX3_ages 137 = .ok (.iload_n 3, 1) := dk_29 (dk_at dksX3_ages_5 17 rfl rfl)
theorem dX3_ages_138 : decode cX3_ages 138 = .ok (.aload_n 0, 1) := dk_42 (dk_at dksX3_ages_5 18 rfl rfl)
theorem dX3_ages_139 : decode cX3_ages 139 = .ok (.iload_n 1, 1) := dk_27 (dk_at dksX3_ages_5 19 rfl rfl)
theorem dX3_ages_140 : decode cX3_ages 140 = .ok (.bipush 29, 2) := dk_16 29 (dk_at dksX3_ages_5 20 rfl rfl)
theorem dX3_ages_142 : decode cX3_ages 142 = .ok (.invokevirtual 59, 3) := dk_182 0 59 (dk_at dksX3_ages_6 0 rfl rfl)
theorem dX3_ages_145 : decode cX3_ages 145 = .ok (.if_icmp .lt 13, 3) := dk_161 0 13 (dk_at dksX3_ages_6 3 rfl rfl)
theorem dX3_ages_148 : decode cX3_ages 148 = .ok (.aload_n 0, 1) := dk_42 (dk_at dksX3_ages_6 6 rfl rfl)
theorem dX3_ages_149 : decode cX3_ages 149 = .ok (.iload_n 1, 1) := dk_27 (dk_at dksX3_ages_6 7 rfl rfl)
theorem dX3_ages_150 : decode cX3_ages 150 = .ok (.iload_n 2, 1) := dk_28 (dk_at dksX3_ages_6 8 rfl rfl)
theorem dX3_ages_151 : decode cX3_ages 151 = .ok (.iconst 5, 1) := dk_8 (dk_at dksX3_ages_6 9 rfl rfl)
theorem dX3_ages_152 : decode cX3_ages 152 = .ok (.iload_n 3, 1) := dk_29 (dk_at dksX3_ages_6 10 rfl rfl)
theorem dX3_ages_153 : decode cX3_ages 153 = .ok (.invokevirtual 139, 3) := dk_182 0 139 (dk_at dksX3_ages_6 11 rfl rfl)
theorem dX3_ages_156 : decode cX3_ages 156 = .ok (.iconst 1, 1) := dk_4 (dk_at dksX3_ages_6 14 rfl rfl)
theorem dX3_ages_157 : decode cX3_ages 157 = .ok (.ireturn, 1) := dk_172 (dk_at dksX3_ages_6 15 rfl rfl)
theorem dX3_ages_158 : decode cX3_ages 158 = .ok (.iconst 0, 1) := dk_3 (dk_at dksX3_ages_6 16 rfl rfl)
theorem dX3_ages_159 : decode cX3_ages 159 = .ok (.ireturn, 1) := dk_172 (dk_at dksX3_ages_6 17 rfl rfl)
abbrev cX3_revive : ByteArray := prog_24_method_56_code
def yX3_revive : MethodName := ⟨RX3, "revive", "(I)I"⟩
def dkwX3_revive_3 : List UInt8 := [180, 0, 9, 28, 46, 182, 0, 154, 42, 27, 182, 0, 203, 42, 180, 0, 9, 6, 46, 172]
abbrev dktX3_revive_3 : List UInt8 := dkwX3_revive_3 ++ []
def dkwX3_revive_2 : List UInt8 := [182, 0, 59, 42, 29, 16, 26, 182, 0, 59, 160, 0, 10, 42, 16, 170, 182, 0, 75, 172, 42, 29, 42]
abbrev dktX3_revive_2 : List UInt8 := dkwX3_revive_2 ++ dktX3_revive_3
def dkwX3_revive_1 : List UInt8 := [172, 17, 10, 191, 16, 24, 27, 104, 96, 61, 42, 180, 0, 9, 28, 4, 96, 46, 62, 42, 29, 16, 35]
abbrev dktX3_revive_1 : List UInt8 := dkwX3_revive_1 ++ dktX3_revive_2
def dkwX3_revive_0 : List UInt8 := [27, 133, 9, 42, 180, 0, 9, 6, 46, 4, 100, 133, 184, 0, 47, 154, 0, 10, 42, 16, 174, 182, 0, 75]
abbrev dktX3_revive_0 : List UInt8 := dkwX3_revive_0 ++ dktX3_revive_1
theorem dksX3_revive_0 : cX3_revive.data.toList.drop 0 = dktX3_revive_0 := by decide +kernel
theorem dksX3_revive_1 : cX3_revive.data.toList.drop 24 = dktX3_revive_1 := dk_seg dksX3_revive_0 24 rfl rfl
theorem dksX3_revive_2 : cX3_revive.data.toList.drop 47 = dktX3_revive_2 := dk_seg dksX3_revive_1 23 rfl rfl
theorem dksX3_revive_3 : cX3_revive.data.toList.drop 70 = dktX3_revive_3 := dk_seg dksX3_revive_2 23 rfl rfl
theorem dX3_revive_0 : decode cX3_revive 0 = .ok (.iload_n 1, 1) := dk_27 (dk_at dksX3_revive_0 0 rfl rfl)
theorem dX3_revive_1 : decode cX3_revive 1 = .ok (.i2l, 1) := dk_133 (dk_at dksX3_revive_0 1 rfl rfl)
theorem dX3_revive_2 : decode cX3_revive 2 = .ok (.lconst 0, 1) := dk_9 (dk_at dksX3_revive_0 2 rfl rfl)
theorem dX3_revive_3 : decode cX3_revive 3 = .ok (.aload_n 0, 1) := dk_42 (dk_at dksX3_revive_0 3 rfl rfl)
theorem dX3_revive_4 : decode cX3_revive 4 = .ok (.getfield 9, 3) := dk_180 0 9 (dk_at dksX3_revive_0 4 rfl rfl)
theorem dX3_revive_7 : decode cX3_revive 7 = .ok (.iconst 3, 1) := dk_6 (dk_at dksX3_revive_0 7 rfl rfl)
theorem dX3_revive_8 : decode cX3_revive 8 = .ok (.iaload, 1) := dk_46 (dk_at dksX3_revive_0 8 rfl rfl)
theorem dX3_revive_9 : decode cX3_revive 9 = .ok (.iconst 1, 1) := dk_4 (dk_at dksX3_revive_0 9 rfl rfl)
theorem dX3_revive_10 : decode cX3_revive 10 = .ok (.isub, 1) := dk_100 (dk_at dksX3_revive_0 10 rfl rfl)
theorem dX3_revive_11 : decode cX3_revive 11 = .ok (.i2l, 1) := dk_133 (dk_at dksX3_revive_0 11 rfl rfl)
theorem dX3_revive_12 : decode cX3_revive 12 = .ok (.invokestatic 47, 3) := dk_184 0 47 (dk_at dksX3_revive_0 12 rfl rfl)
theorem dX3_revive_15 : decode cX3_revive 15 = .ok (.ifCond .ne 10, 3) := dk_154 0 10 (dk_at dksX3_revive_0 15 rfl rfl)
theorem dX3_revive_18 : decode cX3_revive 18 = .ok (.aload_n 0, 1) := dk_42 (dk_at dksX3_revive_0 18 rfl rfl)
theorem dX3_revive_19 : decode cX3_revive 19 = .ok (.bipush (-82), 2) := dk_16 174 (dk_at dksX3_revive_0 19 rfl rfl)
theorem dX3_revive_21 : decode cX3_revive 21 = .ok (.invokevirtual 75, 3) := dk_182 0 75 (dk_at dksX3_revive_0 21 rfl rfl)
theorem dX3_revive_24 : decode cX3_revive 24 = .ok (.ireturn, 1) := dk_172 (dk_at dksX3_revive_1 0 rfl rfl)
theorem dX3_revive_25 : decode cX3_revive 25 = .ok (.sipush 2751, 3) := dk_17 10 191 (dk_at dksX3_revive_1 1 rfl rfl)
theorem dX3_revive_28 : decode cX3_revive 28 = .ok (.bipush 24, 2) := dk_16 24 (dk_at dksX3_revive_1 4 rfl rfl)
theorem dX3_revive_30 : decode cX3_revive 30 = .ok (.iload_n 1, 1) := dk_27 (dk_at dksX3_revive_1 6 rfl rfl)
theorem dX3_revive_31 : decode cX3_revive 31 = .ok (.imul, 1) := dk_104 (dk_at dksX3_revive_1 7 rfl rfl)
theorem dX3_revive_32 : decode cX3_revive 32 = .ok (.iadd, 1) := dk_96 (dk_at dksX3_revive_1 8 rfl rfl)
theorem dX3_revive_33 : decode cX3_revive 33 = .ok (.istore_n 2, 1) := dk_61 (dk_at dksX3_revive_1 9 rfl rfl)
theorem dX3_revive_34 : decode cX3_revive 34 = .ok (.aload_n 0, 1) := dk_42 (dk_at dksX3_revive_1 10 rfl rfl)
theorem dX3_revive_35 : decode cX3_revive 35 = .ok (.getfield 9, 3) := dk_180 0 9 (dk_at dksX3_revive_1 11 rfl rfl)
theorem dX3_revive_38 : decode cX3_revive 38 = .ok (.iload_n 2, 1) := dk_28 (dk_at dksX3_revive_1 14 rfl rfl)
theorem dX3_revive_39 : decode cX3_revive 39 = .ok (.iconst 1, 1) := dk_4 (dk_at dksX3_revive_1 15 rfl rfl)
theorem dX3_revive_40 : decode cX3_revive 40 = .ok (.iadd, 1) := dk_96 (dk_at dksX3_revive_1 16 rfl rfl)
theorem dX3_revive_41 : decode cX3_revive 41 = .ok (.iaload, 1) := dk_46 (dk_at dksX3_revive_1 17 rfl rfl)
theorem dX3_revive_42 : decode cX3_revive 42 = .ok (.istore_n 3, 1) := dk_62 (dk_at dksX3_revive_1 18 rfl rfl)
theorem dX3_revive_43 : decode cX3_revive 43 = .ok (.aload_n 0, 1) := dk_42 (dk_at dksX3_revive_1 19 rfl rfl)
theorem dX3_revive_44 : decode cX3_revive 44 = .ok (.iload_n 3, 1) := dk_29 (dk_at dksX3_revive_1 20 rfl rfl)
theorem dX3_revive_45 : decode cX3_revive 45 = .ok (.bipush 35, 2) := dk_16 35 (dk_at dksX3_revive_1 21 rfl rfl)
theorem dX3_revive_47 : decode cX3_revive 47 = .ok (.invokevirtual 59, 3) := dk_182 0 59 (dk_at dksX3_revive_2 0 rfl rfl)
theorem dX3_revive_50 : decode cX3_revive 50 = .ok (.aload_n 0, 1) := dk_42 (dk_at dksX3_revive_2 3 rfl rfl)
theorem dX3_revive_51 : decode cX3_revive 51 = .ok (.iload_n 3, 1) := dk_29 (dk_at dksX3_revive_2 4 rfl rfl)
theorem dX3_revive_52 : decode cX3_revive 52 = .ok (.bipush 26, 2) := dk_16 26 (dk_at dksX3_revive_2 5 rfl rfl)
theorem dX3_revive_54 : decode cX3_revive 54 = .ok (.invokevirtual 59, 3) := dk_182 0 59 (dk_at dksX3_revive_2 7 rfl rfl)
theorem dX3_revive_57 : decode cX3_revive 57 = .ok (.if_icmp .ne 10, 3) := dk_160 0 10 (dk_at dksX3_revive_2 10 rfl rfl)
theorem dX3_revive_60 : decode cX3_revive 60 = .ok (.aload_n 0, 1) := dk_42 (dk_at dksX3_revive_2 13 rfl rfl)
theorem dX3_revive_61 : decode cX3_revive 61 = .ok (.bipush (-86), 2) := dk_16 170 (dk_at dksX3_revive_2 14 rfl rfl)
theorem dX3_revive_63 : decode cX3_revive 63 = .ok (.invokevirtual 75, 3) := dk_182 0 75 (dk_at dksX3_revive_2 16 rfl rfl)
theorem dX3_revive_66 : decode cX3_revive 66 = .ok (.ireturn, 1) := dk_172 (dk_at dksX3_revive_2 19 rfl rfl)
theorem dX3_revive_67 : decode cX3_revive 67 = .ok (.aload_n 0, 1) := dk_42 (dk_at dksX3_revive_2 20 rfl rfl)
theorem dX3_revive_68 : decode cX3_revive 68 = .ok (.iload_n 3, 1) := dk_29 (dk_at dksX3_revive_2 21 rfl rfl)
theorem dX3_revive_69 : decode cX3_revive 69 = .ok (.aload_n 0, 1) := dk_42 (dk_at dksX3_revive_2 22 rfl rfl)
theorem dX3_revive_70 : decode cX3_revive 70 = .ok (.getfield 9, 3) := dk_180 0 9 (dk_at dksX3_revive_3 0 rfl rfl)
theorem dX3_revive_73 : decode cX3_revive 73 = .ok (.iload_n 2, 1) := dk_28 (dk_at dksX3_revive_3 3 rfl rfl)
theorem dX3_revive_74 : decode cX3_revive 74 = .ok (.iaload, 1) := dk_46 (dk_at dksX3_revive_3 4 rfl rfl)
theorem dX3_revive_75 : decode cX3_revive 75 = .ok (.invokevirtual 154, 3) := dk_182 0 154 (dk_at dksX3_revive_3 5 rfl rfl)
theorem dX3_revive_78 : decode cX3_revive 78 = .ok (.aload_n 0, 1) := dk_42 (dk_at dksX3_revive_3 8 rfl rfl)
theorem dX3_revive_79 : decode cX3_revive 79 = .ok (.iload_n 1, 1) := dk_27 (dk_at dksX3_revive_3 9 rfl rfl)
theorem dX3_revive_80 : decode cX3_revive 80 = .ok (.invokevirtual 203, 3) := dk_182 0 203 (dk_at dksX3_revive_3 10 rfl rfl)
theorem dX3_revive_83 : decode cX3_revive 83 = .ok (.aload_n 0, 1) := dk_42 (dk_at dksX3_revive_3 13 rfl rfl)
theorem dX3_revive_84 : decode cX3_revive 84 = .ok (.getfield 9, 3) := dk_180 0 9 (dk_at dksX3_revive_3 14 rfl rfl)
theorem dX3_revive_87 : decode cX3_revive 87 = .ok (.iconst 3, 1) := dk_6 (dk_at dksX3_revive_3 17 rfl rfl)
theorem dX3_revive_88 : decode cX3_revive 88 = .ok (.iaload, 1) := dk_46 (dk_at dksX3_revive_3 18 rfl rfl)
theorem dX3_revive_89 : decode cX3_revive 89 = .ok (.ireturn, 1) := dk_172 (dk_at dksX3_revive_3 19 rfl rfl)
abbrev cX3_losesDead : ByteArray := prog_24_method_57_code
def yX3_losesDead : MethodName := ⟨RX3, "losesDead", "(I)V"⟩
def dkwX3_losesDead_2 : List UInt8 := [16, 24, 96, 46, 79, 132, 2, 1, 167, 255, 221, 177]
abbrev dktX3_losesDead_2 : List UInt8 := dkwX3_losesDead_2 ++ []
def dkwX3_losesDead_1 : List UInt8 := [16, 24, 42, 180, 0, 9, 6, 46, 104, 96, 162, 0, 24, 42, 180, 0, 9, 28, 42, 180, 0, 9, 28]
abbrev dktX3_losesDead_1 : List UInt8 := dkwX3_losesDead_1 ++ dktX3_losesDead_2
def dkwX3_losesDead_0 : List UInt8 := [42, 180, 0, 9, 6, 92, 46, 4, 100, 79, 17, 10, 191, 16, 24, 27, 104, 96, 61, 28, 17, 10, 191]
abbrev dktX3_losesDead_0 : List UInt8 := dkwX3_losesDead_0 ++ dktX3_losesDead_1
theorem dksX3_losesDead_0 : cX3_losesDead.data.toList.drop 0 = dktX3_losesDead_0 := by decide +kernel
theorem dksX3_losesDead_1 : cX3_losesDead.data.toList.drop 23 = dktX3_losesDead_1 := dk_seg dksX3_losesDead_0 23 rfl rfl
theorem dksX3_losesDead_2 : cX3_losesDead.data.toList.drop 46 = dktX3_losesDead_2 := dk_seg dksX3_losesDead_1 23 rfl rfl
theorem dX3_losesDead_0 : decode cX3_losesDead 0 = .ok (.aload_n 0, 1) := dk_42 (dk_at dksX3_losesDead_0 0 rfl rfl)
theorem dX3_losesDead_1 : decode cX3_losesDead 1 = .ok (.getfield 9, 3) := dk_180 0 9 (dk_at dksX3_losesDead_0 1 rfl rfl)
theorem dX3_losesDead_4 : decode cX3_losesDead 4 = .ok (.iconst 3, 1) := dk_6 (dk_at dksX3_losesDead_0 4 rfl rfl)
theorem dX3_losesDead_5 : decode cX3_losesDead 5 = .ok (.dup2, 1) := dk_92 (dk_at dksX3_losesDead_0 5 rfl rfl)
theorem dX3_losesDead_6 : decode cX3_losesDead 6 = .ok (.iaload, 1) := dk_46 (dk_at dksX3_losesDead_0 6 rfl rfl)
theorem dX3_losesDead_7 : decode cX3_losesDead 7 = .ok (.iconst 1, 1) := dk_4 (dk_at dksX3_losesDead_0 7 rfl rfl)
theorem dX3_losesDead_8 : decode cX3_losesDead 8 = .ok (.isub, 1) := dk_100 (dk_at dksX3_losesDead_0 8 rfl rfl)
theorem dX3_losesDead_9 : decode cX3_losesDead 9 = .ok (.iastore, 1) := dk_79 (dk_at dksX3_losesDead_0 9 rfl rfl)
theorem dX3_losesDead_10 : decode cX3_losesDead 10 = .ok (.sipush 2751, 3) := dk_17 10 191 (dk_at dksX3_losesDead_0 10 rfl rfl)
theorem dX3_losesDead_13 : decode cX3_losesDead 13 = .ok (.bipush 24, 2) := dk_16 24 (dk_at dksX3_losesDead_0 13 rfl rfl)
theorem dX3_losesDead_15 : decode cX3_losesDead 15 = .ok (.iload_n 1, 1) := dk_27 (dk_at dksX3_losesDead_0 15 rfl rfl)
theorem dX3_losesDead_16 : decode cX3_losesDead 16 = .ok (.imul, 1) := dk_104 (dk_at dksX3_losesDead_0 16 rfl rfl)
theorem dX3_losesDead_17 : decode cX3_losesDead 17 = .ok (.iadd, 1) := dk_96 (dk_at dksX3_losesDead_0 17 rfl rfl)
theorem dX3_losesDead_18 : decode cX3_losesDead 18 = .ok (.istore_n 2, 1) := dk_61 (dk_at dksX3_losesDead_0 18 rfl rfl)
theorem dX3_losesDead_19 : decode cX3_losesDead 19 = .ok (.iload_n 2, 1) := dk_28 (dk_at dksX3_losesDead_0 19 rfl rfl)
theorem dX3_losesDead_20 : decode cX3_losesDead 20 = .ok (.sipush 2751, 3) := dk_17 10 191 (dk_at dksX3_losesDead_0 20 rfl rfl)
theorem dX3_losesDead_23 : decode cX3_losesDead 23 = .ok (.bipush 24, 2) := dk_16 24 (dk_at dksX3_losesDead_1 0 rfl rfl)
theorem dX3_losesDead_25 : decode cX3_losesDead 25 = .ok (.aload_n 0, 1) := dk_42 (dk_at dksX3_losesDead_1 2 rfl rfl)
theorem dX3_losesDead_26 : decode cX3_losesDead 26 = .ok (.getfield 9, 3) := dk_180 0 9 (dk_at dksX3_losesDead_1 3 rfl rfl)
theorem dX3_losesDead_29 : decode cX3_losesDead 29 = .ok (.iconst 3, 1) := dk_6 (dk_at dksX3_losesDead_1 6 rfl rfl)
theorem dX3_losesDead_30 : decode cX3_losesDead 30 = .ok (.iaload, 1) := dk_46 (dk_at dksX3_losesDead_1 7 rfl rfl)
theorem dX3_losesDead_31 : decode cX3_losesDead 31 = .ok (.imul, 1) := dk_104 (dk_at dksX3_losesDead_1 8 rfl rfl)
theorem dX3_losesDead_32 : decode cX3_losesDead 32 = .ok (.iadd, 1) := dk_96 (dk_at dksX3_losesDead_1 9 rfl rfl)
theorem dX3_losesDead_33 : decode cX3_losesDead 33 = .ok (.if_icmp .ge 24, 3) := dk_162 0 24 (dk_at dksX3_losesDead_1 10 rfl rfl)
theorem dX3_losesDead_36 : decode cX3_losesDead 36 = .ok (.aload_n 0, 1) := dk_42 (dk_at dksX3_losesDead_1 13 rfl rfl)
theorem dX3_losesDead_37 : decode cX3_losesDead 37 = .ok (.getfield 9, 3) := dk_180 0 9 (dk_at dksX3_losesDead_1 14 rfl rfl)
theorem dX3_losesDead_40 : decode cX3_losesDead 40 = .ok (.iload_n 2, 1) := dk_28 (dk_at dksX3_losesDead_1 17 rfl rfl)
theorem dX3_losesDead_41 : decode cX3_losesDead 41 = .ok (.aload_n 0, 1) := dk_42 (dk_at dksX3_losesDead_1 18 rfl rfl)
theorem dX3_losesDead_42 : decode cX3_losesDead 42 = .ok (.getfield 9, 3) := dk_180 0 9 (dk_at dksX3_losesDead_1 19 rfl rfl)
theorem dX3_losesDead_45 : decode cX3_losesDead 45 = .ok (.iload_n 2, 1) := dk_28 (dk_at dksX3_losesDead_1 22 rfl rfl)
theorem dX3_losesDead_46 : decode cX3_losesDead 46 = .ok (.bipush 24, 2) := dk_16 24 (dk_at dksX3_losesDead_2 0 rfl rfl)
theorem dX3_losesDead_48 : decode cX3_losesDead 48 = .ok (.iadd, 1) := dk_96 (dk_at dksX3_losesDead_2 2 rfl rfl)
theorem dX3_losesDead_49 : decode cX3_losesDead 49 = .ok (.iaload, 1) := dk_46 (dk_at dksX3_losesDead_2 3 rfl rfl)
theorem dX3_losesDead_50 : decode cX3_losesDead 50 = .ok (.iastore, 1) := dk_79 (dk_at dksX3_losesDead_2 4 rfl rfl)
theorem dX3_losesDead_51 : decode cX3_losesDead 51 = .ok (.iinc 2 1, 3) := dk_132 2 1 (dk_at dksX3_losesDead_2 5 rfl rfl)
theorem dX3_losesDead_54 : decode cX3_losesDead 54 = .ok (.goto (-35), 3) := dk_167 255 221 (dk_at dksX3_losesDead_2 8 rfl rfl)
theorem dX3_losesDead_57 : decode cX3_losesDead 57 = .ok (.return_, 1) := dk_177 (dk_at dksX3_losesDead_2 11 rfl rfl)
abbrev cX3_bury : ByteArray := prog_24_method_58_code
def yX3_bury : MethodName := ⟨RX3, "bury", "(I)I"⟩
def dkwX3_bury_3 : List UInt8 := [167, 255, 217, 28, 172]
abbrev dktX3_bury_3 : List UInt8 := dkwX3_bury_3 ++ []
def dkwX3_bury_2 : List UInt8 := [16, 24, 29, 104, 96, 4, 96, 46, 27, 160, 0, 11, 42, 29, 182, 0, 203, 132, 2, 1, 132, 3, 255]
abbrev dktX3_bury_2 : List UInt8 := dkwX3_bury_2 ++ dktX3_bury_3
def dkwX3_bury_1 : List UInt8 := [180, 0, 9, 6, 46, 4, 100, 62, 29, 155, 0, 41, 27, 2, 159, 0, 22, 42, 180, 0, 9, 17, 10, 191]
abbrev dktX3_bury_1 : List UInt8 := dkwX3_bury_1 ++ dktX3_bury_2
def dkwX3_bury_0 : List UInt8 := [27, 2, 159, 0, 18, 42, 27, 182, 0, 122, 154, 0, 10, 42, 16, 174, 182, 0, 75, 172, 3, 61, 42]
abbrev dktX3_bury_0 : List UInt8 := dkwX3_bury_0 ++ dktX3_bury_1
theorem dksX3_bury_0 : cX3_bury.data.toList.drop 0 = dktX3_bury_0 := by decide +kernel
theorem dksX3_bury_1 : cX3_bury.data.toList.drop 23 = dktX3_bury_1 := dk_seg dksX3_bury_0 23 rfl rfl
theorem dksX3_bury_2 : cX3_bury.data.toList.drop 47 = dktX3_bury_2 := dk_seg dksX3_bury_1 24 rfl rfl
theorem dksX3_bury_3 : cX3_bury.data.toList.drop 70 = dktX3_bury_3 := dk_seg dksX3_bury_2 23 rfl rfl
theorem dX3_bury_0 : decode cX3_bury 0 = .ok (.iload_n 1, 1) := dk_27 (dk_at dksX3_bury_0 0 rfl rfl)
theorem dX3_bury_1 : decode cX3_bury 1 = .ok (.iconst (-1), 1) := dk_2 (dk_at dksX3_bury_0 1 rfl rfl)
theorem dX3_bury_2 : decode cX3_bury 2 = .ok (.if_icmp .eq 18, 3) := dk_159 0 18 (dk_at dksX3_bury_0 2 rfl rfl)
theorem dX3_bury_5 : decode cX3_bury 5 = .ok (.aload_n 0, 1) := dk_42 (dk_at dksX3_bury_0 5 rfl rfl)
theorem dX3_bury_6 : decode cX3_bury 6 = .ok (.iload_n 1, 1) := dk_27 (dk_at dksX3_bury_0 6 rfl rfl)
theorem dX3_bury_7 : decode cX3_bury 7 = .ok (.invokevirtual 122, 3) := dk_182 0 122 (dk_at dksX3_bury_0 7 rfl rfl)
theorem dX3_bury_10 : decode cX3_bury 10 = .ok (.ifCond .ne 10, 3) := dk_154 0 10 (dk_at dksX3_bury_0 10 rfl rfl)
theorem dX3_bury_13 : decode cX3_bury 13 = .ok (.aload_n 0, 1) := dk_42 (dk_at dksX3_bury_0 13 rfl rfl)
theorem dX3_bury_14 : decode cX3_bury 14 = .ok (.bipush (-82), 2) := dk_16 174 (dk_at dksX3_bury_0 14 rfl rfl)
theorem dX3_bury_16 : decode cX3_bury 16 = .ok (.invokevirtual 75, 3) := dk_182 0 75 (dk_at dksX3_bury_0 16 rfl rfl)
theorem dX3_bury_19 : decode cX3_bury 19 = .ok (.ireturn, 1) := dk_172 (dk_at dksX3_bury_0 19 rfl rfl)
theorem dX3_bury_20 : decode cX3_bury 20 = .ok (.iconst 0, 1) := dk_3 (dk_at dksX3_bury_0 20 rfl rfl)
theorem dX3_bury_21 : decode cX3_bury 21 = .ok (.istore_n 2, 1) := dk_61 (dk_at dksX3_bury_0 21 rfl rfl)
theorem dX3_bury_22 : decode cX3_bury 22 = .ok (.aload_n 0, 1) := dk_42 (dk_at dksX3_bury_0 22 rfl rfl)
theorem dX3_bury_23 : decode cX3_bury 23 = .ok (.getfield 9, 3) := dk_180 0 9 (dk_at dksX3_bury_1 0 rfl rfl)
theorem dX3_bury_26 : decode cX3_bury 26 = .ok (.iconst 3, 1) := dk_6 (dk_at dksX3_bury_1 3 rfl rfl)
theorem dX3_bury_27 : decode cX3_bury 27 = .ok (.iaload, 1) := dk_46 (dk_at dksX3_bury_1 4 rfl rfl)
theorem dX3_bury_28 : decode cX3_bury 28 = .ok (.iconst 1, 1) := dk_4 (dk_at dksX3_bury_1 5 rfl rfl)
theorem dX3_bury_29 : decode cX3_bury 29 = .ok (.isub, 1) := dk_100 (dk_at dksX3_bury_1 6 rfl rfl)
theorem dX3_bury_30 : decode cX3_bury 30 = .ok (.istore_n 3, 1) := dk_62 (dk_at dksX3_bury_1 7 rfl rfl)
theorem dX3_bury_31 : decode cX3_bury 31 = .ok (.iload_n 3, 1) := dk_29 (dk_at dksX3_bury_1 8 rfl rfl)
theorem dX3_bury_32 : decode cX3_bury 32 = .ok (.ifCond .lt 41, 3) := dk_155 0 41 (dk_at dksX3_bury_1 9 rfl rfl)
theorem dX3_bury_35 : decode cX3_bury 35 = .ok (.iload_n 1, 1) := dk_27 (dk_at dksX3_bury_1 12 rfl rfl)
theorem dX3_bury_36 : decode cX3_bury 36 = .ok (.iconst (-1), 1) := dk_2 (dk_at dksX3_bury_1 13 rfl rfl)
theorem dX3_bury_37 : decode cX3_bury 37 = .ok (.if_icmp .eq 22, 3) := dk_159 0 22 (dk_at dksX3_bury_1 14 rfl rfl)
theorem dX3_bury_40 : decode cX3_bury 40 = .ok (.aload_n 0, 1) := dk_42 (dk_at dksX3_bury_1 17 rfl rfl)
theorem dX3_bury_41 : decode cX3_bury 41 = .ok (.getfield 9, 3) := dk_180 0 9 (dk_at dksX3_bury_1 18 rfl rfl)
theorem dX3_bury_44 : decode cX3_bury 44 = .ok (.sipush 2751, 3) := dk_17 10 191 (dk_at dksX3_bury_1 21 rfl rfl)
theorem dX3_bury_47 : decode cX3_bury 47 = .ok (.bipush 24, 2) := dk_16 24 (dk_at dksX3_bury_2 0 rfl rfl)
theorem dX3_bury_49 : decode cX3_bury 49 = .ok (.iload_n 3, 1) := dk_29 (dk_at dksX3_bury_2 2 rfl rfl)
theorem dX3_bury_50 : decode cX3_bury 50 = .ok (.imul, 1) := dk_104 (dk_at dksX3_bury_2 3 rfl rfl)
theorem dX3_bury_51 : decode cX3_bury 51 = .ok (.iadd, 1) := dk_96 (dk_at dksX3_bury_2 4 rfl rfl)
theorem dX3_bury_52 : decode cX3_bury 52 = .ok (.iconst 1, 1) := dk_4 (dk_at dksX3_bury_2 5 rfl rfl)
theorem dX3_bury_53 : decode cX3_bury 53 = .ok (.iadd, 1) := dk_96 (dk_at dksX3_bury_2 6 rfl rfl)
theorem dX3_bury_54 : decode cX3_bury 54 = .ok (.iaload, 1) := dk_46 (dk_at dksX3_bury_2 7 rfl rfl)
theorem dX3_bury_55 : decode cX3_bury 55 = .ok (.iload_n 1, 1) := dk_27 (dk_at dksX3_bury_2 8 rfl rfl)
theorem dX3_bury_56 : decode cX3_bury 56 = .ok (.if_icmp .ne 11, 3) := dk_160 0 11 (dk_at dksX3_bury_2 9 rfl rfl)
theorem dX3_bury_59 : decode cX3_bury 59 = .ok (.aload_n 0, 1) := dk_42 (dk_at dksX3_bury_2 12 rfl rfl)
theorem dX3_bury_60 : decode cX3_bury 60 = .ok (.iload_n 3, 1) := dk_29 (dk_at dksX3_bury_2 13 rfl rfl)
theorem dX3_bury_61 : decode cX3_bury 61 = .ok (.invokevirtual 203, 3) := dk_182 0 203 (dk_at dksX3_bury_2 14 rfl rfl)
theorem dX3_bury_64 : decode cX3_bury 64 = .ok (.iinc 2 1, 3) := dk_132 2 1 (dk_at dksX3_bury_2 17 rfl rfl)
theorem dX3_bury_67 : decode cX3_bury 67 = .ok (.iinc 3 (-1), 3) := dk_132 3 255 (dk_at dksX3_bury_2 20 rfl rfl)
theorem dX3_bury_70 : decode cX3_bury 70 = .ok (.goto (-39), 3) := dk_167 255 217 (dk_at dksX3_bury_3 0 rfl rfl)
theorem dX3_bury_73 : decode cX3_bury 73 = .ok (.iload_n 2, 1) := dk_28 (dk_at dksX3_bury_3 3 rfl rfl)
theorem dX3_bury_74 : decode cX3_bury 74 = .ok (.ireturn, 1) := dk_172 (dk_at dksX3_bury_3 4 rfl rfl)
abbrev cX3_purge : ByteArray := prog_24_method_59_code
def yX3_purge : MethodName := ⟨RX3, "purge", "(I)I"⟩
def dkwX3_purge_2 : List UInt8 := [132, 2, 1, 132, 3, 255, 167, 255, 229, 28, 172]
abbrev dktX3_purge_2 : List UInt8 := dkwX3_purge_2 ++ []
def dkwX3_purge_1 : List UInt8 := [4, 100, 62, 29, 155, 0, 29, 42, 27, 29, 4, 182, 0, 66, 5, 159, 0, 12, 42, 27, 29, 182, 0, 135]
abbrev dktX3_purge_1 : List UInt8 := dkwX3_purge_1 ++ dktX3_purge_2
def dkwX3_purge_0 : List UInt8 := [42, 27, 182, 0, 122, 154, 0, 10, 42, 16, 174, 182, 0, 75, 172, 3, 61, 42, 27, 16, 35, 182, 0, 59]
abbrev dktX3_purge_0 : List UInt8 := dkwX3_purge_0 ++ dktX3_purge_1
theorem dksX3_purge_0 : cX3_purge.data.toList.drop 0 = dktX3_purge_0 := by decide +kernel
theorem dksX3_purge_1 : cX3_purge.data.toList.drop 24 = dktX3_purge_1 := dk_seg dksX3_purge_0 24 rfl rfl
theorem dksX3_purge_2 : cX3_purge.data.toList.drop 48 = dktX3_purge_2 := dk_seg dksX3_purge_1 24 rfl rfl
theorem dX3_purge_0 : decode cX3_purge 0 = .ok (.aload_n 0, 1) := dk_42 (dk_at dksX3_purge_0 0 rfl rfl)
theorem dX3_purge_1 : decode cX3_purge 1 = .ok (.iload_n 1, 1) := dk_27 (dk_at dksX3_purge_0 1 rfl rfl)
theorem dX3_purge_2 : decode cX3_purge 2 = .ok (.invokevirtual 122, 3) := dk_182 0 122 (dk_at dksX3_purge_0 2 rfl rfl)
theorem dX3_purge_5 : decode cX3_purge 5 = .ok (.ifCond .ne 10, 3) := dk_154 0 10 (dk_at dksX3_purge_0 5 rfl rfl)
theorem dX3_purge_8 : decode cX3_purge 8 = .ok (.aload_n 0, 1) := dk_42 (dk_at dksX3_purge_0 8 rfl rfl)
theorem dX3_purge_9 : decode cX3_purge 9 = .ok (.bipush (-82), 2) := dk_16 174 (dk_at dksX3_purge_0 9 rfl rfl)
theorem dX3_purge_11 : decode cX3_purge 11 = .ok (.invokevirtual 75, 3) := dk_182 0 75 (dk_at dksX3_purge_0 11 rfl rfl)
theorem dX3_purge_14 : decode cX3_purge 14 = .ok (.ireturn, 1) := dk_172 (dk_at dksX3_purge_0 14 rfl rfl)
theorem dX3_purge_15 : decode cX3_purge 15 = .ok (.iconst 0, 1) := dk_3 (dk_at dksX3_purge_0 15 rfl rfl)
theorem dX3_purge_16 : decode cX3_purge 16 = .ok (.istore_n 2, 1) := dk_61 (dk_at dksX3_purge_0 16 rfl rfl)
theorem dX3_purge_17 : decode cX3_purge 17 = .ok (.aload_n 0, 1) := dk_42 (dk_at dksX3_purge_0 17 rfl rfl)
theorem dX3_purge_18 : decode cX3_purge 18 = .ok (.iload_n 1, 1) := dk_27 (dk_at dksX3_purge_0 18 rfl rfl)
theorem dX3_purge_19 : decode cX3_purge 19 = .ok (.bipush 35, 2) := dk_16 35 (dk_at dksX3_purge_0 19 rfl rfl)
theorem dX3_purge_21 : decode cX3_purge 21 = .ok (.invokevirtual 59, 3) := dk_182 0 59 (dk_at dksX3_purge_0 21 rfl rfl)
theorem dX3_purge_24 : decode cX3_purge 24 = .ok (.iconst 1, 1) := dk_4 (dk_at dksX3_purge_1 0 rfl rfl)
theorem dX3_purge_25 : decode cX3_purge 25 = .ok (.isub, 1) := dk_100 (dk_at dksX3_purge_1 1 rfl rfl)
theorem dX3_purge_26 : decode cX3_purge 26 = .ok (.istore_n 3, 1) := dk_62 (dk_at dksX3_purge_1 2 rfl rfl)
theorem dX3_purge_27 : decode cX3_purge 27 = .ok (.iload_n 3, 1) := dk_29 (dk_at dksX3_purge_1 3 rfl rfl)
theorem dX3_purge_28 : decode cX3_purge 28 = .ok (.ifCond .lt 29, 3) := dk_155 0 29 (dk_at dksX3_purge_1 4 rfl rfl)
theorem dX3_purge_31 : decode cX3_purge 31 = .ok (.aload_n 0, 1) := dk_42 (dk_at dksX3_purge_1 7 rfl rfl)
theorem dX3_purge_32 : decode cX3_purge 32 = .ok (.iload_n 1, 1) := dk_27 (dk_at dksX3_purge_1 8 rfl rfl)
theorem dX3_purge_33 : decode cX3_purge 33 = .ok (.iload_n 3, 1) := dk_29 (dk_at dksX3_purge_1 9 rfl rfl)
theorem dX3_purge_34 : decode cX3_purge 34 = .ok (.iconst 1, 1) := dk_4 (dk_at dksX3_purge_1 10 rfl rfl)
theorem dX3_purge_35 : decode cX3_purge 35 = .ok (.invokevirtual 66, 3) := dk_182 0 66 (dk_at dksX3_purge_1 11 rfl rfl)
theorem dX3_purge_38 : decode cX3_purge 38 = .ok (.iconst 2, 1) := dk_5 (dk_at dksX3_purge_1 14 rfl rfl)
theorem dX3_purge_39 : decode cX3_purge 39 = .ok (.if_icmp .eq 12, 3) := dk_159 0 12 (dk_at dksX3_purge_1 15 rfl rfl)
theorem dX3_purge_42 : decode cX3_purge 42 = .ok (.aload_n 0, 1) := dk_42 (dk_at dksX3_purge_1 18 rfl rfl)
theorem dX3_purge_43 : decode cX3_purge 43 = .ok (.iload_n 1, 1) := dk_27 (dk_at dksX3_purge_1 19 rfl rfl)
theorem dX3_purge_44 : decode cX3_purge 44 = .ok (.iload_n 3, 1) := dk_29 (dk_at dksX3_purge_1 20 rfl rfl)
theorem dX3_purge_45 : decode cX3_purge 45 = .ok (.invokevirtual 135, 3) := dk_182 0 135 (dk_at dksX3_purge_1 21 rfl rfl)
theorem dX3_purge_48 : decode cX3_purge 48 = .ok (.iinc 2 1, 3) := dk_132 2 1 (dk_at dksX3_purge_2 0 rfl rfl)
theorem dX3_purge_51 : decode cX3_purge 51 = .ok (.iinc 3 (-1), 3) := dk_132 3 255 (dk_at dksX3_purge_2 3 rfl rfl)
theorem dX3_purge_54 : decode cX3_purge 54 = .ok (.goto (-27), 3) := dk_167 255 229 (dk_at dksX3_purge_2 6 rfl rfl)
theorem dX3_purge_57 : decode cX3_purge 57 = .ok (.iload_n 2, 1) := dk_28 (dk_at dksX3_purge_2 9 rfl rfl)
theorem dX3_purge_58 : decode cX3_purge 58 = .ok (.ireturn, 1) := dk_172 (dk_at dksX3_purge_2 10 rfl rfl)
abbrev cX3_queueOf : ByteArray := prog_24_method_63_code
def yX3_queueOf : MethodName := ⟨RX3, "queueOf", "(II)I"⟩
def dkwX3_queueOf_5 : List UInt8 := [16, 32, 28, 96, 16, 8, 100, 182, 0, 59, 172]
abbrev dktX3_queueOf_5 : List UInt8 := dkwX3_queueOf_5 ++ []
def dkwX3_queueOf_4 : List UInt8 := [27, 3, 182, 0, 214, 172, 42, 27, 4, 182, 0, 214, 172, 42, 27, 16, 30, 182, 0, 59, 172, 42, 27]
abbrev dktX3_queueOf_4 : List UInt8 := dkwX3_queueOf_4 ++ dktX3_queueOf_5
def dkwX3_queueOf_3 : List UInt8 := [42, 27, 16, 35, 182, 0, 59, 172, 42, 27, 28, 4, 100, 182, 0, 208, 172, 42, 27, 182, 0, 211, 172, 42]
abbrev dktX3_queueOf_3 : List UInt8 := dkwX3_queueOf_3 ++ dktX3_queueOf_4
def dkwX3_queueOf_2 : List UInt8 := [170, 0, 0, 0, 0, 0, 0, 93, 0, 0, 0, 0, 0, 0, 0, 7, 0, 0, 0, 48, 0, 0, 0, 56, 0, 0, 0, 56, 0, 0, 0, 56, 0, 0, 0, 65, 0, 0, 0, 71, 0, 0, 0, 78, 0, 0, 0, 85]
abbrev dktX3_queueOf_2 : List UInt8 := dkwX3_queueOf_2 ++ dktX3_queueOf_3
def dkwX3_queueOf_1 : List UInt8 := [182, 0, 75, 172, 28]
abbrev dktX3_queueOf_1 : List UInt8 := dkwX3_queueOf_1 ++ dktX3_queueOf_2
def dkwX3_queueOf_0 : List UInt8 := [42, 27, 182, 0, 122, 153, 0, 15, 28, 133, 9, 20, 0, 206, 184, 0, 47, 154, 0, 10, 42, 16, 174]
abbrev dktX3_queueOf_0 : List UInt8 := dkwX3_queueOf_0 ++ dktX3_queueOf_1
theorem dksX3_queueOf_0 : cX3_queueOf.data.toList.drop 0 = dktX3_queueOf_0 := by decide +kernel
theorem dksX3_queueOf_1 : cX3_queueOf.data.toList.drop 23 = dktX3_queueOf_1 := dk_seg dksX3_queueOf_0 23 rfl rfl
theorem dksX3_queueOf_2 : cX3_queueOf.data.toList.drop 28 = dktX3_queueOf_2 := dk_seg dksX3_queueOf_1 5 rfl rfl
theorem dksX3_queueOf_3 : cX3_queueOf.data.toList.drop 76 = dktX3_queueOf_3 := dk_seg dksX3_queueOf_2 48 rfl rfl
theorem dksX3_queueOf_4 : cX3_queueOf.data.toList.drop 100 = dktX3_queueOf_4 := dk_seg dksX3_queueOf_3 24 rfl rfl
theorem dksX3_queueOf_5 : cX3_queueOf.data.toList.drop 123 = dktX3_queueOf_5 := dk_seg dksX3_queueOf_4 23 rfl rfl
theorem dX3_queueOf_0 : decode cX3_queueOf 0 = .ok (.aload_n 0, 1) := dk_42 (dk_at dksX3_queueOf_0 0 rfl rfl)
theorem dX3_queueOf_1 : decode cX3_queueOf 1 = .ok (.iload_n 1, 1) := dk_27 (dk_at dksX3_queueOf_0 1 rfl rfl)
theorem dX3_queueOf_2 : decode cX3_queueOf 2 = .ok (.invokevirtual 122, 3) := dk_182 0 122 (dk_at dksX3_queueOf_0 2 rfl rfl)
theorem dX3_queueOf_5 : decode cX3_queueOf 5 = .ok (.ifCond .eq 15, 3) := dk_153 0 15 (dk_at dksX3_queueOf_0 5 rfl rfl)
theorem dX3_queueOf_8 : decode cX3_queueOf 8 = .ok (.iload_n 2, 1) := dk_28 (dk_at dksX3_queueOf_0 8 rfl rfl)
theorem dX3_queueOf_9 : decode cX3_queueOf 9 = .ok (.i2l, 1) := dk_133 (dk_at dksX3_queueOf_0 9 rfl rfl)
theorem dX3_queueOf_10 : decode cX3_queueOf 10 = .ok (.lconst 0, 1) := dk_9 (dk_at dksX3_queueOf_0 10 rfl rfl)
theorem dX3_queueOf_11 : decode cX3_queueOf 11 = .ok (.ldc2_w 206, 3) := dk_20 0 206 (dk_at dksX3_queueOf_0 11 rfl rfl)
theorem dX3_queueOf_14 : decode cX3_queueOf 14 = .ok (.invokestatic 47, 3) := dk_184 0 47 (dk_at dksX3_queueOf_0 14 rfl rfl)
theorem dX3_queueOf_17 : decode cX3_queueOf 17 = .ok (.ifCond .ne 10, 3) := dk_154 0 10 (dk_at dksX3_queueOf_0 17 rfl rfl)
theorem dX3_queueOf_20 : decode cX3_queueOf 20 = .ok (.aload_n 0, 1) := dk_42 (dk_at dksX3_queueOf_0 20 rfl rfl)
theorem dX3_queueOf_21 : decode cX3_queueOf 21 = .ok (.bipush (-82), 2) := dk_16 174 (dk_at dksX3_queueOf_0 21 rfl rfl)
theorem dX3_queueOf_23 : decode cX3_queueOf 23 = .ok (.invokevirtual 75, 3) := dk_182 0 75 (dk_at dksX3_queueOf_1 0 rfl rfl)
theorem dX3_queueOf_26 : decode cX3_queueOf 26 = .ok (.ireturn, 1) := dk_172 (dk_at dksX3_queueOf_1 3 rfl rfl)
theorem dX3_queueOf_27 : decode cX3_queueOf 27 = .ok (.iload_n 2, 1) := dk_28 (dk_at dksX3_queueOf_1 4 rfl rfl)
theorem dX3_queueOf_28 : decode cX3_queueOf 28 = .ok (.tableswitch 93 0 7 #[48, 56, 56, 56, 65, 71, 78, 85], 48) := by decide +kernel
theorem dX3_queueOf_76 : decode cX3_queueOf 76 = .ok (.aload_n 0, 1) := dk_42 (dk_at dksX3_queueOf_3 0 rfl rfl)
theorem dX3_queueOf_77 : decode cX3_queueOf 77 = .ok (.iload_n 1, 1) := dk_27 (dk_at dksX3_queueOf_3 1 rfl rfl)
theorem dX3_queueOf_78 : decode cX3_queueOf 78 = .ok (.bipush 35, 2) := dk_16 35 (dk_at dksX3_queueOf_3 2 rfl rfl)
theorem dX3_queueOf_80 : decode cX3_queueOf 80 = .ok (.invokevirtual 59, 3) := dk_182 0 59 (dk_at dksX3_queueOf_3 4 rfl rfl)
theorem dX3_queueOf_83 : decode cX3_queueOf 83 = .ok (.ireturn, 1) := dk_172 (dk_at dksX3_queueOf_3 7 rfl rfl)
theorem dX3_queueOf_84 : decode cX3_queueOf 84 = .ok (.aload_n 0, 1) := dk_42 (dk_at dksX3_queueOf_3 8 rfl rfl)
theorem dX3_queueOf_85 : decode cX3_queueOf 85 = .ok (.iload_n 1, 1) := dk_27 (dk_at dksX3_queueOf_3 9 rfl rfl)
theorem dX3_queueOf_86 : decode cX3_queueOf 86 = .ok (.iload_n 2, 1) := dk_28 (dk_at dksX3_queueOf_3 10 rfl rfl)
theorem dX3_queueOf_87 : decode cX3_queueOf 87 = .ok (.iconst 1, 1) := dk_4 (dk_at dksX3_queueOf_3 11 rfl rfl)
theorem dX3_queueOf_88 : decode cX3_queueOf 88 = .ok (.isub, 1) := dk_100 (dk_at dksX3_queueOf_3 12 rfl rfl)
theorem dX3_queueOf_89 : decode cX3_queueOf 89 = .ok (.invokevirtual 208, 3) := dk_182 0 208 (dk_at dksX3_queueOf_3 13 rfl rfl)
theorem dX3_queueOf_92 : decode cX3_queueOf 92 = .ok (.ireturn, 1) := dk_172 (dk_at dksX3_queueOf_3 16 rfl rfl)
theorem dX3_queueOf_93 : decode cX3_queueOf 93 = .ok (.aload_n 0, 1) := dk_42 (dk_at dksX3_queueOf_3 17 rfl rfl)
theorem dX3_queueOf_94 : decode cX3_queueOf 94 = .ok (.iload_n 1, 1) := dk_27 (dk_at dksX3_queueOf_3 18 rfl rfl)
theorem dX3_queueOf_95 : decode cX3_queueOf 95 = .ok (.invokevirtual 211, 3) := dk_182 0 211 (dk_at dksX3_queueOf_3 19 rfl rfl)
theorem dX3_queueOf_98 : decode cX3_queueOf 98 = .ok (.ireturn, 1) := dk_172 (dk_at dksX3_queueOf_3 22 rfl rfl)
theorem dX3_queueOf_99 : decode cX3_queueOf 99 = .ok (.aload_n 0, 1) := dk_42 (dk_at dksX3_queueOf_3 23 rfl rfl)
theorem dX3_queueOf_100 : decode cX3_queueOf 100 = .ok (.iload_n 1, 1) := dk_27 (dk_at dksX3_queueOf_4 0 rfl rfl)
theorem dX3_queueOf_101 : decode cX3_queueOf 101 = .ok (.iconst 0, 1) := dk_3 (dk_at dksX3_queueOf_4 1 rfl rfl)
theorem dX3_queueOf_102 : decode cX3_queueOf 102 = .ok (.invokevirtual 214, 3) := dk_182 0 214 (dk_at dksX3_queueOf_4 2 rfl rfl)
theorem dX3_queueOf_105 : decode cX3_queueOf 105 = .ok (.ireturn, 1) := dk_172 (dk_at dksX3_queueOf_4 5 rfl rfl)
theorem dX3_queueOf_106 : decode cX3_queueOf 106 = .ok (.aload_n 0, 1) := dk_42 (dk_at dksX3_queueOf_4 6 rfl rfl)
theorem dX3_queueOf_107 : decode cX3_queueOf 107 = .ok (.iload_n 1, 1) := dk_27 (dk_at dksX3_queueOf_4 7 rfl rfl)
theorem dX3_queueOf_108 : decode cX3_queueOf 108 = .ok (.iconst 1, 1) := dk_4 (dk_at dksX3_queueOf_4 8 rfl rfl)
theorem dX3_queueOf_109 : decode cX3_queueOf 109 = .ok (.invokevirtual 214, 3) := dk_182 0 214 (dk_at dksX3_queueOf_4 9 rfl rfl)
theorem dX3_queueOf_112 : decode cX3_queueOf 112 = .ok (.ireturn, 1) := dk_172 (dk_at dksX3_queueOf_4 12 rfl rfl)
theorem dX3_queueOf_113 : decode cX3_queueOf 113 = .ok (.aload_n 0, 1) := dk_42 (dk_at dksX3_queueOf_4 13 rfl rfl)
theorem dX3_queueOf_114 : decode cX3_queueOf 114 = .ok (.iload_n 1, 1) := dk_27 (dk_at dksX3_queueOf_4 14 rfl rfl)
theorem dX3_queueOf_115 : decode cX3_queueOf 115 = .ok (.bipush 30, 2) := dk_16 30 (dk_at dksX3_queueOf_4 15 rfl rfl)
theorem dX3_queueOf_117 : decode cX3_queueOf 117 = .ok (.invokevirtual 59, 3) := dk_182 0 59 (dk_at dksX3_queueOf_4 17 rfl rfl)
theorem dX3_queueOf_120 : decode cX3_queueOf 120 = .ok (.ireturn, 1) := dk_172 (dk_at dksX3_queueOf_4 20 rfl rfl)
theorem dX3_queueOf_121 : decode cX3_queueOf 121 = .ok (.aload_n 0, 1) := dk_42 (dk_at dksX3_queueOf_4 21 rfl rfl)
theorem dX3_queueOf_122 : decode cX3_queueOf 122 = .ok (.iload_n 1, 1) := dk_27 (dk_at dksX3_queueOf_4 22 rfl rfl)
theorem dX3_queueOf_123 : decode cX3_queueOf 123 = .ok (.bipush 32, 2) := dk_16 32 (dk_at dksX3_queueOf_5 0 rfl rfl)
theorem dX3_queueOf_125 : decode cX3_queueOf 125 = .ok (.iload_n 2, 1) := dk_28 (dk_at dksX3_queueOf_5 2 rfl rfl)
theorem dX3_queueOf_126 : decode cX3_queueOf 126 = .ok (.iadd, 1) := dk_96 (dk_at dksX3_queueOf_5 3 rfl rfl)
theorem dX3_queueOf_127 : decode cX3_queueOf 127 = .ok (.bipush 8, 2) := dk_16 8 (dk_at dksX3_queueOf_5 4 rfl rfl)
theorem dX3_queueOf_129 : decode cX3_queueOf 129 = .ok (.isub, 1) := dk_100 (dk_at dksX3_queueOf_5 6 rfl rfl)
theorem dX3_queueOf_130 : decode cX3_queueOf 130 = .ok (.invokevirtual 59, 3) := dk_182 0 59 (dk_at dksX3_queueOf_5 7 rfl rfl)
theorem dX3_queueOf_133 : decode cX3_queueOf 133 = .ok (.ireturn, 1) := dk_172 (dk_at dksX3_queueOf_5 10 rfl rfl)
abbrev cX3_lettersOf : ByteArray := prog_24_method_60_code
def yX3_lettersOf : MethodName := ⟨RX3, "lettersOf", "(II)I"⟩
def dkwX3_lettersOf_1 : List UInt8 := [182, 0, 66, 28, 160, 0, 7, 4, 167, 0, 4, 3, 96, 62, 132, 4, 1, 167, 255, 221, 29, 172]
abbrev dktX3_lettersOf_1 : List UInt8 := dkwX3_lettersOf_1 ++ []
def dkwX3_lettersOf_0 : List UInt8 := [3, 62, 3, 54, 4, 21, 4, 42, 27, 16, 35, 182, 0, 59, 162, 0, 29, 29, 42, 27, 21, 4, 4]
abbrev dktX3_lettersOf_0 : List UInt8 := dkwX3_lettersOf_0 ++ dktX3_lettersOf_1
theorem dksX3_lettersOf_0 : cX3_lettersOf.data.toList.drop 0 = dktX3_lettersOf_0 := by decide +kernel
theorem dksX3_lettersOf_1 : cX3_lettersOf.data.toList.drop 23 = dktX3_lettersOf_1 := dk_seg dksX3_lettersOf_0 23 rfl rfl
theorem dX3_lettersOf_0 : decode cX3_lettersOf 0 = .ok (.iconst 0, 1) := dk_3 (dk_at dksX3_lettersOf_0 0 rfl rfl)
theorem dX3_lettersOf_1 : decode cX3_lettersOf 1 = .ok (.istore_n 3, 1) := dk_62 (dk_at dksX3_lettersOf_0 1 rfl rfl)
theorem dX3_lettersOf_2 : decode cX3_lettersOf 2 = .ok (.iconst 0, 1) := dk_3 (dk_at dksX3_lettersOf_0 2 rfl rfl)
theorem dX3_lettersOf_3 : decode cX3_lettersOf 3 = .ok (.istore 4, 2) := dk_54 4 (dk_at dksX3_lettersOf_0 3 rfl rfl)
theorem dX3_lettersOf_5 : decode cX3_lettersOf 5 = .ok (.iload 4, 2) := dk_21 4 (dk_at dksX3_lettersOf_0 5 rfl rfl)
theorem dX3_lettersOf_7 : decode cX3_lettersOf 7 = .ok (.aload_n 0, 1) := dk_42 (dk_at dksX3_lettersOf_0 7 rfl rfl)
theorem dX3_lettersOf_8 : decode cX3_lettersOf 8 = .ok (.iload_n 1, 1) := dk_27 (dk_at dksX3_lettersOf_0 8 rfl rfl)
theorem dX3_lettersOf_9 : decode cX3_lettersOf 9 = .ok (.bipush 35, 2) := dk_16 35 (dk_at dksX3_lettersOf_0 9 rfl rfl)
theorem dX3_lettersOf_11 : decode cX3_lettersOf 11 = .ok (.invokevirtual 59, 3) := dk_182 0 59 (dk_at dksX3_lettersOf_0 11 rfl rfl)
theorem dX3_lettersOf_14 : decode cX3_lettersOf 14 = .ok (.if_icmp .ge 29, 3) := dk_162 0 29 (dk_at dksX3_lettersOf_0 14 rfl rfl)
theorem dX3_lettersOf_17 : decode cX3_lettersOf 17 = .ok (.iload_n 3, 1) := dk_29 (dk_at dksX3_lettersOf_0 17 rfl rfl)
theorem dX3_lettersOf_18 : decode cX3_lettersOf 18 = .ok (.aload_n 0, 1) := dk_42 (dk_at dksX3_lettersOf_0 18 rfl rfl)
theorem dX3_lettersOf_19 : decode cX3_lettersOf 19 = .ok (.iload_n 1, 1) := dk_27 (dk_at dksX3_lettersOf_0 19 rfl rfl)
theorem dX3_lettersOf_20 : decode cX3_lettersOf 20 = .ok (.iload 4, 2) := dk_21 4 (dk_at dksX3_lettersOf_0 20 rfl rfl)
theorem dX3_lettersOf_22 : decode cX3_lettersOf 22 = .ok (.iconst 1, 1) := dk_4 (dk_at dksX3_lettersOf_0 22 rfl rfl)
theorem dX3_lettersOf_23 : decode cX3_lettersOf 23 = .ok (.invokevirtual 66, 3) := dk_182 0 66 (dk_at dksX3_lettersOf_1 0 rfl rfl)
theorem dX3_lettersOf_26 : decode cX3_lettersOf 26 = .ok (.iload_n 2, 1) := dk_28 (dk_at dksX3_lettersOf_1 3 rfl rfl)
theorem dX3_lettersOf_27 : decode cX3_lettersOf 27 = .ok (.if_icmp .ne 7, 3) := dk_160 0 7 (dk_at dksX3_lettersOf_1 4 rfl rfl)
theorem dX3_lettersOf_30 : decode cX3_lettersOf 30 = .ok (.iconst 1, 1) := dk_4 (dk_at dksX3_lettersOf_1 7 rfl rfl)
theorem dX3_lettersOf_31 : decode cX3_lettersOf 31 = .ok (.goto 4, 3) := dk_167 0 4 (dk_at dksX3_lettersOf_1 8 rfl rfl)
theorem dX3_lettersOf_34 : decode cX3_lettersOf 34 = .ok (.iconst 0, 1) := dk_3 (dk_at dksX3_lettersOf_1 11 rfl rfl)
theorem dX3_lettersOf_35 : decode cX3_lettersOf 35 = .ok (.iadd, 1) := dk_96 (dk_at dksX3_lettersOf_1 12 rfl rfl)
theorem dX3_lettersOf_36 : decode cX3_lettersOf 36 = .ok (.istore_n 3, 1) := dk_62 (dk_at dksX3_lettersOf_1 13 rfl rfl)
theorem dX3_lettersOf_37 : decode cX3_lettersOf 37 = .ok (.iinc 4 1, 3) := dk_132 4 1 (dk_at dksX3_lettersOf_1 14 rfl rfl)
theorem dX3_lettersOf_40 : decode cX3_lettersOf 40 = .ok (.goto (-35), 3) := dk_167 255 221 (dk_at dksX3_lettersOf_1 17 rfl rfl)
theorem dX3_lettersOf_43 : decode cX3_lettersOf 43 = .ok (.iload_n 3, 1) := dk_29 (dk_at dksX3_lettersOf_1 20 rfl rfl)
theorem dX3_lettersOf_44 : decode cX3_lettersOf 44 = .ok (.ireturn, 1) := dk_172 (dk_at dksX3_lettersOf_1 21 rfl rfl)
abbrev cX3_mayMany : ByteArray := prog_24_method_61_code
def yX3_mayMany : MethodName := ⟨RX3, "mayMany", "(I)I"⟩
def dkwX3_mayMany_1 : List UInt8 := [153, 0, 7, 4, 167, 0, 4, 3, 96, 61, 132, 3, 1, 167, 255, 225, 28, 172]
abbrev dktX3_mayMany_1 : List UInt8 := dkwX3_mayMany_1 ++ []
def dkwX3_mayMany_0 : List UInt8 := [3, 61, 3, 62, 29, 42, 27, 16, 35, 182, 0, 59, 162, 0, 26, 28, 42, 27, 29, 182, 0, 160]
abbrev dktX3_mayMany_0 : List UInt8 := dkwX3_mayMany_0 ++ dktX3_mayMany_1
theorem dksX3_mayMany_0 : cX3_mayMany.data.toList.drop 0 = dktX3_mayMany_0 := by decide +kernel
theorem dksX3_mayMany_1 : cX3_mayMany.data.toList.drop 22 = dktX3_mayMany_1 := dk_seg dksX3_mayMany_0 22 rfl rfl
theorem dX3_mayMany_0 : decode cX3_mayMany 0 = .ok (.iconst 0, 1) := dk_3 (dk_at dksX3_mayMany_0 0 rfl rfl)
theorem dX3_mayMany_1 : decode cX3_mayMany 1 = .ok (.istore_n 2, 1) := dk_61 (dk_at dksX3_mayMany_0 1 rfl rfl)
theorem dX3_mayMany_2 : decode cX3_mayMany 2 = .ok (.iconst 0, 1) := dk_3 (dk_at dksX3_mayMany_0 2 rfl rfl)
theorem dX3_mayMany_3 : decode cX3_mayMany 3 = .ok (.istore_n 3, 1) := dk_62 (dk_at dksX3_mayMany_0 3 rfl rfl)
theorem dX3_mayMany_4 : decode cX3_mayMany 4 = .ok (.iload_n 3, 1) := dk_29 (dk_at dksX3_mayMany_0 4 rfl rfl)
theorem dX3_mayMany_5 : decode cX3_mayMany 5 = .ok (.aload_n 0, 1) := dk_42 (dk_at dksX3_mayMany_0 5 rfl rfl)
theorem dX3_mayMany_6 : decode cX3_mayMany 6 = .ok (.iload_n 1, 1) := dk_27 (dk_at dksX3_mayMany_0 6 rfl rfl)
theorem dX3_mayMany_7 : decode cX3_mayMany 7 = .ok (.bipush 35, 2) := dk_16 35 (dk_at dksX3_mayMany_0 7 rfl rfl)
theorem dX3_mayMany_9 : decode cX3_mayMany 9 = .ok (.invokevirtual 59, 3) := dk_182 0 59 (dk_at dksX3_mayMany_0 9 rfl rfl)
theorem dX3_mayMany_12 : decode cX3_mayMany 12 = .ok (.if_icmp .ge 26, 3) := dk_162 0 26 (dk_at dksX3_mayMany_0 12 rfl rfl)
theorem dX3_mayMany_15 : decode cX3_mayMany 15 = .ok (.iload_n 2, 1) := dk_28 (dk_at dksX3_mayMany_0 15 rfl rfl)
theorem dX3_mayMany_16 : decode cX3_mayMany 16 = .ok (.aload_n 0, 1) := dk_42 (dk_at dksX3_mayMany_0 16 rfl rfl)
theorem dX3_mayMany_17 : decode cX3_mayMany 17 = .ok (.iload_n 1, 1) := dk_27 (dk_at dksX3_mayMany_0 17 rfl rfl)
theorem dX3_mayMany_18 : decode cX3_mayMany 18 = .ok (.iload_n 3, 1) := dk_29 (dk_at dksX3_mayMany_0 18 rfl rfl)
theorem dX3_mayMany_19 : decode cX3_mayMany 19 = .ok (.invokevirtual 160, 3) := dk_182 0 160 (dk_at dksX3_mayMany_0 19 rfl rfl)
theorem dX3_mayMany_22 : decode cX3_mayMany 22 = .ok (.ifCond .eq 7, 3) := dk_153 0 7 (dk_at dksX3_mayMany_1 0 rfl rfl)
theorem dX3_mayMany_25 : decode cX3_mayMany 25 = .ok (.iconst 1, 1) := dk_4 (dk_at dksX3_mayMany_1 3 rfl rfl)
theorem dX3_mayMany_26 : decode cX3_mayMany 26 = .ok (.goto 4, 3) := dk_167 0 4 (dk_at dksX3_mayMany_1 4 rfl rfl)
theorem dX3_mayMany_29 : decode cX3_mayMany 29 = .ok (.iconst 0, 1) := dk_3 (dk_at dksX3_mayMany_1 7 rfl rfl)
theorem dX3_mayMany_30 : decode cX3_mayMany 30 = .ok (.iadd, 1) := dk_96 (dk_at dksX3_mayMany_1 8 rfl rfl)
theorem dX3_mayMany_31 : decode cX3_mayMany 31 = .ok (.istore_n 2, 1) := dk_61 (dk_at dksX3_mayMany_1 9 rfl rfl)
theorem dX3_mayMany_32 : decode cX3_mayMany 32 = .ok (.iinc 3 1, 3) := dk_132 3 1 (dk_at dksX3_mayMany_1 10 rfl rfl)
theorem dX3_mayMany_35 : decode cX3_mayMany 35 = .ok (.goto (-31), 3) := dk_167 255 225 (dk_at dksX3_mayMany_1 13 rfl rfl)
theorem dX3_mayMany_38 : decode cX3_mayMany 38 = .ok (.iload_n 2, 1) := dk_28 (dk_at dksX3_mayMany_1 16 rfl rfl)
theorem dX3_mayMany_39 : decode cX3_mayMany 39 = .ok (.ireturn, 1) := dk_172 (dk_at dksX3_mayMany_1 17 rfl rfl)
abbrev cX3_consumersOf : ByteArray := prog_24_method_62_code
def yX3_consumersOf : MethodName := ⟨RX3, "consumersOf", "(IZ)I"⟩
def dkwX3_consumersOf_2 : List UInt8 := [182, 0, 55, 167, 0, 4, 4, 96, 62, 132, 4, 1, 167, 255, 204, 29, 172]
abbrev dktX3_consumersOf_2 : List UInt8 := dkwX3_consumersOf_2 ++ []
def dkwX3_consumersOf_1 : List UInt8 := [153, 0, 32, 42, 21, 4, 3, 182, 0, 55, 27, 160, 0, 21, 29, 28, 153, 0, 13, 42, 21, 4, 4]
abbrev dktX3_consumersOf_1 : List UInt8 := dkwX3_consumersOf_1 ++ dktX3_consumersOf_2
def dkwX3_consumersOf_0 : List UInt8 := [3, 62, 3, 54, 4, 21, 4, 42, 180, 0, 9, 4, 46, 162, 0, 47, 42, 21, 4, 182, 0, 163]
abbrev dktX3_consumersOf_0 : List UInt8 := dkwX3_consumersOf_0 ++ dktX3_consumersOf_1
theorem dksX3_consumersOf_0 : cX3_consumersOf.data.toList.drop 0 = dktX3_consumersOf_0 := by decide +kernel
theorem dksX3_consumersOf_1 : cX3_consumersOf.data.toList.drop 22 = dktX3_consumersOf_1 := dk_seg dksX3_consumersOf_0 22 rfl rfl
theorem dksX3_consumersOf_2 : cX3_consumersOf.data.toList.drop 45 = dktX3_consumersOf_2 := dk_seg dksX3_consumersOf_1 23 rfl rfl
theorem dX3_consumersOf_0 : decode cX3_consumersOf 0 = .ok (.iconst 0, 1) := dk_3 (dk_at dksX3_consumersOf_0 0 rfl rfl)
theorem dX3_consumersOf_1 : decode cX3_consumersOf 1 = .ok (.istore_n 3, 1) := dk_62 (dk_at dksX3_consumersOf_0 1 rfl rfl)
theorem dX3_consumersOf_2 : decode cX3_consumersOf 2 = .ok (.iconst 0, 1) := dk_3 (dk_at dksX3_consumersOf_0 2 rfl rfl)
theorem dX3_consumersOf_3 : decode cX3_consumersOf 3 = .ok (.istore 4, 2) := dk_54 4 (dk_at dksX3_consumersOf_0 3 rfl rfl)
theorem dX3_consumersOf_5 : decode cX3_consumersOf 5 = .ok (.iload 4, 2) := dk_21 4 (dk_at dksX3_consumersOf_0 5 rfl rfl)
theorem dX3_consumersOf_7 : decode cX3_consumersOf 7 = .ok (.aload_n 0, 1) := dk_42 (dk_at dksX3_consumersOf_0 7 rfl rfl)
theorem dX3_consumersOf_8 : decode cX3_consumersOf 8 = .ok (.getfield 9, 3) := dk_180 0 9 (dk_at dksX3_consumersOf_0 8 rfl rfl)
theorem dX3_consumersOf_11 : decode cX3_consumersOf 11 = .ok (.iconst 1, 1) := dk_4 (dk_at dksX3_consumersOf_0 11 rfl rfl)
theorem dX3_consumersOf_12 : decode cX3_consumersOf 12 = .ok (.iaload, 1) := dk_46 (dk_at dksX3_consumersOf_0 12 rfl rfl)
theorem dX3_consumersOf_13 : decode cX3_consumersOf 13 = .ok (.if_icmp .ge 47, 3) := dk_162 0 47 (dk_at dksX3_consumersOf_0 13 rfl rfl)
theorem dX3_consumersOf_16 : decode cX3_consumersOf 16 = .ok (.aload_n 0, 1) := dk_42 (dk_at dksX3_consumersOf_0 16 rfl rfl)
theorem dX3_consumersOf_17 : decode cX3_consumersOf 17 = .ok (.iload 4, 2) := dk_21 4 (dk_at dksX3_consumersOf_0 17 rfl rfl)
theorem dX3_consumersOf_19 : decode cX3_consumersOf 19 = .ok (.invokevirtual 163, 3) := dk_182 0 163 (dk_at dksX3_consumersOf_0 19 rfl rfl)
theorem dX3_consumersOf_22 : decode cX3_consumersOf 22 = .ok (.ifCond .eq 32, 3) := dk_153 0 32 (dk_at dksX3_consumersOf_1 0 rfl rfl)
theorem dX3_consumersOf_25 : decode cX3_consumersOf 25 = .ok (.aload_n 0, 1) := dk_42 (dk_at dksX3_consumersOf_1 3 rfl rfl)
theorem dX3_consumersOf_26 : decode cX3_consumersOf 26 = .ok (.iload 4, 2) := dk_21 4 (dk_at dksX3_consumersOf_1 4 rfl rfl)
theorem dX3_consumersOf_28 : decode cX3_consumersOf 28 = .ok (.iconst 0, 1) := dk_3 (dk_at dksX3_consumersOf_1 6 rfl rfl)
theorem dX3_consumersOf_29 : decode cX3_consumersOf 29 = .ok (.invokevirtual 55, 3) := dk_182 0 55 (dk_at dksX3_consumersOf_1 7 rfl rfl)
theorem dX3_consumersOf_32 : decode cX3_consumersOf 32 = .ok (.iload_n 1, 1) := dk_27 (dk_at dksX3_consumersOf_1 10 rfl rfl)
theorem dX3_consumersOf_33 : decode cX3_consumersOf 33 = .ok (.if_icmp .ne 21, 3) := dk_160 0 21 (dk_at dksX3_consumersOf_1 11 rfl rfl)
theorem dX3_consumersOf_36 : decode cX3_consumersOf 36 = .ok (.iload_n 3, 1) := dk_29 (dk_at dksX3_consumersOf_1 14 rfl rfl)
theorem dX3_consumersOf_37 : decode cX3_consumersOf 37 = .ok (.iload_n 2, 1) := dk_28 (dk_at dksX3_consumersOf_1 15 rfl rfl)
theorem dX3_consumersOf_38 : decode cX3_consumersOf 38 = .ok (.ifCond .eq 13, 3) := dk_153 0 13 (dk_at dksX3_consumersOf_1 16 rfl rfl)
theorem dX3_consumersOf_41 : decode cX3_consumersOf 41 = .ok (.aload_n 0, 1) := dk_42 (dk_at dksX3_consumersOf_1 19 rfl rfl)
theorem dX3_consumersOf_42 : decode cX3_consumersOf 42 = .ok (.iload 4, 2) := dk_21 4 (dk_at dksX3_consumersOf_1 20 rfl rfl)
theorem dX3_consumersOf_44 : decode cX3_consumersOf 44 = .ok (.iconst 1, 1) := dk_4 (dk_at dksX3_consumersOf_1 22 rfl rfl)
theorem dX3_consumersOf_45 : decode cX3_consumersOf 45 = .ok (.invokevirtual 55, 3) := dk_182 0 55 (dk_at dksX3_consumersOf_2 0 rfl rfl)
theorem dX3_consumersOf_48 : decode cX3_consumersOf 48 = .ok (.goto 4, 3) := dk_167 0 4 (dk_at dksX3_consumersOf_2 3 rfl rfl)
theorem dX3_consumersOf_51 : decode cX3_consumersOf 51 = .ok (.iconst 1, 1) := dk_4 (dk_at dksX3_consumersOf_2 6 rfl rfl)
theorem dX3_consumersOf_52 : decode cX3_consumersOf 52 = .ok (.iadd, 1) := dk_96 (dk_at dksX3_consumersOf_2 7 rfl rfl)
theorem dX3_consumersOf_53 : decode cX3_consumersOf 53 = .ok (.istore_n 3, 1) := dk_62 (dk_at dksX3_consumersOf_2 8 rfl rfl)
theorem dX3_consumersOf_54 : decode cX3_consumersOf 54 = .ok (.iinc 4 1, 3) := dk_132 4 1 (dk_at dksX3_consumersOf_2 9 rfl rfl)
theorem dX3_consumersOf_57 : decode cX3_consumersOf 57 = .ok (.goto (-52), 3) := dk_167 255 204 (dk_at dksX3_consumersOf_2 12 rfl rfl)
theorem dX3_consumersOf_60 : decode cX3_consumersOf 60 = .ok (.iload_n 3, 1) := dk_29 (dk_at dksX3_consumersOf_2 15 rfl rfl)
theorem dX3_consumersOf_61 : decode cX3_consumersOf 61 = .ok (.ireturn, 1) := dk_172 (dk_at dksX3_consumersOf_2 16 rfl rfl)
abbrev cX3_letter : ByteArray := prog_24_method_64_code
def yX3_letter : MethodName := ⟨RX3, "letter", "(III)I"⟩
def dkwX3_letter_2 : List UInt8 := [28, 29, 182, 0, 66, 172]
abbrev dktX3_letter_2 : List UInt8 := dkwX3_letter_2 ++ []
def dkwX3_letter_1 : List UInt8 := [27, 16, 35, 182, 0, 59, 4, 100, 133, 184, 0, 47, 154, 0, 10, 42, 16, 174, 182, 0, 75, 172, 42, 27]
abbrev dktX3_letter_1 : List UInt8 := dkwX3_letter_1 ++ dktX3_letter_2
def dkwX3_letter_0 : List UInt8 := [42, 27, 182, 0, 122, 153, 0, 34, 29, 133, 9, 20, 0, 218, 184, 0, 47, 153, 0, 22, 28, 133, 9, 42]
abbrev dktX3_letter_0 : List UInt8 := dkwX3_letter_0 ++ dktX3_letter_1
theorem dksX3_letter_0 : cX3_letter.data.toList.drop 0 = dktX3_letter_0 := by decide +kernel
theorem dksX3_letter_1 : cX3_letter.data.toList.drop 24 = dktX3_letter_1 := dk_seg dksX3_letter_0 24 rfl rfl
theorem dksX3_letter_2 : cX3_letter.data.toList.drop 48 = dktX3_letter_2 := dk_seg dksX3_letter_1 24 rfl rfl
theorem dX3_letter_0 : decode cX3_letter 0 = .ok (.aload_n 0, 1) := dk_42 (dk_at dksX3_letter_0 0 rfl rfl)
theorem dX3_letter_1 : decode cX3_letter 1 = .ok (.iload_n 1, 1) := dk_27 (dk_at dksX3_letter_0 1 rfl rfl)
theorem dX3_letter_2 : decode cX3_letter 2 = .ok (.invokevirtual 122, 3) := dk_182 0 122 (dk_at dksX3_letter_0 2 rfl rfl)
theorem dX3_letter_5 : decode cX3_letter 5 = .ok (.ifCond .eq 34, 3) := dk_153 0 34 (dk_at dksX3_letter_0 5 rfl rfl)
theorem dX3_letter_8 : decode cX3_letter 8 = .ok (.iload_n 3, 1) := dk_29 (dk_at dksX3_letter_0 8 rfl rfl)
theorem dX3_letter_9 : decode cX3_letter 9 = .ok (.i2l, 1) := dk_133 (dk_at dksX3_letter_0 9 rfl rfl)
theorem dX3_letter_10 : decode cX3_letter 10 = .ok (.lconst 0, 1) := dk_9 (dk_at dksX3_letter_0 10 rfl rfl)
theorem dX3_letter_11 : decode cX3_letter 11 = .ok (.ldc2_w 218, 3) := dk_20 0 218 (dk_at dksX3_letter_0 11 rfl rfl)
theorem dX3_letter_14 : decode cX3_letter 14 = .ok (.invokestatic 47, 3) := dk_184 0 47 (dk_at dksX3_letter_0 14 rfl rfl)
theorem dX3_letter_17 : decode cX3_letter 17 = .ok (.ifCond .eq 22, 3) := dk_153 0 22 (dk_at dksX3_letter_0 17 rfl rfl)
theorem dX3_letter_20 : decode cX3_letter 20 = .ok (.iload_n 2, 1) := dk_28 (dk_at dksX3_letter_0 20 rfl rfl)
theorem dX3_letter_21 : decode cX3_letter 21 = .ok (.i2l, 1) := dk_133 (dk_at dksX3_letter_0 21 rfl rfl)
theorem dX3_letter_22 : decode cX3_letter 22 = .ok (.lconst 0, 1) := dk_9 (dk_at dksX3_letter_0 22 rfl rfl)
theorem dX3_letter_23 : decode cX3_letter 23 = .ok (.aload_n 0, 1) := dk_42 (dk_at dksX3_letter_0 23 rfl rfl)
theorem dX3_letter_24 : decode cX3_letter 24 = .ok (.iload_n 1, 1) := dk_27 (dk_at dksX3_letter_1 0 rfl rfl)
theorem dX3_letter_25 : decode cX3_letter 25 = .ok (.bipush 35, 2) := dk_16 35 (dk_at dksX3_letter_1 1 rfl rfl)
theorem dX3_letter_27 : decode cX3_letter 27 = .ok (.invokevirtual 59, 3) := dk_182 0 59 (dk_at dksX3_letter_1 3 rfl rfl)
theorem dX3_letter_30 : decode cX3_letter 30 = .ok (.iconst 1, 1) := dk_4 (dk_at dksX3_letter_1 6 rfl rfl)
theorem dX3_letter_31 : decode cX3_letter 31 = .ok (.isub, 1) := dk_100 (dk_at dksX3_letter_1 7 rfl rfl)
theorem dX3_letter_32 : decode cX3_letter 32 = .ok (.i2l, 1) := dk_133 (dk_at dksX3_letter_1 8 rfl rfl)
theorem dX3_letter_33 : decode cX3_letter 33 = .ok (.invokestatic 47, 3) := dk_184 0 47 (dk_at dksX3_letter_1 9 rfl rfl)
theorem dX3_letter_36 : decode cX3_letter 36 = .ok (.ifCond .ne 10, 3) := dk_154 0 10 (dk_at dksX3_letter_1 12 rfl rfl)
theorem dX3_letter_39 : decode cX3_letter 39 = .ok (.aload_n 0, 1) := dk_42 (dk_at dksX3_letter_1 15 rfl rfl)
theorem dX3_letter_40 : decode cX3_letter 40 = .ok (.bipush (-82), 2) := dk_16 174 (dk_at dksX3_letter_1 16 rfl rfl)
theorem dX3_letter_42 : decode cX3_letter 42 = .ok (.invokevirtual 75, 3) := dk_182 0 75 (dk_at dksX3_letter_1 18 rfl rfl)
theorem dX3_letter_45 : decode cX3_letter 45 = .ok (.ireturn, 1) := dk_172 (dk_at dksX3_letter_1 21 rfl rfl)
theorem dX3_letter_46 : decode cX3_letter 46 = .ok (.aload_n 0, 1) := dk_42 (dk_at dksX3_letter_1 22 rfl rfl)
theorem dX3_letter_47 : decode cX3_letter 47 = .ok (.iload_n 1, 1) := dk_27 (dk_at dksX3_letter_1 23 rfl rfl)
theorem dX3_letter_48 : decode cX3_letter 48 = .ok (.iload_n 2, 1) := dk_28 (dk_at dksX3_letter_2 0 rfl rfl)
theorem dX3_letter_49 : decode cX3_letter 49 = .ok (.iload_n 3, 1) := dk_29 (dk_at dksX3_letter_2 1 rfl rfl)
theorem dX3_letter_50 : decode cX3_letter 50 = .ok (.invokevirtual 66, 3) := dk_182 0 66 (dk_at dksX3_letter_2 2 rfl rfl)
theorem dX3_letter_53 : decode cX3_letter 53 = .ok (.ireturn, 1) := dk_172 (dk_at dksX3_letter_2 5 rfl rfl)
abbrev cX3_consumerOf : ByteArray := prog_24_method_65_code
def yX3_consumerOf : MethodName := ⟨RX3, "consumerOf", "(II)I"⟩
def dkwX3_consumerOf_4 : List UInt8 := [182, 0, 55, 172]
abbrev dktX3_consumerOf_4 : List UInt8 := dkwX3_consumerOf_4 ++ []
def dkwX3_consumerOf_3 : List UInt8 := [42, 27, 28, 182, 0, 55, 172, 42, 27, 182, 0, 189, 172, 42, 27, 5, 182, 0, 55, 172, 42, 27, 6]
abbrev dktX3_consumerOf_3 : List UInt8 := dkwX3_consumerOf_3 ++ dktX3_consumerOf_4
def dkwX3_consumerOf_2 : List UInt8 := [170, 0, 0, 0, 0, 0, 0, 52, 0, 0, 0, 0, 0, 0, 0, 3, 0, 0, 0, 32, 0, 0, 0, 32, 0, 0, 0, 39, 0, 0, 0, 45]
abbrev dktX3_consumerOf_2 : List UInt8 := dkwX3_consumerOf_2 ++ dktX3_consumerOf_3
def dkwX3_consumerOf_1 : List UInt8 := [182, 0, 75, 172, 28]
abbrev dktX3_consumerOf_1 : List UInt8 := dkwX3_consumerOf_1 ++ dktX3_consumerOf_2
def dkwX3_consumerOf_0 : List UInt8 := [42, 27, 182, 0, 51, 153, 0, 15, 28, 133, 9, 20, 0, 218, 184, 0, 47, 154, 0, 10, 42, 16, 174]
abbrev dktX3_consumerOf_0 : List UInt8 := dkwX3_consumerOf_0 ++ dktX3_consumerOf_1
theorem dksX3_consumerOf_0 : cX3_consumerOf.data.toList.drop 0 = dktX3_consumerOf_0 := by decide +kernel
theorem dksX3_consumerOf_1 : cX3_consumerOf.data.toList.drop 23 = dktX3_consumerOf_1 := dk_seg dksX3_consumerOf_0 23 rfl rfl
theorem dksX3_consumerOf_2 : cX3_consumerOf.data.toList.drop 28 = dktX3_consumerOf_2 := dk_seg dksX3_consumerOf_1 5 rfl rfl
theorem dksX3_consumerOf_3 : cX3_consumerOf.data.toList.drop 60 = dktX3_consumerOf_3 := dk_seg dksX3_consumerOf_2 32 rfl rfl
theorem dksX3_consumerOf_4 : cX3_consumerOf.data.toList.drop 83 = dktX3_consumerOf_4 := dk_seg dksX3_consumerOf_3 23 rfl rfl
theorem dX3_consumerOf_0 : decode cX3_consumerOf 0 = .ok (.aload_n 0, 1) := dk_42 (dk_at dksX3_consumerOf_0 0 rfl rfl)
theorem dX3_consumerOf_1 : decode cX3_consumerOf 1 = .ok (.iload_n 1, 1) := dk_27 (dk_at dksX3_consumerOf_0 1 rfl rfl)
theorem dX3_consumerOf_2 : decode cX3_consumerOf 2 = .ok (.invokevirtual 51, 3) := dk_182 0 51 (dk_at dksX3_consumerOf_0 2 rfl rfl)
theorem dX3_consumerOf_5 : decode cX3_consumerOf 5 = .ok (.ifCond .eq 15, 3) := dk_153 0 15 (dk_at dksX3_consumerOf_0 5 rfl rfl)
theorem dX3_consumerOf_8 : decode cX3_consumerOf 8 = .ok (.iload_n 2, 1) := dk_28 (dk_at dksX3_consumerOf_0 8 rfl rfl)
theorem dX3_consumerOf_9 : decode cX3_consumerOf 9 = .ok (.i2l, 1) := dk_133 (dk_at dksX3_consumerOf_0 9 rfl rfl)
theorem dX3_consumerOf_10 : decode cX3_consumerOf 10 = .ok (.lconst 0, 1) := dk_9 (dk_at dksX3_consumerOf_0 10 rfl rfl)
theorem dX3_consumerOf_11 : decode cX3_consumerOf 11 = .ok (.ldc2_w 218, 3) := dk_20 0 218 (dk_at dksX3_consumerOf_0 11 rfl rfl)
theorem dX3_consumerOf_14 : decode cX3_consumerOf 14 = .ok (.invokestatic 47, 3) := dk_184 0 47 (dk_at dksX3_consumerOf_0 14 rfl rfl)
theorem dX3_consumerOf_17 : decode cX3_consumerOf 17 = .ok (.ifCond .ne 10, 3) := dk_154 0 10 (dk_at dksX3_consumerOf_0 17 rfl rfl)
theorem dX3_consumerOf_20 : decode cX3_consumerOf 20 = .ok (.aload_n 0, 1) := dk_42 (dk_at dksX3_consumerOf_0 20 rfl rfl)
theorem dX3_consumerOf_21 : decode cX3_consumerOf 21 = .ok (.bipush (-82), 2) := dk_16 174 (dk_at dksX3_consumerOf_0 21 rfl rfl)
theorem dX3_consumerOf_23 : decode cX3_consumerOf 23 = .ok (.invokevirtual 75, 3) := dk_182 0 75 (dk_at dksX3_consumerOf_1 0 rfl rfl)
theorem dX3_consumerOf_26 : decode cX3_consumerOf 26 = .ok (.ireturn, 1) := dk_172 (dk_at dksX3_consumerOf_1 3 rfl rfl)
theorem dX3_consumerOf_27 : decode cX3_consumerOf 27 = .ok (.iload_n 2, 1) := dk_28 (dk_at dksX3_consumerOf_1 4 rfl rfl)
theorem dX3_consumerOf_28 : decode cX3_consumerOf 28 = .ok (.tableswitch 52 0 3 #[32, 32, 39, 45], 32) := by decide +kernel
theorem dX3_consumerOf_60 : decode cX3_consumerOf 60 = .ok (.aload_n 0, 1) := dk_42 (dk_at dksX3_consumerOf_3 0 rfl rfl)
theorem dX3_consumerOf_61 : decode cX3_consumerOf 61 = .ok (.iload_n 1, 1) := dk_27 (dk_at dksX3_consumerOf_3 1 rfl rfl)
theorem dX3_consumerOf_62 : decode cX3_consumerOf 62 = .ok (.iload_n 2, 1) := dk_28 (dk_at dksX3_consumerOf_3 2 rfl rfl)
theorem dX3_consumerOf_63 : decode cX3_consumerOf 63 = .ok (.invokevirtual 55, 3) := dk_182 0 55 (dk_at dksX3_consumerOf_3 3 rfl rfl)
theorem dX3_consumerOf_66 : decode cX3_consumerOf 66 = .ok (.ireturn, 1) := dk_172 (dk_at dksX3_consumerOf_3 6 rfl rfl)
theorem dX3_consumerOf_67 : decode cX3_consumerOf 67 = .ok (.aload_n 0, 1) := dk_42 (dk_at dksX3_consumerOf_3 7 rfl rfl)
theorem dX3_consumerOf_68 : decode cX3_consumerOf 68 = .ok (.iload_n 1, 1) := dk_27 (dk_at dksX3_consumerOf_3 8 rfl rfl)
theorem dX3_consumerOf_69 : decode cX3_consumerOf 69 = .ok (.invokevirtual 189, 3) := dk_182 0 189 (dk_at dksX3_consumerOf_3 9 rfl rfl)
theorem dX3_consumerOf_72 : decode cX3_consumerOf 72 = .ok (.ireturn, 1) := dk_172 (dk_at dksX3_consumerOf_3 12 rfl rfl)
theorem dX3_consumerOf_73 : decode cX3_consumerOf 73 = .ok (.aload_n 0, 1) := dk_42 (dk_at dksX3_consumerOf_3 13 rfl rfl)
theorem dX3_consumerOf_74 : decode cX3_consumerOf 74 = .ok (.iload_n 1, 1) := dk_27 (dk_at dksX3_consumerOf_3 14 rfl rfl)
theorem dX3_consumerOf_75 : decode cX3_consumerOf 75 = .ok (.iconst 2, 1) := dk_5 (dk_at dksX3_consumerOf_3 15 rfl rfl)
theorem dX3_consumerOf_76 : decode cX3_consumerOf 76 = .ok (.invokevirtual 55, 3) := dk_182 0 55 (dk_at dksX3_consumerOf_3 16 rfl rfl)
theorem dX3_consumerOf_79 : decode cX3_consumerOf 79 = .ok (.ireturn, 1) := dk_172 (dk_at dksX3_consumerOf_3 19 rfl rfl)
theorem dX3_consumerOf_80 : decode cX3_consumerOf 80 = .ok (.aload_n 0, 1) := dk_42 (dk_at dksX3_consumerOf_3 20 rfl rfl)
theorem dX3_consumerOf_81 : decode cX3_consumerOf 81 = .ok (.iload_n 1, 1) := dk_27 (dk_at dksX3_consumerOf_3 21 rfl rfl)
theorem dX3_consumerOf_82 : decode cX3_consumerOf 82 = .ok (.iconst 3, 1) := dk_6 (dk_at dksX3_consumerOf_3 22 rfl rfl)
theorem dX3_consumerOf_83 : decode cX3_consumerOf 83 = .ok (.invokevirtual 55, 3) := dk_182 0 55 (dk_at dksX3_consumerOf_4 0 rfl rfl)
theorem dX3_consumerOf_86 : decode cX3_consumerOf 86 = .ok (.ireturn, 1) := dk_172 (dk_at dksX3_consumerOf_4 3 rfl rfl)
abbrev cX3_held : ByteArray := prog_24_method_66_code
def yX3_held : MethodName := ⟨RX3, "held", "(II)I"⟩
def dkwX3_held_3 : List UInt8 := [172, 132, 4, 1, 132, 5, 1, 167, 255, 211, 42, 16, 174, 182, 0, 75, 172]
abbrev dktX3_held_3 : List UInt8 := dkwX3_held_3 ++ []
def dkwX3_held_2 : List UInt8 := [21, 5, 6, 182, 0, 66, 27, 160, 0, 21, 21, 4, 28, 160, 0, 12, 42, 29, 21, 5, 3, 182, 0, 66]
abbrev dktX3_held_2 : List UInt8 := dkwX3_held_2 ++ dktX3_held_3
def dkwX3_held_1 : List UInt8 := [182, 0, 55, 62, 3, 54, 4, 3, 54, 5, 21, 5, 42, 29, 16, 35, 182, 0, 59, 162, 0, 39, 42, 29]
abbrev dktX3_held_1 : List UInt8 := dkwX3_held_1 ++ dktX3_held_2
def dkwX3_held_0 : List UInt8 := [42, 27, 182, 0, 51, 153, 0, 7, 28, 156, 0, 10, 42, 16, 174, 182, 0, 75, 172, 42, 27, 3]
abbrev dktX3_held_0 : List UInt8 := dkwX3_held_0 ++ dktX3_held_1
theorem dksX3_held_0 : cX3_held.data.toList.drop 0 = dktX3_held_0 := by decide +kernel
theorem dksX3_held_1 : cX3_held.data.toList.drop 22 = dktX3_held_1 := dk_seg dksX3_held_0 22 rfl rfl
theorem dksX3_held_2 : cX3_held.data.toList.drop 46 = dktX3_held_2 := dk_seg dksX3_held_1 24 rfl rfl
theorem dksX3_held_3 : cX3_held.data.toList.drop 70 = dktX3_held_3 := dk_seg dksX3_held_2 24 rfl rfl
theorem dX3_held_0 : decode cX3_held 0 = .ok (.aload_n 0, 1) := dk_42 (dk_at dksX3_held_0 0 rfl rfl)
theorem dX3_held_1 : decode cX3_held 1 = .ok (.iload_n 1, 1) := dk_27 (dk_at dksX3_held_0 1 rfl rfl)
theorem dX3_held_2 : decode cX3_held 2 = .ok (.invokevirtual 51, 3) := dk_182 0 51 (dk_at dksX3_held_0 2 rfl rfl)
theorem dX3_held_5 : decode cX3_held 5 = .ok (.ifCond .eq 7, 3) := dk_153 0 7 (dk_at dksX3_held_0 5 rfl rfl)
theorem dX3_held_8 : decode cX3_held 8 = .ok (.iload_n 2, 1) := dk_28 (dk_at dksX3_held_0 8 rfl rfl)
theorem dX3_held_9 : decode cX3_held 9 = .ok (.ifCond .ge 10, 3) := dk_156 0 10 (dk_at dksX3_held_0 9 rfl rfl)
theorem dX3_held_12 : decode cX3_held 12 = .ok (.aload_n 0, 1) := dk_42 (dk_at dksX3_held_0 12 rfl rfl)
theorem dX3_held_13 : decode cX3_held 13 = .ok (.bipush (-82), 2) := dk_16 174 (dk_at dksX3_held_0 13 rfl rfl)
theorem dX3_held_15 : decode cX3_held 15 = .ok (.invokevirtual 75, 3) := dk_182 0 75 (dk_at dksX3_held_0 15 rfl rfl)
theorem dX3_held_18 : decode cX3_held 18 = .ok (.ireturn, 1) := dk_172 (dk_at dksX3_held_0 18 rfl rfl)
theorem dX3_held_19 : decode cX3_held 19 = .ok (.aload_n 0, 1) := dk_42 (dk_at dksX3_held_0 19 rfl rfl)
theorem dX3_held_20 : decode cX3_held 20 = .ok (.iload_n 1, 1) := dk_27 (dk_at dksX3_held_0 20 rfl rfl)
theorem dX3_held_21 : decode cX3_held 21 = .ok (.iconst 0, 1) := dk_3 (dk_at dksX3_held_0 21 rfl rfl)
theorem dX3_held_22 : decode cX3_held 22 = .ok (.invokevirtual 55, 3) := dk_182 0 55 (dk_at dksX3_held_1 0 rfl rfl)
theorem dX3_held_25 : decode cX3_held 25 = .ok (.istore_n 3, 1) := dk_62 (dk_at dksX3_held_1 3 rfl rfl)
theorem dX3_held_26 : decode cX3_held 26 = .ok (.iconst 0, 1) := dk_3 (dk_at dksX3_held_1 4 rfl rfl)
theorem dX3_held_27 : decode cX3_held 27 = .ok (.istore 4, 2) := dk_54 4 (dk_at dksX3_held_1 5 rfl rfl)
theorem dX3_held_29 : decode cX3_held 29 = .ok (.iconst 0, 1) := dk_3 (dk_at dksX3_held_1 7 rfl rfl)
theorem dX3_held_30 : decode cX3_held 30 = .ok (.istore 5, 2) := dk_54 5 (dk_at dksX3_held_1 8 rfl rfl)
theorem dX3_held_32 : decode cX3_held 32 = .ok (.iload 5, 2) := dk_21 5 (dk_at dksX3_held_1 10 rfl rfl)
theorem dX3_held_34 : decode cX3_held 34 = .ok (.aload_n 0, 1) := dk_42 (dk_at dksX3_held_1 12 rfl rfl)
theorem dX3_held_35 : decode cX3_held 35 = .ok (.iload_n 3, 1) := dk_29 (dk_at dksX3_held_1 13 rfl rfl)
theorem dX3_held_36 : decode cX3_held 36 = .ok (.bipush 35, 2) := dk_16 35 (dk_at dksX3_held_1 14 rfl rfl)
theorem dX3_held_38 : decode cX3_held 38 = .ok (.invokevirtual 59, 3) := dk_182 0 59 (dk_at dksX3_held_1 16 rfl rfl)
theorem dX3_held_41 : decode cX3_held 41 = .ok (.if_icmp .ge 39, 3) := dk_162 0 39 (dk_at dksX3_held_1 19 rfl rfl)
theorem dX3_held_44 : decode cX3_held 44 = .ok (.aload_n 0, 1) := dk_42 (dk_at dksX3_held_1 22 rfl rfl)
theorem dX3_held_45 : decode cX3_held 45 = .ok (.iload_n 3, 1) := dk_29 (dk_at dksX3_held_1 23 rfl rfl)
theorem dX3_held_46 : decode cX3_held 46 = .ok (.iload 5, 2) := dk_21 5 (dk_at dksX3_held_2 0 rfl rfl)
theorem dX3_held_48 : decode cX3_held 48 = .ok (.iconst 3, 1) := dk_6 (dk_at dksX3_held_2 2 rfl rfl)
theorem dX3_held_49 : decode cX3_held 49 = .ok (.invokevirtual 66, 3) := dk_182 0 66 (dk_at dksX3_held_2 3 rfl rfl)
theorem dX3_held_52 : decode cX3_held 52 = .ok (.iload_n 1, 1) := dk_27 (dk_at dksX3_held_2 6 rfl rfl)
theorem dX3_held_53 : decode cX3_held 53 = .ok (.if_icmp .ne 21, 3) := dk_160 0 21 (dk_at dksX3_held_2 7 rfl rfl)
theorem dX3_held_56 : decode cX3_held 56 = .ok (.iload 4, 2) := dk_21 4 (dk_at dksX3_held_2 10 rfl rfl)
theorem dX3_held_58 : decode cX3_held 58 = .ok (.iload_n 2, 1) := dk_28 (dk_at dksX3_held_2 12 rfl rfl)
theorem dX3_held_59 : decode cX3_held 59 = .ok (.if_icmp .ne 12, 3) := dk_160 0 12 (dk_at dksX3_held_2 13 rfl rfl)
theorem dX3_held_62 : decode cX3_held 62 = .ok (.aload_n 0, 1) := dk_42 (dk_at dksX3_held_2 16 rfl rfl)
theorem dX3_held_63 : decode cX3_held 63 = .ok (.iload_n 3, 1) := dk_29 (dk_at dksX3_held_2 17 rfl rfl)
theorem dX3_held_64 : decode cX3_held 64 = .ok (.iload 5, 2) := dk_21 5 (dk_at dksX3_held_2 18 rfl rfl)
theorem dX3_held_66 : decode cX3_held 66 = .ok (.iconst 0, 1) := dk_3 (dk_at dksX3_held_2 20 rfl rfl)
theorem dX3_held_67 : decode cX3_held 67 = .ok (.invokevirtual 66, 3) := dk_182 0 66 (dk_at dksX3_held_2 21 rfl rfl)
theorem dX3_held_70 : decode cX3_held 70 = .ok (.ireturn, 1) := dk_172 (dk_at dksX3_held_3 0 rfl rfl)
theorem dX3_held_71 : decode cX3_held 71 = .ok (.iinc 4 1, 3) := dk_132 4 1 (dk_at dksX3_held_3 1 rfl rfl)
theorem dX3_held_74 : decode cX3_held 74 = .ok (.iinc 5 1, 3) := dk_132 5 1 (dk_at dksX3_held_3 4 rfl rfl)
theorem dX3_held_77 : decode cX3_held 77 = .ok (.goto (-45), 3) := dk_167 255 211 (dk_at dksX3_held_3 7 rfl rfl)
theorem dX3_held_80 : decode cX3_held 80 = .ok (.aload_n 0, 1) := dk_42 (dk_at dksX3_held_3 10 rfl rfl)
theorem dX3_held_81 : decode cX3_held 81 = .ok (.bipush (-82), 2) := dk_16 174 (dk_at dksX3_held_3 11 rfl rfl)
theorem dX3_held_83 : decode cX3_held 83 = .ok (.invokevirtual 75, 3) := dk_182 0 75 (dk_at dksX3_held_3 13 rfl rfl)
theorem dX3_held_86 : decode cX3_held 86 = .ok (.ireturn, 1) := dk_172 (dk_at dksX3_held_3 16 rfl rfl)
abbrev cX3_messageOf : ByteArray := prog_24_method_67_code
def yX3_messageOf : MethodName := ⟨RX3, "messageOf", "(II)I"⟩
def dkwX3_messageOf_5 : List UInt8 := [167, 255, 219, 132, 4, 1, 167, 255, 199, 29, 172]
abbrev dktX3_messageOf_5 : List UInt8 := dkwX3_messageOf_5 ++ []
def dkwX3_messageOf_4 : List UInt8 := [29, 42, 21, 4, 21, 5, 3, 182, 0, 66, 27, 160, 0, 7, 4, 167, 0, 4, 3, 96, 62, 132, 5, 1]
abbrev dktX3_messageOf_4 : List UInt8 := dkwX3_messageOf_4 ++ dktX3_messageOf_5
def dkwX3_messageOf_3 : List UInt8 := [180, 0, 9, 3, 46, 162, 0, 52, 3, 54, 5, 21, 5, 42, 21, 4, 16, 35, 182, 0, 59, 162, 0, 30]
abbrev dktX3_messageOf_3 : List UInt8 := dkwX3_messageOf_3 ++ dktX3_messageOf_4
def dkwX3_messageOf_2 : List UInt8 := [182, 0, 70, 172, 28, 8, 160, 0, 10, 42, 27, 3, 182, 0, 70, 172, 3, 62, 3, 54, 4, 21, 4, 42]
abbrev dktX3_messageOf_2 : List UInt8 := dkwX3_messageOf_2 ++ dktX3_messageOf_3
def dkwX3_messageOf_1 : List UInt8 := [184, 0, 47, 154, 0, 10, 42, 16, 174, 182, 0, 75, 172, 28, 7, 162, 0, 12, 42, 27, 8, 28, 96]
abbrev dktX3_messageOf_1 : List UInt8 := dkwX3_messageOf_1 ++ dktX3_messageOf_2
def dkwX3_messageOf_0 : List UInt8 := [27, 133, 9, 42, 180, 0, 9, 5, 46, 4, 100, 133, 184, 0, 47, 153, 0, 15, 28, 133, 9, 20, 0, 106]
abbrev dktX3_messageOf_0 : List UInt8 := dkwX3_messageOf_0 ++ dktX3_messageOf_1
theorem dksX3_messageOf_0 : cX3_messageOf.data.toList.drop 0 = dktX3_messageOf_0 := by decide +kernel
theorem dksX3_messageOf_1 : cX3_messageOf.data.toList.drop 24 = dktX3_messageOf_1 := dk_seg dksX3_messageOf_0 24 rfl rfl
theorem dksX3_messageOf_2 : cX3_messageOf.data.toList.drop 47 = dktX3_messageOf_2 := dk_seg dksX3_messageOf_1 23 rfl rfl
theorem dksX3_messageOf_3 : cX3_messageOf.data.toList.drop 71 = dktX3_messageOf_3 := dk_seg dksX3_messageOf_2 24 rfl rfl
theorem dksX3_messageOf_4 : cX3_messageOf.data.toList.drop 95 = dktX3_messageOf_4 := dk_seg dksX3_messageOf_3 24 rfl rfl
theorem dksX3_messageOf_5 : cX3_messageOf.data.toList.drop 119 = dktX3_messageOf_5 := dk_seg dksX3_messageOf_4 24 rfl rfl
theorem dX3_messageOf_0 : decode cX3_messageOf 0 = .ok (.iload_n 1, 1) := dk_27 (dk_at dksX3_messageOf_0 0 rfl rfl)
theorem dX3_messageOf_1 : decode cX3_messageOf 1 = .ok (.i2l, 1) := dk_133 (dk_at dksX3_messageOf_0 1 rfl rfl)
theorem dX3_messageOf_2 : decode cX3_messageOf 2 = .ok (.lconst 0, 1) := dk_9 (dk_at dksX3_messageOf_0 2 rfl rfl)
theorem dX3_messageOf_3 : decode cX3_messageOf 3 = .ok (.aload_n 0, 1) := dk_42 (dk_at dksX3_messageOf_0 3 rfl rfl)
theorem dX3_messageOf_4 : decode cX3_messageOf 4 = .ok (.getfield 9, 3) := dk_180 0 9 (dk_at dksX3_messageOf_0 4 rfl rfl)
theorem dX3_messageOf_7 : decode cX3_messageOf 7 = .ok (.iconst 2, 1) := dk_5 (dk_at dksX3_messageOf_0 7 rfl rfl)
theorem dX3_messageOf_8 : decode cX3_messageOf 8 = .ok (.iaload, 1) := dk_46 (dk_at dksX3_messageOf_0 8 rfl rfl)
theorem dX3_messageOf_9 : decode cX3_messageOf 9 = .ok (.iconst 1, 1) := dk_4 (dk_at dksX3_messageOf_0 9 rfl rfl)
theorem dX3_messageOf_10 : decode cX3_messageOf 10 = .ok (.isub, 1) := dk_100 (dk_at dksX3_messageOf_0 10 rfl rfl)
theorem dX3_messageOf_11 : decode cX3_messageOf 11 = .ok (.i2l, 1) := dk_133 (dk_at dksX3_messageOf_0 11 rfl rfl)
theorem dX3_messageOf_12 : decode cX3_messageOf 12 = .ok (.invokestatic 47, 3) := dk_184 0 47 (dk_at dksX3_messageOf_0 12 rfl rfl)
theorem dX3_messageOf_15 : decode cX3_messageOf 15 = .ok (.ifCond .eq 15, 3) := dk_153 0 15 (dk_at dksX3_messageOf_0 15 rfl rfl)
theorem dX3_messageOf_18 : decode cX3_messageOf 18 = .ok (.iload_n 2, 1) := dk_28 (dk_at dksX3_messageOf_0 18 rfl rfl)
theorem dX3_messageOf_19 : decode cX3_messageOf 19 = .ok (.i2l, 1) := dk_133 (dk_at dksX3_messageOf_0 19 rfl rfl)
theorem dX3_messageOf_20 : decode cX3_messageOf 20 = .ok (.lconst 0, 1) := dk_9 (dk_at dksX3_messageOf_0 20 rfl rfl)
theorem dX3_messageOf_21 : decode cX3_messageOf 21 = .ok (.ldc2_w 106, 3) := dk_20 0 106 (dk_at dksX3_messageOf_0 21 rfl rfl)
theorem dX3_messageOf_24 : decode cX3_messageOf 24 = .ok (.invokestatic 47, 3) := dk_184 0 47 (dk_at dksX3_messageOf_1 0 rfl rfl)
theorem dX3_messageOf_27 : decode cX3_messageOf 27 = .ok (.ifCond .ne 10, 3) := dk_154 0 10 (dk_at dksX3_messageOf_1 3 rfl rfl)
theorem dX3_messageOf_30 : decode cX3_messageOf 30 = .ok (.aload_n 0, 1) := dk_42 (dk_at dksX3_messageOf_1 6 rfl rfl)
theorem dX3_messageOf_31 : decode cX3_messageOf 31 = .ok (.bipush (-82), 2) := dk_16 174 (dk_at dksX3_messageOf_1 7 rfl rfl)
theorem dX3_messageOf_33 : decode cX3_messageOf 33 = .ok (.invokevirtual 75, 3) := dk_182 0 75 (dk_at dksX3_messageOf_1 9 rfl rfl)
theorem dX3_messageOf_36 : decode cX3_messageOf 36 = .ok (.ireturn, 1) := dk_172 (dk_at dksX3_messageOf_1 12 rfl rfl)
theorem dX3_messageOf_37 : decode cX3_messageOf 37 = .ok (.iload_n 2, 1) := dk_28 (dk_at dksX3_messageOf_1 13 rfl rfl)
theorem dX3_messageOf_38 : decode cX3_messageOf 38 = .ok (.iconst 4, 1) := dk_7 (dk_at dksX3_messageOf_1 14 rfl rfl)
theorem dX3_messageOf_39 : decode cX3_messageOf 39 = .ok (.if_icmp .ge 12, 3) := dk_162 0 12 (dk_at dksX3_messageOf_1 15 rfl rfl)
theorem dX3_messageOf_42 : decode cX3_messageOf 42 = .ok (.aload_n 0, 1) := dk_42 (dk_at dksX3_messageOf_1 18 rfl rfl)
theorem dX3_messageOf_43 : decode cX3_messageOf 43 = .ok (.iload_n 1, 1) := dk_27 (dk_at dksX3_messageOf_1 19 rfl rfl)
theorem dX3_messageOf_44 : decode cX3_messageOf 44 = .ok (.iconst 5, 1) := dk_8 (dk_at dksX3_messageOf_1 20 rfl rfl)
theorem dX3_messageOf_45 : decode cX3_messageOf 45 = .ok (.iload_n 2, 1) := dk_28 (dk_at dksX3_messageOf_1 21 rfl rfl)
theorem dX3_messageOf_46 : decode cX3_messageOf 46 = .ok (.iadd, 1) := dk_96 (dk_at dksX3_messageOf_1 22 rfl rfl)
theorem dX3_messageOf_47 : decode cX3_messageOf 47 = .ok (.invokevirtual 70, 3) := dk_182 0 70 (dk_at dksX3_messageOf_2 0 rfl rfl)
theorem dX3_messageOf_50 : decode cX3_messageOf 50 = .ok (.ireturn, 1) := dk_172 (dk_at dksX3_messageOf_2 3 rfl rfl)
theorem dX3_messageOf_51 : decode cX3_messageOf 51 = .ok (.iload_n 2, 1) := dk_28 (dk_at dksX3_messageOf_2 4 rfl rfl)
theorem dX3_messageOf_52 : decode cX3_messageOf 52 = .ok (.iconst 5, 1) := dk_8 (dk_at dksX3_messageOf_2 5 rfl rfl)
theorem dX3_messageOf_53 : decode cX3_messageOf 53 = .ok (.if_icmp .ne 10, 3) := dk_160 0 10 (dk_at dksX3_messageOf_2 6 rfl rfl)
theorem dX3_messageOf_56 : decode cX3_messageOf 56 = .ok (.aload_n 0, 1) := dk_42 (dk_at dksX3_messageOf_2 9 rfl rfl)
theorem dX3_messageOf_57 : decode cX3_messageOf 57 = .ok (.iload_n 1, 1) := dk_27 (dk_at dksX3_messageOf_2 10 rfl rfl)
theorem dX3_messageOf_58 : decode cX3_messageOf 58 = .ok (.iconst 0, 1) := dk_3 (dk_at dksX3_messageOf_2 11 rfl rfl)
theorem dX3_messageOf_59 : decode cX3_messageOf 59 = .ok (.invokevirtual 70, 3) := dk_182 0 70 (dk_at dksX3_messageOf_2 12 rfl rfl)
theorem dX3_messageOf_62 : decode cX3_messageOf 62 = .ok (.ireturn, 1) := dk_172 (dk_at dksX3_messageOf_2 15 rfl rfl)
theorem dX3_messageOf_63 : decode cX3_messageOf 63 = .ok (.iconst 0, 1) := dk_3 (dk_at dksX3_messageOf_2 16 rfl rfl)
theorem dX3_messageOf_64 : decode cX3_messageOf 64 = .ok (.istore_n 3, 1) := dk_62 (dk_at dksX3_messageOf_2 17 rfl rfl)
theorem dX3_messageOf_65 : decode cX3_messageOf 65 = .ok (.iconst 0, 1) := dk_3 (dk_at dksX3_messageOf_2 18 rfl rfl)
theorem dX3_messageOf_66 : decode cX3_messageOf 66 = .ok (.istore 4, 2) := dk_54 4 (dk_at dksX3_messageOf_2 19 rfl rfl)
theorem dX3_messageOf_68 : decode cX3_messageOf 68 = .ok (.iload 4, 2) := dk_21 4 (dk_at dksX3_messageOf_2 21 rfl rfl)
theorem dX3_messageOf_70 : decode cX3_messageOf 70 = .ok (.aload_n 0, 1) := dk_42 (dk_at dksX3_messageOf_2 23 rfl rfl)
theorem dX3_messageOf_71 : decode cX3_messageOf 71 = .ok (.getfield 9, 3) := dk_180 0 9 (dk_at dksX3_messageOf_3 0 rfl rfl)
theorem dX3_messageOf_74 : decode cX3_messageOf 74 = .ok (.iconst 0, 1) := dk_3 (dk_at dksX3_messageOf_3 3 rfl rfl)
theorem dX3_messageOf_75 : decode cX3_messageOf 75 = .ok (.iaload, 1) := dk_46 (dk_at dksX3_messageOf_3 4 rfl rfl)
theorem dX3_messageOf_76 : decode cX3_messageOf 76 = .ok (.if_icmp .ge 52, 3) := dk_162 0 52 (dk_at dksX3_messageOf_3 5 rfl rfl)
theorem dX3_messageOf_79 : decode cX3_messageOf 79 = .ok (.iconst 0, 1) := dk_3 (dk_at dksX3_messageOf_3 8 rfl rfl)
theorem dX3_messageOf_80 : decode cX3_messageOf 80 = .ok (.istore 5, 2) := dk_54 5 (dk_at dksX3_messageOf_3 9 rfl rfl)
theorem dX3_messageOf_82 : decode cX3_messageOf 82 = .ok (.iload 5, 2) := dk_21 5 (dk_at dksX3_messageOf_3 11 rfl rfl)
theorem dX3_messageOf_84 : decode cX3_messageOf 84 = .ok (.aload_n 0, 1) := dk_42 (dk_at dksX3_messageOf_3 13 rfl rfl)
theorem dX3_messageOf_85 : decode cX3_messageOf 85 = .ok (.iload 4, 2) := dk_21 4 (dk_at dksX3_messageOf_3 14 rfl rfl)
theorem dX3_messageOf_87 : decode cX3_messageOf 87 = .ok (.bipush 35, 2) := dk_16 35 (dk_at dksX3_messageOf_3 16 rfl rfl)
theorem dX3_messageOf_89 : decode cX3_messageOf 89 = .ok (.invokevirtual 59, 3) := dk_182 0 59 (dk_at dksX3_messageOf_3 18 rfl rfl)
theorem dX3_messageOf_92 : decode cX3_messageOf 92 = .ok (.if_icmp .ge 30, 3) := dk_162 0 30 (dk_at dksX3_messageOf_3 21 rfl rfl)
theorem dX3_messageOf_95 : decode cX3_messageOf 95 = .ok (.iload_n 3, 1) := dk_29 (dk_at dksX3_messageOf_4 0 rfl rfl)
theorem dX3_messageOf_96 : decode cX3_messageOf 96 = .ok (.aload_n 0, 1) := dk_42 (dk_at dksX3_messageOf_4 1 rfl rfl)
theorem dX3_messageOf_97 : decode cX3_messageOf 97 = .ok (.iload 4, 2) := dk_21 4 (dk_at dksX3_messageOf_4 2 rfl rfl)
theorem dX3_messageOf_99 : decode cX3_messageOf 99 = .ok (.iload 5, 2) := dk_21 5 (dk_at dksX3_messageOf_4 4 rfl rfl)
theorem dX3_messageOf_101 : decode cX3_messageOf 101 = .ok (.iconst 0, 1) := dk_3 (dk_at dksX3_messageOf_4 6 rfl rfl)
theorem dX3_messageOf_102 : decode cX3_messageOf 102 = .ok (.invokevirtual 66, 3) := dk_182 0 66 (dk_at dksX3_messageOf_4 7 rfl rfl)
theorem dX3_messageOf_105 : decode cX3_messageOf 105 = .ok (.iload_n 1, 1) := dk_27 (dk_at dksX3_messageOf_4 10 rfl rfl)
theorem dX3_messageOf_106 : decode cX3_messageOf 106 = .ok (.if_icmp .ne 7, 3) := dk_160 0 7 (dk_at dksX3_messageOf_4 11 rfl rfl)
theorem dX3_messageOf_109 : decode cX3_messageOf 109 = .ok (.iconst 1, 1) := dk_4 (dk_at dksX3_messageOf_4 14 rfl rfl)
theorem dX3_messageOf_110 : decode cX3_messageOf 110 = .ok (.goto 4, 3) := dk_167 0 4 (dk_at dksX3_messageOf_4 15 rfl rfl)
theorem dX3_messageOf_113 : decode cX3_messageOf 113 = .ok (.iconst 0, 1) := dk_3 (dk_at dksX3_messageOf_4 18 rfl rfl)
theorem dX3_messageOf_114 : decode cX3_messageOf 114 = .ok (.iadd, 1) := dk_96 (dk_at dksX3_messageOf_4 19 rfl rfl)
theorem dX3_messageOf_115 : decode cX3_messageOf 115 = .ok (.istore_n 3, 1) := dk_62 (dk_at dksX3_messageOf_4 20 rfl rfl)
theorem dX3_messageOf_116 : decode cX3_messageOf 116 = .ok (.iinc 5 1, 3) := dk_132 5 1 (dk_at dksX3_messageOf_4 21 rfl rfl)
theorem dX3_messageOf_119 : decode cX3_messageOf 119 = .ok (.goto (-37), 3) := dk_167 255 219 (dk_at dksX3_messageOf_5 0 rfl rfl)
theorem dX3_messageOf_122 : decode cX3_messageOf 122 = .ok (.iinc 4 1, 3) := dk_132 4 1 (dk_at dksX3_messageOf_5 3 rfl rfl)
theorem dX3_messageOf_125 : decode cX3_messageOf 125 = .ok (.goto (-57), 3) := dk_167 255 199 (dk_at dksX3_messageOf_5 6 rfl rfl)
theorem dX3_messageOf_128 : decode cX3_messageOf 128 = .ok (.iload_n 3, 1) := dk_29 (dk_at dksX3_messageOf_5 9 rfl rfl)
theorem dX3_messageOf_129 : decode cX3_messageOf 129 = .ok (.ireturn, 1) := dk_172 (dk_at dksX3_messageOf_5 10 rfl rfl)
abbrev cX3_dead : ByteArray := prog_24_method_68_code
def yX3_dead : MethodName := ⟨RX3, "dead", "(II)I"⟩
def dkwX3_dead_2 : List UInt8 := [42, 16, 174, 182, 0, 75, 172]
abbrev dktX3_dead_2 : List UInt8 := dkwX3_dead_2 ++ []
def dkwX3_dead_1 : List UInt8 := [184, 0, 47, 153, 0, 21, 42, 180, 0, 9, 17, 10, 191, 16, 24, 27, 104, 96, 28, 96, 46, 167, 0, 9]
abbrev dktX3_dead_1 : List UInt8 := dkwX3_dead_1 ++ dktX3_dead_2
def dkwX3_dead_0 : List UInt8 := [27, 133, 9, 42, 180, 0, 9, 6, 46, 4, 100, 133, 184, 0, 47, 153, 0, 33, 28, 133, 9, 20, 0, 149]
abbrev dktX3_dead_0 : List UInt8 := dkwX3_dead_0 ++ dktX3_dead_1
theorem dksX3_dead_0 : cX3_dead.data.toList.drop 0 = dktX3_dead_0 := by decide +kernel
theorem dksX3_dead_1 : cX3_dead.data.toList.drop 24 = dktX3_dead_1 := dk_seg dksX3_dead_0 24 rfl rfl
theorem dksX3_dead_2 : cX3_dead.data.toList.drop 48 = dktX3_dead_2 := dk_seg dksX3_dead_1 24 rfl rfl
theorem dX3_dead_0 : decode cX3_dead 0 = .ok (.iload_n 1, 1) := dk_27 (dk_at dksX3_dead_0 0 rfl rfl)
theorem dX3_dead_1 : decode cX3_dead 1 = .ok (.i2l, 1) := dk_133 (dk_at dksX3_dead_0 1 rfl rfl)
theorem dX3_dead_2 : decode cX3_dead 2 = .ok (.lconst 0, 1) := dk_9 (dk_at dksX3_dead_0 2 rfl rfl)
theorem dX3_dead_3 : decode cX3_dead 3 = .ok (.aload_n 0, 1) := dk_42 (dk_at dksX3_dead_0 3 rfl rfl)
theorem dX3_dead_4 : decode cX3_dead 4 = .ok (.getfield 9, 3) := dk_180 0 9 (dk_at dksX3_dead_0 4 rfl rfl)
theorem dX3_dead_7 : decode cX3_dead 7 = .ok (.iconst 3, 1) := dk_6 (dk_at dksX3_dead_0 7 rfl rfl)
theorem dX3_dead_8 : decode cX3_dead 8 = .ok (.iaload, 1) := dk_46 (dk_at dksX3_dead_0 8 rfl rfl)
theorem dX3_dead_9 : decode cX3_dead 9 = .ok (.iconst 1, 1) := dk_4 (dk_at dksX3_dead_0 9 rfl rfl)
theorem dX3_dead_10 : decode cX3_dead 10 = .ok (.isub, 1) := dk_100 (dk_at dksX3_dead_0 10 rfl rfl)
theorem dX3_dead_11 : decode cX3_dead 11 = .ok (.i2l, 1) := dk_133 (dk_at dksX3_dead_0 11 rfl rfl)
theorem dX3_dead_12 : decode cX3_dead 12 = .ok (.invokestatic 47, 3) := dk_184 0 47 (dk_at dksX3_dead_0 12 rfl rfl)
theorem dX3_dead_15 : decode cX3_dead 15 = .ok (.ifCond .eq 33, 3) := dk_153 0 33 (dk_at dksX3_dead_0 15 rfl rfl)
theorem dX3_dead_18 : decode cX3_dead 18 = .ok (.iload_n 2, 1) := dk_28 (dk_at dksX3_dead_0 18 rfl rfl)
theorem dX3_dead_19 : decode cX3_dead 19 = .ok (.i2l, 1) := dk_133 (dk_at dksX3_dead_0 19 rfl rfl)
theorem dX3_dead_20 : decode cX3_dead 20 = .ok (.lconst 0, 1) := dk_9 (dk_at dksX3_dead_0 20 rfl rfl)
theorem dX3_dead_21 : decode cX3_dead 21 = .ok (.ldc2_w 149, 3) := dk_20 0 149 (dk_at dksX3_dead_0 21 rfl rfl)
theorem dX3_dead_24 : decode cX3_dead 24 = .ok (.invokestatic 47, 3) := dk_184 0 47 (dk_at dksX3_dead_1 0 rfl rfl)
theorem dX3_dead_27 : decode cX3_dead 27 = .ok (.ifCond .eq 21, 3) := dk_153 0 21 (dk_at dksX3_dead_1 3 rfl rfl)
theorem dX3_dead_30 : decode cX3_dead 30 = .ok (.aload_n 0, 1) := dk_42 (dk_at dksX3_dead_1 6 rfl rfl)
theorem dX3_dead_31 : decode cX3_dead 31 = .ok (.getfield 9, 3) := dk_180 0 9 (dk_at dksX3_dead_1 7 rfl rfl)
theorem dX3_dead_34 : decode cX3_dead 34 = .ok (.sipush 2751, 3) := dk_17 10 191 (dk_at dksX3_dead_1 10 rfl rfl)
theorem dX3_dead_37 : decode cX3_dead 37 = .ok (.bipush 24, 2) := dk_16 24 (dk_at dksX3_dead_1 13 rfl rfl)
theorem dX3_dead_39 : decode cX3_dead 39 = .ok (.iload_n 1, 1) := dk_27 (dk_at dksX3_dead_1 15 rfl rfl)
theorem dX3_dead_40 : decode cX3_dead 40 = .ok (.imul, 1) := dk_104 (dk_at dksX3_dead_1 16 rfl rfl)
theorem dX3_dead_41 : decode cX3_dead 41 = .ok (.iadd, 1) := dk_96 (dk_at dksX3_dead_1 17 rfl rfl)
theorem dX3_dead_42 : decode cX3_dead 42 = .ok (.iload_n 2, 1) := dk_28 (dk_at dksX3_dead_1 18 rfl rfl)
theorem dX3_dead_43 : decode cX3_dead 43 = .ok (.iadd, 1) := dk_96 (dk_at dksX3_dead_1 19 rfl rfl)
theorem dX3_dead_44 : decode cX3_dead 44 = .ok (.iaload, 1) := dk_46 (dk_at dksX3_dead_1 20 rfl rfl)
theorem dX3_dead_45 : decode cX3_dead 45 = .ok (.goto 9, 3) := dk_167 0 9 (dk_at dksX3_dead_1 21 rfl rfl)
theorem dX3_dead_48 : decode cX3_dead 48 = .ok (.aload_n 0, 1) := dk_42 (dk_at dksX3_dead_2 0 rfl rfl)
theorem dX3_dead_49 : decode cX3_dead 49 = .ok (.bipush (-82), 2) := dk_16 174 (dk_at dksX3_dead_2 1 rfl rfl)
theorem dX3_dead_51 : decode cX3_dead 51 = .ok (.invokevirtual 75, 3) := dk_182 0 75 (dk_at dksX3_dead_2 3 rfl rfl)
theorem dX3_dead_54 : decode cX3_dead 54 = .ok (.ireturn, 1) := dk_172 (dk_at dksX3_dead_2 6 rfl rfl)
abbrev cX3_cause : ByteArray := prog_24_method_70_code
def yX3_cause : MethodName := ⟨RX3, "cause", "(III)I"⟩
def dkwX3_cause_2 : List UInt8 := [182, 0, 75, 172]
abbrev dktX3_cause_2 : List UInt8 := dkwX3_cause_2 ++ []
def dkwX3_cause_1 : List UInt8 := [17, 10, 191, 16, 24, 27, 104, 96, 7, 96, 7, 28, 104, 96, 29, 96, 46, 167, 0, 9, 42, 16, 174]
abbrev dktX3_cause_1 : List UInt8 := dkwX3_cause_1 ++ dktX3_cause_2
def dkwX3_cause_0 : List UInt8 := [42, 27, 28, 182, 0, 220, 153, 0, 37, 29, 133, 9, 10, 184, 0, 47, 153, 0, 27, 42, 180, 0, 9]
abbrev dktX3_cause_0 : List UInt8 := dkwX3_cause_0 ++ dktX3_cause_1
theorem dksX3_cause_0 : cX3_cause.data.toList.drop 0 = dktX3_cause_0 := by decide +kernel
theorem dksX3_cause_1 : cX3_cause.data.toList.drop 23 = dktX3_cause_1 := dk_seg dksX3_cause_0 23 rfl rfl
theorem dksX3_cause_2 : cX3_cause.data.toList.drop 46 = dktX3_cause_2 := dk_seg dksX3_cause_1 23 rfl rfl
theorem dX3_cause_0 : decode cX3_cause 0 = .ok (.aload_n 0, 1) := dk_42 (dk_at dksX3_cause_0 0 rfl rfl)
theorem dX3_cause_1 : decode cX3_cause 1 = .ok (.iload_n 1, 1) := dk_27 (dk_at dksX3_cause_0 1 rfl rfl)
theorem dX3_cause_2 : decode cX3_cause 2 = .ok (.iload_n 2, 1) := dk_28 (dk_at dksX3_cause_0 2 rfl rfl)
theorem dX3_cause_3 : decode cX3_cause 3 = .ok (.invokevirtual 220, 3) := dk_182 0 220 (dk_at dksX3_cause_0 3 rfl rfl)
theorem dX3_cause_6 : decode cX3_cause 6 = .ok (.ifCond .eq 37, 3) := dk_153 0 37 (dk_at dksX3_cause_0 6 rfl rfl)
theorem dX3_cause_9 : decode cX3_cause 9 = .ok (.iload_n 3, 1) := dk_29 (dk_at dksX3_cause_0 9 rfl rfl)
theorem dX3_cause_10 : decode cX3_cause 10 = .ok (.i2l, 1) := dk_133 (dk_at dksX3_cause_0 10 rfl rfl)
theorem dX3_cause_11 : decode cX3_cause 11 = .ok (.lconst 0, 1) := dk_9 (dk_at dksX3_cause_0 11 rfl rfl)
theorem dX3_cause_12 : decode cX3_cause 12 = .ok (.lconst 1, 1) := dk_10 (dk_at dksX3_cause_0 12 rfl rfl)
theorem dX3_cause_13 : decode cX3_cause 13 = .ok (.invokestatic 47, 3) := dk_184 0 47 (dk_at dksX3_cause_0 13 rfl rfl)
theorem dX3_cause_16 : decode cX3_cause 16 = .ok (.ifCond .eq 27, 3) := dk_153 0 27 (dk_at dksX3_cause_0 16 rfl rfl)
theorem dX3_cause_19 : decode cX3_cause 19 = .ok (.aload_n 0, 1) := dk_42 (dk_at dksX3_cause_0 19 rfl rfl)
theorem dX3_cause_20 : decode cX3_cause 20 = .ok (.getfield 9, 3) := dk_180 0 9 (dk_at dksX3_cause_0 20 rfl rfl)
theorem dX3_cause_23 : decode cX3_cause 23 = .ok (.sipush 2751, 3) := dk_17 10 191 (dk_at dksX3_cause_1 0 rfl rfl)
theorem dX3_cause_26 : decode cX3_cause 26 = .ok (.bipush 24, 2) := dk_16 24 (dk_at dksX3_cause_1 3 rfl rfl)
theorem dX3_cause_28 : decode cX3_cause 28 = .ok (.iload_n 1, 1) := dk_27 (dk_at dksX3_cause_1 5 rfl rfl)
theorem dX3_cause_29 : decode cX3_cause 29 = .ok (.imul, 1) := dk_104 (dk_at dksX3_cause_1 6 rfl rfl)
theorem dX3_cause_30 : decode cX3_cause 30 = .ok (.iadd, 1) := dk_96 (dk_at dksX3_cause_1 7 rfl rfl)
theorem dX3_cause_31 : decode cX3_cause 31 = .ok (.iconst 4, 1) := dk_7 (dk_at dksX3_cause_1 8 rfl rfl)
theorem dX3_cause_32 : decode cX3_cause 32 = .ok (.iadd, 1) := dk_96 (dk_at dksX3_cause_1 9 rfl rfl)
theorem dX3_cause_33 : decode cX3_cause 33 = .ok (.iconst 4, 1) := dk_7 (dk_at dksX3_cause_1 10 rfl rfl)
theorem dX3_cause_34 : decode cX3_cause 34 = .ok (.iload_n 2, 1) := dk_28 (dk_at dksX3_cause_1 11 rfl rfl)
theorem dX3_cause_35 : decode cX3_cause 35 = .ok (.imul, 1) := dk_104 (dk_at dksX3_cause_1 12 rfl rfl)
theorem dX3_cause_36 : decode cX3_cause 36 = .ok (.iadd, 1) := dk_96 (dk_at dksX3_cause_1 13 rfl rfl)
theorem dX3_cause_37 : decode cX3_cause 37 = .ok (.iload_n 3, 1) := dk_29 (dk_at dksX3_cause_1 14 rfl rfl)
theorem dX3_cause_38 : decode cX3_cause 38 = .ok (.iadd, 1) := dk_96 (dk_at dksX3_cause_1 15 rfl rfl)
theorem dX3_cause_39 : decode cX3_cause 39 = .ok (.iaload, 1) := dk_46 (dk_at dksX3_cause_1 16 rfl rfl)
theorem dX3_cause_40 : decode cX3_cause 40 = .ok (.goto 9, 3) := dk_167 0 9 (dk_at dksX3_cause_1 17 rfl rfl)
theorem dX3_cause_43 : decode cX3_cause 43 = .ok (.aload_n 0, 1) := dk_42 (dk_at dksX3_cause_1 20 rfl rfl)
theorem dX3_cause_44 : decode cX3_cause 44 = .ok (.bipush (-82), 2) := dk_16 174 (dk_at dksX3_cause_1 21 rfl rfl)
theorem dX3_cause_46 : decode cX3_cause 46 = .ok (.invokevirtual 75, 3) := dk_182 0 75 (dk_at dksX3_cause_2 0 rfl rfl)
theorem dX3_cause_49 : decode cX3_cause 49 = .ok (.ireturn, 1) := dk_172 (dk_at dksX3_cause_2 3 rfl rfl)
abbrev cX3_isCause : ByteArray := prog_24_method_69_code
def yX3_isCause : MethodName := ⟨RX3, "isCause", "(II)Z"⟩
def dkwX3_isCause_2 : List UInt8 := [167, 0, 4, 3, 172]
abbrev dktX3_isCause_2 : List UInt8 := dkwX3_isCause_2 ++ []
def dkwX3_isCause_1 : List UInt8 := [180, 0, 9, 17, 10, 191, 16, 24, 27, 104, 96, 6, 96, 46, 4, 100, 133, 184, 0, 47, 153, 0, 7, 4]
abbrev dktX3_isCause_1 : List UInt8 := dkwX3_isCause_1 ++ dktX3_isCause_2
def dkwX3_isCause_0 : List UInt8 := [27, 133, 9, 42, 180, 0, 9, 6, 46, 4, 100, 133, 184, 0, 47, 153, 0, 34, 28, 133, 9, 42]
abbrev dktX3_isCause_0 : List UInt8 := dkwX3_isCause_0 ++ dktX3_isCause_1
theorem dksX3_isCause_0 : cX3_isCause.data.toList.drop 0 = dktX3_isCause_0 := by decide +kernel
theorem dksX3_isCause_1 : cX3_isCause.data.toList.drop 22 = dktX3_isCause_1 := dk_seg dksX3_isCause_0 22 rfl rfl
theorem dksX3_isCause_2 : cX3_isCause.data.toList.drop 46 = dktX3_isCause_2 := dk_seg dksX3_isCause_1 24 rfl rfl
theorem dX3_isCause_0 : decode cX3_isCause 0 = .ok (.iload_n 1, 1) := dk_27 (dk_at dksX3_isCause_0 0 rfl rfl)
theorem dX3_isCause_1 : decode cX3_isCause 1 = .ok (.i2l, 1) := dk_133 (dk_at dksX3_isCause_0 1 rfl rfl)
theorem dX3_isCause_2 : decode cX3_isCause 2 = .ok (.lconst 0, 1) := dk_9 (dk_at dksX3_isCause_0 2 rfl rfl)
theorem dX3_isCause_3 : decode cX3_isCause 3 = .ok (.aload_n 0, 1) := dk_42 (dk_at dksX3_isCause_0 3 rfl rfl)
theorem dX3_isCause_4 : decode cX3_isCause 4 = .ok (.getfield 9, 3) := dk_180 0 9 (dk_at dksX3_isCause_0 4 rfl rfl)
theorem dX3_isCause_7 : decode cX3_isCause 7 = .ok (.iconst 3, 1) := dk_6 (dk_at dksX3_isCause_0 7 rfl rfl)
theorem dX3_isCause_8 : decode cX3_isCause 8 = .ok (.iaload, 1) := dk_46 (dk_at dksX3_isCause_0 8 rfl rfl)
theorem dX3_isCause_9 : decode cX3_isCause 9 = .ok (.iconst 1, 1) := dk_4 (dk_at dksX3_isCause_0 9 rfl rfl)
theorem dX3_isCause_10 : decode cX3_isCause 10 = .ok (.isub, 1) := dk_100 (dk_at dksX3_isCause_0 10 rfl rfl)
theorem dX3_isCause_11 : decode cX3_isCause 11 = .ok (.i2l, 1) := dk_133 (dk_at dksX3_isCause_0 11 rfl rfl)
theorem dX3_isCause_12 : decode cX3_isCause 12 = .ok (.invokestatic 47, 3) := dk_184 0 47 (dk_at dksX3_isCause_0 12 rfl rfl)
theorem dX3_isCause_15 : decode cX3_isCause 15 = .ok (.ifCond .eq 34, 3) := dk_153 0 34 (dk_at dksX3_isCause_0 15 rfl rfl)
theorem dX3_isCause_18 : decode cX3_isCause 18 = .ok (.iload_n 2, 1) := dk_28 (dk_at dksX3_isCause_0 18 rfl rfl)
theorem dX3_isCause_19 : decode cX3_isCause 19 = .ok (.i2l, 1) := dk_133 (dk_at dksX3_isCause_0 19 rfl rfl)
theorem dX3_isCause_20 : decode cX3_isCause 20 = .ok (.lconst 0, 1) := dk_9 (dk_at dksX3_isCause_0 20 rfl rfl)
theorem dX3_isCause_21 : decode cX3_isCause 21 = .ok (.aload_n 0, 1) := dk_42 (dk_at dksX3_isCause_0 21 rfl rfl)
theorem dX3_isCause_22 : decode cX3_isCause 22 = .ok (.getfield 9, 3) := dk_180 0 9 (dk_at dksX3_isCause_1 0 rfl rfl)
theorem dX3_isCause_25 : decode cX3_isCause 25 = .ok (.sipush 2751, 3) := dk_17 10 191 (dk_at dksX3_isCause_1 3 rfl rfl)
theorem dX3_isCause_28 : decode cX3_isCause 28 = .ok (.bipush 24, 2) := dk_16 24 (dk_at dksX3_isCause_1 6 rfl rfl)
theorem dX3_isCause_30 : decode cX3_isCause 30 = .ok (.iload_n 1, 1) := dk_27 (dk_at dksX3_isCause_1 8 rfl rfl)
theorem dX3_isCause_31 : decode cX3_isCause 31 = .ok (.imul, 1) := dk_104 (dk_at dksX3_isCause_1 9 rfl rfl)
theorem dX3_isCause_32 : decode cX3_isCause 32 = .ok (.iadd, 1) := dk_96 (dk_at dksX3_isCause_1 10 rfl rfl)
theorem dX3_isCause_33 : decode cX3_isCause 33 = .ok (.iconst 3, 1) := dk_6 (dk_at dksX3_isCause_1 11 rfl rfl)
theorem dX3_isCause_34 : decode cX3_isCause 34 = .ok (.iadd, 1) := dk_96 (dk_at dksX3_isCause_1 12 rfl rfl)
theorem dX3_isCause_35 : decode cX3_isCause 35 = .ok (.iaload, 1) := dk_46 (dk_at dksX3_isCause_1 13 rfl rfl)
theorem dX3_isCause_36 : decode cX3_isCause 36 = .ok (.iconst 1, 1) := dk_4 (dk_at dksX3_isCause_1 14 rfl rfl)
theorem dX3_isCause_37 : decode cX3_isCause 37 = .ok (.isub, 1) := dk_100 (dk_at dksX3_isCause_1 15 rfl rfl)
theorem dX3_isCause_38 : decode cX3_isCause 38 = .ok (.i2l, 1) := dk_133 (dk_at dksX3_isCause_1 16 rfl rfl)
theorem dX3_isCause_39 : decode cX3_isCause 39 = .ok (.invokestatic 47, 3) := dk_184 0 47 (dk_at dksX3_isCause_1 17 rfl rfl)
theorem dX3_isCause_42 : decode cX3_isCause 42 = .ok (.ifCond .eq 7, 3) := dk_153 0 7 (dk_at dksX3_isCause_1 20 rfl rfl)
theorem dX3_isCause_45 : decode cX3_isCause 45 = .ok (.iconst 1, 1) := dk_4 (dk_at dksX3_isCause_1 23 rfl rfl)
theorem dX3_isCause_46 : decode cX3_isCause 46 = .ok (.goto 4, 3) := dk_167 0 4 (dk_at dksX3_isCause_2 0 rfl rfl)
theorem dX3_isCause_49 : decode cX3_isCause 49 = .ok (.iconst 0, 1) := dk_3 (dk_at dksX3_isCause_2 3 rfl rfl)
theorem dX3_isCause_50 : decode cX3_isCause 50 = .ok (.ireturn, 1) := dk_172 (dk_at dksX3_isCause_2 4 rfl rfl)
abbrev cX3_next : ByteArray := prog_24_method_71_code
def yX3_next : MethodName := ⟨RX3, "next", "(II)I"⟩
def dkwX3_next_2 : List UInt8 := [182, 0, 66, 167, 0, 8, 42, 27, 182, 0, 169, 172]
abbrev dktX3_next_2 : List UInt8 := dkwX3_next_2 ++ []
def dkwX3_next_1 : List UInt8 := [172, 42, 27, 182, 0, 166, 62, 29, 156, 0, 7, 2, 167, 0, 22, 28, 154, 0, 13, 42, 27, 29, 3]
abbrev dktX3_next_1 : List UInt8 := dkwX3_next_1 ++ dktX3_next_2
def dkwX3_next_0 : List UInt8 := [42, 27, 182, 0, 122, 153, 0, 13, 28, 133, 9, 10, 184, 0, 47, 154, 0, 10, 42, 16, 174, 182, 0, 75]
abbrev dktX3_next_0 : List UInt8 := dkwX3_next_0 ++ dktX3_next_1
theorem dksX3_next_0 : cX3_next.data.toList.drop 0 = dktX3_next_0 := by decide +kernel
theorem dksX3_next_1 : cX3_next.data.toList.drop 24 = dktX3_next_1 := dk_seg dksX3_next_0 24 rfl rfl
theorem dksX3_next_2 : cX3_next.data.toList.drop 47 = dktX3_next_2 := dk_seg dksX3_next_1 23 rfl rfl
theorem dX3_next_0 : decode cX3_next 0 = .ok (.aload_n 0, 1) := dk_42 (dk_at dksX3_next_0 0 rfl rfl)
theorem dX3_next_1 : decode cX3_next 1 = .ok (.iload_n 1, 1) := dk_27 (dk_at dksX3_next_0 1 rfl rfl)
theorem dX3_next_2 : decode cX3_next 2 = .ok (.invokevirtual 122, 3) := dk_182 0 122 (dk_at dksX3_next_0 2 rfl rfl)
theorem dX3_next_5 : decode cX3_next 5 = .ok (.ifCond .eq 13, 3) := dk_153 0 13 (dk_at dksX3_next_0 5 rfl rfl)
theorem dX3_next_8 : decode cX3_next 8 = .ok (.iload_n 2, 1) := dk_28 (dk_at dksX3_next_0 8 rfl rfl)
theorem dX3_next_9 : decode cX3_next 9 = .ok (.i2l, 1) := dk_133 (dk_at dksX3_next_0 9 rfl rfl)
theorem dX3_next_10 : decode cX3_next 10 = .ok (.lconst 0, 1) := dk_9 (dk_at dksX3_next_0 10 rfl rfl)
theorem dX3_next_11 : decode cX3_next 11 = .ok (.lconst 1, 1) := dk_10 (dk_at dksX3_next_0 11 rfl rfl)
theorem dX3_next_12 : decode cX3_next 12 = .ok (.invokestatic 47, 3) := dk_184 0 47 (dk_at dksX3_next_0 12 rfl rfl)
theorem dX3_next_15 : decode cX3_next 15 = .ok (.ifCond .ne 10, 3) := dk_154 0 10 (dk_at dksX3_next_0 15 rfl rfl)
theorem dX3_next_18 : decode cX3_next 18 = .ok (.aload_n 0, 1) := dk_42 (dk_at dksX3_next_0 18 rfl rfl)
theorem dX3_next_19 : decode cX3_next 19 = .ok (.bipush (-82), 2) := dk_16 174 (dk_at dksX3_next_0 19 rfl rfl)
theorem dX3_next_21 : decode cX3_next 21 = .ok (.invokevirtual 75, 3) := dk_182 0 75 (dk_at dksX3_next_0 21 rfl rfl)
theorem dX3_next_24 : decode cX3_next 24 = .ok (.ireturn, 1) := dk_172 (dk_at dksX3_next_1 0 rfl rfl)
theorem dX3_next_25 : decode cX3_next 25 = .ok (.aload_n 0, 1) := dk_42 (dk_at dksX3_next_1 1 rfl rfl)
theorem dX3_next_26 : decode cX3_next 26 = .ok (.iload_n 1, 1) := dk_27 (dk_at dksX3_next_1 2 rfl rfl)
theorem dX3_next_27 : decode cX3_next 27 = .ok (.invokevirtual 166, 3) := dk_182 0 166 (dk_at dksX3_next_1 3 rfl rfl)
theorem dX3_next_30 : decode cX3_next 30 = .ok (.istore_n 3, 1) := dk_62 (dk_at dksX3_next_1 6 rfl rfl)
theorem dX3_next_31 : decode cX3_next 31 = .ok (.iload_n 3, 1) := dk_29 (dk_at dksX3_next_1 7 rfl rfl)
theorem dX3_next_32 : decode cX3_next 32 = .ok (.ifCond .ge 7, 3) := dk_156 0 7 (dk_at dksX3_next_1 8 rfl rfl)
theorem dX3_next_35 : decode cX3_next 35 = .ok (.iconst (-1), 1) := dk_2 (dk_at dksX3_next_1 11 rfl rfl)
theorem dX3_next_36 : decode cX3_next 36 = .ok (.goto 22, 3) := dk_167 0 22 (dk_at dksX3_next_1 12 rfl rfl)
theorem dX3_next_39 : decode cX3_next 39 = .ok (.iload_n 2, 1) := dk_28 (dk_at dksX3_next_1 15 rfl rfl)
theorem dX3_next_40 : decode cX3_next 40 = .ok (.ifCond .ne 13, 3) := dk_154 0 13 (dk_at dksX3_next_1 16 rfl rfl)
theorem dX3_next_43 : decode cX3_next 43 = .ok (.aload_n 0, 1) := dk_42 (dk_at dksX3_next_1 19 rfl rfl)
theorem dX3_next_44 : decode cX3_next 44 = .ok (.iload_n 1, 1) := dk_27 (dk_at dksX3_next_1 20 rfl rfl)
theorem dX3_next_45 : decode cX3_next 45 = .ok (.iload_n 3, 1) := dk_29 (dk_at dksX3_next_1 21 rfl rfl)
theorem dX3_next_46 : decode cX3_next 46 = .ok (.iconst 0, 1) := dk_3 (dk_at dksX3_next_1 22 rfl rfl)
theorem dX3_next_47 : decode cX3_next 47 = .ok (.invokevirtual 66, 3) := dk_182 0 66 (dk_at dksX3_next_2 0 rfl rfl)
theorem dX3_next_50 : decode cX3_next 50 = .ok (.goto 8, 3) := dk_167 0 8 (dk_at dksX3_next_2 3 rfl rfl)
theorem dX3_next_53 : decode cX3_next 53 = .ok (.aload_n 0, 1) := dk_42 (dk_at dksX3_next_2 6 rfl rfl)
theorem dX3_next_54 : decode cX3_next 54 = .ok (.iload_n 1, 1) := dk_27 (dk_at dksX3_next_2 7 rfl rfl)
theorem dX3_next_55 : decode cX3_next 55 = .ok (.invokevirtual 169, 3) := dk_182 0 169 (dk_at dksX3_next_2 8 rfl rfl)
theorem dX3_next_58 : decode cX3_next 58 = .ok (.ireturn, 1) := dk_172 (dk_at dksX3_next_2 11 rfl rfl)
abbrev cX3_blocked : ByteArray := prog_24_method_72_code
def yX3_blocked : MethodName := ⟨RX3, "blocked", "(I)I"⟩
def dkwX3_blocked_4 : List UInt8 := [130, 126, 172]
abbrev dktX3_blocked_4 : List UInt8 := dkwX3_blocked_4 ++ []
def dkwX3_blocked_3 : List UInt8 := [4, 42, 27, 21, 4, 182, 0, 157, 120, 167, 0, 4, 3, 128, 62, 132, 4, 1, 167, 255, 188, 28, 29, 2]
abbrev dktX3_blocked_3 : List UInt8 := dkwX3_blocked_3 ++ dktX3_blocked_4
def dkwX3_blocked_2 : List UInt8 := [27, 21, 4, 182, 0, 157, 120, 167, 0, 4, 3, 128, 61, 29, 42, 27, 21, 4, 182, 0, 160, 153, 0, 15]
abbrev dktX3_blocked_2 : List UInt8 := dkwX3_blocked_2 ++ dktX3_blocked_3
def dkwX3_blocked_1 : List UInt8 := [42, 27, 16, 35, 182, 0, 59, 162, 0, 62, 28, 42, 27, 21, 4, 4, 182, 0, 66, 154, 0, 15, 4, 42]
abbrev dktX3_blocked_1 : List UInt8 := dkwX3_blocked_1 ++ dktX3_blocked_2
def dkwX3_blocked_0 : List UInt8 := [42, 27, 182, 0, 122, 154, 0, 10, 42, 16, 174, 182, 0, 75, 172, 3, 61, 3, 62, 3, 54, 4, 21, 4]
abbrev dktX3_blocked_0 : List UInt8 := dkwX3_blocked_0 ++ dktX3_blocked_1
theorem dksX3_blocked_0 : cX3_blocked.data.toList.drop 0 = dktX3_blocked_0 := by decide +kernel
theorem dksX3_blocked_1 : cX3_blocked.data.toList.drop 24 = dktX3_blocked_1 := dk_seg dksX3_blocked_0 24 rfl rfl
theorem dksX3_blocked_2 : cX3_blocked.data.toList.drop 48 = dktX3_blocked_2 := dk_seg dksX3_blocked_1 24 rfl rfl
theorem dksX3_blocked_3 : cX3_blocked.data.toList.drop 72 = dktX3_blocked_3 := dk_seg dksX3_blocked_2 24 rfl rfl
theorem dksX3_blocked_4 : cX3_blocked.data.toList.drop 96 = dktX3_blocked_4 := dk_seg dksX3_blocked_3 24 rfl rfl
theorem dX3_blocked_0 : decode cX3_blocked 0 = .ok (.aload_n 0, 1) := dk_42 (dk_at dksX3_blocked_0 0 rfl rfl)
theorem dX3_blocked_1 : decode cX3_blocked 1 = .ok (.iload_n 1, 1) := dk_27 (dk_at dksX3_blocked_0 1 rfl rfl)
theorem dX3_blocked_2 : decode cX3_blocked 2 = .ok (.invokevirtual 122, 3) := dk_182 0 122 (dk_at dksX3_blocked_0 2 rfl rfl)
theorem dX3_blocked_5 : decode cX3_blocked 5 = .ok (.ifCond .ne 10, 3) := dk_154 0 10 (dk_at dksX3_blocked_0 5 rfl rfl)
theorem dX3_blocked_8 : decode cX3_blocked 8 = .ok (.aload_n 0, 1) := dk_42 (dk_at dksX3_blocked_0 8 rfl rfl)
theorem dX3_blocked_9 : decode cX3_blocked 9 = .ok (.bipush (-82), 2) := dk_16 174 (dk_at dksX3_blocked_0 9 rfl rfl)
theorem dX3_blocked_11 : decode cX3_blocked 11 = .ok (.invokevirtual 75, 3) := dk_182 0 75 (dk_at dksX3_blocked_0 11 rfl rfl)
theorem dX3_blocked_14 : decode cX3_blocked 14 = .ok (.ireturn, 1) := dk_172 (dk_at dksX3_blocked_0 14 rfl rfl)
theorem dX3_blocked_15 : decode cX3_blocked 15 = .ok (.iconst 0, 1) := dk_3 (dk_at dksX3_blocked_0 15 rfl rfl)
theorem dX3_blocked_16 : decode cX3_blocked 16 = .ok (.istore_n 2, 1) := dk_61 (dk_at dksX3_blocked_0 16 rfl rfl)
theorem dX3_blocked_17 : decode cX3_blocked 17 = .ok (.iconst 0, 1) := dk_3 (dk_at dksX3_blocked_0 17 rfl rfl)
theorem dX3_blocked_18 : decode cX3_blocked 18 = .ok (.istore_n 3, 1) := dk_62 (dk_at dksX3_blocked_0 18 rfl rfl)
theorem dX3_blocked_19 : decode cX3_blocked 19 = .ok (.iconst 0, 1) := dk_3 (dk_at dksX3_blocked_0 19 rfl rfl)
theorem dX3_blocked_20 : decode cX3_blocked 20 = .ok (.istore 4, 2) := dk_54 4 (dk_at dksX3_blocked_0 20 rfl rfl)
theorem dX3_blocked_22 : decode cX3_blocked 22 = .ok (.iload 4, 2) := dk_21 4 (dk_at dksX3_blocked_0 22 rfl rfl)
theorem dX3_blocked_24 : decode cX3_blocked 24 = .ok (.aload_n 0, 1) := dk_42 (dk_at dksX3_blocked_1 0 rfl rfl)
theorem dX3_blocked_25 : decode cX3_blocked 25 = .ok (.iload_n 1, 1) := dk_27 (dk_at dksX3_blocked_1 1 rfl rfl)
theorem dX3_blocked_26 : decode cX3_blocked 26 = .ok (.bipush 35, 2) := dk_16 35 (dk_at dksX3_blocked_1 2 rfl rfl)
theorem dX3_blocked_28 : decode cX3_blocked 28 = .ok (.invokevirtual 59, 3) := dk_182 0 59 (dk_at dksX3_blocked_1 4 rfl rfl)
theorem dX3_blocked_31 : decode cX3_blocked 31 = .ok (.if_icmp .ge 62, 3) := dk_162 0 62 (dk_at dksX3_blocked_1 7 rfl rfl)
theorem dX3_blocked_34 : decode cX3_blocked 34 = .ok (.iload_n 2, 1) := dk_28 (dk_at dksX3_blocked_1 10 rfl rfl)
theorem dX3_blocked_35 : decode cX3_blocked 35 = .ok (.aload_n 0, 1) := dk_42 (dk_at dksX3_blocked_1 11 rfl rfl)
theorem dX3_blocked_36 : decode cX3_blocked 36 = .ok (.iload_n 1, 1) := dk_27 (dk_at dksX3_blocked_1 12 rfl rfl)
theorem dX3_blocked_37 : decode cX3_blocked 37 = .ok (.iload 4, 2) := dk_21 4 (dk_at dksX3_blocked_1 13 rfl rfl)
theorem dX3_blocked_39 : decode cX3_blocked 39 = .ok (.iconst 1, 1) := dk_4 (dk_at dksX3_blocked_1 15 rfl rfl)
theorem dX3_blocked_40 : decode cX3_blocked 40 = .ok (.invokevirtual 66, 3) := dk_182 0 66 (dk_at dksX3_blocked_1 16 rfl rfl)
theorem dX3_blocked_43 : decode cX3_blocked 43 = .ok (.ifCond .ne 15, 3) := dk_154 0 15 (dk_at dksX3_blocked_1 19 rfl rfl)
theorem dX3_blocked_46 : decode cX3_blocked 46 = .ok (.iconst 1, 1) := dk_4 (dk_at dksX3_blocked_1 22 rfl rfl)
theorem dX3_blocked_47 : decode cX3_blocked 47 = .ok (.aload_n 0, 1) := dk_42 (dk_at dksX3_blocked_1 23 rfl rfl)
theorem dX3_blocked_48 : decode cX3_blocked 48 = .ok (.iload_n 1, 1) := dk_27 (dk_at dksX3_blocked_2 0 rfl rfl)
theorem dX3_blocked_49 : decode cX3_blocked 49 = .ok (.iload 4, 2) := dk_21 4 (dk_at dksX3_blocked_2 1 rfl rfl)
theorem dX3_blocked_51 : decode cX3_blocked 51 = .ok (.invokevirtual 157, 3) := dk_182 0 157 (dk_at dksX3_blocked_2 3 rfl rfl)
theorem dX3_blocked_54 : decode cX3_blocked 54 = .ok (.ishl, 1) := dk_120 (dk_at dksX3_blocked_2 6 rfl rfl)
theorem dX3_blocked_55 : decode cX3_blocked 55 = .ok (.goto 4, 3) := dk_167 0 4 (dk_at dksX3_blocked_2 7 rfl rfl)
theorem dX3_blocked_58 : decode cX3_blocked 58 = .ok (.iconst 0, 1) := dk_3 (dk_at dksX3_blocked_2 10 rfl rfl)
theorem dX3_blocked_59 : decode cX3_blocked 59 = .ok (.ior, 1) := dk_128 (dk_at dksX3_blocked_2 11 rfl rfl)
theorem dX3_blocked_60 : decode cX3_blocked 60 = .ok (.istore_n 2, 1) := dk_61 (dk_at dksX3_blocked_2 12 rfl rfl)
theorem dX3_blocked_61 : decode cX3_blocked 61 = .ok (.iload_n 3, 1) := dk_29 (dk_at dksX3_blocked_2 13 rfl rfl)
theorem dX3_blocked_62 : decode cX3_blocked 62 = .ok (.aload_n 0, 1) := dk_42 (dk_at dksX3_blocked_2 14 rfl rfl)
theorem dX3_blocked_63 : decode cX3_blocked 63 = .ok (.iload_n 1, 1) := dk_27 (dk_at dksX3_blocked_2 15 rfl rfl)
theorem dX3_blocked_64 : decode cX3_blocked 64 = .ok (.iload 4, 2) := dk_21 4 (dk_at dksX3_blocked_2 16 rfl rfl)
theorem dX3_blocked_66 : decode cX3_blocked 66 = .ok (.invokevirtual 160, 3) := dk_182 0 160 (dk_at dksX3_blocked_2 18 rfl rfl)
theorem dX3_blocked_69 : decode cX3_blocked 69 = .ok (.ifCond .eq 15, 3) := dk_153 0 15 (dk_at dksX3_blocked_2 21 rfl rfl)
theorem dX3_blocked_72 : decode cX3_blocked 72 = .ok (.iconst 1, 1) := dk_4 (dk_at dksX3_blocked_3 0 rfl rfl)
theorem dX3_blocked_73 : decode cX3_blocked 73 = .ok (.aload_n 0, 1) := dk_42 (dk_at dksX3_blocked_3 1 rfl rfl)
theorem dX3_blocked_74 : decode cX3_blocked 74 = .ok (.iload_n 1, 1) := dk_27 (dk_at dksX3_blocked_3 2 rfl rfl)
theorem dX3_blocked_75 : decode cX3_blocked 75 = .ok (.iload 4, 2) := dk_21 4 (dk_at dksX3_blocked_3 3 rfl rfl)
theorem dX3_blocked_77 : decode cX3_blocked 77 = .ok (.invokevirtual 157, 3) := dk_182 0 157 (dk_at dksX3_blocked_3 5 rfl rfl)
theorem dX3_blocked_80 : decode cX3_blocked 80 = .ok (.ishl, 1) := dk_120 (dk_at dksX3_blocked_3 8 rfl rfl)
theorem dX3_blocked_81 : decode cX3_blocked 81 = .ok (.goto 4, 3) := dk_167 0 4 (dk_at dksX3_blocked_3 9 rfl rfl)
theorem dX3_blocked_84 : decode cX3_blocked 84 = .ok (.iconst 0, 1) := dk_3 (dk_at dksX3_blocked_3 12 rfl rfl)
theorem dX3_blocked_85 : decode cX3_blocked 85 = .ok (.ior, 1) := dk_128 (dk_at dksX3_blocked_3 13 rfl rfl)
theorem dX3_blocked_86 : decode cX3_blocked 86 = .ok (.istore_n 3, 1) := dk_62 (dk_at dksX3_blocked_3 14 rfl rfl)
theorem dX3_blocked_87 : decode cX3_blocked 87 = .ok (.iinc 4 1, 3) := dk_132 4 1 (dk_at dksX3_blocked_3 15 rfl rfl)
theorem dX3_blocked_90 : decode cX3_blocked 90 = .ok (.goto (-68), 3) := dk_167 255 188 (dk_at dksX3_blocked_3 18 rfl rfl)
theorem dX3_blocked_93 : decode cX3_blocked 93 = .ok (.iload_n 2, 1) := dk_28 (dk_at dksX3_blocked_3 21 rfl rfl)
theorem dX3_blocked_94 : decode cX3_blocked 94 = .ok (.iload_n 3, 1) := dk_29 (dk_at dksX3_blocked_3 22 rfl rfl)
theorem dX3_blocked_95 : decode cX3_blocked 95 = .ok (.iconst (-1), 1) := dk_2 (dk_at dksX3_blocked_3 23 rfl rfl)
theorem dX3_blocked_96 : decode cX3_blocked 96 = .ok (.ixor, 1) := dk_130 (dk_at dksX3_blocked_4 0 rfl rfl)
theorem dX3_blocked_97 : decode cX3_blocked 97 = .ok (.iand, 1) := dk_126 (dk_at dksX3_blocked_4 1 rfl rfl)
theorem dX3_blocked_98 : decode cX3_blocked 98 = .ok (.ireturn, 1) := dk_172 (dk_at dksX3_blocked_4 2 rfl rfl)
abbrev cX3_drained : ByteArray := prog_24_method_74_code
def yX3_drained : MethodName := ⟨RX3, "drained", "(II)I"⟩
def dkwX3_drained_1 : List UInt8 := [180, 0, 227, 4, 100, 133, 184, 0, 47, 153, 0, 12, 42, 180, 0, 31, 28, 46, 167, 0, 4, 2, 172]
abbrev dktX3_drained_1 : List UInt8 := dkwX3_drained_1 ++ []
def dkwX3_drained_0 : List UInt8 := [42, 27, 182, 0, 122, 154, 0, 10, 42, 16, 174, 182, 0, 75, 172, 42, 27, 182, 0, 230, 28, 133, 9, 42]
abbrev dktX3_drained_0 : List UInt8 := dkwX3_drained_0 ++ dktX3_drained_1
theorem dksX3_drained_0 : cX3_drained.data.toList.drop 0 = dktX3_drained_0 := by decide +kernel
theorem dksX3_drained_1 : cX3_drained.data.toList.drop 24 = dktX3_drained_1 := dk_seg dksX3_drained_0 24 rfl rfl
theorem dX3_drained_0 : decode cX3_drained 0 = .ok (.aload_n 0, 1) := dk_42 (dk_at dksX3_drained_0 0 rfl rfl)
theorem dX3_drained_1 : decode cX3_drained 1 = .ok (.iload_n 1, 1) := dk_27 (dk_at dksX3_drained_0 1 rfl rfl)
theorem dX3_drained_2 : decode cX3_drained 2 = .ok (.invokevirtual 122, 3) := dk_182 0 122 (dk_at dksX3_drained_0 2 rfl rfl)
theorem dX3_drained_5 : decode cX3_drained 5 = .ok (.ifCond .ne 10, 3) := dk_154 0 10 (dk_at dksX3_drained_0 5 rfl rfl)
theorem dX3_drained_8 : decode cX3_drained 8 = .ok (.aload_n 0, 1) := dk_42 (dk_at dksX3_drained_0 8 rfl rfl)
theorem dX3_drained_9 : decode cX3_drained 9 = .ok (.bipush (-82), 2) := dk_16 174 (dk_at dksX3_drained_0 9 rfl rfl)
theorem dX3_drained_11 : decode cX3_drained 11 = .ok (.invokevirtual 75, 3) := dk_182 0 75 (dk_at dksX3_drained_0 11 rfl rfl)
theorem dX3_drained_14 : decode cX3_drained 14 = .ok (.ireturn, 1) := dk_172 (dk_at dksX3_drained_0 14 rfl rfl)
theorem dX3_drained_15 : decode cX3_drained 15 = .ok (.aload_n 0, 1) := dk_42 (dk_at dksX3_drained_0 15 rfl rfl)
theorem dX3_drained_16 : decode cX3_drained 16 = .ok (.iload_n 1, 1) := dk_27 (dk_at dksX3_drained_0 16 rfl rfl)
theorem dX3_drained_17 : decode cX3_drained 17 = .ok (.invokevirtual 230, 3) := dk_182 0 230 (dk_at dksX3_drained_0 17 rfl rfl)
theorem dX3_drained_20 : decode cX3_drained 20 = .ok (.iload_n 2, 1) := dk_28 (dk_at dksX3_drained_0 20 rfl rfl)
theorem dX3_drained_21 : decode cX3_drained 21 = .ok (.i2l, 1) := dk_133 (dk_at dksX3_drained_0 21 rfl rfl)
theorem dX3_drained_22 : decode cX3_drained 22 = .ok (.lconst 0, 1) := dk_9 (dk_at dksX3_drained_0 22 rfl rfl)
theorem dX3_drained_23 : decode cX3_drained 23 = .ok (.aload_n 0, 1) := dk_42 (dk_at dksX3_drained_0 23 rfl rfl)
theorem dX3_drained_24 : decode cX3_drained 24 = .ok (.getfield 227, 3) := dk_180 0 227 (dk_at dksX3_drained_1 0 rfl rfl)
theorem dX3_drained_27 : decode cX3_drained 27 = .ok (.iconst 1, 1) := dk_4 (dk_at dksX3_drained_1 3 rfl rfl)
theorem dX3_drained_28 : decode cX3_drained 28 = .ok (.isub, 1) := dk_100 (dk_at dksX3_drained_1 4 rfl rfl)
theorem dX3_drained_29 : decode cX3_drained 29 = .ok (.i2l, 1) := dk_133 (dk_at dksX3_drained_1 5 rfl rfl)
theorem dX3_drained_30 : decode cX3_drained 30 = .ok (.invokestatic 47, 3) := dk_184 0 47 (dk_at dksX3_drained_1 6 rfl rfl)
theorem dX3_drained_33 : decode cX3_drained 33 = .ok (.ifCond .eq 12, 3) := dk_153 0 12 (dk_at dksX3_drained_1 9 rfl rfl)
theorem dX3_drained_36 : decode cX3_drained 36 = .ok (.aload_n 0, 1) := dk_42 (dk_at dksX3_drained_1 12 rfl rfl)
theorem dX3_drained_37 : decode cX3_drained 37 = .ok (.getfield 31, 3) := dk_180 0 31 (dk_at dksX3_drained_1 13 rfl rfl)
theorem dX3_drained_40 : decode cX3_drained 40 = .ok (.iload_n 2, 1) := dk_28 (dk_at dksX3_drained_1 16 rfl rfl)
theorem dX3_drained_41 : decode cX3_drained 41 = .ok (.iaload, 1) := dk_46 (dk_at dksX3_drained_1 17 rfl rfl)
theorem dX3_drained_42 : decode cX3_drained 42 = .ok (.goto 4, 3) := dk_167 0 4 (dk_at dksX3_drained_1 18 rfl rfl)
theorem dX3_drained_45 : decode cX3_drained 45 = .ok (.iconst (-1), 1) := dk_2 (dk_at dksX3_drained_1 21 rfl rfl)
theorem dX3_drained_46 : decode cX3_drained 46 = .ok (.ireturn, 1) := dk_172 (dk_at dksX3_drained_1 22 rfl rfl)
abbrev cX3_drains : ByteArray := prog_24_method_73_code
def yX3_drains : MethodName := ⟨RX3, "drains", "(I)V"⟩
def dkwX3_drains_3 : List UInt8 := [42, 180, 0, 9, 184, 0, 223, 177]
abbrev dktX3_drains_3 : List UInt8 := dkwX3_drains_3 ++ []
def dkwX3_drains_2 : List UInt8 := [4, 96, 181, 0, 227, 42, 27, 28, 182, 0, 135, 42, 27, 182, 0, 166, 61, 167, 255, 214, 42, 180, 0, 13]
abbrev dktX3_drains_2 : List UInt8 := dkwX3_drains_2 ++ dktX3_drains_3
def dkwX3_drains_1 : List UInt8 := [155, 0, 44, 42, 180, 0, 31, 42, 180, 0, 227, 42, 27, 28, 3, 182, 0, 66, 79, 42, 89, 180, 0, 227]
abbrev dktX3_drains_1 : List UInt8 := dkwX3_drains_1 ++ dktX3_drains_2
def dkwX3_drains_0 : List UInt8 := [42, 180, 0, 9, 42, 180, 0, 13, 184, 0, 223, 42, 3, 181, 0, 227, 42, 27, 182, 0, 166, 61, 28]
abbrev dktX3_drains_0 : List UInt8 := dkwX3_drains_0 ++ dktX3_drains_1
theorem dksX3_drains_0 : cX3_drains.data.toList.drop 0 = dktX3_drains_0 := by decide +kernel
theorem dksX3_drains_1 : cX3_drains.data.toList.drop 23 = dktX3_drains_1 := dk_seg dksX3_drains_0 23 rfl rfl
theorem dksX3_drains_2 : cX3_drains.data.toList.drop 47 = dktX3_drains_2 := dk_seg dksX3_drains_1 24 rfl rfl
theorem dksX3_drains_3 : cX3_drains.data.toList.drop 71 = dktX3_drains_3 := dk_seg dksX3_drains_2 24 rfl rfl
theorem dX3_drains_0 : decode cX3_drains 0 = .ok (.aload_n 0, 1) := dk_42 (dk_at dksX3_drains_0 0 rfl rfl)
theorem dX3_drains_1 : decode cX3_drains 1 = .ok (.getfield 9, 3) := dk_180 0 9 (dk_at dksX3_drains_0 1 rfl rfl)
theorem dX3_drains_4 : decode cX3_drains 4 = .ok (.aload_n 0, 1) := dk_42 (dk_at dksX3_drains_0 4 rfl rfl)
theorem dX3_drains_5 : decode cX3_drains 5 = .ok (.getfield 13, 3) := dk_180 0 13 (dk_at dksX3_drains_0 5 rfl rfl)
theorem dX3_drains_8 : decode cX3_drains 8 = .ok (.invokestatic 223, 3) := dk_184 0 223 (dk_at dksX3_drains_0 8 rfl rfl)
theorem dX3_drains_11 : decode cX3_drains 11 = .ok (.aload_n 0, 1) := dk_42 (dk_at dksX3_drains_0 11 rfl rfl)
theorem dX3_drains_12 : decode cX3_drains 12 = .ok (.iconst 0, 1) := dk_3 (dk_at dksX3_drains_0 12 rfl rfl)
theorem dX3_drains_13 : decode cX3_drains 13 = .ok (.putfield 227, 3) := dk_181 0 227 (dk_at dksX3_drains_0 13 rfl rfl)
theorem dX3_drains_16 : decode cX3_drains 16 = .ok (.aload_n 0, 1) := dk_42 (dk_at dksX3_drains_0 16 rfl rfl)
theorem dX3_drains_17 : decode cX3_drains 17 = .ok (.iload_n 1, 1) := dk_27 (dk_at dksX3_drains_0 17 rfl rfl)
theorem dX3_drains_18 : decode cX3_drains 18 = .ok (.invokevirtual 166, 3) := dk_182 0 166 (dk_at dksX3_drains_0 18 rfl rfl)
theorem dX3_drains_21 : decode cX3_drains 21 = .ok (.istore_n 2, 1) := dk_61 (dk_at dksX3_drains_0 21 rfl rfl)
theorem dX3_drains_22 : decode cX3_drains 22 = .ok (.iload_n 2, 1) := dk_28 (dk_at dksX3_drains_0 22 rfl rfl)
theorem dX3_drains_23 : decode cX3_drains 23 = .ok (.ifCond .lt 44, 3) := dk_155 0 44 (dk_at dksX3_drains_1 0 rfl rfl)
theorem dX3_drains_26 : decode cX3_drains 26 = .ok (.aload_n 0, 1) := dk_42 (dk_at dksX3_drains_1 3 rfl rfl)
theorem dX3_drains_27 : decode cX3_drains 27 = .ok (.getfield 31, 3) := dk_180 0 31 (dk_at dksX3_drains_1 4 rfl rfl)
theorem dX3_drains_30 : decode cX3_drains 30 = .ok (.aload_n 0, 1) := dk_42 (dk_at dksX3_drains_1 7 rfl rfl)
theorem dX3_drains_31 : decode cX3_drains 31 = .ok (.getfield 227, 3) := dk_180 0 227 (dk_at dksX3_drains_1 8 rfl rfl)
theorem dX3_drains_34 : decode cX3_drains 34 = .ok (.aload_n 0, 1) := dk_42 (dk_at dksX3_drains_1 11 rfl rfl)
theorem dX3_drains_35 : decode cX3_drains 35 = .ok (.iload_n 1, 1) := dk_27 (dk_at dksX3_drains_1 12 rfl rfl)
theorem dX3_drains_36 : decode cX3_drains 36 = .ok (.iload_n 2, 1) := dk_28 (dk_at dksX3_drains_1 13 rfl rfl)
theorem dX3_drains_37 : decode cX3_drains 37 = .ok (.iconst 0, 1) := dk_3 (dk_at dksX3_drains_1 14 rfl rfl)
theorem dX3_drains_38 : decode cX3_drains 38 = .ok (.invokevirtual 66, 3) := dk_182 0 66 (dk_at dksX3_drains_1 15 rfl rfl)
theorem dX3_drains_41 : decode cX3_drains 41 = .ok (.iastore, 1) := dk_79 (dk_at dksX3_drains_1 18 rfl rfl)
theorem dX3_drains_42 : decode cX3_drains 42 = .ok (.aload_n 0, 1) := dk_42 (dk_at dksX3_drains_1 19 rfl rfl)
theorem dX3_drains_43 : decode cX3_drains 43 = .ok (.dup, 1) := dk_89 (dk_at dksX3_drains_1 20 rfl rfl)
theorem dX3_drains_44 : decode cX3_drains 44 = .ok (.getfield 227, 3) := dk_180 0 227 (dk_at dksX3_drains_1 21 rfl rfl)
theorem dX3_drains_47 : decode cX3_drains 47 = .ok (.iconst 1, 1) := dk_4 (dk_at dksX3_drains_2 0 rfl rfl)
theorem dX3_drains_48 : decode cX3_drains 48 = .ok (.iadd, 1) := dk_96 (dk_at dksX3_drains_2 1 rfl rfl)
theorem dX3_drains_49 : decode cX3_drains 49 = .ok (.putfield 227, 3) := dk_181 0 227 (dk_at dksX3_drains_2 2 rfl rfl)
theorem dX3_drains_52 : decode cX3_drains 52 = .ok (.aload_n 0, 1) := dk_42 (dk_at dksX3_drains_2 5 rfl rfl)
theorem dX3_drains_53 : decode cX3_drains 53 = .ok (.iload_n 1, 1) := dk_27 (dk_at dksX3_drains_2 6 rfl rfl)
theorem dX3_drains_54 : decode cX3_drains 54 = .ok (.iload_n 2, 1) := dk_28 (dk_at dksX3_drains_2 7 rfl rfl)
theorem dX3_drains_55 : decode cX3_drains 55 = .ok (.invokevirtual 135, 3) := dk_182 0 135 (dk_at dksX3_drains_2 8 rfl rfl)
theorem dX3_drains_58 : decode cX3_drains 58 = .ok (.aload_n 0, 1) := dk_42 (dk_at dksX3_drains_2 11 rfl rfl)
theorem dX3_drains_59 : decode cX3_drains 59 = .ok (.iload_n 1, 1) := dk_27 (dk_at dksX3_drains_2 12 rfl rfl)
theorem dX3_drains_60 : decode cX3_drains 60 = .ok (.invokevirtual 166, 3) := dk_182 0 166 (dk_at dksX3_drains_2 13 rfl rfl)
theorem dX3_drains_63 : decode cX3_drains 63 = .ok (.istore_n 2, 1) := dk_61 (dk_at dksX3_drains_2 16 rfl rfl)
theorem dX3_drains_64 : decode cX3_drains 64 = .ok (.goto (-42), 3) := dk_167 255 214 (dk_at dksX3_drains_2 17 rfl rfl)
theorem dX3_drains_67 : decode cX3_drains 67 = .ok (.aload_n 0, 1) := dk_42 (dk_at dksX3_drains_2 20 rfl rfl)
theorem dX3_drains_68 : decode cX3_drains 68 = .ok (.getfield 13, 3) := dk_180 0 13 (dk_at dksX3_drains_2 21 rfl rfl)
theorem dX3_drains_71 : decode cX3_drains 71 = .ok (.aload_n 0, 1) := dk_42 (dk_at dksX3_drains_3 0 rfl rfl)
theorem dX3_drains_72 : decode cX3_drains 72 = .ok (.getfield 9, 3) := dk_180 0 9 (dk_at dksX3_drains_3 1 rfl rfl)
theorem dX3_drains_75 : decode cX3_drains 75 = .ok (.invokestatic 223, 3) := dk_184 0 223 (dk_at dksX3_drains_3 4 rfl rfl)
theorem dX3_drains_78 : decode cX3_drains 78 = .ok (.return_, 1) := dk_177 (dk_at dksX3_drains_3 7 rfl rfl)
abbrev cX3_copies : ByteArray := prog_24_method_4_code
def yX3_copies : MethodName := ⟨RX3, "copies", "([I[I)V"⟩
def dkwX3_copies_0 : List UInt8 := [3, 61, 28, 17, 30, 239, 162, 0, 15, 43, 28, 42, 28, 46, 79, 132, 2, 1, 167, 255, 240, 177]
abbrev dktX3_copies_0 : List UInt8 := dkwX3_copies_0 ++ []
theorem dksX3_copies_0 : cX3_copies.data.toList.drop 0 = dktX3_copies_0 := by decide +kernel
theorem dX3_copies_0 : decode cX3_copies 0 = .ok (.iconst 0, 1) := dk_3 (dk_at dksX3_copies_0 0 rfl rfl)
theorem dX3_copies_1 : decode cX3_copies 1 = .ok (.istore_n 2, 1) := dk_61 (dk_at dksX3_copies_0 1 rfl rfl)
theorem dX3_copies_2 : decode cX3_copies 2 = .ok (.iload_n 2, 1) := dk_28 (dk_at dksX3_copies_0 2 rfl rfl)
theorem dX3_copies_3 : decode cX3_copies 3 = .ok (.sipush 7919, 3) := dk_17 30 239 (dk_at dksX3_copies_0 3 rfl rfl)
theorem dX3_copies_6 : decode cX3_copies 6 = .ok (.if_icmp .ge 15, 3) := dk_162 0 15 (dk_at dksX3_copies_0 6 rfl rfl)
theorem dX3_copies_9 : decode cX3_copies 9 = .ok (.aload_n 1, 1) := dk_43 (dk_at dksX3_copies_0 9 rfl rfl)
theorem dX3_copies_10 : decode cX3_copies 10 = .ok (.iload_n 2, 1) := dk_28 (dk_at dksX3_copies_0 10 rfl rfl)
theorem dX3_copies_11 : decode cX3_copies 11 = .ok (.aload_n 0, 1) := dk_42 (dk_at dksX3_copies_0 11 rfl rfl)
theorem dX3_copies_12 : decode cX3_copies 12 = .ok (.iload_n 2, 1) := dk_28 (dk_at dksX3_copies_0 12 rfl rfl)
theorem dX3_copies_13 : decode cX3_copies 13 = .ok (.iaload, 1) := dk_46 (dk_at dksX3_copies_0 13 rfl rfl)
theorem dX3_copies_14 : decode cX3_copies 14 = .ok (.iastore, 1) := dk_79 (dk_at dksX3_copies_0 14 rfl rfl)
theorem dX3_copies_15 : decode cX3_copies 15 = .ok (.iinc 2 1, 3) := dk_132 2 1 (dk_at dksX3_copies_0 15 rfl rfl)
theorem dX3_copies_18 : decode cX3_copies 18 = .ok (.goto (-16), 3) := dk_167 255 240 (dk_at dksX3_copies_0 18 rfl rfl)
theorem dX3_copies_21 : decode cX3_copies 21 = .ok (.return_, 1) := dk_177 (dk_at dksX3_copies_0 21 rfl rfl)
abbrev cX3_until : ByteArray := prog_24_method_75_code
def yX3_until : MethodName := ⟨RX3, "until", "(I)I"⟩
def dkwX3_until_3 : List UInt8 := [2, 167, 0, 4, 28, 172]
abbrev dktX3_until_3 : List UInt8 := dkwX3_until_3 ++ []
def dkwX3_until_2 : List UInt8 := [62, 132, 2, 1, 167, 255, 233, 42, 180, 0, 13, 42, 180, 0, 9, 184, 0, 223, 28, 16, 99, 164, 0, 7]
abbrev dktX3_until_2 : List UInt8 := dkwX3_until_2 ++ dktX3_until_3
def dkwX3_until_1 : List UInt8 := [184, 0, 223, 3, 61, 28, 16, 99, 163, 0, 23, 42, 27, 182, 0, 166, 156, 0, 15, 42, 4, 182, 0, 200]
abbrev dktX3_until_1 : List UInt8 := dkwX3_until_1 ++ dktX3_until_2
def dkwX3_until_0 : List UInt8 := [42, 27, 182, 0, 122, 154, 0, 10, 42, 16, 174, 182, 0, 75, 172, 42, 180, 0, 9, 42, 180, 0, 13]
abbrev dktX3_until_0 : List UInt8 := dkwX3_until_0 ++ dktX3_until_1
theorem dksX3_until_0 : cX3_until.data.toList.drop 0 = dktX3_until_0 := by decide +kernel
theorem dksX3_until_1 : cX3_until.data.toList.drop 23 = dktX3_until_1 := dk_seg dksX3_until_0 23 rfl rfl
theorem dksX3_until_2 : cX3_until.data.toList.drop 47 = dktX3_until_2 := dk_seg dksX3_until_1 24 rfl rfl
theorem dksX3_until_3 : cX3_until.data.toList.drop 71 = dktX3_until_3 := dk_seg dksX3_until_2 24 rfl rfl
theorem dX3_until_0 : decode cX3_until 0 = .ok (.aload_n 0, 1) := dk_42 (dk_at dksX3_until_0 0 rfl rfl)
theorem dX3_until_1 : decode cX3_until 1 = .ok (.iload_n 1, 1) := dk_27 (dk_at dksX3_until_0 1 rfl rfl)
theorem dX3_until_2 : decode cX3_until 2 = .ok (.invokevirtual 122, 3) := dk_182 0 122 (dk_at dksX3_until_0 2 rfl rfl)
theorem dX3_until_5 : decode cX3_until 5 = .ok (.ifCond .ne 10, 3) := dk_154 0 10 (dk_at dksX3_until_0 5 rfl rfl)
theorem dX3_until_8 : decode cX3_until 8 = .ok (.aload_n 0, 1) := dk_42 (dk_at dksX3_until_0 8 rfl rfl)
theorem dX3_until_9 : decode cX3_until 9 = .ok (.bipush (-82), 2) := dk_16 174 (dk_at dksX3_until_0 9 rfl rfl)
theorem dX3_until_11 : decode cX3_until 11 = .ok (.invokevirtual 75, 3) := dk_182 0 75 (dk_at dksX3_until_0 11 rfl rfl)
theorem dX3_until_14 : decode cX3_until 14 = .ok (.ireturn, 1) := dk_172 (dk_at dksX3_until_0 14 rfl rfl)
theorem dX3_until_15 : decode cX3_until 15 = .ok (.aload_n 0, 1) := dk_42 (dk_at dksX3_until_0 15 rfl rfl)
theorem dX3_until_16 : decode cX3_until 16 = .ok (.getfield 9, 3) := dk_180 0 9 (dk_at dksX3_until_0 16 rfl rfl)
theorem dX3_until_19 : decode cX3_until 19 = .ok (.aload_n 0, 1) := dk_42 (dk_at dksX3_until_0 19 rfl rfl)
theorem dX3_until_20 : decode cX3_until 20 = .ok (.getfield 13, 3) := dk_180 0 13 (dk_at dksX3_until_0 20 rfl rfl)
theorem dX3_until_23 : decode cX3_until 23 = .ok (.invokestatic 223, 3) := dk_184 0 223 (dk_at dksX3_until_1 0 rfl rfl)
theorem dX3_until_26 : decode cX3_until 26 = .ok (.iconst 0, 1) := dk_3 (dk_at dksX3_until_1 3 rfl rfl)
theorem dX3_until_27 : decode cX3_until 27 = .ok (.istore_n 2, 1) := dk_61 (dk_at dksX3_until_1 4 rfl rfl)
theorem dX3_until_28 : decode cX3_until 28 = .ok (.iload_n 2, 1) := dk_28 (dk_at dksX3_until_1 5 rfl rfl)
theorem dX3_until_29 : decode cX3_until 29 = .ok (.bipush 99, 2) := dk_16 99 (dk_at dksX3_until_1 6 rfl rfl)
theorem dX3_until_31 : decode cX3_until 31 = .ok (.if_icmp .gt 23, 3) := dk_163 0 23 (dk_at dksX3_until_1 8 rfl rfl)
theorem dX3_until_34 : decode cX3_until 34 = .ok (.aload_n 0, 1) := dk_42 (dk_at dksX3_until_1 11 rfl rfl)
theorem dX3_until_35 : decode cX3_until 35 = .ok (.iload_n 1, 1) := dk_27 (dk_at dksX3_until_1 12 rfl rfl)
theorem dX3_until_36 : decode cX3_until 36 = .ok (.invokevirtual 166, 3) := dk_182 0 166 (dk_at dksX3_until_1 13 rfl rfl)
theorem dX3_until_39 : decode cX3_until 39 = .ok (.ifCond .ge 15, 3) := dk_156 0 15 (dk_at dksX3_until_1 16 rfl rfl)
theorem dX3_until_42 : decode cX3_until 42 = .ok (.aload_n 0, 1) := dk_42 (dk_at dksX3_until_1 19 rfl rfl)
theorem dX3_until_43 : decode cX3_until 43 = .ok (.iconst 1, 1) := dk_4 (dk_at dksX3_until_1 20 rfl rfl)
theorem dX3_until_44 : decode cX3_until 44 = .ok (.invokevirtual 200, 3) := dk_182 0 200 (dk_at dksX3_until_1 21 rfl rfl)
theorem dX3_until_47 : decode cX3_until 47 = .ok (.istore_n 3, 1) := dk_62 (dk_at dksX3_until_2 0 rfl rfl)
theorem dX3_until_48 : decode cX3_until 48 = .ok (.iinc 2 1, 3) := dk_132 2 1 (dk_at dksX3_until_2 1 rfl rfl)
theorem dX3_until_51 : decode cX3_until 51 = .ok (.goto (-23), 3) := dk_167 255 233 (dk_at dksX3_until_2 4 rfl rfl)
theorem dX3_until_54 : decode cX3_until 54 = .ok (.aload_n 0, 1) := dk_42 (dk_at dksX3_until_2 7 rfl rfl)
theorem dX3_until_55 : decode cX3_until 55 = .ok (.getfield 13, 3) := dk_180 0 13 (dk_at dksX3_until_2 8 rfl rfl)
theorem dX3_until_58 : decode cX3_until 58 = .ok (.aload_n 0, 1) := dk_42 (dk_at dksX3_until_2 11 rfl rfl)
theorem dX3_until_59 : decode cX3_until 59 = .ok (.getfield 9, 3) := dk_180 0 9 (dk_at dksX3_until_2 12 rfl rfl)
theorem dX3_until_62 : decode cX3_until 62 = .ok (.invokestatic 223, 3) := dk_184 0 223 (dk_at dksX3_until_2 15 rfl rfl)
theorem dX3_until_65 : decode cX3_until 65 = .ok (.iload_n 2, 1) := dk_28 (dk_at dksX3_until_2 18 rfl rfl)
theorem dX3_until_66 : decode cX3_until 66 = .ok (.bipush 99, 2) := dk_16 99 (dk_at dksX3_until_2 19 rfl rfl)
theorem dX3_until_68 : decode cX3_until 68 = .ok (.if_icmp .le 7, 3) := dk_164 0 7 (dk_at dksX3_until_2 21 rfl rfl)
theorem dX3_until_71 : decode cX3_until 71 = .ok (.iconst (-1), 1) := dk_2 (dk_at dksX3_until_3 0 rfl rfl)
theorem dX3_until_72 : decode cX3_until 72 = .ok (.goto 4, 3) := dk_167 0 4 (dk_at dksX3_until_3 1 rfl rfl)
theorem dX3_until_75 : decode cX3_until 75 = .ok (.iload_n 2, 1) := dk_28 (dk_at dksX3_until_3 4 rfl rfl)
theorem dX3_until_76 : decode cX3_until 76 = .ok (.ireturn, 1) := dk_172 (dk_at dksX3_until_3 5 rfl rfl)
abbrev cX3_doomed : ByteArray := prog_24_method_76_code
def yX3_doomed : MethodName := ⟨RX3, "doomed", "(I)I"⟩
def dkwX3_doomed_2 : List UInt8 := [172]
abbrev dktX3_doomed_2 : List UInt8 := dkwX3_doomed_2 ++ []
def dkwX3_doomed_1 : List UInt8 := [180, 0, 13, 184, 0, 223, 42, 27, 182, 0, 200, 61, 42, 180, 0, 13, 42, 180, 0, 9, 184, 0, 223, 28]
abbrev dktX3_doomed_1 : List UInt8 := dkwX3_doomed_1 ++ dktX3_doomed_2
def dkwX3_doomed_0 : List UInt8 := [27, 133, 9, 20, 0, 108, 184, 0, 47, 154, 0, 10, 42, 16, 174, 182, 0, 75, 172, 42, 180, 0, 9, 42]
abbrev dktX3_doomed_0 : List UInt8 := dkwX3_doomed_0 ++ dktX3_doomed_1
theorem dksX3_doomed_0 : cX3_doomed.data.toList.drop 0 = dktX3_doomed_0 := by decide +kernel
theorem dksX3_doomed_1 : cX3_doomed.data.toList.drop 24 = dktX3_doomed_1 := dk_seg dksX3_doomed_0 24 rfl rfl
theorem dksX3_doomed_2 : cX3_doomed.data.toList.drop 48 = dktX3_doomed_2 := dk_seg dksX3_doomed_1 24 rfl rfl
theorem dX3_doomed_0 : decode cX3_doomed 0 = .ok (.iload_n 1, 1) := dk_27 (dk_at dksX3_doomed_0 0 rfl rfl)
theorem dX3_doomed_1 : decode cX3_doomed 1 = .ok (.i2l, 1) := dk_133 (dk_at dksX3_doomed_0 1 rfl rfl)
theorem dX3_doomed_2 : decode cX3_doomed 2 = .ok (.lconst 0, 1) := dk_9 (dk_at dksX3_doomed_0 2 rfl rfl)
theorem dX3_doomed_3 : decode cX3_doomed 3 = .ok (.ldc2_w 108, 3) := dk_20 0 108 (dk_at dksX3_doomed_0 3 rfl rfl)
theorem dX3_doomed_6 : decode cX3_doomed 6 = .ok (.invokestatic 47, 3) := dk_184 0 47 (dk_at dksX3_doomed_0 6 rfl rfl)
theorem dX3_doomed_9 : decode cX3_doomed 9 = .ok (.ifCond .ne 10, 3) := dk_154 0 10 (dk_at dksX3_doomed_0 9 rfl rfl)
theorem dX3_doomed_12 : decode cX3_doomed 12 = .ok (.aload_n 0, 1) := dk_42 (dk_at dksX3_doomed_0 12 rfl rfl)
theorem dX3_doomed_13 : decode cX3_doomed 13 = .ok (.bipush (-82), 2) := dk_16 174 (dk_at dksX3_doomed_0 13 rfl rfl)
theorem dX3_doomed_15 : decode cX3_doomed 15 = .ok (.invokevirtual 75, 3) := dk_182 0 75 (dk_at dksX3_doomed_0 15 rfl rfl)
theorem dX3_doomed_18 : decode cX3_doomed 18 = .ok (.ireturn, 1) := dk_172 (dk_at dksX3_doomed_0 18 rfl rfl)
theorem dX3_doomed_19 : decode cX3_doomed 19 = .ok (.aload_n 0, 1) := dk_42 (dk_at dksX3_doomed_0 19 rfl rfl)
theorem dX3_doomed_20 : decode cX3_doomed 20 = .ok (.getfield 9, 3) := dk_180 0 9 (dk_at dksX3_doomed_0 20 rfl rfl)
theorem dX3_doomed_23 : decode cX3_doomed 23 = .ok (.aload_n 0, 1) := dk_42 (dk_at dksX3_doomed_0 23 rfl rfl)
theorem dX3_doomed_24 : decode cX3_doomed 24 = .ok (.getfield 13, 3) := dk_180 0 13 (dk_at dksX3_doomed_1 0 rfl rfl)
theorem dX3_doomed_27 : decode cX3_doomed 27 = .ok (.invokestatic 223, 3) := dk_184 0 223 (dk_at dksX3_doomed_1 3 rfl rfl)
theorem dX3_doomed_30 : decode cX3_doomed 30 = .ok (.aload_n 0, 1) := dk_42 (dk_at dksX3_doomed_1 6 rfl rfl)
theorem dX3_doomed_31 : decode cX3_doomed 31 = .ok (.iload_n 1, 1) := dk_27 (dk_at dksX3_doomed_1 7 rfl rfl)
theorem dX3_doomed_32 : decode cX3_doomed 32 = .ok (.invokevirtual 200, 3) := dk_182 0 200 (dk_at dksX3_doomed_1 8 rfl rfl)
theorem dX3_doomed_35 : decode cX3_doomed 35 = .ok (.istore_n 2, 1) := dk_61 (dk_at dksX3_doomed_1 11 rfl rfl)
theorem dX3_doomed_36 : decode cX3_doomed 36 = .ok (.aload_n 0, 1) := dk_42 (dk_at dksX3_doomed_1 12 rfl rfl)
theorem dX3_doomed_37 : decode cX3_doomed 37 = .ok (.getfield 13, 3) := dk_180 0 13 (dk_at dksX3_doomed_1 13 rfl rfl)
theorem dX3_doomed_40 : decode cX3_doomed 40 = .ok (.aload_n 0, 1) := dk_42 (dk_at dksX3_doomed_1 16 rfl rfl)
theorem dX3_doomed_41 : decode cX3_doomed 41 = .ok (.getfield 9, 3) := dk_180 0 9 (dk_at dksX3_doomed_1 17 rfl rfl)
theorem dX3_doomed_44 : decode cX3_doomed 44 = .ok (.invokestatic 223, 3) := dk_184 0 223 (dk_at dksX3_doomed_1 20 rfl rfl)
theorem dX3_doomed_47 : decode cX3_doomed 47 = .ok (.iload_n 2, 1) := dk_28 (dk_at dksX3_doomed_1 23 rfl rfl)
theorem dX3_doomed_48 : decode cX3_doomed 48 = .ok (.ireturn, 1) := dk_172 (dk_at dksX3_doomed_2 0 rfl rfl)
abbrev cX3_row : ByteArray := prog_24_method_78_code
def yX3_row : MethodName := ⟨RX3, "row", "(III)I"⟩
def dkwX3_row_3 : List UInt8 := [21, 4, 96, 9, 80, 132, 4, 1, 167, 255, 233, 4, 172]
abbrev dktX3_row_3 : List UInt8 := dkwX3_row_3 ++ []
def dkwX3_row_2 : List UInt8 := [180, 0, 37, 27, 29, 79, 3, 54, 4, 21, 4, 16, 40, 162, 0, 22, 42, 180, 0, 40, 16, 40, 27, 104]
abbrev dktX3_row_2 : List UInt8 := dkwX3_row_2 ++ dktX3_row_3
def dkwX3_row_1 : List UInt8 := [20, 0, 236, 184, 0, 47, 154, 0, 10, 42, 16, 174, 182, 0, 75, 172, 42, 180, 0, 34, 27, 28, 79, 42]
abbrev dktX3_row_1 : List UInt8 := dkwX3_row_1 ++ dktX3_row_2
def dkwX3_row_0 : List UInt8 := [27, 184, 0, 233, 153, 0, 27, 28, 133, 9, 20, 0, 218, 184, 0, 47, 153, 0, 15, 29, 133, 9]
abbrev dktX3_row_0 : List UInt8 := dkwX3_row_0 ++ dktX3_row_1
theorem dksX3_row_0 : cX3_row.data.toList.drop 0 = dktX3_row_0 := by decide +kernel
theorem dksX3_row_1 : cX3_row.data.toList.drop 22 = dktX3_row_1 := dk_seg dksX3_row_0 22 rfl rfl
theorem dksX3_row_2 : cX3_row.data.toList.drop 46 = dktX3_row_2 := dk_seg dksX3_row_1 24 rfl rfl
theorem dksX3_row_3 : cX3_row.data.toList.drop 70 = dktX3_row_3 := dk_seg dksX3_row_2 24 rfl rfl
theorem dX3_row_0 : decode cX3_row 0 = .ok (.iload_n 1, 1) := dk_27 (dk_at dksX3_row_0 0 rfl rfl)
theorem dX3_row_1 : decode cX3_row 1 = .ok (.invokestatic 233, 3) := dk_184 0 233 (dk_at dksX3_row_0 1 rfl rfl)
theorem dX3_row_4 : decode cX3_row 4 = .ok (.ifCond .eq 27, 3) := dk_153 0 27 (dk_at dksX3_row_0 4 rfl rfl)
theorem dX3_row_7 : decode cX3_row 7 = .ok (.iload_n 2, 1) := dk_28 (dk_at dksX3_row_0 7 rfl rfl)
theorem dX3_row_8 : decode cX3_row 8 = .ok (.i2l, 1) := dk_133 (dk_at dksX3_row_0 8 rfl rfl)
theorem dX3_row_9 : decode cX3_row 9 = .ok (.lconst 0, 1) := dk_9 (dk_at dksX3_row_0 9 rfl rfl)
theorem dX3_row_10 : decode cX3_row 10 = .ok (.ldc2_w 218, 3) := dk_20 0 218 (dk_at dksX3_row_0 10 rfl rfl)
theorem dX3_row_13 : decode cX3_row 13 = .ok (.invokestatic 47, 3) := dk_184 0 47 (dk_at dksX3_row_0 13 rfl rfl)
theorem dX3_row_16 : decode cX3_row 16 = .ok (.ifCond .eq 15, 3) := dk_153 0 15 (dk_at dksX3_row_0 16 rfl rfl)
theorem dX3_row_19 : decode cX3_row 19 = .ok (.iload_n 3, 1) := dk_29 (dk_at dksX3_row_0 19 rfl rfl)
theorem dX3_row_20 : decode cX3_row 20 = .ok (.i2l, 1) := dk_133 (dk_at dksX3_row_0 20 rfl rfl)
theorem dX3_row_21 : decode cX3_row 21 = .ok (.lconst 0, 1) := dk_9 (dk_at dksX3_row_0 21 rfl rfl)
theorem dX3_row_22 : decode cX3_row 22 = .ok (.ldc2_w 236, 3) := dk_20 0 236 (dk_at dksX3_row_1 0 rfl rfl)
theorem dX3_row_25 : decode cX3_row 25 = .ok (.invokestatic 47, 3) := dk_184 0 47 (dk_at dksX3_row_1 3 rfl rfl)
theorem dX3_row_28 : decode cX3_row 28 = .ok (.ifCond .ne 10, 3) := dk_154 0 10 (dk_at dksX3_row_1 6 rfl rfl)
theorem dX3_row_31 : decode cX3_row 31 = .ok (.aload_n 0, 1) := dk_42 (dk_at dksX3_row_1 9 rfl rfl)
theorem dX3_row_32 : decode cX3_row 32 = .ok (.bipush (-82), 2) := dk_16 174 (dk_at dksX3_row_1 10 rfl rfl)
theorem dX3_row_34 : decode cX3_row 34 = .ok (.invokevirtual 75, 3) := dk_182 0 75 (dk_at dksX3_row_1 12 rfl rfl)
theorem dX3_row_37 : decode cX3_row 37 = .ok (.ireturn, 1) := dk_172 (dk_at dksX3_row_1 15 rfl rfl)
theorem dX3_row_38 : decode cX3_row 38 = .ok (.aload_n 0, 1) := dk_42 (dk_at dksX3_row_1 16 rfl rfl)
theorem dX3_row_39 : decode cX3_row 39 = .ok (.getfield 34, 3) := dk_180 0 34 (dk_at dksX3_row_1 17 rfl rfl)
theorem dX3_row_42 : decode cX3_row 42 = .ok (.iload_n 1, 1) := dk_27 (dk_at dksX3_row_1 20 rfl rfl)
theorem dX3_row_43 : decode cX3_row 43 = .ok (.iload_n 2, 1) := dk_28 (dk_at dksX3_row_1 21 rfl rfl)
theorem dX3_row_44 : decode cX3_row 44 = .ok (.iastore, 1) := dk_79 (dk_at dksX3_row_1 22 rfl rfl)
theorem dX3_row_45 : decode cX3_row 45 = .ok (.aload_n 0, 1) := dk_42 (dk_at dksX3_row_1 23 rfl rfl)
theorem dX3_row_46 : decode cX3_row 46 = .ok (.getfield 37, 3) := dk_180 0 37 (dk_at dksX3_row_2 0 rfl rfl)
theorem dX3_row_49 : decode cX3_row 49 = .ok (.iload_n 1, 1) := dk_27 (dk_at dksX3_row_2 3 rfl rfl)
theorem dX3_row_50 : decode cX3_row 50 = .ok (.iload_n 3, 1) := dk_29 (dk_at dksX3_row_2 4 rfl rfl)
theorem dX3_row_51 : decode cX3_row 51 = .ok (.iastore, 1) := dk_79 (dk_at dksX3_row_2 5 rfl rfl)
theorem dX3_row_52 : decode cX3_row 52 = .ok (.iconst 0, 1) := dk_3 (dk_at dksX3_row_2 6 rfl rfl)
theorem dX3_row_53 : decode cX3_row 53 = .ok (.istore 4, 2) := dk_54 4 (dk_at dksX3_row_2 7 rfl rfl)
theorem dX3_row_55 : decode cX3_row 55 = .ok (.iload 4, 2) := dk_21 4 (dk_at dksX3_row_2 9 rfl rfl)
theorem dX3_row_57 : decode cX3_row 57 = .ok (.bipush 40, 2) := dk_16 40 (dk_at dksX3_row_2 11 rfl rfl)
theorem dX3_row_59 : decode cX3_row 59 = .ok (.if_icmp .ge 22, 3) := dk_162 0 22 (dk_at dksX3_row_2 13 rfl rfl)
theorem dX3_row_62 : decode cX3_row 62 = .ok (.aload_n 0, 1) := dk_42 (dk_at dksX3_row_2 16 rfl rfl)
theorem dX3_row_63 : decode cX3_row 63 = .ok (.getfield 40, 3) := dk_180 0 40 (dk_at dksX3_row_2 17 rfl rfl)
theorem dX3_row_66 : decode cX3_row 66 = .ok (.bipush 40, 2) := dk_16 40 (dk_at dksX3_row_2 20 rfl rfl)
theorem dX3_row_68 : decode cX3_row 68 = .ok (.iload_n 1, 1) := dk_27 (dk_at dksX3_row_2 22 rfl rfl)
theorem dX3_row_69 : decode cX3_row 69 = .ok (.imul, 1) := dk_104 (dk_at dksX3_row_2 23 rfl rfl)
theorem dX3_row_70 : decode cX3_row 70 = .ok (.iload 4, 2) := dk_21 4 (dk_at dksX3_row_3 0 rfl rfl)
theorem dX3_row_72 : decode cX3_row 72 = .ok (.iadd, 1) := dk_96 (dk_at dksX3_row_3 2 rfl rfl)
theorem dX3_row_73 : decode cX3_row 73 = .ok (.lconst 0, 1) := dk_9 (dk_at dksX3_row_3 3 rfl rfl)
theorem dX3_row_74 : decode cX3_row 74 = .ok (.lastore, 1) := dk_80 (dk_at dksX3_row_3 4 rfl rfl)
theorem dX3_row_75 : decode cX3_row 75 = .ok (.iinc 4 1, 3) := dk_132 4 1 (dk_at dksX3_row_3 5 rfl rfl)
theorem dX3_row_78 : decode cX3_row 78 = .ok (.goto (-23), 3) := dk_167 255 233 (dk_at dksX3_row_3 8 rfl rfl)
theorem dX3_row_81 : decode cX3_row 81 = .ok (.iconst 1, 1) := dk_4 (dk_at dksX3_row_3 11 rfl rfl)
theorem dX3_row_82 : decode cX3_row 82 = .ok (.ireturn, 1) := dk_172 (dk_at dksX3_row_3 12 rfl rfl)
abbrev cX3_isShelf : ByteArray := prog_24_method_77_code
def yX3_isShelf : MethodName := ⟨RX3, "isShelf", "(I)Z"⟩
def dkwX3_isShelf_0 : List UInt8 := [26, 133, 9, 20, 0, 147, 184, 0, 47, 172]
abbrev dktX3_isShelf_0 : List UInt8 := dkwX3_isShelf_0 ++ []
theorem dksX3_isShelf_0 : cX3_isShelf.data.toList.drop 0 = dktX3_isShelf_0 := by decide +kernel
theorem dX3_isShelf_0 : decode cX3_isShelf 0 = .ok (.iload_n 0, 1) := dk_26 (dk_at dksX3_isShelf_0 0 rfl rfl)
theorem dX3_isShelf_1 : decode cX3_isShelf 1 = .ok (.i2l, 1) := dk_133 (dk_at dksX3_isShelf_0 1 rfl rfl)
theorem dX3_isShelf_2 : decode cX3_isShelf 2 = .ok (.lconst 0, 1) := dk_9 (dk_at dksX3_isShelf_0 2 rfl rfl)
theorem dX3_isShelf_3 : decode cX3_isShelf 3 = .ok (.ldc2_w 147, 3) := dk_20 0 147 (dk_at dksX3_isShelf_0 3 rfl rfl)
theorem dX3_isShelf_6 : decode cX3_isShelf 6 = .ok (.invokestatic 47, 3) := dk_184 0 47 (dk_at dksX3_isShelf_0 6 rfl rfl)
theorem dX3_isShelf_9 : decode cX3_isShelf 9 = .ok (.ireturn, 1) := dk_172 (dk_at dksX3_isShelf_0 9 rfl rfl)
abbrev cX3_set : ByteArray := prog_24_method_80_code
def yX3_set : MethodName := ⟨RX3, "set", "(IIJ)I"⟩
def dkwX3_set_3 : List UInt8 := [42, 180, 0, 40, 16, 40, 27, 104, 28, 96, 42, 180, 0, 34, 27, 46, 33, 184, 0, 238, 80, 4, 172]
abbrev dktX3_set_3 : List UInt8 := dkwX3_set_3 ++ []
def dkwX3_set_2 : List UInt8 := [133, 9, 42, 180, 0, 37, 27, 46, 4, 100, 133, 184, 0, 47, 154, 0, 10, 42, 16, 174, 182, 0, 75, 172]
abbrev dktX3_set_2 : List UInt8 := dkwX3_set_2 ++ dktX3_set_3
def dkwX3_set_1 : List UInt8 := [42, 16, 173, 182, 0, 75, 172, 42, 180, 0, 34, 27, 46, 156, 0, 10, 42, 16, 172, 182, 0, 75, 172, 28]
abbrev dktX3_set_1 : List UInt8 := dkwX3_set_1 ++ dktX3_set_2
def dkwX3_set_0 : List UInt8 := [27, 184, 0, 233, 154, 0, 10, 42, 16, 174, 182, 0, 75, 172, 42, 180, 0, 34, 27, 46, 7, 164, 0, 10]
abbrev dktX3_set_0 : List UInt8 := dkwX3_set_0 ++ dktX3_set_1
theorem dksX3_set_0 : cX3_set.data.toList.drop 0 = dktX3_set_0 := by decide +kernel
theorem dksX3_set_1 : cX3_set.data.toList.drop 24 = dktX3_set_1 := dk_seg dksX3_set_0 24 rfl rfl
theorem dksX3_set_2 : cX3_set.data.toList.drop 48 = dktX3_set_2 := dk_seg dksX3_set_1 24 rfl rfl
theorem dksX3_set_3 : cX3_set.data.toList.drop 72 = dktX3_set_3 := dk_seg dksX3_set_2 24 rfl rfl
theorem dX3_set_0 : decode cX3_set 0 = .ok (.iload_n 1, 1) := dk_27 (dk_at dksX3_set_0 0 rfl rfl)
theorem dX3_set_1 : decode cX3_set 1 = .ok (.invokestatic 233, 3) := dk_184 0 233 (dk_at dksX3_set_0 1 rfl rfl)
theorem dX3_set_4 : decode cX3_set 4 = .ok (.ifCond .ne 10, 3) := dk_154 0 10 (dk_at dksX3_set_0 4 rfl rfl)
theorem dX3_set_7 : decode cX3_set 7 = .ok (.aload_n 0, 1) := dk_42 (dk_at dksX3_set_0 7 rfl rfl)
theorem dX3_set_8 : decode cX3_set 8 = .ok (.bipush (-82), 2) := dk_16 174 (dk_at dksX3_set_0 8 rfl rfl)
theorem dX3_set_10 : decode cX3_set 10 = .ok (.invokevirtual 75, 3) := dk_182 0 75 (dk_at dksX3_set_0 10 rfl rfl)
theorem dX3_set_13 : decode cX3_set 13 = .ok (.ireturn, 1) := dk_172 (dk_at dksX3_set_0 13 rfl rfl)
theorem dX3_set_14 : decode cX3_set 14 = .ok (.aload_n 0, 1) := dk_42 (dk_at dksX3_set_0 14 rfl rfl)
theorem dX3_set_15 : decode cX3_set 15 = .ok (.getfield 34, 3) := dk_180 0 34 (dk_at dksX3_set_0 15 rfl rfl)
theorem dX3_set_18 : decode cX3_set 18 = .ok (.iload_n 1, 1) := dk_27 (dk_at dksX3_set_0 18 rfl rfl)
theorem dX3_set_19 : decode cX3_set 19 = .ok (.iaload, 1) := dk_46 (dk_at dksX3_set_0 19 rfl rfl)
theorem dX3_set_20 : decode cX3_set 20 = .ok (.iconst 4, 1) := dk_7 (dk_at dksX3_set_0 20 rfl rfl)
theorem dX3_set_21 : decode cX3_set 21 = .ok (.if_icmp .le 10, 3) := dk_164 0 10 (dk_at dksX3_set_0 21 rfl rfl)
theorem dX3_set_24 : decode cX3_set 24 = .ok (.aload_n 0, 1) := dk_42 (dk_at dksX3_set_1 0 rfl rfl)
theorem dX3_set_25 : decode cX3_set 25 = .ok (.bipush (-83), 2) := dk_16 173 (dk_at dksX3_set_1 1 rfl rfl)
theorem dX3_set_27 : decode cX3_set 27 = .ok (.invokevirtual 75, 3) := dk_182 0 75 (dk_at dksX3_set_1 3 rfl rfl)
theorem dX3_set_30 : decode cX3_set 30 = .ok (.ireturn, 1) := dk_172 (dk_at dksX3_set_1 6 rfl rfl)
theorem dX3_set_31 : decode cX3_set 31 = .ok (.aload_n 0, 1) := dk_42 (dk_at dksX3_set_1 7 rfl rfl)
theorem dX3_set_32 : decode cX3_set 32 = .ok (.getfield 34, 3) := dk_180 0 34 (dk_at dksX3_set_1 8 rfl rfl)
theorem dX3_set_35 : decode cX3_set 35 = .ok (.iload_n 1, 1) := dk_27 (dk_at dksX3_set_1 11 rfl rfl)
theorem dX3_set_36 : decode cX3_set 36 = .ok (.iaload, 1) := dk_46 (dk_at dksX3_set_1 12 rfl rfl)
theorem dX3_set_37 : decode cX3_set 37 = .ok (.ifCond .ge 10, 3) := dk_156 0 10 (dk_at dksX3_set_1 13 rfl rfl)
theorem dX3_set_40 : decode cX3_set 40 = .ok (.aload_n 0, 1) := dk_42 (dk_at dksX3_set_1 16 rfl rfl)
theorem dX3_set_41 : decode cX3_set 41 = .ok (.bipush (-84), 2) := dk_16 172 (dk_at dksX3_set_1 17 rfl rfl)
theorem dX3_set_43 : decode cX3_set 43 = .ok (.invokevirtual 75, 3) := dk_182 0 75 (dk_at dksX3_set_1 19 rfl rfl)
theorem dX3_set_46 : decode cX3_set 46 = .ok (.ireturn, 1) := dk_172 (dk_at dksX3_set_1 22 rfl rfl)
theorem dX3_set_47 : decode cX3_set 47 = .ok (.iload_n 2, 1) := dk_28 (dk_at dksX3_set_1 23 rfl rfl)
theorem dX3_set_48 : decode cX3_set 48 = .ok (.i2l, 1) := dk_133 (dk_at dksX3_set_2 0 rfl rfl)
theorem dX3_set_49 : decode cX3_set 49 = .ok (.lconst 0, 1) := dk_9 (dk_at dksX3_set_2 1 rfl rfl)
theorem dX3_set_50 : decode cX3_set 50 = .ok (.aload_n 0, 1) := dk_42 (dk_at dksX3_set_2 2 rfl rfl)
theorem dX3_set_51 : decode cX3_set 51 = .ok (.getfield 37, 3) := dk_180 0 37 (dk_at dksX3_set_2 3 rfl rfl)
theorem dX3_set_54 : decode cX3_set 54 = .ok (.iload_n 1, 1) := dk_27 (dk_at dksX3_set_2 6 rfl rfl)
theorem dX3_set_55 : decode cX3_set 55 = .ok (.iaload, 1) := dk_46 (dk_at dksX3_set_2 7 rfl rfl)
theorem dX3_set_56 : decode cX3_set 56 = .ok (.iconst 1, 1) := dk_4 (dk_at dksX3_set_2 8 rfl rfl)
theorem dX3_set_57 : decode cX3_set 57 = .ok (.isub, 1) := dk_100 (dk_at dksX3_set_2 9 rfl rfl)
theorem dX3_set_58 : decode cX3_set 58 = .ok (.i2l, 1) := dk_133 (dk_at dksX3_set_2 10 rfl rfl)
theorem dX3_set_59 : decode cX3_set 59 = .ok (.invokestatic 47, 3) := dk_184 0 47 (dk_at dksX3_set_2 11 rfl rfl)
theorem dX3_set_62 : decode cX3_set 62 = .ok (.ifCond .ne 10, 3) := dk_154 0 10 (dk_at dksX3_set_2 14 rfl rfl)
theorem dX3_set_65 : decode cX3_set 65 = .ok (.aload_n 0, 1) := dk_42 (dk_at dksX3_set_2 17 rfl rfl)
theorem dX3_set_66 : decode cX3_set 66 = .ok (.bipush (-82), 2) := dk_16 174 (dk_at dksX3_set_2 18 rfl rfl)
theorem dX3_set_68 : decode cX3_set 68 = .ok (.invokevirtual 75, 3) := dk_182 0 75 (dk_at dksX3_set_2 20 rfl rfl)
theorem dX3_set_71 : decode cX3_set 71 = .ok (.ireturn, 1) := dk_172 (dk_at dksX3_set_2 23 rfl rfl)
theorem dX3_set_72 : decode cX3_set 72 = .ok (.aload_n 0, 1) := dk_42 (dk_at dksX3_set_3 0 rfl rfl)
theorem dX3_set_73 : decode cX3_set 73 = .ok (.getfield 40, 3) := dk_180 0 40 (dk_at dksX3_set_3 1 rfl rfl)
theorem dX3_set_76 : decode cX3_set 76 = .ok (.bipush 40, 2) := dk_16 40 (dk_at dksX3_set_3 4 rfl rfl)
theorem dX3_set_78 : decode cX3_set 78 = .ok (.iload_n 1, 1) := dk_27 (dk_at dksX3_set_3 6 rfl rfl)
theorem dX3_set_79 : decode cX3_set 79 = .ok (.imul, 1) := dk_104 (dk_at dksX3_set_3 7 rfl rfl)
theorem dX3_set_80 : decode cX3_set 80 = .ok (.iload_n 2, 1) := dk_28 (dk_at dksX3_set_3 8 rfl rfl)
theorem dX3_set_81 : decode cX3_set 81 = .ok (.iadd, 1) := dk_96 (dk_at dksX3_set_3 9 rfl rfl)
theorem dX3_set_82 : decode cX3_set 82 = .ok (.aload_n 0, 1) := dk_42 (dk_at dksX3_set_3 10 rfl rfl)
theorem dX3_set_83 : decode cX3_set 83 = .ok (.getfield 34, 3) := dk_180 0 34 (dk_at dksX3_set_3 11 rfl rfl)
theorem dX3_set_86 : decode cX3_set 86 = .ok (.iload_n 1, 1) := dk_27 (dk_at dksX3_set_3 14 rfl rfl)
theorem dX3_set_87 : decode cX3_set 87 = .ok (.iaload, 1) := dk_46 (dk_at dksX3_set_3 15 rfl rfl)
theorem dX3_set_88 : decode cX3_set 88 = .ok (.lload_n 3, 1) := dk_33 (dk_at dksX3_set_3 16 rfl rfl)
theorem dX3_set_89 : decode cX3_set 89 = .ok (.invokestatic 238, 3) := dk_184 0 238 (dk_at dksX3_set_3 17 rfl rfl)
theorem dX3_set_92 : decode cX3_set 92 = .ok (.lastore, 1) := dk_80 (dk_at dksX3_set_3 20 rfl rfl)
theorem dX3_set_93 : decode cX3_set 93 = .ok (.iconst 1, 1) := dk_4 (dk_at dksX3_set_3 21 rfl rfl)
theorem dX3_set_94 : decode cX3_set 94 = .ok (.ireturn, 1) := dk_172 (dk_at dksX3_set_3 22 rfl rfl)
abbrev cX3_lowest : ByteArray := prog_24_method_79_code
def yX3_lowest : MethodName := ⟨RX3, "lowest", "(IJ)J"⟩
def dkwX3_lowest_3 : List UInt8 := [167, 0, 4, 10, 173]
abbrev dktX3_lowest_3 : List UInt8 := dkwX3_lowest_3 ++ []
def dkwX3_lowest_2 : List UInt8 := [31, 136, 145, 133, 173, 31, 136, 147, 133, 173, 31, 136, 133, 173, 31, 173, 31, 9, 148, 154, 0, 7, 9]
abbrev dktX3_lowest_2 : List UInt8 := dkwX3_lowest_2 ++ dktX3_lowest_3
def dkwX3_lowest_1 : List UInt8 := [170, 0, 0, 0, 0, 0, 47, 0, 0, 0, 0, 0, 0, 0, 3, 0, 0, 0, 31, 0, 0, 0, 36, 0, 0, 0, 41, 0, 0, 0, 45]
abbrev dktX3_lowest_1 : List UInt8 := dkwX3_lowest_1 ++ dktX3_lowest_2
def dkwX3_lowest_0 : List UInt8 := [26]
abbrev dktX3_lowest_0 : List UInt8 := dkwX3_lowest_0 ++ dktX3_lowest_1
theorem dksX3_lowest_0 : cX3_lowest.data.toList.drop 0 = dktX3_lowest_0 := by decide +kernel
theorem dksX3_lowest_1 : cX3_lowest.data.toList.drop 1 = dktX3_lowest_1 := dk_seg dksX3_lowest_0 1 rfl rfl
theorem dksX3_lowest_2 : cX3_lowest.data.toList.drop 32 = dktX3_lowest_2 := dk_seg dksX3_lowest_1 31 rfl rfl
theorem dksX3_lowest_3 : cX3_lowest.data.toList.drop 55 = dktX3_lowest_3 := dk_seg dksX3_lowest_2 23 rfl rfl
theorem dX3_lowest_0 : decode cX3_lowest 0 = .ok (.iload_n 0, 1) := dk_26 (dk_at dksX3_lowest_0 0 rfl rfl)
theorem dX3_lowest_1 : decode cX3_lowest 1 = .ok (.tableswitch 47 0 3 #[31, 36, 41, 45], 31) := by decide +kernel
theorem dX3_lowest_32 : decode cX3_lowest 32 = .ok (.lload_n 1, 1) := dk_31 (dk_at dksX3_lowest_2 0 rfl rfl)
theorem dX3_lowest_33 : decode cX3_lowest 33 = .ok (.l2i, 1) := dk_136 (dk_at dksX3_lowest_2 1 rfl rfl)
theorem dX3_lowest_34 : decode cX3_lowest 34 = .ok (.i2b, 1) := dk_145 (dk_at dksX3_lowest_2 2 rfl rfl)
theorem dX3_lowest_35 : decode cX3_lowest 35 = .ok (.i2l, 1) := dk_133 (dk_at dksX3_lowest_2 3 rfl rfl)
theorem dX3_lowest_36 : decode cX3_lowest 36 = .ok (.lreturn, 1) := dk_173 (dk_at dksX3_lowest_2 4 rfl rfl)
theorem dX3_lowest_37 : decode cX3_lowest 37 = .ok (.lload_n 1, 1) := dk_31 (dk_at dksX3_lowest_2 5 rfl rfl)
theorem dX3_lowest_38 : decode cX3_lowest 38 = .ok (.l2i, 1) := dk_136 (dk_at dksX3_lowest_2 6 rfl rfl)
theorem dX3_lowest_39 : decode cX3_lowest 39 = .ok (.i2s, 1) := dk_147 (dk_at dksX3_lowest_2 7 rfl rfl)
theorem dX3_lowest_40 : decode cX3_lowest 40 = .ok (.i2l, 1) := dk_133 (dk_at dksX3_lowest_2 8 rfl rfl)
theorem dX3_lowest_41 : decode cX3_lowest 41 = .ok (.lreturn, 1) := dk_173 (dk_at dksX3_lowest_2 9 rfl rfl)
theorem dX3_lowest_42 : decode cX3_lowest 42 = .ok (.lload_n 1, 1) := dk_31 (dk_at dksX3_lowest_2 10 rfl rfl)
theorem dX3_lowest_43 : decode cX3_lowest 43 = .ok (.l2i, 1) := dk_136 (dk_at dksX3_lowest_2 11 rfl rfl)
theorem dX3_lowest_44 : decode cX3_lowest 44 = .ok (.i2l, 1) := dk_133 (dk_at dksX3_lowest_2 12 rfl rfl)
theorem dX3_lowest_45 : decode cX3_lowest 45 = .ok (.lreturn, 1) := dk_173 (dk_at dksX3_lowest_2 13 rfl rfl)
theorem dX3_lowest_46 : decode cX3_lowest 46 = .ok (.lload_n 1, 1) := dk_31 (dk_at dksX3_lowest_2 14 rfl rfl)
theorem dX3_lowest_47 : decode cX3_lowest 47 = .ok (.lreturn, 1) := dk_173 (dk_at dksX3_lowest_2 15 rfl rfl)
theorem dX3_lowest_48 : decode cX3_lowest 48 = .ok (.lload_n 1, 1) := dk_31 (dk_at dksX3_lowest_2 16 rfl rfl)
theorem dX3_lowest_49 : decode cX3_lowest 49 = .ok (.lconst 0, 1) := dk_9 (dk_at dksX3_lowest_2 17 rfl rfl)
theorem dX3_lowest_50 : decode cX3_lowest 50 = .ok (.lcmp, 1) := dk_148 (dk_at dksX3_lowest_2 18 rfl rfl)
theorem dX3_lowest_51 : decode cX3_lowest 51 = .ok (.ifCond .ne 7, 3) := dk_154 0 7 (dk_at dksX3_lowest_2 19 rfl rfl)
theorem dX3_lowest_54 : decode cX3_lowest 54 = .ok (.lconst 0, 1) := dk_9 (dk_at dksX3_lowest_2 22 rfl rfl)
theorem dX3_lowest_55 : decode cX3_lowest 55 = .ok (.goto 4, 3) := dk_167 0 4 (dk_at dksX3_lowest_3 0 rfl rfl)
theorem dX3_lowest_58 : decode cX3_lowest 58 = .ok (.lconst 1, 1) := dk_10 (dk_at dksX3_lowest_3 3 rfl rfl)
theorem dX3_lowest_59 : decode cX3_lowest 59 = .ok (.lreturn, 1) := dk_173 (dk_at dksX3_lowest_3 4 rfl rfl)
abbrev cX3_copy : ByteArray := prog_24_method_81_code
def yX3_copy : MethodName := ⟨RX3, "copy", "(IIIII)I"⟩
def dkwX3_copy_10 : List UInt8 := [132, 6, 1, 167, 255, 197, 21, 5, 172]
abbrev dktX3_copy_10 : List UInt8 := dkwX3_copy_10 ++ []
def dkwX3_copy_9 : List UInt8 := [104, 21, 4, 96, 21, 7, 96, 42, 180, 0, 40, 16, 40, 27, 104, 29, 96, 21, 7, 96, 47, 80]
abbrev dktX3_copy_9 : List UInt8 := dkwX3_copy_9 ++ dktX3_copy_10
def dkwX3_copy_8 : List UInt8 := [162, 0, 13, 21, 5, 4, 100, 21, 6, 100, 167, 0, 5, 21, 6, 54, 7, 42, 180, 0, 40, 16, 40, 28]
abbrev dktX3_copy_8 : List UInt8 := dkwX3_copy_8 ++ dktX3_copy_9
def dkwX3_copy_7 : List UInt8 := [164, 0, 10, 42, 16, 174, 182, 0, 75, 172, 3, 54, 6, 21, 6, 21, 5, 162, 0, 58, 29, 21, 4]
abbrev dktX3_copy_7 : List UInt8 := dkwX3_copy_7 ++ dktX3_copy_8
def dkwX3_copy_6 : List UInt8 := [21, 5, 42, 180, 0, 37, 27, 46, 29, 100, 163, 0, 17, 21, 5, 42, 180, 0, 37, 28, 46, 21, 4, 100]
abbrev dktX3_copy_6 : List UInt8 := dkwX3_copy_6 ++ dktX3_copy_7
def dkwX3_copy_5 : List UInt8 := [155, 0, 51, 29, 42, 180, 0, 37, 27, 46, 163, 0, 41, 21, 4, 42, 180, 0, 37, 28, 46, 163, 0, 30]
abbrev dktX3_copy_5 : List UInt8 := dkwX3_copy_5 ++ dktX3_copy_6
def dkwX3_copy_4 : List UInt8 := [28, 46, 156, 0, 10, 42, 16, 172, 182, 0, 75, 172, 29, 155, 0, 61, 21, 4, 155, 0, 56, 21, 5]
abbrev dktX3_copy_4 : List UInt8 := dkwX3_copy_4 ++ dktX3_copy_5
def dkwX3_copy_3 : List UInt8 := [46, 159, 0, 10, 42, 16, 173, 182, 0, 75, 172, 42, 180, 0, 34, 27, 46, 155, 0, 12, 42, 180, 0, 34]
abbrev dktX3_copy_3 : List UInt8 := dkwX3_copy_3 ++ dktX3_copy_4
def dkwX3_copy_2 : List UInt8 := [46, 155, 0, 34, 42, 180, 0, 34, 28, 46, 155, 0, 25, 42, 180, 0, 34, 27, 46, 42, 180, 0, 34, 28]
abbrev dktX3_copy_2 : List UInt8 := dkwX3_copy_2 ++ dktX3_copy_3
def dkwX3_copy_1 : List UInt8 := [180, 0, 34, 27, 46, 7, 163, 0, 46, 42, 180, 0, 34, 28, 46, 7, 163, 0, 36, 42, 180, 0, 34, 27]
abbrev dktX3_copy_1 : List UInt8 := dkwX3_copy_1 ++ dktX3_copy_2
def dkwX3_copy_0 : List UInt8 := [27, 184, 0, 233, 153, 0, 10, 28, 184, 0, 233, 154, 0, 10, 42, 16, 174, 182, 0, 75, 172, 42]
abbrev dktX3_copy_0 : List UInt8 := dkwX3_copy_0 ++ dktX3_copy_1
theorem dksX3_copy_0 : cX3_copy.data.toList.drop 0 = dktX3_copy_0 := by decide +kernel
theorem dksX3_copy_1 : cX3_copy.data.toList.drop 22 = dktX3_copy_1 := dk_seg dksX3_copy_0 22 rfl rfl
theorem dksX3_copy_2 : cX3_copy.data.toList.drop 46 = dktX3_copy_2 := dk_seg dksX3_copy_1 24 rfl rfl
theorem dksX3_copy_3 : cX3_copy.data.toList.drop 70 = dktX3_copy_3 := dk_seg dksX3_copy_2 24 rfl rfl
theorem dksX3_copy_4 : cX3_copy.data.toList.drop 94 = dktX3_copy_4 := dk_seg dksX3_copy_3 24 rfl rfl
theorem dksX3_copy_5 : cX3_copy.data.toList.drop 117 = dktX3_copy_5 := dk_seg dksX3_copy_4 23 rfl rfl
theorem dksX3_copy_6 : cX3_copy.data.toList.drop 141 = dktX3_copy_6 := dk_seg dksX3_copy_5 24 rfl rfl
theorem dksX3_copy_7 : cX3_copy.data.toList.drop 165 = dktX3_copy_7 := dk_seg dksX3_copy_6 24 rfl rfl
theorem dksX3_copy_8 : cX3_copy.data.toList.drop 188 = dktX3_copy_8 := dk_seg dksX3_copy_7 23 rfl rfl
theorem dksX3_copy_9 : cX3_copy.data.toList.drop 212 = dktX3_copy_9 := dk_seg dksX3_copy_8 24 rfl rfl
theorem dksX3_copy_10 : cX3_copy.data.toList.drop 234 = dktX3_copy_10 := dk_seg dksX3_copy_9 22 rfl rfl
theorem dX3_copy_0 : decode cX3_copy 0 = .ok (.iload_n 1, 1) := dk_27 (dk_at dksX3_copy_0 0 rfl rfl)
theorem dX3_copy_1 : decode cX3_copy 1 = .ok (.invokestatic 233, 3) := dk_184 0 233 (dk_at dksX3_copy_0 1 rfl rfl)
theorem dX3_copy_4 : decode cX3_copy 4 = .ok (.ifCond .eq 10, 3) := dk_153 0 10 (dk_at dksX3_copy_0 4 rfl rfl)
theorem dX3_copy_7 : decode cX3_copy 7 = .ok (.iload_n 2, 1) := dk_28 (dk_at dksX3_copy_0 7 rfl rfl)
theorem dX3_copy_8 : decode cX3_copy 8 = .ok (.invokestatic 233, 3) := dk_184 0 233 (dk_at dksX3_copy_0 8 rfl rfl)
theorem dX3_copy_11 : decode cX3_copy 11 = .ok (.ifCond .ne 10, 3) := dk_154 0 10 (dk_at dksX3_copy_0 11 rfl rfl)
theorem dX3_copy_14 : decode cX3_copy 14 = .ok (.aload_n 0, 1) := dk_42 (dk_at dksX3_copy_0 14 rfl rfl)
theorem dX3_copy_15 : decode cX3_copy 15 = .ok (.bipush (-82), 2) := dk_16 174 (dk_at dksX3_copy_0 15 rfl rfl)
theorem dX3_copy_17 : decode cX3_copy 17 = .ok (.invokevirtual 75, 3) := dk_182 0 75 (dk_at dksX3_copy_0 17 rfl rfl)
theorem dX3_copy_20 : decode cX3_copy 20 = .ok (.ireturn, 1) := dk_172 (dk_at dksX3_copy_0 20 rfl rfl)
theorem dX3_copy_21 : decode cX3_copy 21 = .ok (.aload_n 0, 1) := dk_42 (dk_at dksX3_copy_0 21 rfl rfl)
theorem dX3_copy_22 : decode cX3_copy 22 = .ok (.getfield 34, 3) := dk_180 0 34 (dk_at dksX3_copy_1 0 rfl rfl)
theorem dX3_copy_25 : decode cX3_copy 25 = .ok (.iload_n 1, 1) := dk_27 (dk_at dksX3_copy_1 3 rfl rfl)
theorem dX3_copy_26 : decode cX3_copy 26 = .ok (.iaload, 1) := dk_46 (dk_at dksX3_copy_1 4 rfl rfl)
theorem dX3_copy_27 : decode cX3_copy 27 = .ok (.iconst 4, 1) := dk_7 (dk_at dksX3_copy_1 5 rfl rfl)
theorem dX3_copy_28 : decode cX3_copy 28 = .ok (.if_icmp .gt 46, 3) := dk_163 0 46 (dk_at dksX3_copy_1 6 rfl rfl)
theorem dX3_copy_31 : decode cX3_copy 31 = .ok (.aload_n 0, 1) := dk_42 (dk_at dksX3_copy_1 9 rfl rfl)
theorem dX3_copy_32 : decode cX3_copy 32 = .ok (.getfield 34, 3) := dk_180 0 34 (dk_at dksX3_copy_1 10 rfl rfl)
theorem dX3_copy_35 : decode cX3_copy 35 = .ok (.iload_n 2, 1) := dk_28 (dk_at dksX3_copy_1 13 rfl rfl)
theorem dX3_copy_36 : decode cX3_copy 36 = .ok (.iaload, 1) := dk_46 (dk_at dksX3_copy_1 14 rfl rfl)
theorem dX3_copy_37 : decode cX3_copy 37 = .ok (.iconst 4, 1) := dk_7 (dk_at dksX3_copy_1 15 rfl rfl)
theorem dX3_copy_38 : decode cX3_copy 38 = .ok (.if_icmp .gt 36, 3) := dk_163 0 36 (dk_at dksX3_copy_1 16 rfl rfl)
theorem dX3_copy_41 : decode cX3_copy 41 = .ok (.aload_n 0, 1) := dk_42 (dk_at dksX3_copy_1 19 rfl rfl)
theorem dX3_copy_42 : decode cX3_copy 42 = .ok (.getfield 34, 3) := dk_180 0 34 (dk_at dksX3_copy_1 20 rfl rfl)
theorem dX3_copy_45 : decode cX3_copy 45 = .ok (.iload_n 1, 1) := dk_27 (dk_at dksX3_copy_1 23 rfl rfl)
theorem dX3_copy_46 : decode cX3_copy 46 = .ok (.iaload, 1) := dk_46 (dk_at dksX3_copy_2 0 rfl rfl)
theorem dX3_copy_47 : decode cX3_copy 47 = .ok (.ifCond .lt 34, 3) := dk_155 0 34 (dk_at dksX3_copy_2 1 rfl rfl)
theorem dX3_copy_50 : decode cX3_copy 50 = .ok (.aload_n 0, 1) := dk_42 (dk_at dksX3_copy_2 4 rfl rfl)
theorem dX3_copy_51 : decode cX3_copy 51 = .ok (.getfield 34, 3) := dk_180 0 34 (dk_at dksX3_copy_2 5 rfl rfl)
theorem dX3_copy_54 : decode cX3_copy 54 = .ok (.iload_n 2, 1) := dk_28 (dk_at dksX3_copy_2 8 rfl rfl)
theorem dX3_copy_55 : decode cX3_copy 55 = .ok (.iaload, 1) := dk_46 (dk_at dksX3_copy_2 9 rfl rfl)
theorem dX3_copy_56 : decode cX3_copy 56 = .ok (.ifCond .lt 25, 3) := dk_155 0 25 (dk_at dksX3_copy_2 10 rfl rfl)
theorem dX3_copy_59 : decode cX3_copy 59 = .ok (.aload_n 0, 1) := dk_42 (dk_at dksX3_copy_2 13 rfl rfl)
theorem dX3_copy_60 : decode cX3_copy 60 = .ok (.getfield 34, 3) := dk_180 0 34 (dk_at dksX3_copy_2 14 rfl rfl)
theorem dX3_copy_63 : decode cX3_copy 63 = .ok (.iload_n 1, 1) := dk_27 (dk_at dksX3_copy_2 17 rfl rfl)
theorem dX3_copy_64 : decode cX3_copy 64 = .ok (.iaload, 1) := dk_46 (dk_at dksX3_copy_2 18 rfl rfl)
theorem dX3_copy_65 : decode cX3_copy 65 = .ok (.aload_n 0, 1) := dk_42 (dk_at dksX3_copy_2 19 rfl rfl)
theorem dX3_copy_66 : decode cX3_copy 66 = .ok (.getfield 34, 3) := dk_180 0 34 (dk_at dksX3_copy_2 20 rfl rfl)
theorem dX3_copy_69 : decode cX3_copy 69 = .ok (.iload_n 2, 1) := dk_28 (dk_at dksX3_copy_2 23 rfl rfl)
theorem dX3_copy_70 : decode cX3_copy 70 = .ok (.iaload, 1) := dk_46 (dk_at dksX3_copy_3 0 rfl rfl)
theorem dX3_copy_71 : decode cX3_copy 71 = .ok (.if_icmp .eq 10, 3) := dk_159 0 10 (dk_at dksX3_copy_3 1 rfl rfl)
theorem dX3_copy_74 : decode cX3_copy 74 = .ok (.aload_n 0, 1) := dk_42 (dk_at dksX3_copy_3 4 rfl rfl)
theorem dX3_copy_75 : decode cX3_copy 75 = .ok (.bipush (-83), 2) := dk_16 173 (dk_at dksX3_copy_3 5 rfl rfl)
theorem dX3_copy_77 : decode cX3_copy 77 = .ok (.invokevirtual 75, 3) := dk_182 0 75 (dk_at dksX3_copy_3 7 rfl rfl)
theorem dX3_copy_80 : decode cX3_copy 80 = .ok (.ireturn, 1) := dk_172 (dk_at dksX3_copy_3 10 rfl rfl)
theorem dX3_copy_81 : decode cX3_copy 81 = .ok (.aload_n 0, 1) := dk_42 (dk_at dksX3_copy_3 11 rfl rfl)
theorem dX3_copy_82 : decode cX3_copy 82 = .ok (.getfield 34, 3) := dk_180 0 34 (dk_at dksX3_copy_3 12 rfl rfl)
theorem dX3_copy_85 : decode cX3_copy 85 = .ok (.iload_n 1, 1) := dk_27 (dk_at dksX3_copy_3 15 rfl rfl)
theorem dX3_copy_86 : decode cX3_copy 86 = .ok (.iaload, 1) := dk_46 (dk_at dksX3_copy_3 16 rfl rfl)
theorem dX3_copy_87 : decode cX3_copy 87 = .ok (.ifCond .lt 12, 3) := dk_155 0 12 (dk_at dksX3_copy_3 17 rfl rfl)
theorem dX3_copy_90 : decode cX3_copy 90 = .ok (.aload_n 0, 1) := dk_42 (dk_at dksX3_copy_3 20 rfl rfl)
theorem dX3_copy_91 : decode cX3_copy 91 = .ok (.getfield 34, 3) := dk_180 0 34 (dk_at dksX3_copy_3 21 rfl rfl)
theorem dX3_copy_94 : decode cX3_copy 94 = .ok (.iload_n 2, 1) := dk_28 (dk_at dksX3_copy_4 0 rfl rfl)
theorem dX3_copy_95 : decode cX3_copy 95 = .ok (.iaload, 1) := dk_46 (dk_at dksX3_copy_4 1 rfl rfl)
theorem dX3_copy_96 : decode cX3_copy 96 = .ok (.ifCond .ge 10, 3) := dk_156 0 10 (dk_at dksX3_copy_4 2 rfl rfl)
theorem dX3_copy_99 : decode cX3_copy 99 = .ok (.aload_n 0, 1) := dk_42 (dk_at dksX3_copy_4 5 rfl rfl)
theorem dX3_copy_100 : decode cX3_copy 100 = .ok (.bipush (-84), 2) := dk_16 172 (dk_at dksX3_copy_4 6 rfl rfl)
theorem dX3_copy_102 : decode cX3_copy 102 = .ok (.invokevirtual 75, 3) := dk_182 0 75 (dk_at dksX3_copy_4 8 rfl rfl)
theorem dX3_copy_105 : decode cX3_copy 105 = .ok (.ireturn, 1) := dk_172 (dk_at dksX3_copy_4 11 rfl rfl)
theorem dX3_copy_106 : decode cX3_copy 106 = .ok (.iload_n 3, 1) := dk_29 (dk_at dksX3_copy_4 12 rfl rfl)
theorem dX3_copy_107 : decode cX3_copy 107 = .ok (.ifCond .lt 61, 3) := dk_155 0 61 (dk_at dksX3_copy_4 13 rfl rfl)
theorem dX3_copy_110 : decode cX3_copy 110 = .ok (.iload 4, 2) := dk_21 4 (dk_at dksX3_copy_4 16 rfl rfl)
theorem dX3_copy_112 : decode cX3_copy 112 = .ok (.ifCond .lt 56, 3) := dk_155 0 56 (dk_at dksX3_copy_4 18 rfl rfl)
theorem dX3_copy_115 : decode cX3_copy 115 = .ok (.iload 5, 2) := dk_21 5 (dk_at dksX3_copy_4 21 rfl rfl)
theorem dX3_copy_117 : decode cX3_copy 117 = .ok (.ifCond .lt 51, 3) := dk_155 0 51 (dk_at dksX3_copy_5 0 rfl rfl)
theorem dX3_copy_120 : decode cX3_copy 120 = .ok (.iload_n 3, 1) := dk_29 (dk_at dksX3_copy_5 3 rfl rfl)
theorem dX3_copy_121 : decode cX3_copy 121 = .ok (.aload_n 0, 1) := dk_42 (dk_at dksX3_copy_5 4 rfl rfl)
theorem dX3_copy_122 : decode cX3_copy 122 = .ok (.getfield 37, 3) := dk_180 0 37 (dk_at dksX3_copy_5 5 rfl rfl)
theorem dX3_copy_125 : decode cX3_copy 125 = .ok (.iload_n 1, 1) := dk_27 (dk_at dksX3_copy_5 8 rfl rfl)
theorem dX3_copy_126 : decode cX3_copy 126 = .ok (.iaload, 1) := dk_46 (dk_at dksX3_copy_5 9 rfl rfl)
theorem dX3_copy_127 : decode cX3_copy 127 = .ok (.if_icmp .gt 41, 3) := dk_163 0 41 (dk_at dksX3_copy_5 10 rfl rfl)
theorem dX3_copy_130 : decode cX3_copy 130 = .ok (.iload 4, 2) := dk_21 4 (dk_at dksX3_copy_5 13 rfl rfl)
theorem dX3_copy_132 : decode cX3_copy 132 = .ok (.aload_n 0, 1) := dk_42 (dk_at dksX3_copy_5 15 rfl rfl)
theorem dX3_copy_133 : decode cX3_copy 133 = .ok (.getfield 37, 3) := dk_180 0 37 (dk_at dksX3_copy_5 16 rfl rfl)
theorem dX3_copy_136 : decode cX3_copy 136 = .ok (.iload_n 2, 1) := dk_28 (dk_at dksX3_copy_5 19 rfl rfl)
theorem dX3_copy_137 : decode cX3_copy 137 = .ok (.iaload, 1) := dk_46 (dk_at dksX3_copy_5 20 rfl rfl)
theorem dX3_copy_138 : decode cX3_copy 138 = .ok (.if_icmp .gt 30, 3) := dk_163 0 30 (dk_at dksX3_copy_5 21 rfl rfl)
theorem dX3_copy_141 : decode cX3_copy 141 = .ok (.iload 5, 2) := dk_21 5 (dk_at dksX3_copy_6 0 rfl rfl)
theorem dX3_copy_143 : decode cX3_copy 143 = .ok (.aload_n 0, 1) := dk_42 (dk_at dksX3_copy_6 2 rfl rfl)
theorem dX3_copy_144 : decode cX3_copy 144 = .ok (.getfield 37, 3) := dk_180 0 37 (dk_at dksX3_copy_6 3 rfl rfl)
theorem dX3_copy_147 : decode cX3_copy 147 = .ok (.iload_n 1, 1) := dk_27 (dk_at dksX3_copy_6 6 rfl rfl)
theorem dX3_copy_148 : decode cX3_copy 148 = .ok (.iaload, 1) := dk_46 (dk_at dksX3_copy_6 7 rfl rfl)
theorem dX3_copy_149 : decode cX3_copy 149 = .ok (.iload_n 3, 1) := dk_29 (dk_at dksX3_copy_6 8 rfl rfl)
theorem dX3_copy_150 : decode cX3_copy 150 = .ok (.isub, 1) := dk_100 (dk_at dksX3_copy_6 9 rfl rfl)
theorem dX3_copy_151 : decode cX3_copy 151 = .ok (.if_icmp .gt 17, 3) := dk_163 0 17 (dk_at dksX3_copy_6 10 rfl rfl)
theorem dX3_copy_154 : decode cX3_copy 154 = .ok (.iload 5, 2) := dk_21 5 (dk_at dksX3_copy_6 13 rfl rfl)
theorem dX3_copy_156 : decode cX3_copy 156 = .ok (.aload_n 0, 1) := dk_42 (dk_at dksX3_copy_6 15 rfl rfl)
theorem dX3_copy_157 : decode cX3_copy 157 = .ok (.getfield 37, 3) := dk_180 0 37 (dk_at dksX3_copy_6 16 rfl rfl)
theorem dX3_copy_160 : decode cX3_copy 160 = .ok (.iload_n 2, 1) := dk_28 (dk_at dksX3_copy_6 19 rfl rfl)
theorem dX3_copy_161 : decode cX3_copy 161 = .ok (.iaload, 1) := dk_46 (dk_at dksX3_copy_6 20 rfl rfl)
theorem dX3_copy_162 : decode cX3_copy 162 = .ok (.iload 4, 2) := dk_21 4 (dk_at dksX3_copy_6 21 rfl rfl)
theorem dX3_copy_164 : decode cX3_copy 164 = .ok (.isub, 1) := dk_100 (dk_at dksX3_copy_6 23 rfl rfl)
theorem dX3_copy_165 : decode cX3_copy 165 = .ok (.if_icmp .le 10, 3) := dk_164 0 10 (dk_at dksX3_copy_7 0 rfl rfl)
theorem dX3_copy_168 : decode cX3_copy 168 = .ok (.aload_n 0, 1) := dk_42 (dk_at dksX3_copy_7 3 rfl rfl)
theorem dX3_copy_169 : decode cX3_copy 169 = .ok (.bipush (-82), 2) := dk_16 174 (dk_at dksX3_copy_7 4 rfl rfl)
theorem dX3_copy_171 : decode cX3_copy 171 = .ok (.invokevirtual 75, 3) := dk_182 0 75 (dk_at dksX3_copy_7 6 rfl rfl)
theorem dX3_copy_174 : decode cX3_copy 174 = .ok (.ireturn, 1) := dk_172 (dk_at dksX3_copy_7 9 rfl rfl)
theorem dX3_copy_175 : decode cX3_copy 175 = .ok (.iconst 0, 1) := dk_3 (dk_at dksX3_copy_7 10 rfl rfl)
theorem dX3_copy_176 : decode cX3_copy 176 = .ok (.istore 6, 2) := dk_54 6 (dk_at dksX3_copy_7 11 rfl rfl)
theorem dX3_copy_178 : decode cX3_copy 178 = .ok (.iload 6, 2) := dk_21 6 (dk_at dksX3_copy_7 13 rfl rfl)
theorem dX3_copy_180 : decode cX3_copy 180 = .ok (.iload 5, 2) := dk_21 5 (dk_at dksX3_copy_7 15 rfl rfl)
theorem dX3_copy_182 : decode cX3_copy 182 = .ok (.if_icmp .ge 58, 3) := dk_162 0 58 (dk_at dksX3_copy_7 17 rfl rfl)
theorem dX3_copy_185 : decode cX3_copy 185 = .ok (.iload_n 3, 1) := dk_29 (dk_at dksX3_copy_7 20 rfl rfl)
theorem dX3_copy_186 : decode cX3_copy 186 = .ok (.iload 4, 2) := dk_21 4 (dk_at dksX3_copy_7 21 rfl rfl)
theorem dX3_copy_188 : decode cX3_copy 188 = .ok (.if_icmp .ge 13, 3) := dk_162 0 13 (dk_at dksX3_copy_8 0 rfl rfl)
theorem dX3_copy_191 : decode cX3_copy 191 = .ok (.iload 5, 2) := dk_21 5 (dk_at dksX3_copy_8 3 rfl rfl)
theorem dX3_copy_193 : decode cX3_copy 193 = .ok (.iconst 1, 1) := dk_4 (dk_at dksX3_copy_8 5 rfl rfl)
theorem dX3_copy_194 : decode cX3_copy 194 = .ok (.isub, 1) := dk_100 (dk_at dksX3_copy_8 6 rfl rfl)
theorem dX3_copy_195 : decode cX3_copy 195 = .ok (.iload 6, 2) := dk_21 6 (dk_at dksX3_copy_8 7 rfl rfl)
theorem dX3_copy_197 : decode cX3_copy 197 = .ok (.isub, 1) := dk_100 (dk_at dksX3_copy_8 9 rfl rfl)
theorem dX3_copy_198 : decode cX3_copy 198 = .ok (.goto 5, 3) := dk_167 0 5 (dk_at dksX3_copy_8 10 rfl rfl)
theorem dX3_copy_201 : decode cX3_copy 201 = .ok (.iload 6, 2) := dk_21 6 (dk_at dksX3_copy_8 13 rfl rfl)
theorem dX3_copy_203 : decode cX3_copy 203 = .ok (.istore 7, 2) := dk_54 7 (dk_at dksX3_copy_8 15 rfl rfl)
theorem dX3_copy_205 : decode cX3_copy 205 = .ok (.aload_n 0, 1) := dk_42 (dk_at dksX3_copy_8 17 rfl rfl)
theorem dX3_copy_206 : decode cX3_copy 206 = .ok (.getfield 40, 3) := dk_180 0 40 (dk_at dksX3_copy_8 18 rfl rfl)
theorem dX3_copy_209 : decode cX3_copy 209 = .ok (.bipush 40, 2) := dk_16 40 (dk_at dksX3_copy_8 21 rfl rfl)
theorem dX3_copy_211 : decode cX3_copy 211 = .ok (.iload_n 2, 1) := dk_28 (dk_at dksX3_copy_8 23 rfl rfl)
theorem dX3_copy_212 : decode cX3_copy 212 = .ok (.imul, 1) := dk_104 (dk_at dksX3_copy_9 0 rfl rfl)
theorem dX3_copy_213 : decode cX3_copy 213 = .ok (.iload 4, 2) := dk_21 4 (dk_at dksX3_copy_9 1 rfl rfl)
theorem dX3_copy_215 : decode cX3_copy 215 = .ok (.iadd, 1) := dk_96 (dk_at dksX3_copy_9 3 rfl rfl)
theorem dX3_copy_216 : decode cX3_copy 216 = .ok (.iload 7, 2) := dk_21 7 (dk_at dksX3_copy_9 4 rfl rfl)
theorem dX3_copy_218 : decode cX3_copy 218 = .ok (.iadd, 1) := dk_96 (dk_at dksX3_copy_9 6 rfl rfl)
theorem dX3_copy_219 : decode cX3_copy 219 = .ok (.aload_n 0, 1) := dk_42 (dk_at dksX3_copy_9 7 rfl rfl)
theorem dX3_copy_220 : decode cX3_copy 220 = .ok (.getfield 40, 3) := dk_180 0 40 (dk_at dksX3_copy_9 8 rfl rfl)
theorem dX3_copy_223 : decode cX3_copy 223 = .ok (.bipush 40, 2) := dk_16 40 (dk_at dksX3_copy_9 11 rfl rfl)
theorem dX3_copy_225 : decode cX3_copy 225 = .ok (.iload_n 1, 1) := dk_27 (dk_at dksX3_copy_9 13 rfl rfl)
theorem dX3_copy_226 : decode cX3_copy 226 = .ok (.imul, 1) := dk_104 (dk_at dksX3_copy_9 14 rfl rfl)
theorem dX3_copy_227 : decode cX3_copy 227 = .ok (.iload_n 3, 1) := dk_29 (dk_at dksX3_copy_9 15 rfl rfl)
theorem dX3_copy_228 : decode cX3_copy 228 = .ok (.iadd, 1) := dk_96 (dk_at dksX3_copy_9 16 rfl rfl)
theorem dX3_copy_229 : decode cX3_copy 229 = .ok (.iload 7, 2) := dk_21 7 (dk_at dksX3_copy_9 17 rfl rfl)
theorem dX3_copy_231 : decode cX3_copy 231 = .ok (.iadd, 1) := dk_96 (dk_at dksX3_copy_9 19 rfl rfl)
theorem dX3_copy_232 : decode cX3_copy 232 = .ok (.laload, 1) := dk_47 (dk_at dksX3_copy_9 20 rfl rfl)
theorem dX3_copy_233 : decode cX3_copy 233 = .ok (.lastore, 1) := dk_80 (dk_at dksX3_copy_9 21 rfl rfl)
theorem dX3_copy_234 : decode cX3_copy 234 = .ok (.iinc 6 1, 3) := dk_132 6 1 (dk_at dksX3_copy_10 0 rfl rfl)
theorem dX3_copy_237 : decode cX3_copy 237 = .ok (.goto (-59), 3) := dk_167 255 197 (dk_at dksX3_copy_10 3 rfl rfl)
theorem dX3_copy_240 : decode cX3_copy 240 = .ok (.iload 5, 2) := dk_21 5 (dk_at dksX3_copy_10 6 rfl rfl)
theorem dX3_copy_242 : decode cX3_copy 242 = .ok (.ireturn, 1) := dk_172 (dk_at dksX3_copy_10 8 rfl rfl)
abbrev cX3_element : ByteArray := prog_24_method_82_code
def yX3_element : MethodName := ⟨RX3, "element", "(II)J"⟩
def dkwX3_element_2 : List UInt8 := [27, 104, 28, 96, 47, 167, 0, 4, 9, 173]
abbrev dktX3_element_2 : List UInt8 := dkwX3_element_2 ++ []
def dkwX3_element_1 : List UInt8 := [28, 133, 9, 42, 180, 0, 37, 27, 46, 4, 100, 133, 184, 0, 47, 153, 0, 17, 42, 180, 0, 40, 16, 40]
abbrev dktX3_element_1 : List UInt8 := dkwX3_element_1 ++ dktX3_element_2
def dkwX3_element_0 : List UInt8 := [27, 184, 0, 233, 153, 0, 52, 42, 180, 0, 34, 27, 46, 133, 9, 20, 0, 218, 184, 0, 47, 153, 0, 35]
abbrev dktX3_element_0 : List UInt8 := dkwX3_element_0 ++ dktX3_element_1
theorem dksX3_element_0 : cX3_element.data.toList.drop 0 = dktX3_element_0 := by decide +kernel
theorem dksX3_element_1 : cX3_element.data.toList.drop 24 = dktX3_element_1 := dk_seg dksX3_element_0 24 rfl rfl
theorem dksX3_element_2 : cX3_element.data.toList.drop 48 = dktX3_element_2 := dk_seg dksX3_element_1 24 rfl rfl
theorem dX3_element_0 : decode cX3_element 0 = .ok (.iload_n 1, 1) := dk_27 (dk_at dksX3_element_0 0 rfl rfl)
theorem dX3_element_1 : decode cX3_element 1 = .ok (.invokestatic 233, 3) := dk_184 0 233 (dk_at dksX3_element_0 1 rfl rfl)
theorem dX3_element_4 : decode cX3_element 4 = .ok (.ifCond .eq 52, 3) := dk_153 0 52 (dk_at dksX3_element_0 4 rfl rfl)
theorem dX3_element_7 : decode cX3_element 7 = .ok (.aload_n 0, 1) := dk_42 (dk_at dksX3_element_0 7 rfl rfl)
theorem dX3_element_8 : decode cX3_element 8 = .ok (.getfield 34, 3) := dk_180 0 34 (dk_at dksX3_element_0 8 rfl rfl)
theorem dX3_element_11 : decode cX3_element 11 = .ok (.iload_n 1, 1) := dk_27 (dk_at dksX3_element_0 11 rfl rfl)
theorem dX3_element_12 : decode cX3_element 12 = .ok (.iaload, 1) := dk_46 (dk_at dksX3_element_0 12 rfl rfl)
theorem dX3_element_13 : decode cX3_element 13 = .ok (.i2l, 1) := dk_133 (dk_at dksX3_element_0 13 rfl rfl)
theorem dX3_element_14 : decode cX3_element 14 = .ok (.lconst 0, 1) := dk_9 (dk_at dksX3_element_0 14 rfl rfl)
theorem dX3_element_15 : decode cX3_element 15 = .ok (.ldc2_w 218, 3) := dk_20 0 218 (dk_at dksX3_element_0 15 rfl rfl)
theorem dX3_element_18 : decode cX3_element 18 = .ok (.invokestatic 47, 3) := dk_184 0 47 (dk_at dksX3_element_0 18 rfl rfl)
theorem dX3_element_21 : decode cX3_element 21 = .ok (.ifCond .eq 35, 3) := dk_153 0 35 (dk_at dksX3_element_0 21 rfl rfl)
theorem dX3_element_24 : decode cX3_element 24 = .ok (.iload_n 2, 1) := dk_28 (dk_at dksX3_element_1 0 rfl rfl)
theorem dX3_element_25 : decode cX3_element 25 = .ok (.i2l, 1) := dk_133 (dk_at dksX3_element_1 1 rfl rfl)
theorem dX3_element_26 : decode cX3_element 26 = .ok (.lconst 0, 1) := dk_9 (dk_at dksX3_element_1 2 rfl rfl)
theorem dX3_element_27 : decode cX3_element 27 = .ok (.aload_n 0, 1) := dk_42 (dk_at dksX3_element_1 3 rfl rfl)
theorem dX3_element_28 : decode cX3_element 28 = .ok (.getfield 37, 3) := dk_180 0 37 (dk_at dksX3_element_1 4 rfl rfl)
theorem dX3_element_31 : decode cX3_element 31 = .ok (.iload_n 1, 1) := dk_27 (dk_at dksX3_element_1 7 rfl rfl)
theorem dX3_element_32 : decode cX3_element 32 = .ok (.iaload, 1) := dk_46 (dk_at dksX3_element_1 8 rfl rfl)
theorem dX3_element_33 : decode cX3_element 33 = .ok (.iconst 1, 1) := dk_4 (dk_at dksX3_element_1 9 rfl rfl)
theorem dX3_element_34 : decode cX3_element 34 = .ok (.isub, 1) := dk_100 (dk_at dksX3_element_1 10 rfl rfl)
theorem dX3_element_35 : decode cX3_element 35 = .ok (.i2l, 1) := dk_133 (dk_at dksX3_element_1 11 rfl rfl)
theorem dX3_element_36 : decode cX3_element 36 = .ok (.invokestatic 47, 3) := dk_184 0 47 (dk_at dksX3_element_1 12 rfl rfl)
theorem dX3_element_39 : decode cX3_element 39 = .ok (.ifCond .eq 17, 3) := dk_153 0 17 (dk_at dksX3_element_1 15 rfl rfl)
theorem dX3_element_42 : decode cX3_element 42 = .ok (.aload_n 0, 1) := dk_42 (dk_at dksX3_element_1 18 rfl rfl)
theorem dX3_element_43 : decode cX3_element 43 = .ok (.getfield 40, 3) := dk_180 0 40 (dk_at dksX3_element_1 19 rfl rfl)
theorem dX3_element_46 : decode cX3_element 46 = .ok (.bipush 40, 2) := dk_16 40 (dk_at dksX3_element_1 22 rfl rfl)
theorem dX3_element_48 : decode cX3_element 48 = .ok (.iload_n 1, 1) := dk_27 (dk_at dksX3_element_2 0 rfl rfl)
theorem dX3_element_49 : decode cX3_element 49 = .ok (.imul, 1) := dk_104 (dk_at dksX3_element_2 1 rfl rfl)
theorem dX3_element_50 : decode cX3_element 50 = .ok (.iload_n 2, 1) := dk_28 (dk_at dksX3_element_2 2 rfl rfl)
theorem dX3_element_51 : decode cX3_element 51 = .ok (.iadd, 1) := dk_96 (dk_at dksX3_element_2 3 rfl rfl)
theorem dX3_element_52 : decode cX3_element 52 = .ok (.laload, 1) := dk_47 (dk_at dksX3_element_2 4 rfl rfl)
theorem dX3_element_53 : decode cX3_element 53 = .ok (.goto 4, 3) := dk_167 0 4 (dk_at dksX3_element_2 5 rfl rfl)
theorem dX3_element_56 : decode cX3_element 56 = .ok (.lconst 0, 1) := dk_9 (dk_at dksX3_element_2 8 rfl rfl)
theorem dX3_element_57 : decode cX3_element 57 = .ok (.lreturn, 1) := dk_173 (dk_at dksX3_element_2 9 rfl rfl)
abbrev cX3_holds : ByteArray := prog_24_method_83_code
def yX3_holds : MethodName := ⟨RX3, "holds", "(I)I"⟩
def dkwX3_holds_0 : List UInt8 := [27, 184, 0, 233, 153, 0, 12, 42, 180, 0, 34, 27, 46, 167, 0, 4, 2, 172]
abbrev dktX3_holds_0 : List UInt8 := dkwX3_holds_0 ++ []
theorem dksX3_holds_0 : cX3_holds.data.toList.drop 0 = dktX3_holds_0 := by decide +kernel
theorem dX3_holds_0 : decode cX3_holds 0 = .ok (.iload_n 1, 1) := dk_27 (dk_at dksX3_holds_0 0 rfl rfl)
theorem dX3_holds_1 : decode cX3_holds 1 = .ok (.invokestatic 233, 3) := dk_184 0 233 (dk_at dksX3_holds_0 1 rfl rfl)
theorem dX3_holds_4 : decode cX3_holds 4 = .ok (.ifCond .eq 12, 3) := dk_153 0 12 (dk_at dksX3_holds_0 4 rfl rfl)
theorem dX3_holds_7 : decode cX3_holds 7 = .ok (.aload_n 0, 1) := dk_42 (dk_at dksX3_holds_0 7 rfl rfl)
theorem dX3_holds_8 : decode cX3_holds 8 = .ok (.getfield 34, 3) := dk_180 0 34 (dk_at dksX3_holds_0 8 rfl rfl)
theorem dX3_holds_11 : decode cX3_holds 11 = .ok (.iload_n 1, 1) := dk_27 (dk_at dksX3_holds_0 11 rfl rfl)
theorem dX3_holds_12 : decode cX3_holds 12 = .ok (.iaload, 1) := dk_46 (dk_at dksX3_holds_0 12 rfl rfl)
theorem dX3_holds_13 : decode cX3_holds 13 = .ok (.goto 4, 3) := dk_167 0 4 (dk_at dksX3_holds_0 13 rfl rfl)
theorem dX3_holds_16 : decode cX3_holds 16 = .ok (.iconst (-1), 1) := dk_2 (dk_at dksX3_holds_0 16 rfl rfl)
theorem dX3_holds_17 : decode cX3_holds 17 = .ok (.ireturn, 1) := dk_172 (dk_at dksX3_holds_0 17 rfl rfl)
abbrev cX3_show : ByteArray := prog_24_method_84_code
def yX3_show : MethodName := ⟨RX3, "show", "(III)I"⟩
def dkwX3_show_4 : List UInt8 := [16, 10, 42, 180, 0, 44, 7, 27, 104, 46, 96, 79, 4, 172]
abbrev dktX3_show_4 : List UInt8 := dkwX3_show_4 ++ []
def dkwX3_show_3 : List UInt8 := [96, 7, 96, 7, 29, 104, 96, 21, 4, 96, 46, 79, 132, 4, 1, 167, 255, 214, 42, 180, 0, 34, 27]
abbrev dktX3_show_3 : List UInt8 := dkwX3_show_3 ++ dktX3_show_4
def dkwX3_show_2 : List UInt8 := [162, 0, 42, 42, 180, 0, 44, 7, 27, 104, 21, 4, 96, 42, 180, 0, 9, 17, 10, 191, 16, 24, 28, 104]
abbrev dktX3_show_2 : List UInt8 := dkwX3_show_2 ++ dktX3_show_3
def dkwX3_show_1 : List UInt8 := [182, 0, 75, 172, 28, 2, 160, 0, 12, 42, 180, 0, 34, 27, 2, 79, 4, 172, 3, 54, 4, 21, 4, 7]
abbrev dktX3_show_1 : List UInt8 := dkwX3_show_1 ++ dktX3_show_2
def dkwX3_show_0 : List UInt8 := [27, 184, 0, 233, 153, 0, 17, 28, 2, 159, 0, 19, 42, 28, 29, 182, 0, 220, 154, 0, 10, 42, 16, 174]
abbrev dktX3_show_0 : List UInt8 := dkwX3_show_0 ++ dktX3_show_1
theorem dksX3_show_0 : cX3_show.data.toList.drop 0 = dktX3_show_0 := by decide +kernel
theorem dksX3_show_1 : cX3_show.data.toList.drop 24 = dktX3_show_1 := dk_seg dksX3_show_0 24 rfl rfl
theorem dksX3_show_2 : cX3_show.data.toList.drop 48 = dktX3_show_2 := dk_seg dksX3_show_1 24 rfl rfl
theorem dksX3_show_3 : cX3_show.data.toList.drop 72 = dktX3_show_3 := dk_seg dksX3_show_2 24 rfl rfl
theorem dksX3_show_4 : cX3_show.data.toList.drop 95 = dktX3_show_4 := dk_seg dksX3_show_3 23 rfl rfl
theorem dX3_show_0 : decode cX3_show 0 = .ok (.iload_n 1, 1) := dk_27 (dk_at dksX3_show_0 0 rfl rfl)
theorem dX3_show_1 : decode cX3_show 1 = .ok (.invokestatic 233, 3) := dk_184 0 233 (dk_at dksX3_show_0 1 rfl rfl)
theorem dX3_show_4 : decode cX3_show 4 = .ok (.ifCond .eq 17, 3) := dk_153 0 17 (dk_at dksX3_show_0 4 rfl rfl)
theorem dX3_show_7 : decode cX3_show 7 = .ok (.iload_n 2, 1) := dk_28 (dk_at dksX3_show_0 7 rfl rfl)
theorem dX3_show_8 : decode cX3_show 8 = .ok (.iconst (-1), 1) := dk_2 (dk_at dksX3_show_0 8 rfl rfl)
theorem dX3_show_9 : decode cX3_show 9 = .ok (.if_icmp .eq 19, 3) := dk_159 0 19 (dk_at dksX3_show_0 9 rfl rfl)
theorem dX3_show_12 : decode cX3_show 12 = .ok (.aload_n 0, 1) := dk_42 (dk_at dksX3_show_0 12 rfl rfl)
theorem dX3_show_13 : decode cX3_show 13 = .ok (.iload_n 2, 1) := dk_28 (dk_at dksX3_show_0 13 rfl rfl)
theorem dX3_show_14 : decode cX3_show 14 = .ok (.iload_n 3, 1) := dk_29 (dk_at dksX3_show_0 14 rfl rfl)
theorem dX3_show_15 : decode cX3_show 15 = .ok (.invokevirtual 220, 3) := dk_182 0 220 (dk_at dksX3_show_0 15 rfl rfl)
theorem dX3_show_18 : decode cX3_show 18 = .ok (.ifCond .ne 10, 3) := dk_154 0 10 (dk_at dksX3_show_0 18 rfl rfl)
theorem dX3_show_21 : decode cX3_show 21 = .ok (.aload_n 0, 1) := dk_42 (dk_at dksX3_show_0 21 rfl rfl)
theorem dX3_show_22 : decode cX3_show 22 = .ok (.bipush (-82), 2) := dk_16 174 (dk_at dksX3_show_0 22 rfl rfl)
theorem dX3_show_24 : decode cX3_show 24 = .ok (.invokevirtual 75, 3) := dk_182 0 75 (dk_at dksX3_show_1 0 rfl rfl)
theorem dX3_show_27 : decode cX3_show 27 = .ok (.ireturn, 1) := dk_172 (dk_at dksX3_show_1 3 rfl rfl)
theorem dX3_show_28 : decode cX3_show 28 = .ok (.iload_n 2, 1) := dk_28 (dk_at dksX3_show_1 4 rfl rfl)
theorem dX3_show_29 : decode cX3_show 29 = .ok (.iconst (-1), 1) := dk_2 (dk_at dksX3_show_1 5 rfl rfl)
theorem dX3_show_30 : decode cX3_show 30 = .ok (.if_icmp .ne 12, 3) := dk_160 0 12 (dk_at dksX3_show_1 6 rfl rfl)
theorem dX3_show_33 : decode cX3_show 33 = .ok (.aload_n 0, 1) := dk_42 (dk_at dksX3_show_1 9 rfl rfl)
theorem dX3_show_34 : decode cX3_show 34 = .ok (.getfield 34, 3) := dk_180 0 34 (dk_at dksX3_show_1 10 rfl rfl)
theorem dX3_show_37 : decode cX3_show 37 = .ok (.iload_n 1, 1) := dk_27 (dk_at dksX3_show_1 13 rfl rfl)
theorem dX3_show_38 : decode cX3_show 38 = .ok (.iconst (-1), 1) := dk_2 (dk_at dksX3_show_1 14 rfl rfl)
theorem dX3_show_39 : decode cX3_show 39 = .ok (.iastore, 1) := dk_79 (dk_at dksX3_show_1 15 rfl rfl)
theorem dX3_show_40 : decode cX3_show 40 = .ok (.iconst 1, 1) := dk_4 (dk_at dksX3_show_1 16 rfl rfl)
theorem dX3_show_41 : decode cX3_show 41 = .ok (.ireturn, 1) := dk_172 (dk_at dksX3_show_1 17 rfl rfl)
theorem dX3_show_42 : decode cX3_show 42 = .ok (.iconst 0, 1) := dk_3 (dk_at dksX3_show_1 18 rfl rfl)
theorem dX3_show_43 : decode cX3_show 43 = .ok (.istore 4, 2) := dk_54 4 (dk_at dksX3_show_1 19 rfl rfl)
theorem dX3_show_45 : decode cX3_show 45 = .ok (.iload 4, 2) := dk_21 4 (dk_at dksX3_show_1 21 rfl rfl)
theorem dX3_show_47 : decode cX3_show 47 = .ok (.iconst 4, 1) := dk_7 (dk_at dksX3_show_1 23 rfl rfl)
theorem dX3_show_48 : decode cX3_show 48 = .ok (.if_icmp .ge 42, 3) := dk_162 0 42 (dk_at dksX3_show_2 0 rfl rfl)
theorem dX3_show_51 : decode cX3_show 51 = .ok (.aload_n 0, 1) := dk_42 (dk_at dksX3_show_2 3 rfl rfl)
theorem dX3_show_52 : decode cX3_show 52 = .ok (.getfield 44, 3) := dk_180 0 44 (dk_at dksX3_show_2 4 rfl rfl)
theorem dX3_show_55 : decode cX3_show 55 = .ok (.iconst 4, 1) := dk_7 (dk_at dksX3_show_2 7 rfl rfl)
theorem dX3_show_56 : decode cX3_show 56 = .ok (.iload_n 1, 1) := dk_27 (dk_at dksX3_show_2 8 rfl rfl)
theorem dX3_show_57 : decode cX3_show 57 = .ok (.imul, 1) := dk_104 (dk_at dksX3_show_2 9 rfl rfl)
theorem dX3_show_58 : decode cX3_show 58 = .ok (.iload 4, 2) := dk_21 4 (dk_at dksX3_show_2 10 rfl rfl)
theorem dX3_show_60 : decode cX3_show 60 = .ok (.iadd, 1) := dk_96 (dk_at dksX3_show_2 12 rfl rfl)
theorem dX3_show_61 : decode cX3_show 61 = .ok (.aload_n 0, 1) := dk_42 (dk_at dksX3_show_2 13 rfl rfl)
theorem dX3_show_62 : decode cX3_show 62 = .ok (.getfield 9, 3) := dk_180 0 9 (dk_at dksX3_show_2 14 rfl rfl)
theorem dX3_show_65 : decode cX3_show 65 = .ok (.sipush 2751, 3) := dk_17 10 191 (dk_at dksX3_show_2 17 rfl rfl)
theorem dX3_show_68 : decode cX3_show 68 = .ok (.bipush 24, 2) := dk_16 24 (dk_at dksX3_show_2 20 rfl rfl)
theorem dX3_show_70 : decode cX3_show 70 = .ok (.iload_n 2, 1) := dk_28 (dk_at dksX3_show_2 22 rfl rfl)
theorem dX3_show_71 : decode cX3_show 71 = .ok (.imul, 1) := dk_104 (dk_at dksX3_show_2 23 rfl rfl)
theorem dX3_show_72 : decode cX3_show 72 = .ok (.iadd, 1) := dk_96 (dk_at dksX3_show_3 0 rfl rfl)
theorem dX3_show_73 : decode cX3_show 73 = .ok (.iconst 4, 1) := dk_7 (dk_at dksX3_show_3 1 rfl rfl)
theorem dX3_show_74 : decode cX3_show 74 = .ok (.iadd, 1) := dk_96 (dk_at dksX3_show_3 2 rfl rfl)
theorem dX3_show_75 : decode cX3_show 75 = .ok (.iconst 4, 1) := dk_7 (dk_at dksX3_show_3 3 rfl rfl)
theorem dX3_show_76 : decode cX3_show 76 = .ok (.iload_n 3, 1) := dk_29 (dk_at dksX3_show_3 4 rfl rfl)
theorem dX3_show_77 : decode cX3_show 77 = .ok (.imul, 1) := dk_104 (dk_at dksX3_show_3 5 rfl rfl)
theorem dX3_show_78 : decode cX3_show 78 = .ok (.iadd, 1) := dk_96 (dk_at dksX3_show_3 6 rfl rfl)
theorem dX3_show_79 : decode cX3_show 79 = .ok (.iload 4, 2) := dk_21 4 (dk_at dksX3_show_3 7 rfl rfl)
theorem dX3_show_81 : decode cX3_show 81 = .ok (.iadd, 1) := dk_96 (dk_at dksX3_show_3 9 rfl rfl)
theorem dX3_show_82 : decode cX3_show 82 = .ok (.iaload, 1) := dk_46 (dk_at dksX3_show_3 10 rfl rfl)
theorem dX3_show_83 : decode cX3_show 83 = .ok (.iastore, 1) := dk_79 (dk_at dksX3_show_3 11 rfl rfl)
theorem dX3_show_84 : decode cX3_show 84 = .ok (.iinc 4 1, 3) := dk_132 4 1 (dk_at dksX3_show_3 12 rfl rfl)
theorem dX3_show_87 : decode cX3_show 87 = .ok (.goto (-42), 3) := dk_167 255 214 (dk_at dksX3_show_3 15 rfl rfl)
theorem dX3_show_90 : decode cX3_show 90 = .ok (.aload_n 0, 1) := dk_42 (dk_at dksX3_show_3 18 rfl rfl)
theorem dX3_show_91 : decode cX3_show 91 = .ok (.getfield 34, 3) := dk_180 0 34 (dk_at dksX3_show_3 19 rfl rfl)
theorem dX3_show_94 : decode cX3_show 94 = .ok (.iload_n 1, 1) := dk_27 (dk_at dksX3_show_3 22 rfl rfl)
theorem dX3_show_95 : decode cX3_show 95 = .ok (.bipush 10, 2) := dk_16 10 (dk_at dksX3_show_4 0 rfl rfl)
theorem dX3_show_97 : decode cX3_show 97 = .ok (.aload_n 0, 1) := dk_42 (dk_at dksX3_show_4 2 rfl rfl)
theorem dX3_show_98 : decode cX3_show 98 = .ok (.getfield 44, 3) := dk_180 0 44 (dk_at dksX3_show_4 3 rfl rfl)
theorem dX3_show_101 : decode cX3_show 101 = .ok (.iconst 4, 1) := dk_7 (dk_at dksX3_show_4 6 rfl rfl)
theorem dX3_show_102 : decode cX3_show 102 = .ok (.iload_n 1, 1) := dk_27 (dk_at dksX3_show_4 7 rfl rfl)
theorem dX3_show_103 : decode cX3_show 103 = .ok (.imul, 1) := dk_104 (dk_at dksX3_show_4 8 rfl rfl)
theorem dX3_show_104 : decode cX3_show 104 = .ok (.iaload, 1) := dk_46 (dk_at dksX3_show_4 9 rfl rfl)
theorem dX3_show_105 : decode cX3_show 105 = .ok (.iadd, 1) := dk_96 (dk_at dksX3_show_4 10 rfl rfl)
theorem dX3_show_106 : decode cX3_show 106 = .ok (.iastore, 1) := dk_79 (dk_at dksX3_show_4 11 rfl rfl)
theorem dX3_show_107 : decode cX3_show 107 = .ok (.iconst 1, 1) := dk_4 (dk_at dksX3_show_4 12 rfl rfl)
theorem dX3_show_108 : decode cX3_show 108 = .ok (.ireturn, 1) := dk_172 (dk_at dksX3_show_4 13 rfl rfl)
abbrev cX3_says : ByteArray := prog_24_method_86_code
def yX3_says : MethodName := ⟨RX3, "says", "(II)I"⟩
def dkwX3_says_5 : List UInt8 := [6, 96, 46, 167, 0, 13, 42, 180, 0, 44, 7, 27, 104, 5, 96, 46, 172]
abbrev dktX3_says_5 : List UInt8 := dkwX3_says_5 ++ []
def dkwX3_says_4 : List UInt8 := [180, 0, 44, 7, 27, 104, 4, 96, 46, 167, 0, 31, 28, 6, 162, 0, 16, 42, 180, 0, 44, 7, 27, 104]
abbrev dktX3_says_4 : List UInt8 := dkwX3_says_4 ++ dktX3_says_5
def dkwX3_says_3 : List UInt8 := [27, 46, 16, 10, 100, 28, 184, 0, 244, 154, 0, 10, 42, 16, 173, 182, 0, 75, 172, 28, 154, 0, 16, 42]
abbrev dktX3_says_3 : List UInt8 := dkwX3_says_3 ++ dktX3_says_4
def dkwX3_says_2 : List UInt8 := [182, 0, 75, 172, 42, 180, 0, 34, 27, 46, 156, 0, 10, 42, 16, 172, 182, 0, 75, 172, 42, 180, 0, 34]
abbrev dktX3_says_2 : List UInt8 := dkwX3_says_2 ++ dktX3_says_3
def dkwX3_says_1 : List UInt8 := [182, 0, 75, 172, 42, 180, 0, 34, 27, 46, 133, 9, 20, 0, 218, 184, 0, 47, 153, 0, 10, 42, 16, 173]
abbrev dktX3_says_1 : List UInt8 := dkwX3_says_1 ++ dktX3_says_2
def dkwX3_says_0 : List UInt8 := [27, 184, 0, 233, 153, 0, 15, 28, 133, 9, 20, 0, 242, 184, 0, 47, 154, 0, 10, 42, 16, 174]
abbrev dktX3_says_0 : List UInt8 := dkwX3_says_0 ++ dktX3_says_1
theorem dksX3_says_0 : cX3_says.data.toList.drop 0 = dktX3_says_0 := by decide +kernel
theorem dksX3_says_1 : cX3_says.data.toList.drop 22 = dktX3_says_1 := dk_seg dksX3_says_0 22 rfl rfl
theorem dksX3_says_2 : cX3_says.data.toList.drop 46 = dktX3_says_2 := dk_seg dksX3_says_1 24 rfl rfl
theorem dksX3_says_3 : cX3_says.data.toList.drop 70 = dktX3_says_3 := dk_seg dksX3_says_2 24 rfl rfl
theorem dksX3_says_4 : cX3_says.data.toList.drop 94 = dktX3_says_4 := dk_seg dksX3_says_3 24 rfl rfl
theorem dksX3_says_5 : cX3_says.data.toList.drop 118 = dktX3_says_5 := dk_seg dksX3_says_4 24 rfl rfl
theorem dX3_says_0 : decode cX3_says 0 = .ok (.iload_n 1, 1) := dk_27 (dk_at dksX3_says_0 0 rfl rfl)
theorem dX3_says_1 : decode cX3_says 1 = .ok (.invokestatic 233, 3) := dk_184 0 233 (dk_at dksX3_says_0 1 rfl rfl)
theorem dX3_says_4 : decode cX3_says 4 = .ok (.ifCond .eq 15, 3) := dk_153 0 15 (dk_at dksX3_says_0 4 rfl rfl)
theorem dX3_says_7 : decode cX3_says 7 = .ok (.iload_n 2, 1) := dk_28 (dk_at dksX3_says_0 7 rfl rfl)
theorem dX3_says_8 : decode cX3_says 8 = .ok (.i2l, 1) := dk_133 (dk_at dksX3_says_0 8 rfl rfl)
theorem dX3_says_9 : decode cX3_says 9 = .ok (.lconst 0, 1) := dk_9 (dk_at dksX3_says_0 9 rfl rfl)
theorem dX3_says_10 : decode cX3_says 10 = .ok (.ldc2_w 242, 3) := dk_20 0 242 (dk_at dksX3_says_0 10 rfl rfl)
theorem dX3_says_13 : decode cX3_says 13 = .ok (.invokestatic 47, 3) := dk_184 0 47 (dk_at dksX3_says_0 13 rfl rfl)
theorem dX3_says_16 : decode cX3_says 16 = .ok (.ifCond .ne 10, 3) := dk_154 0 10 (dk_at dksX3_says_0 16 rfl rfl)
theorem dX3_says_19 : decode cX3_says 19 = .ok (.aload_n 0, 1) := dk_42 (dk_at dksX3_says_0 19 rfl rfl)
theorem dX3_says_20 : decode cX3_says 20 = .ok (.bipush (-82), 2) := dk_16 174 (dk_at dksX3_says_0 20 rfl rfl)
theorem dX3_says_22 : decode cX3_says 22 = .ok (.invokevirtual 75, 3) := dk_182 0 75 (dk_at dksX3_says_1 0 rfl rfl)
theorem dX3_says_25 : decode cX3_says 25 = .ok (.ireturn, 1) := dk_172 (dk_at dksX3_says_1 3 rfl rfl)
theorem dX3_says_26 : decode cX3_says 26 = .ok (.aload_n 0, 1) := dk_42 (dk_at dksX3_says_1 4 rfl rfl)
theorem dX3_says_27 : decode cX3_says 27 = .ok (.getfield 34, 3) := dk_180 0 34 (dk_at dksX3_says_1 5 rfl rfl)
theorem dX3_says_30 : decode cX3_says 30 = .ok (.iload_n 1, 1) := dk_27 (dk_at dksX3_says_1 8 rfl rfl)
theorem dX3_says_31 : decode cX3_says 31 = .ok (.iaload, 1) := dk_46 (dk_at dksX3_says_1 9 rfl rfl)
theorem dX3_says_32 : decode cX3_says 32 = .ok (.i2l, 1) := dk_133 (dk_at dksX3_says_1 10 rfl rfl)
theorem dX3_says_33 : decode cX3_says 33 = .ok (.lconst 0, 1) := dk_9 (dk_at dksX3_says_1 11 rfl rfl)
theorem dX3_says_34 : decode cX3_says 34 = .ok (.ldc2_w 218, 3) := dk_20 0 218 (dk_at dksX3_says_1 12 rfl rfl)
theorem dX3_says_37 : decode cX3_says 37 = .ok (.invokestatic 47, 3) := dk_184 0 47 (dk_at dksX3_says_1 15 rfl rfl)
theorem dX3_says_40 : decode cX3_says 40 = .ok (.ifCond .eq 10, 3) := dk_153 0 10 (dk_at dksX3_says_1 18 rfl rfl)
theorem dX3_says_43 : decode cX3_says 43 = .ok (.aload_n 0, 1) := dk_42 (dk_at dksX3_says_1 21 rfl rfl)
theorem dX3_says_44 : decode cX3_says 44 = .ok (.bipush (-83), 2) := dk_16 173 (dk_at dksX3_says_1 22 rfl rfl)
theorem dX3_says_46 : decode cX3_says 46 = .ok (.invokevirtual 75, 3) := dk_182 0 75 (dk_at dksX3_says_2 0 rfl rfl)
theorem dX3_says_49 : decode cX3_says 49 = .ok (.ireturn, 1) := dk_172 (dk_at dksX3_says_2 3 rfl rfl)
theorem dX3_says_50 : decode cX3_says 50 = .ok (.aload_n 0, 1) := dk_42 (dk_at dksX3_says_2 4 rfl rfl)
theorem dX3_says_51 : decode cX3_says 51 = .ok (.getfield 34, 3) := dk_180 0 34 (dk_at dksX3_says_2 5 rfl rfl)
theorem dX3_says_54 : decode cX3_says 54 = .ok (.iload_n 1, 1) := dk_27 (dk_at dksX3_says_2 8 rfl rfl)
theorem dX3_says_55 : decode cX3_says 55 = .ok (.iaload, 1) := dk_46 (dk_at dksX3_says_2 9 rfl rfl)
theorem dX3_says_56 : decode cX3_says 56 = .ok (.ifCond .ge 10, 3) := dk_156 0 10 (dk_at dksX3_says_2 10 rfl rfl)
theorem dX3_says_59 : decode cX3_says 59 = .ok (.aload_n 0, 1) := dk_42 (dk_at dksX3_says_2 13 rfl rfl)
theorem dX3_says_60 : decode cX3_says 60 = .ok (.bipush (-84), 2) := dk_16 172 (dk_at dksX3_says_2 14 rfl rfl)
theorem dX3_says_62 : decode cX3_says 62 = .ok (.invokevirtual 75, 3) := dk_182 0 75 (dk_at dksX3_says_2 16 rfl rfl)
theorem dX3_says_65 : decode cX3_says 65 = .ok (.ireturn, 1) := dk_172 (dk_at dksX3_says_2 19 rfl rfl)
theorem dX3_says_66 : decode cX3_says 66 = .ok (.aload_n 0, 1) := dk_42 (dk_at dksX3_says_2 20 rfl rfl)
theorem dX3_says_67 : decode cX3_says 67 = .ok (.getfield 34, 3) := dk_180 0 34 (dk_at dksX3_says_2 21 rfl rfl)
theorem dX3_says_70 : decode cX3_says 70 = .ok (.iload_n 1, 1) := dk_27 (dk_at dksX3_says_3 0 rfl rfl)
theorem dX3_says_71 : decode cX3_says 71 = .ok (.iaload, 1) := dk_46 (dk_at dksX3_says_3 1 rfl rfl)
theorem dX3_says_72 : decode cX3_says 72 = .ok (.bipush 10, 2) := dk_16 10 (dk_at dksX3_says_3 2 rfl rfl)
theorem dX3_says_74 : decode cX3_says 74 = .ok (.isub, 1) := dk_100 (dk_at dksX3_says_3 4 rfl rfl)
theorem dX3_says_75 : decode cX3_says 75 = .ok (.iload_n 2, 1) := dk_28 (dk_at dksX3_says_3 5 rfl rfl)
theorem dX3_says_76 : decode cX3_says 76 = .ok (.invokestatic 244, 3) := dk_184 0 244 (dk_at dksX3_says_3 6 rfl rfl)
theorem dX3_says_79 : decode cX3_says 79 = .ok (.ifCond .ne 10, 3) := dk_154 0 10 (dk_at dksX3_says_3 9 rfl rfl)
theorem dX3_says_82 : decode cX3_says 82 = .ok (.aload_n 0, 1) := dk_42 (dk_at dksX3_says_3 12 rfl rfl)
theorem dX3_says_83 : decode cX3_says 83 = .ok (.bipush (-83), 2) := dk_16 173 (dk_at dksX3_says_3 13 rfl rfl)
theorem dX3_says_85 : decode cX3_says 85 = .ok (.invokevirtual 75, 3) := dk_182 0 75 (dk_at dksX3_says_3 15 rfl rfl)
theorem dX3_says_88 : decode cX3_says 88 = .ok (.ireturn, 1) := dk_172 (dk_at dksX3_says_3 18 rfl rfl)
theorem dX3_says_89 : decode cX3_says 89 = .ok (.iload_n 2, 1) := dk_28 (dk_at dksX3_says_3 19 rfl rfl)
theorem dX3_says_90 : decode cX3_says 90 = .ok (.ifCond .ne 16, 3) := dk_154 0 16 (dk_at dksX3_says_3 20 rfl rfl)
theorem dX3_says_93 : decode cX3_says 93 = .ok (.aload_n 0, 1) := dk_42 (dk_at dksX3_says_3 23 rfl rfl)
theorem dX3_says_94 : decode cX3_says 94 = .ok (.getfield 44, 3) := dk_180 0 44 (dk_at dksX3_says_4 0 rfl rfl)
theorem dX3_says_97 : decode cX3_says 97 = .ok (.iconst 4, 1) := dk_7 (dk_at dksX3_says_4 3 rfl rfl)
theorem dX3_says_98 : decode cX3_says 98 = .ok (.iload_n 1, 1) := dk_27 (dk_at dksX3_says_4 4 rfl rfl)
theorem dX3_says_99 : decode cX3_says 99 = .ok (.imul, 1) := dk_104 (dk_at dksX3_says_4 5 rfl rfl)
theorem dX3_says_100 : decode cX3_says 100 = .ok (.iconst 1, 1) := dk_4 (dk_at dksX3_says_4 6 rfl rfl)
theorem dX3_says_101 : decode cX3_says 101 = .ok (.iadd, 1) := dk_96 (dk_at dksX3_says_4 7 rfl rfl)
theorem dX3_says_102 : decode cX3_says 102 = .ok (.iaload, 1) := dk_46 (dk_at dksX3_says_4 8 rfl rfl)
theorem dX3_says_103 : decode cX3_says 103 = .ok (.goto 31, 3) := dk_167 0 31 (dk_at dksX3_says_4 9 rfl rfl)
theorem dX3_says_106 : decode cX3_says 106 = .ok (.iload_n 2, 1) := dk_28 (dk_at dksX3_says_4 12 rfl rfl)
theorem dX3_says_107 : decode cX3_says 107 = .ok (.iconst 3, 1) := dk_6 (dk_at dksX3_says_4 13 rfl rfl)
theorem dX3_says_108 : decode cX3_says 108 = .ok (.if_icmp .ge 16, 3) := dk_162 0 16 (dk_at dksX3_says_4 14 rfl rfl)
theorem dX3_says_111 : decode cX3_says 111 = .ok (.aload_n 0, 1) := dk_42 (dk_at dksX3_says_4 17 rfl rfl)
theorem dX3_says_112 : decode cX3_says 112 = .ok (.getfield 44, 3) := dk_180 0 44 (dk_at dksX3_says_4 18 rfl rfl)
theorem dX3_says_115 : decode cX3_says 115 = .ok (.iconst 4, 1) := dk_7 (dk_at dksX3_says_4 21 rfl rfl)
theorem dX3_says_116 : decode cX3_says 116 = .ok (.iload_n 1, 1) := dk_27 (dk_at dksX3_says_4 22 rfl rfl)
theorem dX3_says_117 : decode cX3_says 117 = .ok (.imul, 1) := dk_104 (dk_at dksX3_says_4 23 rfl rfl)
theorem dX3_says_118 : decode cX3_says 118 = .ok (.iconst 3, 1) := dk_6 (dk_at dksX3_says_5 0 rfl rfl)
theorem dX3_says_119 : decode cX3_says 119 = .ok (.iadd, 1) := dk_96 (dk_at dksX3_says_5 1 rfl rfl)
theorem dX3_says_120 : decode cX3_says 120 = .ok (.iaload, 1) := dk_46 (dk_at dksX3_says_5 2 rfl rfl)
theorem dX3_says_121 : decode cX3_says 121 = .ok (.goto 13, 3) := dk_167 0 13 (dk_at dksX3_says_5 3 rfl rfl)
theorem dX3_says_124 : decode cX3_says 124 = .ok (.aload_n 0, 1) := dk_42 (dk_at dksX3_says_5 6 rfl rfl)
theorem dX3_says_125 : decode cX3_says 125 = .ok (.getfield 44, 3) := dk_180 0 44 (dk_at dksX3_says_5 7 rfl rfl)
theorem dX3_says_128 : decode cX3_says 128 = .ok (.iconst 4, 1) := dk_7 (dk_at dksX3_says_5 10 rfl rfl)
theorem dX3_says_129 : decode cX3_says 129 = .ok (.iload_n 1, 1) := dk_27 (dk_at dksX3_says_5 11 rfl rfl)
theorem dX3_says_130 : decode cX3_says 130 = .ok (.imul, 1) := dk_104 (dk_at dksX3_says_5 12 rfl rfl)
theorem dX3_says_131 : decode cX3_says 131 = .ok (.iconst 2, 1) := dk_5 (dk_at dksX3_says_5 13 rfl rfl)
theorem dX3_says_132 : decode cX3_says 132 = .ok (.iadd, 1) := dk_96 (dk_at dksX3_says_5 14 rfl rfl)
theorem dX3_says_133 : decode cX3_says 133 = .ok (.iaload, 1) := dk_46 (dk_at dksX3_says_5 15 rfl rfl)
theorem dX3_says_134 : decode cX3_says 134 = .ok (.ireturn, 1) := dk_172 (dk_at dksX3_says_5 16 rfl rfl)
abbrev cX3_isUnder : ByteArray := prog_24_method_85_code
def yX3_isUnder : MethodName := ⟨RX3, "isUnder", "(II)Z"⟩
def dkwX3_isUnder_1 : List UInt8 := [27, 5, 160, 0, 18, 26, 8, 159, 0, 9, 26, 16, 6, 160, 0, 7, 4, 167, 0, 4, 3, 172]
abbrev dktX3_isUnder_1 : List UInt8 := dkwX3_isUnder_1 ++ []
def dkwX3_isUnder_0 : List UInt8 := [27, 153, 0, 39, 26, 27, 159, 0, 34, 27, 4, 160, 0, 13, 26, 6, 159, 0, 24, 26, 7, 159, 0, 19]
abbrev dktX3_isUnder_0 : List UInt8 := dkwX3_isUnder_0 ++ dktX3_isUnder_1
theorem dksX3_isUnder_0 : cX3_isUnder.data.toList.drop 0 = dktX3_isUnder_0 := by decide +kernel
theorem dksX3_isUnder_1 : cX3_isUnder.data.toList.drop 24 = dktX3_isUnder_1 := dk_seg dksX3_isUnder_0 24 rfl rfl
theorem dX3_isUnder_0 : decode cX3_isUnder 0 = .ok (.iload_n 1, 1) := dk_27 (dk_at dksX3_isUnder_0 0 rfl rfl)
theorem dX3_isUnder_1 : decode cX3_isUnder 1 = .ok (.ifCond .eq 39, 3) := dk_153 0 39 (dk_at dksX3_isUnder_0 1 rfl rfl)
theorem dX3_isUnder_4 : decode cX3_isUnder 4 = .ok (.iload_n 0, 1) := dk_26 (dk_at dksX3_isUnder_0 4 rfl rfl)
theorem dX3_isUnder_5 : decode cX3_isUnder 5 = .ok (.iload_n 1, 1) := dk_27 (dk_at dksX3_isUnder_0 5 rfl rfl)
theorem dX3_isUnder_6 : decode cX3_isUnder 6 = .ok (.if_icmp .eq 34, 3) := dk_159 0 34 (dk_at dksX3_isUnder_0 6 rfl rfl)
theorem dX3_isUnder_9 : decode cX3_isUnder 9 = .ok (.iload_n 1, 1) := dk_27 (dk_at dksX3_isUnder_0 9 rfl rfl)
theorem dX3_isUnder_10 : decode cX3_isUnder 10 = .ok (.iconst 1, 1) := dk_4 (dk_at dksX3_isUnder_0 10 rfl rfl)
theorem dX3_isUnder_11 : decode cX3_isUnder 11 = .ok (.if_icmp .ne 13, 3) := dk_160 0 13 (dk_at dksX3_isUnder_0 11 rfl rfl)
theorem dX3_isUnder_14 : decode cX3_isUnder 14 = .ok (.iload_n 0, 1) := dk_26 (dk_at dksX3_isUnder_0 14 rfl rfl)
theorem dX3_isUnder_15 : decode cX3_isUnder 15 = .ok (.iconst 3, 1) := dk_6 (dk_at dksX3_isUnder_0 15 rfl rfl)
theorem dX3_isUnder_16 : decode cX3_isUnder 16 = .ok (.if_icmp .eq 24, 3) := dk_159 0 24 (dk_at dksX3_isUnder_0 16 rfl rfl)
theorem dX3_isUnder_19 : decode cX3_isUnder 19 = .ok (.iload_n 0, 1) := dk_26 (dk_at dksX3_isUnder_0 19 rfl rfl)
theorem dX3_isUnder_20 : decode cX3_isUnder 20 = .ok (.iconst 4, 1) := dk_7 (dk_at dksX3_isUnder_0 20 rfl rfl)
theorem dX3_isUnder_21 : decode cX3_isUnder 21 = .ok (.if_icmp .eq 19, 3) := dk_159 0 19 (dk_at dksX3_isUnder_0 21 rfl rfl)
theorem dX3_isUnder_24 : decode cX3_isUnder 24 = .ok (.iload_n 1, 1) := dk_27 (dk_at dksX3_isUnder_1 0 rfl rfl)
theorem dX3_isUnder_25 : decode cX3_isUnder 25 = .ok (.iconst 2, 1) := dk_5 (dk_at dksX3_isUnder_1 1 rfl rfl)
theorem dX3_isUnder_26 : decode cX3_isUnder 26 = .ok (.if_icmp .ne 18, 3) := dk_160 0 18 (dk_at dksX3_isUnder_1 2 rfl rfl)
theorem dX3_isUnder_29 : decode cX3_isUnder 29 = .ok (.iload_n 0, 1) := dk_26 (dk_at dksX3_isUnder_1 5 rfl rfl)
theorem dX3_isUnder_30 : decode cX3_isUnder 30 = .ok (.iconst 5, 1) := dk_8 (dk_at dksX3_isUnder_1 6 rfl rfl)
theorem dX3_isUnder_31 : decode cX3_isUnder 31 = .ok (.if_icmp .eq 9, 3) := dk_159 0 9 (dk_at dksX3_isUnder_1 7 rfl rfl)
theorem dX3_isUnder_34 : decode cX3_isUnder 34 = .ok (.iload_n 0, 1) := dk_26 (dk_at dksX3_isUnder_1 10 rfl rfl)
theorem dX3_isUnder_35 : decode cX3_isUnder 35 = .ok (.bipush 6, 2) := dk_16 6 (dk_at dksX3_isUnder_1 11 rfl rfl)
theorem dX3_isUnder_37 : decode cX3_isUnder 37 = .ok (.if_icmp .ne 7, 3) := dk_160 0 7 (dk_at dksX3_isUnder_1 13 rfl rfl)
theorem dX3_isUnder_40 : decode cX3_isUnder 40 = .ok (.iconst 1, 1) := dk_4 (dk_at dksX3_isUnder_1 16 rfl rfl)
theorem dX3_isUnder_41 : decode cX3_isUnder 41 = .ok (.goto 4, 3) := dk_167 0 4 (dk_at dksX3_isUnder_1 17 rfl rfl)
theorem dX3_isUnder_44 : decode cX3_isUnder 44 = .ok (.iconst 0, 1) := dk_3 (dk_at dksX3_isUnder_1 20 rfl rfl)
theorem dX3_isUnder_45 : decode cX3_isUnder 45 = .ok (.ireturn, 1) := dk_172 (dk_at dksX3_isUnder_1 21 rfl rfl)
abbrev cX3_judge : ByteArray := prog_24_method_87_code
def yX3_judge : MethodName := ⟨RX3, "judge", "(III)I"⟩
def dkwX3_judge_6 : List UInt8 := [167, 255, 211, 42, 180, 0, 227, 29, 164, 0, 7, 29, 167, 0, 4, 2, 172]
abbrev dktX3_judge_6 : List UInt8 := dkwX3_judge_6 ++ []
def dkwX3_judge_5 : List UInt8 := [21, 4, 96, 47, 42, 180, 0, 31, 21, 4, 46, 133, 148, 153, 0, 6, 21, 4, 172, 132, 4, 1]
abbrev dktX3_judge_5 : List UInt8 := dkwX3_judge_5 ++ dktX3_judge_6
def dkwX3_judge_4 : List UInt8 := [21, 4, 29, 162, 0, 45, 21, 4, 42, 180, 0, 227, 162, 0, 27, 42, 180, 0, 40, 16, 40, 28, 104]
abbrev dktX3_judge_4 : List UInt8 := dkwX3_judge_4 ++ dktX3_judge_5
def dkwX3_judge_3 : List UInt8 := [180, 0, 37, 28, 46, 164, 0, 10, 42, 16, 174, 182, 0, 75, 172, 42, 27, 182, 0, 230, 3, 54, 4]
abbrev dktX3_judge_3 : List UInt8 := dkwX3_judge_3 ++ dktX3_judge_4
def dkwX3_judge_2 : List UInt8 := [182, 0, 75, 172, 42, 180, 0, 34, 28, 46, 156, 0, 10, 42, 16, 172, 182, 0, 75, 172, 29, 42]
abbrev dktX3_judge_2 : List UInt8 := dkwX3_judge_2 ++ dktX3_judge_3
def dkwX3_judge_1 : List UInt8 := [154, 0, 10, 42, 16, 174, 182, 0, 75, 172, 42, 180, 0, 34, 28, 46, 7, 164, 0, 10, 42, 16, 173]
abbrev dktX3_judge_1 : List UInt8 := dkwX3_judge_1 ++ dktX3_judge_2
def dkwX3_judge_0 : List UInt8 := [42, 27, 182, 0, 122, 153, 0, 22, 28, 184, 0, 233, 153, 0, 15, 29, 133, 9, 20, 0, 236, 184, 0, 47]
abbrev dktX3_judge_0 : List UInt8 := dkwX3_judge_0 ++ dktX3_judge_1
theorem dksX3_judge_0 : cX3_judge.data.toList.drop 0 = dktX3_judge_0 := by decide +kernel
theorem dksX3_judge_1 : cX3_judge.data.toList.drop 24 = dktX3_judge_1 := dk_seg dksX3_judge_0 24 rfl rfl
theorem dksX3_judge_2 : cX3_judge.data.toList.drop 47 = dktX3_judge_2 := dk_seg dksX3_judge_1 23 rfl rfl
theorem dksX3_judge_3 : cX3_judge.data.toList.drop 69 = dktX3_judge_3 := dk_seg dksX3_judge_2 22 rfl rfl
theorem dksX3_judge_4 : cX3_judge.data.toList.drop 92 = dktX3_judge_4 := dk_seg dksX3_judge_3 23 rfl rfl
theorem dksX3_judge_5 : cX3_judge.data.toList.drop 115 = dktX3_judge_5 := dk_seg dksX3_judge_4 23 rfl rfl
theorem dksX3_judge_6 : cX3_judge.data.toList.drop 137 = dktX3_judge_6 := dk_seg dksX3_judge_5 22 rfl rfl
theorem dX3_judge_0 : decode cX3_judge 0 = .ok (.aload_n 0, 1) := dk_42 (dk_at dksX3_judge_0 0 rfl rfl)
theorem dX3_judge_1 : decode cX3_judge 1 = .ok (.iload_n 1, 1) := dk_27 (dk_at dksX3_judge_0 1 rfl rfl)
theorem dX3_judge_2 : decode cX3_judge 2 = .ok (.invokevirtual 122, 3) := dk_182 0 122 (dk_at dksX3_judge_0 2 rfl rfl)
theorem dX3_judge_5 : decode cX3_judge 5 = .ok (.ifCond .eq 22, 3) := dk_153 0 22 (dk_at dksX3_judge_0 5 rfl rfl)
theorem dX3_judge_8 : decode cX3_judge 8 = .ok (.iload_n 2, 1) := dk_28 (dk_at dksX3_judge_0 8 rfl rfl)
theorem dX3_judge_9 : decode cX3_judge 9 = .ok (.invokestatic 233, 3) := dk_184 0 233 (dk_at dksX3_judge_0 9 rfl rfl)
theorem dX3_judge_12 : decode cX3_judge 12 = .ok (.ifCond .eq 15, 3) := dk_153 0 15 (dk_at dksX3_judge_0 12 rfl rfl)
theorem dX3_judge_15 : decode cX3_judge 15 = .ok (.iload_n 3, 1) := dk_29 (dk_at dksX3_judge_0 15 rfl rfl)
theorem dX3_judge_16 : decode cX3_judge 16 = .ok (.i2l, 1) := dk_133 (dk_at dksX3_judge_0 16 rfl rfl)
theorem dX3_judge_17 : decode cX3_judge 17 = .ok (.lconst 0, 1) := dk_9 (dk_at dksX3_judge_0 17 rfl rfl)
theorem dX3_judge_18 : decode cX3_judge 18 = .ok (.ldc2_w 236, 3) := dk_20 0 236 (dk_at dksX3_judge_0 18 rfl rfl)
theorem dX3_judge_21 : decode cX3_judge 21 = .ok (.invokestatic 47, 3) := dk_184 0 47 (dk_at dksX3_judge_0 21 rfl rfl)
theorem dX3_judge_24 : decode cX3_judge 24 = .ok (.ifCond .ne 10, 3) := dk_154 0 10 (dk_at dksX3_judge_1 0 rfl rfl)
theorem dX3_judge_27 : decode cX3_judge 27 = .ok (.aload_n 0, 1) := dk_42 (dk_at dksX3_judge_1 3 rfl rfl)
theorem dX3_judge_28 : decode cX3_judge 28 = .ok (.bipush (-82), 2) := dk_16 174 (dk_at dksX3_judge_1 4 rfl rfl)
theorem dX3_judge_30 : decode cX3_judge 30 = .ok (.invokevirtual 75, 3) := dk_182 0 75 (dk_at dksX3_judge_1 6 rfl rfl)
theorem dX3_judge_33 : decode cX3_judge 33 = .ok (.ireturn, 1) := dk_172 (dk_at dksX3_judge_1 9 rfl rfl)
theorem dX3_judge_34 : decode cX3_judge 34 = .ok (.aload_n 0, 1) := dk_42 (dk_at dksX3_judge_1 10 rfl rfl)
theorem dX3_judge_35 : decode cX3_judge 35 = .ok (.getfield 34, 3) := dk_180 0 34 (dk_at dksX3_judge_1 11 rfl rfl)
theorem dX3_judge_38 : decode cX3_judge 38 = .ok (.iload_n 2, 1) := dk_28 (dk_at dksX3_judge_1 14 rfl rfl)
theorem dX3_judge_39 : decode cX3_judge 39 = .ok (.iaload, 1) := dk_46 (dk_at dksX3_judge_1 15 rfl rfl)
theorem dX3_judge_40 : decode cX3_judge 40 = .ok (.iconst 4, 1) := dk_7 (dk_at dksX3_judge_1 16 rfl rfl)
theorem dX3_judge_41 : decode cX3_judge 41 = .ok (.if_icmp .le 10, 3) := dk_164 0 10 (dk_at dksX3_judge_1 17 rfl rfl)
theorem dX3_judge_44 : decode cX3_judge 44 = .ok (.aload_n 0, 1) := dk_42 (dk_at dksX3_judge_1 20 rfl rfl)
theorem dX3_judge_45 : decode cX3_judge 45 = .ok (.bipush (-83), 2) := dk_16 173 (dk_at dksX3_judge_1 21 rfl rfl)
theorem dX3_judge_47 : decode cX3_judge 47 = .ok (.invokevirtual 75, 3) := dk_182 0 75 (dk_at dksX3_judge_2 0 rfl rfl)
theorem dX3_judge_50 : decode cX3_judge 50 = .ok (.ireturn, 1) := dk_172 (dk_at dksX3_judge_2 3 rfl rfl)
theorem dX3_judge_51 : decode cX3_judge 51 = .ok (.aload_n 0, 1) := dk_42 (dk_at dksX3_judge_2 4 rfl rfl)
theorem dX3_judge_52 : decode cX3_judge 52 = .ok (.getfield 34, 3) := dk_180 0 34 (dk_at dksX3_judge_2 5 rfl rfl)
theorem dX3_judge_55 : decode cX3_judge 55 = .ok (.iload_n 2, 1) := dk_28 (dk_at dksX3_judge_2 8 rfl rfl)
theorem dX3_judge_56 : decode cX3_judge 56 = .ok (.iaload, 1) := dk_46 (dk_at dksX3_judge_2 9 rfl rfl)
theorem dX3_judge_57 : decode cX3_judge 57 = .ok (.ifCond .ge 10, 3) := dk_156 0 10 (dk_at dksX3_judge_2 10 rfl rfl)
theorem dX3_judge_60 : decode cX3_judge 60 = .ok (.aload_n 0, 1) := dk_42 (dk_at dksX3_judge_2 13 rfl rfl)
theorem dX3_judge_61 : decode cX3_judge 61 = .ok (.bipush (-84), 2) := dk_16 172 (dk_at dksX3_judge_2 14 rfl rfl)
theorem dX3_judge_63 : decode cX3_judge 63 = .ok (.invokevirtual 75, 3) := dk_182 0 75 (dk_at dksX3_judge_2 16 rfl rfl)
theorem dX3_judge_66 : decode cX3_judge 66 = .ok (.ireturn, 1) := dk_172 (dk_at dksX3_judge_2 19 rfl rfl)
theorem dX3_judge_67 : decode cX3_judge 67 = .ok (.iload_n 3, 1) := dk_29 (dk_at dksX3_judge_2 20 rfl rfl)
theorem dX3_judge_68 : decode cX3_judge 68 = .ok (.aload_n 0, 1) := dk_42 (dk_at dksX3_judge_2 21 rfl rfl)
theorem dX3_judge_69 : decode cX3_judge 69 = .ok (.getfield 37, 3) := dk_180 0 37 (dk_at dksX3_judge_3 0 rfl rfl)
theorem dX3_judge_72 : decode cX3_judge 72 = .ok (.iload_n 2, 1) := dk_28 (dk_at dksX3_judge_3 3 rfl rfl)
theorem dX3_judge_73 : decode cX3_judge 73 = .ok (.iaload, 1) := dk_46 (dk_at dksX3_judge_3 4 rfl rfl)
theorem dX3_judge_74 : decode cX3_judge 74 = .ok (.if_icmp .le 10, 3) := dk_164 0 10 (dk_at dksX3_judge_3 5 rfl rfl)
theorem dX3_judge_77 : decode cX3_judge 77 = .ok (.aload_n 0, 1) := dk_42 (dk_at dksX3_judge_3 8 rfl rfl)
theorem dX3_judge_78 : decode cX3_judge 78 = .ok (.bipush (-82), 2) := dk_16 174 (dk_at dksX3_judge_3 9 rfl rfl)
theorem dX3_judge_80 : decode cX3_judge 80 = .ok (.invokevirtual 75, 3) := dk_182 0 75 (dk_at dksX3_judge_3 11 rfl rfl)
theorem dX3_judge_83 : decode cX3_judge 83 = .ok (.ireturn, 1) := dk_172 (dk_at dksX3_judge_3 14 rfl rfl)
theorem dX3_judge_84 : decode cX3_judge 84 = .ok (.aload_n 0, 1) := dk_42 (dk_at dksX3_judge_3 15 rfl rfl)
theorem dX3_judge_85 : decode cX3_judge 85 = .ok (.iload_n 1, 1) := dk_27 (dk_at dksX3_judge_3 16 rfl rfl)
theorem dX3_judge_86 : decode cX3_judge 86 = .ok (.invokevirtual 230, 3) := dk_182 0 230 (dk_at dksX3_judge_3 17 rfl rfl)
theorem dX3_judge_89 : decode cX3_judge 89 = .ok (.iconst 0, 1) := dk_3 (dk_at dksX3_judge_3 20 rfl rfl)
theorem dX3_judge_90 : decode cX3_judge 90 = .ok (.istore 4, 2) := dk_54 4 (dk_at dksX3_judge_3 21 rfl rfl)
theorem dX3_judge_92 : decode cX3_judge 92 = .ok (.iload 4, 2) := dk_21 4 (dk_at dksX3_judge_4 0 rfl rfl)
theorem dX3_judge_94 : decode cX3_judge 94 = .ok (.iload_n 3, 1) := dk_29 (dk_at dksX3_judge_4 2 rfl rfl)
theorem dX3_judge_95 : decode cX3_judge 95 = .ok (.if_icmp .ge 45, 3) := dk_162 0 45 (dk_at dksX3_judge_4 3 rfl rfl)
theorem dX3_judge_98 : decode cX3_judge 98 = .ok (.iload 4, 2) := dk_21 4 (dk_at dksX3_judge_4 6 rfl rfl)
theorem dX3_judge_100 : decode cX3_judge 100 = .ok (.aload_n 0, 1) := dk_42 (dk_at dksX3_judge_4 8 rfl rfl)
theorem dX3_judge_101 : decode cX3_judge 101 = .ok (.getfield 227, 3) := dk_180 0 227 (dk_at dksX3_judge_4 9 rfl rfl)
theorem dX3_judge_104 : decode cX3_judge 104 = .ok (.if_icmp .ge 27, 3) := dk_162 0 27 (dk_at dksX3_judge_4 12 rfl rfl)
theorem dX3_judge_107 : decode cX3_judge 107 = .ok (.aload_n 0, 1) := dk_42 (dk_at dksX3_judge_4 15 rfl rfl)
theorem dX3_judge_108 : decode cX3_judge 108 = .ok (.getfield 40, 3) := dk_180 0 40 (dk_at dksX3_judge_4 16 rfl rfl)
theorem dX3_judge_111 : decode cX3_judge 111 = .ok (.bipush 40, 2) := dk_16 40 (dk_at dksX3_judge_4 19 rfl rfl)
theorem dX3_judge_113 : decode cX3_judge 113 = .ok (.iload_n 2, 1) := dk_28 (dk_at dksX3_judge_4 21 rfl rfl)
theorem dX3_judge_114 : decode cX3_judge 114 = .ok (.imul, 1) := dk_104 (dk_at dksX3_judge_4 22 rfl rfl)
theorem dX3_judge_115 : decode cX3_judge 115 = .ok (.iload 4, 2) := dk_21 4 (dk_at dksX3_judge_5 0 rfl rfl)
theorem dX3_judge_117 : decode cX3_judge 117 = .ok (.iadd, 1) := dk_96 (dk_at dksX3_judge_5 2 rfl rfl)
theorem dX3_judge_118 : decode cX3_judge 118 = .ok (.laload, 1) := dk_47 (dk_at dksX3_judge_5 3 rfl rfl)
theorem dX3_judge_119 : decode cX3_judge 119 = .ok (.aload_n 0, 1) := dk_42 (dk_at dksX3_judge_5 4 rfl rfl)
theorem dX3_judge_120 : decode cX3_judge 120 = .ok (.getfield 31, 3) := dk_180 0 31 (dk_at dksX3_judge_5 5 rfl rfl)
theorem dX3_judge_123 : decode cX3_judge 123 = .ok (.iload 4, 2) := dk_21 4 (dk_at dksX3_judge_5 8 rfl rfl)
theorem dX3_judge_125 : decode cX3_judge 125 = .ok (.iaload, 1) := dk_46 (dk_at dksX3_judge_5 10 rfl rfl)
theorem dX3_judge_126 : decode cX3_judge 126 = .ok (.i2l, 1) := dk_133 (dk_at dksX3_judge_5 11 rfl rfl)
theorem dX3_judge_127 : decode cX3_judge 127 = .ok (.lcmp, 1) := dk_148 (dk_at dksX3_judge_5 12 rfl rfl)
theorem dX3_judge_128 : decode cX3_judge 128 = .ok (.ifCond .eq 6, 3) := dk_153 0 6 (dk_at dksX3_judge_5 13 rfl rfl)
theorem dX3_judge_131 : decode cX3_judge 131 = .ok (.iload 4, 2) := dk_21 4 (dk_at dksX3_judge_5 16 rfl rfl)
theorem dX3_judge_133 : decode cX3_judge 133 = .ok (.ireturn, 1) := dk_172 (dk_at dksX3_judge_5 18 rfl rfl)
theorem dX3_judge_134 : decode cX3_judge 134 = .ok (.iinc 4 1, 3) := dk_132 4 1 (dk_at dksX3_judge_5 19 rfl rfl)
theorem dX3_judge_137 : decode cX3_judge 137 = .ok (.goto (-45), 3) := dk_167 255 211 (dk_at dksX3_judge_6 0 rfl rfl)
theorem dX3_judge_140 : decode cX3_judge 140 = .ok (.aload_n 0, 1) := dk_42 (dk_at dksX3_judge_6 3 rfl rfl)
theorem dX3_judge_141 : decode cX3_judge 141 = .ok (.getfield 227, 3) := dk_180 0 227 (dk_at dksX3_judge_6 4 rfl rfl)
theorem dX3_judge_144 : decode cX3_judge 144 = .ok (.iload_n 3, 1) := dk_29 (dk_at dksX3_judge_6 7 rfl rfl)
theorem dX3_judge_145 : decode cX3_judge 145 = .ok (.if_icmp .le 7, 3) := dk_164 0 7 (dk_at dksX3_judge_6 8 rfl rfl)
theorem dX3_judge_148 : decode cX3_judge 148 = .ok (.iload_n 3, 1) := dk_29 (dk_at dksX3_judge_6 11 rfl rfl)
theorem dX3_judge_149 : decode cX3_judge 149 = .ok (.goto 4, 3) := dk_167 0 4 (dk_at dksX3_judge_6 12 rfl rfl)
theorem dX3_judge_152 : decode cX3_judge 152 = .ok (.iconst (-1), 1) := dk_2 (dk_at dksX3_judge_6 15 rfl rfl)
theorem dX3_judge_153 : decode cX3_judge 153 = .ok (.ireturn, 1) := dk_172 (dk_at dksX3_judge_6 16 rfl rfl)
abbrev cX3_days : ByteArray := prog_24_method_90_code
def yX3_days : MethodName := ⟨RX3, "days", "(I)I"⟩
def dkwX3_days_2 : List UInt8 := [61, 42, 4, 182, 0, 200, 54, 4, 132, 3, 1, 167, 255, 220, 28, 172]
abbrev dktX3_days_2 : List UInt8 := dkwX3_days_2 ++ []
def dkwX3_days_1 : List UInt8 := [27, 162, 0, 37, 28, 42, 42, 16, 6, 182, 0, 248, 182, 0, 253, 153, 0, 7, 4, 167, 0, 4, 3, 96]
abbrev dktX3_days_1 : List UInt8 := dkwX3_days_1 ++ dktX3_days_2
def dkwX3_days_0 : List UInt8 := [27, 133, 10, 20, 0, 251, 184, 0, 47, 154, 0, 10, 42, 16, 174, 182, 0, 75, 172, 3, 61, 3, 62, 29]
abbrev dktX3_days_0 : List UInt8 := dkwX3_days_0 ++ dktX3_days_1
theorem dksX3_days_0 : cX3_days.data.toList.drop 0 = dktX3_days_0 := by decide +kernel
theorem dksX3_days_1 : cX3_days.data.toList.drop 24 = dktX3_days_1 := dk_seg dksX3_days_0 24 rfl rfl
theorem dksX3_days_2 : cX3_days.data.toList.drop 48 = dktX3_days_2 := dk_seg dksX3_days_1 24 rfl rfl
theorem dX3_days_0 : decode cX3_days 0 = .ok (.iload_n 1, 1) := dk_27 (dk_at dksX3_days_0 0 rfl rfl)
theorem dX3_days_1 : decode cX3_days 1 = .ok (.i2l, 1) := dk_133 (dk_at dksX3_days_0 1 rfl rfl)
theorem dX3_days_2 : decode cX3_days 2 = .ok (.lconst 1, 1) := dk_10 (dk_at dksX3_days_0 2 rfl rfl)
theorem dX3_days_3 : decode cX3_days 3 = .ok (.ldc2_w 251, 3) := dk_20 0 251 (dk_at dksX3_days_0 3 rfl rfl)
theorem dX3_days_6 : decode cX3_days 6 = .ok (.invokestatic 47, 3) := dk_184 0 47 (dk_at dksX3_days_0 6 rfl rfl)
theorem dX3_days_9 : decode cX3_days 9 = .ok (.ifCond .ne 10, 3) := dk_154 0 10 (dk_at dksX3_days_0 9 rfl rfl)
theorem dX3_days_12 : decode cX3_days 12 = .ok (.aload_n 0, 1) := dk_42 (dk_at dksX3_days_0 12 rfl rfl)
theorem dX3_days_13 : decode cX3_days 13 = .ok (.bipush (-82), 2) := dk_16 174 (dk_at dksX3_days_0 13 rfl rfl)
theorem dX3_days_15 : decode cX3_days 15 = .ok (.invokevirtual 75, 3) := dk_182 0 75 (dk_at dksX3_days_0 15 rfl rfl)
theorem dX3_days_18 : decode cX3_days 18 = .ok (.ireturn, 1) := dk_172 (dk_at dksX3_days_0 18 rfl rfl)
theorem dX3_days_19 : decode cX3_days 19 = .ok (.iconst 0, 1) := dk_3 (dk_at dksX3_days_0 19 rfl rfl)
theorem dX3_days_20 : decode cX3_days 20 = .ok (.istore_n 2, 1) := dk_61 (dk_at dksX3_days_0 20 rfl rfl)
theorem dX3_days_21 : decode cX3_days 21 = .ok (.iconst 0, 1) := dk_3 (dk_at dksX3_days_0 21 rfl rfl)
theorem dX3_days_22 : decode cX3_days 22 = .ok (.istore_n 3, 1) := dk_62 (dk_at dksX3_days_0 22 rfl rfl)
theorem dX3_days_23 : decode cX3_days 23 = .ok (.iload_n 3, 1) := dk_29 (dk_at dksX3_days_0 23 rfl rfl)
theorem dX3_days_24 : decode cX3_days 24 = .ok (.iload_n 1, 1) := dk_27 (dk_at dksX3_days_1 0 rfl rfl)
theorem dX3_days_25 : decode cX3_days 25 = .ok (.if_icmp .ge 37, 3) := dk_162 0 37 (dk_at dksX3_days_1 1 rfl rfl)
theorem dX3_days_28 : decode cX3_days 28 = .ok (.iload_n 2, 1) := dk_28 (dk_at dksX3_days_1 4 rfl rfl)
theorem dX3_days_29 : decode cX3_days 29 = .ok (.aload_n 0, 1) := dk_42 (dk_at dksX3_days_1 5 rfl rfl)
theorem dX3_days_30 : decode cX3_days 30 = .ok (.aload_n 0, 1) := dk_42 (dk_at dksX3_days_1 6 rfl rfl)
theorem dX3_days_31 : decode cX3_days 31 = .ok (.bipush 6, 2) := dk_16 6 (dk_at dksX3_days_1 7 rfl rfl)
theorem dX3_days_33 : decode cX3_days 33 = .ok (.invokevirtual 248, 3) := dk_182 0 248 (dk_at dksX3_days_1 9 rfl rfl)
theorem dX3_days_36 : decode cX3_days 36 = .ok (.invokevirtual 253, 3) := dk_182 0 253 (dk_at dksX3_days_1 12 rfl rfl)
theorem dX3_days_39 : decode cX3_days 39 = .ok (.ifCond .eq 7, 3) := dk_153 0 7 (dk_at dksX3_days_1 15 rfl rfl)
theorem dX3_days_42 : decode cX3_days 42 = .ok (.iconst 1, 1) := dk_4 (dk_at dksX3_days_1 18 rfl rfl)
theorem dX3_days_43 : decode cX3_days 43 = .ok (.goto 4, 3) := dk_167 0 4 (dk_at dksX3_days_1 19 rfl rfl)
theorem dX3_days_46 : decode cX3_days 46 = .ok (.iconst 0, 1) := dk_3 (dk_at dksX3_days_1 22 rfl rfl)
theorem dX3_days_47 : decode cX3_days 47 = .ok (.iadd, 1) := dk_96 (dk_at dksX3_days_1 23 rfl rfl)
theorem dX3_days_48 : decode cX3_days 48 = .ok (.istore_n 2, 1) := dk_61 (dk_at dksX3_days_2 0 rfl rfl)
theorem dX3_days_49 : decode cX3_days 49 = .ok (.aload_n 0, 1) := dk_42 (dk_at dksX3_days_2 1 rfl rfl)
theorem dX3_days_50 : decode cX3_days 50 = .ok (.iconst 1, 1) := dk_4 (dk_at dksX3_days_2 2 rfl rfl)
theorem dX3_days_51 : decode cX3_days 51 = .ok (.invokevirtual 200, 3) := dk_182 0 200 (dk_at dksX3_days_2 3 rfl rfl)
theorem dX3_days_54 : decode cX3_days 54 = .ok (.istore 4, 2) := dk_54 4 (dk_at dksX3_days_2 6 rfl rfl)
theorem dX3_days_56 : decode cX3_days 56 = .ok (.iinc 3 1, 3) := dk_132 3 1 (dk_at dksX3_days_2 8 rfl rfl)
theorem dX3_days_59 : decode cX3_days 59 = .ok (.goto (-36), 3) := dk_167 255 220 (dk_at dksX3_days_2 11 rfl rfl)
theorem dX3_days_62 : decode cX3_days 62 = .ok (.iload_n 2, 1) := dk_28 (dk_at dksX3_days_2 14 rfl rfl)
theorem dX3_days_63 : decode cX3_days 63 = .ok (.ireturn, 1) := dk_172 (dk_at dksX3_days_2 15 rfl rfl)
abbrev cX3_draw : ByteArray := prog_24_method_88_code
def yX3_draw : MethodName := ⟨RX3, "draw", "(I)I"⟩
def dkwX3_draw_1 : List UInt8 := [46, 16, 16, 124, 27, 112, 172]
abbrev dktX3_draw_1 : List UInt8 := dkwX3_draw_1 ++ []
def dkwX3_draw_0 : List UInt8 := [42, 180, 0, 9, 8, 42, 180, 0, 9, 8, 46, 18, 247, 104, 17, 48, 57, 96, 79, 42, 180, 0, 9, 8]
abbrev dktX3_draw_0 : List UInt8 := dkwX3_draw_0 ++ dktX3_draw_1
theorem dksX3_draw_0 : cX3_draw.data.toList.drop 0 = dktX3_draw_0 := by decide +kernel
theorem dksX3_draw_1 : cX3_draw.data.toList.drop 24 = dktX3_draw_1 := dk_seg dksX3_draw_0 24 rfl rfl
theorem dX3_draw_0 : decode cX3_draw 0 = .ok (.aload_n 0, 1) := dk_42 (dk_at dksX3_draw_0 0 rfl rfl)
theorem dX3_draw_1 : decode cX3_draw 1 = .ok (.getfield 9, 3) := dk_180 0 9 (dk_at dksX3_draw_0 1 rfl rfl)
theorem dX3_draw_4 : decode cX3_draw 4 = .ok (.iconst 5, 1) := dk_8 (dk_at dksX3_draw_0 4 rfl rfl)
theorem dX3_draw_5 : decode cX3_draw 5 = .ok (.aload_n 0, 1) := dk_42 (dk_at dksX3_draw_0 5 rfl rfl)
theorem dX3_draw_6 : decode cX3_draw 6 = .ok (.getfield 9, 3) := dk_180 0 9 (dk_at dksX3_draw_0 6 rfl rfl)
theorem dX3_draw_9 : decode cX3_draw 9 = .ok (.iconst 5, 1) := dk_8 (dk_at dksX3_draw_0 9 rfl rfl)
theorem dX3_draw_10 : decode cX3_draw 10 = .ok (.iaload, 1) := dk_46 (dk_at dksX3_draw_0 10 rfl rfl)
theorem dX3_draw_11 : decode cX3_draw 11 = .ok (.ldc 247, 2) := dk_18 247 (dk_at dksX3_draw_0 11 rfl rfl)
theorem dX3_draw_13 : decode cX3_draw 13 = .ok (.imul, 1) := dk_104 (dk_at dksX3_draw_0 13 rfl rfl)
theorem dX3_draw_14 : decode cX3_draw 14 = .ok (.sipush 12345, 3) := dk_17 48 57 (dk_at dksX3_draw_0 14 rfl rfl)
theorem dX3_draw_17 : decode cX3_draw 17 = .ok (.iadd, 1) := dk_96 (dk_at dksX3_draw_0 17 rfl rfl)
theorem dX3_draw_18 : decode cX3_draw 18 = .ok (.iastore, 1) := dk_79 (dk_at dksX3_draw_0 18 rfl rfl)
theorem dX3_draw_19 : decode cX3_draw 19 = .ok (.aload_n 0, 1) := dk_42 (dk_at dksX3_draw_0 19 rfl rfl)
theorem dX3_draw_20 : decode cX3_draw 20 = .ok (.getfield 9, 3) := dk_180 0 9 (dk_at dksX3_draw_0 20 rfl rfl)
theorem dX3_draw_23 : decode cX3_draw 23 = .ok (.iconst 5, 1) := dk_8 (dk_at dksX3_draw_0 23 rfl rfl)
theorem dX3_draw_24 : decode cX3_draw 24 = .ok (.iaload, 1) := dk_46 (dk_at dksX3_draw_1 0 rfl rfl)
theorem dX3_draw_25 : decode cX3_draw 25 = .ok (.bipush 16, 2) := dk_16 16 (dk_at dksX3_draw_1 1 rfl rfl)
theorem dX3_draw_27 : decode cX3_draw 27 = .ok (.iushr, 1) := dk_124 (dk_at dksX3_draw_1 3 rfl rfl)
theorem dX3_draw_28 : decode cX3_draw 28 = .ok (.iload_n 1, 1) := dk_27 (dk_at dksX3_draw_1 4 rfl rfl)
theorem dX3_draw_29 : decode cX3_draw 29 = .ok (.irem, 1) := dk_112 (dk_at dksX3_draw_1 5 rfl rfl)
theorem dX3_draw_30 : decode cX3_draw 30 = .ok (.ireturn, 1) := dk_172 (dk_at dksX3_draw_1 6 rfl rfl)
abbrev cX3_isDay : ByteArray := prog_24_method_89_code
def yX3_isDay : MethodName := ⟨RX3, "isDay", "(I)Z"⟩
def dkwX3_isDay_6 : List UInt8 := [42, 28, 29, 182, 0, 192, 54, 4, 4, 172]
abbrev dktX3_isDay_6 : List UInt8 := dkwX3_isDay_6 ++ []
def dkwX3_isDay_5 : List UInt8 := [182, 0, 183, 62, 29, 156, 0, 5, 3, 172, 27, 7, 160, 0, 12, 42, 28, 29, 182, 0, 186, 167, 0, 11]
abbrev dktX3_isDay_5 : List UInt8 := dkwX3_isDay_5 ++ dktX3_isDay_6
def dkwX3_isDay_4 : List UInt8 := [180, 0, 9, 4, 46, 154, 0, 5, 3, 172, 42, 42, 180, 0, 9, 4, 46, 182, 0, 248, 61, 42, 28, 2]
abbrev dktX3_isDay_4 : List UInt8 := dkwX3_isDay_4 ++ dktX3_isDay_5
def dkwX3_isDay_3 : List UInt8 := [42, 42, 42, 180, 0, 9, 3, 46, 182, 0, 248, 182, 0, 172, 155, 0, 7, 4, 167, 0, 4, 3, 172, 42]
abbrev dktX3_isDay_3 : List UInt8 := dkwX3_isDay_3 ++ dktX3_isDay_4
def dkwX3_isDay_2 : List UInt8 := [182, 0, 248, 182, 0, 151, 54, 4, 4, 172, 27, 7, 162, 0, 35, 42, 180, 0, 9, 3, 46, 158, 0, 24]
abbrev dktX3_isDay_2 : List UInt8 := dkwX3_isDay_2 ++ dktX3_isDay_3
def dkwX3_isDay_1 : List UInt8 := [160, 0, 5, 3, 172, 42, 16, 8, 182, 0, 248, 61, 42, 7, 182, 0, 248, 62, 42, 28, 29, 42, 16, 100]
abbrev dktX3_isDay_1 : List UInt8 := dkwX3_isDay_1 ++ dktX3_isDay_2
def dkwX3_isDay_0 : List UInt8 := [27, 5, 162, 0, 56, 42, 180, 0, 9, 16, 6, 46, 153, 0, 15, 42, 180, 0, 9, 5, 46, 17, 1, 44]
abbrev dktX3_isDay_0 : List UInt8 := dkwX3_isDay_0 ++ dktX3_isDay_1
theorem dksX3_isDay_0 : cX3_isDay.data.toList.drop 0 = dktX3_isDay_0 := by decide +kernel
theorem dksX3_isDay_1 : cX3_isDay.data.toList.drop 24 = dktX3_isDay_1 := dk_seg dksX3_isDay_0 24 rfl rfl
theorem dksX3_isDay_2 : cX3_isDay.data.toList.drop 48 = dktX3_isDay_2 := dk_seg dksX3_isDay_1 24 rfl rfl
theorem dksX3_isDay_3 : cX3_isDay.data.toList.drop 72 = dktX3_isDay_3 := dk_seg dksX3_isDay_2 24 rfl rfl
theorem dksX3_isDay_4 : cX3_isDay.data.toList.drop 96 = dktX3_isDay_4 := dk_seg dksX3_isDay_3 24 rfl rfl
theorem dksX3_isDay_5 : cX3_isDay.data.toList.drop 120 = dktX3_isDay_5 := dk_seg dksX3_isDay_4 24 rfl rfl
theorem dksX3_isDay_6 : cX3_isDay.data.toList.drop 144 = dktX3_isDay_6 := dk_seg dksX3_isDay_5 24 rfl rfl
theorem dX3_isDay_0 : decode cX3_isDay 0 = .ok (.iload_n 1, 1) := dk_27 (dk_at dksX3_isDay_0 0 rfl rfl)
theorem dX3_isDay_1 : decode cX3_isDay 1 = .ok (.iconst 2, 1) := dk_5 (dk_at dksX3_isDay_0 1 rfl rfl)
theorem dX3_isDay_2 : decode cX3_isDay 2 = .ok (.if_icmp .ge 56, 3) := dk_162 0 56 (dk_at dksX3_isDay_0 2 rfl rfl)
theorem dX3_isDay_5 : decode cX3_isDay 5 = .ok (.aload_n 0, 1) := dk_42 (dk_at dksX3_isDay_0 5 rfl rfl)
theorem dX3_isDay_6 : decode cX3_isDay 6 = .ok (.getfield 9, 3) := dk_180 0 9 (dk_at dksX3_isDay_0 6 rfl rfl)
theorem dX3_isDay_9 : decode cX3_isDay 9 = .ok (.bipush 6, 2) := dk_16 6 (dk_at dksX3_isDay_0 9 rfl rfl)
theorem dX3_isDay_11 : decode cX3_isDay 11 = .ok (.iaload, 1) := dk_46 (dk_at dksX3_isDay_0 11 rfl rfl)
theorem dX3_isDay_12 : decode cX3_isDay 12 = .ok (.ifCond .eq 15, 3) := dk_153 0 15 (dk_at dksX3_isDay_0 12 rfl rfl)
theorem dX3_isDay_15 : decode cX3_isDay 15 = .ok (.aload_n 0, 1) := dk_42 (dk_at dksX3_isDay_0 15 rfl rfl)
theorem dX3_isDay_16 : decode cX3_isDay 16 = .ok (.getfield 9, 3) := dk_180 0 9 (dk_at dksX3_isDay_0 16 rfl rfl)
theorem dX3_isDay_19 : decode cX3_isDay 19 = .ok (.iconst 2, 1) := dk_5 (dk_at dksX3_isDay_0 19 rfl rfl)
theorem dX3_isDay_20 : decode cX3_isDay 20 = .ok (.iaload, 1) := dk_46 (dk_at dksX3_isDay_0 20 rfl rfl)
theorem dX3_isDay_21 : decode cX3_isDay 21 = .ok (.sipush 300, 3) := dk_17 1 44 (dk_at dksX3_isDay_0 21 rfl rfl)
theorem dX3_isDay_24 : decode cX3_isDay 24 = .ok (.if_icmp .ne 5, 3) := dk_160 0 5 (dk_at dksX3_isDay_1 0 rfl rfl)
theorem dX3_isDay_27 : decode cX3_isDay 27 = .ok (.iconst 0, 1) := dk_3 (dk_at dksX3_isDay_1 3 rfl rfl)
theorem dX3_isDay_28 : decode cX3_isDay 28 = .ok (.ireturn, 1) := dk_172 (dk_at dksX3_isDay_1 4 rfl rfl)
theorem dX3_isDay_29 : decode cX3_isDay 29 = .ok (.aload_n 0, 1) := dk_42 (dk_at dksX3_isDay_1 5 rfl rfl)
theorem dX3_isDay_30 : decode cX3_isDay 30 = .ok (.bipush 8, 2) := dk_16 8 (dk_at dksX3_isDay_1 6 rfl rfl)
theorem dX3_isDay_32 : decode cX3_isDay 32 = .ok (.invokevirtual 248, 3) := dk_182 0 248 (dk_at dksX3_isDay_1 8 rfl rfl)
theorem dX3_isDay_35 : decode cX3_isDay 35 = .ok (.istore_n 2, 1) := dk_61 (dk_at dksX3_isDay_1 11 rfl rfl)
theorem dX3_isDay_36 : decode cX3_isDay 36 = .ok (.aload_n 0, 1) := dk_42 (dk_at dksX3_isDay_1 12 rfl rfl)
theorem dX3_isDay_37 : decode cX3_isDay 37 = .ok (.iconst 4, 1) := dk_7 (dk_at dksX3_isDay_1 13 rfl rfl)
theorem dX3_isDay_38 : decode cX3_isDay 38 = .ok (.invokevirtual 248, 3) := dk_182 0 248 (dk_at dksX3_isDay_1 14 rfl rfl)
theorem dX3_isDay_41 : decode cX3_isDay 41 = .ok (.istore_n 3, 1) := dk_62 (dk_at dksX3_isDay_1 17 rfl rfl)
theorem dX3_isDay_42 : decode cX3_isDay 42 = .ok (.aload_n 0, 1) := dk_42 (dk_at dksX3_isDay_1 18 rfl rfl)
theorem dX3_isDay_43 : decode cX3_isDay 43 = .ok (.iload_n 2, 1) := dk_28 (dk_at dksX3_isDay_1 19 rfl rfl)
theorem dX3_isDay_44 : decode cX3_isDay 44 = .ok (.iload_n 3, 1) := dk_29 (dk_at dksX3_isDay_1 20 rfl rfl)
theorem dX3_isDay_45 : decode cX3_isDay 45 = .ok (.aload_n 0, 1) := dk_42 (dk_at dksX3_isDay_1 21 rfl rfl)
theorem dX3_isDay_46 : decode cX3_isDay 46 = .ok (.bipush 100, 2) := dk_16 100 (dk_at dksX3_isDay_1 22 rfl rfl)
theorem dX3_isDay_48 : decode cX3_isDay 48 = .ok (.invokevirtual 248, 3) := dk_182 0 248 (dk_at dksX3_isDay_2 0 rfl rfl)
theorem dX3_isDay_51 : decode cX3_isDay 51 = .ok (.invokevirtual 151, 3) := dk_182 0 151 (dk_at dksX3_isDay_2 3 rfl rfl)
theorem dX3_isDay_54 : decode cX3_isDay 54 = .ok (.istore 4, 2) := dk_54 4 (dk_at dksX3_isDay_2 6 rfl rfl)
theorem dX3_isDay_56 : decode cX3_isDay 56 = .ok (.iconst 1, 1) := dk_4 (dk_at dksX3_isDay_2 8 rfl rfl)
theorem dX3_isDay_57 : decode cX3_isDay 57 = .ok (.ireturn, 1) := dk_172 (dk_at dksX3_isDay_2 9 rfl rfl)
theorem dX3_isDay_58 : decode cX3_isDay 58 = .ok (.iload_n 1, 1) := dk_27 (dk_at dksX3_isDay_2 10 rfl rfl)
theorem dX3_isDay_59 : decode cX3_isDay 59 = .ok (.iconst 4, 1) := dk_7 (dk_at dksX3_isDay_2 11 rfl rfl)
theorem dX3_isDay_60 : decode cX3_isDay 60 = .ok (.if_icmp .ge 35, 3) := dk_162 0 35 (dk_at dksX3_isDay_2 12 rfl rfl)
theorem dX3_isDay_63 : decode cX3_isDay 63 = .ok (.aload_n 0, 1) := dk_42 (dk_at dksX3_isDay_2 15 rfl rfl)
theorem dX3_isDay_64 : decode cX3_isDay 64 = .ok (.getfield 9, 3) := dk_180 0 9 (dk_at dksX3_isDay_2 16 rfl rfl)
theorem dX3_isDay_67 : decode cX3_isDay 67 = .ok (.iconst 0, 1) := dk_3 (dk_at dksX3_isDay_2 19 rfl rfl)
theorem dX3_isDay_68 : decode cX3_isDay 68 = .ok (.iaload, 1) := dk_46 (dk_at dksX3_isDay_2 20 rfl rfl)
theorem dX3_isDay_69 : decode cX3_isDay 69 = .ok (.ifCond .le 24, 3) := dk_158 0 24 (dk_at dksX3_isDay_2 21 rfl rfl)
theorem dX3_isDay_72 : decode cX3_isDay 72 = .ok (.aload_n 0, 1) := dk_42 (dk_at dksX3_isDay_3 0 rfl rfl)
theorem dX3_isDay_73 : decode cX3_isDay 73 = .ok (.aload_n 0, 1) := dk_42 (dk_at dksX3_isDay_3 1 rfl rfl)
theorem dX3_isDay_74 : decode cX3_isDay 74 = .ok (.aload_n 0, 1) := dk_42 (dk_at dksX3_isDay_3 2 rfl rfl)
theorem dX3_isDay_75 : decode cX3_isDay 75 = .ok (.getfield 9, 3) := dk_180 0 9 (dk_at dksX3_isDay_3 3 rfl rfl)
theorem dX3_isDay_78 : decode cX3_isDay 78 = .ok (.iconst 0, 1) := dk_3 (dk_at dksX3_isDay_3 6 rfl rfl)
theorem dX3_isDay_79 : decode cX3_isDay 79 = .ok (.iaload, 1) := dk_46 (dk_at dksX3_isDay_3 7 rfl rfl)
theorem dX3_isDay_80 : decode cX3_isDay 80 = .ok (.invokevirtual 248, 3) := dk_182 0 248 (dk_at dksX3_isDay_3 8 rfl rfl)
theorem dX3_isDay_83 : decode cX3_isDay 83 = .ok (.invokevirtual 172, 3) := dk_182 0 172 (dk_at dksX3_isDay_3 11 rfl rfl)
theorem dX3_isDay_86 : decode cX3_isDay 86 = .ok (.ifCond .lt 7, 3) := dk_155 0 7 (dk_at dksX3_isDay_3 14 rfl rfl)
theorem dX3_isDay_89 : decode cX3_isDay 89 = .ok (.iconst 1, 1) := dk_4 (dk_at dksX3_isDay_3 17 rfl rfl)
theorem dX3_isDay_90 : decode cX3_isDay 90 = .ok (.goto 4, 3) := dk_167 0 4 (dk_at dksX3_isDay_3 18 rfl rfl)
theorem dX3_isDay_93 : decode cX3_isDay 93 = .ok (.iconst 0, 1) := dk_3 (dk_at dksX3_isDay_3 21 rfl rfl)
theorem dX3_isDay_94 : decode cX3_isDay 94 = .ok (.ireturn, 1) := dk_172 (dk_at dksX3_isDay_3 22 rfl rfl)
theorem dX3_isDay_95 : decode cX3_isDay 95 = .ok (.aload_n 0, 1) := dk_42 (dk_at dksX3_isDay_3 23 rfl rfl)
theorem dX3_isDay_96 : decode cX3_isDay 96 = .ok (.getfield 9, 3) := dk_180 0 9 (dk_at dksX3_isDay_4 0 rfl rfl)
theorem dX3_isDay_99 : decode cX3_isDay 99 = .ok (.iconst 1, 1) := dk_4 (dk_at dksX3_isDay_4 3 rfl rfl)
theorem dX3_isDay_100 : decode cX3_isDay 100 = .ok (.iaload, 1) := dk_46 (dk_at dksX3_isDay_4 4 rfl rfl)
theorem dX3_isDay_101 : decode cX3_isDay 101 = .ok (.ifCond .ne 5, 3) := dk_154 0 5 (dk_at dksX3_isDay_4 5 rfl rfl)
theorem dX3_isDay_104 : decode cX3_isDay 104 = .ok (.iconst 0, 1) := dk_3 (dk_at dksX3_isDay_4 8 rfl rfl)
theorem dX3_isDay_105 : decode cX3_isDay 105 = .ok (.ireturn, 1) := dk_172 (dk_at dksX3_isDay_4 9 rfl rfl)
theorem dX3_isDay_106 : decode cX3_isDay 106 = .ok (.aload_n 0, 1) := dk_42 (dk_at dksX3_isDay_4 10 rfl rfl)
theorem dX3_isDay_107 : decode cX3_isDay 107 = .ok (.aload_n 0, 1) := dk_42 (dk_at dksX3_isDay_4 11 rfl rfl)
theorem dX3_isDay_108 : decode cX3_isDay 108 = .ok (.getfield 9, 3) := dk_180 0 9 (dk_at dksX3_isDay_4 12 rfl rfl)
theorem dX3_isDay_111 : decode cX3_isDay 111 = .ok (.iconst 1, 1) := dk_4 (dk_at dksX3_isDay_4 15 rfl rfl)
theorem dX3_isDay_112 : decode cX3_isDay 112 = .ok (.iaload, 1) := dk_46 (dk_at dksX3_isDay_4 16 rfl rfl)
theorem dX3_isDay_113 : decode cX3_isDay 113 = .ok (.invokevirtual 248, 3) := dk_182 0 248 (dk_at dksX3_isDay_4 17 rfl rfl)
theorem dX3_isDay_116 : decode cX3_isDay 116 = .ok (.istore_n 2, 1) := dk_61 (dk_at dksX3_isDay_4 20 rfl rfl)
theorem dX3_isDay_117 : decode cX3_isDay 117 = .ok (.aload_n 0, 1) := dk_42 (dk_at dksX3_isDay_4 21 rfl rfl)
theorem dX3_isDay_118 : decode cX3_isDay 118 = .ok (.iload_n 2, 1) := dk_28 (dk_at dksX3_isDay_4 22 rfl rfl)
theorem dX3_isDay_119 : decode cX3_isDay 119 = .ok (.iconst (-1), 1) := dk_2 (dk_at dksX3_isDay_4 23 rfl rfl)
theorem dX3_isDay_120 : decode cX3_isDay 120 = .ok (.invokevirtual 183, 3) := dk_182 0 183 (dk_at dksX3_isDay_5 0 rfl rfl)
theorem dX3_isDay_123 : decode cX3_isDay 123 = .ok (.istore_n 3, 1) := dk_62 (dk_at dksX3_isDay_5 3 rfl rfl)
theorem dX3_isDay_124 : decode cX3_isDay 124 = .ok (.iload_n 3, 1) := dk_29 (dk_at dksX3_isDay_5 4 rfl rfl)
theorem dX3_isDay_125 : decode cX3_isDay 125 = .ok (.ifCond .ge 5, 3) := dk_156 0 5 (dk_at dksX3_isDay_5 5 rfl rfl)
theorem dX3_isDay_128 : decode cX3_isDay 128 = .ok (.iconst 0, 1) := dk_3 (dk_at dksX3_isDay_5 8 rfl rfl)
theorem dX3_isDay_129 : decode cX3_isDay 129 = .ok (.ireturn, 1) := dk_172 (dk_at dksX3_isDay_5 9 rfl rfl)
theorem dX3_isDay_130 : decode cX3_isDay 130 = .ok (.iload_n 1, 1) := dk_27 (dk_at dksX3_isDay_5 10 rfl rfl)
theorem dX3_isDay_131 : decode cX3_isDay 131 = .ok (.iconst 4, 1) := dk_7 (dk_at dksX3_isDay_5 11 rfl rfl)
theorem dX3_isDay_132 : decode cX3_isDay 132 = .ok (.if_icmp .ne 12, 3) := dk_160 0 12 (dk_at dksX3_isDay_5 12 rfl rfl)
theorem dX3_isDay_135 : decode cX3_isDay 135 = .ok (.aload_n 0, 1) := dk_42 (dk_at dksX3_isDay_5 15 rfl rfl)
theorem dX3_isDay_136 : decode cX3_isDay 136 = .ok (.iload_n 2, 1) := dk_28 (dk_at dksX3_isDay_5 16 rfl rfl)
theorem dX3_isDay_137 : decode cX3_isDay 137 = .ok (.iload_n 3, 1) := dk_29 (dk_at dksX3_isDay_5 17 rfl rfl)
theorem dX3_isDay_138 : decode cX3_isDay 138 = .ok (.invokevirtual 186, 3) := dk_182 0 186 (dk_at dksX3_isDay_5 18 rfl rfl)
theorem dX3_isDay_141 : decode cX3_isDay 141 = .ok (.goto 11, 3) := dk_167 0 11 (dk_at dksX3_isDay_5 21 rfl rfl)
theorem dX3_isDay_144 : decode cX3_isDay 144 = .ok (.aload_n 0, 1) := dk_42 (dk_at dksX3_isDay_6 0 rfl rfl)
theorem dX3_isDay_145 : decode cX3_isDay 145 = .ok (.iload_n 2, 1) := dk_28 (dk_at dksX3_isDay_6 1 rfl rfl)
theorem dX3_isDay_146 : decode cX3_isDay 146 = .ok (.iload_n 3, 1) := dk_29 (dk_at dksX3_isDay_6 2 rfl rfl)
theorem dX3_isDay_147 : decode cX3_isDay 147 = .ok (.invokevirtual 192, 3) := dk_182 0 192 (dk_at dksX3_isDay_6 3 rfl rfl)
theorem dX3_isDay_150 : decode cX3_isDay 150 = .ok (.istore 4, 2) := dk_54 4 (dk_at dksX3_isDay_6 6 rfl rfl)
theorem dX3_isDay_152 : decode cX3_isDay 152 = .ok (.iconst 1, 1) := dk_4 (dk_at dksX3_isDay_6 8 rfl rfl)
theorem dX3_isDay_153 : decode cX3_isDay 153 = .ok (.ireturn, 1) := dk_172 (dk_at dksX3_isDay_6 9 rfl rfl)
abbrev cX3_seed : ByteArray := prog_24_method_91_code
def yX3_seed : MethodName := ⟨RX3, "seed", "(I)I"⟩
def dkwX3_seed_0 : List UInt8 := [42, 180, 0, 9, 8, 46, 61, 42, 180, 0, 9, 8, 27, 79, 28, 172]
abbrev dktX3_seed_0 : List UInt8 := dkwX3_seed_0 ++ []
theorem dksX3_seed_0 : cX3_seed.data.toList.drop 0 = dktX3_seed_0 := by decide +kernel
theorem dX3_seed_0 : decode cX3_seed 0 = .ok (.aload_n 0, 1) := dk_42 (dk_at dksX3_seed_0 0 rfl rfl)
theorem dX3_seed_1 : decode cX3_seed 1 = .ok (.getfield 9, 3) := dk_180 0 9 (dk_at dksX3_seed_0 1 rfl rfl)
theorem dX3_seed_4 : decode cX3_seed 4 = .ok (.iconst 5, 1) := dk_8 (dk_at dksX3_seed_0 4 rfl rfl)
theorem dX3_seed_5 : decode cX3_seed 5 = .ok (.iaload, 1) := dk_46 (dk_at dksX3_seed_0 5 rfl rfl)
theorem dX3_seed_6 : decode cX3_seed 6 = .ok (.istore_n 2, 1) := dk_61 (dk_at dksX3_seed_0 6 rfl rfl)
theorem dX3_seed_7 : decode cX3_seed 7 = .ok (.aload_n 0, 1) := dk_42 (dk_at dksX3_seed_0 7 rfl rfl)
theorem dX3_seed_8 : decode cX3_seed 8 = .ok (.getfield 9, 3) := dk_180 0 9 (dk_at dksX3_seed_0 8 rfl rfl)
theorem dX3_seed_11 : decode cX3_seed 11 = .ok (.iconst 5, 1) := dk_8 (dk_at dksX3_seed_0 11 rfl rfl)
theorem dX3_seed_12 : decode cX3_seed 12 = .ok (.iload_n 1, 1) := dk_27 (dk_at dksX3_seed_0 12 rfl rfl)
theorem dX3_seed_13 : decode cX3_seed 13 = .ok (.iastore, 1) := dk_79 (dk_at dksX3_seed_0 13 rfl rfl)
theorem dX3_seed_14 : decode cX3_seed 14 = .ok (.iload_n 2, 1) := dk_28 (dk_at dksX3_seed_0 14 rfl rfl)
theorem dX3_seed_15 : decode cX3_seed 15 = .ok (.ireturn, 1) := dk_172 (dk_at dksX3_seed_0 15 rfl rfl)
abbrev cX3_image : ByteArray := prog_24_method_92_code
def yX3_image : MethodName := ⟨RX3, "image", "()I"⟩
def dkwX3_image_0 : List UInt8 := [42, 180, 0, 9, 42, 180, 0, 16, 184, 0, 223, 42, 4, 181, 1, 0, 4, 172]
abbrev dktX3_image_0 : List UInt8 := dkwX3_image_0 ++ []
theorem dksX3_image_0 : cX3_image.data.toList.drop 0 = dktX3_image_0 := by decide +kernel
theorem dX3_image_0 : decode cX3_image 0 = .ok (.aload_n 0, 1) := dk_42 (dk_at dksX3_image_0 0 rfl rfl)
theorem dX3_image_1 : decode cX3_image 1 = .ok (.getfield 9, 3) := dk_180 0 9 (dk_at dksX3_image_0 1 rfl rfl)
theorem dX3_image_4 : decode cX3_image 4 = .ok (.aload_n 0, 1) := dk_42 (dk_at dksX3_image_0 4 rfl rfl)
theorem dX3_image_5 : decode cX3_image 5 = .ok (.getfield 16, 3) := dk_180 0 16 (dk_at dksX3_image_0 5 rfl rfl)
theorem dX3_image_8 : decode cX3_image 8 = .ok (.invokestatic 223, 3) := dk_184 0 223 (dk_at dksX3_image_0 8 rfl rfl)
theorem dX3_image_11 : decode cX3_image 11 = .ok (.aload_n 0, 1) := dk_42 (dk_at dksX3_image_0 11 rfl rfl)
theorem dX3_image_12 : decode cX3_image 12 = .ok (.iconst 1, 1) := dk_4 (dk_at dksX3_image_0 12 rfl rfl)
theorem dX3_image_13 : decode cX3_image 13 = .ok (.putfield 256, 3) := dk_181 1 0 (dk_at dksX3_image_0 13 rfl rfl)
theorem dX3_image_16 : decode cX3_image 16 = .ok (.iconst 1, 1) := dk_4 (dk_at dksX3_image_0 16 rfl rfl)
theorem dX3_image_17 : decode cX3_image 17 = .ok (.ireturn, 1) := dk_172 (dk_at dksX3_image_0 17 rfl rfl)
abbrev cX3_back : ByteArray := prog_24_method_93_code
def yX3_back : MethodName := ⟨RX3, "back", "()I"⟩
def dkwX3_back_1 : List UInt8 := [184, 0, 223, 4, 172]
abbrev dktX3_back_1 : List UInt8 := dkwX3_back_1 ++ []
def dkwX3_back_0 : List UInt8 := [42, 180, 1, 0, 154, 0, 10, 42, 16, 171, 182, 0, 75, 172, 42, 180, 0, 16, 42, 180, 0, 9]
abbrev dktX3_back_0 : List UInt8 := dkwX3_back_0 ++ dktX3_back_1
theorem dksX3_back_0 : cX3_back.data.toList.drop 0 = dktX3_back_0 := by decide +kernel
theorem dksX3_back_1 : cX3_back.data.toList.drop 22 = dktX3_back_1 := dk_seg dksX3_back_0 22 rfl rfl
theorem dX3_back_0 : decode cX3_back 0 = .ok (.aload_n 0, 1) := dk_42 (dk_at dksX3_back_0 0 rfl rfl)
theorem dX3_back_1 : decode cX3_back 1 = .ok (.getfield 256, 3) := dk_180 1 0 (dk_at dksX3_back_0 1 rfl rfl)
theorem dX3_back_4 : decode cX3_back 4 = .ok (.ifCond .ne 10, 3) := dk_154 0 10 (dk_at dksX3_back_0 4 rfl rfl)
theorem dX3_back_7 : decode cX3_back 7 = .ok (.aload_n 0, 1) := dk_42 (dk_at dksX3_back_0 7 rfl rfl)
theorem dX3_back_8 : decode cX3_back 8 = .ok (.bipush (-85), 2) := dk_16 171 (dk_at dksX3_back_0 8 rfl rfl)
theorem dX3_back_10 : decode cX3_back 10 = .ok (.invokevirtual 75, 3) := dk_182 0 75 (dk_at dksX3_back_0 10 rfl rfl)
theorem dX3_back_13 : decode cX3_back 13 = .ok (.ireturn, 1) := dk_172 (dk_at dksX3_back_0 13 rfl rfl)
theorem dX3_back_14 : decode cX3_back 14 = .ok (.aload_n 0, 1) := dk_42 (dk_at dksX3_back_0 14 rfl rfl)
theorem dX3_back_15 : decode cX3_back 15 = .ok (.getfield 16, 3) := dk_180 0 16 (dk_at dksX3_back_0 15 rfl rfl)
theorem dX3_back_18 : decode cX3_back 18 = .ok (.aload_n 0, 1) := dk_42 (dk_at dksX3_back_0 18 rfl rfl)
theorem dX3_back_19 : decode cX3_back 19 = .ok (.getfield 9, 3) := dk_180 0 9 (dk_at dksX3_back_0 19 rfl rfl)
theorem dX3_back_22 : decode cX3_back 22 = .ok (.invokestatic 223, 3) := dk_184 0 223 (dk_at dksX3_back_1 0 rfl rfl)
theorem dX3_back_25 : decode cX3_back 25 = .ok (.iconst 1, 1) := dk_4 (dk_at dksX3_back_1 3 rfl rfl)
theorem dX3_back_26 : decode cX3_back 26 = .ok (.ireturn, 1) := dk_172 (dk_at dksX3_back_1 4 rfl rfl)
abbrev cX3_status : ByteArray := prog_24_method_96_code
def yX3_status : MethodName := ⟨RX3, "status", "(I)I"⟩
def dkwX3_status_5 : List UInt8 := [2, 172]
abbrev dktX3_status_5 : List UInt8 := dkwX3_status_5 ++ []
def dkwX3_status_4 : List UInt8 := [20, 1, 11, 20, 1, 13, 184, 0, 47, 153, 0, 15, 42, 180, 0, 19, 27, 16, 12, 100, 46, 167, 0, 4]
abbrev dktX3_status_4 : List UInt8 := dkwX3_status_4 ++ dktX3_status_5
def dkwX3_status_3 : List UInt8 := [16, 6, 46, 172, 42, 180, 0, 79, 172, 42, 180, 0, 9, 8, 46, 172, 42, 182, 1, 8, 172, 27, 133]
abbrev dktX3_status_3 : List UInt8 := dkwX3_status_3 ++ dktX3_status_4
def dkwX3_status_2 : List UInt8 := [42, 180, 0, 9, 27, 46, 172, 42, 4, 182, 1, 4, 172, 42, 3, 182, 1, 4, 172, 42, 180, 0, 9]
abbrev dktX3_status_2 : List UInt8 := dkwX3_status_2 ++ dktX3_status_3
def dkwX3_status_1 : List UInt8 := [170, 0, 0, 0, 0, 0, 103, 0, 0, 0, 0, 0, 0, 0, 10, 0, 0, 0, 59, 0, 0, 0, 59, 0, 0, 0, 59, 0, 0, 0, 59, 0, 0, 0, 59, 0, 0, 0, 66, 0, 0, 0, 72, 0, 0, 0, 78, 0, 0, 0, 86, 0, 0, 0, 91, 0, 0, 0, 98]
abbrev dktX3_status_1 : List UInt8 := dkwX3_status_1 ++ dktX3_status_2
def dkwX3_status_0 : List UInt8 := [27]
abbrev dktX3_status_0 : List UInt8 := dkwX3_status_0 ++ dktX3_status_1
theorem dksX3_status_0 : cX3_status.data.toList.drop 0 = dktX3_status_0 := by decide +kernel
theorem dksX3_status_1 : cX3_status.data.toList.drop 1 = dktX3_status_1 := dk_seg dksX3_status_0 1 rfl rfl
theorem dksX3_status_2 : cX3_status.data.toList.drop 60 = dktX3_status_2 := dk_seg dksX3_status_1 59 rfl rfl
theorem dksX3_status_3 : cX3_status.data.toList.drop 83 = dktX3_status_3 := dk_seg dksX3_status_2 23 rfl rfl
theorem dksX3_status_4 : cX3_status.data.toList.drop 106 = dktX3_status_4 := dk_seg dksX3_status_3 23 rfl rfl
theorem dksX3_status_5 : cX3_status.data.toList.drop 130 = dktX3_status_5 := dk_seg dksX3_status_4 24 rfl rfl
theorem dX3_status_0 : decode cX3_status 0 = .ok (.iload_n 1, 1) := dk_27 (dk_at dksX3_status_0 0 rfl rfl)
theorem dX3_status_1 : decode cX3_status 1 = .ok (.tableswitch 103 0 10 #[59, 59, 59, 59, 59, 66, 72, 78, 86, 91, 98], 59) := by decide +kernel
theorem dX3_status_60 : decode cX3_status 60 = .ok (.aload_n 0, 1) := dk_42 (dk_at dksX3_status_2 0 rfl rfl)
theorem dX3_status_61 : decode cX3_status 61 = .ok (.getfield 9, 3) := dk_180 0 9 (dk_at dksX3_status_2 1 rfl rfl)
theorem dX3_status_64 : decode cX3_status 64 = .ok (.iload_n 1, 1) := dk_27 (dk_at dksX3_status_2 4 rfl rfl)
theorem dX3_status_65 : decode cX3_status 65 = .ok (.iaload, 1) := dk_46 (dk_at dksX3_status_2 5 rfl rfl)
theorem dX3_status_66 : decode cX3_status 66 = .ok (.ireturn, 1) := dk_172 (dk_at dksX3_status_2 6 rfl rfl)
theorem dX3_status_67 : decode cX3_status 67 = .ok (.aload_n 0, 1) := dk_42 (dk_at dksX3_status_2 7 rfl rfl)
theorem dX3_status_68 : decode cX3_status 68 = .ok (.iconst 1, 1) := dk_4 (dk_at dksX3_status_2 8 rfl rfl)
theorem dX3_status_69 : decode cX3_status 69 = .ok (.invokevirtual 260, 3) := dk_182 1 4 (dk_at dksX3_status_2 9 rfl rfl)
theorem dX3_status_72 : decode cX3_status 72 = .ok (.ireturn, 1) := dk_172 (dk_at dksX3_status_2 12 rfl rfl)
theorem dX3_status_73 : decode cX3_status 73 = .ok (.aload_n 0, 1) := dk_42 (dk_at dksX3_status_2 13 rfl rfl)
theorem dX3_status_74 : decode cX3_status 74 = .ok (.iconst 0, 1) := dk_3 (dk_at dksX3_status_2 14 rfl rfl)
theorem dX3_status_75 : decode cX3_status 75 = .ok (.invokevirtual 260, 3) := dk_182 1 4 (dk_at dksX3_status_2 15 rfl rfl)
theorem dX3_status_78 : decode cX3_status 78 = .ok (.ireturn, 1) := dk_172 (dk_at dksX3_status_2 18 rfl rfl)
theorem dX3_status_79 : decode cX3_status 79 = .ok (.aload_n 0, 1) := dk_42 (dk_at dksX3_status_2 19 rfl rfl)
theorem dX3_status_80 : decode cX3_status 80 = .ok (.getfield 9, 3) := dk_180 0 9 (dk_at dksX3_status_2 20 rfl rfl)
theorem dX3_status_83 : decode cX3_status 83 = .ok (.bipush 6, 2) := dk_16 6 (dk_at dksX3_status_3 0 rfl rfl)
theorem dX3_status_85 : decode cX3_status 85 = .ok (.iaload, 1) := dk_46 (dk_at dksX3_status_3 2 rfl rfl)
theorem dX3_status_86 : decode cX3_status 86 = .ok (.ireturn, 1) := dk_172 (dk_at dksX3_status_3 3 rfl rfl)
theorem dX3_status_87 : decode cX3_status 87 = .ok (.aload_n 0, 1) := dk_42 (dk_at dksX3_status_3 4 rfl rfl)
theorem dX3_status_88 : decode cX3_status 88 = .ok (.getfield 79, 3) := dk_180 0 79 (dk_at dksX3_status_3 5 rfl rfl)
theorem dX3_status_91 : decode cX3_status 91 = .ok (.ireturn, 1) := dk_172 (dk_at dksX3_status_3 8 rfl rfl)
theorem dX3_status_92 : decode cX3_status 92 = .ok (.aload_n 0, 1) := dk_42 (dk_at dksX3_status_3 9 rfl rfl)
theorem dX3_status_93 : decode cX3_status 93 = .ok (.getfield 9, 3) := dk_180 0 9 (dk_at dksX3_status_3 10 rfl rfl)
theorem dX3_status_96 : decode cX3_status 96 = .ok (.iconst 5, 1) := dk_8 (dk_at dksX3_status_3 13 rfl rfl)
theorem dX3_status_97 : decode cX3_status 97 = .ok (.iaload, 1) := dk_46 (dk_at dksX3_status_3 14 rfl rfl)
theorem dX3_status_98 : decode cX3_status 98 = .ok (.ireturn, 1) := dk_172 (dk_at dksX3_status_3 15 rfl rfl)
theorem dX3_status_99 : decode cX3_status 99 = .ok (.aload_n 0, 1) := dk_42 (dk_at dksX3_status_3 16 rfl rfl)
theorem dX3_status_100 : decode cX3_status 100 = .ok (.invokevirtual 264, 3) := dk_182 1 8 (dk_at dksX3_status_3 17 rfl rfl)
theorem dX3_status_103 : decode cX3_status 103 = .ok (.ireturn, 1) := dk_172 (dk_at dksX3_status_3 20 rfl rfl)
theorem dX3_status_104 : decode cX3_status 104 = .ok (.iload_n 1, 1) := dk_27 (dk_at dksX3_status_3 21 rfl rfl)
theorem dX3_status_105 : decode cX3_status 105 = .ok (.i2l, 1) := dk_133 (dk_at dksX3_status_3 22 rfl rfl)
theorem dX3_status_106 : decode cX3_status 106 = .ok (.ldc2_w 267, 3) := dk_20 1 11 (dk_at dksX3_status_4 0 rfl rfl)
theorem dX3_status_109 : decode cX3_status 109 = .ok (.ldc2_w 269, 3) := dk_20 1 13 (dk_at dksX3_status_4 3 rfl rfl)
theorem dX3_status_112 : decode cX3_status 112 = .ok (.invokestatic 47, 3) := dk_184 0 47 (dk_at dksX3_status_4 6 rfl rfl)
theorem dX3_status_115 : decode cX3_status 115 = .ok (.ifCond .eq 15, 3) := dk_153 0 15 (dk_at dksX3_status_4 9 rfl rfl)
theorem dX3_status_118 : decode cX3_status 118 = .ok (.aload_n 0, 1) := dk_42 (dk_at dksX3_status_4 12 rfl rfl)
theorem dX3_status_119 : decode cX3_status 119 = .ok (.getfield 19, 3) := dk_180 0 19 (dk_at dksX3_status_4 13 rfl rfl)
theorem dX3_status_122 : decode cX3_status 122 = .ok (.iload_n 1, 1) := dk_27 (dk_at dksX3_status_4 16 rfl rfl)
theorem dX3_status_123 : decode cX3_status 123 = .ok (.bipush 12, 2) := dk_16 12 (dk_at dksX3_status_4 17 rfl rfl)
theorem dX3_status_125 : decode cX3_status 125 = .ok (.isub, 1) := dk_100 (dk_at dksX3_status_4 19 rfl rfl)
theorem dX3_status_126 : decode cX3_status 126 = .ok (.iaload, 1) := dk_46 (dk_at dksX3_status_4 20 rfl rfl)
theorem dX3_status_127 : decode cX3_status 127 = .ok (.goto 4, 3) := dk_167 0 4 (dk_at dksX3_status_4 21 rfl rfl)
theorem dX3_status_130 : decode cX3_status 130 = .ok (.iconst (-1), 1) := dk_2 (dk_at dksX3_status_5 0 rfl rfl)
theorem dX3_status_131 : decode cX3_status 131 = .ok (.ireturn, 1) := dk_172 (dk_at dksX3_status_5 1 rfl rfl)
abbrev cX3_sum : ByteArray := prog_24_method_94_code
def yX3_sum : MethodName := ⟨RX3, "sum", "(Z)I"⟩
def dkwX3_sum_1 : List UInt8 := [182, 0, 59, 167, 0, 9, 42, 29, 4, 182, 0, 214, 96, 61, 132, 3, 1, 167, 255, 220, 28, 172]
abbrev dktX3_sum_1 : List UInt8 := dkwX3_sum_1 ++ []
def dkwX3_sum_0 : List UInt8 := [3, 61, 3, 62, 29, 42, 180, 0, 9, 3, 46, 162, 0, 32, 28, 27, 153, 0, 13, 42, 29, 16, 35]
abbrev dktX3_sum_0 : List UInt8 := dkwX3_sum_0 ++ dktX3_sum_1
theorem dksX3_sum_0 : cX3_sum.data.toList.drop 0 = dktX3_sum_0 := by decide +kernel
theorem dksX3_sum_1 : cX3_sum.data.toList.drop 23 = dktX3_sum_1 := dk_seg dksX3_sum_0 23 rfl rfl
theorem dX3_sum_0 : decode cX3_sum 0 = .ok (.iconst 0, 1) := dk_3 (dk_at dksX3_sum_0 0 rfl rfl)
theorem dX3_sum_1 : decode cX3_sum 1 = .ok (.istore_n 2, 1) := dk_61 (dk_at dksX3_sum_0 1 rfl rfl)
theorem dX3_sum_2 : decode cX3_sum 2 = .ok (.iconst 0, 1) := dk_3 (dk_at dksX3_sum_0 2 rfl rfl)
theorem dX3_sum_3 : decode cX3_sum 3 = .ok (.istore_n 3, 1) := dk_62 (dk_at dksX3_sum_0 3 rfl rfl)
theorem dX3_sum_4 : decode cX3_sum 4 = .ok (.iload_n 3, 1) := dk_29 (dk_at dksX3_sum_0 4 rfl rfl)
theorem dX3_sum_5 : decode cX3_sum 5 = .ok (.aload_n 0, 1) := dk_42 (dk_at dksX3_sum_0 5 rfl rfl)
theorem dX3_sum_6 : decode cX3_sum 6 = .ok (.getfield 9, 3) := dk_180 0 9 (dk_at dksX3_sum_0 6 rfl rfl)
theorem dX3_sum_9 : decode cX3_sum 9 = .ok (.iconst 0, 1) := dk_3 (dk_at dksX3_sum_0 9 rfl rfl)
theorem dX3_sum_10 : decode cX3_sum 10 = .ok (.iaload, 1) := dk_46 (dk_at dksX3_sum_0 10 rfl rfl)
theorem dX3_sum_11 : decode cX3_sum 11 = .ok (.if_icmp .ge 32, 3) := dk_162 0 32 (dk_at dksX3_sum_0 11 rfl rfl)
theorem dX3_sum_14 : decode cX3_sum 14 = .ok (.iload_n 2, 1) := dk_28 (dk_at dksX3_sum_0 14 rfl rfl)
theorem dX3_sum_15 : decode cX3_sum 15 = .ok (.iload_n 1, 1) := dk_27 (dk_at dksX3_sum_0 15 rfl rfl)
theorem dX3_sum_16 : decode cX3_sum 16 = .ok (.ifCond .eq 13, 3) := dk_153 0 13 (dk_at dksX3_sum_0 16 rfl rfl)
theorem dX3_sum_19 : decode cX3_sum 19 = .ok (.aload_n 0, 1) := dk_42 (dk_at dksX3_sum_0 19 rfl rfl)
theorem dX3_sum_20 : decode cX3_sum 20 = .ok (.iload_n 3, 1) := dk_29 (dk_at dksX3_sum_0 20 rfl rfl)
theorem dX3_sum_21 : decode cX3_sum 21 = .ok (.bipush 35, 2) := dk_16 35 (dk_at dksX3_sum_0 21 rfl rfl)
theorem dX3_sum_23 : decode cX3_sum 23 = .ok (.invokevirtual 59, 3) := dk_182 0 59 (dk_at dksX3_sum_1 0 rfl rfl)
theorem dX3_sum_26 : decode cX3_sum 26 = .ok (.goto 9, 3) := dk_167 0 9 (dk_at dksX3_sum_1 3 rfl rfl)
theorem dX3_sum_29 : decode cX3_sum 29 = .ok (.aload_n 0, 1) := dk_42 (dk_at dksX3_sum_1 6 rfl rfl)
theorem dX3_sum_30 : decode cX3_sum 30 = .ok (.iload_n 3, 1) := dk_29 (dk_at dksX3_sum_1 7 rfl rfl)
theorem dX3_sum_31 : decode cX3_sum 31 = .ok (.iconst 1, 1) := dk_4 (dk_at dksX3_sum_1 8 rfl rfl)
theorem dX3_sum_32 : decode cX3_sum 32 = .ok (.invokevirtual 214, 3) := dk_182 0 214 (dk_at dksX3_sum_1 9 rfl rfl)
theorem dX3_sum_35 : decode cX3_sum 35 = .ok (.iadd, 1) := dk_96 (dk_at dksX3_sum_1 12 rfl rfl)
theorem dX3_sum_36 : decode cX3_sum 36 = .ok (.istore_n 2, 1) := dk_61 (dk_at dksX3_sum_1 13 rfl rfl)
theorem dX3_sum_37 : decode cX3_sum 37 = .ok (.iinc 3 1, 3) := dk_132 3 1 (dk_at dksX3_sum_1 14 rfl rfl)
theorem dX3_sum_40 : decode cX3_sum 40 = .ok (.goto (-36), 3) := dk_167 255 220 (dk_at dksX3_sum_1 17 rfl rfl)
theorem dX3_sum_43 : decode cX3_sum 43 = .ok (.iload_n 2, 1) := dk_28 (dk_at dksX3_sum_1 20 rfl rfl)
theorem dX3_sum_44 : decode cX3_sum 44 = .ok (.ireturn, 1) := dk_172 (dk_at dksX3_sum_1 21 rfl rfl)
abbrev cX3_heldShelves : ByteArray := prog_24_method_95_code
def yX3_heldShelves : MethodName := ⟨RX3, "heldShelves", "()I"⟩
def dkwX3_heldShelves_1 : List UInt8 := [3, 96, 60, 132, 2, 1, 167, 255, 230, 27, 172]
abbrev dktX3_heldShelves_1 : List UInt8 := dkwX3_heldShelves_1 ++ []
def dkwX3_heldShelves_0 : List UInt8 := [3, 60, 3, 61, 28, 16, 8, 162, 0, 26, 27, 42, 180, 0, 34, 28, 46, 155, 0, 7, 4, 167, 0, 4]
abbrev dktX3_heldShelves_0 : List UInt8 := dkwX3_heldShelves_0 ++ dktX3_heldShelves_1
theorem dksX3_heldShelves_0 : cX3_heldShelves.data.toList.drop 0 = dktX3_heldShelves_0 := by decide +kernel
theorem dksX3_heldShelves_1 : cX3_heldShelves.data.toList.drop 24 = dktX3_heldShelves_1 := dk_seg dksX3_heldShelves_0 24 rfl rfl
theorem dX3_heldShelves_0 : decode cX3_heldShelves 0 = .ok (.iconst 0, 1) := dk_3 (dk_at dksX3_heldShelves_0 0 rfl rfl)
theorem dX3_heldShelves_1 : decode cX3_heldShelves 1 = .ok (.istore_n 1, 1) := dk_60 (dk_at dksX3_heldShelves_0 1 rfl rfl)
theorem dX3_heldShelves_2 : decode cX3_heldShelves 2 = .ok (.iconst 0, 1) := dk_3 (dk_at dksX3_heldShelves_0 2 rfl rfl)
theorem dX3_heldShelves_3 : decode cX3_heldShelves 3 = .ok (.istore_n 2, 1) := dk_61 (dk_at dksX3_heldShelves_0 3 rfl rfl)
theorem dX3_heldShelves_4 : decode cX3_heldShelves 4 = .ok (.iload_n 2, 1) := dk_28 (dk_at dksX3_heldShelves_0 4 rfl rfl)
theorem dX3_heldShelves_5 : decode cX3_heldShelves 5 = .ok (.bipush 8, 2) := dk_16 8 (dk_at dksX3_heldShelves_0 5 rfl rfl)
theorem dX3_heldShelves_7 : decode cX3_heldShelves 7 = .ok (.if_icmp .ge 26, 3) := dk_162 0 26 (dk_at dksX3_heldShelves_0 7 rfl rfl)
theorem dX3_heldShelves_10 : decode cX3_heldShelves 10 = .ok (.iload_n 1, 1) := dk_27 (dk_at dksX3_heldShelves_0 10 rfl rfl)
theorem dX3_heldShelves_11 : decode cX3_heldShelves 11 = .ok (.aload_n 0, 1) := dk_42 (dk_at dksX3_heldShelves_0 11 rfl rfl)
theorem dX3_heldShelves_12 : decode cX3_heldShelves 12 = .ok (.getfield 34, 3) := dk_180 0 34 (dk_at dksX3_heldShelves_0 12 rfl rfl)
theorem dX3_heldShelves_15 : decode cX3_heldShelves 15 = .ok (.iload_n 2, 1) := dk_28 (dk_at dksX3_heldShelves_0 15 rfl rfl)
theorem dX3_heldShelves_16 : decode cX3_heldShelves 16 = .ok (.iaload, 1) := dk_46 (dk_at dksX3_heldShelves_0 16 rfl rfl)
theorem dX3_heldShelves_17 : decode cX3_heldShelves 17 = .ok (.ifCond .lt 7, 3) := dk_155 0 7 (dk_at dksX3_heldShelves_0 17 rfl rfl)
theorem dX3_heldShelves_20 : decode cX3_heldShelves 20 = .ok (.iconst 1, 1) := dk_4 (dk_at dksX3_heldShelves_0 20 rfl rfl)
theorem dX3_heldShelves_21 : decode cX3_heldShelves 21 = .ok (.goto 4, 3) := dk_167 0 4 (dk_at dksX3_heldShelves_0 21 rfl rfl)
theorem dX3_heldShelves_24 : decode cX3_heldShelves 24 = .ok (.iconst 0, 1) := dk_3 (dk_at dksX3_heldShelves_1 0 rfl rfl)
theorem dX3_heldShelves_25 : decode cX3_heldShelves 25 = .ok (.iadd, 1) := dk_96 (dk_at dksX3_heldShelves_1 1 rfl rfl)
theorem dX3_heldShelves_26 : decode cX3_heldShelves 26 = .ok (.istore_n 1, 1) := dk_60 (dk_at dksX3_heldShelves_1 2 rfl rfl)
theorem dX3_heldShelves_27 : decode cX3_heldShelves 27 = .ok (.iinc 2 1, 3) := dk_132 2 1 (dk_at dksX3_heldShelves_1 3 rfl rfl)
theorem dX3_heldShelves_30 : decode cX3_heldShelves 30 = .ok (.goto (-26), 3) := dk_167 255 230 (dk_at dksX3_heldShelves_1 6 rfl rfl)
theorem dX3_heldShelves_33 : decode cX3_heldShelves 33 = .ok (.iload_n 1, 1) := dk_27 (dk_at dksX3_heldShelves_1 9 rfl rfl)
theorem dX3_heldShelves_34 : decode cX3_heldShelves 34 = .ok (.ireturn, 1) := dk_172 (dk_at dksX3_heldShelves_1 10 rfl rfl)
theorem q105 : (Jvm.Cond.initialized "CreditBrokerModel") ∈ lw_all := lw_g (lw_at lw_m1 9 rfl) rfl
theorem q1079 : (Jvm.Cond.selects "CreditBrokerModel" ({ cls := "java/lang/Object", name := "getClass", desc := "()Ljava/lang/Class;" } : Jvm.MethodName) ({ cls := "java/lang/Object", name := "getClass", desc := "()Ljava/lang/Class;" } : Jvm.MethodName)) ∈ lw_all := lw_g (lw_at lw_m5 23 rfl) rfl
theorem q1823 : (Jvm.Cond.selects "CreditBrokerModel" ({ cls := "java/lang/Object", name := "equals", desc := "(Ljava/lang/Object;)Z" } : Jvm.MethodName) ({ cls := "java/lang/Object", name := "equals", desc := "(Ljava/lang/Object;)Z" } : Jvm.MethodName)) ∈ lw_all := lw_g (lw_at lw_m8 47 rfl) rfl
theorem q2834 : (Jvm.Cond.instantiable "CreditBrokerModel" (17 : Nat)) ∈ lw_all := lw_g (lw_at lw_m12 98 rfl) rfl
theorem q2836 : (Jvm.Cond.instanceMethod ({ cls := "CreditBrokerModel", name := "<init>", desc := "()V" } : Jvm.MethodName)) ∈ lw_all := lw_g (lw_at lw_m12 100 rfl) rfl
theorem q2837 : (Jvm.Cond.code ({ cls := "CreditBrokerModel", name := "<init>", desc := "()V" } : Jvm.MethodName) prog_24_method_1_code (1 : Nat) (Option.none : Option Jvm.ClassFile.FieldType)) ∈ lw_all := lw_g (lw_at lw_m12 101 rfl) rfl
theorem q2838 : (Jvm.Cond.methodLink "CreditBrokerModel" (1 : Nat) ({ cls := "java/lang/Object", name := "<init>", desc := "()V" } : Jvm.MethodName)) ∈ lw_all := lw_g (lw_at lw_m12 102 rfl) rfl
theorem q2839 : (Jvm.Cond.fieldLink "CreditBrokerModel" (9 : Nat) "CreditBrokerModel" "g" "[I") ∈ lw_all := lw_g (lw_at lw_m12 103 rfl) rfl
theorem q2840 : (Jvm.Cond.fieldLink "CreditBrokerModel" (13 : Nat) "CreditBrokerModel" "was" "[I") ∈ lw_all := lw_g (lw_at lw_m12 104 rfl) rfl
theorem q2841 : (Jvm.Cond.fieldLink "CreditBrokerModel" (16 : Nat) "CreditBrokerModel" "kept" "[I") ∈ lw_all := lw_g (lw_at lw_m12 105 rfl) rfl
theorem q2842 : (Jvm.Cond.fieldLink "CreditBrokerModel" (256 : Nat) "CreditBrokerModel" "hasImage" "Z") ∈ lw_all := lw_g (lw_at lw_m12 106 rfl) rfl
theorem q2843 : (Jvm.Cond.fieldLink "CreditBrokerModel" (19 : Nat) "CreditBrokerModel" "refusals" "[I") ∈ lw_all := lw_g (lw_at lw_m12 107 rfl) rfl
theorem q2844 : (Jvm.Cond.fieldLink "CreditBrokerModel" (22 : Nat) "CreditBrokerModel" "waits" "[I") ∈ lw_all := lw_g (lw_at lw_m12 108 rfl) rfl
theorem q2845 : (Jvm.Cond.fieldLink "CreditBrokerModel" (25 : Nat) "CreditBrokerModel" "tape" "[I") ∈ lw_all := lw_g (lw_at lw_m12 109 rfl) rfl
theorem q2846 : (Jvm.Cond.fieldLink "CreditBrokerModel" (79 : Nat) "CreditBrokerModel" "taped" "I") ∈ lw_all := lw_g (lw_at lw_m12 110 rfl) rfl
theorem q2847 : (Jvm.Cond.fieldLink "CreditBrokerModel" (83 : Nat) "CreditBrokerModel" "place" "I") ∈ lw_all := lw_g (lw_at lw_m12 111 rfl) rfl
theorem q2848 : (Jvm.Cond.fieldLink "CreditBrokerModel" (28 : Nat) "CreditBrokerModel" "read" "[I") ∈ lw_all := lw_g (lw_at lw_m12 112 rfl) rfl
theorem q2849 : (Jvm.Cond.fieldLink "CreditBrokerModel" (86 : Nat) "CreditBrokerModel" "readMany" "I") ∈ lw_all := lw_g (lw_at lw_m12 113 rfl) rfl
theorem q2850 : (Jvm.Cond.fieldLink "CreditBrokerModel" (31 : Nat) "CreditBrokerModel" "order" "[I") ∈ lw_all := lw_g (lw_at lw_m12 114 rfl) rfl
theorem q2851 : (Jvm.Cond.fieldLink "CreditBrokerModel" (227 : Nat) "CreditBrokerModel" "orderMany" "I") ∈ lw_all := lw_g (lw_at lw_m12 115 rfl) rfl
theorem q2852 : (Jvm.Cond.fieldLink "CreditBrokerModel" (34 : Nat) "CreditBrokerModel" "sorts" "[I") ∈ lw_all := lw_g (lw_at lw_m12 116 rfl) rfl
theorem q2853 : (Jvm.Cond.fieldLink "CreditBrokerModel" (37 : Nat) "CreditBrokerModel" "sizes" "[I") ∈ lw_all := lw_g (lw_at lw_m12 117 rfl) rfl
theorem q2854 : (Jvm.Cond.fieldLink "CreditBrokerModel" (40 : Nat) "CreditBrokerModel" "elements" "[J") ∈ lw_all := lw_g (lw_at lw_m12 118 rfl) rfl
theorem q2855 : (Jvm.Cond.fieldLink "CreditBrokerModel" (44 : Nat) "CreditBrokerModel" "causes" "[I") ∈ lw_all := lw_g (lw_at lw_m12 119 rfl) rfl
theorem q2856 : (Jvm.Cond.laysFinal "CreditBrokerModel" "CreditBrokerModel" "g" "[I") ∈ lw_all := lw_g (lw_at lw_m12 120 rfl) rfl
theorem q2857 : (Jvm.Cond.soleField "CreditBrokerModel" "g") ∈ lw_all := lw_g (lw_at lw_m12 121 rfl) rfl
theorem q2858 : (Jvm.Cond.laysFinal "CreditBrokerModel" "CreditBrokerModel" "was" "[I") ∈ lw_all := lw_g (lw_at lw_m12 122 rfl) rfl
theorem q2859 : (Jvm.Cond.soleField "CreditBrokerModel" "was") ∈ lw_all := lw_g (lw_at lw_m12 123 rfl) rfl
theorem q2860 : (Jvm.Cond.laysFinal "CreditBrokerModel" "CreditBrokerModel" "kept" "[I") ∈ lw_all := lw_g (lw_at lw_m12 124 rfl) rfl
theorem q2861 : (Jvm.Cond.soleField "CreditBrokerModel" "kept") ∈ lw_all := lw_g (lw_at lw_m12 125 rfl) rfl
theorem q2862 : (Jvm.Cond.lays "CreditBrokerModel" "CreditBrokerModel" "hasImage" "Z") ∈ lw_all := lw_g (lw_at lw_m12 126 rfl) rfl
theorem q2863 : (Jvm.Cond.soleField "CreditBrokerModel" "hasImage") ∈ lw_all := lw_g (lw_at lw_m12 127 rfl) rfl
theorem q2864 : (Jvm.Cond.laysFinal "CreditBrokerModel" "CreditBrokerModel" "refusals" "[I") ∈ lw_all := lw_g (lw_at lw_m12 128 rfl) rfl
theorem q2865 : (Jvm.Cond.soleField "CreditBrokerModel" "refusals") ∈ lw_all := lw_g (lw_at lw_m12 129 rfl) rfl
theorem q2866 : (Jvm.Cond.laysFinal "CreditBrokerModel" "CreditBrokerModel" "waits" "[I") ∈ lw_all := lw_g (lw_at lw_m12 130 rfl) rfl
theorem q2867 : (Jvm.Cond.soleField "CreditBrokerModel" "waits") ∈ lw_all := lw_g (lw_at lw_m12 131 rfl) rfl
theorem q2868 : (Jvm.Cond.laysFinal "CreditBrokerModel" "CreditBrokerModel" "tape" "[I") ∈ lw_all := lw_g (lw_at lw_m12 132 rfl) rfl
theorem q2869 : (Jvm.Cond.soleField "CreditBrokerModel" "tape") ∈ lw_all := lw_g (lw_at lw_m12 133 rfl) rfl
theorem q2870 : (Jvm.Cond.lays "CreditBrokerModel" "CreditBrokerModel" "taped" "I") ∈ lw_all := lw_g (lw_at lw_m12 134 rfl) rfl
theorem q2871 : (Jvm.Cond.soleField "CreditBrokerModel" "taped") ∈ lw_all := lw_g (lw_at lw_m12 135 rfl) rfl
theorem q2872 : (Jvm.Cond.lays "CreditBrokerModel" "CreditBrokerModel" "place" "I") ∈ lw_all := lw_g (lw_at lw_m12 136 rfl) rfl
theorem q2873 : (Jvm.Cond.soleField "CreditBrokerModel" "place") ∈ lw_all := lw_g (lw_at lw_m12 137 rfl) rfl
theorem q2874 : (Jvm.Cond.laysFinal "CreditBrokerModel" "CreditBrokerModel" "read" "[I") ∈ lw_all := lw_g (lw_at lw_m12 138 rfl) rfl
theorem q2875 : (Jvm.Cond.soleField "CreditBrokerModel" "read") ∈ lw_all := lw_g (lw_at lw_m12 139 rfl) rfl
theorem q2876 : (Jvm.Cond.lays "CreditBrokerModel" "CreditBrokerModel" "readMany" "I") ∈ lw_all := lw_g (lw_at lw_m12 140 rfl) rfl
theorem q2877 : (Jvm.Cond.soleField "CreditBrokerModel" "readMany") ∈ lw_all := lw_g (lw_at lw_m12 141 rfl) rfl
theorem q2878 : (Jvm.Cond.laysFinal "CreditBrokerModel" "CreditBrokerModel" "order" "[I") ∈ lw_all := lw_g (lw_at lw_m12 142 rfl) rfl
theorem q2879 : (Jvm.Cond.soleField "CreditBrokerModel" "order") ∈ lw_all := lw_g (lw_at lw_m12 143 rfl) rfl
theorem q2880 : (Jvm.Cond.lays "CreditBrokerModel" "CreditBrokerModel" "orderMany" "I") ∈ lw_all := lw_g (lw_at lw_m12 144 rfl) rfl
theorem q2881 : (Jvm.Cond.soleField "CreditBrokerModel" "orderMany") ∈ lw_all := lw_g (lw_at lw_m12 145 rfl) rfl
theorem q2882 : (Jvm.Cond.laysFinal "CreditBrokerModel" "CreditBrokerModel" "sorts" "[I") ∈ lw_all := lw_g (lw_at lw_m12 146 rfl) rfl
theorem q2883 : (Jvm.Cond.soleField "CreditBrokerModel" "sorts") ∈ lw_all := lw_g (lw_at lw_m12 147 rfl) rfl
theorem q2884 : (Jvm.Cond.laysFinal "CreditBrokerModel" "CreditBrokerModel" "sizes" "[I") ∈ lw_all := lw_g (lw_at lw_m12 148 rfl) rfl
theorem q2885 : (Jvm.Cond.soleField "CreditBrokerModel" "sizes") ∈ lw_all := lw_g (lw_at lw_m12 149 rfl) rfl
theorem q2886 : (Jvm.Cond.laysFinal "CreditBrokerModel" "CreditBrokerModel" "elements" "[J") ∈ lw_all := lw_g (lw_at lw_m12 150 rfl) rfl
theorem q2887 : (Jvm.Cond.soleField "CreditBrokerModel" "elements") ∈ lw_all := lw_g (lw_at lw_m12 151 rfl) rfl
theorem q2888 : (Jvm.Cond.laysFinal "CreditBrokerModel" "CreditBrokerModel" "causes" "[I") ∈ lw_all := lw_g (lw_at lw_m12 152 rfl) rfl
theorem q2889 : (Jvm.Cond.soleField "CreditBrokerModel" "causes") ∈ lw_all := lw_g (lw_at lw_m12 153 rfl) rfl
theorem q2890 : (Jvm.Cond.superclass "CreditBrokerModel" "java/lang/Object") ∈ lw_all := lw_g (lw_at lw_m12 154 rfl) rfl
theorem q2892 : (Jvm.Cond.instanceMethod ({ cls := "CreditBrokerModel", name := "feed", desc := "(I)I" } : Jvm.MethodName)) ∈ lw_all := lw_g (lw_at lw_m12 156 rfl) rfl
theorem q2893 : (Jvm.Cond.selects "CreditBrokerModel" ({ cls := "CreditBrokerModel", name := "feed", desc := "(I)I" } : Jvm.MethodName) ({ cls := "CreditBrokerModel", name := "feed", desc := "(I)I" } : Jvm.MethodName)) ∈ lw_all := lw_g (lw_at lw_m12 157 rfl) rfl
theorem q2894 : (Jvm.Cond.code ({ cls := "CreditBrokerModel", name := "feed", desc := "(I)I" } : Jvm.MethodName) prog_24_method_15_code (2 : Nat) (Option.some Jvm.ClassFile.FieldType.int)) ∈ lw_all := lw_g (lw_at lw_m12 158 rfl) rfl
theorem q2895 : (Jvm.Cond.constantLong "CreditBrokerModel" (73 : Nat) (255 : Int64)) ∈ lw_all := lw_g (lw_at lw_m12 159 rfl) rfl
theorem q2896 : (Jvm.Cond.methodLink "CreditBrokerModel" (47 : Nat) ({ cls := "CreditBrokerModel", name := "in", desc := "(JJJ)Z" } : Jvm.MethodName)) ∈ lw_all := lw_g (lw_at lw_m12 160 rfl) rfl
theorem q2897 : (Jvm.Cond.static ({ cls := "CreditBrokerModel", name := "in", desc := "(JJJ)Z" } : Jvm.MethodName)) ∈ lw_all := lw_g (lw_at lw_m12 161 rfl) rfl
theorem q2898 : (Jvm.Cond.code ({ cls := "CreditBrokerModel", name := "in", desc := "(JJJ)Z" } : Jvm.MethodName) prog_24_method_2_code (6 : Nat) (Option.some Jvm.ClassFile.FieldType.boolean)) ∈ lw_all := lw_g (lw_at lw_m12 162 rfl) rfl
theorem q2899 : (Jvm.Cond.methodLink "CreditBrokerModel" (75 : Nat) ({ cls := "CreditBrokerModel", name := "refused", desc := "(I)I" } : Jvm.MethodName)) ∈ lw_all := lw_g (lw_at lw_m12 163 rfl) rfl
theorem q2900 : (Jvm.Cond.privateMethod ({ cls := "CreditBrokerModel", name := "refused", desc := "(I)I" } : Jvm.MethodName)) ∈ lw_tbl := lw_at lw_m12 164 rfl
theorem q2901 : (Jvm.Cond.instanceMethod ({ cls := "CreditBrokerModel", name := "refused", desc := "(I)I" } : Jvm.MethodName)) ∈ lw_all := lw_g (lw_at lw_m12 165 rfl) rfl
theorem q2902 : (Jvm.Cond.code ({ cls := "CreditBrokerModel", name := "refused", desc := "(I)I" } : Jvm.MethodName) prog_24_method_3_code (2 : Nat) (Option.some Jvm.ClassFile.FieldType.int)) ∈ lw_all := lw_g (lw_at lw_m12 166 rfl) rfl
theorem q2904 : (Jvm.Cond.instanceMethod ({ cls := "CreditBrokerModel", name := "wipe", desc := "()I" } : Jvm.MethodName)) ∈ lw_all := lw_g (lw_at lw_m12 168 rfl) rfl
theorem q2905 : (Jvm.Cond.selects "CreditBrokerModel" ({ cls := "CreditBrokerModel", name := "wipe", desc := "()I" } : Jvm.MethodName) ({ cls := "CreditBrokerModel", name := "wipe", desc := "()I" } : Jvm.MethodName)) ∈ lw_all := lw_g (lw_at lw_m12 169 rfl) rfl
theorem q2906 : (Jvm.Cond.code ({ cls := "CreditBrokerModel", name := "wipe", desc := "()I" } : Jvm.MethodName) prog_24_method_16_code (2 : Nat) (Option.some Jvm.ClassFile.FieldType.int)) ∈ lw_all := lw_g (lw_at lw_m12 170 rfl) rfl
theorem q2908 : (Jvm.Cond.instanceMethod ({ cls := "CreditBrokerModel", name := "topic", desc := "()I" } : Jvm.MethodName)) ∈ lw_all := lw_g (lw_at lw_m12 172 rfl) rfl
theorem q2909 : (Jvm.Cond.selects "CreditBrokerModel" ({ cls := "CreditBrokerModel", name := "topic", desc := "()I" } : Jvm.MethodName) ({ cls := "CreditBrokerModel", name := "topic", desc := "()I" } : Jvm.MethodName)) ∈ lw_all := lw_g (lw_at lw_m12 173 rfl) rfl
theorem q2910 : (Jvm.Cond.code ({ cls := "CreditBrokerModel", name := "topic", desc := "()I" } : Jvm.MethodName) prog_24_method_20_code (2 : Nat) (Option.some Jvm.ClassFile.FieldType.int)) ∈ lw_all := lw_g (lw_at lw_m12 174 rfl) rfl
theorem q2911 : (Jvm.Cond.methodLink "CreditBrokerModel" (96 : Nat) ({ cls := "CreditBrokerModel", name := "isRead", desc := "(Z)Z" } : Jvm.MethodName)) ∈ lw_all := lw_g (lw_at lw_m12 175 rfl) rfl
theorem q2912 : (Jvm.Cond.privateMethod ({ cls := "CreditBrokerModel", name := "isRead", desc := "(Z)Z" } : Jvm.MethodName)) ∈ lw_tbl := lw_at lw_m12 176 rfl
theorem q2913 : (Jvm.Cond.instanceMethod ({ cls := "CreditBrokerModel", name := "isRead", desc := "(Z)Z" } : Jvm.MethodName)) ∈ lw_all := lw_g (lw_at lw_m12 177 rfl) rfl
theorem q2914 : (Jvm.Cond.code ({ cls := "CreditBrokerModel", name := "isRead", desc := "(Z)Z" } : Jvm.MethodName) prog_24_method_18_code (5 : Nat) (Option.some Jvm.ClassFile.FieldType.boolean)) ∈ lw_all := lw_g (lw_at lw_m12 178 rfl) rfl
theorem q2915 : (Jvm.Cond.methodLink "CreditBrokerModel" (89 : Nat) ({ cls := "CreditBrokerModel", name := "byteAt", desc := "(I)I" } : Jvm.MethodName)) ∈ lw_all := lw_g (lw_at lw_m12 179 rfl) rfl
theorem q2916 : (Jvm.Cond.privateMethod ({ cls := "CreditBrokerModel", name := "byteAt", desc := "(I)I" } : Jvm.MethodName)) ∈ lw_tbl := lw_at lw_m12 180 rfl
theorem q2917 : (Jvm.Cond.instanceMethod ({ cls := "CreditBrokerModel", name := "byteAt", desc := "(I)I" } : Jvm.MethodName)) ∈ lw_all := lw_g (lw_at lw_m12 181 rfl) rfl
theorem q2918 : (Jvm.Cond.code ({ cls := "CreditBrokerModel", name := "byteAt", desc := "(I)I" } : Jvm.MethodName) prog_24_method_17_code (2 : Nat) (Option.some Jvm.ClassFile.FieldType.int)) ∈ lw_all := lw_g (lw_at lw_m12 182 rfl) rfl
theorem q2919 : (Jvm.Cond.constantLong "CreditBrokerModel" (92 : Nat) (97 : Int64)) ∈ lw_all := lw_g (lw_at lw_m12 183 rfl) rfl
theorem q2920 : (Jvm.Cond.constantLong "CreditBrokerModel" (94 : Nat) (122 : Int64)) ∈ lw_all := lw_g (lw_at lw_m12 184 rfl) rfl
theorem q2921 : (Jvm.Cond.methodLink "CreditBrokerModel" (100 : Nat) ({ cls := "CreditBrokerModel", name := "faulty", desc := "()I" } : Jvm.MethodName)) ∈ lw_all := lw_g (lw_at lw_m12 185 rfl) rfl
theorem q2922 : (Jvm.Cond.privateMethod ({ cls := "CreditBrokerModel", name := "faulty", desc := "()I" } : Jvm.MethodName)) ∈ lw_tbl := lw_at lw_m12 186 rfl
theorem q2923 : (Jvm.Cond.instanceMethod ({ cls := "CreditBrokerModel", name := "faulty", desc := "()I" } : Jvm.MethodName)) ∈ lw_all := lw_g (lw_at lw_m12 187 rfl) rfl
theorem q2924 : (Jvm.Cond.code ({ cls := "CreditBrokerModel", name := "faulty", desc := "()I" } : Jvm.MethodName) prog_24_method_19_code (1 : Nat) (Option.some Jvm.ClassFile.FieldType.int)) ∈ lw_all := lw_g (lw_at lw_m12 188 rfl) rfl
theorem q2926 : (Jvm.Cond.instanceMethod ({ cls := "CreditBrokerModel", name := "queue", desc := "(IIII)I" } : Jvm.MethodName)) ∈ lw_all := lw_g (lw_at lw_m12 190 rfl) rfl
theorem q2927 : (Jvm.Cond.selects "CreditBrokerModel" ({ cls := "CreditBrokerModel", name := "queue", desc := "(IIII)I" } : Jvm.MethodName) ({ cls := "CreditBrokerModel", name := "queue", desc := "(IIII)I" } : Jvm.MethodName)) ∈ lw_all := lw_g (lw_at lw_m12 191 rfl) rfl
theorem q2928 : (Jvm.Cond.code ({ cls := "CreditBrokerModel", name := "queue", desc := "(IIII)I" } : Jvm.MethodName) prog_24_method_21_code (8 : Nat) (Option.some Jvm.ClassFile.FieldType.int)) ∈ lw_all := lw_g (lw_at lw_m12 192 rfl) rfl
theorem q2929 : (Jvm.Cond.constantLong "CreditBrokerModel" (104 : Nat) (20 : Int64)) ∈ lw_all := lw_g (lw_at lw_m12 193 rfl) rfl
theorem q2930 : (Jvm.Cond.constantLong "CreditBrokerModel" (106 : Nat) (5 : Int64)) ∈ lw_all := lw_g (lw_at lw_m12 194 rfl) rfl
theorem q2931 : (Jvm.Cond.constantLong "CreditBrokerModel" (108 : Nat) (99 : Int64)) ∈ lw_all := lw_g (lw_at lw_m12 195 rfl) rfl
theorem q2932 : (Jvm.Cond.constantLong "CreditBrokerModel" (110 : Nat) (999 : Int64)) ∈ lw_all := lw_g (lw_at lw_m12 196 rfl) rfl
theorem q2933 : (Jvm.Cond.methodLink "CreditBrokerModel" (62 : Nat) ({ cls := "CreditBrokerModel", name := "is", desc := "(III)V" } : Jvm.MethodName)) ∈ lw_all := lw_g (lw_at lw_m12 197 rfl) rfl
theorem q2934 : (Jvm.Cond.privateMethod ({ cls := "CreditBrokerModel", name := "is", desc := "(III)V" } : Jvm.MethodName)) ∈ lw_tbl := lw_at lw_m12 198 rfl
theorem q2935 : (Jvm.Cond.instanceMethod ({ cls := "CreditBrokerModel", name := "is", desc := "(III)V" } : Jvm.MethodName)) ∈ lw_all := lw_g (lw_at lw_m12 199 rfl) rfl
theorem q2936 : (Jvm.Cond.code ({ cls := "CreditBrokerModel", name := "is", desc := "(III)V" } : Jvm.MethodName) prog_24_method_6_code (4 : Nat) (Option.none : Option Jvm.ClassFile.FieldType)) ∈ lw_all := lw_g (lw_at lw_m12 200 rfl) rfl
theorem q2938 : (Jvm.Cond.instanceMethod ({ cls := "CreditBrokerModel", name := "fits", desc := "()I" } : Jvm.MethodName)) ∈ lw_all := lw_g (lw_at lw_m12 202 rfl) rfl
theorem q2939 : (Jvm.Cond.selects "CreditBrokerModel" ({ cls := "CreditBrokerModel", name := "fits", desc := "()I" } : Jvm.MethodName) ({ cls := "CreditBrokerModel", name := "fits", desc := "()I" } : Jvm.MethodName)) ∈ lw_all := lw_g (lw_at lw_m12 203 rfl) rfl
theorem q2940 : (Jvm.Cond.code ({ cls := "CreditBrokerModel", name := "fits", desc := "()I" } : Jvm.MethodName) prog_24_method_25_code (3 : Nat) (Option.some Jvm.ClassFile.FieldType.int)) ∈ lw_all := lw_g (lw_at lw_m12 204 rfl) rfl
theorem q2941 : (Jvm.Cond.methodLink "CreditBrokerModel" (119 : Nat) ({ cls := "CreditBrokerModel", name := "isFit", desc := "(I)Z" } : Jvm.MethodName)) ∈ lw_all := lw_g (lw_at lw_m12 205 rfl) rfl
theorem q2942 : (Jvm.Cond.privateMethod ({ cls := "CreditBrokerModel", name := "isFit", desc := "(I)Z" } : Jvm.MethodName)) ∈ lw_tbl := lw_at lw_m12 206 rfl
theorem q2943 : (Jvm.Cond.instanceMethod ({ cls := "CreditBrokerModel", name := "isFit", desc := "(I)Z" } : Jvm.MethodName)) ∈ lw_all := lw_g (lw_at lw_m12 207 rfl) rfl
theorem q2944 : (Jvm.Cond.code ({ cls := "CreditBrokerModel", name := "isFit", desc := "(I)Z" } : Jvm.MethodName) prog_24_method_24_code (3 : Nat) (Option.some Jvm.ClassFile.FieldType.boolean)) ∈ lw_all := lw_g (lw_at lw_m12 208 rfl) rfl
theorem q2945 : (Jvm.Cond.methodLink "CreditBrokerModel" (112 : Nat) ({ cls := "CreditBrokerModel", name := "isLong", desc := "(II)Z" } : Jvm.MethodName)) ∈ lw_all := lw_g (lw_at lw_m12 209 rfl) rfl
theorem q2946 : (Jvm.Cond.privateMethod ({ cls := "CreditBrokerModel", name := "isLong", desc := "(II)Z" } : Jvm.MethodName)) ∈ lw_tbl := lw_at lw_m12 210 rfl
theorem q2947 : (Jvm.Cond.instanceMethod ({ cls := "CreditBrokerModel", name := "isLong", desc := "(II)Z" } : Jvm.MethodName)) ∈ lw_all := lw_g (lw_at lw_m12 211 rfl) rfl
theorem q2948 : (Jvm.Cond.code ({ cls := "CreditBrokerModel", name := "isLong", desc := "(II)Z" } : Jvm.MethodName) prog_24_method_22_code (4 : Nat) (Option.some Jvm.ClassFile.FieldType.boolean)) ∈ lw_all := lw_g (lw_at lw_m12 212 rfl) rfl
theorem q2949 : (Jvm.Cond.methodLink "CreditBrokerModel" (59 : Nat) ({ cls := "CreditBrokerModel", name := "of", desc := "(II)I" } : Jvm.MethodName)) ∈ lw_all := lw_g (lw_at lw_m12 213 rfl) rfl
theorem q2950 : (Jvm.Cond.privateMethod ({ cls := "CreditBrokerModel", name := "of", desc := "(II)I" } : Jvm.MethodName)) ∈ lw_tbl := lw_at lw_m12 214 rfl
theorem q2951 : (Jvm.Cond.instanceMethod ({ cls := "CreditBrokerModel", name := "of", desc := "(II)I" } : Jvm.MethodName)) ∈ lw_all := lw_g (lw_at lw_m12 215 rfl) rfl
theorem q2952 : (Jvm.Cond.code ({ cls := "CreditBrokerModel", name := "of", desc := "(II)I" } : Jvm.MethodName) prog_24_method_5_code (3 : Nat) (Option.some Jvm.ClassFile.FieldType.int)) ∈ lw_all := lw_g (lw_at lw_m12 216 rfl) rfl
theorem q2953 : (Jvm.Cond.methodLink "CreditBrokerModel" (116 : Nat) ({ cls := "CreditBrokerModel", name := "partOf", desc := "(II)I" } : Jvm.MethodName)) ∈ lw_all := lw_g (lw_at lw_m12 217 rfl) rfl
theorem q2954 : (Jvm.Cond.privateMethod ({ cls := "CreditBrokerModel", name := "partOf", desc := "(II)I" } : Jvm.MethodName)) ∈ lw_tbl := lw_at lw_m12 218 rfl
theorem q2955 : (Jvm.Cond.instanceMethod ({ cls := "CreditBrokerModel", name := "partOf", desc := "(II)I" } : Jvm.MethodName)) ∈ lw_all := lw_g (lw_at lw_m12 219 rfl) rfl
theorem q2956 : (Jvm.Cond.code ({ cls := "CreditBrokerModel", name := "partOf", desc := "(II)I" } : Jvm.MethodName) prog_24_method_23_code (3 : Nat) (Option.some Jvm.ClassFile.FieldType.int)) ∈ lw_all := lw_g (lw_at lw_m12 220 rfl) rfl
theorem q2958 : (Jvm.Cond.instanceMethod ({ cls := "CreditBrokerModel", name := "covers", desc := "(II)I" } : Jvm.MethodName)) ∈ lw_all := lw_g (lw_at lw_m12 222 rfl) rfl
theorem q2959 : (Jvm.Cond.selects "CreditBrokerModel" ({ cls := "CreditBrokerModel", name := "covers", desc := "(II)I" } : Jvm.MethodName) ({ cls := "CreditBrokerModel", name := "covers", desc := "(II)I" } : Jvm.MethodName)) ∈ lw_all := lw_g (lw_at lw_m12 223 rfl) rfl
theorem q2960 : (Jvm.Cond.code ({ cls := "CreditBrokerModel", name := "covers", desc := "(II)I" } : Jvm.MethodName) prog_24_method_26_code (5 : Nat) (Option.some Jvm.ClassFile.FieldType.int)) ∈ lw_all := lw_g (lw_at lw_m12 224 rfl) rfl
theorem q2961 : (Jvm.Cond.methodLink "CreditBrokerModel" (122 : Nat) ({ cls := "CreditBrokerModel", name := "isQueue", desc := "(I)Z" } : Jvm.MethodName)) ∈ lw_all := lw_g (lw_at lw_m12 225 rfl) rfl
theorem q2962 : (Jvm.Cond.privateMethod ({ cls := "CreditBrokerModel", name := "isQueue", desc := "(I)Z" } : Jvm.MethodName)) ∈ lw_tbl := lw_at lw_m12 226 rfl
theorem q2963 : (Jvm.Cond.instanceMethod ({ cls := "CreditBrokerModel", name := "isQueue", desc := "(I)Z" } : Jvm.MethodName)) ∈ lw_all := lw_g (lw_at lw_m12 227 rfl) rfl
theorem q2964 : (Jvm.Cond.code ({ cls := "CreditBrokerModel", name := "isQueue", desc := "(I)Z" } : Jvm.MethodName) prog_24_method_7_code (2 : Nat) (Option.some Jvm.ClassFile.FieldType.boolean)) ∈ lw_all := lw_g (lw_at lw_m12 228 rfl) rfl
theorem q2966 : (Jvm.Cond.instanceMethod ({ cls := "CreditBrokerModel", name := "pattern", desc := "(II)I" } : Jvm.MethodName)) ∈ lw_all := lw_g (lw_at lw_m12 230 rfl) rfl
theorem q2967 : (Jvm.Cond.selects "CreditBrokerModel" ({ cls := "CreditBrokerModel", name := "pattern", desc := "(II)I" } : Jvm.MethodName) ({ cls := "CreditBrokerModel", name := "pattern", desc := "(II)I" } : Jvm.MethodName)) ∈ lw_all := lw_g (lw_at lw_m12 231 rfl) rfl
theorem q2968 : (Jvm.Cond.code ({ cls := "CreditBrokerModel", name := "pattern", desc := "(II)I" } : Jvm.MethodName) prog_24_method_27_code (3 : Nat) (Option.some Jvm.ClassFile.FieldType.int)) ∈ lw_all := lw_g (lw_at lw_m12 232 rfl) rfl
theorem q2970 : (Jvm.Cond.instanceMethod ({ cls := "CreditBrokerModel", name := "publish", desc := "(III)I" } : Jvm.MethodName)) ∈ lw_all := lw_g (lw_at lw_m12 234 rfl) rfl
theorem q2971 : (Jvm.Cond.selects "CreditBrokerModel" ({ cls := "CreditBrokerModel", name := "publish", desc := "(III)I" } : Jvm.MethodName) ({ cls := "CreditBrokerModel", name := "publish", desc := "(III)I" } : Jvm.MethodName)) ∈ lw_all := lw_g (lw_at lw_m12 235 rfl) rfl
theorem q2972 : (Jvm.Cond.code ({ cls := "CreditBrokerModel", name := "publish", desc := "(III)I" } : Jvm.MethodName) prog_24_method_35_code (4 : Nat) (Option.some Jvm.ClassFile.FieldType.int)) ∈ lw_all := lw_g (lw_at lw_m12 236 rfl) rfl
theorem q2973 : (Jvm.Cond.constantLong "CreditBrokerModel" (147 : Nat) (7 : Int64)) ∈ lw_all := lw_g (lw_at lw_m12 237 rfl) rfl
theorem q2974 : (Jvm.Cond.constantLong "CreditBrokerModel" (149 : Nat) (3 : Int64)) ∈ lw_all := lw_g (lw_at lw_m12 238 rfl) rfl
theorem q2975 : (Jvm.Cond.methodLink "CreditBrokerModel" (151 : Nat) ({ cls := "CreditBrokerModel", name := "publishes", desc := "(III)I" } : Jvm.MethodName)) ∈ lw_all := lw_g (lw_at lw_m12 239 rfl) rfl
theorem q2976 : (Jvm.Cond.privateMethod ({ cls := "CreditBrokerModel", name := "publishes", desc := "(III)I" } : Jvm.MethodName)) ∈ lw_tbl := lw_at lw_m13 0 rfl
theorem q2977 : (Jvm.Cond.instanceMethod ({ cls := "CreditBrokerModel", name := "publishes", desc := "(III)I" } : Jvm.MethodName)) ∈ lw_all := lw_g (lw_at lw_m13 1 rfl) rfl
theorem q2978 : (Jvm.Cond.code ({ cls := "CreditBrokerModel", name := "publishes", desc := "(III)I" } : Jvm.MethodName) prog_24_method_36_code (9 : Nat) (Option.some Jvm.ClassFile.FieldType.int)) ∈ lw_all := lw_g (lw_at lw_m13 2 rfl) rfl
theorem q2979 : (Jvm.Cond.methodLink "CreditBrokerModel" (129 : Nat) ({ cls := "CreditBrokerModel", name := "newDead", desc := "(II)I" } : Jvm.MethodName)) ∈ lw_all := lw_g (lw_at lw_m13 3 rfl) rfl
theorem q2980 : (Jvm.Cond.privateMethod ({ cls := "CreditBrokerModel", name := "newDead", desc := "(II)I" } : Jvm.MethodName)) ∈ lw_tbl := lw_at lw_m13 4 rfl
theorem q2981 : (Jvm.Cond.instanceMethod ({ cls := "CreditBrokerModel", name := "newDead", desc := "(II)I" } : Jvm.MethodName)) ∈ lw_all := lw_g (lw_at lw_m13 5 rfl) rfl
theorem q2982 : (Jvm.Cond.code ({ cls := "CreditBrokerModel", name := "newDead", desc := "(II)I" } : Jvm.MethodName) prog_24_method_30_code (4 : Nat) (Option.some Jvm.ClassFile.FieldType.int)) ∈ lw_all := lw_g (lw_at lw_m13 6 rfl) rfl
theorem q2983 : (Jvm.Cond.methodLink "CreditBrokerModel" (132 : Nat) ({ cls := "CreditBrokerModel", name := "ahead", desc := "(IIII)V" } : Jvm.MethodName)) ∈ lw_all := lw_g (lw_at lw_m13 7 rfl) rfl
theorem q2984 : (Jvm.Cond.privateMethod ({ cls := "CreditBrokerModel", name := "ahead", desc := "(IIII)V" } : Jvm.MethodName)) ∈ lw_tbl := lw_at lw_m13 8 rfl
theorem q2985 : (Jvm.Cond.instanceMethod ({ cls := "CreditBrokerModel", name := "ahead", desc := "(IIII)V" } : Jvm.MethodName)) ∈ lw_all := lw_g (lw_at lw_m13 9 rfl) rfl
theorem q2986 : (Jvm.Cond.code ({ cls := "CreditBrokerModel", name := "ahead", desc := "(IIII)V" } : Jvm.MethodName) prog_24_method_31_code (5 : Nat) (Option.none : Option Jvm.ClassFile.FieldType)) ∈ lw_all := lw_g (lw_at lw_m13 10 rfl) rfl
theorem q2987 : (Jvm.Cond.methodLink "CreditBrokerModel" (154 : Nat) ({ cls := "CreditBrokerModel", name := "comes", desc := "(II)V" } : Jvm.MethodName)) ∈ lw_all := lw_g (lw_at lw_m13 11 rfl) rfl
theorem q2988 : (Jvm.Cond.privateMethod ({ cls := "CreditBrokerModel", name := "comes", desc := "(II)V" } : Jvm.MethodName)) ∈ lw_tbl := lw_at lw_m13 12 rfl
theorem q2989 : (Jvm.Cond.instanceMethod ({ cls := "CreditBrokerModel", name := "comes", desc := "(II)V" } : Jvm.MethodName)) ∈ lw_all := lw_g (lw_at lw_m13 13 rfl) rfl
theorem q2990 : (Jvm.Cond.code ({ cls := "CreditBrokerModel", name := "comes", desc := "(II)V" } : Jvm.MethodName) prog_24_method_29_code (6 : Nat) (Option.none : Option Jvm.ClassFile.FieldType)) ∈ lw_all := lw_g (lw_at lw_m13 14 rfl) rfl
theorem q2991 : (Jvm.Cond.methodLink "CreditBrokerModel" (66 : Nat) ({ cls := "CreditBrokerModel", name := "letterOf", desc := "(III)I" } : Jvm.MethodName)) ∈ lw_all := lw_g (lw_at lw_m13 15 rfl) rfl
theorem q2992 : (Jvm.Cond.privateMethod ({ cls := "CreditBrokerModel", name := "letterOf", desc := "(III)I" } : Jvm.MethodName)) ∈ lw_tbl := lw_at lw_m13 16 rfl
theorem q2993 : (Jvm.Cond.instanceMethod ({ cls := "CreditBrokerModel", name := "letterOf", desc := "(III)I" } : Jvm.MethodName)) ∈ lw_all := lw_g (lw_at lw_m13 17 rfl) rfl
theorem q2994 : (Jvm.Cond.code ({ cls := "CreditBrokerModel", name := "letterOf", desc := "(III)I" } : Jvm.MethodName) prog_24_method_12_code (4 : Nat) (Option.some Jvm.ClassFile.FieldType.int)) ∈ lw_all := lw_g (lw_at lw_m13 18 rfl) rfl
theorem q2995 : (Jvm.Cond.methodLink "CreditBrokerModel" (125 : Nat) ({ cls := "CreditBrokerModel", name := "letterIs", desc := "(IIII)V" } : Jvm.MethodName)) ∈ lw_all := lw_g (lw_at lw_m13 19 rfl) rfl
theorem q2996 : (Jvm.Cond.privateMethod ({ cls := "CreditBrokerModel", name := "letterIs", desc := "(IIII)V" } : Jvm.MethodName)) ∈ lw_tbl := lw_at lw_m13 20 rfl
theorem q2997 : (Jvm.Cond.instanceMethod ({ cls := "CreditBrokerModel", name := "letterIs", desc := "(IIII)V" } : Jvm.MethodName)) ∈ lw_all := lw_g (lw_at lw_m13 21 rfl) rfl
theorem q2998 : (Jvm.Cond.code ({ cls := "CreditBrokerModel", name := "letterIs", desc := "(IIII)V" } : Jvm.MethodName) prog_24_method_13_code (5 : Nat) (Option.none : Option Jvm.ClassFile.FieldType)) ∈ lw_all := lw_g (lw_at lw_m13 22 rfl) rfl
theorem q3000 : (Jvm.Cond.instanceMethod ({ cls := "CreditBrokerModel", name := "give", desc := "(I)I" } : Jvm.MethodName)) ∈ lw_all := lw_g (lw_at lw_m13 24 rfl) rfl
theorem q3001 : (Jvm.Cond.selects "CreditBrokerModel" ({ cls := "CreditBrokerModel", name := "give", desc := "(I)I" } : Jvm.MethodName) ({ cls := "CreditBrokerModel", name := "give", desc := "(I)I" } : Jvm.MethodName)) ∈ lw_all := lw_g (lw_at lw_m13 25 rfl) rfl
theorem q3002 : (Jvm.Cond.code ({ cls := "CreditBrokerModel", name := "give", desc := "(I)I" } : Jvm.MethodName) prog_24_method_41_code (2 : Nat) (Option.some Jvm.ClassFile.FieldType.int)) ∈ lw_all := lw_g (lw_at lw_m13 26 rfl) rfl
theorem q3003 : (Jvm.Cond.methodLink "CreditBrokerModel" (172 : Nat) ({ cls := "CreditBrokerModel", name := "gives", desc := "(I)I" } : Jvm.MethodName)) ∈ lw_all := lw_g (lw_at lw_m13 27 rfl) rfl
theorem q3004 : (Jvm.Cond.privateMethod ({ cls := "CreditBrokerModel", name := "gives", desc := "(I)I" } : Jvm.MethodName)) ∈ lw_tbl := lw_at lw_m13 28 rfl
theorem q3005 : (Jvm.Cond.instanceMethod ({ cls := "CreditBrokerModel", name := "gives", desc := "(I)I" } : Jvm.MethodName)) ∈ lw_all := lw_g (lw_at lw_m13 29 rfl) rfl
theorem q3006 : (Jvm.Cond.code ({ cls := "CreditBrokerModel", name := "gives", desc := "(I)I" } : Jvm.MethodName) prog_24_method_40_code (4 : Nat) (Option.some Jvm.ClassFile.FieldType.int)) ∈ lw_all := lw_g (lw_at lw_m13 30 rfl) rfl
theorem q3007 : (Jvm.Cond.methodLink "CreditBrokerModel" (166 : Nat) ({ cls := "CreditBrokerModel", name := "nextOf", desc := "(I)I" } : Jvm.MethodName)) ∈ lw_all := lw_g (lw_at lw_m13 31 rfl) rfl
theorem q3008 : (Jvm.Cond.privateMethod ({ cls := "CreditBrokerModel", name := "nextOf", desc := "(I)I" } : Jvm.MethodName)) ∈ lw_tbl := lw_at lw_m13 32 rfl
theorem q3009 : (Jvm.Cond.instanceMethod ({ cls := "CreditBrokerModel", name := "nextOf", desc := "(I)I" } : Jvm.MethodName)) ∈ lw_all := lw_g (lw_at lw_m13 33 rfl) rfl
theorem q3010 : (Jvm.Cond.code ({ cls := "CreditBrokerModel", name := "nextOf", desc := "(I)I" } : Jvm.MethodName) prog_24_method_38_code (4 : Nat) (Option.some Jvm.ClassFile.FieldType.int)) ∈ lw_all := lw_g (lw_at lw_m13 34 rfl) rfl
theorem q3011 : (Jvm.Cond.methodLink "CreditBrokerModel" (160 : Nat) ({ cls := "CreditBrokerModel", name := "may", desc := "(II)Z" } : Jvm.MethodName)) ∈ lw_all := lw_g (lw_at lw_m13 35 rfl) rfl
theorem q3012 : (Jvm.Cond.privateMethod ({ cls := "CreditBrokerModel", name := "may", desc := "(II)Z" } : Jvm.MethodName)) ∈ lw_tbl := lw_at lw_m13 36 rfl
theorem q3013 : (Jvm.Cond.instanceMethod ({ cls := "CreditBrokerModel", name := "may", desc := "(II)Z" } : Jvm.MethodName)) ∈ lw_all := lw_g (lw_at lw_m13 37 rfl) rfl
theorem q3014 : (Jvm.Cond.code ({ cls := "CreditBrokerModel", name := "may", desc := "(II)Z" } : Jvm.MethodName) prog_24_method_37_code (4 : Nat) (Option.some Jvm.ClassFile.FieldType.boolean)) ∈ lw_all := lw_g (lw_at lw_m13 38 rfl) rfl
theorem q3015 : (Jvm.Cond.methodLink "CreditBrokerModel" (157 : Nat) ({ cls := "CreditBrokerModel", name := "keyOf", desc := "(II)I" } : Jvm.MethodName)) ∈ lw_all := lw_g (lw_at lw_m13 39 rfl) rfl
theorem q3016 : (Jvm.Cond.privateMethod ({ cls := "CreditBrokerModel", name := "keyOf", desc := "(II)I" } : Jvm.MethodName)) ∈ lw_tbl := lw_at lw_m13 40 rfl
theorem q3017 : (Jvm.Cond.instanceMethod ({ cls := "CreditBrokerModel", name := "keyOf", desc := "(II)I" } : Jvm.MethodName)) ∈ lw_all := lw_g (lw_at lw_m13 41 rfl) rfl
theorem q3018 : (Jvm.Cond.code ({ cls := "CreditBrokerModel", name := "keyOf", desc := "(II)I" } : Jvm.MethodName) prog_24_method_14_code (3 : Nat) (Option.some Jvm.ClassFile.FieldType.int)) ∈ lw_all := lw_g (lw_at lw_m13 42 rfl) rfl
theorem q3019 : (Jvm.Cond.methodLink "CreditBrokerModel" (70 : Nat) ({ cls := "CreditBrokerModel", name := "message", desc := "(II)I" } : Jvm.MethodName)) ∈ lw_all := lw_g (lw_at lw_m13 43 rfl) rfl
theorem q3020 : (Jvm.Cond.privateMethod ({ cls := "CreditBrokerModel", name := "message", desc := "(II)I" } : Jvm.MethodName)) ∈ lw_tbl := lw_at lw_m13 44 rfl
theorem q3021 : (Jvm.Cond.instanceMethod ({ cls := "CreditBrokerModel", name := "message", desc := "(II)I" } : Jvm.MethodName)) ∈ lw_all := lw_g (lw_at lw_m13 45 rfl) rfl
theorem q3022 : (Jvm.Cond.code ({ cls := "CreditBrokerModel", name := "message", desc := "(II)I" } : Jvm.MethodName) prog_24_method_11_code (3 : Nat) (Option.some Jvm.ClassFile.FieldType.int)) ∈ lw_all := lw_g (lw_at lw_m13 46 rfl) rfl
theorem q3023 : (Jvm.Cond.methodLink "CreditBrokerModel" (169 : Nat) ({ cls := "CreditBrokerModel", name := "who", desc := "(I)I" } : Jvm.MethodName)) ∈ lw_all := lw_g (lw_at lw_m13 47 rfl) rfl
theorem q3024 : (Jvm.Cond.privateMethod ({ cls := "CreditBrokerModel", name := "who", desc := "(I)I" } : Jvm.MethodName)) ∈ lw_tbl := lw_at lw_m13 48 rfl
theorem q3025 : (Jvm.Cond.instanceMethod ({ cls := "CreditBrokerModel", name := "who", desc := "(I)I" } : Jvm.MethodName)) ∈ lw_all := lw_g (lw_at lw_m13 49 rfl) rfl
theorem q3026 : (Jvm.Cond.code ({ cls := "CreditBrokerModel", name := "who", desc := "(I)I" } : Jvm.MethodName) prog_24_method_39_code (4 : Nat) (Option.some Jvm.ClassFile.FieldType.int)) ∈ lw_all := lw_g (lw_at lw_m13 50 rfl) rfl
theorem q3027 : (Jvm.Cond.methodLink "CreditBrokerModel" (163 : Nat) ({ cls := "CreditBrokerModel", name := "isHere", desc := "(I)Z" } : Jvm.MethodName)) ∈ lw_all := lw_g (lw_at lw_m13 51 rfl) rfl
theorem q3028 : (Jvm.Cond.privateMethod ({ cls := "CreditBrokerModel", name := "isHere", desc := "(I)Z" } : Jvm.MethodName)) ∈ lw_tbl := lw_at lw_m13 52 rfl
theorem q3029 : (Jvm.Cond.instanceMethod ({ cls := "CreditBrokerModel", name := "isHere", desc := "(I)Z" } : Jvm.MethodName)) ∈ lw_all := lw_g (lw_at lw_m13 53 rfl) rfl
theorem q3030 : (Jvm.Cond.code ({ cls := "CreditBrokerModel", name := "isHere", desc := "(I)Z" } : Jvm.MethodName) prog_24_method_10_code (2 : Nat) (Option.some Jvm.ClassFile.FieldType.boolean)) ∈ lw_all := lw_g (lw_at lw_m13 54 rfl) rfl
theorem q3031 : (Jvm.Cond.methodLink "CreditBrokerModel" (51 : Nat) ({ cls := "CreditBrokerModel", name := "isConsumer", desc := "(I)Z" } : Jvm.MethodName)) ∈ lw_all := lw_g (lw_at lw_m13 55 rfl) rfl
theorem q3032 : (Jvm.Cond.privateMethod ({ cls := "CreditBrokerModel", name := "isConsumer", desc := "(I)Z" } : Jvm.MethodName)) ∈ lw_tbl := lw_at lw_m13 56 rfl
theorem q3033 : (Jvm.Cond.instanceMethod ({ cls := "CreditBrokerModel", name := "isConsumer", desc := "(I)Z" } : Jvm.MethodName)) ∈ lw_all := lw_g (lw_at lw_m13 57 rfl) rfl
theorem q3034 : (Jvm.Cond.code ({ cls := "CreditBrokerModel", name := "isConsumer", desc := "(I)Z" } : Jvm.MethodName) prog_24_method_9_code (2 : Nat) (Option.some Jvm.ClassFile.FieldType.boolean)) ∈ lw_all := lw_g (lw_at lw_m13 58 rfl) rfl
theorem q3035 : (Jvm.Cond.methodLink "CreditBrokerModel" (55 : Nat) ({ cls := "CreditBrokerModel", name := "ofConsumer", desc := "(II)I" } : Jvm.MethodName)) ∈ lw_all := lw_g (lw_at lw_m13 59 rfl) rfl
theorem q3036 : (Jvm.Cond.privateMethod ({ cls := "CreditBrokerModel", name := "ofConsumer", desc := "(II)I" } : Jvm.MethodName)) ∈ lw_tbl := lw_at lw_m13 60 rfl
theorem q3037 : (Jvm.Cond.instanceMethod ({ cls := "CreditBrokerModel", name := "ofConsumer", desc := "(II)I" } : Jvm.MethodName)) ∈ lw_all := lw_g (lw_at lw_m13 61 rfl) rfl
theorem q3038 : (Jvm.Cond.code ({ cls := "CreditBrokerModel", name := "ofConsumer", desc := "(II)I" } : Jvm.MethodName) prog_24_method_8_code (3 : Nat) (Option.some Jvm.ClassFile.FieldType.int)) ∈ lw_all := lw_g (lw_at lw_m13 62 rfl) rfl
theorem q3040 : (Jvm.Cond.instanceMethod ({ cls := "CreditBrokerModel", name := "giveAll", desc := "(I)I" } : Jvm.MethodName)) ∈ lw_all := lw_g (lw_at lw_m13 64 rfl) rfl
theorem q3041 : (Jvm.Cond.selects "CreditBrokerModel" ({ cls := "CreditBrokerModel", name := "giveAll", desc := "(I)I" } : Jvm.MethodName) ({ cls := "CreditBrokerModel", name := "giveAll", desc := "(I)I" } : Jvm.MethodName)) ∈ lw_all := lw_g (lw_at lw_m13 65 rfl) rfl
theorem q3042 : (Jvm.Cond.code ({ cls := "CreditBrokerModel", name := "giveAll", desc := "(I)I" } : Jvm.MethodName) prog_24_method_42_code (3 : Nat) (Option.some Jvm.ClassFile.FieldType.int)) ∈ lw_all := lw_g (lw_at lw_m13 66 rfl) rfl
theorem q3044 : (Jvm.Cond.instanceMethod ({ cls := "CreditBrokerModel", name := "ack", desc := "(II)I" } : Jvm.MethodName)) ∈ lw_all := lw_g (lw_at lw_m13 68 rfl) rfl
theorem q3045 : (Jvm.Cond.selects "CreditBrokerModel" ({ cls := "CreditBrokerModel", name := "ack", desc := "(II)I" } : Jvm.MethodName) ({ cls := "CreditBrokerModel", name := "ack", desc := "(II)I" } : Jvm.MethodName)) ∈ lw_all := lw_g (lw_at lw_m13 69 rfl) rfl
theorem q3046 : (Jvm.Cond.code ({ cls := "CreditBrokerModel", name := "ack", desc := "(II)I" } : Jvm.MethodName) prog_24_method_47_code (3 : Nat) (Option.some Jvm.ClassFile.FieldType.int)) ∈ lw_all := lw_g (lw_at lw_m13 70 rfl) rfl
theorem q3047 : (Jvm.Cond.methodLink "CreditBrokerModel" (183 : Nat) ({ cls := "CreditBrokerModel", name := "outAt", desc := "(II)I" } : Jvm.MethodName)) ∈ lw_all := lw_g (lw_at lw_m13 71 rfl) rfl
theorem q3048 : (Jvm.Cond.privateMethod ({ cls := "CreditBrokerModel", name := "outAt", desc := "(II)I" } : Jvm.MethodName)) ∈ lw_tbl := lw_at lw_m13 72 rfl
theorem q3049 : (Jvm.Cond.instanceMethod ({ cls := "CreditBrokerModel", name := "outAt", desc := "(II)I" } : Jvm.MethodName)) ∈ lw_all := lw_g (lw_at lw_m13 73 rfl) rfl
theorem q3050 : (Jvm.Cond.code ({ cls := "CreditBrokerModel", name := "outAt", desc := "(II)I" } : Jvm.MethodName) prog_24_method_44_code (5 : Nat) (Option.some Jvm.ClassFile.FieldType.int)) ∈ lw_all := lw_g (lw_at lw_m13 74 rfl) rfl
theorem q3051 : (Jvm.Cond.methodLink "CreditBrokerModel" (186 : Nat) ({ cls := "CreditBrokerModel", name := "acks", desc := "(II)V" } : Jvm.MethodName)) ∈ lw_all := lw_g (lw_at lw_m13 75 rfl) rfl
theorem q3052 : (Jvm.Cond.privateMethod ({ cls := "CreditBrokerModel", name := "acks", desc := "(II)V" } : Jvm.MethodName)) ∈ lw_tbl := lw_at lw_m13 76 rfl
theorem q3053 : (Jvm.Cond.instanceMethod ({ cls := "CreditBrokerModel", name := "acks", desc := "(II)V" } : Jvm.MethodName)) ∈ lw_all := lw_g (lw_at lw_m13 77 rfl) rfl
theorem q3054 : (Jvm.Cond.code ({ cls := "CreditBrokerModel", name := "acks", desc := "(II)V" } : Jvm.MethodName) prog_24_method_45_code (4 : Nat) (Option.none : Option Jvm.ClassFile.FieldType)) ∈ lw_all := lw_g (lw_at lw_m13 78 rfl) rfl
theorem q3055 : (Jvm.Cond.methodLink "CreditBrokerModel" (135 : Nat) ({ cls := "CreditBrokerModel", name := "goes", desc := "(II)V" } : Jvm.MethodName)) ∈ lw_all := lw_g (lw_at lw_m13 79 rfl) rfl
theorem q3056 : (Jvm.Cond.privateMethod ({ cls := "CreditBrokerModel", name := "goes", desc := "(II)V" } : Jvm.MethodName)) ∈ lw_tbl := lw_at lw_m13 80 rfl
theorem q3057 : (Jvm.Cond.instanceMethod ({ cls := "CreditBrokerModel", name := "goes", desc := "(II)V" } : Jvm.MethodName)) ∈ lw_all := lw_g (lw_at lw_m13 81 rfl) rfl
theorem q3058 : (Jvm.Cond.code ({ cls := "CreditBrokerModel", name := "goes", desc := "(II)V" } : Jvm.MethodName) prog_24_method_28_code (5 : Nat) (Option.none : Option Jvm.ClassFile.FieldType)) ∈ lw_all := lw_g (lw_at lw_m13 82 rfl) rfl
theorem q3059 : (Jvm.Cond.methodLink "CreditBrokerModel" (175 : Nat) ({ cls := "CreditBrokerModel", name := "credits", desc := "(I)V" } : Jvm.MethodName)) ∈ lw_all := lw_g (lw_at lw_m13 83 rfl) rfl
theorem q3060 : (Jvm.Cond.privateMethod ({ cls := "CreditBrokerModel", name := "credits", desc := "(I)V" } : Jvm.MethodName)) ∈ lw_tbl := lw_at lw_m13 84 rfl
theorem q3061 : (Jvm.Cond.instanceMethod ({ cls := "CreditBrokerModel", name := "credits", desc := "(I)V" } : Jvm.MethodName)) ∈ lw_all := lw_g (lw_at lw_m13 85 rfl) rfl
theorem q3062 : (Jvm.Cond.code ({ cls := "CreditBrokerModel", name := "credits", desc := "(I)V" } : Jvm.MethodName) prog_24_method_34_code (2 : Nat) (Option.none : Option Jvm.ClassFile.FieldType)) ∈ lw_all := lw_g (lw_at lw_m13 86 rfl) rfl
theorem q3063 : (Jvm.Cond.methodLink "CreditBrokerModel" (142 : Nat) ({ cls := "java/lang/Math", name := "min", desc := "(II)I" } : Jvm.MethodName)) ∈ lw_all := lw_g (lw_at lw_m13 87 rfl) rfl
theorem q3064 : (Jvm.Cond.methodLink "CreditBrokerModel" (189 : Nat) ({ cls := "CreditBrokerModel", name := "outOf", desc := "(I)I" } : Jvm.MethodName)) ∈ lw_all := lw_g (lw_at lw_m13 88 rfl) rfl
theorem q3065 : (Jvm.Cond.privateMethod ({ cls := "CreditBrokerModel", name := "outOf", desc := "(I)I" } : Jvm.MethodName)) ∈ lw_tbl := lw_at lw_m13 89 rfl
theorem q3066 : (Jvm.Cond.instanceMethod ({ cls := "CreditBrokerModel", name := "outOf", desc := "(I)I" } : Jvm.MethodName)) ∈ lw_all := lw_g (lw_at lw_m13 90 rfl) rfl
theorem q3067 : (Jvm.Cond.code ({ cls := "CreditBrokerModel", name := "outOf", desc := "(I)I" } : Jvm.MethodName) prog_24_method_43_code (5 : Nat) (Option.some Jvm.ClassFile.FieldType.int)) ∈ lw_all := lw_g (lw_at lw_m13 91 rfl) rfl
theorem q3069 : (Jvm.Cond.instanceMethod ({ cls := "CreditBrokerModel", name := "nack", desc := "(II)I" } : Jvm.MethodName)) ∈ lw_all := lw_g (lw_at lw_m13 93 rfl) rfl
theorem q3070 : (Jvm.Cond.selects "CreditBrokerModel" ({ cls := "CreditBrokerModel", name := "nack", desc := "(II)I" } : Jvm.MethodName) ({ cls := "CreditBrokerModel", name := "nack", desc := "(II)I" } : Jvm.MethodName)) ∈ lw_all := lw_g (lw_at lw_m13 94 rfl) rfl
theorem q3071 : (Jvm.Cond.code ({ cls := "CreditBrokerModel", name := "nack", desc := "(II)I" } : Jvm.MethodName) prog_24_method_48_code (3 : Nat) (Option.some Jvm.ClassFile.FieldType.int)) ∈ lw_all := lw_g (lw_at lw_m13 95 rfl) rfl
theorem q3072 : (Jvm.Cond.methodLink "CreditBrokerModel" (192 : Nat) ({ cls := "CreditBrokerModel", name := "refuses", desc := "(II)I" } : Jvm.MethodName)) ∈ lw_all := lw_g (lw_at lw_m13 96 rfl) rfl
theorem q3073 : (Jvm.Cond.privateMethod ({ cls := "CreditBrokerModel", name := "refuses", desc := "(II)I" } : Jvm.MethodName)) ∈ lw_tbl := lw_at lw_m13 97 rfl
theorem q3074 : (Jvm.Cond.instanceMethod ({ cls := "CreditBrokerModel", name := "refuses", desc := "(II)I" } : Jvm.MethodName)) ∈ lw_all := lw_g (lw_at lw_m13 98 rfl) rfl
theorem q3075 : (Jvm.Cond.code ({ cls := "CreditBrokerModel", name := "refuses", desc := "(II)I" } : Jvm.MethodName) prog_24_method_46_code (6 : Nat) (Option.some Jvm.ClassFile.FieldType.int)) ∈ lw_all := lw_g (lw_at lw_m13 99 rfl) rfl
theorem q3076 : (Jvm.Cond.methodLink "CreditBrokerModel" (179 : Nat) ({ cls := "CreditBrokerModel", name := "fails", desc := "(IIII)Z" } : Jvm.MethodName)) ∈ lw_all := lw_g (lw_at lw_m13 100 rfl) rfl
theorem q3077 : (Jvm.Cond.privateMethod ({ cls := "CreditBrokerModel", name := "fails", desc := "(IIII)Z" } : Jvm.MethodName)) ∈ lw_tbl := lw_at lw_m13 101 rfl
theorem q3078 : (Jvm.Cond.instanceMethod ({ cls := "CreditBrokerModel", name := "fails", desc := "(IIII)Z" } : Jvm.MethodName)) ∈ lw_all := lw_g (lw_at lw_m13 102 rfl) rfl
theorem q3079 : (Jvm.Cond.code ({ cls := "CreditBrokerModel", name := "fails", desc := "(IIII)Z" } : Jvm.MethodName) prog_24_method_33_code (8 : Nat) (Option.some Jvm.ClassFile.FieldType.boolean)) ∈ lw_all := lw_g (lw_at lw_m13 103 rfl) rfl
theorem q3080 : (Jvm.Cond.methodLink "CreditBrokerModel" (139 : Nat) ({ cls := "CreditBrokerModel", name := "dies", desc := "(IIII)V" } : Jvm.MethodName)) ∈ lw_all := lw_g (lw_at lw_m13 104 rfl) rfl
theorem q3081 : (Jvm.Cond.privateMethod ({ cls := "CreditBrokerModel", name := "dies", desc := "(IIII)V" } : Jvm.MethodName)) ∈ lw_tbl := lw_at lw_m13 105 rfl
theorem q3082 : (Jvm.Cond.instanceMethod ({ cls := "CreditBrokerModel", name := "dies", desc := "(IIII)V" } : Jvm.MethodName)) ∈ lw_all := lw_g (lw_at lw_m13 106 rfl) rfl
theorem q3083 : (Jvm.Cond.code ({ cls := "CreditBrokerModel", name := "dies", desc := "(IIII)V" } : Jvm.MethodName) prog_24_method_32_code (9 : Nat) (Option.none : Option Jvm.ClassFile.FieldType)) ∈ lw_all := lw_g (lw_at lw_m13 107 rfl) rfl
theorem q3085 : (Jvm.Cond.instanceMethod ({ cls := "CreditBrokerModel", name := "exclusive", desc := "(II)I" } : Jvm.MethodName)) ∈ lw_all := lw_g (lw_at lw_m13 109 rfl) rfl
theorem q3086 : (Jvm.Cond.selects "CreditBrokerModel" ({ cls := "CreditBrokerModel", name := "exclusive", desc := "(II)I" } : Jvm.MethodName) ({ cls := "CreditBrokerModel", name := "exclusive", desc := "(II)I" } : Jvm.MethodName)) ∈ lw_all := lw_g (lw_at lw_m13 110 rfl) rfl
theorem q3087 : (Jvm.Cond.code ({ cls := "CreditBrokerModel", name := "exclusive", desc := "(II)I" } : Jvm.MethodName) prog_24_method_49_code (4 : Nat) (Option.some Jvm.ClassFile.FieldType.int)) ∈ lw_all := lw_g (lw_at lw_m13 111 rfl) rfl
theorem q3089 : (Jvm.Cond.instanceMethod ({ cls := "CreditBrokerModel", name := "consumer", desc := "(I)I" } : Jvm.MethodName)) ∈ lw_all := lw_g (lw_at lw_m13 113 rfl) rfl
theorem q3090 : (Jvm.Cond.selects "CreditBrokerModel" ({ cls := "CreditBrokerModel", name := "consumer", desc := "(I)I" } : Jvm.MethodName) ({ cls := "CreditBrokerModel", name := "consumer", desc := "(I)I" } : Jvm.MethodName)) ∈ lw_all := lw_g (lw_at lw_m13 114 rfl) rfl
theorem q3091 : (Jvm.Cond.code ({ cls := "CreditBrokerModel", name := "consumer", desc := "(I)I" } : Jvm.MethodName) prog_24_method_50_code (3 : Nat) (Option.some Jvm.ClassFile.FieldType.int)) ∈ lw_all := lw_g (lw_at lw_m13 115 rfl) rfl
theorem q3093 : (Jvm.Cond.instanceMethod ({ cls := "CreditBrokerModel", name := "leave", desc := "(I)I" } : Jvm.MethodName)) ∈ lw_all := lw_g (lw_at lw_m13 117 rfl) rfl
theorem q3094 : (Jvm.Cond.selects "CreditBrokerModel" ({ cls := "CreditBrokerModel", name := "leave", desc := "(I)I" } : Jvm.MethodName) ({ cls := "CreditBrokerModel", name := "leave", desc := "(I)I" } : Jvm.MethodName)) ∈ lw_all := lw_g (lw_at lw_m13 118 rfl) rfl
theorem q3095 : (Jvm.Cond.code ({ cls := "CreditBrokerModel", name := "leave", desc := "(I)I" } : Jvm.MethodName) prog_24_method_51_code (4 : Nat) (Option.some Jvm.ClassFile.FieldType.int)) ∈ lw_all := lw_g (lw_at lw_m13 119 rfl) rfl
theorem q3097 : (Jvm.Cond.instanceMethod ({ cls := "CreditBrokerModel", name := "credit", desc := "(II)I" } : Jvm.MethodName)) ∈ lw_all := lw_g (lw_at lw_m13 121 rfl) rfl
theorem q3098 : (Jvm.Cond.selects "CreditBrokerModel" ({ cls := "CreditBrokerModel", name := "credit", desc := "(II)I" } : Jvm.MethodName) ({ cls := "CreditBrokerModel", name := "credit", desc := "(II)I" } : Jvm.MethodName)) ∈ lw_all := lw_g (lw_at lw_m13 122 rfl) rfl
theorem q3099 : (Jvm.Cond.code ({ cls := "CreditBrokerModel", name := "credit", desc := "(II)I" } : Jvm.MethodName) prog_24_method_52_code (3 : Nat) (Option.some Jvm.ClassFile.FieldType.int)) ∈ lw_all := lw_g (lw_at lw_m13 123 rfl) rfl
theorem q3100 : (Jvm.Cond.constantLong "CreditBrokerModel" (195 : Nat) (9 : Int64)) ∈ lw_all := lw_g (lw_at lw_m13 124 rfl) rfl
theorem q3102 : (Jvm.Cond.instanceMethod ({ cls := "CreditBrokerModel", name := "pass", desc := "(I)I" } : Jvm.MethodName)) ∈ lw_all := lw_g (lw_at lw_m13 126 rfl) rfl
theorem q3103 : (Jvm.Cond.selects "CreditBrokerModel" ({ cls := "CreditBrokerModel", name := "pass", desc := "(I)I" } : Jvm.MethodName) ({ cls := "CreditBrokerModel", name := "pass", desc := "(I)I" } : Jvm.MethodName)) ∈ lw_all := lw_g (lw_at lw_m13 127 rfl) rfl
theorem q3104 : (Jvm.Cond.code ({ cls := "CreditBrokerModel", name := "pass", desc := "(I)I" } : Jvm.MethodName) prog_24_method_55_code (2 : Nat) (Option.some Jvm.ClassFile.FieldType.int)) ∈ lw_all := lw_g (lw_at lw_m13 128 rfl) rfl
theorem q3105 : (Jvm.Cond.methodLink "CreditBrokerModel" (200 : Nat) ({ cls := "CreditBrokerModel", name := "passes", desc := "(I)I" } : Jvm.MethodName)) ∈ lw_all := lw_g (lw_at lw_m13 129 rfl) rfl
theorem q3106 : (Jvm.Cond.privateMethod ({ cls := "CreditBrokerModel", name := "passes", desc := "(I)I" } : Jvm.MethodName)) ∈ lw_tbl := lw_at lw_m13 130 rfl
theorem q3107 : (Jvm.Cond.instanceMethod ({ cls := "CreditBrokerModel", name := "passes", desc := "(I)I" } : Jvm.MethodName)) ∈ lw_all := lw_g (lw_at lw_m13 131 rfl) rfl
theorem q3108 : (Jvm.Cond.code ({ cls := "CreditBrokerModel", name := "passes", desc := "(I)I" } : Jvm.MethodName) prog_24_method_54_code (6 : Nat) (Option.some Jvm.ClassFile.FieldType.int)) ∈ lw_all := lw_g (lw_at lw_m13 132 rfl) rfl
theorem q3109 : (Jvm.Cond.methodLink "CreditBrokerModel" (197 : Nat) ({ cls := "CreditBrokerModel", name := "ages", desc := "(II)Z" } : Jvm.MethodName)) ∈ lw_all := lw_g (lw_at lw_m13 133 rfl) rfl
theorem q3110 : (Jvm.Cond.privateMethod ({ cls := "CreditBrokerModel", name := "ages", desc := "(II)Z" } : Jvm.MethodName)) ∈ lw_tbl := lw_at lw_m13 134 rfl
theorem q3111 : (Jvm.Cond.instanceMethod ({ cls := "CreditBrokerModel", name := "ages", desc := "(II)Z" } : Jvm.MethodName)) ∈ lw_all := lw_g (lw_at lw_m13 135 rfl) rfl
theorem q3112 : (Jvm.Cond.code ({ cls := "CreditBrokerModel", name := "ages", desc := "(II)Z" } : Jvm.MethodName) prog_24_method_53_code (4 : Nat) (Option.some Jvm.ClassFile.FieldType.boolean)) ∈ lw_all := lw_g (lw_at lw_m13 136 rfl) rfl
theorem q3114 : (Jvm.Cond.instanceMethod ({ cls := "CreditBrokerModel", name := "revive", desc := "(I)I" } : Jvm.MethodName)) ∈ lw_all := lw_g (lw_at lw_m13 138 rfl) rfl
theorem q3115 : (Jvm.Cond.selects "CreditBrokerModel" ({ cls := "CreditBrokerModel", name := "revive", desc := "(I)I" } : Jvm.MethodName) ({ cls := "CreditBrokerModel", name := "revive", desc := "(I)I" } : Jvm.MethodName)) ∈ lw_all := lw_g (lw_at lw_m13 139 rfl) rfl
theorem q3116 : (Jvm.Cond.code ({ cls := "CreditBrokerModel", name := "revive", desc := "(I)I" } : Jvm.MethodName) prog_24_method_56_code (4 : Nat) (Option.some Jvm.ClassFile.FieldType.int)) ∈ lw_all := lw_g (lw_at lw_m13 140 rfl) rfl
theorem q3117 : (Jvm.Cond.methodLink "CreditBrokerModel" (203 : Nat) ({ cls := "CreditBrokerModel", name := "losesDead", desc := "(I)V" } : Jvm.MethodName)) ∈ lw_all := lw_g (lw_at lw_m13 141 rfl) rfl
theorem q3118 : (Jvm.Cond.privateMethod ({ cls := "CreditBrokerModel", name := "losesDead", desc := "(I)V" } : Jvm.MethodName)) ∈ lw_tbl := lw_at lw_m13 142 rfl
theorem q3119 : (Jvm.Cond.instanceMethod ({ cls := "CreditBrokerModel", name := "losesDead", desc := "(I)V" } : Jvm.MethodName)) ∈ lw_all := lw_g (lw_at lw_m13 143 rfl) rfl
theorem q3120 : (Jvm.Cond.code ({ cls := "CreditBrokerModel", name := "losesDead", desc := "(I)V" } : Jvm.MethodName) prog_24_method_57_code (3 : Nat) (Option.none : Option Jvm.ClassFile.FieldType)) ∈ lw_all := lw_g (lw_at lw_m13 144 rfl) rfl
theorem q3122 : (Jvm.Cond.instanceMethod ({ cls := "CreditBrokerModel", name := "bury", desc := "(I)I" } : Jvm.MethodName)) ∈ lw_all := lw_g (lw_at lw_m13 146 rfl) rfl
theorem q3123 : (Jvm.Cond.selects "CreditBrokerModel" ({ cls := "CreditBrokerModel", name := "bury", desc := "(I)I" } : Jvm.MethodName) ({ cls := "CreditBrokerModel", name := "bury", desc := "(I)I" } : Jvm.MethodName)) ∈ lw_all := lw_g (lw_at lw_m13 147 rfl) rfl
theorem q3124 : (Jvm.Cond.code ({ cls := "CreditBrokerModel", name := "bury", desc := "(I)I" } : Jvm.MethodName) prog_24_method_58_code (4 : Nat) (Option.some Jvm.ClassFile.FieldType.int)) ∈ lw_all := lw_g (lw_at lw_m13 148 rfl) rfl
theorem q3126 : (Jvm.Cond.instanceMethod ({ cls := "CreditBrokerModel", name := "purge", desc := "(I)I" } : Jvm.MethodName)) ∈ lw_all := lw_g (lw_at lw_m13 150 rfl) rfl
theorem q3127 : (Jvm.Cond.selects "CreditBrokerModel" ({ cls := "CreditBrokerModel", name := "purge", desc := "(I)I" } : Jvm.MethodName) ({ cls := "CreditBrokerModel", name := "purge", desc := "(I)I" } : Jvm.MethodName)) ∈ lw_all := lw_g (lw_at lw_m13 151 rfl) rfl
theorem q3128 : (Jvm.Cond.code ({ cls := "CreditBrokerModel", name := "purge", desc := "(I)I" } : Jvm.MethodName) prog_24_method_59_code (4 : Nat) (Option.some Jvm.ClassFile.FieldType.int)) ∈ lw_all := lw_g (lw_at lw_m13 152 rfl) rfl
theorem q3130 : (Jvm.Cond.instanceMethod ({ cls := "CreditBrokerModel", name := "queueOf", desc := "(II)I" } : Jvm.MethodName)) ∈ lw_all := lw_g (lw_at lw_m13 154 rfl) rfl
theorem q3131 : (Jvm.Cond.selects "CreditBrokerModel" ({ cls := "CreditBrokerModel", name := "queueOf", desc := "(II)I" } : Jvm.MethodName) ({ cls := "CreditBrokerModel", name := "queueOf", desc := "(II)I" } : Jvm.MethodName)) ∈ lw_all := lw_g (lw_at lw_m13 155 rfl) rfl
theorem q3132 : (Jvm.Cond.code ({ cls := "CreditBrokerModel", name := "queueOf", desc := "(II)I" } : Jvm.MethodName) prog_24_method_63_code (3 : Nat) (Option.some Jvm.ClassFile.FieldType.int)) ∈ lw_all := lw_g (lw_at lw_m13 156 rfl) rfl
theorem q3133 : (Jvm.Cond.constantLong "CreditBrokerModel" (206 : Nat) (10 : Int64)) ∈ lw_all := lw_g (lw_at lw_m13 157 rfl) rfl
theorem q3134 : (Jvm.Cond.methodLink "CreditBrokerModel" (208 : Nat) ({ cls := "CreditBrokerModel", name := "lettersOf", desc := "(II)I" } : Jvm.MethodName)) ∈ lw_all := lw_g (lw_at lw_m13 158 rfl) rfl
theorem q3135 : (Jvm.Cond.privateMethod ({ cls := "CreditBrokerModel", name := "lettersOf", desc := "(II)I" } : Jvm.MethodName)) ∈ lw_tbl := lw_at lw_m13 159 rfl
theorem q3136 : (Jvm.Cond.instanceMethod ({ cls := "CreditBrokerModel", name := "lettersOf", desc := "(II)I" } : Jvm.MethodName)) ∈ lw_all := lw_g (lw_at lw_m13 160 rfl) rfl
theorem q3137 : (Jvm.Cond.code ({ cls := "CreditBrokerModel", name := "lettersOf", desc := "(II)I" } : Jvm.MethodName) prog_24_method_60_code (5 : Nat) (Option.some Jvm.ClassFile.FieldType.int)) ∈ lw_all := lw_g (lw_at lw_m13 161 rfl) rfl
theorem q3138 : (Jvm.Cond.methodLink "CreditBrokerModel" (211 : Nat) ({ cls := "CreditBrokerModel", name := "mayMany", desc := "(I)I" } : Jvm.MethodName)) ∈ lw_all := lw_g (lw_at lw_m13 162 rfl) rfl
theorem q3139 : (Jvm.Cond.privateMethod ({ cls := "CreditBrokerModel", name := "mayMany", desc := "(I)I" } : Jvm.MethodName)) ∈ lw_tbl := lw_at lw_m13 163 rfl
theorem q3140 : (Jvm.Cond.instanceMethod ({ cls := "CreditBrokerModel", name := "mayMany", desc := "(I)I" } : Jvm.MethodName)) ∈ lw_all := lw_g (lw_at lw_m13 164 rfl) rfl
theorem q3141 : (Jvm.Cond.code ({ cls := "CreditBrokerModel", name := "mayMany", desc := "(I)I" } : Jvm.MethodName) prog_24_method_61_code (4 : Nat) (Option.some Jvm.ClassFile.FieldType.int)) ∈ lw_all := lw_g (lw_at lw_m13 165 rfl) rfl
theorem q3142 : (Jvm.Cond.methodLink "CreditBrokerModel" (214 : Nat) ({ cls := "CreditBrokerModel", name := "consumersOf", desc := "(IZ)I" } : Jvm.MethodName)) ∈ lw_all := lw_g (lw_at lw_m13 166 rfl) rfl
theorem q3143 : (Jvm.Cond.privateMethod ({ cls := "CreditBrokerModel", name := "consumersOf", desc := "(IZ)I" } : Jvm.MethodName)) ∈ lw_tbl := lw_at lw_m13 167 rfl
theorem q3144 : (Jvm.Cond.instanceMethod ({ cls := "CreditBrokerModel", name := "consumersOf", desc := "(IZ)I" } : Jvm.MethodName)) ∈ lw_all := lw_g (lw_at lw_m13 168 rfl) rfl
theorem q3145 : (Jvm.Cond.code ({ cls := "CreditBrokerModel", name := "consumersOf", desc := "(IZ)I" } : Jvm.MethodName) prog_24_method_62_code (5 : Nat) (Option.some Jvm.ClassFile.FieldType.int)) ∈ lw_all := lw_g (lw_at lw_m13 169 rfl) rfl
theorem q3147 : (Jvm.Cond.instanceMethod ({ cls := "CreditBrokerModel", name := "letter", desc := "(III)I" } : Jvm.MethodName)) ∈ lw_all := lw_g (lw_at lw_m13 171 rfl) rfl
theorem q3148 : (Jvm.Cond.selects "CreditBrokerModel" ({ cls := "CreditBrokerModel", name := "letter", desc := "(III)I" } : Jvm.MethodName) ({ cls := "CreditBrokerModel", name := "letter", desc := "(III)I" } : Jvm.MethodName)) ∈ lw_all := lw_g (lw_at lw_m13 172 rfl) rfl
theorem q3149 : (Jvm.Cond.code ({ cls := "CreditBrokerModel", name := "letter", desc := "(III)I" } : Jvm.MethodName) prog_24_method_64_code (4 : Nat) (Option.some Jvm.ClassFile.FieldType.int)) ∈ lw_all := lw_g (lw_at lw_m13 173 rfl) rfl
theorem q3150 : (Jvm.Cond.constantLong "CreditBrokerModel" (218 : Nat) (4 : Int64)) ∈ lw_all := lw_g (lw_at lw_m13 174 rfl) rfl
theorem q3152 : (Jvm.Cond.instanceMethod ({ cls := "CreditBrokerModel", name := "consumerOf", desc := "(II)I" } : Jvm.MethodName)) ∈ lw_all := lw_g (lw_at lw_m13 176 rfl) rfl
theorem q3153 : (Jvm.Cond.selects "CreditBrokerModel" ({ cls := "CreditBrokerModel", name := "consumerOf", desc := "(II)I" } : Jvm.MethodName) ({ cls := "CreditBrokerModel", name := "consumerOf", desc := "(II)I" } : Jvm.MethodName)) ∈ lw_all := lw_g (lw_at lw_m13 177 rfl) rfl
theorem q3154 : (Jvm.Cond.code ({ cls := "CreditBrokerModel", name := "consumerOf", desc := "(II)I" } : Jvm.MethodName) prog_24_method_65_code (3 : Nat) (Option.some Jvm.ClassFile.FieldType.int)) ∈ lw_all := lw_g (lw_at lw_m13 178 rfl) rfl
theorem q3156 : (Jvm.Cond.instanceMethod ({ cls := "CreditBrokerModel", name := "held", desc := "(II)I" } : Jvm.MethodName)) ∈ lw_all := lw_g (lw_at lw_m13 180 rfl) rfl
theorem q3157 : (Jvm.Cond.selects "CreditBrokerModel" ({ cls := "CreditBrokerModel", name := "held", desc := "(II)I" } : Jvm.MethodName) ({ cls := "CreditBrokerModel", name := "held", desc := "(II)I" } : Jvm.MethodName)) ∈ lw_all := lw_g (lw_at lw_m13 181 rfl) rfl
theorem q3158 : (Jvm.Cond.code ({ cls := "CreditBrokerModel", name := "held", desc := "(II)I" } : Jvm.MethodName) prog_24_method_66_code (6 : Nat) (Option.some Jvm.ClassFile.FieldType.int)) ∈ lw_all := lw_g (lw_at lw_m13 182 rfl) rfl
theorem q3160 : (Jvm.Cond.instanceMethod ({ cls := "CreditBrokerModel", name := "messageOf", desc := "(II)I" } : Jvm.MethodName)) ∈ lw_all := lw_g (lw_at lw_m13 184 rfl) rfl
theorem q3161 : (Jvm.Cond.selects "CreditBrokerModel" ({ cls := "CreditBrokerModel", name := "messageOf", desc := "(II)I" } : Jvm.MethodName) ({ cls := "CreditBrokerModel", name := "messageOf", desc := "(II)I" } : Jvm.MethodName)) ∈ lw_all := lw_g (lw_at lw_m13 185 rfl) rfl
theorem q3162 : (Jvm.Cond.code ({ cls := "CreditBrokerModel", name := "messageOf", desc := "(II)I" } : Jvm.MethodName) prog_24_method_67_code (6 : Nat) (Option.some Jvm.ClassFile.FieldType.int)) ∈ lw_all := lw_g (lw_at lw_m13 186 rfl) rfl
theorem q3164 : (Jvm.Cond.instanceMethod ({ cls := "CreditBrokerModel", name := "dead", desc := "(II)I" } : Jvm.MethodName)) ∈ lw_all := lw_g (lw_at lw_m13 188 rfl) rfl
theorem q3165 : (Jvm.Cond.selects "CreditBrokerModel" ({ cls := "CreditBrokerModel", name := "dead", desc := "(II)I" } : Jvm.MethodName) ({ cls := "CreditBrokerModel", name := "dead", desc := "(II)I" } : Jvm.MethodName)) ∈ lw_all := lw_g (lw_at lw_m13 189 rfl) rfl
theorem q3166 : (Jvm.Cond.code ({ cls := "CreditBrokerModel", name := "dead", desc := "(II)I" } : Jvm.MethodName) prog_24_method_68_code (3 : Nat) (Option.some Jvm.ClassFile.FieldType.int)) ∈ lw_all := lw_g (lw_at lw_m13 190 rfl) rfl
theorem q3168 : (Jvm.Cond.instanceMethod ({ cls := "CreditBrokerModel", name := "cause", desc := "(III)I" } : Jvm.MethodName)) ∈ lw_all := lw_g (lw_at lw_m13 192 rfl) rfl
theorem q3169 : (Jvm.Cond.selects "CreditBrokerModel" ({ cls := "CreditBrokerModel", name := "cause", desc := "(III)I" } : Jvm.MethodName) ({ cls := "CreditBrokerModel", name := "cause", desc := "(III)I" } : Jvm.MethodName)) ∈ lw_all := lw_g (lw_at lw_m13 193 rfl) rfl
theorem q3170 : (Jvm.Cond.code ({ cls := "CreditBrokerModel", name := "cause", desc := "(III)I" } : Jvm.MethodName) prog_24_method_70_code (4 : Nat) (Option.some Jvm.ClassFile.FieldType.int)) ∈ lw_all := lw_g (lw_at lw_m13 194 rfl) rfl
theorem q3171 : (Jvm.Cond.methodLink "CreditBrokerModel" (220 : Nat) ({ cls := "CreditBrokerModel", name := "isCause", desc := "(II)Z" } : Jvm.MethodName)) ∈ lw_all := lw_g (lw_at lw_m13 195 rfl) rfl
theorem q3172 : (Jvm.Cond.privateMethod ({ cls := "CreditBrokerModel", name := "isCause", desc := "(II)Z" } : Jvm.MethodName)) ∈ lw_tbl := lw_at lw_m13 196 rfl
theorem q3173 : (Jvm.Cond.instanceMethod ({ cls := "CreditBrokerModel", name := "isCause", desc := "(II)Z" } : Jvm.MethodName)) ∈ lw_all := lw_g (lw_at lw_m13 197 rfl) rfl
theorem q3174 : (Jvm.Cond.code ({ cls := "CreditBrokerModel", name := "isCause", desc := "(II)Z" } : Jvm.MethodName) prog_24_method_69_code (3 : Nat) (Option.some Jvm.ClassFile.FieldType.boolean)) ∈ lw_all := lw_g (lw_at lw_m13 198 rfl) rfl
theorem q3176 : (Jvm.Cond.instanceMethod ({ cls := "CreditBrokerModel", name := "next", desc := "(II)I" } : Jvm.MethodName)) ∈ lw_all := lw_g (lw_at lw_m13 200 rfl) rfl
theorem q3177 : (Jvm.Cond.selects "CreditBrokerModel" ({ cls := "CreditBrokerModel", name := "next", desc := "(II)I" } : Jvm.MethodName) ({ cls := "CreditBrokerModel", name := "next", desc := "(II)I" } : Jvm.MethodName)) ∈ lw_all := lw_g (lw_at lw_m13 201 rfl) rfl
theorem q3178 : (Jvm.Cond.code ({ cls := "CreditBrokerModel", name := "next", desc := "(II)I" } : Jvm.MethodName) prog_24_method_71_code (4 : Nat) (Option.some Jvm.ClassFile.FieldType.int)) ∈ lw_all := lw_g (lw_at lw_m13 202 rfl) rfl
theorem q3180 : (Jvm.Cond.instanceMethod ({ cls := "CreditBrokerModel", name := "blocked", desc := "(I)I" } : Jvm.MethodName)) ∈ lw_all := lw_g (lw_at lw_m13 204 rfl) rfl
theorem q3181 : (Jvm.Cond.selects "CreditBrokerModel" ({ cls := "CreditBrokerModel", name := "blocked", desc := "(I)I" } : Jvm.MethodName) ({ cls := "CreditBrokerModel", name := "blocked", desc := "(I)I" } : Jvm.MethodName)) ∈ lw_all := lw_g (lw_at lw_m13 205 rfl) rfl
theorem q3182 : (Jvm.Cond.code ({ cls := "CreditBrokerModel", name := "blocked", desc := "(I)I" } : Jvm.MethodName) prog_24_method_72_code (5 : Nat) (Option.some Jvm.ClassFile.FieldType.int)) ∈ lw_all := lw_g (lw_at lw_m13 206 rfl) rfl
theorem q3184 : (Jvm.Cond.instanceMethod ({ cls := "CreditBrokerModel", name := "drained", desc := "(II)I" } : Jvm.MethodName)) ∈ lw_all := lw_g (lw_at lw_m13 208 rfl) rfl
theorem q3185 : (Jvm.Cond.selects "CreditBrokerModel" ({ cls := "CreditBrokerModel", name := "drained", desc := "(II)I" } : Jvm.MethodName) ({ cls := "CreditBrokerModel", name := "drained", desc := "(II)I" } : Jvm.MethodName)) ∈ lw_all := lw_g (lw_at lw_m13 209 rfl) rfl
theorem q3186 : (Jvm.Cond.code ({ cls := "CreditBrokerModel", name := "drained", desc := "(II)I" } : Jvm.MethodName) prog_24_method_74_code (3 : Nat) (Option.some Jvm.ClassFile.FieldType.int)) ∈ lw_all := lw_g (lw_at lw_m13 210 rfl) rfl
theorem q3187 : (Jvm.Cond.methodLink "CreditBrokerModel" (230 : Nat) ({ cls := "CreditBrokerModel", name := "drains", desc := "(I)V" } : Jvm.MethodName)) ∈ lw_all := lw_g (lw_at lw_m13 211 rfl) rfl
theorem q3188 : (Jvm.Cond.privateMethod ({ cls := "CreditBrokerModel", name := "drains", desc := "(I)V" } : Jvm.MethodName)) ∈ lw_tbl := lw_at lw_m13 212 rfl
theorem q3189 : (Jvm.Cond.instanceMethod ({ cls := "CreditBrokerModel", name := "drains", desc := "(I)V" } : Jvm.MethodName)) ∈ lw_all := lw_g (lw_at lw_m13 213 rfl) rfl
theorem q3190 : (Jvm.Cond.code ({ cls := "CreditBrokerModel", name := "drains", desc := "(I)V" } : Jvm.MethodName) prog_24_method_73_code (3 : Nat) (Option.none : Option Jvm.ClassFile.FieldType)) ∈ lw_all := lw_g (lw_at lw_m13 214 rfl) rfl
theorem q3191 : (Jvm.Cond.methodLink "CreditBrokerModel" (223 : Nat) ({ cls := "CreditBrokerModel", name := "copies", desc := "([I[I)V" } : Jvm.MethodName)) ∈ lw_all := lw_g (lw_at lw_m13 215 rfl) rfl
theorem q3192 : (Jvm.Cond.static ({ cls := "CreditBrokerModel", name := "copies", desc := "([I[I)V" } : Jvm.MethodName)) ∈ lw_all := lw_g (lw_at lw_m13 216 rfl) rfl
theorem q3193 : (Jvm.Cond.code ({ cls := "CreditBrokerModel", name := "copies", desc := "([I[I)V" } : Jvm.MethodName) prog_24_method_4_code (3 : Nat) (Option.none : Option Jvm.ClassFile.FieldType)) ∈ lw_all := lw_g (lw_at lw_m13 217 rfl) rfl
theorem q3195 : (Jvm.Cond.instanceMethod ({ cls := "CreditBrokerModel", name := "until", desc := "(I)I" } : Jvm.MethodName)) ∈ lw_all := lw_g (lw_at lw_m13 219 rfl) rfl
theorem q3196 : (Jvm.Cond.selects "CreditBrokerModel" ({ cls := "CreditBrokerModel", name := "until", desc := "(I)I" } : Jvm.MethodName) ({ cls := "CreditBrokerModel", name := "until", desc := "(I)I" } : Jvm.MethodName)) ∈ lw_all := lw_g (lw_at lw_m13 220 rfl) rfl
theorem q3197 : (Jvm.Cond.code ({ cls := "CreditBrokerModel", name := "until", desc := "(I)I" } : Jvm.MethodName) prog_24_method_75_code (4 : Nat) (Option.some Jvm.ClassFile.FieldType.int)) ∈ lw_all := lw_g (lw_at lw_m13 221 rfl) rfl
theorem q3199 : (Jvm.Cond.instanceMethod ({ cls := "CreditBrokerModel", name := "doomed", desc := "(I)I" } : Jvm.MethodName)) ∈ lw_all := lw_g (lw_at lw_m13 223 rfl) rfl
theorem q3200 : (Jvm.Cond.selects "CreditBrokerModel" ({ cls := "CreditBrokerModel", name := "doomed", desc := "(I)I" } : Jvm.MethodName) ({ cls := "CreditBrokerModel", name := "doomed", desc := "(I)I" } : Jvm.MethodName)) ∈ lw_all := lw_g (lw_at lw_m13 224 rfl) rfl
theorem q3201 : (Jvm.Cond.code ({ cls := "CreditBrokerModel", name := "doomed", desc := "(I)I" } : Jvm.MethodName) prog_24_method_76_code (3 : Nat) (Option.some Jvm.ClassFile.FieldType.int)) ∈ lw_all := lw_g (lw_at lw_m13 225 rfl) rfl
theorem q3203 : (Jvm.Cond.instanceMethod ({ cls := "CreditBrokerModel", name := "row", desc := "(III)I" } : Jvm.MethodName)) ∈ lw_all := lw_g (lw_at lw_m13 227 rfl) rfl
theorem q3204 : (Jvm.Cond.selects "CreditBrokerModel" ({ cls := "CreditBrokerModel", name := "row", desc := "(III)I" } : Jvm.MethodName) ({ cls := "CreditBrokerModel", name := "row", desc := "(III)I" } : Jvm.MethodName)) ∈ lw_all := lw_g (lw_at lw_m13 228 rfl) rfl
theorem q3205 : (Jvm.Cond.code ({ cls := "CreditBrokerModel", name := "row", desc := "(III)I" } : Jvm.MethodName) prog_24_method_78_code (5 : Nat) (Option.some Jvm.ClassFile.FieldType.int)) ∈ lw_all := lw_g (lw_at lw_m13 229 rfl) rfl
theorem q3206 : (Jvm.Cond.methodLink "CreditBrokerModel" (233 : Nat) ({ cls := "CreditBrokerModel", name := "isShelf", desc := "(I)Z" } : Jvm.MethodName)) ∈ lw_all := lw_g (lw_at lw_m13 230 rfl) rfl
theorem q3207 : (Jvm.Cond.static ({ cls := "CreditBrokerModel", name := "isShelf", desc := "(I)Z" } : Jvm.MethodName)) ∈ lw_all := lw_g (lw_at lw_m13 231 rfl) rfl
theorem q3208 : (Jvm.Cond.code ({ cls := "CreditBrokerModel", name := "isShelf", desc := "(I)Z" } : Jvm.MethodName) prog_24_method_77_code (1 : Nat) (Option.some Jvm.ClassFile.FieldType.boolean)) ∈ lw_all := lw_g (lw_at lw_m13 232 rfl) rfl
theorem q3209 : (Jvm.Cond.constantLong "CreditBrokerModel" (236 : Nat) (40 : Int64)) ∈ lw_all := lw_g (lw_at lw_m13 233 rfl) rfl
theorem q3211 : (Jvm.Cond.instanceMethod ({ cls := "CreditBrokerModel", name := "set", desc := "(IIJ)I" } : Jvm.MethodName)) ∈ lw_all := lw_g (lw_at lw_m13 235 rfl) rfl
theorem q3212 : (Jvm.Cond.selects "CreditBrokerModel" ({ cls := "CreditBrokerModel", name := "set", desc := "(IIJ)I" } : Jvm.MethodName) ({ cls := "CreditBrokerModel", name := "set", desc := "(IIJ)I" } : Jvm.MethodName)) ∈ lw_all := lw_g (lw_at lw_m13 236 rfl) rfl
theorem q3213 : (Jvm.Cond.code ({ cls := "CreditBrokerModel", name := "set", desc := "(IIJ)I" } : Jvm.MethodName) prog_24_method_80_code (5 : Nat) (Option.some Jvm.ClassFile.FieldType.int)) ∈ lw_all := lw_g (lw_at lw_m13 237 rfl) rfl
theorem q3214 : (Jvm.Cond.methodLink "CreditBrokerModel" (238 : Nat) ({ cls := "CreditBrokerModel", name := "lowest", desc := "(IJ)J" } : Jvm.MethodName)) ∈ lw_all := lw_g (lw_at lw_m13 238 rfl) rfl
theorem q3215 : (Jvm.Cond.static ({ cls := "CreditBrokerModel", name := "lowest", desc := "(IJ)J" } : Jvm.MethodName)) ∈ lw_all := lw_g (lw_at lw_m13 239 rfl) rfl
theorem q3216 : (Jvm.Cond.code ({ cls := "CreditBrokerModel", name := "lowest", desc := "(IJ)J" } : Jvm.MethodName) prog_24_method_79_code (3 : Nat) (Option.some Jvm.ClassFile.FieldType.long)) ∈ lw_all := lw_g (lw_at lw_m14 0 rfl) rfl
theorem q3218 : (Jvm.Cond.instanceMethod ({ cls := "CreditBrokerModel", name := "copy", desc := "(IIIII)I" } : Jvm.MethodName)) ∈ lw_all := lw_g (lw_at lw_m14 2 rfl) rfl
theorem q3219 : (Jvm.Cond.selects "CreditBrokerModel" ({ cls := "CreditBrokerModel", name := "copy", desc := "(IIIII)I" } : Jvm.MethodName) ({ cls := "CreditBrokerModel", name := "copy", desc := "(IIIII)I" } : Jvm.MethodName)) ∈ lw_all := lw_g (lw_at lw_m14 3 rfl) rfl
theorem q3220 : (Jvm.Cond.code ({ cls := "CreditBrokerModel", name := "copy", desc := "(IIIII)I" } : Jvm.MethodName) prog_24_method_81_code (8 : Nat) (Option.some Jvm.ClassFile.FieldType.int)) ∈ lw_all := lw_g (lw_at lw_m14 4 rfl) rfl
theorem q3222 : (Jvm.Cond.instanceMethod ({ cls := "CreditBrokerModel", name := "element", desc := "(II)J" } : Jvm.MethodName)) ∈ lw_all := lw_g (lw_at lw_m14 6 rfl) rfl
theorem q3223 : (Jvm.Cond.selects "CreditBrokerModel" ({ cls := "CreditBrokerModel", name := "element", desc := "(II)J" } : Jvm.MethodName) ({ cls := "CreditBrokerModel", name := "element", desc := "(II)J" } : Jvm.MethodName)) ∈ lw_all := lw_g (lw_at lw_m14 7 rfl) rfl
theorem q3224 : (Jvm.Cond.code ({ cls := "CreditBrokerModel", name := "element", desc := "(II)J" } : Jvm.MethodName) prog_24_method_82_code (3 : Nat) (Option.some Jvm.ClassFile.FieldType.long)) ∈ lw_all := lw_g (lw_at lw_m14 8 rfl) rfl
theorem q3226 : (Jvm.Cond.instanceMethod ({ cls := "CreditBrokerModel", name := "holds", desc := "(I)I" } : Jvm.MethodName)) ∈ lw_all := lw_g (lw_at lw_m14 10 rfl) rfl
theorem q3227 : (Jvm.Cond.selects "CreditBrokerModel" ({ cls := "CreditBrokerModel", name := "holds", desc := "(I)I" } : Jvm.MethodName) ({ cls := "CreditBrokerModel", name := "holds", desc := "(I)I" } : Jvm.MethodName)) ∈ lw_all := lw_g (lw_at lw_m14 11 rfl) rfl
theorem q3228 : (Jvm.Cond.code ({ cls := "CreditBrokerModel", name := "holds", desc := "(I)I" } : Jvm.MethodName) prog_24_method_83_code (2 : Nat) (Option.some Jvm.ClassFile.FieldType.int)) ∈ lw_all := lw_g (lw_at lw_m14 12 rfl) rfl
theorem q3230 : (Jvm.Cond.instanceMethod ({ cls := "CreditBrokerModel", name := "show", desc := "(III)I" } : Jvm.MethodName)) ∈ lw_all := lw_g (lw_at lw_m14 14 rfl) rfl
theorem q3231 : (Jvm.Cond.selects "CreditBrokerModel" ({ cls := "CreditBrokerModel", name := "show", desc := "(III)I" } : Jvm.MethodName) ({ cls := "CreditBrokerModel", name := "show", desc := "(III)I" } : Jvm.MethodName)) ∈ lw_all := lw_g (lw_at lw_m14 15 rfl) rfl
theorem q3232 : (Jvm.Cond.code ({ cls := "CreditBrokerModel", name := "show", desc := "(III)I" } : Jvm.MethodName) prog_24_method_84_code (5 : Nat) (Option.some Jvm.ClassFile.FieldType.int)) ∈ lw_all := lw_g (lw_at lw_m14 16 rfl) rfl
theorem q3234 : (Jvm.Cond.instanceMethod ({ cls := "CreditBrokerModel", name := "says", desc := "(II)I" } : Jvm.MethodName)) ∈ lw_all := lw_g (lw_at lw_m14 18 rfl) rfl
theorem q3235 : (Jvm.Cond.selects "CreditBrokerModel" ({ cls := "CreditBrokerModel", name := "says", desc := "(II)I" } : Jvm.MethodName) ({ cls := "CreditBrokerModel", name := "says", desc := "(II)I" } : Jvm.MethodName)) ∈ lw_all := lw_g (lw_at lw_m14 19 rfl) rfl
theorem q3236 : (Jvm.Cond.code ({ cls := "CreditBrokerModel", name := "says", desc := "(II)I" } : Jvm.MethodName) prog_24_method_86_code (3 : Nat) (Option.some Jvm.ClassFile.FieldType.int)) ∈ lw_all := lw_g (lw_at lw_m14 20 rfl) rfl
theorem q3237 : (Jvm.Cond.constantLong "CreditBrokerModel" (242 : Nat) (6 : Int64)) ∈ lw_all := lw_g (lw_at lw_m14 21 rfl) rfl
theorem q3238 : (Jvm.Cond.methodLink "CreditBrokerModel" (244 : Nat) ({ cls := "CreditBrokerModel", name := "isUnder", desc := "(II)Z" } : Jvm.MethodName)) ∈ lw_all := lw_g (lw_at lw_m14 22 rfl) rfl
theorem q3239 : (Jvm.Cond.static ({ cls := "CreditBrokerModel", name := "isUnder", desc := "(II)Z" } : Jvm.MethodName)) ∈ lw_all := lw_g (lw_at lw_m14 23 rfl) rfl
theorem q3240 : (Jvm.Cond.code ({ cls := "CreditBrokerModel", name := "isUnder", desc := "(II)Z" } : Jvm.MethodName) prog_24_method_85_code (2 : Nat) (Option.some Jvm.ClassFile.FieldType.boolean)) ∈ lw_all := lw_g (lw_at lw_m14 24 rfl) rfl
theorem q3242 : (Jvm.Cond.instanceMethod ({ cls := "CreditBrokerModel", name := "judge", desc := "(III)I" } : Jvm.MethodName)) ∈ lw_all := lw_g (lw_at lw_m14 26 rfl) rfl
theorem q3243 : (Jvm.Cond.selects "CreditBrokerModel" ({ cls := "CreditBrokerModel", name := "judge", desc := "(III)I" } : Jvm.MethodName) ({ cls := "CreditBrokerModel", name := "judge", desc := "(III)I" } : Jvm.MethodName)) ∈ lw_all := lw_g (lw_at lw_m14 27 rfl) rfl
theorem q3244 : (Jvm.Cond.code ({ cls := "CreditBrokerModel", name := "judge", desc := "(III)I" } : Jvm.MethodName) prog_24_method_87_code (5 : Nat) (Option.some Jvm.ClassFile.FieldType.int)) ∈ lw_all := lw_g (lw_at lw_m14 28 rfl) rfl
theorem q3246 : (Jvm.Cond.instanceMethod ({ cls := "CreditBrokerModel", name := "days", desc := "(I)I" } : Jvm.MethodName)) ∈ lw_all := lw_g (lw_at lw_m14 30 rfl) rfl
theorem q3247 : (Jvm.Cond.selects "CreditBrokerModel" ({ cls := "CreditBrokerModel", name := "days", desc := "(I)I" } : Jvm.MethodName) ({ cls := "CreditBrokerModel", name := "days", desc := "(I)I" } : Jvm.MethodName)) ∈ lw_all := lw_g (lw_at lw_m14 31 rfl) rfl
theorem q3248 : (Jvm.Cond.code ({ cls := "CreditBrokerModel", name := "days", desc := "(I)I" } : Jvm.MethodName) prog_24_method_90_code (5 : Nat) (Option.some Jvm.ClassFile.FieldType.int)) ∈ lw_all := lw_g (lw_at lw_m14 32 rfl) rfl
theorem q3249 : (Jvm.Cond.constantLong "CreditBrokerModel" (251 : Nat) (60 : Int64)) ∈ lw_all := lw_g (lw_at lw_m14 33 rfl) rfl
theorem q3250 : (Jvm.Cond.methodLink "CreditBrokerModel" (248 : Nat) ({ cls := "CreditBrokerModel", name := "draw", desc := "(I)I" } : Jvm.MethodName)) ∈ lw_all := lw_g (lw_at lw_m14 34 rfl) rfl
theorem q3251 : (Jvm.Cond.privateMethod ({ cls := "CreditBrokerModel", name := "draw", desc := "(I)I" } : Jvm.MethodName)) ∈ lw_tbl := lw_at lw_m14 35 rfl
theorem q3252 : (Jvm.Cond.instanceMethod ({ cls := "CreditBrokerModel", name := "draw", desc := "(I)I" } : Jvm.MethodName)) ∈ lw_all := lw_g (lw_at lw_m14 36 rfl) rfl
theorem q3253 : (Jvm.Cond.code ({ cls := "CreditBrokerModel", name := "draw", desc := "(I)I" } : Jvm.MethodName) prog_24_method_88_code (2 : Nat) (Option.some Jvm.ClassFile.FieldType.int)) ∈ lw_all := lw_g (lw_at lw_m14 37 rfl) rfl
theorem q3254 : (Jvm.Cond.constant "CreditBrokerModel" (247 : Nat) (1103515245 : Int32)) ∈ lw_all := lw_g (lw_at lw_m14 38 rfl) rfl
theorem q3255 : (Jvm.Cond.methodLink "CreditBrokerModel" (253 : Nat) ({ cls := "CreditBrokerModel", name := "isDay", desc := "(I)Z" } : Jvm.MethodName)) ∈ lw_all := lw_g (lw_at lw_m14 39 rfl) rfl
theorem q3256 : (Jvm.Cond.privateMethod ({ cls := "CreditBrokerModel", name := "isDay", desc := "(I)Z" } : Jvm.MethodName)) ∈ lw_tbl := lw_at lw_m14 40 rfl
theorem q3257 : (Jvm.Cond.instanceMethod ({ cls := "CreditBrokerModel", name := "isDay", desc := "(I)Z" } : Jvm.MethodName)) ∈ lw_all := lw_g (lw_at lw_m14 41 rfl) rfl
theorem q3258 : (Jvm.Cond.code ({ cls := "CreditBrokerModel", name := "isDay", desc := "(I)Z" } : Jvm.MethodName) prog_24_method_89_code (5 : Nat) (Option.some Jvm.ClassFile.FieldType.boolean)) ∈ lw_all := lw_g (lw_at lw_m14 42 rfl) rfl
theorem q3260 : (Jvm.Cond.instanceMethod ({ cls := "CreditBrokerModel", name := "seed", desc := "(I)I" } : Jvm.MethodName)) ∈ lw_all := lw_g (lw_at lw_m14 44 rfl) rfl
theorem q3261 : (Jvm.Cond.selects "CreditBrokerModel" ({ cls := "CreditBrokerModel", name := "seed", desc := "(I)I" } : Jvm.MethodName) ({ cls := "CreditBrokerModel", name := "seed", desc := "(I)I" } : Jvm.MethodName)) ∈ lw_all := lw_g (lw_at lw_m14 45 rfl) rfl
theorem q3262 : (Jvm.Cond.code ({ cls := "CreditBrokerModel", name := "seed", desc := "(I)I" } : Jvm.MethodName) prog_24_method_91_code (3 : Nat) (Option.some Jvm.ClassFile.FieldType.int)) ∈ lw_all := lw_g (lw_at lw_m14 46 rfl) rfl
theorem q3264 : (Jvm.Cond.instanceMethod ({ cls := "CreditBrokerModel", name := "image", desc := "()I" } : Jvm.MethodName)) ∈ lw_all := lw_g (lw_at lw_m14 48 rfl) rfl
theorem q3265 : (Jvm.Cond.selects "CreditBrokerModel" ({ cls := "CreditBrokerModel", name := "image", desc := "()I" } : Jvm.MethodName) ({ cls := "CreditBrokerModel", name := "image", desc := "()I" } : Jvm.MethodName)) ∈ lw_all := lw_g (lw_at lw_m14 49 rfl) rfl
theorem q3266 : (Jvm.Cond.code ({ cls := "CreditBrokerModel", name := "image", desc := "()I" } : Jvm.MethodName) prog_24_method_92_code (1 : Nat) (Option.some Jvm.ClassFile.FieldType.int)) ∈ lw_all := lw_g (lw_at lw_m14 50 rfl) rfl
theorem q3268 : (Jvm.Cond.instanceMethod ({ cls := "CreditBrokerModel", name := "back", desc := "()I" } : Jvm.MethodName)) ∈ lw_all := lw_g (lw_at lw_m14 52 rfl) rfl
theorem q3269 : (Jvm.Cond.selects "CreditBrokerModel" ({ cls := "CreditBrokerModel", name := "back", desc := "()I" } : Jvm.MethodName) ({ cls := "CreditBrokerModel", name := "back", desc := "()I" } : Jvm.MethodName)) ∈ lw_all := lw_g (lw_at lw_m14 53 rfl) rfl
theorem q3270 : (Jvm.Cond.code ({ cls := "CreditBrokerModel", name := "back", desc := "()I" } : Jvm.MethodName) prog_24_method_93_code (1 : Nat) (Option.some Jvm.ClassFile.FieldType.int)) ∈ lw_all := lw_g (lw_at lw_m14 54 rfl) rfl
theorem q3272 : (Jvm.Cond.instanceMethod ({ cls := "CreditBrokerModel", name := "status", desc := "(I)I" } : Jvm.MethodName)) ∈ lw_all := lw_g (lw_at lw_m14 56 rfl) rfl
theorem q3273 : (Jvm.Cond.selects "CreditBrokerModel" ({ cls := "CreditBrokerModel", name := "status", desc := "(I)I" } : Jvm.MethodName) ({ cls := "CreditBrokerModel", name := "status", desc := "(I)I" } : Jvm.MethodName)) ∈ lw_all := lw_g (lw_at lw_m14 57 rfl) rfl
theorem q3274 : (Jvm.Cond.code ({ cls := "CreditBrokerModel", name := "status", desc := "(I)I" } : Jvm.MethodName) prog_24_method_96_code (2 : Nat) (Option.some Jvm.ClassFile.FieldType.int)) ∈ lw_all := lw_g (lw_at lw_m14 58 rfl) rfl
theorem q3275 : (Jvm.Cond.methodLink "CreditBrokerModel" (260 : Nat) ({ cls := "CreditBrokerModel", name := "sum", desc := "(Z)I" } : Jvm.MethodName)) ∈ lw_all := lw_g (lw_at lw_m14 59 rfl) rfl
theorem q3276 : (Jvm.Cond.privateMethod ({ cls := "CreditBrokerModel", name := "sum", desc := "(Z)I" } : Jvm.MethodName)) ∈ lw_tbl := lw_at lw_m14 60 rfl
theorem q3277 : (Jvm.Cond.instanceMethod ({ cls := "CreditBrokerModel", name := "sum", desc := "(Z)I" } : Jvm.MethodName)) ∈ lw_all := lw_g (lw_at lw_m14 61 rfl) rfl
theorem q3278 : (Jvm.Cond.code ({ cls := "CreditBrokerModel", name := "sum", desc := "(Z)I" } : Jvm.MethodName) prog_24_method_94_code (4 : Nat) (Option.some Jvm.ClassFile.FieldType.int)) ∈ lw_all := lw_g (lw_at lw_m14 62 rfl) rfl
theorem q3279 : (Jvm.Cond.methodLink "CreditBrokerModel" (264 : Nat) ({ cls := "CreditBrokerModel", name := "heldShelves", desc := "()I" } : Jvm.MethodName)) ∈ lw_all := lw_g (lw_at lw_m14 63 rfl) rfl
theorem q3280 : (Jvm.Cond.privateMethod ({ cls := "CreditBrokerModel", name := "heldShelves", desc := "()I" } : Jvm.MethodName)) ∈ lw_tbl := lw_at lw_m14 64 rfl
theorem q3281 : (Jvm.Cond.instanceMethod ({ cls := "CreditBrokerModel", name := "heldShelves", desc := "()I" } : Jvm.MethodName)) ∈ lw_all := lw_g (lw_at lw_m14 65 rfl) rfl
theorem q3282 : (Jvm.Cond.code ({ cls := "CreditBrokerModel", name := "heldShelves", desc := "()I" } : Jvm.MethodName) prog_24_method_95_code (3 : Nat) (Option.some Jvm.ClassFile.FieldType.int)) ∈ lw_all := lw_g (lw_at lw_m14 66 rfl) rfl
theorem q3283 : (Jvm.Cond.constantLong "CreditBrokerModel" (267 : Nat) (12 : Int64)) ∈ lw_all := lw_g (lw_at lw_m14 67 rfl) rfl
theorem q3284 : (Jvm.Cond.constantLong "CreditBrokerModel" (269 : Nat) (16 : Int64)) ∈ lw_all := lw_g (lw_at lw_m14 68 rfl) rfl
theorem q3316 : (Jvm.Cond.castable "CreditBrokerModel" "java/lang/Object") ∈ lw_tbl := lw_at lw_m14 100 rfl
theorem in_X3 : ∀ w ∈ wsX30, w ∈ lw_all := lw_in wsX30 [2856, 2858, 2860, 2862, 2864, 2866, 2868, 2870, 2872, 2874, 2876, 2878, 2880, 2882, 2884, 2886, 2888] (by decide +kernel) (by decide +kernel)
