/-! DECODE ROWS BY BYTES: one lemma an opcode; a method's code is cut into short pieces once, and a row reads its own piece alone. -/
set_option maxRecDepth 100000
/-- the code has just these bytes from pc on -/
def DkAt (code : ByteArray) (pc : Nat) (bs : List UInt8) : Prop := ∀ (j : Nat) (b : UInt8), bs[j]? = some b → code.data.toList[pc + j]? = some b
/-- the piece W has the bytes bs from its place j on -/
def dkIn (W : List UInt8) (j : Nat) (bs : List UInt8) : Bool := decide ((W.drop j).take bs.length = bs)
theorem dk_seg {l W T : List UInt8} {o o2 : Nat} (h : l.drop o = W ++ T) (n : Nat) (hn : W.length = n) (ho : o + n = o2) : l.drop o2 = T := by
  subst ho
  rw [← List.drop_drop, h, List.drop_left' hn]
theorem dk_at {code : ByteArray} {W T bs : List UInt8} {o pc : Nat} (h : code.data.toList.drop o = W ++ T) (j : Nat) (hp : o + j = pc) (hw : dkIn W j bs = true) : DkAt code pc bs := by
  subst hp
  intro i b e
  have h1 := of_decide_eq_true hw
  have h2 : i < bs.length := (List.getElem?_eq_some_iff.mp e).1
  have h3 : W[j + i]? = some b := by
    rw [← h1, List.getElem?_take, if_pos h2, List.getElem?_drop] at e
    exact e
  have h4 : j + i < W.length := (List.getElem?_eq_some_iff.mp h3).1
  have h5 : (code.data.toList.drop o)[j + i]? = some b := by
    rw [h, List.getElem?_append_left h4]
    exact h3
  rw [List.getElem?_drop, ← Nat.add_assoc] at h5
  exact h5
theorem dk_u1 {A : ByteArray} {p : Nat} {b : UInt8} (h : A.data.toList[p]? = some b) : (Reader.u1 : Reader DecodeError Nat) A p = .ok (b.toNat, p + 1) := by
  obtain ⟨h1, h2⟩ := List.getElem?_eq_some_iff.mp h
  have h3 : p < A.size := by simpa using h1
  have h4 : A[p]'h3 = b := h2
  have e : (Reader.u1 : Reader DecodeError Nat) A p = (if h : p < A.size then .ok (A[p].toNat, p + 1) else .error (HasTruncated.truncated p)) := by
    show (do if h : p < A.size then do set (p + 1); Pure.pure A[p].toNat else MonadExcept.throw (HasTruncated.truncated p) : Reader DecodeError Nat) A p = _
    by_cases hi : p < A.size
    · rw [dif_pos hi, dif_pos hi]; rfl
    · rw [dif_neg hi, dif_neg hi]; rfl
  rw [e, dif_pos h3, h4]
theorem dk_bind {α β : Type} {r : Reader DecodeError α} {f : α → Reader DecodeError β} {A : ByteArray} {p s : Nat} {a : α} (h : r A p = .ok (a, s)) : (r >>= f) A p = f a A s := by
  show (do let (a, s) ← r A p; f a A s : Except DecodeError (β × Nat)) = _
  rw [h]
  rfl
theorem dk_map {α β : Type} {r : Reader DecodeError α} {g : α → β} {A : ByteArray} {p s : Nat} {a : α} (h : r A p = .ok (a, s)) : (g <$> r) A p = .ok (g a, s) := by
  show (do let (a, s) ← r A p; .ok (g a, s) : Except DecodeError (β × Nat)) = _
  rw [h]
  rfl
theorem dk_u2 {A : ByteArray} {p : Nat} {a b : UInt8} (h : A.data.toList[p]? = some a) (h2 : A.data.toList[p + 1]? = some b) : (Reader.u2 : Reader DecodeError Nat) A p = .ok (a.toNat * 256 + b.toNat, p + 2) := by
  show (Reader.u1 >>= fun hi => Reader.u1 >>= fun lo => Pure.pure (hi * 256 + lo) : Reader DecodeError Nat) A p = _
  rw [dk_bind (dk_u1 h), dk_bind (dk_u1 h2)]
  rfl
theorem dk_of {code : ByteArray} {pc n : Nat} {i : Instr} (h : Decoder.instr pc code pc = .ok (i, pc + n)) : decode code pc = .ok (i, n) := by
  have e : decode code pc = (match Decoder.instr pc code pc with | .error x => .error x | .ok (j, s) => .ok (j, s - pc)) := by
    show (do let (j, s) ← Decoder.instr pc code pc; Pure.pure (j, s - pc) : Except DecodeError (Instr × Nat)) = _
    cases Decoder.instr pc code pc <;> rfl
  rw [e, h]
  show Except.ok (i, pc + n - pc) = _
  rw [Nat.add_sub_cancel_left]
theorem dk_1 {code : ByteArray} {pc : Nat} (h : DkAt code pc [1]) : decode code pc = .ok (.aconst_null, 1) := dk_of ((dk_bind (dk_u1 (h 0 _ rfl))).trans rfl)
theorem dk_2 {code : ByteArray} {pc : Nat} (h : DkAt code pc [2]) : decode code pc = .ok (.iconst (-1), 1) := dk_of ((dk_bind (dk_u1 (h 0 _ rfl))).trans rfl)
theorem dk_3 {code : ByteArray} {pc : Nat} (h : DkAt code pc [3]) : decode code pc = .ok (.iconst 0, 1) := dk_of ((dk_bind (dk_u1 (h 0 _ rfl))).trans rfl)
theorem dk_4 {code : ByteArray} {pc : Nat} (h : DkAt code pc [4]) : decode code pc = .ok (.iconst 1, 1) := dk_of ((dk_bind (dk_u1 (h 0 _ rfl))).trans rfl)
theorem dk_5 {code : ByteArray} {pc : Nat} (h : DkAt code pc [5]) : decode code pc = .ok (.iconst 2, 1) := dk_of ((dk_bind (dk_u1 (h 0 _ rfl))).trans rfl)
theorem dk_6 {code : ByteArray} {pc : Nat} (h : DkAt code pc [6]) : decode code pc = .ok (.iconst 3, 1) := dk_of ((dk_bind (dk_u1 (h 0 _ rfl))).trans rfl)
theorem dk_7 {code : ByteArray} {pc : Nat} (h : DkAt code pc [7]) : decode code pc = .ok (.iconst 4, 1) := dk_of ((dk_bind (dk_u1 (h 0 _ rfl))).trans rfl)
theorem dk_8 {code : ByteArray} {pc : Nat} (h : DkAt code pc [8]) : decode code pc = .ok (.iconst 5, 1) := dk_of ((dk_bind (dk_u1 (h 0 _ rfl))).trans rfl)
theorem dk_9 {code : ByteArray} {pc : Nat} (h : DkAt code pc [9]) : decode code pc = .ok (.lconst 0, 1) := dk_of ((dk_bind (dk_u1 (h 0 _ rfl))).trans rfl)
theorem dk_10 {code : ByteArray} {pc : Nat} (h : DkAt code pc [10]) : decode code pc = .ok (.lconst 1, 1) := dk_of ((dk_bind (dk_u1 (h 0 _ rfl))).trans rfl)
theorem dk_14 {code : ByteArray} {pc : Nat} (h : DkAt code pc [14]) : decode code pc = .ok (.dconst 0, 1) := dk_of ((dk_bind (dk_u1 (h 0 _ rfl))).trans rfl)
theorem dk_16 {code : ByteArray} {pc : Nat} (a : UInt8) (h : DkAt code pc [16, a]) : decode code pc = .ok (.bipush (Reader.signed 8 a.toNat), 2) := dk_of ((dk_bind (dk_u1 (h 0 _ rfl))).trans ((dk_bind (dk_map (dk_u1 (h 1 _ rfl)))).trans rfl))
theorem dk_17 {code : ByteArray} {pc : Nat} (a b : UInt8) (h : DkAt code pc [17, a, b]) : decode code pc = .ok (.sipush (Reader.signed 16 (a.toNat * 256 + b.toNat)), 3) := dk_of ((dk_bind (dk_u1 (h 0 _ rfl))).trans ((dk_bind (dk_map (dk_u2 (h 1 _ rfl) (h 2 _ rfl)))).trans rfl))
theorem dk_18 {code : ByteArray} {pc : Nat} (a : UInt8) (h : DkAt code pc [18, a]) : decode code pc = .ok (.ldc a.toNat, 2) := dk_of ((dk_bind (dk_u1 (h 0 _ rfl))).trans ((dk_bind (dk_u1 (h 1 _ rfl))).trans rfl))
theorem dk_19 {code : ByteArray} {pc : Nat} (a b : UInt8) (h : DkAt code pc [19, a, b]) : decode code pc = .ok (.ldc_w (a.toNat * 256 + b.toNat), 3) := dk_of ((dk_bind (dk_u1 (h 0 _ rfl))).trans ((dk_bind (dk_u2 (h 1 _ rfl) (h 2 _ rfl))).trans rfl))
theorem dk_20 {code : ByteArray} {pc : Nat} (a b : UInt8) (h : DkAt code pc [20, a, b]) : decode code pc = .ok (.ldc2_w (a.toNat * 256 + b.toNat), 3) := dk_of ((dk_bind (dk_u1 (h 0 _ rfl))).trans ((dk_bind (dk_u2 (h 1 _ rfl) (h 2 _ rfl))).trans rfl))
theorem dk_21 {code : ByteArray} {pc : Nat} (a : UInt8) (h : DkAt code pc [21, a]) : decode code pc = .ok (.iload a.toNat, 2) := dk_of ((dk_bind (dk_u1 (h 0 _ rfl))).trans ((dk_bind (dk_u1 (h 1 _ rfl))).trans rfl))
theorem dk_22 {code : ByteArray} {pc : Nat} (a : UInt8) (h : DkAt code pc [22, a]) : decode code pc = .ok (.lload a.toNat, 2) := dk_of ((dk_bind (dk_u1 (h 0 _ rfl))).trans ((dk_bind (dk_u1 (h 1 _ rfl))).trans rfl))
theorem dk_24 {code : ByteArray} {pc : Nat} (a : UInt8) (h : DkAt code pc [24, a]) : decode code pc = .ok (.dload a.toNat, 2) := dk_of ((dk_bind (dk_u1 (h 0 _ rfl))).trans ((dk_bind (dk_u1 (h 1 _ rfl))).trans rfl))
theorem dk_25 {code : ByteArray} {pc : Nat} (a : UInt8) (h : DkAt code pc [25, a]) : decode code pc = .ok (.aload a.toNat, 2) := dk_of ((dk_bind (dk_u1 (h 0 _ rfl))).trans ((dk_bind (dk_u1 (h 1 _ rfl))).trans rfl))
theorem dk_26 {code : ByteArray} {pc : Nat} (h : DkAt code pc [26]) : decode code pc = .ok (.iload_n 0, 1) := dk_of ((dk_bind (dk_u1 (h 0 _ rfl))).trans rfl)
theorem dk_27 {code : ByteArray} {pc : Nat} (h : DkAt code pc [27]) : decode code pc = .ok (.iload_n 1, 1) := dk_of ((dk_bind (dk_u1 (h 0 _ rfl))).trans rfl)
theorem dk_28 {code : ByteArray} {pc : Nat} (h : DkAt code pc [28]) : decode code pc = .ok (.iload_n 2, 1) := dk_of ((dk_bind (dk_u1 (h 0 _ rfl))).trans rfl)
theorem dk_29 {code : ByteArray} {pc : Nat} (h : DkAt code pc [29]) : decode code pc = .ok (.iload_n 3, 1) := dk_of ((dk_bind (dk_u1 (h 0 _ rfl))).trans rfl)
theorem dk_30 {code : ByteArray} {pc : Nat} (h : DkAt code pc [30]) : decode code pc = .ok (.lload_n 0, 1) := dk_of ((dk_bind (dk_u1 (h 0 _ rfl))).trans rfl)
theorem dk_31 {code : ByteArray} {pc : Nat} (h : DkAt code pc [31]) : decode code pc = .ok (.lload_n 1, 1) := dk_of ((dk_bind (dk_u1 (h 0 _ rfl))).trans rfl)
theorem dk_32 {code : ByteArray} {pc : Nat} (h : DkAt code pc [32]) : decode code pc = .ok (.lload_n 2, 1) := dk_of ((dk_bind (dk_u1 (h 0 _ rfl))).trans rfl)
theorem dk_33 {code : ByteArray} {pc : Nat} (h : DkAt code pc [33]) : decode code pc = .ok (.lload_n 3, 1) := dk_of ((dk_bind (dk_u1 (h 0 _ rfl))).trans rfl)
theorem dk_42 {code : ByteArray} {pc : Nat} (h : DkAt code pc [42]) : decode code pc = .ok (.aload_n 0, 1) := dk_of ((dk_bind (dk_u1 (h 0 _ rfl))).trans rfl)
theorem dk_43 {code : ByteArray} {pc : Nat} (h : DkAt code pc [43]) : decode code pc = .ok (.aload_n 1, 1) := dk_of ((dk_bind (dk_u1 (h 0 _ rfl))).trans rfl)
theorem dk_44 {code : ByteArray} {pc : Nat} (h : DkAt code pc [44]) : decode code pc = .ok (.aload_n 2, 1) := dk_of ((dk_bind (dk_u1 (h 0 _ rfl))).trans rfl)
theorem dk_45 {code : ByteArray} {pc : Nat} (h : DkAt code pc [45]) : decode code pc = .ok (.aload_n 3, 1) := dk_of ((dk_bind (dk_u1 (h 0 _ rfl))).trans rfl)
theorem dk_46 {code : ByteArray} {pc : Nat} (h : DkAt code pc [46]) : decode code pc = .ok (.iaload, 1) := dk_of ((dk_bind (dk_u1 (h 0 _ rfl))).trans rfl)
theorem dk_47 {code : ByteArray} {pc : Nat} (h : DkAt code pc [47]) : decode code pc = .ok (.laload, 1) := dk_of ((dk_bind (dk_u1 (h 0 _ rfl))).trans rfl)
theorem dk_50 {code : ByteArray} {pc : Nat} (h : DkAt code pc [50]) : decode code pc = .ok (.aaload, 1) := dk_of ((dk_bind (dk_u1 (h 0 _ rfl))).trans rfl)
theorem dk_51 {code : ByteArray} {pc : Nat} (h : DkAt code pc [51]) : decode code pc = .ok (.baload, 1) := dk_of ((dk_bind (dk_u1 (h 0 _ rfl))).trans rfl)
theorem dk_54 {code : ByteArray} {pc : Nat} (a : UInt8) (h : DkAt code pc [54, a]) : decode code pc = .ok (.istore a.toNat, 2) := dk_of ((dk_bind (dk_u1 (h 0 _ rfl))).trans ((dk_bind (dk_u1 (h 1 _ rfl))).trans rfl))
theorem dk_55 {code : ByteArray} {pc : Nat} (a : UInt8) (h : DkAt code pc [55, a]) : decode code pc = .ok (.lstore a.toNat, 2) := dk_of ((dk_bind (dk_u1 (h 0 _ rfl))).trans ((dk_bind (dk_u1 (h 1 _ rfl))).trans rfl))
theorem dk_57 {code : ByteArray} {pc : Nat} (a : UInt8) (h : DkAt code pc [57, a]) : decode code pc = .ok (.dstore a.toNat, 2) := dk_of ((dk_bind (dk_u1 (h 0 _ rfl))).trans ((dk_bind (dk_u1 (h 1 _ rfl))).trans rfl))
theorem dk_58 {code : ByteArray} {pc : Nat} (a : UInt8) (h : DkAt code pc [58, a]) : decode code pc = .ok (.astore a.toNat, 2) := dk_of ((dk_bind (dk_u1 (h 0 _ rfl))).trans ((dk_bind (dk_u1 (h 1 _ rfl))).trans rfl))
theorem dk_59 {code : ByteArray} {pc : Nat} (h : DkAt code pc [59]) : decode code pc = .ok (.istore_n 0, 1) := dk_of ((dk_bind (dk_u1 (h 0 _ rfl))).trans rfl)
theorem dk_60 {code : ByteArray} {pc : Nat} (h : DkAt code pc [60]) : decode code pc = .ok (.istore_n 1, 1) := dk_of ((dk_bind (dk_u1 (h 0 _ rfl))).trans rfl)
theorem dk_61 {code : ByteArray} {pc : Nat} (h : DkAt code pc [61]) : decode code pc = .ok (.istore_n 2, 1) := dk_of ((dk_bind (dk_u1 (h 0 _ rfl))).trans rfl)
theorem dk_62 {code : ByteArray} {pc : Nat} (h : DkAt code pc [62]) : decode code pc = .ok (.istore_n 3, 1) := dk_of ((dk_bind (dk_u1 (h 0 _ rfl))).trans rfl)
theorem dk_64 {code : ByteArray} {pc : Nat} (h : DkAt code pc [64]) : decode code pc = .ok (.lstore_n 1, 1) := dk_of ((dk_bind (dk_u1 (h 0 _ rfl))).trans rfl)
theorem dk_65 {code : ByteArray} {pc : Nat} (h : DkAt code pc [65]) : decode code pc = .ok (.lstore_n 2, 1) := dk_of ((dk_bind (dk_u1 (h 0 _ rfl))).trans rfl)
theorem dk_66 {code : ByteArray} {pc : Nat} (h : DkAt code pc [66]) : decode code pc = .ok (.lstore_n 3, 1) := dk_of ((dk_bind (dk_u1 (h 0 _ rfl))).trans rfl)
theorem dk_75 {code : ByteArray} {pc : Nat} (h : DkAt code pc [75]) : decode code pc = .ok (.astore_n 0, 1) := dk_of ((dk_bind (dk_u1 (h 0 _ rfl))).trans rfl)
theorem dk_76 {code : ByteArray} {pc : Nat} (h : DkAt code pc [76]) : decode code pc = .ok (.astore_n 1, 1) := dk_of ((dk_bind (dk_u1 (h 0 _ rfl))).trans rfl)
theorem dk_77 {code : ByteArray} {pc : Nat} (h : DkAt code pc [77]) : decode code pc = .ok (.astore_n 2, 1) := dk_of ((dk_bind (dk_u1 (h 0 _ rfl))).trans rfl)
theorem dk_78 {code : ByteArray} {pc : Nat} (h : DkAt code pc [78]) : decode code pc = .ok (.astore_n 3, 1) := dk_of ((dk_bind (dk_u1 (h 0 _ rfl))).trans rfl)
theorem dk_79 {code : ByteArray} {pc : Nat} (h : DkAt code pc [79]) : decode code pc = .ok (.iastore, 1) := dk_of ((dk_bind (dk_u1 (h 0 _ rfl))).trans rfl)
theorem dk_80 {code : ByteArray} {pc : Nat} (h : DkAt code pc [80]) : decode code pc = .ok (.lastore, 1) := dk_of ((dk_bind (dk_u1 (h 0 _ rfl))).trans rfl)
theorem dk_83 {code : ByteArray} {pc : Nat} (h : DkAt code pc [83]) : decode code pc = .ok (.aastore, 1) := dk_of ((dk_bind (dk_u1 (h 0 _ rfl))).trans rfl)
theorem dk_84 {code : ByteArray} {pc : Nat} (h : DkAt code pc [84]) : decode code pc = .ok (.bastore, 1) := dk_of ((dk_bind (dk_u1 (h 0 _ rfl))).trans rfl)
theorem dk_87 {code : ByteArray} {pc : Nat} (h : DkAt code pc [87]) : decode code pc = .ok (.pop, 1) := dk_of ((dk_bind (dk_u1 (h 0 _ rfl))).trans rfl)
theorem dk_89 {code : ByteArray} {pc : Nat} (h : DkAt code pc [89]) : decode code pc = .ok (.dup, 1) := dk_of ((dk_bind (dk_u1 (h 0 _ rfl))).trans rfl)
theorem dk_90 {code : ByteArray} {pc : Nat} (h : DkAt code pc [90]) : decode code pc = .ok (.dup_x1, 1) := dk_of ((dk_bind (dk_u1 (h 0 _ rfl))).trans rfl)
theorem dk_92 {code : ByteArray} {pc : Nat} (h : DkAt code pc [92]) : decode code pc = .ok (.dup2, 1) := dk_of ((dk_bind (dk_u1 (h 0 _ rfl))).trans rfl)
theorem dk_96 {code : ByteArray} {pc : Nat} (h : DkAt code pc [96]) : decode code pc = .ok (.iadd, 1) := dk_of ((dk_bind (dk_u1 (h 0 _ rfl))).trans rfl)
theorem dk_97 {code : ByteArray} {pc : Nat} (h : DkAt code pc [97]) : decode code pc = .ok (.ladd, 1) := dk_of ((dk_bind (dk_u1 (h 0 _ rfl))).trans rfl)
theorem dk_100 {code : ByteArray} {pc : Nat} (h : DkAt code pc [100]) : decode code pc = .ok (.isub, 1) := dk_of ((dk_bind (dk_u1 (h 0 _ rfl))).trans rfl)
theorem dk_104 {code : ByteArray} {pc : Nat} (h : DkAt code pc [104]) : decode code pc = .ok (.imul, 1) := dk_of ((dk_bind (dk_u1 (h 0 _ rfl))).trans rfl)
theorem dk_105 {code : ByteArray} {pc : Nat} (h : DkAt code pc [105]) : decode code pc = .ok (.lmul, 1) := dk_of ((dk_bind (dk_u1 (h 0 _ rfl))).trans rfl)
theorem dk_108 {code : ByteArray} {pc : Nat} (h : DkAt code pc [108]) : decode code pc = .ok (.idiv, 1) := dk_of ((dk_bind (dk_u1 (h 0 _ rfl))).trans rfl)
theorem dk_111 {code : ByteArray} {pc : Nat} (h : DkAt code pc [111]) : decode code pc = .ok (.ddiv, 1) := dk_of ((dk_bind (dk_u1 (h 0 _ rfl))).trans rfl)
theorem dk_116 {code : ByteArray} {pc : Nat} (h : DkAt code pc [116]) : decode code pc = .ok (.ineg, 1) := dk_of ((dk_bind (dk_u1 (h 0 _ rfl))).trans rfl)
theorem dk_120 {code : ByteArray} {pc : Nat} (h : DkAt code pc [120]) : decode code pc = .ok (.ishl, 1) := dk_of ((dk_bind (dk_u1 (h 0 _ rfl))).trans rfl)
theorem dk_121 {code : ByteArray} {pc : Nat} (h : DkAt code pc [121]) : decode code pc = .ok (.lshl, 1) := dk_of ((dk_bind (dk_u1 (h 0 _ rfl))).trans rfl)
theorem dk_122 {code : ByteArray} {pc : Nat} (h : DkAt code pc [122]) : decode code pc = .ok (.ishr, 1) := dk_of ((dk_bind (dk_u1 (h 0 _ rfl))).trans rfl)
theorem dk_124 {code : ByteArray} {pc : Nat} (h : DkAt code pc [124]) : decode code pc = .ok (.iushr, 1) := dk_of ((dk_bind (dk_u1 (h 0 _ rfl))).trans rfl)
theorem dk_125 {code : ByteArray} {pc : Nat} (h : DkAt code pc [125]) : decode code pc = .ok (.lushr, 1) := dk_of ((dk_bind (dk_u1 (h 0 _ rfl))).trans rfl)
theorem dk_126 {code : ByteArray} {pc : Nat} (h : DkAt code pc [126]) : decode code pc = .ok (.iand, 1) := dk_of ((dk_bind (dk_u1 (h 0 _ rfl))).trans rfl)
theorem dk_127 {code : ByteArray} {pc : Nat} (h : DkAt code pc [127]) : decode code pc = .ok (.land, 1) := dk_of ((dk_bind (dk_u1 (h 0 _ rfl))).trans rfl)
theorem dk_128 {code : ByteArray} {pc : Nat} (h : DkAt code pc [128]) : decode code pc = .ok (.ior, 1) := dk_of ((dk_bind (dk_u1 (h 0 _ rfl))).trans rfl)
theorem dk_129 {code : ByteArray} {pc : Nat} (h : DkAt code pc [129]) : decode code pc = .ok (.lor, 1) := dk_of ((dk_bind (dk_u1 (h 0 _ rfl))).trans rfl)
theorem dk_130 {code : ByteArray} {pc : Nat} (h : DkAt code pc [130]) : decode code pc = .ok (.ixor, 1) := dk_of ((dk_bind (dk_u1 (h 0 _ rfl))).trans rfl)
theorem dk_131 {code : ByteArray} {pc : Nat} (h : DkAt code pc [131]) : decode code pc = .ok (.lxor, 1) := dk_of ((dk_bind (dk_u1 (h 0 _ rfl))).trans rfl)
theorem dk_132 {code : ByteArray} {pc : Nat} (a b : UInt8) (h : DkAt code pc [132, a, b]) : decode code pc = .ok (.iinc a.toNat (Reader.signed 8 b.toNat), 3) := dk_of ((dk_bind (dk_u1 (h 0 _ rfl))).trans ((dk_bind (dk_u1 (h 1 _ rfl))).trans ((dk_bind (dk_map (dk_u1 (h 2 _ rfl)))).trans rfl)))
theorem dk_133 {code : ByteArray} {pc : Nat} (h : DkAt code pc [133]) : decode code pc = .ok (.i2l, 1) := dk_of ((dk_bind (dk_u1 (h 0 _ rfl))).trans rfl)
theorem dk_135 {code : ByteArray} {pc : Nat} (h : DkAt code pc [135]) : decode code pc = .ok (.i2d, 1) := dk_of ((dk_bind (dk_u1 (h 0 _ rfl))).trans rfl)
theorem dk_136 {code : ByteArray} {pc : Nat} (h : DkAt code pc [136]) : decode code pc = .ok (.l2i, 1) := dk_of ((dk_bind (dk_u1 (h 0 _ rfl))).trans rfl)
theorem dk_145 {code : ByteArray} {pc : Nat} (h : DkAt code pc [145]) : decode code pc = .ok (.i2b, 1) := dk_of ((dk_bind (dk_u1 (h 0 _ rfl))).trans rfl)
theorem dk_146 {code : ByteArray} {pc : Nat} (h : DkAt code pc [146]) : decode code pc = .ok (.i2c, 1) := dk_of ((dk_bind (dk_u1 (h 0 _ rfl))).trans rfl)
theorem dk_148 {code : ByteArray} {pc : Nat} (h : DkAt code pc [148]) : decode code pc = .ok (.lcmp, 1) := dk_of ((dk_bind (dk_u1 (h 0 _ rfl))).trans rfl)
theorem dk_151 {code : ByteArray} {pc : Nat} (h : DkAt code pc [151]) : decode code pc = .ok (.dcmp .l, 1) := dk_of ((dk_bind (dk_u1 (h 0 _ rfl))).trans rfl)
theorem dk_153 {code : ByteArray} {pc : Nat} (a b : UInt8) (h : DkAt code pc [153, a, b]) : decode code pc = .ok (.ifCond .eq (Reader.signed 16 (a.toNat * 256 + b.toNat)), 3) := dk_of ((dk_bind (dk_u1 (h 0 _ rfl))).trans ((dk_bind (dk_map (dk_u2 (h 1 _ rfl) (h 2 _ rfl)))).trans rfl))
theorem dk_154 {code : ByteArray} {pc : Nat} (a b : UInt8) (h : DkAt code pc [154, a, b]) : decode code pc = .ok (.ifCond .ne (Reader.signed 16 (a.toNat * 256 + b.toNat)), 3) := dk_of ((dk_bind (dk_u1 (h 0 _ rfl))).trans ((dk_bind (dk_map (dk_u2 (h 1 _ rfl) (h 2 _ rfl)))).trans rfl))
theorem dk_155 {code : ByteArray} {pc : Nat} (a b : UInt8) (h : DkAt code pc [155, a, b]) : decode code pc = .ok (.ifCond .lt (Reader.signed 16 (a.toNat * 256 + b.toNat)), 3) := dk_of ((dk_bind (dk_u1 (h 0 _ rfl))).trans ((dk_bind (dk_map (dk_u2 (h 1 _ rfl) (h 2 _ rfl)))).trans rfl))
theorem dk_156 {code : ByteArray} {pc : Nat} (a b : UInt8) (h : DkAt code pc [156, a, b]) : decode code pc = .ok (.ifCond .ge (Reader.signed 16 (a.toNat * 256 + b.toNat)), 3) := dk_of ((dk_bind (dk_u1 (h 0 _ rfl))).trans ((dk_bind (dk_map (dk_u2 (h 1 _ rfl) (h 2 _ rfl)))).trans rfl))
theorem dk_157 {code : ByteArray} {pc : Nat} (a b : UInt8) (h : DkAt code pc [157, a, b]) : decode code pc = .ok (.ifCond .gt (Reader.signed 16 (a.toNat * 256 + b.toNat)), 3) := dk_of ((dk_bind (dk_u1 (h 0 _ rfl))).trans ((dk_bind (dk_map (dk_u2 (h 1 _ rfl) (h 2 _ rfl)))).trans rfl))
theorem dk_158 {code : ByteArray} {pc : Nat} (a b : UInt8) (h : DkAt code pc [158, a, b]) : decode code pc = .ok (.ifCond .le (Reader.signed 16 (a.toNat * 256 + b.toNat)), 3) := dk_of ((dk_bind (dk_u1 (h 0 _ rfl))).trans ((dk_bind (dk_map (dk_u2 (h 1 _ rfl) (h 2 _ rfl)))).trans rfl))
theorem dk_159 {code : ByteArray} {pc : Nat} (a b : UInt8) (h : DkAt code pc [159, a, b]) : decode code pc = .ok (.if_icmp .eq (Reader.signed 16 (a.toNat * 256 + b.toNat)), 3) := dk_of ((dk_bind (dk_u1 (h 0 _ rfl))).trans ((dk_bind (dk_map (dk_u2 (h 1 _ rfl) (h 2 _ rfl)))).trans rfl))
theorem dk_160 {code : ByteArray} {pc : Nat} (a b : UInt8) (h : DkAt code pc [160, a, b]) : decode code pc = .ok (.if_icmp .ne (Reader.signed 16 (a.toNat * 256 + b.toNat)), 3) := dk_of ((dk_bind (dk_u1 (h 0 _ rfl))).trans ((dk_bind (dk_map (dk_u2 (h 1 _ rfl) (h 2 _ rfl)))).trans rfl))
theorem dk_161 {code : ByteArray} {pc : Nat} (a b : UInt8) (h : DkAt code pc [161, a, b]) : decode code pc = .ok (.if_icmp .lt (Reader.signed 16 (a.toNat * 256 + b.toNat)), 3) := dk_of ((dk_bind (dk_u1 (h 0 _ rfl))).trans ((dk_bind (dk_map (dk_u2 (h 1 _ rfl) (h 2 _ rfl)))).trans rfl))
theorem dk_162 {code : ByteArray} {pc : Nat} (a b : UInt8) (h : DkAt code pc [162, a, b]) : decode code pc = .ok (.if_icmp .ge (Reader.signed 16 (a.toNat * 256 + b.toNat)), 3) := dk_of ((dk_bind (dk_u1 (h 0 _ rfl))).trans ((dk_bind (dk_map (dk_u2 (h 1 _ rfl) (h 2 _ rfl)))).trans rfl))
theorem dk_163 {code : ByteArray} {pc : Nat} (a b : UInt8) (h : DkAt code pc [163, a, b]) : decode code pc = .ok (.if_icmp .gt (Reader.signed 16 (a.toNat * 256 + b.toNat)), 3) := dk_of ((dk_bind (dk_u1 (h 0 _ rfl))).trans ((dk_bind (dk_map (dk_u2 (h 1 _ rfl) (h 2 _ rfl)))).trans rfl))
theorem dk_164 {code : ByteArray} {pc : Nat} (a b : UInt8) (h : DkAt code pc [164, a, b]) : decode code pc = .ok (.if_icmp .le (Reader.signed 16 (a.toNat * 256 + b.toNat)), 3) := dk_of ((dk_bind (dk_u1 (h 0 _ rfl))).trans ((dk_bind (dk_map (dk_u2 (h 1 _ rfl) (h 2 _ rfl)))).trans rfl))
theorem dk_165 {code : ByteArray} {pc : Nat} (a b : UInt8) (h : DkAt code pc [165, a, b]) : decode code pc = .ok (.if_acmp .eq (Reader.signed 16 (a.toNat * 256 + b.toNat)), 3) := dk_of ((dk_bind (dk_u1 (h 0 _ rfl))).trans ((dk_bind (dk_map (dk_u2 (h 1 _ rfl) (h 2 _ rfl)))).trans rfl))
theorem dk_166 {code : ByteArray} {pc : Nat} (a b : UInt8) (h : DkAt code pc [166, a, b]) : decode code pc = .ok (.if_acmp .ne (Reader.signed 16 (a.toNat * 256 + b.toNat)), 3) := dk_of ((dk_bind (dk_u1 (h 0 _ rfl))).trans ((dk_bind (dk_map (dk_u2 (h 1 _ rfl) (h 2 _ rfl)))).trans rfl))
theorem dk_167 {code : ByteArray} {pc : Nat} (a b : UInt8) (h : DkAt code pc [167, a, b]) : decode code pc = .ok (.goto (Reader.signed 16 (a.toNat * 256 + b.toNat)), 3) := dk_of ((dk_bind (dk_u1 (h 0 _ rfl))).trans ((dk_bind (dk_map (dk_u2 (h 1 _ rfl) (h 2 _ rfl)))).trans rfl))
theorem dk_172 {code : ByteArray} {pc : Nat} (h : DkAt code pc [172]) : decode code pc = .ok (.ireturn, 1) := dk_of ((dk_bind (dk_u1 (h 0 _ rfl))).trans rfl)
theorem dk_173 {code : ByteArray} {pc : Nat} (h : DkAt code pc [173]) : decode code pc = .ok (.lreturn, 1) := dk_of ((dk_bind (dk_u1 (h 0 _ rfl))).trans rfl)
theorem dk_175 {code : ByteArray} {pc : Nat} (h : DkAt code pc [175]) : decode code pc = .ok (.dreturn, 1) := dk_of ((dk_bind (dk_u1 (h 0 _ rfl))).trans rfl)
theorem dk_176 {code : ByteArray} {pc : Nat} (h : DkAt code pc [176]) : decode code pc = .ok (.areturn, 1) := dk_of ((dk_bind (dk_u1 (h 0 _ rfl))).trans rfl)
theorem dk_177 {code : ByteArray} {pc : Nat} (h : DkAt code pc [177]) : decode code pc = .ok (.return_, 1) := dk_of ((dk_bind (dk_u1 (h 0 _ rfl))).trans rfl)
theorem dk_178 {code : ByteArray} {pc : Nat} (a b : UInt8) (h : DkAt code pc [178, a, b]) : decode code pc = .ok (.getstatic (a.toNat * 256 + b.toNat), 3) := dk_of ((dk_bind (dk_u1 (h 0 _ rfl))).trans ((dk_bind (dk_u2 (h 1 _ rfl) (h 2 _ rfl))).trans rfl))
theorem dk_180 {code : ByteArray} {pc : Nat} (a b : UInt8) (h : DkAt code pc [180, a, b]) : decode code pc = .ok (.getfield (a.toNat * 256 + b.toNat), 3) := dk_of ((dk_bind (dk_u1 (h 0 _ rfl))).trans ((dk_bind (dk_u2 (h 1 _ rfl) (h 2 _ rfl))).trans rfl))
theorem dk_181 {code : ByteArray} {pc : Nat} (a b : UInt8) (h : DkAt code pc [181, a, b]) : decode code pc = .ok (.putfield (a.toNat * 256 + b.toNat), 3) := dk_of ((dk_bind (dk_u1 (h 0 _ rfl))).trans ((dk_bind (dk_u2 (h 1 _ rfl) (h 2 _ rfl))).trans rfl))
theorem dk_182 {code : ByteArray} {pc : Nat} (a b : UInt8) (h : DkAt code pc [182, a, b]) : decode code pc = .ok (.invokevirtual (a.toNat * 256 + b.toNat), 3) := dk_of ((dk_bind (dk_u1 (h 0 _ rfl))).trans ((dk_bind (dk_u2 (h 1 _ rfl) (h 2 _ rfl))).trans rfl))
theorem dk_183 {code : ByteArray} {pc : Nat} (a b : UInt8) (h : DkAt code pc [183, a, b]) : decode code pc = .ok (.invokespecial (a.toNat * 256 + b.toNat), 3) := dk_of ((dk_bind (dk_u1 (h 0 _ rfl))).trans ((dk_bind (dk_u2 (h 1 _ rfl) (h 2 _ rfl))).trans rfl))
theorem dk_184 {code : ByteArray} {pc : Nat} (a b : UInt8) (h : DkAt code pc [184, a, b]) : decode code pc = .ok (.invokestatic (a.toNat * 256 + b.toNat), 3) := dk_of ((dk_bind (dk_u1 (h 0 _ rfl))).trans ((dk_bind (dk_u2 (h 1 _ rfl) (h 2 _ rfl))).trans rfl))
theorem dk_187 {code : ByteArray} {pc : Nat} (a b : UInt8) (h : DkAt code pc [187, a, b]) : decode code pc = .ok (.new (a.toNat * 256 + b.toNat), 3) := dk_of ((dk_bind (dk_u1 (h 0 _ rfl))).trans ((dk_bind (dk_u2 (h 1 _ rfl) (h 2 _ rfl))).trans rfl))
theorem dk_188_8 {code : ByteArray} {pc : Nat} (h : DkAt code pc [188, 8]) : decode code pc = .ok (.newarray .byte, 2) := dk_of ((dk_bind (dk_u1 (h 0 _ rfl))).trans ((dk_bind (dk_u1 (h 1 _ rfl))).trans rfl))
theorem dk_188_10 {code : ByteArray} {pc : Nat} (h : DkAt code pc [188, 10]) : decode code pc = .ok (.newarray .int, 2) := dk_of ((dk_bind (dk_u1 (h 0 _ rfl))).trans ((dk_bind (dk_u1 (h 1 _ rfl))).trans rfl))
theorem dk_188_11 {code : ByteArray} {pc : Nat} (h : DkAt code pc [188, 11]) : decode code pc = .ok (.newarray .long, 2) := dk_of ((dk_bind (dk_u1 (h 0 _ rfl))).trans ((dk_bind (dk_u1 (h 1 _ rfl))).trans rfl))
theorem dk_189 {code : ByteArray} {pc : Nat} (a b : UInt8) (h : DkAt code pc [189, a, b]) : decode code pc = .ok (.anewarray (a.toNat * 256 + b.toNat), 3) := dk_of ((dk_bind (dk_u1 (h 0 _ rfl))).trans ((dk_bind (dk_u2 (h 1 _ rfl) (h 2 _ rfl))).trans rfl))
theorem dk_190 {code : ByteArray} {pc : Nat} (h : DkAt code pc [190]) : decode code pc = .ok (.arraylength, 1) := dk_of ((dk_bind (dk_u1 (h 0 _ rfl))).trans rfl)
theorem dk_191 {code : ByteArray} {pc : Nat} (h : DkAt code pc [191]) : decode code pc = .ok (.athrow, 1) := dk_of ((dk_bind (dk_u1 (h 0 _ rfl))).trans rfl)
theorem dk_192 {code : ByteArray} {pc : Nat} (a b : UInt8) (h : DkAt code pc [192, a, b]) : decode code pc = .ok (.checkcast (a.toNat * 256 + b.toNat), 3) := dk_of ((dk_bind (dk_u1 (h 0 _ rfl))).trans ((dk_bind (dk_u2 (h 1 _ rfl) (h 2 _ rfl))).trans rfl))
theorem dk_193 {code : ByteArray} {pc : Nat} (a b : UInt8) (h : DkAt code pc [193, a, b]) : decode code pc = .ok (.instanceof (a.toNat * 256 + b.toNat), 3) := dk_of ((dk_bind (dk_u1 (h 0 _ rfl))).trans ((dk_bind (dk_u2 (h 1 _ rfl) (h 2 _ rfl))).trans rfl))
theorem dk_198 {code : ByteArray} {pc : Nat} (a b : UInt8) (h : DkAt code pc [198, a, b]) : decode code pc = .ok (.ifnull (Reader.signed 16 (a.toNat * 256 + b.toNat)), 3) := dk_of ((dk_bind (dk_u1 (h 0 _ rfl))).trans ((dk_bind (dk_map (dk_u2 (h 1 _ rfl) (h 2 _ rfl)))).trans rfl))
theorem dk_199 {code : ByteArray} {pc : Nat} (a b : UInt8) (h : DkAt code pc [199, a, b]) : decode code pc = .ok (.ifnonnull (Reader.signed 16 (a.toNat * 256 + b.toNat)), 3) := dk_of ((dk_bind (dk_u1 (h 0 _ rfl))).trans ((dk_bind (dk_map (dk_u2 (h 1 _ rfl) (h 2 _ rfl)))).trans rfl))
/-! decode rows (out of claim/names) -/
set_option maxRecDepth 100000
def dkwX0_setParent_0 : List UInt8 := [45, 3, 42, 27, 28, 182, 0, 7, 133, 80, 167, 0, 11, 58, 4, 4, 172, 58, 4, 5, 172, 3, 172]
abbrev dktX0_setParent_0 : List UInt8 := dkwX0_setParent_0 ++ []
theorem dksX0_setParent_0 : cX0_setParent.data.toList.drop 0 = dktX0_setParent_0 := by decide +kernel
theorem dX0_setParent_0 : decode cX0_setParent 0 = .ok (.aload_n 3, 1) := dk_45 (dk_at dksX0_setParent_0 0 rfl rfl)
theorem dX0_setParent_1 : decode cX0_setParent 1 = .ok (.iconst 0, 1) := dk_3 (dk_at dksX0_setParent_0 1 rfl rfl)
theorem dX0_setParent_2 : decode cX0_setParent 2 = .ok (.aload_n 0, 1) := dk_42 (dk_at dksX0_setParent_0 2 rfl rfl)
theorem dX0_setParent_3 : decode cX0_setParent 3 = .ok (.iload_n 1, 1) := dk_27 (dk_at dksX0_setParent_0 3 rfl rfl)
theorem dX0_setParent_4 : decode cX0_setParent 4 = .ok (.iload_n 2, 1) := dk_28 (dk_at dksX0_setParent_0 4 rfl rfl)
theorem dX0_setParent_5 : decode cX0_setParent 5 = .ok (.invokevirtual 7, 3) := dk_182 0 7 (dk_at dksX0_setParent_0 5 rfl rfl)
theorem dX0_setParent_8 : decode cX0_setParent 8 = .ok (.i2l, 1) := dk_133 (dk_at dksX0_setParent_0 8 rfl rfl)
theorem dX0_setParent_9 : decode cX0_setParent 9 = .ok (.lastore, 1) := dk_80 (dk_at dksX0_setParent_0 9 rfl rfl)
theorem dX0_setParent_10 : decode cX0_setParent 10 = .ok (.goto 11, 3) := dk_167 0 11 (dk_at dksX0_setParent_0 10 rfl rfl)
theorem dX0_setParent_13 : decode cX0_setParent 13 = .ok (.astore 4, 2) := dk_58 4 (dk_at dksX0_setParent_0 13 rfl rfl)
theorem dX0_setParent_15 : decode cX0_setParent 15 = .ok (.iconst 1, 1) := dk_4 (dk_at dksX0_setParent_0 15 rfl rfl)
theorem dX0_setParent_16 : decode cX0_setParent 16 = .ok (.ireturn, 1) := dk_172 (dk_at dksX0_setParent_0 16 rfl rfl)
theorem dX0_setParent_17 : decode cX0_setParent 17 = .ok (.astore 4, 2) := dk_58 4 (dk_at dksX0_setParent_0 17 rfl rfl)
theorem dX0_setParent_19 : decode cX0_setParent 19 = .ok (.iconst 2, 1) := dk_5 (dk_at dksX0_setParent_0 19 rfl rfl)
theorem dX0_setParent_20 : decode cX0_setParent 20 = .ok (.ireturn, 1) := dk_172 (dk_at dksX0_setParent_0 20 rfl rfl)
theorem dX0_setParent_21 : decode cX0_setParent 21 = .ok (.iconst 0, 1) := dk_3 (dk_at dksX0_setParent_0 21 rfl rfl)
theorem dX0_setParent_22 : decode cX0_setParent 22 = .ok (.ireturn, 1) := dk_172 (dk_at dksX0_setParent_0 22 rfl rfl)
def dkwX0_setAges_1 : List UInt8 := [172]
abbrev dktX0_setAges_1 : List UInt8 := dkwX0_setAges_1 ++ []
def dkwX0_setAges_0 : List UInt8 := [25, 4, 3, 42, 27, 28, 29, 182, 0, 17, 133, 80, 167, 0, 11, 58, 5, 4, 172, 58, 5, 5, 172, 3]
abbrev dktX0_setAges_0 : List UInt8 := dkwX0_setAges_0 ++ dktX0_setAges_1
theorem dksX0_setAges_0 : cX0_setAges.data.toList.drop 0 = dktX0_setAges_0 := by decide +kernel
theorem dksX0_setAges_1 : cX0_setAges.data.toList.drop 24 = dktX0_setAges_1 := dk_seg dksX0_setAges_0 24 rfl rfl
theorem dX0_setAges_0 : decode cX0_setAges 0 = .ok (.aload 4, 2) := dk_25 4 (dk_at dksX0_setAges_0 0 rfl rfl)
theorem dX0_setAges_2 : decode cX0_setAges 2 = .ok (.iconst 0, 1) := dk_3 (dk_at dksX0_setAges_0 2 rfl rfl)
theorem dX0_setAges_3 : decode cX0_setAges 3 = .ok (.aload_n 0, 1) := dk_42 (dk_at dksX0_setAges_0 3 rfl rfl)
theorem dX0_setAges_4 : decode cX0_setAges 4 = .ok (.iload_n 1, 1) := dk_27 (dk_at dksX0_setAges_0 4 rfl rfl)
theorem dX0_setAges_5 : decode cX0_setAges 5 = .ok (.iload_n 2, 1) := dk_28 (dk_at dksX0_setAges_0 5 rfl rfl)
theorem dX0_setAges_6 : decode cX0_setAges 6 = .ok (.iload_n 3, 1) := dk_29 (dk_at dksX0_setAges_0 6 rfl rfl)
theorem dX0_setAges_7 : decode cX0_setAges 7 = .ok (.invokevirtual 17, 3) := dk_182 0 17 (dk_at dksX0_setAges_0 7 rfl rfl)
theorem dX0_setAges_10 : decode cX0_setAges 10 = .ok (.i2l, 1) := dk_133 (dk_at dksX0_setAges_0 10 rfl rfl)
theorem dX0_setAges_11 : decode cX0_setAges 11 = .ok (.lastore, 1) := dk_80 (dk_at dksX0_setAges_0 11 rfl rfl)
theorem dX0_setAges_12 : decode cX0_setAges 12 = .ok (.goto 11, 3) := dk_167 0 11 (dk_at dksX0_setAges_0 12 rfl rfl)
theorem dX0_setAges_15 : decode cX0_setAges 15 = .ok (.astore 5, 2) := dk_58 5 (dk_at dksX0_setAges_0 15 rfl rfl)
theorem dX0_setAges_17 : decode cX0_setAges 17 = .ok (.iconst 1, 1) := dk_4 (dk_at dksX0_setAges_0 17 rfl rfl)
theorem dX0_setAges_18 : decode cX0_setAges 18 = .ok (.ireturn, 1) := dk_172 (dk_at dksX0_setAges_0 18 rfl rfl)
theorem dX0_setAges_19 : decode cX0_setAges 19 = .ok (.astore 5, 2) := dk_58 5 (dk_at dksX0_setAges_0 19 rfl rfl)
theorem dX0_setAges_21 : decode cX0_setAges 21 = .ok (.iconst 2, 1) := dk_5 (dk_at dksX0_setAges_0 21 rfl rfl)
theorem dX0_setAges_22 : decode cX0_setAges 22 = .ok (.ireturn, 1) := dk_172 (dk_at dksX0_setAges_0 22 rfl rfl)
theorem dX0_setAges_23 : decode cX0_setAges 23 = .ok (.iconst 0, 1) := dk_3 (dk_at dksX0_setAges_0 23 rfl rfl)
theorem dX0_setAges_24 : decode cX0_setAges 24 = .ok (.ireturn, 1) := dk_172 (dk_at dksX0_setAges_1 0 rfl rfl)
def dkwX0_setAnswer_1 : List UInt8 := [172]
abbrev dktX0_setAnswer_1 : List UInt8 := dkwX0_setAnswer_1 ++ []
def dkwX0_setAnswer_0 : List UInt8 := [25, 4, 3, 42, 27, 28, 29, 182, 0, 21, 133, 80, 167, 0, 11, 58, 5, 4, 172, 58, 5, 5, 172, 3]
abbrev dktX0_setAnswer_0 : List UInt8 := dkwX0_setAnswer_0 ++ dktX0_setAnswer_1
theorem dksX0_setAnswer_0 : cX0_setAnswer.data.toList.drop 0 = dktX0_setAnswer_0 := by decide +kernel
theorem dksX0_setAnswer_1 : cX0_setAnswer.data.toList.drop 24 = dktX0_setAnswer_1 := dk_seg dksX0_setAnswer_0 24 rfl rfl
theorem dX0_setAnswer_0 : decode cX0_setAnswer 0 = .ok (.aload 4, 2) := dk_25 4 (dk_at dksX0_setAnswer_0 0 rfl rfl)
theorem dX0_setAnswer_2 : decode cX0_setAnswer 2 = .ok (.iconst 0, 1) := dk_3 (dk_at dksX0_setAnswer_0 2 rfl rfl)
theorem dX0_setAnswer_3 : decode cX0_setAnswer 3 = .ok (.aload_n 0, 1) := dk_42 (dk_at dksX0_setAnswer_0 3 rfl rfl)
theorem dX0_setAnswer_4 : decode cX0_setAnswer 4 = .ok (.iload_n 1, 1) := dk_27 (dk_at dksX0_setAnswer_0 4 rfl rfl)
theorem dX0_setAnswer_5 : decode cX0_setAnswer 5 = .ok (.iload_n 2, 1) := dk_28 (dk_at dksX0_setAnswer_0 5 rfl rfl)
theorem dX0_setAnswer_6 : decode cX0_setAnswer 6 = .ok (.iload_n 3, 1) := dk_29 (dk_at dksX0_setAnswer_0 6 rfl rfl)
theorem dX0_setAnswer_7 : decode cX0_setAnswer 7 = .ok (.invokevirtual 21, 3) := dk_182 0 21 (dk_at dksX0_setAnswer_0 7 rfl rfl)
theorem dX0_setAnswer_10 : decode cX0_setAnswer 10 = .ok (.i2l, 1) := dk_133 (dk_at dksX0_setAnswer_0 10 rfl rfl)
theorem dX0_setAnswer_11 : decode cX0_setAnswer 11 = .ok (.lastore, 1) := dk_80 (dk_at dksX0_setAnswer_0 11 rfl rfl)
theorem dX0_setAnswer_12 : decode cX0_setAnswer 12 = .ok (.goto 11, 3) := dk_167 0 11 (dk_at dksX0_setAnswer_0 12 rfl rfl)
theorem dX0_setAnswer_15 : decode cX0_setAnswer 15 = .ok (.astore 5, 2) := dk_58 5 (dk_at dksX0_setAnswer_0 15 rfl rfl)
theorem dX0_setAnswer_17 : decode cX0_setAnswer 17 = .ok (.iconst 1, 1) := dk_4 (dk_at dksX0_setAnswer_0 17 rfl rfl)
theorem dX0_setAnswer_18 : decode cX0_setAnswer 18 = .ok (.ireturn, 1) := dk_172 (dk_at dksX0_setAnswer_0 18 rfl rfl)
theorem dX0_setAnswer_19 : decode cX0_setAnswer 19 = .ok (.astore 5, 2) := dk_58 5 (dk_at dksX0_setAnswer_0 19 rfl rfl)
theorem dX0_setAnswer_21 : decode cX0_setAnswer 21 = .ok (.iconst 2, 1) := dk_5 (dk_at dksX0_setAnswer_0 21 rfl rfl)
theorem dX0_setAnswer_22 : decode cX0_setAnswer 22 = .ok (.ireturn, 1) := dk_172 (dk_at dksX0_setAnswer_0 22 rfl rfl)
theorem dX0_setAnswer_23 : decode cX0_setAnswer 23 = .ok (.iconst 0, 1) := dk_3 (dk_at dksX0_setAnswer_0 23 rfl rfl)
theorem dX0_setAnswer_24 : decode cX0_setAnswer 24 = .ok (.ireturn, 1) := dk_172 (dk_at dksX0_setAnswer_1 0 rfl rfl)
def dkwX0_setReference_1 : List UInt8 := [172]
abbrev dktX0_setReference_1 : List UInt8 := dkwX0_setReference_1 ++ []
def dkwX0_setReference_0 : List UInt8 := [25, 4, 3, 42, 27, 28, 29, 182, 0, 24, 133, 80, 167, 0, 11, 58, 5, 4, 172, 58, 5, 5, 172, 3]
abbrev dktX0_setReference_0 : List UInt8 := dkwX0_setReference_0 ++ dktX0_setReference_1
theorem dksX0_setReference_0 : cX0_setReference.data.toList.drop 0 = dktX0_setReference_0 := by decide +kernel
theorem dksX0_setReference_1 : cX0_setReference.data.toList.drop 24 = dktX0_setReference_1 := dk_seg dksX0_setReference_0 24 rfl rfl
theorem dX0_setReference_0 : decode cX0_setReference 0 = .ok (.aload 4, 2) := dk_25 4 (dk_at dksX0_setReference_0 0 rfl rfl)
theorem dX0_setReference_2 : decode cX0_setReference 2 = .ok (.iconst 0, 1) := dk_3 (dk_at dksX0_setReference_0 2 rfl rfl)
theorem dX0_setReference_3 : decode cX0_setReference 3 = .ok (.aload_n 0, 1) := dk_42 (dk_at dksX0_setReference_0 3 rfl rfl)
theorem dX0_setReference_4 : decode cX0_setReference 4 = .ok (.iload_n 1, 1) := dk_27 (dk_at dksX0_setReference_0 4 rfl rfl)
theorem dX0_setReference_5 : decode cX0_setReference 5 = .ok (.iload_n 2, 1) := dk_28 (dk_at dksX0_setReference_0 5 rfl rfl)
theorem dX0_setReference_6 : decode cX0_setReference 6 = .ok (.iload_n 3, 1) := dk_29 (dk_at dksX0_setReference_0 6 rfl rfl)
theorem dX0_setReference_7 : decode cX0_setReference 7 = .ok (.invokevirtual 24, 3) := dk_182 0 24 (dk_at dksX0_setReference_0 7 rfl rfl)
theorem dX0_setReference_10 : decode cX0_setReference 10 = .ok (.i2l, 1) := dk_133 (dk_at dksX0_setReference_0 10 rfl rfl)
theorem dX0_setReference_11 : decode cX0_setReference 11 = .ok (.lastore, 1) := dk_80 (dk_at dksX0_setReference_0 11 rfl rfl)
theorem dX0_setReference_12 : decode cX0_setReference 12 = .ok (.goto 11, 3) := dk_167 0 11 (dk_at dksX0_setReference_0 12 rfl rfl)
theorem dX0_setReference_15 : decode cX0_setReference 15 = .ok (.astore 5, 2) := dk_58 5 (dk_at dksX0_setReference_0 15 rfl rfl)
theorem dX0_setReference_17 : decode cX0_setReference 17 = .ok (.iconst 1, 1) := dk_4 (dk_at dksX0_setReference_0 17 rfl rfl)
theorem dX0_setReference_18 : decode cX0_setReference 18 = .ok (.ireturn, 1) := dk_172 (dk_at dksX0_setReference_0 18 rfl rfl)
theorem dX0_setReference_19 : decode cX0_setReference 19 = .ok (.astore 5, 2) := dk_58 5 (dk_at dksX0_setReference_0 19 rfl rfl)
theorem dX0_setReference_21 : decode cX0_setReference 21 = .ok (.iconst 2, 1) := dk_5 (dk_at dksX0_setReference_0 21 rfl rfl)
theorem dX0_setReference_22 : decode cX0_setReference 22 = .ok (.ireturn, 1) := dk_172 (dk_at dksX0_setReference_0 22 rfl rfl)
theorem dX0_setReference_23 : decode cX0_setReference 23 = .ok (.iconst 0, 1) := dk_3 (dk_at dksX0_setReference_0 23 rfl rfl)
theorem dX0_setReference_24 : decode cX0_setReference 24 = .ok (.ireturn, 1) := dk_172 (dk_at dksX0_setReference_1 0 rfl rfl)
def dkwX0_takeAway_0 : List UInt8 := [44, 3, 42, 27, 182, 0, 27, 133, 80, 167, 0, 9, 78, 4, 172, 78, 5, 172, 3, 172]
abbrev dktX0_takeAway_0 : List UInt8 := dkwX0_takeAway_0 ++ []
theorem dksX0_takeAway_0 : cX0_takeAway.data.toList.drop 0 = dktX0_takeAway_0 := by decide +kernel
theorem dX0_takeAway_0 : decode cX0_takeAway 0 = .ok (.aload_n 2, 1) := dk_44 (dk_at dksX0_takeAway_0 0 rfl rfl)
theorem dX0_takeAway_1 : decode cX0_takeAway 1 = .ok (.iconst 0, 1) := dk_3 (dk_at dksX0_takeAway_0 1 rfl rfl)
theorem dX0_takeAway_2 : decode cX0_takeAway 2 = .ok (.aload_n 0, 1) := dk_42 (dk_at dksX0_takeAway_0 2 rfl rfl)
theorem dX0_takeAway_3 : decode cX0_takeAway 3 = .ok (.iload_n 1, 1) := dk_27 (dk_at dksX0_takeAway_0 3 rfl rfl)
theorem dX0_takeAway_4 : decode cX0_takeAway 4 = .ok (.invokevirtual 27, 3) := dk_182 0 27 (dk_at dksX0_takeAway_0 4 rfl rfl)
theorem dX0_takeAway_7 : decode cX0_takeAway 7 = .ok (.i2l, 1) := dk_133 (dk_at dksX0_takeAway_0 7 rfl rfl)
theorem dX0_takeAway_8 : decode cX0_takeAway 8 = .ok (.lastore, 1) := dk_80 (dk_at dksX0_takeAway_0 8 rfl rfl)
theorem dX0_takeAway_9 : decode cX0_takeAway 9 = .ok (.goto 9, 3) := dk_167 0 9 (dk_at dksX0_takeAway_0 9 rfl rfl)
theorem dX0_takeAway_12 : decode cX0_takeAway 12 = .ok (.astore_n 3, 1) := dk_78 (dk_at dksX0_takeAway_0 12 rfl rfl)
theorem dX0_takeAway_13 : decode cX0_takeAway 13 = .ok (.iconst 1, 1) := dk_4 (dk_at dksX0_takeAway_0 13 rfl rfl)
theorem dX0_takeAway_14 : decode cX0_takeAway 14 = .ok (.ireturn, 1) := dk_172 (dk_at dksX0_takeAway_0 14 rfl rfl)
theorem dX0_takeAway_15 : decode cX0_takeAway 15 = .ok (.astore_n 3, 1) := dk_78 (dk_at dksX0_takeAway_0 15 rfl rfl)
theorem dX0_takeAway_16 : decode cX0_takeAway 16 = .ok (.iconst 2, 1) := dk_5 (dk_at dksX0_takeAway_0 16 rfl rfl)
theorem dX0_takeAway_17 : decode cX0_takeAway 17 = .ok (.ireturn, 1) := dk_172 (dk_at dksX0_takeAway_0 17 rfl rfl)
theorem dX0_takeAway_18 : decode cX0_takeAway 18 = .ok (.iconst 0, 1) := dk_3 (dk_at dksX0_takeAway_0 18 rfl rfl)
theorem dX0_takeAway_19 : decode cX0_takeAway 19 = .ok (.ireturn, 1) := dk_172 (dk_at dksX0_takeAway_0 19 rfl rfl)
def dkwX0_solve_0 : List UInt8 := [44, 3, 42, 27, 182, 0, 33, 133, 80, 167, 0, 6, 78, 4, 172, 3, 172]
abbrev dktX0_solve_0 : List UInt8 := dkwX0_solve_0 ++ []
theorem dksX0_solve_0 : cX0_solve.data.toList.drop 0 = dktX0_solve_0 := by decide +kernel
theorem dX0_solve_0 : decode cX0_solve 0 = .ok (.aload_n 2, 1) := dk_44 (dk_at dksX0_solve_0 0 rfl rfl)
theorem dX0_solve_1 : decode cX0_solve 1 = .ok (.iconst 0, 1) := dk_3 (dk_at dksX0_solve_0 1 rfl rfl)
theorem dX0_solve_2 : decode cX0_solve 2 = .ok (.aload_n 0, 1) := dk_42 (dk_at dksX0_solve_0 2 rfl rfl)
theorem dX0_solve_3 : decode cX0_solve 3 = .ok (.iload_n 1, 1) := dk_27 (dk_at dksX0_solve_0 3 rfl rfl)
theorem dX0_solve_4 : decode cX0_solve 4 = .ok (.invokevirtual 33, 3) := dk_182 0 33 (dk_at dksX0_solve_0 4 rfl rfl)
theorem dX0_solve_7 : decode cX0_solve 7 = .ok (.i2l, 1) := dk_133 (dk_at dksX0_solve_0 7 rfl rfl)
theorem dX0_solve_8 : decode cX0_solve 8 = .ok (.lastore, 1) := dk_80 (dk_at dksX0_solve_0 8 rfl rfl)
theorem dX0_solve_9 : decode cX0_solve 9 = .ok (.goto 6, 3) := dk_167 0 6 (dk_at dksX0_solve_0 9 rfl rfl)
theorem dX0_solve_12 : decode cX0_solve 12 = .ok (.astore_n 3, 1) := dk_78 (dk_at dksX0_solve_0 12 rfl rfl)
theorem dX0_solve_13 : decode cX0_solve 13 = .ok (.iconst 1, 1) := dk_4 (dk_at dksX0_solve_0 13 rfl rfl)
theorem dX0_solve_14 : decode cX0_solve 14 = .ok (.ireturn, 1) := dk_172 (dk_at dksX0_solve_0 14 rfl rfl)
theorem dX0_solve_15 : decode cX0_solve 15 = .ok (.iconst 0, 1) := dk_3 (dk_at dksX0_solve_0 15 rfl rfl)
theorem dX0_solve_16 : decode cX0_solve 16 = .ok (.ireturn, 1) := dk_172 (dk_at dksX0_solve_0 16 rfl rfl)
def dkwX0_forget_0 : List UInt8 := [44, 3, 42, 27, 182, 0, 36, 133, 80, 167, 0, 9, 78, 4, 172, 78, 5, 172, 3, 172]
abbrev dktX0_forget_0 : List UInt8 := dkwX0_forget_0 ++ []
theorem dksX0_forget_0 : cX0_forget.data.toList.drop 0 = dktX0_forget_0 := by decide +kernel
theorem dX0_forget_0 : decode cX0_forget 0 = .ok (.aload_n 2, 1) := dk_44 (dk_at dksX0_forget_0 0 rfl rfl)
theorem dX0_forget_1 : decode cX0_forget 1 = .ok (.iconst 0, 1) := dk_3 (dk_at dksX0_forget_0 1 rfl rfl)
theorem dX0_forget_2 : decode cX0_forget 2 = .ok (.aload_n 0, 1) := dk_42 (dk_at dksX0_forget_0 2 rfl rfl)
theorem dX0_forget_3 : decode cX0_forget 3 = .ok (.iload_n 1, 1) := dk_27 (dk_at dksX0_forget_0 3 rfl rfl)
theorem dX0_forget_4 : decode cX0_forget 4 = .ok (.invokevirtual 36, 3) := dk_182 0 36 (dk_at dksX0_forget_0 4 rfl rfl)
theorem dX0_forget_7 : decode cX0_forget 7 = .ok (.i2l, 1) := dk_133 (dk_at dksX0_forget_0 7 rfl rfl)
theorem dX0_forget_8 : decode cX0_forget 8 = .ok (.lastore, 1) := dk_80 (dk_at dksX0_forget_0 8 rfl rfl)
theorem dX0_forget_9 : decode cX0_forget 9 = .ok (.goto 9, 3) := dk_167 0 9 (dk_at dksX0_forget_0 9 rfl rfl)
theorem dX0_forget_12 : decode cX0_forget 12 = .ok (.astore_n 3, 1) := dk_78 (dk_at dksX0_forget_0 12 rfl rfl)
theorem dX0_forget_13 : decode cX0_forget 13 = .ok (.iconst 1, 1) := dk_4 (dk_at dksX0_forget_0 13 rfl rfl)
theorem dX0_forget_14 : decode cX0_forget 14 = .ok (.ireturn, 1) := dk_172 (dk_at dksX0_forget_0 14 rfl rfl)
theorem dX0_forget_15 : decode cX0_forget 15 = .ok (.astore_n 3, 1) := dk_78 (dk_at dksX0_forget_0 15 rfl rfl)
theorem dX0_forget_16 : decode cX0_forget 16 = .ok (.iconst 2, 1) := dk_5 (dk_at dksX0_forget_0 16 rfl rfl)
theorem dX0_forget_17 : decode cX0_forget 17 = .ok (.ireturn, 1) := dk_172 (dk_at dksX0_forget_0 17 rfl rfl)
theorem dX0_forget_18 : decode cX0_forget 18 = .ok (.iconst 0, 1) := dk_3 (dk_at dksX0_forget_0 18 rfl rfl)
theorem dX0_forget_19 : decode cX0_forget 19 = .ok (.ireturn, 1) := dk_172 (dk_at dksX0_forget_0 19 rfl rfl)
def dkwX0_pass_0 : List UInt8 := [44, 3, 42, 27, 182, 0, 39, 133, 80, 167, 0, 9, 78, 4, 172, 78, 5, 172, 3, 172]
abbrev dktX0_pass_0 : List UInt8 := dkwX0_pass_0 ++ []
theorem dksX0_pass_0 : cX0_pass.data.toList.drop 0 = dktX0_pass_0 := by decide +kernel
theorem dX0_pass_0 : decode cX0_pass 0 = .ok (.aload_n 2, 1) := dk_44 (dk_at dksX0_pass_0 0 rfl rfl)
theorem dX0_pass_1 : decode cX0_pass 1 = .ok (.iconst 0, 1) := dk_3 (dk_at dksX0_pass_0 1 rfl rfl)
theorem dX0_pass_2 : decode cX0_pass 2 = .ok (.aload_n 0, 1) := dk_42 (dk_at dksX0_pass_0 2 rfl rfl)
theorem dX0_pass_3 : decode cX0_pass 3 = .ok (.iload_n 1, 1) := dk_27 (dk_at dksX0_pass_0 3 rfl rfl)
theorem dX0_pass_4 : decode cX0_pass 4 = .ok (.invokevirtual 39, 3) := dk_182 0 39 (dk_at dksX0_pass_0 4 rfl rfl)
theorem dX0_pass_7 : decode cX0_pass 7 = .ok (.i2l, 1) := dk_133 (dk_at dksX0_pass_0 7 rfl rfl)
theorem dX0_pass_8 : decode cX0_pass 8 = .ok (.lastore, 1) := dk_80 (dk_at dksX0_pass_0 8 rfl rfl)
theorem dX0_pass_9 : decode cX0_pass 9 = .ok (.goto 9, 3) := dk_167 0 9 (dk_at dksX0_pass_0 9 rfl rfl)
theorem dX0_pass_12 : decode cX0_pass 12 = .ok (.astore_n 3, 1) := dk_78 (dk_at dksX0_pass_0 12 rfl rfl)
theorem dX0_pass_13 : decode cX0_pass 13 = .ok (.iconst 1, 1) := dk_4 (dk_at dksX0_pass_0 13 rfl rfl)
theorem dX0_pass_14 : decode cX0_pass 14 = .ok (.ireturn, 1) := dk_172 (dk_at dksX0_pass_0 14 rfl rfl)
theorem dX0_pass_15 : decode cX0_pass 15 = .ok (.astore_n 3, 1) := dk_78 (dk_at dksX0_pass_0 15 rfl rfl)
theorem dX0_pass_16 : decode cX0_pass 16 = .ok (.iconst 2, 1) := dk_5 (dk_at dksX0_pass_0 16 rfl rfl)
theorem dX0_pass_17 : decode cX0_pass 17 = .ok (.ireturn, 1) := dk_172 (dk_at dksX0_pass_0 17 rfl rfl)
theorem dX0_pass_18 : decode cX0_pass 18 = .ok (.iconst 0, 1) := dk_3 (dk_at dksX0_pass_0 18 rfl rfl)
theorem dX0_pass_19 : decode cX0_pass 19 = .ok (.ireturn, 1) := dk_172 (dk_at dksX0_pass_0 19 rfl rfl)
def dkwX0_parentOf_0 : List UInt8 := [44, 3, 42, 27, 182, 0, 42, 133, 80, 167, 0, 6, 78, 4, 172, 3, 172]
abbrev dktX0_parentOf_0 : List UInt8 := dkwX0_parentOf_0 ++ []
theorem dksX0_parentOf_0 : cX0_parentOf.data.toList.drop 0 = dktX0_parentOf_0 := by decide +kernel
theorem dX0_parentOf_0 : decode cX0_parentOf 0 = .ok (.aload_n 2, 1) := dk_44 (dk_at dksX0_parentOf_0 0 rfl rfl)
theorem dX0_parentOf_1 : decode cX0_parentOf 1 = .ok (.iconst 0, 1) := dk_3 (dk_at dksX0_parentOf_0 1 rfl rfl)
theorem dX0_parentOf_2 : decode cX0_parentOf 2 = .ok (.aload_n 0, 1) := dk_42 (dk_at dksX0_parentOf_0 2 rfl rfl)
theorem dX0_parentOf_3 : decode cX0_parentOf 3 = .ok (.iload_n 1, 1) := dk_27 (dk_at dksX0_parentOf_0 3 rfl rfl)
theorem dX0_parentOf_4 : decode cX0_parentOf 4 = .ok (.invokevirtual 42, 3) := dk_182 0 42 (dk_at dksX0_parentOf_0 4 rfl rfl)
theorem dX0_parentOf_7 : decode cX0_parentOf 7 = .ok (.i2l, 1) := dk_133 (dk_at dksX0_parentOf_0 7 rfl rfl)
theorem dX0_parentOf_8 : decode cX0_parentOf 8 = .ok (.lastore, 1) := dk_80 (dk_at dksX0_parentOf_0 8 rfl rfl)
theorem dX0_parentOf_9 : decode cX0_parentOf 9 = .ok (.goto 6, 3) := dk_167 0 6 (dk_at dksX0_parentOf_0 9 rfl rfl)
theorem dX0_parentOf_12 : decode cX0_parentOf 12 = .ok (.astore_n 3, 1) := dk_78 (dk_at dksX0_parentOf_0 12 rfl rfl)
theorem dX0_parentOf_13 : decode cX0_parentOf 13 = .ok (.iconst 1, 1) := dk_4 (dk_at dksX0_parentOf_0 13 rfl rfl)
theorem dX0_parentOf_14 : decode cX0_parentOf 14 = .ok (.ireturn, 1) := dk_172 (dk_at dksX0_parentOf_0 14 rfl rfl)
theorem dX0_parentOf_15 : decode cX0_parentOf 15 = .ok (.iconst 0, 1) := dk_3 (dk_at dksX0_parentOf_0 15 rfl rfl)
theorem dX0_parentOf_16 : decode cX0_parentOf 16 = .ok (.ireturn, 1) := dk_172 (dk_at dksX0_parentOf_0 16 rfl rfl)
def dkwX0_depthOf_0 : List UInt8 := [44, 3, 42, 27, 182, 0, 45, 133, 80, 167, 0, 6, 78, 4, 172, 3, 172]
abbrev dktX0_depthOf_0 : List UInt8 := dkwX0_depthOf_0 ++ []
theorem dksX0_depthOf_0 : cX0_depthOf.data.toList.drop 0 = dktX0_depthOf_0 := by decide +kernel
theorem dX0_depthOf_0 : decode cX0_depthOf 0 = .ok (.aload_n 2, 1) := dk_44 (dk_at dksX0_depthOf_0 0 rfl rfl)
theorem dX0_depthOf_1 : decode cX0_depthOf 1 = .ok (.iconst 0, 1) := dk_3 (dk_at dksX0_depthOf_0 1 rfl rfl)
theorem dX0_depthOf_2 : decode cX0_depthOf 2 = .ok (.aload_n 0, 1) := dk_42 (dk_at dksX0_depthOf_0 2 rfl rfl)
theorem dX0_depthOf_3 : decode cX0_depthOf 3 = .ok (.iload_n 1, 1) := dk_27 (dk_at dksX0_depthOf_0 3 rfl rfl)
theorem dX0_depthOf_4 : decode cX0_depthOf 4 = .ok (.invokevirtual 45, 3) := dk_182 0 45 (dk_at dksX0_depthOf_0 4 rfl rfl)
theorem dX0_depthOf_7 : decode cX0_depthOf 7 = .ok (.i2l, 1) := dk_133 (dk_at dksX0_depthOf_0 7 rfl rfl)
theorem dX0_depthOf_8 : decode cX0_depthOf 8 = .ok (.lastore, 1) := dk_80 (dk_at dksX0_depthOf_0 8 rfl rfl)
theorem dX0_depthOf_9 : decode cX0_depthOf 9 = .ok (.goto 6, 3) := dk_167 0 6 (dk_at dksX0_depthOf_0 9 rfl rfl)
theorem dX0_depthOf_12 : decode cX0_depthOf 12 = .ok (.astore_n 3, 1) := dk_78 (dk_at dksX0_depthOf_0 12 rfl rfl)
theorem dX0_depthOf_13 : decode cX0_depthOf 13 = .ok (.iconst 1, 1) := dk_4 (dk_at dksX0_depthOf_0 13 rfl rfl)
theorem dX0_depthOf_14 : decode cX0_depthOf 14 = .ok (.ireturn, 1) := dk_172 (dk_at dksX0_depthOf_0 14 rfl rfl)
theorem dX0_depthOf_15 : decode cX0_depthOf 15 = .ok (.iconst 0, 1) := dk_3 (dk_at dksX0_depthOf_0 15 rfl rfl)
theorem dX0_depthOf_16 : decode cX0_depthOf 16 = .ok (.ireturn, 1) := dk_172 (dk_at dksX0_depthOf_0 16 rfl rfl)
def dkwX0_kindOf_0 : List UInt8 := [44, 3, 42, 27, 182, 0, 48, 133, 80, 167, 0, 6, 78, 4, 172, 3, 172]
abbrev dktX0_kindOf_0 : List UInt8 := dkwX0_kindOf_0 ++ []
theorem dksX0_kindOf_0 : cX0_kindOf.data.toList.drop 0 = dktX0_kindOf_0 := by decide +kernel
theorem dX0_kindOf_0 : decode cX0_kindOf 0 = .ok (.aload_n 2, 1) := dk_44 (dk_at dksX0_kindOf_0 0 rfl rfl)
theorem dX0_kindOf_1 : decode cX0_kindOf 1 = .ok (.iconst 0, 1) := dk_3 (dk_at dksX0_kindOf_0 1 rfl rfl)
theorem dX0_kindOf_2 : decode cX0_kindOf 2 = .ok (.aload_n 0, 1) := dk_42 (dk_at dksX0_kindOf_0 2 rfl rfl)
theorem dX0_kindOf_3 : decode cX0_kindOf 3 = .ok (.iload_n 1, 1) := dk_27 (dk_at dksX0_kindOf_0 3 rfl rfl)
theorem dX0_kindOf_4 : decode cX0_kindOf 4 = .ok (.invokevirtual 48, 3) := dk_182 0 48 (dk_at dksX0_kindOf_0 4 rfl rfl)
theorem dX0_kindOf_7 : decode cX0_kindOf 7 = .ok (.i2l, 1) := dk_133 (dk_at dksX0_kindOf_0 7 rfl rfl)
theorem dX0_kindOf_8 : decode cX0_kindOf 8 = .ok (.lastore, 1) := dk_80 (dk_at dksX0_kindOf_0 8 rfl rfl)
theorem dX0_kindOf_9 : decode cX0_kindOf 9 = .ok (.goto 6, 3) := dk_167 0 6 (dk_at dksX0_kindOf_0 9 rfl rfl)
theorem dX0_kindOf_12 : decode cX0_kindOf 12 = .ok (.astore_n 3, 1) := dk_78 (dk_at dksX0_kindOf_0 12 rfl rfl)
theorem dX0_kindOf_13 : decode cX0_kindOf 13 = .ok (.iconst 1, 1) := dk_4 (dk_at dksX0_kindOf_0 13 rfl rfl)
theorem dX0_kindOf_14 : decode cX0_kindOf 14 = .ok (.ireturn, 1) := dk_172 (dk_at dksX0_kindOf_0 14 rfl rfl)
theorem dX0_kindOf_15 : decode cX0_kindOf 15 = .ok (.iconst 0, 1) := dk_3 (dk_at dksX0_kindOf_0 15 rfl rfl)
theorem dX0_kindOf_16 : decode cX0_kindOf 16 = .ok (.ireturn, 1) := dk_172 (dk_at dksX0_kindOf_0 16 rfl rfl)
def dkwX0_valueOf_0 : List UInt8 := [44, 3, 42, 27, 182, 0, 51, 133, 80, 167, 0, 6, 78, 4, 172, 3, 172]
abbrev dktX0_valueOf_0 : List UInt8 := dkwX0_valueOf_0 ++ []
theorem dksX0_valueOf_0 : cX0_valueOf.data.toList.drop 0 = dktX0_valueOf_0 := by decide +kernel
theorem dX0_valueOf_0 : decode cX0_valueOf 0 = .ok (.aload_n 2, 1) := dk_44 (dk_at dksX0_valueOf_0 0 rfl rfl)
theorem dX0_valueOf_1 : decode cX0_valueOf 1 = .ok (.iconst 0, 1) := dk_3 (dk_at dksX0_valueOf_0 1 rfl rfl)
theorem dX0_valueOf_2 : decode cX0_valueOf 2 = .ok (.aload_n 0, 1) := dk_42 (dk_at dksX0_valueOf_0 2 rfl rfl)
theorem dX0_valueOf_3 : decode cX0_valueOf 3 = .ok (.iload_n 1, 1) := dk_27 (dk_at dksX0_valueOf_0 3 rfl rfl)
theorem dX0_valueOf_4 : decode cX0_valueOf 4 = .ok (.invokevirtual 51, 3) := dk_182 0 51 (dk_at dksX0_valueOf_0 4 rfl rfl)
theorem dX0_valueOf_7 : decode cX0_valueOf 7 = .ok (.i2l, 1) := dk_133 (dk_at dksX0_valueOf_0 7 rfl rfl)
theorem dX0_valueOf_8 : decode cX0_valueOf 8 = .ok (.lastore, 1) := dk_80 (dk_at dksX0_valueOf_0 8 rfl rfl)
theorem dX0_valueOf_9 : decode cX0_valueOf 9 = .ok (.goto 6, 3) := dk_167 0 6 (dk_at dksX0_valueOf_0 9 rfl rfl)
theorem dX0_valueOf_12 : decode cX0_valueOf 12 = .ok (.astore_n 3, 1) := dk_78 (dk_at dksX0_valueOf_0 12 rfl rfl)
theorem dX0_valueOf_13 : decode cX0_valueOf 13 = .ok (.iconst 1, 1) := dk_4 (dk_at dksX0_valueOf_0 13 rfl rfl)
theorem dX0_valueOf_14 : decode cX0_valueOf 14 = .ok (.ireturn, 1) := dk_172 (dk_at dksX0_valueOf_0 14 rfl rfl)
theorem dX0_valueOf_15 : decode cX0_valueOf 15 = .ok (.iconst 0, 1) := dk_3 (dk_at dksX0_valueOf_0 15 rfl rfl)
theorem dX0_valueOf_16 : decode cX0_valueOf 16 = .ok (.ireturn, 1) := dk_172 (dk_at dksX0_valueOf_0 16 rfl rfl)
def dkwX0_truthOf_0 : List UInt8 := [44, 3, 42, 27, 182, 0, 54, 133, 80, 167, 0, 6, 78, 4, 172, 3, 172]
abbrev dktX0_truthOf_0 : List UInt8 := dkwX0_truthOf_0 ++ []
theorem dksX0_truthOf_0 : cX0_truthOf.data.toList.drop 0 = dktX0_truthOf_0 := by decide +kernel
theorem dX0_truthOf_0 : decode cX0_truthOf 0 = .ok (.aload_n 2, 1) := dk_44 (dk_at dksX0_truthOf_0 0 rfl rfl)
theorem dX0_truthOf_1 : decode cX0_truthOf 1 = .ok (.iconst 0, 1) := dk_3 (dk_at dksX0_truthOf_0 1 rfl rfl)
theorem dX0_truthOf_2 : decode cX0_truthOf 2 = .ok (.aload_n 0, 1) := dk_42 (dk_at dksX0_truthOf_0 2 rfl rfl)
theorem dX0_truthOf_3 : decode cX0_truthOf 3 = .ok (.iload_n 1, 1) := dk_27 (dk_at dksX0_truthOf_0 3 rfl rfl)
theorem dX0_truthOf_4 : decode cX0_truthOf 4 = .ok (.invokevirtual 54, 3) := dk_182 0 54 (dk_at dksX0_truthOf_0 4 rfl rfl)
theorem dX0_truthOf_7 : decode cX0_truthOf 7 = .ok (.i2l, 1) := dk_133 (dk_at dksX0_truthOf_0 7 rfl rfl)
theorem dX0_truthOf_8 : decode cX0_truthOf 8 = .ok (.lastore, 1) := dk_80 (dk_at dksX0_truthOf_0 8 rfl rfl)
theorem dX0_truthOf_9 : decode cX0_truthOf 9 = .ok (.goto 6, 3) := dk_167 0 6 (dk_at dksX0_truthOf_0 9 rfl rfl)
theorem dX0_truthOf_12 : decode cX0_truthOf 12 = .ok (.astore_n 3, 1) := dk_78 (dk_at dksX0_truthOf_0 12 rfl rfl)
theorem dX0_truthOf_13 : decode cX0_truthOf 13 = .ok (.iconst 1, 1) := dk_4 (dk_at dksX0_truthOf_0 13 rfl rfl)
theorem dX0_truthOf_14 : decode cX0_truthOf 14 = .ok (.ireturn, 1) := dk_172 (dk_at dksX0_truthOf_0 14 rfl rfl)
theorem dX0_truthOf_15 : decode cX0_truthOf 15 = .ok (.iconst 0, 1) := dk_3 (dk_at dksX0_truthOf_0 15 rfl rfl)
theorem dX0_truthOf_16 : decode cX0_truthOf 16 = .ok (.ireturn, 1) := dk_172 (dk_at dksX0_truthOf_0 16 rfl rfl)
def dkwX0_rememberedOf_0 : List UInt8 := [44, 3, 42, 27, 182, 0, 57, 133, 80, 167, 0, 6, 78, 4, 172, 3, 172]
abbrev dktX0_rememberedOf_0 : List UInt8 := dkwX0_rememberedOf_0 ++ []
theorem dksX0_rememberedOf_0 : cX0_rememberedOf.data.toList.drop 0 = dktX0_rememberedOf_0 := by decide +kernel
theorem dX0_rememberedOf_0 : decode cX0_rememberedOf 0 = .ok (.aload_n 2, 1) := dk_44 (dk_at dksX0_rememberedOf_0 0 rfl rfl)
theorem dX0_rememberedOf_1 : decode cX0_rememberedOf 1 = .ok (.iconst 0, 1) := dk_3 (dk_at dksX0_rememberedOf_0 1 rfl rfl)
theorem dX0_rememberedOf_2 : decode cX0_rememberedOf 2 = .ok (.aload_n 0, 1) := dk_42 (dk_at dksX0_rememberedOf_0 2 rfl rfl)
theorem dX0_rememberedOf_3 : decode cX0_rememberedOf 3 = .ok (.iload_n 1, 1) := dk_27 (dk_at dksX0_rememberedOf_0 3 rfl rfl)
theorem dX0_rememberedOf_4 : decode cX0_rememberedOf 4 = .ok (.invokevirtual 57, 3) := dk_182 0 57 (dk_at dksX0_rememberedOf_0 4 rfl rfl)
theorem dX0_rememberedOf_7 : decode cX0_rememberedOf 7 = .ok (.i2l, 1) := dk_133 (dk_at dksX0_rememberedOf_0 7 rfl rfl)
theorem dX0_rememberedOf_8 : decode cX0_rememberedOf 8 = .ok (.lastore, 1) := dk_80 (dk_at dksX0_rememberedOf_0 8 rfl rfl)
theorem dX0_rememberedOf_9 : decode cX0_rememberedOf 9 = .ok (.goto 6, 3) := dk_167 0 6 (dk_at dksX0_rememberedOf_0 9 rfl rfl)
theorem dX0_rememberedOf_12 : decode cX0_rememberedOf 12 = .ok (.astore_n 3, 1) := dk_78 (dk_at dksX0_rememberedOf_0 12 rfl rfl)
theorem dX0_rememberedOf_13 : decode cX0_rememberedOf 13 = .ok (.iconst 1, 1) := dk_4 (dk_at dksX0_rememberedOf_0 13 rfl rfl)
theorem dX0_rememberedOf_14 : decode cX0_rememberedOf 14 = .ok (.ireturn, 1) := dk_172 (dk_at dksX0_rememberedOf_0 14 rfl rfl)
theorem dX0_rememberedOf_15 : decode cX0_rememberedOf 15 = .ok (.iconst 0, 1) := dk_3 (dk_at dksX0_rememberedOf_0 15 rfl rfl)
theorem dX0_rememberedOf_16 : decode cX0_rememberedOf 16 = .ok (.ireturn, 1) := dk_172 (dk_at dksX0_rememberedOf_0 16 rfl rfl)
def dkwX0_ticksLeftOf_0 : List UInt8 := [44, 3, 42, 27, 182, 0, 60, 133, 80, 167, 0, 6, 78, 4, 172, 3, 172]
abbrev dktX0_ticksLeftOf_0 : List UInt8 := dkwX0_ticksLeftOf_0 ++ []
theorem dksX0_ticksLeftOf_0 : cX0_ticksLeftOf.data.toList.drop 0 = dktX0_ticksLeftOf_0 := by decide +kernel
theorem dX0_ticksLeftOf_0 : decode cX0_ticksLeftOf 0 = .ok (.aload_n 2, 1) := dk_44 (dk_at dksX0_ticksLeftOf_0 0 rfl rfl)
theorem dX0_ticksLeftOf_1 : decode cX0_ticksLeftOf 1 = .ok (.iconst 0, 1) := dk_3 (dk_at dksX0_ticksLeftOf_0 1 rfl rfl)
theorem dX0_ticksLeftOf_2 : decode cX0_ticksLeftOf 2 = .ok (.aload_n 0, 1) := dk_42 (dk_at dksX0_ticksLeftOf_0 2 rfl rfl)
theorem dX0_ticksLeftOf_3 : decode cX0_ticksLeftOf 3 = .ok (.iload_n 1, 1) := dk_27 (dk_at dksX0_ticksLeftOf_0 3 rfl rfl)
theorem dX0_ticksLeftOf_4 : decode cX0_ticksLeftOf 4 = .ok (.invokevirtual 60, 3) := dk_182 0 60 (dk_at dksX0_ticksLeftOf_0 4 rfl rfl)
theorem dX0_ticksLeftOf_7 : decode cX0_ticksLeftOf 7 = .ok (.i2l, 1) := dk_133 (dk_at dksX0_ticksLeftOf_0 7 rfl rfl)
theorem dX0_ticksLeftOf_8 : decode cX0_ticksLeftOf 8 = .ok (.lastore, 1) := dk_80 (dk_at dksX0_ticksLeftOf_0 8 rfl rfl)
theorem dX0_ticksLeftOf_9 : decode cX0_ticksLeftOf 9 = .ok (.goto 6, 3) := dk_167 0 6 (dk_at dksX0_ticksLeftOf_0 9 rfl rfl)
theorem dX0_ticksLeftOf_12 : decode cX0_ticksLeftOf 12 = .ok (.astore_n 3, 1) := dk_78 (dk_at dksX0_ticksLeftOf_0 12 rfl rfl)
theorem dX0_ticksLeftOf_13 : decode cX0_ticksLeftOf 13 = .ok (.iconst 1, 1) := dk_4 (dk_at dksX0_ticksLeftOf_0 13 rfl rfl)
theorem dX0_ticksLeftOf_14 : decode cX0_ticksLeftOf 14 = .ok (.ireturn, 1) := dk_172 (dk_at dksX0_ticksLeftOf_0 14 rfl rfl)
theorem dX0_ticksLeftOf_15 : decode cX0_ticksLeftOf 15 = .ok (.iconst 0, 1) := dk_3 (dk_at dksX0_ticksLeftOf_0 15 rfl rfl)
theorem dX0_ticksLeftOf_16 : decode cX0_ticksLeftOf 16 = .ok (.ireturn, 1) := dk_172 (dk_at dksX0_ticksLeftOf_0 16 rfl rfl)
def dkwX0_referralLeft_0 : List UInt8 := [44, 3, 42, 27, 182, 0, 63, 133, 80, 167, 0, 6, 78, 4, 172, 3, 172]
abbrev dktX0_referralLeft_0 : List UInt8 := dkwX0_referralLeft_0 ++ []
theorem dksX0_referralLeft_0 : cX0_referralLeft.data.toList.drop 0 = dktX0_referralLeft_0 := by decide +kernel
theorem dX0_referralLeft_0 : decode cX0_referralLeft 0 = .ok (.aload_n 2, 1) := dk_44 (dk_at dksX0_referralLeft_0 0 rfl rfl)
theorem dX0_referralLeft_1 : decode cX0_referralLeft 1 = .ok (.iconst 0, 1) := dk_3 (dk_at dksX0_referralLeft_0 1 rfl rfl)
theorem dX0_referralLeft_2 : decode cX0_referralLeft 2 = .ok (.aload_n 0, 1) := dk_42 (dk_at dksX0_referralLeft_0 2 rfl rfl)
theorem dX0_referralLeft_3 : decode cX0_referralLeft 3 = .ok (.iload_n 1, 1) := dk_27 (dk_at dksX0_referralLeft_0 3 rfl rfl)
theorem dX0_referralLeft_4 : decode cX0_referralLeft 4 = .ok (.invokevirtual 63, 3) := dk_182 0 63 (dk_at dksX0_referralLeft_0 4 rfl rfl)
theorem dX0_referralLeft_7 : decode cX0_referralLeft 7 = .ok (.i2l, 1) := dk_133 (dk_at dksX0_referralLeft_0 7 rfl rfl)
theorem dX0_referralLeft_8 : decode cX0_referralLeft 8 = .ok (.lastore, 1) := dk_80 (dk_at dksX0_referralLeft_0 8 rfl rfl)
theorem dX0_referralLeft_9 : decode cX0_referralLeft 9 = .ok (.goto 6, 3) := dk_167 0 6 (dk_at dksX0_referralLeft_0 9 rfl rfl)
theorem dX0_referralLeft_12 : decode cX0_referralLeft 12 = .ok (.astore_n 3, 1) := dk_78 (dk_at dksX0_referralLeft_0 12 rfl rfl)
theorem dX0_referralLeft_13 : decode cX0_referralLeft 13 = .ok (.iconst 1, 1) := dk_4 (dk_at dksX0_referralLeft_0 13 rfl rfl)
theorem dX0_referralLeft_14 : decode cX0_referralLeft 14 = .ok (.ireturn, 1) := dk_172 (dk_at dksX0_referralLeft_0 14 rfl rfl)
theorem dX0_referralLeft_15 : decode cX0_referralLeft 15 = .ok (.iconst 0, 1) := dk_3 (dk_at dksX0_referralLeft_0 15 rfl rfl)
theorem dX0_referralLeft_16 : decode cX0_referralLeft 16 = .ok (.ireturn, 1) := dk_172 (dk_at dksX0_referralLeft_0 16 rfl rfl)
def dkwX0_isOutOfDate_0 : List UInt8 := [44, 3, 42, 27, 182, 0, 66, 153, 0, 7, 10, 167, 0, 4, 9, 80, 167, 0, 6, 78, 4, 172, 3, 172]
abbrev dktX0_isOutOfDate_0 : List UInt8 := dkwX0_isOutOfDate_0 ++ []
theorem dksX0_isOutOfDate_0 : cX0_isOutOfDate.data.toList.drop 0 = dktX0_isOutOfDate_0 := by decide +kernel
theorem dX0_isOutOfDate_0 : decode cX0_isOutOfDate 0 = .ok (.aload_n 2, 1) := dk_44 (dk_at dksX0_isOutOfDate_0 0 rfl rfl)
theorem dX0_isOutOfDate_1 : decode cX0_isOutOfDate 1 = .ok (.iconst 0, 1) := dk_3 (dk_at dksX0_isOutOfDate_0 1 rfl rfl)
theorem dX0_isOutOfDate_2 : decode cX0_isOutOfDate 2 = .ok (.aload_n 0, 1) := dk_42 (dk_at dksX0_isOutOfDate_0 2 rfl rfl)
theorem dX0_isOutOfDate_3 : decode cX0_isOutOfDate 3 = .ok (.iload_n 1, 1) := dk_27 (dk_at dksX0_isOutOfDate_0 3 rfl rfl)
theorem dX0_isOutOfDate_4 : decode cX0_isOutOfDate 4 = .ok (.invokevirtual 66, 3) := dk_182 0 66 (dk_at dksX0_isOutOfDate_0 4 rfl rfl)
theorem dX0_isOutOfDate_7 : decode cX0_isOutOfDate 7 = .ok (.ifCond .eq 7, 3) := dk_153 0 7 (dk_at dksX0_isOutOfDate_0 7 rfl rfl)
theorem dX0_isOutOfDate_10 : decode cX0_isOutOfDate 10 = .ok (.lconst 1, 1) := dk_10 (dk_at dksX0_isOutOfDate_0 10 rfl rfl)
theorem dX0_isOutOfDate_11 : decode cX0_isOutOfDate 11 = .ok (.goto 4, 3) := dk_167 0 4 (dk_at dksX0_isOutOfDate_0 11 rfl rfl)
theorem dX0_isOutOfDate_14 : decode cX0_isOutOfDate 14 = .ok (.lconst 0, 1) := dk_9 (dk_at dksX0_isOutOfDate_0 14 rfl rfl)
theorem dX0_isOutOfDate_15 : decode cX0_isOutOfDate 15 = .ok (.lastore, 1) := dk_80 (dk_at dksX0_isOutOfDate_0 15 rfl rfl)
theorem dX0_isOutOfDate_16 : decode cX0_isOutOfDate 16 = .ok (.goto 6, 3) := dk_167 0 6 (dk_at dksX0_isOutOfDate_0 16 rfl rfl)
theorem dX0_isOutOfDate_19 : decode cX0_isOutOfDate 19 = .ok (.astore_n 3, 1) := dk_78 (dk_at dksX0_isOutOfDate_0 19 rfl rfl)
theorem dX0_isOutOfDate_20 : decode cX0_isOutOfDate 20 = .ok (.iconst 1, 1) := dk_4 (dk_at dksX0_isOutOfDate_0 20 rfl rfl)
theorem dX0_isOutOfDate_21 : decode cX0_isOutOfDate 21 = .ok (.ireturn, 1) := dk_172 (dk_at dksX0_isOutOfDate_0 21 rfl rfl)
theorem dX0_isOutOfDate_22 : decode cX0_isOutOfDate 22 = .ok (.iconst 0, 1) := dk_3 (dk_at dksX0_isOutOfDate_0 22 rfl rfl)
theorem dX0_isOutOfDate_23 : decode cX0_isOutOfDate 23 = .ok (.ireturn, 1) := dk_172 (dk_at dksX0_isOutOfDate_0 23 rfl rfl)
def dkwX0_questionsTo_0 : List UInt8 := [44, 3, 42, 27, 182, 0, 70, 133, 80, 167, 0, 6, 78, 4, 172, 3, 172]
abbrev dktX0_questionsTo_0 : List UInt8 := dkwX0_questionsTo_0 ++ []
theorem dksX0_questionsTo_0 : cX0_questionsTo.data.toList.drop 0 = dktX0_questionsTo_0 := by decide +kernel
theorem dX0_questionsTo_0 : decode cX0_questionsTo 0 = .ok (.aload_n 2, 1) := dk_44 (dk_at dksX0_questionsTo_0 0 rfl rfl)
theorem dX0_questionsTo_1 : decode cX0_questionsTo 1 = .ok (.iconst 0, 1) := dk_3 (dk_at dksX0_questionsTo_0 1 rfl rfl)
theorem dX0_questionsTo_2 : decode cX0_questionsTo 2 = .ok (.aload_n 0, 1) := dk_42 (dk_at dksX0_questionsTo_0 2 rfl rfl)
theorem dX0_questionsTo_3 : decode cX0_questionsTo 3 = .ok (.iload_n 1, 1) := dk_27 (dk_at dksX0_questionsTo_0 3 rfl rfl)
theorem dX0_questionsTo_4 : decode cX0_questionsTo 4 = .ok (.invokevirtual 70, 3) := dk_182 0 70 (dk_at dksX0_questionsTo_0 4 rfl rfl)
theorem dX0_questionsTo_7 : decode cX0_questionsTo 7 = .ok (.i2l, 1) := dk_133 (dk_at dksX0_questionsTo_0 7 rfl rfl)
theorem dX0_questionsTo_8 : decode cX0_questionsTo 8 = .ok (.lastore, 1) := dk_80 (dk_at dksX0_questionsTo_0 8 rfl rfl)
theorem dX0_questionsTo_9 : decode cX0_questionsTo 9 = .ok (.goto 6, 3) := dk_167 0 6 (dk_at dksX0_questionsTo_0 9 rfl rfl)
theorem dX0_questionsTo_12 : decode cX0_questionsTo 12 = .ok (.astore_n 3, 1) := dk_78 (dk_at dksX0_questionsTo_0 12 rfl rfl)
theorem dX0_questionsTo_13 : decode cX0_questionsTo 13 = .ok (.iconst 1, 1) := dk_4 (dk_at dksX0_questionsTo_0 13 rfl rfl)
theorem dX0_questionsTo_14 : decode cX0_questionsTo 14 = .ok (.ireturn, 1) := dk_172 (dk_at dksX0_questionsTo_0 14 rfl rfl)
theorem dX0_questionsTo_15 : decode cX0_questionsTo 15 = .ok (.iconst 0, 1) := dk_3 (dk_at dksX0_questionsTo_0 15 rfl rfl)
theorem dX0_questionsTo_16 : decode cX0_questionsTo 16 = .ok (.ireturn, 1) := dk_172 (dk_at dksX0_questionsTo_0 16 rfl rfl)
def dkwX0_wouldSolve_0 : List UInt8 := [44, 3, 42, 27, 182, 0, 73, 133, 80, 167, 0, 6, 78, 4, 172, 3, 172]
abbrev dktX0_wouldSolve_0 : List UInt8 := dkwX0_wouldSolve_0 ++ []
theorem dksX0_wouldSolve_0 : cX0_wouldSolve.data.toList.drop 0 = dktX0_wouldSolve_0 := by decide +kernel
theorem dX0_wouldSolve_0 : decode cX0_wouldSolve 0 = .ok (.aload_n 2, 1) := dk_44 (dk_at dksX0_wouldSolve_0 0 rfl rfl)
theorem dX0_wouldSolve_1 : decode cX0_wouldSolve 1 = .ok (.iconst 0, 1) := dk_3 (dk_at dksX0_wouldSolve_0 1 rfl rfl)
theorem dX0_wouldSolve_2 : decode cX0_wouldSolve 2 = .ok (.aload_n 0, 1) := dk_42 (dk_at dksX0_wouldSolve_0 2 rfl rfl)
theorem dX0_wouldSolve_3 : decode cX0_wouldSolve 3 = .ok (.iload_n 1, 1) := dk_27 (dk_at dksX0_wouldSolve_0 3 rfl rfl)
theorem dX0_wouldSolve_4 : decode cX0_wouldSolve 4 = .ok (.invokevirtual 73, 3) := dk_182 0 73 (dk_at dksX0_wouldSolve_0 4 rfl rfl)
theorem dX0_wouldSolve_7 : decode cX0_wouldSolve 7 = .ok (.i2l, 1) := dk_133 (dk_at dksX0_wouldSolve_0 7 rfl rfl)
theorem dX0_wouldSolve_8 : decode cX0_wouldSolve 8 = .ok (.lastore, 1) := dk_80 (dk_at dksX0_wouldSolve_0 8 rfl rfl)
theorem dX0_wouldSolve_9 : decode cX0_wouldSolve 9 = .ok (.goto 6, 3) := dk_167 0 6 (dk_at dksX0_wouldSolve_0 9 rfl rfl)
theorem dX0_wouldSolve_12 : decode cX0_wouldSolve 12 = .ok (.astore_n 3, 1) := dk_78 (dk_at dksX0_wouldSolve_0 12 rfl rfl)
theorem dX0_wouldSolve_13 : decode cX0_wouldSolve 13 = .ok (.iconst 1, 1) := dk_4 (dk_at dksX0_wouldSolve_0 13 rfl rfl)
theorem dX0_wouldSolve_14 : decode cX0_wouldSolve 14 = .ok (.ireturn, 1) := dk_172 (dk_at dksX0_wouldSolve_0 14 rfl rfl)
theorem dX0_wouldSolve_15 : decode cX0_wouldSolve 15 = .ok (.iconst 0, 1) := dk_3 (dk_at dksX0_wouldSolve_0 15 rfl rfl)
theorem dX0_wouldSolve_16 : decode cX0_wouldSolve 16 = .ok (.ireturn, 1) := dk_172 (dk_at dksX0_wouldSolve_0 16 rfl rfl)
def dkwX0_costOf_0 : List UInt8 := [44, 3, 42, 27, 182, 0, 76, 133, 80, 167, 0, 6, 78, 4, 172, 3, 172]
abbrev dktX0_costOf_0 : List UInt8 := dkwX0_costOf_0 ++ []
theorem dksX0_costOf_0 : cX0_costOf.data.toList.drop 0 = dktX0_costOf_0 := by decide +kernel
theorem dX0_costOf_0 : decode cX0_costOf 0 = .ok (.aload_n 2, 1) := dk_44 (dk_at dksX0_costOf_0 0 rfl rfl)
theorem dX0_costOf_1 : decode cX0_costOf 1 = .ok (.iconst 0, 1) := dk_3 (dk_at dksX0_costOf_0 1 rfl rfl)
theorem dX0_costOf_2 : decode cX0_costOf 2 = .ok (.aload_n 0, 1) := dk_42 (dk_at dksX0_costOf_0 2 rfl rfl)
theorem dX0_costOf_3 : decode cX0_costOf 3 = .ok (.iload_n 1, 1) := dk_27 (dk_at dksX0_costOf_0 3 rfl rfl)
theorem dX0_costOf_4 : decode cX0_costOf 4 = .ok (.invokevirtual 76, 3) := dk_182 0 76 (dk_at dksX0_costOf_0 4 rfl rfl)
theorem dX0_costOf_7 : decode cX0_costOf 7 = .ok (.i2l, 1) := dk_133 (dk_at dksX0_costOf_0 7 rfl rfl)
theorem dX0_costOf_8 : decode cX0_costOf 8 = .ok (.lastore, 1) := dk_80 (dk_at dksX0_costOf_0 8 rfl rfl)
theorem dX0_costOf_9 : decode cX0_costOf 9 = .ok (.goto 6, 3) := dk_167 0 6 (dk_at dksX0_costOf_0 9 rfl rfl)
theorem dX0_costOf_12 : decode cX0_costOf 12 = .ok (.astore_n 3, 1) := dk_78 (dk_at dksX0_costOf_0 12 rfl rfl)
theorem dX0_costOf_13 : decode cX0_costOf 13 = .ok (.iconst 1, 1) := dk_4 (dk_at dksX0_costOf_0 13 rfl rfl)
theorem dX0_costOf_14 : decode cX0_costOf 14 = .ok (.ireturn, 1) := dk_172 (dk_at dksX0_costOf_0 14 rfl rfl)
theorem dX0_costOf_15 : decode cX0_costOf 15 = .ok (.iconst 0, 1) := dk_3 (dk_at dksX0_costOf_0 15 rfl rfl)
theorem dX0_costOf_16 : decode cX0_costOf 16 = .ok (.ireturn, 1) := dk_172 (dk_at dksX0_costOf_0 16 rfl rfl)
def dkwX0_ticksUntilTruth_0 : List UInt8 := [44, 3, 42, 27, 182, 0, 79, 133, 80, 167, 0, 6, 78, 4, 172, 3, 172]
abbrev dktX0_ticksUntilTruth_0 : List UInt8 := dkwX0_ticksUntilTruth_0 ++ []
theorem dksX0_ticksUntilTruth_0 : cX0_ticksUntilTruth.data.toList.drop 0 = dktX0_ticksUntilTruth_0 := by decide +kernel
theorem dX0_ticksUntilTruth_0 : decode cX0_ticksUntilTruth 0 = .ok (.aload_n 2, 1) := dk_44 (dk_at dksX0_ticksUntilTruth_0 0 rfl rfl)
theorem dX0_ticksUntilTruth_1 : decode cX0_ticksUntilTruth 1 = .ok (.iconst 0, 1) := dk_3 (dk_at dksX0_ticksUntilTruth_0 1 rfl rfl)
theorem dX0_ticksUntilTruth_2 : decode cX0_ticksUntilTruth 2 = .ok (.aload_n 0, 1) := dk_42 (dk_at dksX0_ticksUntilTruth_0 2 rfl rfl)
theorem dX0_ticksUntilTruth_3 : decode cX0_ticksUntilTruth 3 = .ok (.iload_n 1, 1) := dk_27 (dk_at dksX0_ticksUntilTruth_0 3 rfl rfl)
theorem dX0_ticksUntilTruth_4 : decode cX0_ticksUntilTruth 4 = .ok (.invokevirtual 79, 3) := dk_182 0 79 (dk_at dksX0_ticksUntilTruth_0 4 rfl rfl)
theorem dX0_ticksUntilTruth_7 : decode cX0_ticksUntilTruth 7 = .ok (.i2l, 1) := dk_133 (dk_at dksX0_ticksUntilTruth_0 7 rfl rfl)
theorem dX0_ticksUntilTruth_8 : decode cX0_ticksUntilTruth 8 = .ok (.lastore, 1) := dk_80 (dk_at dksX0_ticksUntilTruth_0 8 rfl rfl)
theorem dX0_ticksUntilTruth_9 : decode cX0_ticksUntilTruth 9 = .ok (.goto 6, 3) := dk_167 0 6 (dk_at dksX0_ticksUntilTruth_0 9 rfl rfl)
theorem dX0_ticksUntilTruth_12 : decode cX0_ticksUntilTruth 12 = .ok (.astore_n 3, 1) := dk_78 (dk_at dksX0_ticksUntilTruth_0 12 rfl rfl)
theorem dX0_ticksUntilTruth_13 : decode cX0_ticksUntilTruth 13 = .ok (.iconst 1, 1) := dk_4 (dk_at dksX0_ticksUntilTruth_0 13 rfl rfl)
theorem dX0_ticksUntilTruth_14 : decode cX0_ticksUntilTruth 14 = .ok (.ireturn, 1) := dk_172 (dk_at dksX0_ticksUntilTruth_0 14 rfl rfl)
theorem dX0_ticksUntilTruth_15 : decode cX0_ticksUntilTruth 15 = .ok (.iconst 0, 1) := dk_3 (dk_at dksX0_ticksUntilTruth_0 15 rfl rfl)
theorem dX0_ticksUntilTruth_16 : decode cX0_ticksUntilTruth 16 = .ok (.ireturn, 1) := dk_172 (dk_at dksX0_ticksUntilTruth_0 16 rfl rfl)
def dkwX0_append_0 : List UInt8 := [44, 3, 42, 27, 182, 0, 82, 133, 80, 167, 0, 9, 78, 4, 172, 78, 5, 172, 3, 172]
abbrev dktX0_append_0 : List UInt8 := dkwX0_append_0 ++ []
theorem dksX0_append_0 : cX0_append.data.toList.drop 0 = dktX0_append_0 := by decide +kernel
theorem dX0_append_0 : decode cX0_append 0 = .ok (.aload_n 2, 1) := dk_44 (dk_at dksX0_append_0 0 rfl rfl)
theorem dX0_append_1 : decode cX0_append 1 = .ok (.iconst 0, 1) := dk_3 (dk_at dksX0_append_0 1 rfl rfl)
theorem dX0_append_2 : decode cX0_append 2 = .ok (.aload_n 0, 1) := dk_42 (dk_at dksX0_append_0 2 rfl rfl)
theorem dX0_append_3 : decode cX0_append 3 = .ok (.iload_n 1, 1) := dk_27 (dk_at dksX0_append_0 3 rfl rfl)
theorem dX0_append_4 : decode cX0_append 4 = .ok (.invokevirtual 82, 3) := dk_182 0 82 (dk_at dksX0_append_0 4 rfl rfl)
theorem dX0_append_7 : decode cX0_append 7 = .ok (.i2l, 1) := dk_133 (dk_at dksX0_append_0 7 rfl rfl)
theorem dX0_append_8 : decode cX0_append 8 = .ok (.lastore, 1) := dk_80 (dk_at dksX0_append_0 8 rfl rfl)
theorem dX0_append_9 : decode cX0_append 9 = .ok (.goto 9, 3) := dk_167 0 9 (dk_at dksX0_append_0 9 rfl rfl)
theorem dX0_append_12 : decode cX0_append 12 = .ok (.astore_n 3, 1) := dk_78 (dk_at dksX0_append_0 12 rfl rfl)
theorem dX0_append_13 : decode cX0_append 13 = .ok (.iconst 1, 1) := dk_4 (dk_at dksX0_append_0 13 rfl rfl)
theorem dX0_append_14 : decode cX0_append 14 = .ok (.ireturn, 1) := dk_172 (dk_at dksX0_append_0 14 rfl rfl)
theorem dX0_append_15 : decode cX0_append 15 = .ok (.astore_n 3, 1) := dk_78 (dk_at dksX0_append_0 15 rfl rfl)
theorem dX0_append_16 : decode cX0_append 16 = .ok (.iconst 2, 1) := dk_5 (dk_at dksX0_append_0 16 rfl rfl)
theorem dX0_append_17 : decode cX0_append 17 = .ok (.ireturn, 1) := dk_172 (dk_at dksX0_append_0 17 rfl rfl)
theorem dX0_append_18 : decode cX0_append 18 = .ok (.iconst 0, 1) := dk_3 (dk_at dksX0_append_0 18 rfl rfl)
theorem dX0_append_19 : decode cX0_append 19 = .ok (.ireturn, 1) := dk_172 (dk_at dksX0_append_0 19 rfl rfl)
def dkwX0_runActs_0 : List UInt8 := [43, 3, 42, 182, 0, 85, 133, 80, 167, 0, 6, 77, 4, 172, 3, 172]
abbrev dktX0_runActs_0 : List UInt8 := dkwX0_runActs_0 ++ []
theorem dksX0_runActs_0 : cX0_runActs.data.toList.drop 0 = dktX0_runActs_0 := by decide +kernel
theorem dX0_runActs_0 : decode cX0_runActs 0 = .ok (.aload_n 1, 1) := dk_43 (dk_at dksX0_runActs_0 0 rfl rfl)
theorem dX0_runActs_1 : decode cX0_runActs 1 = .ok (.iconst 0, 1) := dk_3 (dk_at dksX0_runActs_0 1 rfl rfl)
theorem dX0_runActs_2 : decode cX0_runActs 2 = .ok (.aload_n 0, 1) := dk_42 (dk_at dksX0_runActs_0 2 rfl rfl)
theorem dX0_runActs_3 : decode cX0_runActs 3 = .ok (.invokevirtual 85, 3) := dk_182 0 85 (dk_at dksX0_runActs_0 3 rfl rfl)
theorem dX0_runActs_6 : decode cX0_runActs 6 = .ok (.i2l, 1) := dk_133 (dk_at dksX0_runActs_0 6 rfl rfl)
theorem dX0_runActs_7 : decode cX0_runActs 7 = .ok (.lastore, 1) := dk_80 (dk_at dksX0_runActs_0 7 rfl rfl)
theorem dX0_runActs_8 : decode cX0_runActs 8 = .ok (.goto 6, 3) := dk_167 0 6 (dk_at dksX0_runActs_0 8 rfl rfl)
theorem dX0_runActs_11 : decode cX0_runActs 11 = .ok (.astore_n 2, 1) := dk_77 (dk_at dksX0_runActs_0 11 rfl rfl)
theorem dX0_runActs_12 : decode cX0_runActs 12 = .ok (.iconst 1, 1) := dk_4 (dk_at dksX0_runActs_0 12 rfl rfl)
theorem dX0_runActs_13 : decode cX0_runActs 13 = .ok (.ireturn, 1) := dk_172 (dk_at dksX0_runActs_0 13 rfl rfl)
theorem dX0_runActs_14 : decode cX0_runActs 14 = .ok (.iconst 0, 1) := dk_3 (dk_at dksX0_runActs_0 14 rfl rfl)
theorem dX0_runActs_15 : decode cX0_runActs 15 = .ok (.ireturn, 1) := dk_172 (dk_at dksX0_runActs_0 15 rfl rfl)
def dkwX0_undo_0 : List UInt8 := [43, 3, 42, 182, 0, 89, 133, 80, 167, 0, 6, 77, 4, 172, 3, 172]
abbrev dktX0_undo_0 : List UInt8 := dkwX0_undo_0 ++ []
theorem dksX0_undo_0 : cX0_undo.data.toList.drop 0 = dktX0_undo_0 := by decide +kernel
theorem dX0_undo_0 : decode cX0_undo 0 = .ok (.aload_n 1, 1) := dk_43 (dk_at dksX0_undo_0 0 rfl rfl)
theorem dX0_undo_1 : decode cX0_undo 1 = .ok (.iconst 0, 1) := dk_3 (dk_at dksX0_undo_0 1 rfl rfl)
theorem dX0_undo_2 : decode cX0_undo 2 = .ok (.aload_n 0, 1) := dk_42 (dk_at dksX0_undo_0 2 rfl rfl)
theorem dX0_undo_3 : decode cX0_undo 3 = .ok (.invokevirtual 89, 3) := dk_182 0 89 (dk_at dksX0_undo_0 3 rfl rfl)
theorem dX0_undo_6 : decode cX0_undo 6 = .ok (.i2l, 1) := dk_133 (dk_at dksX0_undo_0 6 rfl rfl)
theorem dX0_undo_7 : decode cX0_undo 7 = .ok (.lastore, 1) := dk_80 (dk_at dksX0_undo_0 7 rfl rfl)
theorem dX0_undo_8 : decode cX0_undo 8 = .ok (.goto 6, 3) := dk_167 0 6 (dk_at dksX0_undo_0 8 rfl rfl)
theorem dX0_undo_11 : decode cX0_undo 11 = .ok (.astore_n 2, 1) := dk_77 (dk_at dksX0_undo_0 11 rfl rfl)
theorem dX0_undo_12 : decode cX0_undo 12 = .ok (.iconst 1, 1) := dk_4 (dk_at dksX0_undo_0 12 rfl rfl)
theorem dX0_undo_13 : decode cX0_undo 13 = .ok (.ireturn, 1) := dk_172 (dk_at dksX0_undo_0 13 rfl rfl)
theorem dX0_undo_14 : decode cX0_undo 14 = .ok (.iconst 0, 1) := dk_3 (dk_at dksX0_undo_0 14 rfl rfl)
theorem dX0_undo_15 : decode cX0_undo 15 = .ok (.ireturn, 1) := dk_172 (dk_at dksX0_undo_0 15 rfl rfl)
def dkwX1_init_2 : List UInt8 := [181, 0, 52, 177]
abbrev dktX1_init_2 : List UInt8 := dkwX1_init_2 ++ []
def dkwX1_init_1 : List UInt8 := [181, 0, 36, 42, 187, 0, 40, 89, 183, 0, 42, 181, 0, 43, 42, 187, 0, 47, 89, 16, 60, 183, 0, 49]
abbrev dktX1_init_1 : List UInt8 := dkwX1_init_1 ++ dktX1_init_2
def dkwX1_init_0 : List UInt8 := [42, 183, 0, 19, 42, 187, 0, 22, 89, 184, 0, 24, 187, 0, 30, 89, 183, 0, 32, 183, 0, 33]
abbrev dktX1_init_0 : List UInt8 := dkwX1_init_0 ++ dktX1_init_1
theorem dksX1_init_0 : cX1_init.data.toList.drop 0 = dktX1_init_0 := by decide +kernel
theorem dksX1_init_1 : cX1_init.data.toList.drop 22 = dktX1_init_1 := dk_seg dksX1_init_0 22 rfl rfl
theorem dksX1_init_2 : cX1_init.data.toList.drop 46 = dktX1_init_2 := dk_seg dksX1_init_1 24 rfl rfl
theorem dX1_init_0 : decode cX1_init 0 = .ok (.aload_n 0, 1) := dk_42 (dk_at dksX1_init_0 0 rfl rfl)
theorem dX1_init_1 : decode cX1_init 1 = .ok (.invokespecial 19, 3) := dk_183 0 19 (dk_at dksX1_init_0 1 rfl rfl)
theorem dX1_init_4 : decode cX1_init 4 = .ok (.aload_n 0, 1) := dk_42 (dk_at dksX1_init_0 4 rfl rfl)
theorem dX1_init_5 : decode cX1_init 5 = .ok (.new 22, 3) := dk_187 0 22 (dk_at dksX1_init_0 5 rfl rfl)
theorem dX1_init_8 : decode cX1_init 8 = .ok (.dup, 1) := dk_89 (dk_at dksX1_init_0 8 rfl rfl)
theorem dX1_init_9 : decode cX1_init 9 = .ok (.invokestatic 24, 3) := dk_184 0 24 (dk_at dksX1_init_0 9 rfl rfl)
theorem dX1_init_12 : decode cX1_init 12 = .ok (.new 30, 3) := dk_187 0 30 (dk_at dksX1_init_0 12 rfl rfl)
theorem dX1_init_15 : decode cX1_init 15 = .ok (.dup, 1) := dk_89 (dk_at dksX1_init_0 15 rfl rfl)
theorem dX1_init_16 : decode cX1_init 16 = .ok (.invokespecial 32, 3) := dk_183 0 32 (dk_at dksX1_init_0 16 rfl rfl)
theorem dX1_init_19 : decode cX1_init 19 = .ok (.invokespecial 33, 3) := dk_183 0 33 (dk_at dksX1_init_0 19 rfl rfl)
theorem dX1_init_22 : decode cX1_init 22 = .ok (.putfield 36, 3) := dk_181 0 36 (dk_at dksX1_init_1 0 rfl rfl)
theorem dX1_init_25 : decode cX1_init 25 = .ok (.aload_n 0, 1) := dk_42 (dk_at dksX1_init_1 3 rfl rfl)
theorem dX1_init_26 : decode cX1_init 26 = .ok (.new 40, 3) := dk_187 0 40 (dk_at dksX1_init_1 4 rfl rfl)
theorem dX1_init_29 : decode cX1_init 29 = .ok (.dup, 1) := dk_89 (dk_at dksX1_init_1 7 rfl rfl)
theorem dX1_init_30 : decode cX1_init 30 = .ok (.invokespecial 42, 3) := dk_183 0 42 (dk_at dksX1_init_1 8 rfl rfl)
theorem dX1_init_33 : decode cX1_init 33 = .ok (.putfield 43, 3) := dk_181 0 43 (dk_at dksX1_init_1 11 rfl rfl)
theorem dX1_init_36 : decode cX1_init 36 = .ok (.aload_n 0, 1) := dk_42 (dk_at dksX1_init_1 14 rfl rfl)
theorem dX1_init_37 : decode cX1_init 37 = .ok (.new 47, 3) := dk_187 0 47 (dk_at dksX1_init_1 15 rfl rfl)
theorem dX1_init_40 : decode cX1_init 40 = .ok (.dup, 1) := dk_89 (dk_at dksX1_init_1 18 rfl rfl)
theorem dX1_init_41 : decode cX1_init 41 = .ok (.bipush 60, 2) := dk_16 60 (dk_at dksX1_init_1 19 rfl rfl)
theorem dX1_init_43 : decode cX1_init 43 = .ok (.invokespecial 49, 3) := dk_183 0 49 (dk_at dksX1_init_1 21 rfl rfl)
theorem dX1_init_46 : decode cX1_init 46 = .ok (.putfield 52, 3) := dk_181 0 52 (dk_at dksX1_init_2 0 rfl rfl)
theorem dX1_init_49 : decode cX1_init 49 = .ok (.return_, 1) := dk_177 (dk_at dksX1_init_2 3 rfl rfl)
def dkwX1_time_0 : List UInt8 := [42, 180, 0, 36, 180, 0, 140, 172]
abbrev dktX1_time_0 : List UInt8 := dkwX1_time_0 ++ []
theorem dksX1_time_0 : cX1_time.data.toList.drop 0 = dktX1_time_0 := by decide +kernel
theorem dX1_time_0 : decode cX1_time 0 = .ok (.aload_n 0, 1) := dk_42 (dk_at dksX1_time_0 0 rfl rfl)
theorem dX1_time_1 : decode cX1_time 1 = .ok (.getfield 36, 3) := dk_180 0 36 (dk_at dksX1_time_0 1 rfl rfl)
theorem dX1_time_4 : decode cX1_time 4 = .ok (.getfield 140, 3) := dk_180 0 140 (dk_at dksX1_time_0 4 rfl rfl)
theorem dX1_time_7 : decode cX1_time 7 = .ok (.ireturn, 1) := dk_172 (dk_at dksX1_time_0 7 rfl rfl)
def dkwX1_remembered_0 : List UInt8 := [42, 180, 0, 36, 180, 0, 122, 180, 0, 162, 182, 0, 166, 172]
abbrev dktX1_remembered_0 : List UInt8 := dkwX1_remembered_0 ++ []
theorem dksX1_remembered_0 : cX1_remembered.data.toList.drop 0 = dktX1_remembered_0 := by decide +kernel
theorem dX1_remembered_0 : decode cX1_remembered 0 = .ok (.aload_n 0, 1) := dk_42 (dk_at dksX1_remembered_0 0 rfl rfl)
theorem dX1_remembered_1 : decode cX1_remembered 1 = .ok (.getfield 36, 3) := dk_180 0 36 (dk_at dksX1_remembered_0 1 rfl rfl)
theorem dX1_remembered_4 : decode cX1_remembered 4 = .ok (.getfield 122, 3) := dk_180 0 122 (dk_at dksX1_remembered_0 4 rfl rfl)
theorem dX1_remembered_7 : decode cX1_remembered 7 = .ok (.getfield 162, 3) := dk_180 0 162 (dk_at dksX1_remembered_0 7 rfl rfl)
theorem dX1_remembered_10 : decode cX1_remembered 10 = .ok (.invokevirtual 166, 3) := dk_182 0 166 (dk_at dksX1_remembered_0 10 rfl rfl)
theorem dX1_remembered_13 : decode cX1_remembered 13 = .ok (.ireturn, 1) := dk_172 (dk_at dksX1_remembered_0 13 rfl rfl)
def dkwX1_rememberedByAccount_0 : List UInt8 := [42, 180, 0, 36, 180, 0, 122, 180, 0, 169, 42, 180, 0, 36, 180, 0, 122, 180, 0, 172, 100, 172]
abbrev dktX1_rememberedByAccount_0 : List UInt8 := dkwX1_rememberedByAccount_0 ++ []
theorem dksX1_rememberedByAccount_0 : cX1_rememberedByAccount.data.toList.drop 0 = dktX1_rememberedByAccount_0 := by decide +kernel
theorem dX1_rememberedByAccount_0 : decode cX1_rememberedByAccount 0 = .ok (.aload_n 0, 1) := dk_42 (dk_at dksX1_rememberedByAccount_0 0 rfl rfl)
theorem dX1_rememberedByAccount_1 : decode cX1_rememberedByAccount 1 = .ok (.getfield 36, 3) := dk_180 0 36 (dk_at dksX1_rememberedByAccount_0 1 rfl rfl)
theorem dX1_rememberedByAccount_4 : decode cX1_rememberedByAccount 4 = .ok (.getfield 122, 3) := dk_180 0 122 (dk_at dksX1_rememberedByAccount_0 4 rfl rfl)
theorem dX1_rememberedByAccount_7 : decode cX1_rememberedByAccount 7 = .ok (.getfield 169, 3) := dk_180 0 169 (dk_at dksX1_rememberedByAccount_0 7 rfl rfl)
theorem dX1_rememberedByAccount_10 : decode cX1_rememberedByAccount 10 = .ok (.aload_n 0, 1) := dk_42 (dk_at dksX1_rememberedByAccount_0 10 rfl rfl)
theorem dX1_rememberedByAccount_11 : decode cX1_rememberedByAccount 11 = .ok (.getfield 36, 3) := dk_180 0 36 (dk_at dksX1_rememberedByAccount_0 11 rfl rfl)
theorem dX1_rememberedByAccount_14 : decode cX1_rememberedByAccount 14 = .ok (.getfield 122, 3) := dk_180 0 122 (dk_at dksX1_rememberedByAccount_0 14 rfl rfl)
theorem dX1_rememberedByAccount_17 : decode cX1_rememberedByAccount 17 = .ok (.getfield 172, 3) := dk_180 0 172 (dk_at dksX1_rememberedByAccount_0 17 rfl rfl)
theorem dX1_rememberedByAccount_20 : decode cX1_rememberedByAccount 20 = .ok (.isub, 1) := dk_100 (dk_at dksX1_rememberedByAccount_0 20 rfl rfl)
theorem dX1_rememberedByAccount_21 : decode cX1_rememberedByAccount 21 = .ok (.ireturn, 1) := dk_172 (dk_at dksX1_rememberedByAccount_0 21 rfl rfl)
def dkwX1_ticksUntilForgetting_0 : List UInt8 := [42, 42, 180, 0, 36, 180, 0, 122, 180, 0, 175, 182, 0, 179, 192, 0, 135, 182, 0, 158, 172]
abbrev dktX1_ticksUntilForgetting_0 : List UInt8 := dkwX1_ticksUntilForgetting_0 ++ []
theorem dksX1_ticksUntilForgetting_0 : cX1_ticksUntilForgetting.data.toList.drop 0 = dktX1_ticksUntilForgetting_0 := by decide +kernel
theorem dX1_ticksUntilForgetting_0 : decode cX1_ticksUntilForgetting 0 = .ok (.aload_n 0, 1) := dk_42 (dk_at dksX1_ticksUntilForgetting_0 0 rfl rfl)
theorem dX1_ticksUntilForgetting_1 : decode cX1_ticksUntilForgetting 1 = .ok (.aload_n 0, 1) := dk_42 (dk_at dksX1_ticksUntilForgetting_0 1 rfl rfl)
theorem dX1_ticksUntilForgetting_2 : decode cX1_ticksUntilForgetting 2 = .ok (.getfield 36, 3) := dk_180 0 36 (dk_at dksX1_ticksUntilForgetting_0 2 rfl rfl)
theorem dX1_ticksUntilForgetting_5 : decode cX1_ticksUntilForgetting 5 = .ok (.getfield 122, 3) := dk_180 0 122 (dk_at dksX1_ticksUntilForgetting_0 5 rfl rfl)
theorem dX1_ticksUntilForgetting_8 : decode cX1_ticksUntilForgetting 8 = .ok (.getfield 175, 3) := dk_180 0 175 (dk_at dksX1_ticksUntilForgetting_0 8 rfl rfl)
theorem dX1_ticksUntilForgetting_11 : decode cX1_ticksUntilForgetting 11 = .ok (.invokevirtual 179, 3) := dk_182 0 179 (dk_at dksX1_ticksUntilForgetting_0 11 rfl rfl)
theorem dX1_ticksUntilForgetting_14 : decode cX1_ticksUntilForgetting 14 = .ok (.checkcast 135, 3) := dk_192 0 135 (dk_at dksX1_ticksUntilForgetting_0 14 rfl rfl)
theorem dX1_ticksUntilForgetting_17 : decode cX1_ticksUntilForgetting 17 = .ok (.invokevirtual 158, 3) := dk_182 0 158 (dk_at dksX1_ticksUntilForgetting_0 17 rfl rfl)
theorem dX1_ticksUntilForgetting_20 : decode cX1_ticksUntilForgetting 20 = .ok (.ireturn, 1) := dk_172 (dk_at dksX1_ticksUntilForgetting_0 20 rfl rfl)
def dkwX1_left_0 : List UInt8 := [43, 199, 0, 7, 2, 167, 0, 15, 43, 180, 0, 155, 42, 180, 0, 36, 180, 0, 140, 100, 172]
abbrev dktX1_left_0 : List UInt8 := dkwX1_left_0 ++ []
theorem dksX1_left_0 : cX1_left.data.toList.drop 0 = dktX1_left_0 := by decide +kernel
theorem dX1_left_0 : decode cX1_left 0 = .ok (.aload_n 1, 1) := dk_43 (dk_at dksX1_left_0 0 rfl rfl)
theorem dX1_left_1 : decode cX1_left 1 = .ok (.ifnonnull 7, 3) := dk_199 0 7 (dk_at dksX1_left_0 1 rfl rfl)
theorem dX1_left_4 : decode cX1_left 4 = .ok (.iconst (-1), 1) := dk_2 (dk_at dksX1_left_0 4 rfl rfl)
theorem dX1_left_5 : decode cX1_left 5 = .ok (.goto 15, 3) := dk_167 0 15 (dk_at dksX1_left_0 5 rfl rfl)
theorem dX1_left_8 : decode cX1_left 8 = .ok (.aload_n 1, 1) := dk_43 (dk_at dksX1_left_0 8 rfl rfl)
theorem dX1_left_9 : decode cX1_left 9 = .ok (.getfield 155, 3) := dk_180 0 155 (dk_at dksX1_left_0 9 rfl rfl)
theorem dX1_left_12 : decode cX1_left 12 = .ok (.aload_n 0, 1) := dk_42 (dk_at dksX1_left_0 12 rfl rfl)
theorem dX1_left_13 : decode cX1_left 13 = .ok (.getfield 36, 3) := dk_180 0 36 (dk_at dksX1_left_0 13 rfl rfl)
theorem dX1_left_16 : decode cX1_left 16 = .ok (.getfield 140, 3) := dk_180 0 140 (dk_at dksX1_left_0 16 rfl rfl)
theorem dX1_left_19 : decode cX1_left 19 = .ok (.isub, 1) := dk_100 (dk_at dksX1_left_0 19 rfl rfl)
theorem dX1_left_20 : decode cX1_left 20 = .ok (.ireturn, 1) := dk_172 (dk_at dksX1_left_0 20 rfl rfl)
def dkwX1_solved_0 : List UInt8 := [42, 180, 0, 36, 180, 0, 192, 172]
abbrev dktX1_solved_0 : List UInt8 := dkwX1_solved_0 ++ []
theorem dksX1_solved_0 : cX1_solved.data.toList.drop 0 = dktX1_solved_0 := by decide +kernel
theorem dX1_solved_0 : decode cX1_solved 0 = .ok (.aload_n 0, 1) := dk_42 (dk_at dksX1_solved_0 0 rfl rfl)
theorem dX1_solved_1 : decode cX1_solved 1 = .ok (.getfield 36, 3) := dk_180 0 36 (dk_at dksX1_solved_0 1 rfl rfl)
theorem dX1_solved_4 : decode cX1_solved 4 = .ok (.getfield 192, 3) := dk_180 0 192 (dk_at dksX1_solved_0 4 rfl rfl)
theorem dX1_solved_7 : decode cX1_solved 7 = .ok (.ireturn, 1) := dk_172 (dk_at dksX1_solved_0 7 rfl rfl)
def dkwX1_questions_0 : List UInt8 := [42, 180, 0, 36, 182, 0, 195, 172]
abbrev dktX1_questions_0 : List UInt8 := dkwX1_questions_0 ++ []
theorem dksX1_questions_0 : cX1_questions.data.toList.drop 0 = dktX1_questions_0 := by decide +kernel
theorem dX1_questions_0 : decode cX1_questions 0 = .ok (.aload_n 0, 1) := dk_42 (dk_at dksX1_questions_0 0 rfl rfl)
theorem dX1_questions_1 : decode cX1_questions 1 = .ok (.getfield 36, 3) := dk_180 0 36 (dk_at dksX1_questions_0 1 rfl rfl)
theorem dX1_questions_4 : decode cX1_questions 4 = .ok (.invokevirtual 195, 3) := dk_182 0 195 (dk_at dksX1_questions_0 4 rfl rfl)
theorem dX1_questions_7 : decode cX1_questions 7 = .ok (.ireturn, 1) := dk_172 (dk_at dksX1_questions_0 7 rfl rfl)
def dkwX1_hits_0 : List UInt8 := [42, 180, 0, 36, 180, 0, 198, 172]
abbrev dktX1_hits_0 : List UInt8 := dkwX1_hits_0 ++ []
theorem dksX1_hits_0 : cX1_hits.data.toList.drop 0 = dktX1_hits_0 := by decide +kernel
theorem dX1_hits_0 : decode cX1_hits 0 = .ok (.aload_n 0, 1) := dk_42 (dk_at dksX1_hits_0 0 rfl rfl)
theorem dX1_hits_1 : decode cX1_hits 1 = .ok (.getfield 36, 3) := dk_180 0 36 (dk_at dksX1_hits_0 1 rfl rfl)
theorem dX1_hits_4 : decode cX1_hits 4 = .ok (.getfield 198, 3) := dk_180 0 198 (dk_at dksX1_hits_0 4 rfl rfl)
theorem dX1_hits_7 : decode cX1_hits 7 = .ok (.ireturn, 1) := dk_172 (dk_at dksX1_hits_0 7 rfl rfl)
def dkwX1_meanQuestions_1 : List UInt8 := [180, 0, 36, 180, 0, 192, 135, 111, 175]
abbrev dktX1_meanQuestions_1 : List UInt8 := dkwX1_meanQuestions_1 ++ []
def dkwX1_meanQuestions_0 : List UInt8 := [42, 180, 0, 36, 180, 0, 192, 154, 0, 7, 14, 167, 0, 20, 42, 180, 0, 36, 182, 0, 195, 135, 42]
abbrev dktX1_meanQuestions_0 : List UInt8 := dkwX1_meanQuestions_0 ++ dktX1_meanQuestions_1
theorem dksX1_meanQuestions_0 : cX1_meanQuestions.data.toList.drop 0 = dktX1_meanQuestions_0 := by decide +kernel
theorem dksX1_meanQuestions_1 : cX1_meanQuestions.data.toList.drop 23 = dktX1_meanQuestions_1 := dk_seg dksX1_meanQuestions_0 23 rfl rfl
theorem dX1_meanQuestions_0 : decode cX1_meanQuestions 0 = .ok (.aload_n 0, 1) := dk_42 (dk_at dksX1_meanQuestions_0 0 rfl rfl)
theorem dX1_meanQuestions_1 : decode cX1_meanQuestions 1 = .ok (.getfield 36, 3) := dk_180 0 36 (dk_at dksX1_meanQuestions_0 1 rfl rfl)
theorem dX1_meanQuestions_4 : decode cX1_meanQuestions 4 = .ok (.getfield 192, 3) := dk_180 0 192 (dk_at dksX1_meanQuestions_0 4 rfl rfl)
theorem dX1_meanQuestions_7 : decode cX1_meanQuestions 7 = .ok (.ifCond .ne 7, 3) := dk_154 0 7 (dk_at dksX1_meanQuestions_0 7 rfl rfl)
theorem dX1_meanQuestions_10 : decode cX1_meanQuestions 10 = .ok (.dconst 0, 1) := dk_14 (dk_at dksX1_meanQuestions_0 10 rfl rfl)
theorem dX1_meanQuestions_11 : decode cX1_meanQuestions 11 = .ok (.goto 20, 3) := dk_167 0 20 (dk_at dksX1_meanQuestions_0 11 rfl rfl)
theorem dX1_meanQuestions_14 : decode cX1_meanQuestions 14 = .ok (.aload_n 0, 1) := dk_42 (dk_at dksX1_meanQuestions_0 14 rfl rfl)
theorem dX1_meanQuestions_15 : decode cX1_meanQuestions 15 = .ok (.getfield 36, 3) := dk_180 0 36 (dk_at dksX1_meanQuestions_0 15 rfl rfl)
theorem dX1_meanQuestions_18 : decode cX1_meanQuestions 18 = .ok (.invokevirtual 195, 3) := dk_182 0 195 (dk_at dksX1_meanQuestions_0 18 rfl rfl)
theorem dX1_meanQuestions_21 : decode cX1_meanQuestions 21 = .ok (.i2d, 1) := dk_135 (dk_at dksX1_meanQuestions_0 21 rfl rfl)
theorem dX1_meanQuestions_22 : decode cX1_meanQuestions 22 = .ok (.aload_n 0, 1) := dk_42 (dk_at dksX1_meanQuestions_0 22 rfl rfl)
theorem dX1_meanQuestions_23 : decode cX1_meanQuestions 23 = .ok (.getfield 36, 3) := dk_180 0 36 (dk_at dksX1_meanQuestions_1 0 rfl rfl)
theorem dX1_meanQuestions_26 : decode cX1_meanQuestions 26 = .ok (.getfield 192, 3) := dk_180 0 192 (dk_at dksX1_meanQuestions_1 3 rfl rfl)
theorem dX1_meanQuestions_29 : decode cX1_meanQuestions 29 = .ok (.i2d, 1) := dk_135 (dk_at dksX1_meanQuestions_1 6 rfl rfl)
theorem dX1_meanQuestions_30 : decode cX1_meanQuestions 30 = .ok (.ddiv, 1) := dk_111 (dk_at dksX1_meanQuestions_1 7 rfl rfl)
theorem dX1_meanQuestions_31 : decode cX1_meanQuestions 31 = .ok (.dreturn, 1) := dk_175 (dk_at dksX1_meanQuestions_1 8 rfl rfl)
def dkwX1_clearText_0 : List UInt8 := [42, 180, 0, 52, 182, 0, 216, 60, 42, 180, 0, 52, 3, 182, 0, 223, 27, 172]
abbrev dktX1_clearText_0 : List UInt8 := dkwX1_clearText_0 ++ []
theorem dksX1_clearText_0 : cX1_clearText.data.toList.drop 0 = dktX1_clearText_0 := by decide +kernel
theorem dX1_clearText_0 : decode cX1_clearText 0 = .ok (.aload_n 0, 1) := dk_42 (dk_at dksX1_clearText_0 0 rfl rfl)
theorem dX1_clearText_1 : decode cX1_clearText 1 = .ok (.getfield 52, 3) := dk_180 0 52 (dk_at dksX1_clearText_0 1 rfl rfl)
theorem dX1_clearText_4 : decode cX1_clearText 4 = .ok (.invokevirtual 216, 3) := dk_182 0 216 (dk_at dksX1_clearText_0 4 rfl rfl)
theorem dX1_clearText_7 : decode cX1_clearText 7 = .ok (.istore_n 1, 1) := dk_60 (dk_at dksX1_clearText_0 7 rfl rfl)
theorem dX1_clearText_8 : decode cX1_clearText 8 = .ok (.aload_n 0, 1) := dk_42 (dk_at dksX1_clearText_0 8 rfl rfl)
theorem dX1_clearText_9 : decode cX1_clearText 9 = .ok (.getfield 52, 3) := dk_180 0 52 (dk_at dksX1_clearText_0 9 rfl rfl)
theorem dX1_clearText_12 : decode cX1_clearText 12 = .ok (.iconst 0, 1) := dk_3 (dk_at dksX1_clearText_0 12 rfl rfl)
theorem dX1_clearText_13 : decode cX1_clearText 13 = .ok (.invokevirtual 223, 3) := dk_182 0 223 (dk_at dksX1_clearText_0 13 rfl rfl)
theorem dX1_clearText_16 : decode cX1_clearText 16 = .ok (.iload_n 1, 1) := dk_27 (dk_at dksX1_clearText_0 16 rfl rfl)
theorem dX1_clearText_17 : decode cX1_clearText 17 = .ok (.ireturn, 1) := dk_172 (dk_at dksX1_clearText_0 17 rfl rfl)
def dkwX1_firstError_0 : List UInt8 := [187, 0, 226, 89, 42, 180, 0, 52, 183, 0, 228, 182, 0, 231, 172]
abbrev dktX1_firstError_0 : List UInt8 := dkwX1_firstError_0 ++ []
theorem dksX1_firstError_0 : cX1_firstError.data.toList.drop 0 = dktX1_firstError_0 := by decide +kernel
theorem dX1_firstError_0 : decode cX1_firstError 0 = .ok (.new 226, 3) := dk_187 0 226 (dk_at dksX1_firstError_0 0 rfl rfl)
theorem dX1_firstError_3 : decode cX1_firstError 3 = .ok (.dup, 1) := dk_89 (dk_at dksX1_firstError_0 3 rfl rfl)
theorem dX1_firstError_4 : decode cX1_firstError 4 = .ok (.aload_n 0, 1) := dk_42 (dk_at dksX1_firstError_0 4 rfl rfl)
theorem dX1_firstError_5 : decode cX1_firstError 5 = .ok (.getfield 52, 3) := dk_180 0 52 (dk_at dksX1_firstError_0 5 rfl rfl)
theorem dX1_firstError_8 : decode cX1_firstError 8 = .ok (.invokespecial 228, 3) := dk_183 0 228 (dk_at dksX1_firstError_0 8 rfl rfl)
theorem dX1_firstError_11 : decode cX1_firstError 11 = .ok (.invokevirtual 231, 3) := dk_182 0 231 (dk_at dksX1_firstError_0 11 rfl rfl)
theorem dX1_firstError_14 : decode cX1_firstError 14 = .ok (.ireturn, 1) := dk_172 (dk_at dksX1_firstError_0 14 rfl rfl)
def dkwX1_isWithin_0 : List UInt8 := [26, 27, 161, 0, 12, 26, 28, 163, 0, 7, 4, 167, 0, 4, 3, 172]
abbrev dktX1_isWithin_0 : List UInt8 := dkwX1_isWithin_0 ++ []
theorem dksX1_isWithin_0 : cX1_isWithin.data.toList.drop 0 = dktX1_isWithin_0 := by decide +kernel
theorem dX1_isWithin_0 : decode cX1_isWithin 0 = .ok (.iload_n 0, 1) := dk_26 (dk_at dksX1_isWithin_0 0 rfl rfl)
theorem dX1_isWithin_1 : decode cX1_isWithin 1 = .ok (.iload_n 1, 1) := dk_27 (dk_at dksX1_isWithin_0 1 rfl rfl)
theorem dX1_isWithin_2 : decode cX1_isWithin 2 = .ok (.if_icmp .lt 12, 3) := dk_161 0 12 (dk_at dksX1_isWithin_0 2 rfl rfl)
theorem dX1_isWithin_5 : decode cX1_isWithin 5 = .ok (.iload_n 0, 1) := dk_26 (dk_at dksX1_isWithin_0 5 rfl rfl)
theorem dX1_isWithin_6 : decode cX1_isWithin 6 = .ok (.iload_n 2, 1) := dk_28 (dk_at dksX1_isWithin_0 6 rfl rfl)
theorem dX1_isWithin_7 : decode cX1_isWithin 7 = .ok (.if_icmp .gt 7, 3) := dk_163 0 7 (dk_at dksX1_isWithin_0 7 rfl rfl)
theorem dX1_isWithin_10 : decode cX1_isWithin 10 = .ok (.iconst 1, 1) := dk_4 (dk_at dksX1_isWithin_0 10 rfl rfl)
theorem dX1_isWithin_11 : decode cX1_isWithin 11 = .ok (.goto 4, 3) := dk_167 0 4 (dk_at dksX1_isWithin_0 11 rfl rfl)
theorem dX1_isWithin_14 : decode cX1_isWithin 14 = .ok (.iconst 0, 1) := dk_3 (dk_at dksX1_isWithin_0 14 rfl rfl)
theorem dX1_isWithin_15 : decode cX1_isWithin 15 = .ok (.ireturn, 1) := dk_172 (dk_at dksX1_isWithin_0 15 rfl rfl)
def dkwX1_digest_11 : List UInt8 := [167, 255, 129, 32, 173]
abbrev dktX1_digest_11 : List UInt8 := dkwX1_digest_11 ++ []
def dkwX1_digest_10 : List UInt8 := [21, 6, 79, 89, 16, 7, 25, 5, 182, 0, 195, 43, 182, 0, 195, 100, 79, 184, 1, 11, 65, 132, 4, 1]
abbrev dktX1_digest_10 : List UInt8 := dkwX1_digest_10 ++ dktX1_digest_11
def dkwX1_digest_9 : List UInt8 := [182, 1, 20, 79, 89, 8, 42, 21, 4, 182, 1, 23, 153, 0, 7, 4, 167, 0, 4, 3, 79, 89, 16, 6]
abbrev dktX1_digest_9 : List UInt8 := dkwX1_digest_9 ++ dktX1_digest_10
def dkwX1_digest_8 : List UInt8 := [180, 0, 91, 21, 4, 182, 0, 152, 79, 89, 6, 42, 21, 4, 182, 1, 17, 79, 89, 7, 42, 21, 4]
abbrev dktX1_digest_8 : List UInt8 := dkwX1_digest_8 ++ dktX1_digest_9
def dkwX1_digest_7 : List UInt8 := [180, 0, 115, 21, 4, 46, 79, 89, 4, 43, 180, 0, 91, 180, 0, 149, 21, 4, 46, 79, 89, 5, 43]
abbrev dktX1_digest_7 : List UInt8 := dkwX1_digest_7 ++ dktX1_digest_8
def dkwX1_digest_6 : List UInt8 := [58, 5, 25, 5, 21, 4, 182, 0, 118, 54, 6, 32, 16, 8, 188, 10, 89, 3, 43, 180, 0, 91]
abbrev dktX1_digest_6 : List UInt8 := dkwX1_digest_6 ++ dktX1_digest_7
def dkwX1_digest_5 : List UInt8 := [184, 1, 11, 65, 132, 4, 1, 167, 255, 194, 3, 54, 4, 21, 4, 16, 36, 162, 0, 126, 43, 182, 0, 204]
abbrev dktX1_digest_5 : List UInt8 := dkwX1_digest_5 ++ dktX1_digest_6
def dkwX1_digest_4 : List UInt8 := [182, 0, 146, 79, 89, 5, 42, 21, 4, 182, 1, 14, 79, 89, 6, 43, 180, 0, 201, 21, 4, 46, 79]
abbrev dktX1_digest_4 : List UInt8 := dkwX1_digest_4 ++ dktX1_digest_5
def dkwX1_digest_3 : List UInt8 := [188, 10, 89, 3, 43, 180, 0, 91, 180, 0, 95, 21, 4, 46, 79, 89, 4, 43, 180, 0, 91, 21, 4]
abbrev dktX1_digest_3 : List UInt8 := dkwX1_digest_3 ++ dktX1_digest_4
def dkwX1_digest_2 : List UInt8 := [79, 89, 8, 43, 180, 0, 198, 79, 184, 1, 11, 65, 3, 54, 4, 21, 4, 16, 6, 162, 0, 61, 32, 7]
abbrev dktX1_digest_2 : List UInt8 := dkwX1_digest_2 ++ dktX1_digest_3
def dkwX1_digest_1 : List UInt8 := [182, 1, 6, 79, 89, 5, 42, 182, 1, 8, 79, 89, 6, 43, 180, 0, 192, 79, 89, 7, 43, 182, 0, 195]
abbrev dktX1_digest_1 : List UInt8 := dkwX1_digest_1 ++ dktX1_digest_2
def dkwX1_digest_0 : List UInt8 := [42, 180, 0, 36, 76, 20, 1, 4, 16, 6, 188, 10, 89, 3, 43, 180, 0, 140, 79, 89, 4, 42]
abbrev dktX1_digest_0 : List UInt8 := dkwX1_digest_0 ++ dktX1_digest_1
theorem dksX1_digest_0 : cX1_digest.data.toList.drop 0 = dktX1_digest_0 := by decide +kernel
theorem dksX1_digest_1 : cX1_digest.data.toList.drop 22 = dktX1_digest_1 := dk_seg dksX1_digest_0 22 rfl rfl
theorem dksX1_digest_2 : cX1_digest.data.toList.drop 46 = dktX1_digest_2 := dk_seg dksX1_digest_1 24 rfl rfl
theorem dksX1_digest_3 : cX1_digest.data.toList.drop 70 = dktX1_digest_3 := dk_seg dksX1_digest_2 24 rfl rfl
theorem dksX1_digest_4 : cX1_digest.data.toList.drop 93 = dktX1_digest_4 := dk_seg dksX1_digest_3 23 rfl rfl
theorem dksX1_digest_5 : cX1_digest.data.toList.drop 116 = dktX1_digest_5 := dk_seg dksX1_digest_4 23 rfl rfl
theorem dksX1_digest_6 : cX1_digest.data.toList.drop 140 = dktX1_digest_6 := dk_seg dksX1_digest_5 24 rfl rfl
theorem dksX1_digest_7 : cX1_digest.data.toList.drop 162 = dktX1_digest_7 := dk_seg dksX1_digest_6 22 rfl rfl
theorem dksX1_digest_8 : cX1_digest.data.toList.drop 185 = dktX1_digest_8 := dk_seg dksX1_digest_7 23 rfl rfl
theorem dksX1_digest_9 : cX1_digest.data.toList.drop 208 = dktX1_digest_9 := dk_seg dksX1_digest_8 23 rfl rfl
theorem dksX1_digest_10 : cX1_digest.data.toList.drop 232 = dktX1_digest_10 := dk_seg dksX1_digest_9 24 rfl rfl
theorem dksX1_digest_11 : cX1_digest.data.toList.drop 256 = dktX1_digest_11 := dk_seg dksX1_digest_10 24 rfl rfl
theorem dX1_digest_0 : decode cX1_digest 0 = .ok (.aload_n 0, 1) := dk_42 (dk_at dksX1_digest_0 0 rfl rfl)
theorem dX1_digest_1 : decode cX1_digest 1 = .ok (.getfield 36, 3) := dk_180 0 36 (dk_at dksX1_digest_0 1 rfl rfl)
theorem dX1_digest_4 : decode cX1_digest 4 = .ok (.astore_n 1, 1) := dk_76 (dk_at dksX1_digest_0 4 rfl rfl)
theorem dX1_digest_5 : decode cX1_digest 5 = .ok (.ldc2_w 260, 3) := dk_20 1 4 (dk_at dksX1_digest_0 5 rfl rfl)
theorem dX1_digest_8 : decode cX1_digest 8 = .ok (.bipush 6, 2) := dk_16 6 (dk_at dksX1_digest_0 8 rfl rfl)
theorem dX1_digest_10 : decode cX1_digest 10 = .ok (.newarray .int, 2) := dk_188_10 (dk_at dksX1_digest_0 10 rfl rfl)
theorem dX1_digest_12 : decode cX1_digest 12 = .ok (.dup, 1) := dk_89 (dk_at dksX1_digest_0 12 rfl rfl)
theorem dX1_digest_13 : decode cX1_digest 13 = .ok (.iconst 0, 1) := dk_3 (dk_at dksX1_digest_0 13 rfl rfl)
theorem dX1_digest_14 : decode cX1_digest 14 = .ok (.aload_n 1, 1) := dk_43 (dk_at dksX1_digest_0 14 rfl rfl)
theorem dX1_digest_15 : decode cX1_digest 15 = .ok (.getfield 140, 3) := dk_180 0 140 (dk_at dksX1_digest_0 15 rfl rfl)
theorem dX1_digest_18 : decode cX1_digest 18 = .ok (.iastore, 1) := dk_79 (dk_at dksX1_digest_0 18 rfl rfl)
theorem dX1_digest_19 : decode cX1_digest 19 = .ok (.dup, 1) := dk_89 (dk_at dksX1_digest_0 19 rfl rfl)
theorem dX1_digest_20 : decode cX1_digest 20 = .ok (.iconst 1, 1) := dk_4 (dk_at dksX1_digest_0 20 rfl rfl)
theorem dX1_digest_21 : decode cX1_digest 21 = .ok (.aload_n 0, 1) := dk_42 (dk_at dksX1_digest_0 21 rfl rfl)
theorem dX1_digest_22 : decode cX1_digest 22 = .ok (.invokevirtual 262, 3) := dk_182 1 6 (dk_at dksX1_digest_1 0 rfl rfl)
theorem dX1_digest_25 : decode cX1_digest 25 = .ok (.iastore, 1) := dk_79 (dk_at dksX1_digest_1 3 rfl rfl)
theorem dX1_digest_26 : decode cX1_digest 26 = .ok (.dup, 1) := dk_89 (dk_at dksX1_digest_1 4 rfl rfl)
theorem dX1_digest_27 : decode cX1_digest 27 = .ok (.iconst 2, 1) := dk_5 (dk_at dksX1_digest_1 5 rfl rfl)
theorem dX1_digest_28 : decode cX1_digest 28 = .ok (.aload_n 0, 1) := dk_42 (dk_at dksX1_digest_1 6 rfl rfl)
theorem dX1_digest_29 : decode cX1_digest 29 = .ok (.invokevirtual 264, 3) := dk_182 1 8 (dk_at dksX1_digest_1 7 rfl rfl)
theorem dX1_digest_32 : decode cX1_digest 32 = .ok (.iastore, 1) := dk_79 (dk_at dksX1_digest_1 10 rfl rfl)
theorem dX1_digest_33 : decode cX1_digest 33 = .ok (.dup, 1) := dk_89 (dk_at dksX1_digest_1 11 rfl rfl)
theorem dX1_digest_34 : decode cX1_digest 34 = .ok (.iconst 3, 1) := dk_6 (dk_at dksX1_digest_1 12 rfl rfl)
theorem dX1_digest_35 : decode cX1_digest 35 = .ok (.aload_n 1, 1) := dk_43 (dk_at dksX1_digest_1 13 rfl rfl)
theorem dX1_digest_36 : decode cX1_digest 36 = .ok (.getfield 192, 3) := dk_180 0 192 (dk_at dksX1_digest_1 14 rfl rfl)
theorem dX1_digest_39 : decode cX1_digest 39 = .ok (.iastore, 1) := dk_79 (dk_at dksX1_digest_1 17 rfl rfl)
theorem dX1_digest_40 : decode cX1_digest 40 = .ok (.dup, 1) := dk_89 (dk_at dksX1_digest_1 18 rfl rfl)
theorem dX1_digest_41 : decode cX1_digest 41 = .ok (.iconst 4, 1) := dk_7 (dk_at dksX1_digest_1 19 rfl rfl)
theorem dX1_digest_42 : decode cX1_digest 42 = .ok (.aload_n 1, 1) := dk_43 (dk_at dksX1_digest_1 20 rfl rfl)
theorem dX1_digest_43 : decode cX1_digest 43 = .ok (.invokevirtual 195, 3) := dk_182 0 195 (dk_at dksX1_digest_1 21 rfl rfl)
theorem dX1_digest_46 : decode cX1_digest 46 = .ok (.iastore, 1) := dk_79 (dk_at dksX1_digest_2 0 rfl rfl)
theorem dX1_digest_47 : decode cX1_digest 47 = .ok (.dup, 1) := dk_89 (dk_at dksX1_digest_2 1 rfl rfl)
theorem dX1_digest_48 : decode cX1_digest 48 = .ok (.iconst 5, 1) := dk_8 (dk_at dksX1_digest_2 2 rfl rfl)
theorem dX1_digest_49 : decode cX1_digest 49 = .ok (.aload_n 1, 1) := dk_43 (dk_at dksX1_digest_2 3 rfl rfl)
theorem dX1_digest_50 : decode cX1_digest 50 = .ok (.getfield 198, 3) := dk_180 0 198 (dk_at dksX1_digest_2 4 rfl rfl)
theorem dX1_digest_53 : decode cX1_digest 53 = .ok (.iastore, 1) := dk_79 (dk_at dksX1_digest_2 7 rfl rfl)
theorem dX1_digest_54 : decode cX1_digest 54 = .ok (.invokestatic 267, 3) := dk_184 1 11 (dk_at dksX1_digest_2 8 rfl rfl)
theorem dX1_digest_57 : decode cX1_digest 57 = .ok (.lstore_n 2, 1) := dk_65 (dk_at dksX1_digest_2 11 rfl rfl)
theorem dX1_digest_58 : decode cX1_digest 58 = .ok (.iconst 0, 1) := dk_3 (dk_at dksX1_digest_2 12 rfl rfl)
theorem dX1_digest_59 : decode cX1_digest 59 = .ok (.istore 4, 2) := dk_54 4 (dk_at dksX1_digest_2 13 rfl rfl)
theorem dX1_digest_61 : decode cX1_digest 61 = .ok (.iload 4, 2) := dk_21 4 (dk_at dksX1_digest_2 15 rfl rfl)
theorem dX1_digest_63 : decode cX1_digest 63 = .ok (.bipush 6, 2) := dk_16 6 (dk_at dksX1_digest_2 17 rfl rfl)
theorem dX1_digest_65 : decode cX1_digest 65 = .ok (.if_icmp .ge 61, 3) := dk_162 0 61 (dk_at dksX1_digest_2 19 rfl rfl)
theorem dX1_digest_68 : decode cX1_digest 68 = .ok (.lload_n 2, 1) := dk_32 (dk_at dksX1_digest_2 22 rfl rfl)
theorem dX1_digest_69 : decode cX1_digest 69 = .ok (.iconst 4, 1) := dk_7 (dk_at dksX1_digest_2 23 rfl rfl)
theorem dX1_digest_70 : decode cX1_digest 70 = .ok (.newarray .int, 2) := dk_188_10 (dk_at dksX1_digest_3 0 rfl rfl)
theorem dX1_digest_72 : decode cX1_digest 72 = .ok (.dup, 1) := dk_89 (dk_at dksX1_digest_3 2 rfl rfl)
theorem dX1_digest_73 : decode cX1_digest 73 = .ok (.iconst 0, 1) := dk_3 (dk_at dksX1_digest_3 3 rfl rfl)
theorem dX1_digest_74 : decode cX1_digest 74 = .ok (.aload_n 1, 1) := dk_43 (dk_at dksX1_digest_3 4 rfl rfl)
theorem dX1_digest_75 : decode cX1_digest 75 = .ok (.getfield 91, 3) := dk_180 0 91 (dk_at dksX1_digest_3 5 rfl rfl)
theorem dX1_digest_78 : decode cX1_digest 78 = .ok (.getfield 95, 3) := dk_180 0 95 (dk_at dksX1_digest_3 8 rfl rfl)
theorem dX1_digest_81 : decode cX1_digest 81 = .ok (.iload 4, 2) := dk_21 4 (dk_at dksX1_digest_3 11 rfl rfl)
theorem dX1_digest_83 : decode cX1_digest 83 = .ok (.iaload, 1) := dk_46 (dk_at dksX1_digest_3 13 rfl rfl)
theorem dX1_digest_84 : decode cX1_digest 84 = .ok (.iastore, 1) := dk_79 (dk_at dksX1_digest_3 14 rfl rfl)
theorem dX1_digest_85 : decode cX1_digest 85 = .ok (.dup, 1) := dk_89 (dk_at dksX1_digest_3 15 rfl rfl)
theorem dX1_digest_86 : decode cX1_digest 86 = .ok (.iconst 1, 1) := dk_4 (dk_at dksX1_digest_3 16 rfl rfl)
theorem dX1_digest_87 : decode cX1_digest 87 = .ok (.aload_n 1, 1) := dk_43 (dk_at dksX1_digest_3 17 rfl rfl)
theorem dX1_digest_88 : decode cX1_digest 88 = .ok (.getfield 91, 3) := dk_180 0 91 (dk_at dksX1_digest_3 18 rfl rfl)
theorem dX1_digest_91 : decode cX1_digest 91 = .ok (.iload 4, 2) := dk_21 4 (dk_at dksX1_digest_3 21 rfl rfl)
theorem dX1_digest_93 : decode cX1_digest 93 = .ok (.invokevirtual 146, 3) := dk_182 0 146 (dk_at dksX1_digest_4 0 rfl rfl)
theorem dX1_digest_96 : decode cX1_digest 96 = .ok (.iastore, 1) := dk_79 (dk_at dksX1_digest_4 3 rfl rfl)
theorem dX1_digest_97 : decode cX1_digest 97 = .ok (.dup, 1) := dk_89 (dk_at dksX1_digest_4 4 rfl rfl)
theorem dX1_digest_98 : decode cX1_digest 98 = .ok (.iconst 2, 1) := dk_5 (dk_at dksX1_digest_4 5 rfl rfl)
theorem dX1_digest_99 : decode cX1_digest 99 = .ok (.aload_n 0, 1) := dk_42 (dk_at dksX1_digest_4 6 rfl rfl)
theorem dX1_digest_100 : decode cX1_digest 100 = .ok (.iload 4, 2) := dk_21 4 (dk_at dksX1_digest_4 7 rfl rfl)
theorem dX1_digest_102 : decode cX1_digest 102 = .ok (.invokevirtual 270, 3) := dk_182 1 14 (dk_at dksX1_digest_4 9 rfl rfl)
theorem dX1_digest_105 : decode cX1_digest 105 = .ok (.iastore, 1) := dk_79 (dk_at dksX1_digest_4 12 rfl rfl)
theorem dX1_digest_106 : decode cX1_digest 106 = .ok (.dup, 1) := dk_89 (dk_at dksX1_digest_4 13 rfl rfl)
theorem dX1_digest_107 : decode cX1_digest 107 = .ok (.iconst 3, 1) := dk_6 (dk_at dksX1_digest_4 14 rfl rfl)
theorem dX1_digest_108 : decode cX1_digest 108 = .ok (.aload_n 1, 1) := dk_43 (dk_at dksX1_digest_4 15 rfl rfl)
theorem dX1_digest_109 : decode cX1_digest 109 = .ok (.getfield 201, 3) := dk_180 0 201 (dk_at dksX1_digest_4 16 rfl rfl)
theorem dX1_digest_112 : decode cX1_digest 112 = .ok (.iload 4, 2) := dk_21 4 (dk_at dksX1_digest_4 19 rfl rfl)
theorem dX1_digest_114 : decode cX1_digest 114 = .ok (.iaload, 1) := dk_46 (dk_at dksX1_digest_4 21 rfl rfl)
theorem dX1_digest_115 : decode cX1_digest 115 = .ok (.iastore, 1) := dk_79 (dk_at dksX1_digest_4 22 rfl rfl)
theorem dX1_digest_116 : decode cX1_digest 116 = .ok (.invokestatic 267, 3) := dk_184 1 11 (dk_at dksX1_digest_5 0 rfl rfl)
theorem dX1_digest_119 : decode cX1_digest 119 = .ok (.lstore_n 2, 1) := dk_65 (dk_at dksX1_digest_5 3 rfl rfl)
theorem dX1_digest_120 : decode cX1_digest 120 = .ok (.iinc 4 1, 3) := dk_132 4 1 (dk_at dksX1_digest_5 4 rfl rfl)
theorem dX1_digest_123 : decode cX1_digest 123 = .ok (.goto (-62), 3) := dk_167 255 194 (dk_at dksX1_digest_5 7 rfl rfl)
theorem dX1_digest_126 : decode cX1_digest 126 = .ok (.iconst 0, 1) := dk_3 (dk_at dksX1_digest_5 10 rfl rfl)
theorem dX1_digest_127 : decode cX1_digest 127 = .ok (.istore 4, 2) := dk_54 4 (dk_at dksX1_digest_5 11 rfl rfl)
theorem dX1_digest_129 : decode cX1_digest 129 = .ok (.iload 4, 2) := dk_21 4 (dk_at dksX1_digest_5 13 rfl rfl)
theorem dX1_digest_131 : decode cX1_digest 131 = .ok (.bipush 36, 2) := dk_16 36 (dk_at dksX1_digest_5 15 rfl rfl)
theorem dX1_digest_133 : decode cX1_digest 133 = .ok (.if_icmp .ge 126, 3) := dk_162 0 126 (dk_at dksX1_digest_5 17 rfl rfl)
theorem dX1_digest_136 : decode cX1_digest 136 = .ok (.aload_n 1, 1) := dk_43 (dk_at dksX1_digest_5 20 rfl rfl)
theorem dX1_digest_137 : decode cX1_digest 137 = .ok (.invokevirtual 204, 3) := dk_182 0 204 (dk_at dksX1_digest_5 21 rfl rfl)
theorem dX1_digest_140 : decode cX1_digest 140 = .ok (.astore 5, 2) := dk_58 5 (dk_at dksX1_digest_6 0 rfl rfl)
theorem dX1_digest_142 : decode cX1_digest 142 = .ok (.aload 5, 2) := dk_25 5 (dk_at dksX1_digest_6 2 rfl rfl)
theorem dX1_digest_144 : decode cX1_digest 144 = .ok (.iload 4, 2) := dk_21 4 (dk_at dksX1_digest_6 4 rfl rfl)
theorem dX1_digest_146 : decode cX1_digest 146 = .ok (.invokevirtual 118, 3) := dk_182 0 118 (dk_at dksX1_digest_6 6 rfl rfl)
theorem dX1_digest_149 : decode cX1_digest 149 = .ok (.istore 6, 2) := dk_54 6 (dk_at dksX1_digest_6 9 rfl rfl)
theorem dX1_digest_151 : decode cX1_digest 151 = .ok (.lload_n 2, 1) := dk_32 (dk_at dksX1_digest_6 11 rfl rfl)
theorem dX1_digest_152 : decode cX1_digest 152 = .ok (.bipush 8, 2) := dk_16 8 (dk_at dksX1_digest_6 12 rfl rfl)
theorem dX1_digest_154 : decode cX1_digest 154 = .ok (.newarray .int, 2) := dk_188_10 (dk_at dksX1_digest_6 14 rfl rfl)
theorem dX1_digest_156 : decode cX1_digest 156 = .ok (.dup, 1) := dk_89 (dk_at dksX1_digest_6 16 rfl rfl)
theorem dX1_digest_157 : decode cX1_digest 157 = .ok (.iconst 0, 1) := dk_3 (dk_at dksX1_digest_6 17 rfl rfl)
theorem dX1_digest_158 : decode cX1_digest 158 = .ok (.aload_n 1, 1) := dk_43 (dk_at dksX1_digest_6 18 rfl rfl)
theorem dX1_digest_159 : decode cX1_digest 159 = .ok (.getfield 91, 3) := dk_180 0 91 (dk_at dksX1_digest_6 19 rfl rfl)
theorem dX1_digest_162 : decode cX1_digest 162 = .ok (.getfield 115, 3) := dk_180 0 115 (dk_at dksX1_digest_7 0 rfl rfl)
theorem dX1_digest_165 : decode cX1_digest 165 = .ok (.iload 4, 2) := dk_21 4 (dk_at dksX1_digest_7 3 rfl rfl)
theorem dX1_digest_167 : decode cX1_digest 167 = .ok (.iaload, 1) := dk_46 (dk_at dksX1_digest_7 5 rfl rfl)
theorem dX1_digest_168 : decode cX1_digest 168 = .ok (.iastore, 1) := dk_79 (dk_at dksX1_digest_7 6 rfl rfl)
theorem dX1_digest_169 : decode cX1_digest 169 = .ok (.dup, 1) := dk_89 (dk_at dksX1_digest_7 7 rfl rfl)
theorem dX1_digest_170 : decode cX1_digest 170 = .ok (.iconst 1, 1) := dk_4 (dk_at dksX1_digest_7 8 rfl rfl)
theorem dX1_digest_171 : decode cX1_digest 171 = .ok (.aload_n 1, 1) := dk_43 (dk_at dksX1_digest_7 9 rfl rfl)
theorem dX1_digest_172 : decode cX1_digest 172 = .ok (.getfield 91, 3) := dk_180 0 91 (dk_at dksX1_digest_7 10 rfl rfl)
theorem dX1_digest_175 : decode cX1_digest 175 = .ok (.getfield 149, 3) := dk_180 0 149 (dk_at dksX1_digest_7 13 rfl rfl)
theorem dX1_digest_178 : decode cX1_digest 178 = .ok (.iload 4, 2) := dk_21 4 (dk_at dksX1_digest_7 16 rfl rfl)
theorem dX1_digest_180 : decode cX1_digest 180 = .ok (.iaload, 1) := dk_46 (dk_at dksX1_digest_7 18 rfl rfl)
theorem dX1_digest_181 : decode cX1_digest 181 = .ok (.iastore, 1) := dk_79 (dk_at dksX1_digest_7 19 rfl rfl)
theorem dX1_digest_182 : decode cX1_digest 182 = .ok (.dup, 1) := dk_89 (dk_at dksX1_digest_7 20 rfl rfl)
theorem dX1_digest_183 : decode cX1_digest 183 = .ok (.iconst 2, 1) := dk_5 (dk_at dksX1_digest_7 21 rfl rfl)
theorem dX1_digest_184 : decode cX1_digest 184 = .ok (.aload_n 1, 1) := dk_43 (dk_at dksX1_digest_7 22 rfl rfl)
theorem dX1_digest_185 : decode cX1_digest 185 = .ok (.getfield 91, 3) := dk_180 0 91 (dk_at dksX1_digest_8 0 rfl rfl)
theorem dX1_digest_188 : decode cX1_digest 188 = .ok (.iload 4, 2) := dk_21 4 (dk_at dksX1_digest_8 3 rfl rfl)
theorem dX1_digest_190 : decode cX1_digest 190 = .ok (.invokevirtual 152, 3) := dk_182 0 152 (dk_at dksX1_digest_8 5 rfl rfl)
theorem dX1_digest_193 : decode cX1_digest 193 = .ok (.iastore, 1) := dk_79 (dk_at dksX1_digest_8 8 rfl rfl)
theorem dX1_digest_194 : decode cX1_digest 194 = .ok (.dup, 1) := dk_89 (dk_at dksX1_digest_8 9 rfl rfl)
theorem dX1_digest_195 : decode cX1_digest 195 = .ok (.iconst 3, 1) := dk_6 (dk_at dksX1_digest_8 10 rfl rfl)
theorem dX1_digest_196 : decode cX1_digest 196 = .ok (.aload_n 0, 1) := dk_42 (dk_at dksX1_digest_8 11 rfl rfl)
theorem dX1_digest_197 : decode cX1_digest 197 = .ok (.iload 4, 2) := dk_21 4 (dk_at dksX1_digest_8 12 rfl rfl)
theorem dX1_digest_199 : decode cX1_digest 199 = .ok (.invokevirtual 273, 3) := dk_182 1 17 (dk_at dksX1_digest_8 14 rfl rfl)
theorem dX1_digest_202 : decode cX1_digest 202 = .ok (.iastore, 1) := dk_79 (dk_at dksX1_digest_8 17 rfl rfl)
theorem dX1_digest_203 : decode cX1_digest 203 = .ok (.dup, 1) := dk_89 (dk_at dksX1_digest_8 18 rfl rfl)
theorem dX1_digest_204 : decode cX1_digest 204 = .ok (.iconst 4, 1) := dk_7 (dk_at dksX1_digest_8 19 rfl rfl)
theorem dX1_digest_205 : decode cX1_digest 205 = .ok (.aload_n 0, 1) := dk_42 (dk_at dksX1_digest_8 20 rfl rfl)
theorem dX1_digest_206 : decode cX1_digest 206 = .ok (.iload 4, 2) := dk_21 4 (dk_at dksX1_digest_8 21 rfl rfl)
theorem dX1_digest_208 : decode cX1_digest 208 = .ok (.invokevirtual 276, 3) := dk_182 1 20 (dk_at dksX1_digest_9 0 rfl rfl)
theorem dX1_digest_211 : decode cX1_digest 211 = .ok (.iastore, 1) := dk_79 (dk_at dksX1_digest_9 3 rfl rfl)
theorem dX1_digest_212 : decode cX1_digest 212 = .ok (.dup, 1) := dk_89 (dk_at dksX1_digest_9 4 rfl rfl)
theorem dX1_digest_213 : decode cX1_digest 213 = .ok (.iconst 5, 1) := dk_8 (dk_at dksX1_digest_9 5 rfl rfl)
theorem dX1_digest_214 : decode cX1_digest 214 = .ok (.aload_n 0, 1) := dk_42 (dk_at dksX1_digest_9 6 rfl rfl)
theorem dX1_digest_215 : decode cX1_digest 215 = .ok (.iload 4, 2) := dk_21 4 (dk_at dksX1_digest_9 7 rfl rfl)
theorem dX1_digest_217 : decode cX1_digest 217 = .ok (.invokevirtual 279, 3) := dk_182 1 23 (dk_at dksX1_digest_9 9 rfl rfl)
theorem dX1_digest_220 : decode cX1_digest 220 = .ok (.ifCond .eq 7, 3) := dk_153 0 7 (dk_at dksX1_digest_9 12 rfl rfl)
theorem dX1_digest_223 : decode cX1_digest 223 = .ok (.iconst 1, 1) := dk_4 (dk_at dksX1_digest_9 15 rfl rfl)
theorem dX1_digest_224 : decode cX1_digest 224 = .ok (.goto 4, 3) := dk_167 0 4 (dk_at dksX1_digest_9 16 rfl rfl)
theorem dX1_digest_227 : decode cX1_digest 227 = .ok (.iconst 0, 1) := dk_3 (dk_at dksX1_digest_9 19 rfl rfl)
theorem dX1_digest_228 : decode cX1_digest 228 = .ok (.iastore, 1) := dk_79 (dk_at dksX1_digest_9 20 rfl rfl)
theorem dX1_digest_229 : decode cX1_digest 229 = .ok (.dup, 1) := dk_89 (dk_at dksX1_digest_9 21 rfl rfl)
theorem dX1_digest_230 : decode cX1_digest 230 = .ok (.bipush 6, 2) := dk_16 6 (dk_at dksX1_digest_9 22 rfl rfl)
theorem dX1_digest_232 : decode cX1_digest 232 = .ok (.iload 6, 2) := dk_21 6 (dk_at dksX1_digest_10 0 rfl rfl)
theorem dX1_digest_234 : decode cX1_digest 234 = .ok (.iastore, 1) := dk_79 (dk_at dksX1_digest_10 2 rfl rfl)
theorem dX1_digest_235 : decode cX1_digest 235 = .ok (.dup, 1) := dk_89 (dk_at dksX1_digest_10 3 rfl rfl)
theorem dX1_digest_236 : decode cX1_digest 236 = .ok (.bipush 7, 2) := dk_16 7 (dk_at dksX1_digest_10 4 rfl rfl)
theorem dX1_digest_238 : decode cX1_digest 238 = .ok (.aload 5, 2) := dk_25 5 (dk_at dksX1_digest_10 6 rfl rfl)
theorem dX1_digest_240 : decode cX1_digest 240 = .ok (.invokevirtual 195, 3) := dk_182 0 195 (dk_at dksX1_digest_10 8 rfl rfl)
theorem dX1_digest_243 : decode cX1_digest 243 = .ok (.aload_n 1, 1) := dk_43 (dk_at dksX1_digest_10 11 rfl rfl)
theorem dX1_digest_244 : decode cX1_digest 244 = .ok (.invokevirtual 195, 3) := dk_182 0 195 (dk_at dksX1_digest_10 12 rfl rfl)
theorem dX1_digest_247 : decode cX1_digest 247 = .ok (.isub, 1) := dk_100 (dk_at dksX1_digest_10 15 rfl rfl)
theorem dX1_digest_248 : decode cX1_digest 248 = .ok (.iastore, 1) := dk_79 (dk_at dksX1_digest_10 16 rfl rfl)
theorem dX1_digest_249 : decode cX1_digest 249 = .ok (.invokestatic 267, 3) := dk_184 1 11 (dk_at dksX1_digest_10 17 rfl rfl)
theorem dX1_digest_252 : decode cX1_digest 252 = .ok (.lstore_n 2, 1) := dk_65 (dk_at dksX1_digest_10 20 rfl rfl)
theorem dX1_digest_253 : decode cX1_digest 253 = .ok (.iinc 4 1, 3) := dk_132 4 1 (dk_at dksX1_digest_10 21 rfl rfl)
theorem dX1_digest_256 : decode cX1_digest 256 = .ok (.goto (-127), 3) := dk_167 255 129 (dk_at dksX1_digest_11 0 rfl rfl)
theorem dX1_digest_259 : decode cX1_digest 259 = .ok (.lload_n 2, 1) := dk_32 (dk_at dksX1_digest_11 3 rfl rfl)
theorem dX1_digest_260 : decode cX1_digest 260 = .ok (.lreturn, 1) := dk_173 (dk_at dksX1_digest_11 4 rfl rfl)
def dkwX1_add_1 : List UInt8 := [132, 5, 1, 167, 255, 234, 33, 173]
abbrev dktX1_add_1 : List UInt8 := dkwX1_add_1 ++ []
def dkwX1_add_0 : List UInt8 := [30, 66, 3, 54, 5, 21, 5, 44, 190, 162, 0, 21, 20, 1, 2, 33, 105, 44, 21, 5, 46, 133, 97, 66]
abbrev dktX1_add_0 : List UInt8 := dkwX1_add_0 ++ dktX1_add_1
theorem dksX1_add_0 : cX1_add.data.toList.drop 0 = dktX1_add_0 := by decide +kernel
theorem dksX1_add_1 : cX1_add.data.toList.drop 24 = dktX1_add_1 := dk_seg dksX1_add_0 24 rfl rfl
theorem dX1_add_0 : decode cX1_add 0 = .ok (.lload_n 0, 1) := dk_30 (dk_at dksX1_add_0 0 rfl rfl)
theorem dX1_add_1 : decode cX1_add 1 = .ok (.lstore_n 3, 1) := dk_66 (dk_at dksX1_add_0 1 rfl rfl)
theorem dX1_add_2 : decode cX1_add 2 = .ok (.iconst 0, 1) := dk_3 (dk_at dksX1_add_0 2 rfl rfl)
theorem dX1_add_3 : decode cX1_add 3 = .ok (.istore 5, 2) := dk_54 5 (dk_at dksX1_add_0 3 rfl rfl)
theorem dX1_add_5 : decode cX1_add 5 = .ok (.iload 5, 2) := dk_21 5 (dk_at dksX1_add_0 5 rfl rfl)
theorem dX1_add_7 : decode cX1_add 7 = .ok (.aload_n 2, 1) := dk_44 (dk_at dksX1_add_0 7 rfl rfl)
theorem dX1_add_8 : decode cX1_add 8 = .ok (.arraylength, 1) := dk_190 (dk_at dksX1_add_0 8 rfl rfl)
theorem dX1_add_9 : decode cX1_add 9 = .ok (.if_icmp .ge 21, 3) := dk_162 0 21 (dk_at dksX1_add_0 9 rfl rfl)
theorem dX1_add_12 : decode cX1_add 12 = .ok (.ldc2_w 258, 3) := dk_20 1 2 (dk_at dksX1_add_0 12 rfl rfl)
theorem dX1_add_15 : decode cX1_add 15 = .ok (.lload_n 3, 1) := dk_33 (dk_at dksX1_add_0 15 rfl rfl)
theorem dX1_add_16 : decode cX1_add 16 = .ok (.lmul, 1) := dk_105 (dk_at dksX1_add_0 16 rfl rfl)
theorem dX1_add_17 : decode cX1_add 17 = .ok (.aload_n 2, 1) := dk_44 (dk_at dksX1_add_0 17 rfl rfl)
theorem dX1_add_18 : decode cX1_add 18 = .ok (.iload 5, 2) := dk_21 5 (dk_at dksX1_add_0 18 rfl rfl)
theorem dX1_add_20 : decode cX1_add 20 = .ok (.iaload, 1) := dk_46 (dk_at dksX1_add_0 20 rfl rfl)
theorem dX1_add_21 : decode cX1_add 21 = .ok (.i2l, 1) := dk_133 (dk_at dksX1_add_0 21 rfl rfl)
theorem dX1_add_22 : decode cX1_add 22 = .ok (.ladd, 1) := dk_97 (dk_at dksX1_add_0 22 rfl rfl)
theorem dX1_add_23 : decode cX1_add 23 = .ok (.lstore_n 3, 1) := dk_66 (dk_at dksX1_add_0 23 rfl rfl)
theorem dX1_add_24 : decode cX1_add 24 = .ok (.iinc 5 1, 3) := dk_132 5 1 (dk_at dksX1_add_1 0 rfl rfl)
theorem dX1_add_27 : decode cX1_add 27 = .ok (.goto (-22), 3) := dk_167 255 234 (dk_at dksX1_add_1 3 rfl rfl)
theorem dX1_add_30 : decode cX1_add 30 = .ok (.lload_n 3, 1) := dk_33 (dk_at dksX1_add_1 6 rfl rfl)
theorem dX1_add_31 : decode cX1_add 31 = .ok (.lreturn, 1) := dk_173 (dk_at dksX1_add_1 7 rfl rfl)
def dkwX1_referralLeft_0 : List UInt8 := [27, 184, 0, 99, 42, 42, 180, 0, 36, 180, 0, 122, 4, 27, 182, 0, 126, 182, 0, 158, 172]
abbrev dktX1_referralLeft_0 : List UInt8 := dkwX1_referralLeft_0 ++ []
theorem dksX1_referralLeft_0 : cX1_referralLeft.data.toList.drop 0 = dktX1_referralLeft_0 := by decide +kernel
theorem dX1_referralLeft_0 : decode cX1_referralLeft 0 = .ok (.iload_n 1, 1) := dk_27 (dk_at dksX1_referralLeft_0 0 rfl rfl)
theorem dX1_referralLeft_1 : decode cX1_referralLeft 1 = .ok (.invokestatic 99, 3) := dk_184 0 99 (dk_at dksX1_referralLeft_0 1 rfl rfl)
theorem dX1_referralLeft_4 : decode cX1_referralLeft 4 = .ok (.aload_n 0, 1) := dk_42 (dk_at dksX1_referralLeft_0 4 rfl rfl)
theorem dX1_referralLeft_5 : decode cX1_referralLeft 5 = .ok (.aload_n 0, 1) := dk_42 (dk_at dksX1_referralLeft_0 5 rfl rfl)
theorem dX1_referralLeft_6 : decode cX1_referralLeft 6 = .ok (.getfield 36, 3) := dk_180 0 36 (dk_at dksX1_referralLeft_0 6 rfl rfl)
theorem dX1_referralLeft_9 : decode cX1_referralLeft 9 = .ok (.getfield 122, 3) := dk_180 0 122 (dk_at dksX1_referralLeft_0 9 rfl rfl)
theorem dX1_referralLeft_12 : decode cX1_referralLeft 12 = .ok (.iconst 1, 1) := dk_4 (dk_at dksX1_referralLeft_0 12 rfl rfl)
theorem dX1_referralLeft_13 : decode cX1_referralLeft 13 = .ok (.iload_n 1, 1) := dk_27 (dk_at dksX1_referralLeft_0 13 rfl rfl)
theorem dX1_referralLeft_14 : decode cX1_referralLeft 14 = .ok (.invokevirtual 126, 3) := dk_182 0 126 (dk_at dksX1_referralLeft_0 14 rfl rfl)
theorem dX1_referralLeft_17 : decode cX1_referralLeft 17 = .ok (.invokevirtual 158, 3) := dk_182 0 158 (dk_at dksX1_referralLeft_0 17 rfl rfl)
theorem dX1_referralLeft_20 : decode cX1_referralLeft 20 = .ok (.ireturn, 1) := dk_172 (dk_at dksX1_referralLeft_0 20 rfl rfl)
def dkwX1_checkZone_0 : List UInt8 := [26, 16, 6, 184, 0, 80, 177]
abbrev dktX1_checkZone_0 : List UInt8 := dkwX1_checkZone_0 ++ []
theorem dksX1_checkZone_0 : cX1_checkZone.data.toList.drop 0 = dktX1_checkZone_0 := by decide +kernel
theorem dX1_checkZone_0 : decode cX1_checkZone 0 = .ok (.iload_n 0, 1) := dk_26 (dk_at dksX1_checkZone_0 0 rfl rfl)
theorem dX1_checkZone_1 : decode cX1_checkZone 1 = .ok (.bipush 6, 2) := dk_16 6 (dk_at dksX1_checkZone_0 1 rfl rfl)
theorem dX1_checkZone_3 : decode cX1_checkZone 3 = .ok (.invokestatic 80, 3) := dk_184 0 80 (dk_at dksX1_checkZone_0 3 rfl rfl)
theorem dX1_checkZone_6 : decode cX1_checkZone 6 = .ok (.return_, 1) := dk_177 (dk_at dksX1_checkZone_0 6 rfl rfl)
def dkwX1_checkIndex_0 : List UInt8 := [26, 3, 27, 4, 100, 184, 0, 3, 154, 0, 11, 187, 0, 13, 89, 183, 0, 15, 191, 177]
abbrev dktX1_checkIndex_0 : List UInt8 := dkwX1_checkIndex_0 ++ []
theorem dksX1_checkIndex_0 : cX1_checkIndex.data.toList.drop 0 = dktX1_checkIndex_0 := by decide +kernel
theorem dX1_checkIndex_0 : decode cX1_checkIndex 0 = .ok (.iload_n 0, 1) := dk_26 (dk_at dksX1_checkIndex_0 0 rfl rfl)
theorem dX1_checkIndex_1 : decode cX1_checkIndex 1 = .ok (.iconst 0, 1) := dk_3 (dk_at dksX1_checkIndex_0 1 rfl rfl)
theorem dX1_checkIndex_2 : decode cX1_checkIndex 2 = .ok (.iload_n 1, 1) := dk_27 (dk_at dksX1_checkIndex_0 2 rfl rfl)
theorem dX1_checkIndex_3 : decode cX1_checkIndex 3 = .ok (.iconst 1, 1) := dk_4 (dk_at dksX1_checkIndex_0 3 rfl rfl)
theorem dX1_checkIndex_4 : decode cX1_checkIndex 4 = .ok (.isub, 1) := dk_100 (dk_at dksX1_checkIndex_0 4 rfl rfl)
theorem dX1_checkIndex_5 : decode cX1_checkIndex 5 = .ok (.invokestatic 3, 3) := dk_184 0 3 (dk_at dksX1_checkIndex_0 5 rfl rfl)
theorem dX1_checkIndex_8 : decode cX1_checkIndex 8 = .ok (.ifCond .ne 11, 3) := dk_154 0 11 (dk_at dksX1_checkIndex_0 8 rfl rfl)
theorem dX1_checkIndex_11 : decode cX1_checkIndex 11 = .ok (.new 13, 3) := dk_187 0 13 (dk_at dksX1_checkIndex_0 11 rfl rfl)
theorem dX1_checkIndex_14 : decode cX1_checkIndex 14 = .ok (.dup, 1) := dk_89 (dk_at dksX1_checkIndex_0 14 rfl rfl)
theorem dX1_checkIndex_15 : decode cX1_checkIndex 15 = .ok (.invokespecial 15, 3) := dk_183 0 15 (dk_at dksX1_checkIndex_0 15 rfl rfl)
theorem dX1_checkIndex_18 : decode cX1_checkIndex 18 = .ok (.athrow, 1) := dk_191 (dk_at dksX1_checkIndex_0 18 rfl rfl)
theorem dX1_checkIndex_19 : decode cX1_checkIndex 19 = .ok (.return_, 1) := dk_177 (dk_at dksX1_checkIndex_0 19 rfl rfl)
def dkwX1_rememberedOf_1 : List UInt8 := [167, 0, 7, 44, 180, 0, 134, 172]
abbrev dktX1_rememberedOf_1 : List UInt8 := dkwX1_rememberedOf_1 ++ []
def dkwX1_rememberedOf_0 : List UInt8 := [27, 184, 0, 108, 42, 180, 0, 36, 180, 0, 122, 3, 27, 182, 0, 126, 77, 44, 199, 0, 7, 3]
abbrev dktX1_rememberedOf_0 : List UInt8 := dkwX1_rememberedOf_0 ++ dktX1_rememberedOf_1
theorem dksX1_rememberedOf_0 : cX1_rememberedOf.data.toList.drop 0 = dktX1_rememberedOf_0 := by decide +kernel
theorem dksX1_rememberedOf_1 : cX1_rememberedOf.data.toList.drop 22 = dktX1_rememberedOf_1 := dk_seg dksX1_rememberedOf_0 22 rfl rfl
theorem dX1_rememberedOf_0 : decode cX1_rememberedOf 0 = .ok (.iload_n 1, 1) := dk_27 (dk_at dksX1_rememberedOf_0 0 rfl rfl)
theorem dX1_rememberedOf_1 : decode cX1_rememberedOf 1 = .ok (.invokestatic 108, 3) := dk_184 0 108 (dk_at dksX1_rememberedOf_0 1 rfl rfl)
theorem dX1_rememberedOf_4 : decode cX1_rememberedOf 4 = .ok (.aload_n 0, 1) := dk_42 (dk_at dksX1_rememberedOf_0 4 rfl rfl)
theorem dX1_rememberedOf_5 : decode cX1_rememberedOf 5 = .ok (.getfield 36, 3) := dk_180 0 36 (dk_at dksX1_rememberedOf_0 5 rfl rfl)
theorem dX1_rememberedOf_8 : decode cX1_rememberedOf 8 = .ok (.getfield 122, 3) := dk_180 0 122 (dk_at dksX1_rememberedOf_0 8 rfl rfl)
theorem dX1_rememberedOf_11 : decode cX1_rememberedOf 11 = .ok (.iconst 0, 1) := dk_3 (dk_at dksX1_rememberedOf_0 11 rfl rfl)
theorem dX1_rememberedOf_12 : decode cX1_rememberedOf 12 = .ok (.iload_n 1, 1) := dk_27 (dk_at dksX1_rememberedOf_0 12 rfl rfl)
theorem dX1_rememberedOf_13 : decode cX1_rememberedOf 13 = .ok (.invokevirtual 126, 3) := dk_182 0 126 (dk_at dksX1_rememberedOf_0 13 rfl rfl)
theorem dX1_rememberedOf_16 : decode cX1_rememberedOf 16 = .ok (.astore_n 2, 1) := dk_77 (dk_at dksX1_rememberedOf_0 16 rfl rfl)
theorem dX1_rememberedOf_17 : decode cX1_rememberedOf 17 = .ok (.aload_n 2, 1) := dk_44 (dk_at dksX1_rememberedOf_0 17 rfl rfl)
theorem dX1_rememberedOf_18 : decode cX1_rememberedOf 18 = .ok (.ifnonnull 7, 3) := dk_199 0 7 (dk_at dksX1_rememberedOf_0 18 rfl rfl)
theorem dX1_rememberedOf_21 : decode cX1_rememberedOf 21 = .ok (.iconst 0, 1) := dk_3 (dk_at dksX1_rememberedOf_0 21 rfl rfl)
theorem dX1_rememberedOf_22 : decode cX1_rememberedOf 22 = .ok (.goto 7, 3) := dk_167 0 7 (dk_at dksX1_rememberedOf_1 0 rfl rfl)
theorem dX1_rememberedOf_25 : decode cX1_rememberedOf 25 = .ok (.aload_n 2, 1) := dk_44 (dk_at dksX1_rememberedOf_1 3 rfl rfl)
theorem dX1_rememberedOf_26 : decode cX1_rememberedOf 26 = .ok (.getfield 134, 3) := dk_180 0 134 (dk_at dksX1_rememberedOf_1 4 rfl rfl)
theorem dX1_rememberedOf_29 : decode cX1_rememberedOf 29 = .ok (.ireturn, 1) := dk_172 (dk_at dksX1_rememberedOf_1 7 rfl rfl)
def dkwX1_checkRiddle_0 : List UInt8 := [26, 16, 36, 184, 0, 80, 177]
abbrev dktX1_checkRiddle_0 : List UInt8 := dkwX1_checkRiddle_0 ++ []
theorem dksX1_checkRiddle_0 : cX1_checkRiddle.data.toList.drop 0 = dktX1_checkRiddle_0 := by decide +kernel
theorem dX1_checkRiddle_0 : decode cX1_checkRiddle 0 = .ok (.iload_n 0, 1) := dk_26 (dk_at dksX1_checkRiddle_0 0 rfl rfl)
theorem dX1_checkRiddle_1 : decode cX1_checkRiddle 1 = .ok (.bipush 36, 2) := dk_16 36 (dk_at dksX1_checkRiddle_0 1 rfl rfl)
theorem dX1_checkRiddle_3 : decode cX1_checkRiddle 3 = .ok (.invokestatic 80, 3) := dk_184 0 80 (dk_at dksX1_checkRiddle_0 3 rfl rfl)
theorem dX1_checkRiddle_6 : decode cX1_checkRiddle 6 = .ok (.return_, 1) := dk_177 (dk_at dksX1_checkRiddle_0 6 rfl rfl)
def dkwX1_ticksLeftOf_0 : List UInt8 := [27, 184, 0, 108, 42, 42, 180, 0, 36, 180, 0, 122, 3, 27, 182, 0, 126, 182, 0, 158, 172]
abbrev dktX1_ticksLeftOf_0 : List UInt8 := dkwX1_ticksLeftOf_0 ++ []
theorem dksX1_ticksLeftOf_0 : cX1_ticksLeftOf.data.toList.drop 0 = dktX1_ticksLeftOf_0 := by decide +kernel
theorem dX1_ticksLeftOf_0 : decode cX1_ticksLeftOf 0 = .ok (.iload_n 1, 1) := dk_27 (dk_at dksX1_ticksLeftOf_0 0 rfl rfl)
theorem dX1_ticksLeftOf_1 : decode cX1_ticksLeftOf 1 = .ok (.invokestatic 108, 3) := dk_184 0 108 (dk_at dksX1_ticksLeftOf_0 1 rfl rfl)
theorem dX1_ticksLeftOf_4 : decode cX1_ticksLeftOf 4 = .ok (.aload_n 0, 1) := dk_42 (dk_at dksX1_ticksLeftOf_0 4 rfl rfl)
theorem dX1_ticksLeftOf_5 : decode cX1_ticksLeftOf 5 = .ok (.aload_n 0, 1) := dk_42 (dk_at dksX1_ticksLeftOf_0 5 rfl rfl)
theorem dX1_ticksLeftOf_6 : decode cX1_ticksLeftOf 6 = .ok (.getfield 36, 3) := dk_180 0 36 (dk_at dksX1_ticksLeftOf_0 6 rfl rfl)
theorem dX1_ticksLeftOf_9 : decode cX1_ticksLeftOf 9 = .ok (.getfield 122, 3) := dk_180 0 122 (dk_at dksX1_ticksLeftOf_0 9 rfl rfl)
theorem dX1_ticksLeftOf_12 : decode cX1_ticksLeftOf 12 = .ok (.iconst 0, 1) := dk_3 (dk_at dksX1_ticksLeftOf_0 12 rfl rfl)
theorem dX1_ticksLeftOf_13 : decode cX1_ticksLeftOf 13 = .ok (.iload_n 1, 1) := dk_27 (dk_at dksX1_ticksLeftOf_0 13 rfl rfl)
theorem dX1_ticksLeftOf_14 : decode cX1_ticksLeftOf 14 = .ok (.invokevirtual 126, 3) := dk_182 0 126 (dk_at dksX1_ticksLeftOf_0 14 rfl rfl)
theorem dX1_ticksLeftOf_17 : decode cX1_ticksLeftOf 17 = .ok (.invokevirtual 158, 3) := dk_182 0 158 (dk_at dksX1_ticksLeftOf_0 17 rfl rfl)
theorem dX1_ticksLeftOf_20 : decode cX1_ticksLeftOf 20 = .ok (.ireturn, 1) := dk_172 (dk_at dksX1_ticksLeftOf_0 20 rfl rfl)
def dkwX1_isOutOfDate_2 : List UInt8 := [160, 0, 14, 44, 180, 0, 189, 45, 180, 0, 189, 159, 0, 7, 4, 167, 0, 4, 3, 172]
abbrev dktX1_isOutOfDate_2 : List UInt8 := dkwX1_isOutOfDate_2 ++ []
def dkwX1_isOutOfDate_1 : List UInt8 := [27, 42, 180, 0, 36, 180, 0, 140, 182, 0, 185, 78, 44, 198, 0, 29, 44, 180, 0, 134, 45, 180, 0, 134]
abbrev dktX1_isOutOfDate_1 : List UInt8 := dkwX1_isOutOfDate_1 ++ dktX1_isOutOfDate_2
def dkwX1_isOutOfDate_0 : List UInt8 := [27, 184, 0, 108, 42, 180, 0, 36, 180, 0, 122, 3, 27, 182, 0, 126, 77, 42, 180, 0, 36, 180, 0, 91]
abbrev dktX1_isOutOfDate_0 : List UInt8 := dkwX1_isOutOfDate_0 ++ dktX1_isOutOfDate_1
theorem dksX1_isOutOfDate_0 : cX1_isOutOfDate.data.toList.drop 0 = dktX1_isOutOfDate_0 := by decide +kernel
theorem dksX1_isOutOfDate_1 : cX1_isOutOfDate.data.toList.drop 24 = dktX1_isOutOfDate_1 := dk_seg dksX1_isOutOfDate_0 24 rfl rfl
theorem dksX1_isOutOfDate_2 : cX1_isOutOfDate.data.toList.drop 48 = dktX1_isOutOfDate_2 := dk_seg dksX1_isOutOfDate_1 24 rfl rfl
theorem dX1_isOutOfDate_0 : decode cX1_isOutOfDate 0 = .ok (.iload_n 1, 1) := dk_27 (dk_at dksX1_isOutOfDate_0 0 rfl rfl)
theorem dX1_isOutOfDate_1 : decode cX1_isOutOfDate 1 = .ok (.invokestatic 108, 3) := dk_184 0 108 (dk_at dksX1_isOutOfDate_0 1 rfl rfl)
theorem dX1_isOutOfDate_4 : decode cX1_isOutOfDate 4 = .ok (.aload_n 0, 1) := dk_42 (dk_at dksX1_isOutOfDate_0 4 rfl rfl)
theorem dX1_isOutOfDate_5 : decode cX1_isOutOfDate 5 = .ok (.getfield 36, 3) := dk_180 0 36 (dk_at dksX1_isOutOfDate_0 5 rfl rfl)
theorem dX1_isOutOfDate_8 : decode cX1_isOutOfDate 8 = .ok (.getfield 122, 3) := dk_180 0 122 (dk_at dksX1_isOutOfDate_0 8 rfl rfl)
theorem dX1_isOutOfDate_11 : decode cX1_isOutOfDate 11 = .ok (.iconst 0, 1) := dk_3 (dk_at dksX1_isOutOfDate_0 11 rfl rfl)
theorem dX1_isOutOfDate_12 : decode cX1_isOutOfDate 12 = .ok (.iload_n 1, 1) := dk_27 (dk_at dksX1_isOutOfDate_0 12 rfl rfl)
theorem dX1_isOutOfDate_13 : decode cX1_isOutOfDate 13 = .ok (.invokevirtual 126, 3) := dk_182 0 126 (dk_at dksX1_isOutOfDate_0 13 rfl rfl)
theorem dX1_isOutOfDate_16 : decode cX1_isOutOfDate 16 = .ok (.astore_n 2, 1) := dk_77 (dk_at dksX1_isOutOfDate_0 16 rfl rfl)
theorem dX1_isOutOfDate_17 : decode cX1_isOutOfDate 17 = .ok (.aload_n 0, 1) := dk_42 (dk_at dksX1_isOutOfDate_0 17 rfl rfl)
theorem dX1_isOutOfDate_18 : decode cX1_isOutOfDate 18 = .ok (.getfield 36, 3) := dk_180 0 36 (dk_at dksX1_isOutOfDate_0 18 rfl rfl)
theorem dX1_isOutOfDate_21 : decode cX1_isOutOfDate 21 = .ok (.getfield 91, 3) := dk_180 0 91 (dk_at dksX1_isOutOfDate_0 21 rfl rfl)
theorem dX1_isOutOfDate_24 : decode cX1_isOutOfDate 24 = .ok (.iload_n 1, 1) := dk_27 (dk_at dksX1_isOutOfDate_1 0 rfl rfl)
theorem dX1_isOutOfDate_25 : decode cX1_isOutOfDate 25 = .ok (.aload_n 0, 1) := dk_42 (dk_at dksX1_isOutOfDate_1 1 rfl rfl)
theorem dX1_isOutOfDate_26 : decode cX1_isOutOfDate 26 = .ok (.getfield 36, 3) := dk_180 0 36 (dk_at dksX1_isOutOfDate_1 2 rfl rfl)
theorem dX1_isOutOfDate_29 : decode cX1_isOutOfDate 29 = .ok (.getfield 140, 3) := dk_180 0 140 (dk_at dksX1_isOutOfDate_1 5 rfl rfl)
theorem dX1_isOutOfDate_32 : decode cX1_isOutOfDate 32 = .ok (.invokevirtual 185, 3) := dk_182 0 185 (dk_at dksX1_isOutOfDate_1 8 rfl rfl)
theorem dX1_isOutOfDate_35 : decode cX1_isOutOfDate 35 = .ok (.astore_n 3, 1) := dk_78 (dk_at dksX1_isOutOfDate_1 11 rfl rfl)
theorem dX1_isOutOfDate_36 : decode cX1_isOutOfDate 36 = .ok (.aload_n 2, 1) := dk_44 (dk_at dksX1_isOutOfDate_1 12 rfl rfl)
theorem dX1_isOutOfDate_37 : decode cX1_isOutOfDate 37 = .ok (.ifnull 29, 3) := dk_198 0 29 (dk_at dksX1_isOutOfDate_1 13 rfl rfl)
theorem dX1_isOutOfDate_40 : decode cX1_isOutOfDate 40 = .ok (.aload_n 2, 1) := dk_44 (dk_at dksX1_isOutOfDate_1 16 rfl rfl)
theorem dX1_isOutOfDate_41 : decode cX1_isOutOfDate 41 = .ok (.getfield 134, 3) := dk_180 0 134 (dk_at dksX1_isOutOfDate_1 17 rfl rfl)
theorem dX1_isOutOfDate_44 : decode cX1_isOutOfDate 44 = .ok (.aload_n 3, 1) := dk_45 (dk_at dksX1_isOutOfDate_1 20 rfl rfl)
theorem dX1_isOutOfDate_45 : decode cX1_isOutOfDate 45 = .ok (.getfield 134, 3) := dk_180 0 134 (dk_at dksX1_isOutOfDate_1 21 rfl rfl)
theorem dX1_isOutOfDate_48 : decode cX1_isOutOfDate 48 = .ok (.if_icmp .ne 14, 3) := dk_160 0 14 (dk_at dksX1_isOutOfDate_2 0 rfl rfl)
theorem dX1_isOutOfDate_51 : decode cX1_isOutOfDate 51 = .ok (.aload_n 2, 1) := dk_44 (dk_at dksX1_isOutOfDate_2 3 rfl rfl)
theorem dX1_isOutOfDate_52 : decode cX1_isOutOfDate 52 = .ok (.getfield 189, 3) := dk_180 0 189 (dk_at dksX1_isOutOfDate_2 4 rfl rfl)
theorem dX1_isOutOfDate_55 : decode cX1_isOutOfDate 55 = .ok (.aload_n 3, 1) := dk_45 (dk_at dksX1_isOutOfDate_2 7 rfl rfl)
theorem dX1_isOutOfDate_56 : decode cX1_isOutOfDate 56 = .ok (.getfield 189, 3) := dk_180 0 189 (dk_at dksX1_isOutOfDate_2 8 rfl rfl)
theorem dX1_isOutOfDate_59 : decode cX1_isOutOfDate 59 = .ok (.if_icmp .eq 7, 3) := dk_159 0 7 (dk_at dksX1_isOutOfDate_2 11 rfl rfl)
theorem dX1_isOutOfDate_62 : decode cX1_isOutOfDate 62 = .ok (.iconst 1, 1) := dk_4 (dk_at dksX1_isOutOfDate_2 14 rfl rfl)
theorem dX1_isOutOfDate_63 : decode cX1_isOutOfDate 63 = .ok (.goto 4, 3) := dk_167 0 4 (dk_at dksX1_isOutOfDate_2 15 rfl rfl)
theorem dX1_isOutOfDate_66 : decode cX1_isOutOfDate 66 = .ok (.iconst 0, 1) := dk_3 (dk_at dksX1_isOutOfDate_2 18 rfl rfl)
theorem dX1_isOutOfDate_67 : decode cX1_isOutOfDate 67 = .ok (.ireturn, 1) := dk_172 (dk_at dksX1_isOutOfDate_2 19 rfl rfl)
def dkwX1_setParent_1 : List UInt8 := [180, 0, 91, 180, 0, 95, 27, 46, 62, 42, 180, 0, 36, 180, 0, 91, 180, 0, 95, 27, 28, 79, 29, 172]
abbrev dktX1_setParent_1 : List UInt8 := dkwX1_setParent_1 ++ []
def dkwX1_setParent_0 : List UInt8 := [27, 4, 100, 8, 184, 0, 80, 28, 3, 27, 4, 100, 184, 0, 84, 42, 182, 0, 88, 42, 180, 0, 36]
abbrev dktX1_setParent_0 : List UInt8 := dkwX1_setParent_0 ++ dktX1_setParent_1
theorem dksX1_setParent_0 : cX1_setParent.data.toList.drop 0 = dktX1_setParent_0 := by decide +kernel
theorem dksX1_setParent_1 : cX1_setParent.data.toList.drop 23 = dktX1_setParent_1 := dk_seg dksX1_setParent_0 23 rfl rfl
theorem dX1_setParent_0 : decode cX1_setParent 0 = .ok (.iload_n 1, 1) := dk_27 (dk_at dksX1_setParent_0 0 rfl rfl)
theorem dX1_setParent_1 : decode cX1_setParent 1 = .ok (.iconst 1, 1) := dk_4 (dk_at dksX1_setParent_0 1 rfl rfl)
theorem dX1_setParent_2 : decode cX1_setParent 2 = .ok (.isub, 1) := dk_100 (dk_at dksX1_setParent_0 2 rfl rfl)
theorem dX1_setParent_3 : decode cX1_setParent 3 = .ok (.iconst 5, 1) := dk_8 (dk_at dksX1_setParent_0 3 rfl rfl)
theorem dX1_setParent_4 : decode cX1_setParent 4 = .ok (.invokestatic 80, 3) := dk_184 0 80 (dk_at dksX1_setParent_0 4 rfl rfl)
theorem dX1_setParent_7 : decode cX1_setParent 7 = .ok (.iload_n 2, 1) := dk_28 (dk_at dksX1_setParent_0 7 rfl rfl)
theorem dX1_setParent_8 : decode cX1_setParent 8 = .ok (.iconst 0, 1) := dk_3 (dk_at dksX1_setParent_0 8 rfl rfl)
theorem dX1_setParent_9 : decode cX1_setParent 9 = .ok (.iload_n 1, 1) := dk_27 (dk_at dksX1_setParent_0 9 rfl rfl)
theorem dX1_setParent_10 : decode cX1_setParent 10 = .ok (.iconst 1, 1) := dk_4 (dk_at dksX1_setParent_0 10 rfl rfl)
theorem dX1_setParent_11 : decode cX1_setParent 11 = .ok (.isub, 1) := dk_100 (dk_at dksX1_setParent_0 11 rfl rfl)
theorem dX1_setParent_12 : decode cX1_setParent 12 = .ok (.invokestatic 84, 3) := dk_184 0 84 (dk_at dksX1_setParent_0 12 rfl rfl)
theorem dX1_setParent_15 : decode cX1_setParent 15 = .ok (.aload_n 0, 1) := dk_42 (dk_at dksX1_setParent_0 15 rfl rfl)
theorem dX1_setParent_16 : decode cX1_setParent 16 = .ok (.invokevirtual 88, 3) := dk_182 0 88 (dk_at dksX1_setParent_0 16 rfl rfl)
theorem dX1_setParent_19 : decode cX1_setParent 19 = .ok (.aload_n 0, 1) := dk_42 (dk_at dksX1_setParent_0 19 rfl rfl)
theorem dX1_setParent_20 : decode cX1_setParent 20 = .ok (.getfield 36, 3) := dk_180 0 36 (dk_at dksX1_setParent_0 20 rfl rfl)
theorem dX1_setParent_23 : decode cX1_setParent 23 = .ok (.getfield 91, 3) := dk_180 0 91 (dk_at dksX1_setParent_1 0 rfl rfl)
theorem dX1_setParent_26 : decode cX1_setParent 26 = .ok (.getfield 95, 3) := dk_180 0 95 (dk_at dksX1_setParent_1 3 rfl rfl)
theorem dX1_setParent_29 : decode cX1_setParent 29 = .ok (.iload_n 1, 1) := dk_27 (dk_at dksX1_setParent_1 6 rfl rfl)
theorem dX1_setParent_30 : decode cX1_setParent 30 = .ok (.iaload, 1) := dk_46 (dk_at dksX1_setParent_1 7 rfl rfl)
theorem dX1_setParent_31 : decode cX1_setParent 31 = .ok (.istore_n 3, 1) := dk_62 (dk_at dksX1_setParent_1 8 rfl rfl)
theorem dX1_setParent_32 : decode cX1_setParent 32 = .ok (.aload_n 0, 1) := dk_42 (dk_at dksX1_setParent_1 9 rfl rfl)
theorem dX1_setParent_33 : decode cX1_setParent 33 = .ok (.getfield 36, 3) := dk_180 0 36 (dk_at dksX1_setParent_1 10 rfl rfl)
theorem dX1_setParent_36 : decode cX1_setParent 36 = .ok (.getfield 91, 3) := dk_180 0 91 (dk_at dksX1_setParent_1 13 rfl rfl)
theorem dX1_setParent_39 : decode cX1_setParent 39 = .ok (.getfield 95, 3) := dk_180 0 95 (dk_at dksX1_setParent_1 16 rfl rfl)
theorem dX1_setParent_42 : decode cX1_setParent 42 = .ok (.iload_n 1, 1) := dk_27 (dk_at dksX1_setParent_1 19 rfl rfl)
theorem dX1_setParent_43 : decode cX1_setParent 43 = .ok (.iload_n 2, 1) := dk_28 (dk_at dksX1_setParent_1 20 rfl rfl)
theorem dX1_setParent_44 : decode cX1_setParent 44 = .ok (.iastore, 1) := dk_79 (dk_at dksX1_setParent_1 21 rfl rfl)
theorem dX1_setParent_45 : decode cX1_setParent 45 = .ok (.iload_n 3, 1) := dk_29 (dk_at dksX1_setParent_1 22 rfl rfl)
theorem dX1_setParent_46 : decode cX1_setParent 46 = .ok (.ireturn, 1) := dk_172 (dk_at dksX1_setParent_1 23 rfl rfl)
def dkwX1_checkRange_0 : List UInt8 := [26, 27, 28, 184, 0, 3, 154, 0, 11, 187, 0, 7, 89, 183, 0, 9, 191, 177]
abbrev dktX1_checkRange_0 : List UInt8 := dkwX1_checkRange_0 ++ []
theorem dksX1_checkRange_0 : cX1_checkRange.data.toList.drop 0 = dktX1_checkRange_0 := by decide +kernel
theorem dX1_checkRange_0 : decode cX1_checkRange 0 = .ok (.iload_n 0, 1) := dk_26 (dk_at dksX1_checkRange_0 0 rfl rfl)
theorem dX1_checkRange_1 : decode cX1_checkRange 1 = .ok (.iload_n 1, 1) := dk_27 (dk_at dksX1_checkRange_0 1 rfl rfl)
theorem dX1_checkRange_2 : decode cX1_checkRange 2 = .ok (.iload_n 2, 1) := dk_28 (dk_at dksX1_checkRange_0 2 rfl rfl)
theorem dX1_checkRange_3 : decode cX1_checkRange 3 = .ok (.invokestatic 3, 3) := dk_184 0 3 (dk_at dksX1_checkRange_0 3 rfl rfl)
theorem dX1_checkRange_6 : decode cX1_checkRange 6 = .ok (.ifCond .ne 11, 3) := dk_154 0 11 (dk_at dksX1_checkRange_0 6 rfl rfl)
theorem dX1_checkRange_9 : decode cX1_checkRange 9 = .ok (.new 7, 3) := dk_187 0 7 (dk_at dksX1_checkRange_0 9 rfl rfl)
theorem dX1_checkRange_12 : decode cX1_checkRange 12 = .ok (.dup, 1) := dk_89 (dk_at dksX1_checkRange_0 12 rfl rfl)
theorem dX1_checkRange_13 : decode cX1_checkRange 13 = .ok (.invokespecial 9, 3) := dk_183 0 9 (dk_at dksX1_checkRange_0 13 rfl rfl)
theorem dX1_checkRange_16 : decode cX1_checkRange 16 = .ok (.athrow, 1) := dk_191 (dk_at dksX1_checkRange_0 16 rfl rfl)
theorem dX1_checkRange_17 : decode cX1_checkRange 17 = .ok (.return_, 1) := dk_177 (dk_at dksX1_checkRange_0 17 rfl rfl)
def dkwX1_save_1 : List UInt8 := [180, 0, 43, 42, 180, 0, 36, 182, 0, 64, 182, 0, 68, 87, 177]
abbrev dktX1_save_1 : List UInt8 := dkwX1_save_1 ++ []
def dkwX1_save_0 : List UInt8 := [42, 180, 0, 43, 182, 0, 56, 16, 6, 160, 0, 12, 42, 180, 0, 43, 3, 182, 0, 60, 87, 42]
abbrev dktX1_save_0 : List UInt8 := dkwX1_save_0 ++ dktX1_save_1
theorem dksX1_save_0 : cX1_save.data.toList.drop 0 = dktX1_save_0 := by decide +kernel
theorem dksX1_save_1 : cX1_save.data.toList.drop 22 = dktX1_save_1 := dk_seg dksX1_save_0 22 rfl rfl
theorem dX1_save_0 : decode cX1_save 0 = .ok (.aload_n 0, 1) := dk_42 (dk_at dksX1_save_0 0 rfl rfl)
theorem dX1_save_1 : decode cX1_save 1 = .ok (.getfield 43, 3) := dk_180 0 43 (dk_at dksX1_save_0 1 rfl rfl)
theorem dX1_save_4 : decode cX1_save 4 = .ok (.invokevirtual 56, 3) := dk_182 0 56 (dk_at dksX1_save_0 4 rfl rfl)
theorem dX1_save_7 : decode cX1_save 7 = .ok (.bipush 6, 2) := dk_16 6 (dk_at dksX1_save_0 7 rfl rfl)
theorem dX1_save_9 : decode cX1_save 9 = .ok (.if_icmp .ne 12, 3) := dk_160 0 12 (dk_at dksX1_save_0 9 rfl rfl)
theorem dX1_save_12 : decode cX1_save 12 = .ok (.aload_n 0, 1) := dk_42 (dk_at dksX1_save_0 12 rfl rfl)
theorem dX1_save_13 : decode cX1_save 13 = .ok (.getfield 43, 3) := dk_180 0 43 (dk_at dksX1_save_0 13 rfl rfl)
theorem dX1_save_16 : decode cX1_save 16 = .ok (.iconst 0, 1) := dk_3 (dk_at dksX1_save_0 16 rfl rfl)
theorem dX1_save_17 : decode cX1_save 17 = .ok (.invokevirtual 60, 3) := dk_182 0 60 (dk_at dksX1_save_0 17 rfl rfl)
theorem dX1_save_20 : decode cX1_save 20 = .ok (.pop, 1) := dk_87 (dk_at dksX1_save_0 20 rfl rfl)
theorem dX1_save_21 : decode cX1_save 21 = .ok (.aload_n 0, 1) := dk_42 (dk_at dksX1_save_0 21 rfl rfl)
theorem dX1_save_22 : decode cX1_save 22 = .ok (.getfield 43, 3) := dk_180 0 43 (dk_at dksX1_save_1 0 rfl rfl)
theorem dX1_save_25 : decode cX1_save 25 = .ok (.aload_n 0, 1) := dk_42 (dk_at dksX1_save_1 3 rfl rfl)
theorem dX1_save_26 : decode cX1_save 26 = .ok (.getfield 36, 3) := dk_180 0 36 (dk_at dksX1_save_1 4 rfl rfl)
theorem dX1_save_29 : decode cX1_save 29 = .ok (.invokevirtual 64, 3) := dk_182 0 64 (dk_at dksX1_save_1 7 rfl rfl)
theorem dX1_save_32 : decode cX1_save 32 = .ok (.invokevirtual 68, 3) := dk_182 0 68 (dk_at dksX1_save_1 10 rfl rfl)
theorem dX1_save_35 : decode cX1_save 35 = .ok (.pop, 1) := dk_87 (dk_at dksX1_save_1 13 rfl rfl)
theorem dX1_save_36 : decode cX1_save 36 = .ok (.return_, 1) := dk_177 (dk_at dksX1_save_1 14 rfl rfl)
def dkwX1_setAges_2 : List UInt8 := [28, 79, 42, 180, 0, 36, 180, 0, 91, 180, 0, 105, 27, 29, 79, 21, 4, 172]
abbrev dktX1_setAges_2 : List UInt8 := dkwX1_setAges_2 ++ []
def dkwX1_setAges_1 : List UInt8 := [180, 0, 36, 180, 0, 91, 180, 0, 102, 27, 46, 54, 4, 42, 180, 0, 36, 180, 0, 91, 180, 0, 102, 27]
abbrev dktX1_setAges_1 : List UInt8 := dkwX1_setAges_1 ++ dktX1_setAges_2
def dkwX1_setAges_0 : List UInt8 := [27, 184, 0, 99, 28, 4, 16, 99, 184, 0, 84, 29, 4, 16, 99, 184, 0, 84, 42, 182, 0, 88, 42]
abbrev dktX1_setAges_0 : List UInt8 := dkwX1_setAges_0 ++ dktX1_setAges_1
theorem dksX1_setAges_0 : cX1_setAges.data.toList.drop 0 = dktX1_setAges_0 := by decide +kernel
theorem dksX1_setAges_1 : cX1_setAges.data.toList.drop 23 = dktX1_setAges_1 := dk_seg dksX1_setAges_0 23 rfl rfl
theorem dksX1_setAges_2 : cX1_setAges.data.toList.drop 47 = dktX1_setAges_2 := dk_seg dksX1_setAges_1 24 rfl rfl
theorem dX1_setAges_0 : decode cX1_setAges 0 = .ok (.iload_n 1, 1) := dk_27 (dk_at dksX1_setAges_0 0 rfl rfl)
theorem dX1_setAges_1 : decode cX1_setAges 1 = .ok (.invokestatic 99, 3) := dk_184 0 99 (dk_at dksX1_setAges_0 1 rfl rfl)
theorem dX1_setAges_4 : decode cX1_setAges 4 = .ok (.iload_n 2, 1) := dk_28 (dk_at dksX1_setAges_0 4 rfl rfl)
theorem dX1_setAges_5 : decode cX1_setAges 5 = .ok (.iconst 1, 1) := dk_4 (dk_at dksX1_setAges_0 5 rfl rfl)
theorem dX1_setAges_6 : decode cX1_setAges 6 = .ok (.bipush 99, 2) := dk_16 99 (dk_at dksX1_setAges_0 6 rfl rfl)
theorem dX1_setAges_8 : decode cX1_setAges 8 = .ok (.invokestatic 84, 3) := dk_184 0 84 (dk_at dksX1_setAges_0 8 rfl rfl)
theorem dX1_setAges_11 : decode cX1_setAges 11 = .ok (.iload_n 3, 1) := dk_29 (dk_at dksX1_setAges_0 11 rfl rfl)
theorem dX1_setAges_12 : decode cX1_setAges 12 = .ok (.iconst 1, 1) := dk_4 (dk_at dksX1_setAges_0 12 rfl rfl)
theorem dX1_setAges_13 : decode cX1_setAges 13 = .ok (.bipush 99, 2) := dk_16 99 (dk_at dksX1_setAges_0 13 rfl rfl)
theorem dX1_setAges_15 : decode cX1_setAges 15 = .ok (.invokestatic 84, 3) := dk_184 0 84 (dk_at dksX1_setAges_0 15 rfl rfl)
theorem dX1_setAges_18 : decode cX1_setAges 18 = .ok (.aload_n 0, 1) := dk_42 (dk_at dksX1_setAges_0 18 rfl rfl)
theorem dX1_setAges_19 : decode cX1_setAges 19 = .ok (.invokevirtual 88, 3) := dk_182 0 88 (dk_at dksX1_setAges_0 19 rfl rfl)
theorem dX1_setAges_22 : decode cX1_setAges 22 = .ok (.aload_n 0, 1) := dk_42 (dk_at dksX1_setAges_0 22 rfl rfl)
theorem dX1_setAges_23 : decode cX1_setAges 23 = .ok (.getfield 36, 3) := dk_180 0 36 (dk_at dksX1_setAges_1 0 rfl rfl)
theorem dX1_setAges_26 : decode cX1_setAges 26 = .ok (.getfield 91, 3) := dk_180 0 91 (dk_at dksX1_setAges_1 3 rfl rfl)
theorem dX1_setAges_29 : decode cX1_setAges 29 = .ok (.getfield 102, 3) := dk_180 0 102 (dk_at dksX1_setAges_1 6 rfl rfl)
theorem dX1_setAges_32 : decode cX1_setAges 32 = .ok (.iload_n 1, 1) := dk_27 (dk_at dksX1_setAges_1 9 rfl rfl)
theorem dX1_setAges_33 : decode cX1_setAges 33 = .ok (.iaload, 1) := dk_46 (dk_at dksX1_setAges_1 10 rfl rfl)
theorem dX1_setAges_34 : decode cX1_setAges 34 = .ok (.istore 4, 2) := dk_54 4 (dk_at dksX1_setAges_1 11 rfl rfl)
theorem dX1_setAges_36 : decode cX1_setAges 36 = .ok (.aload_n 0, 1) := dk_42 (dk_at dksX1_setAges_1 13 rfl rfl)
theorem dX1_setAges_37 : decode cX1_setAges 37 = .ok (.getfield 36, 3) := dk_180 0 36 (dk_at dksX1_setAges_1 14 rfl rfl)
theorem dX1_setAges_40 : decode cX1_setAges 40 = .ok (.getfield 91, 3) := dk_180 0 91 (dk_at dksX1_setAges_1 17 rfl rfl)
theorem dX1_setAges_43 : decode cX1_setAges 43 = .ok (.getfield 102, 3) := dk_180 0 102 (dk_at dksX1_setAges_1 20 rfl rfl)
theorem dX1_setAges_46 : decode cX1_setAges 46 = .ok (.iload_n 1, 1) := dk_27 (dk_at dksX1_setAges_1 23 rfl rfl)
theorem dX1_setAges_47 : decode cX1_setAges 47 = .ok (.iload_n 2, 1) := dk_28 (dk_at dksX1_setAges_2 0 rfl rfl)
theorem dX1_setAges_48 : decode cX1_setAges 48 = .ok (.iastore, 1) := dk_79 (dk_at dksX1_setAges_2 1 rfl rfl)
theorem dX1_setAges_49 : decode cX1_setAges 49 = .ok (.aload_n 0, 1) := dk_42 (dk_at dksX1_setAges_2 2 rfl rfl)
theorem dX1_setAges_50 : decode cX1_setAges 50 = .ok (.getfield 36, 3) := dk_180 0 36 (dk_at dksX1_setAges_2 3 rfl rfl)
theorem dX1_setAges_53 : decode cX1_setAges 53 = .ok (.getfield 91, 3) := dk_180 0 91 (dk_at dksX1_setAges_2 6 rfl rfl)
theorem dX1_setAges_56 : decode cX1_setAges 56 = .ok (.getfield 105, 3) := dk_180 0 105 (dk_at dksX1_setAges_2 9 rfl rfl)
theorem dX1_setAges_59 : decode cX1_setAges 59 = .ok (.iload_n 1, 1) := dk_27 (dk_at dksX1_setAges_2 12 rfl rfl)
theorem dX1_setAges_60 : decode cX1_setAges 60 = .ok (.iload_n 3, 1) := dk_29 (dk_at dksX1_setAges_2 13 rfl rfl)
theorem dX1_setAges_61 : decode cX1_setAges 61 = .ok (.iastore, 1) := dk_79 (dk_at dksX1_setAges_2 14 rfl rfl)
theorem dX1_setAges_62 : decode cX1_setAges 62 = .ok (.iload 4, 2) := dk_21 4 (dk_at dksX1_setAges_2 15 rfl rfl)
theorem dX1_setAges_64 : decode cX1_setAges 64 = .ok (.ireturn, 1) := dk_172 (dk_at dksX1_setAges_2 17 rfl rfl)
def dkwX1_setAnswer_1 : List UInt8 := [180, 0, 36, 180, 0, 91, 27, 4, 28, 29, 182, 0, 111, 172]
abbrev dktX1_setAnswer_1 : List UInt8 := dkwX1_setAnswer_1 ++ []
def dkwX1_setAnswer_0 : List UInt8 := [27, 184, 0, 108, 28, 3, 16, 99, 184, 0, 84, 29, 4, 16, 99, 184, 0, 84, 42, 182, 0, 88, 42]
abbrev dktX1_setAnswer_0 : List UInt8 := dkwX1_setAnswer_0 ++ dktX1_setAnswer_1
theorem dksX1_setAnswer_0 : cX1_setAnswer.data.toList.drop 0 = dktX1_setAnswer_0 := by decide +kernel
theorem dksX1_setAnswer_1 : cX1_setAnswer.data.toList.drop 23 = dktX1_setAnswer_1 := dk_seg dksX1_setAnswer_0 23 rfl rfl
theorem dX1_setAnswer_0 : decode cX1_setAnswer 0 = .ok (.iload_n 1, 1) := dk_27 (dk_at dksX1_setAnswer_0 0 rfl rfl)
theorem dX1_setAnswer_1 : decode cX1_setAnswer 1 = .ok (.invokestatic 108, 3) := dk_184 0 108 (dk_at dksX1_setAnswer_0 1 rfl rfl)
theorem dX1_setAnswer_4 : decode cX1_setAnswer 4 = .ok (.iload_n 2, 1) := dk_28 (dk_at dksX1_setAnswer_0 4 rfl rfl)
theorem dX1_setAnswer_5 : decode cX1_setAnswer 5 = .ok (.iconst 0, 1) := dk_3 (dk_at dksX1_setAnswer_0 5 rfl rfl)
theorem dX1_setAnswer_6 : decode cX1_setAnswer 6 = .ok (.bipush 99, 2) := dk_16 99 (dk_at dksX1_setAnswer_0 6 rfl rfl)
theorem dX1_setAnswer_8 : decode cX1_setAnswer 8 = .ok (.invokestatic 84, 3) := dk_184 0 84 (dk_at dksX1_setAnswer_0 8 rfl rfl)
theorem dX1_setAnswer_11 : decode cX1_setAnswer 11 = .ok (.iload_n 3, 1) := dk_29 (dk_at dksX1_setAnswer_0 11 rfl rfl)
theorem dX1_setAnswer_12 : decode cX1_setAnswer 12 = .ok (.iconst 1, 1) := dk_4 (dk_at dksX1_setAnswer_0 12 rfl rfl)
theorem dX1_setAnswer_13 : decode cX1_setAnswer 13 = .ok (.bipush 99, 2) := dk_16 99 (dk_at dksX1_setAnswer_0 13 rfl rfl)
theorem dX1_setAnswer_15 : decode cX1_setAnswer 15 = .ok (.invokestatic 84, 3) := dk_184 0 84 (dk_at dksX1_setAnswer_0 15 rfl rfl)
theorem dX1_setAnswer_18 : decode cX1_setAnswer 18 = .ok (.aload_n 0, 1) := dk_42 (dk_at dksX1_setAnswer_0 18 rfl rfl)
theorem dX1_setAnswer_19 : decode cX1_setAnswer 19 = .ok (.invokevirtual 88, 3) := dk_182 0 88 (dk_at dksX1_setAnswer_0 19 rfl rfl)
theorem dX1_setAnswer_22 : decode cX1_setAnswer 22 = .ok (.aload_n 0, 1) := dk_42 (dk_at dksX1_setAnswer_0 22 rfl rfl)
theorem dX1_setAnswer_23 : decode cX1_setAnswer 23 = .ok (.getfield 36, 3) := dk_180 0 36 (dk_at dksX1_setAnswer_1 0 rfl rfl)
theorem dX1_setAnswer_26 : decode cX1_setAnswer 26 = .ok (.getfield 91, 3) := dk_180 0 91 (dk_at dksX1_setAnswer_1 3 rfl rfl)
theorem dX1_setAnswer_29 : decode cX1_setAnswer 29 = .ok (.iload_n 1, 1) := dk_27 (dk_at dksX1_setAnswer_1 6 rfl rfl)
theorem dX1_setAnswer_30 : decode cX1_setAnswer 30 = .ok (.iconst 1, 1) := dk_4 (dk_at dksX1_setAnswer_1 7 rfl rfl)
theorem dX1_setAnswer_31 : decode cX1_setAnswer 31 = .ok (.iload_n 2, 1) := dk_28 (dk_at dksX1_setAnswer_1 8 rfl rfl)
theorem dX1_setAnswer_32 : decode cX1_setAnswer 32 = .ok (.iload_n 3, 1) := dk_29 (dk_at dksX1_setAnswer_1 9 rfl rfl)
theorem dX1_setAnswer_33 : decode cX1_setAnswer 33 = .ok (.invokevirtual 111, 3) := dk_182 0 111 (dk_at dksX1_setAnswer_1 10 rfl rfl)
theorem dX1_setAnswer_36 : decode cX1_setAnswer 36 = .ok (.ireturn, 1) := dk_172 (dk_at dksX1_setAnswer_1 13 rfl rfl)
def dkwX1_setReference_1 : List UInt8 := [184, 0, 84, 42, 182, 0, 88, 42, 180, 0, 36, 180, 0, 91, 27, 5, 28, 29, 182, 0, 111, 172]
abbrev dktX1_setReference_1 : List UInt8 := dkwX1_setReference_1 ++ []
def dkwX1_setReference_0 : List UInt8 := [27, 184, 0, 108, 28, 184, 0, 108, 29, 27, 28, 160, 0, 8, 16, 100, 167, 0, 4, 4, 16, 99]
abbrev dktX1_setReference_0 : List UInt8 := dkwX1_setReference_0 ++ dktX1_setReference_1
theorem dksX1_setReference_0 : cX1_setReference.data.toList.drop 0 = dktX1_setReference_0 := by decide +kernel
theorem dksX1_setReference_1 : cX1_setReference.data.toList.drop 22 = dktX1_setReference_1 := dk_seg dksX1_setReference_0 22 rfl rfl
theorem dX1_setReference_0 : decode cX1_setReference 0 = .ok (.iload_n 1, 1) := dk_27 (dk_at dksX1_setReference_0 0 rfl rfl)
theorem dX1_setReference_1 : decode cX1_setReference 1 = .ok (.invokestatic 108, 3) := dk_184 0 108 (dk_at dksX1_setReference_0 1 rfl rfl)
theorem dX1_setReference_4 : decode cX1_setReference 4 = .ok (.iload_n 2, 1) := dk_28 (dk_at dksX1_setReference_0 4 rfl rfl)
theorem dX1_setReference_5 : decode cX1_setReference 5 = .ok (.invokestatic 108, 3) := dk_184 0 108 (dk_at dksX1_setReference_0 5 rfl rfl)
theorem dX1_setReference_8 : decode cX1_setReference 8 = .ok (.iload_n 3, 1) := dk_29 (dk_at dksX1_setReference_0 8 rfl rfl)
theorem dX1_setReference_9 : decode cX1_setReference 9 = .ok (.iload_n 1, 1) := dk_27 (dk_at dksX1_setReference_0 9 rfl rfl)
theorem dX1_setReference_10 : decode cX1_setReference 10 = .ok (.iload_n 2, 1) := dk_28 (dk_at dksX1_setReference_0 10 rfl rfl)
theorem dX1_setReference_11 : decode cX1_setReference 11 = .ok (.if_icmp .ne 8, 3) := dk_160 0 8 (dk_at dksX1_setReference_0 11 rfl rfl)
theorem dX1_setReference_14 : decode cX1_setReference 14 = .ok (.bipush 100, 2) := dk_16 100 (dk_at dksX1_setReference_0 14 rfl rfl)
theorem dX1_setReference_16 : decode cX1_setReference 16 = .ok (.goto 4, 3) := dk_167 0 4 (dk_at dksX1_setReference_0 16 rfl rfl)
theorem dX1_setReference_19 : decode cX1_setReference 19 = .ok (.iconst 1, 1) := dk_4 (dk_at dksX1_setReference_0 19 rfl rfl)
theorem dX1_setReference_20 : decode cX1_setReference 20 = .ok (.bipush 99, 2) := dk_16 99 (dk_at dksX1_setReference_0 20 rfl rfl)
theorem dX1_setReference_22 : decode cX1_setReference 22 = .ok (.invokestatic 84, 3) := dk_184 0 84 (dk_at dksX1_setReference_1 0 rfl rfl)
theorem dX1_setReference_25 : decode cX1_setReference 25 = .ok (.aload_n 0, 1) := dk_42 (dk_at dksX1_setReference_1 3 rfl rfl)
theorem dX1_setReference_26 : decode cX1_setReference 26 = .ok (.invokevirtual 88, 3) := dk_182 0 88 (dk_at dksX1_setReference_1 4 rfl rfl)
theorem dX1_setReference_29 : decode cX1_setReference 29 = .ok (.aload_n 0, 1) := dk_42 (dk_at dksX1_setReference_1 7 rfl rfl)
theorem dX1_setReference_30 : decode cX1_setReference 30 = .ok (.getfield 36, 3) := dk_180 0 36 (dk_at dksX1_setReference_1 8 rfl rfl)
theorem dX1_setReference_33 : decode cX1_setReference 33 = .ok (.getfield 91, 3) := dk_180 0 91 (dk_at dksX1_setReference_1 11 rfl rfl)
theorem dX1_setReference_36 : decode cX1_setReference 36 = .ok (.iload_n 1, 1) := dk_27 (dk_at dksX1_setReference_1 14 rfl rfl)
theorem dX1_setReference_37 : decode cX1_setReference 37 = .ok (.iconst 2, 1) := dk_5 (dk_at dksX1_setReference_1 15 rfl rfl)
theorem dX1_setReference_38 : decode cX1_setReference 38 = .ok (.iload_n 2, 1) := dk_28 (dk_at dksX1_setReference_1 16 rfl rfl)
theorem dX1_setReference_39 : decode cX1_setReference 39 = .ok (.iload_n 3, 1) := dk_29 (dk_at dksX1_setReference_1 17 rfl rfl)
theorem dX1_setReference_40 : decode cX1_setReference 40 = .ok (.invokevirtual 111, 3) := dk_182 0 111 (dk_at dksX1_setReference_1 18 rfl rfl)
theorem dX1_setReference_43 : decode cX1_setReference 43 = .ok (.ireturn, 1) := dk_172 (dk_at dksX1_setReference_1 21 rfl rfl)
def dkwX1_takeAway_1 : List UInt8 := [184, 0, 76, 42, 182, 0, 88, 42, 180, 0, 36, 180, 0, 91, 27, 3, 2, 3, 182, 0, 111, 172]
abbrev dktX1_takeAway_1 : List UInt8 := dkwX1_takeAway_1 ++ []
def dkwX1_takeAway_0 : List UInt8 := [27, 184, 0, 108, 42, 180, 0, 36, 180, 0, 91, 180, 0, 115, 27, 46, 153, 0, 7, 4, 167, 0, 4, 3]
abbrev dktX1_takeAway_0 : List UInt8 := dkwX1_takeAway_0 ++ dktX1_takeAway_1
theorem dksX1_takeAway_0 : cX1_takeAway.data.toList.drop 0 = dktX1_takeAway_0 := by decide +kernel
theorem dksX1_takeAway_1 : cX1_takeAway.data.toList.drop 24 = dktX1_takeAway_1 := dk_seg dksX1_takeAway_0 24 rfl rfl
theorem dX1_takeAway_0 : decode cX1_takeAway 0 = .ok (.iload_n 1, 1) := dk_27 (dk_at dksX1_takeAway_0 0 rfl rfl)
theorem dX1_takeAway_1 : decode cX1_takeAway 1 = .ok (.invokestatic 108, 3) := dk_184 0 108 (dk_at dksX1_takeAway_0 1 rfl rfl)
theorem dX1_takeAway_4 : decode cX1_takeAway 4 = .ok (.aload_n 0, 1) := dk_42 (dk_at dksX1_takeAway_0 4 rfl rfl)
theorem dX1_takeAway_5 : decode cX1_takeAway 5 = .ok (.getfield 36, 3) := dk_180 0 36 (dk_at dksX1_takeAway_0 5 rfl rfl)
theorem dX1_takeAway_8 : decode cX1_takeAway 8 = .ok (.getfield 91, 3) := dk_180 0 91 (dk_at dksX1_takeAway_0 8 rfl rfl)
theorem dX1_takeAway_11 : decode cX1_takeAway 11 = .ok (.getfield 115, 3) := dk_180 0 115 (dk_at dksX1_takeAway_0 11 rfl rfl)
theorem dX1_takeAway_14 : decode cX1_takeAway 14 = .ok (.iload_n 1, 1) := dk_27 (dk_at dksX1_takeAway_0 14 rfl rfl)
theorem dX1_takeAway_15 : decode cX1_takeAway 15 = .ok (.iaload, 1) := dk_46 (dk_at dksX1_takeAway_0 15 rfl rfl)
theorem dX1_takeAway_16 : decode cX1_takeAway 16 = .ok (.ifCond .eq 7, 3) := dk_153 0 7 (dk_at dksX1_takeAway_0 16 rfl rfl)
theorem dX1_takeAway_19 : decode cX1_takeAway 19 = .ok (.iconst 1, 1) := dk_4 (dk_at dksX1_takeAway_0 19 rfl rfl)
theorem dX1_takeAway_20 : decode cX1_takeAway 20 = .ok (.goto 4, 3) := dk_167 0 4 (dk_at dksX1_takeAway_0 20 rfl rfl)
theorem dX1_takeAway_23 : decode cX1_takeAway 23 = .ok (.iconst 0, 1) := dk_3 (dk_at dksX1_takeAway_0 23 rfl rfl)
theorem dX1_takeAway_24 : decode cX1_takeAway 24 = .ok (.invokestatic 76, 3) := dk_184 0 76 (dk_at dksX1_takeAway_1 0 rfl rfl)
theorem dX1_takeAway_27 : decode cX1_takeAway 27 = .ok (.aload_n 0, 1) := dk_42 (dk_at dksX1_takeAway_1 3 rfl rfl)
theorem dX1_takeAway_28 : decode cX1_takeAway 28 = .ok (.invokevirtual 88, 3) := dk_182 0 88 (dk_at dksX1_takeAway_1 4 rfl rfl)
theorem dX1_takeAway_31 : decode cX1_takeAway 31 = .ok (.aload_n 0, 1) := dk_42 (dk_at dksX1_takeAway_1 7 rfl rfl)
theorem dX1_takeAway_32 : decode cX1_takeAway 32 = .ok (.getfield 36, 3) := dk_180 0 36 (dk_at dksX1_takeAway_1 8 rfl rfl)
theorem dX1_takeAway_35 : decode cX1_takeAway 35 = .ok (.getfield 91, 3) := dk_180 0 91 (dk_at dksX1_takeAway_1 11 rfl rfl)
theorem dX1_takeAway_38 : decode cX1_takeAway 38 = .ok (.iload_n 1, 1) := dk_27 (dk_at dksX1_takeAway_1 14 rfl rfl)
theorem dX1_takeAway_39 : decode cX1_takeAway 39 = .ok (.iconst 0, 1) := dk_3 (dk_at dksX1_takeAway_1 15 rfl rfl)
theorem dX1_takeAway_40 : decode cX1_takeAway 40 = .ok (.iconst (-1), 1) := dk_2 (dk_at dksX1_takeAway_1 16 rfl rfl)
theorem dX1_takeAway_41 : decode cX1_takeAway 41 = .ok (.iconst 0, 1) := dk_3 (dk_at dksX1_takeAway_1 17 rfl rfl)
theorem dX1_takeAway_42 : decode cX1_takeAway 42 = .ok (.invokevirtual 111, 3) := dk_182 0 111 (dk_at dksX1_takeAway_1 18 rfl rfl)
theorem dX1_takeAway_45 : decode cX1_takeAway 45 = .ok (.ireturn, 1) := dk_172 (dk_at dksX1_takeAway_1 21 rfl rfl)
def dkwX1_checkState_0 : List UInt8 := [26, 154, 0, 11, 187, 0, 16, 89, 183, 0, 18, 191, 177]
abbrev dktX1_checkState_0 : List UInt8 := dkwX1_checkState_0 ++ []
theorem dksX1_checkState_0 : cX1_checkState.data.toList.drop 0 = dktX1_checkState_0 := by decide +kernel
theorem dX1_checkState_0 : decode cX1_checkState 0 = .ok (.iload_n 0, 1) := dk_26 (dk_at dksX1_checkState_0 0 rfl rfl)
theorem dX1_checkState_1 : decode cX1_checkState 1 = .ok (.ifCond .ne 11, 3) := dk_154 0 11 (dk_at dksX1_checkState_0 1 rfl rfl)
theorem dX1_checkState_4 : decode cX1_checkState 4 = .ok (.new 16, 3) := dk_187 0 16 (dk_at dksX1_checkState_0 4 rfl rfl)
theorem dX1_checkState_7 : decode cX1_checkState 7 = .ok (.dup, 1) := dk_89 (dk_at dksX1_checkState_0 7 rfl rfl)
theorem dX1_checkState_8 : decode cX1_checkState 8 = .ok (.invokespecial 18, 3) := dk_183 0 18 (dk_at dksX1_checkState_0 8 rfl rfl)
theorem dX1_checkState_11 : decode cX1_checkState 11 = .ok (.athrow, 1) := dk_191 (dk_at dksX1_checkState_0 11 rfl rfl)
theorem dX1_checkState_12 : decode cX1_checkState 12 = .ok (.return_, 1) := dk_177 (dk_at dksX1_checkState_0 12 rfl rfl)
def dkwX1_solve_0 : List UInt8 := [27, 184, 0, 108, 42, 182, 0, 88, 42, 180, 0, 36, 27, 182, 0, 118, 172]
abbrev dktX1_solve_0 : List UInt8 := dkwX1_solve_0 ++ []
theorem dksX1_solve_0 : cX1_solve.data.toList.drop 0 = dktX1_solve_0 := by decide +kernel
theorem dX1_solve_0 : decode cX1_solve 0 = .ok (.iload_n 1, 1) := dk_27 (dk_at dksX1_solve_0 0 rfl rfl)
theorem dX1_solve_1 : decode cX1_solve 1 = .ok (.invokestatic 108, 3) := dk_184 0 108 (dk_at dksX1_solve_0 1 rfl rfl)
theorem dX1_solve_4 : decode cX1_solve 4 = .ok (.aload_n 0, 1) := dk_42 (dk_at dksX1_solve_0 4 rfl rfl)
theorem dX1_solve_5 : decode cX1_solve 5 = .ok (.invokevirtual 88, 3) := dk_182 0 88 (dk_at dksX1_solve_0 5 rfl rfl)
theorem dX1_solve_8 : decode cX1_solve 8 = .ok (.aload_n 0, 1) := dk_42 (dk_at dksX1_solve_0 8 rfl rfl)
theorem dX1_solve_9 : decode cX1_solve 9 = .ok (.getfield 36, 3) := dk_180 0 36 (dk_at dksX1_solve_0 9 rfl rfl)
theorem dX1_solve_12 : decode cX1_solve 12 = .ok (.iload_n 1, 1) := dk_27 (dk_at dksX1_solve_0 12 rfl rfl)
theorem dX1_solve_13 : decode cX1_solve 13 = .ok (.invokevirtual 118, 3) := dk_182 0 118 (dk_at dksX1_solve_0 13 rfl rfl)
theorem dX1_solve_16 : decode cX1_solve 16 = .ok (.ireturn, 1) := dk_172 (dk_at dksX1_solve_0 16 rfl rfl)
def dkwX1_forget_2 : List UInt8 := [180, 0, 134, 172]
abbrev dktX1_forget_2 : List UInt8 := dkwX1_forget_2 ++ []
def dkwX1_forget_1 : List UInt8 := [167, 0, 4, 3, 184, 0, 76, 42, 182, 0, 88, 42, 180, 0, 36, 180, 0, 122, 44, 182, 0, 130, 44]
abbrev dktX1_forget_1 : List UInt8 := dkwX1_forget_1 ++ dktX1_forget_2
def dkwX1_forget_0 : List UInt8 := [27, 184, 0, 108, 42, 180, 0, 36, 180, 0, 122, 3, 27, 182, 0, 126, 77, 44, 198, 0, 7, 4]
abbrev dktX1_forget_0 : List UInt8 := dkwX1_forget_0 ++ dktX1_forget_1
theorem dksX1_forget_0 : cX1_forget.data.toList.drop 0 = dktX1_forget_0 := by decide +kernel
theorem dksX1_forget_1 : cX1_forget.data.toList.drop 22 = dktX1_forget_1 := dk_seg dksX1_forget_0 22 rfl rfl
theorem dksX1_forget_2 : cX1_forget.data.toList.drop 45 = dktX1_forget_2 := dk_seg dksX1_forget_1 23 rfl rfl
theorem dX1_forget_0 : decode cX1_forget 0 = .ok (.iload_n 1, 1) := dk_27 (dk_at dksX1_forget_0 0 rfl rfl)
theorem dX1_forget_1 : decode cX1_forget 1 = .ok (.invokestatic 108, 3) := dk_184 0 108 (dk_at dksX1_forget_0 1 rfl rfl)
theorem dX1_forget_4 : decode cX1_forget 4 = .ok (.aload_n 0, 1) := dk_42 (dk_at dksX1_forget_0 4 rfl rfl)
theorem dX1_forget_5 : decode cX1_forget 5 = .ok (.getfield 36, 3) := dk_180 0 36 (dk_at dksX1_forget_0 5 rfl rfl)
theorem dX1_forget_8 : decode cX1_forget 8 = .ok (.getfield 122, 3) := dk_180 0 122 (dk_at dksX1_forget_0 8 rfl rfl)
theorem dX1_forget_11 : decode cX1_forget 11 = .ok (.iconst 0, 1) := dk_3 (dk_at dksX1_forget_0 11 rfl rfl)
theorem dX1_forget_12 : decode cX1_forget 12 = .ok (.iload_n 1, 1) := dk_27 (dk_at dksX1_forget_0 12 rfl rfl)
theorem dX1_forget_13 : decode cX1_forget 13 = .ok (.invokevirtual 126, 3) := dk_182 0 126 (dk_at dksX1_forget_0 13 rfl rfl)
theorem dX1_forget_16 : decode cX1_forget 16 = .ok (.astore_n 2, 1) := dk_77 (dk_at dksX1_forget_0 16 rfl rfl)
theorem dX1_forget_17 : decode cX1_forget 17 = .ok (.aload_n 2, 1) := dk_44 (dk_at dksX1_forget_0 17 rfl rfl)
theorem dX1_forget_18 : decode cX1_forget 18 = .ok (.ifnull 7, 3) := dk_198 0 7 (dk_at dksX1_forget_0 18 rfl rfl)
theorem dX1_forget_21 : decode cX1_forget 21 = .ok (.iconst 1, 1) := dk_4 (dk_at dksX1_forget_0 21 rfl rfl)
theorem dX1_forget_22 : decode cX1_forget 22 = .ok (.goto 4, 3) := dk_167 0 4 (dk_at dksX1_forget_1 0 rfl rfl)
theorem dX1_forget_25 : decode cX1_forget 25 = .ok (.iconst 0, 1) := dk_3 (dk_at dksX1_forget_1 3 rfl rfl)
theorem dX1_forget_26 : decode cX1_forget 26 = .ok (.invokestatic 76, 3) := dk_184 0 76 (dk_at dksX1_forget_1 4 rfl rfl)
theorem dX1_forget_29 : decode cX1_forget 29 = .ok (.aload_n 0, 1) := dk_42 (dk_at dksX1_forget_1 7 rfl rfl)
theorem dX1_forget_30 : decode cX1_forget 30 = .ok (.invokevirtual 88, 3) := dk_182 0 88 (dk_at dksX1_forget_1 8 rfl rfl)
theorem dX1_forget_33 : decode cX1_forget 33 = .ok (.aload_n 0, 1) := dk_42 (dk_at dksX1_forget_1 11 rfl rfl)
theorem dX1_forget_34 : decode cX1_forget 34 = .ok (.getfield 36, 3) := dk_180 0 36 (dk_at dksX1_forget_1 12 rfl rfl)
theorem dX1_forget_37 : decode cX1_forget 37 = .ok (.getfield 122, 3) := dk_180 0 122 (dk_at dksX1_forget_1 15 rfl rfl)
theorem dX1_forget_40 : decode cX1_forget 40 = .ok (.aload_n 2, 1) := dk_44 (dk_at dksX1_forget_1 18 rfl rfl)
theorem dX1_forget_41 : decode cX1_forget 41 = .ok (.invokevirtual 130, 3) := dk_182 0 130 (dk_at dksX1_forget_1 19 rfl rfl)
theorem dX1_forget_44 : decode cX1_forget 44 = .ok (.aload_n 2, 1) := dk_44 (dk_at dksX1_forget_1 22 rfl rfl)
theorem dX1_forget_45 : decode cX1_forget 45 = .ok (.getfield 134, 3) := dk_180 0 134 (dk_at dksX1_forget_2 0 rfl rfl)
theorem dX1_forget_48 : decode cX1_forget 48 = .ok (.ireturn, 1) := dk_172 (dk_at dksX1_forget_2 3 rfl rfl)
def dkwX1_pass_1 : List UInt8 := [167, 0, 4, 3, 184, 0, 76, 42, 182, 0, 88, 42, 180, 0, 36, 27, 182, 0, 143, 172]
abbrev dktX1_pass_1 : List UInt8 := dkwX1_pass_1 ++ []
def dkwX1_pass_0 : List UInt8 := [27, 4, 16, 99, 184, 0, 84, 42, 180, 0, 36, 180, 0, 140, 27, 96, 17, 39, 15, 163, 0, 7, 4]
abbrev dktX1_pass_0 : List UInt8 := dkwX1_pass_0 ++ dktX1_pass_1
theorem dksX1_pass_0 : cX1_pass.data.toList.drop 0 = dktX1_pass_0 := by decide +kernel
theorem dksX1_pass_1 : cX1_pass.data.toList.drop 23 = dktX1_pass_1 := dk_seg dksX1_pass_0 23 rfl rfl
theorem dX1_pass_0 : decode cX1_pass 0 = .ok (.iload_n 1, 1) := dk_27 (dk_at dksX1_pass_0 0 rfl rfl)
theorem dX1_pass_1 : decode cX1_pass 1 = .ok (.iconst 1, 1) := dk_4 (dk_at dksX1_pass_0 1 rfl rfl)
theorem dX1_pass_2 : decode cX1_pass 2 = .ok (.bipush 99, 2) := dk_16 99 (dk_at dksX1_pass_0 2 rfl rfl)
theorem dX1_pass_4 : decode cX1_pass 4 = .ok (.invokestatic 84, 3) := dk_184 0 84 (dk_at dksX1_pass_0 4 rfl rfl)
theorem dX1_pass_7 : decode cX1_pass 7 = .ok (.aload_n 0, 1) := dk_42 (dk_at dksX1_pass_0 7 rfl rfl)
theorem dX1_pass_8 : decode cX1_pass 8 = .ok (.getfield 36, 3) := dk_180 0 36 (dk_at dksX1_pass_0 8 rfl rfl)
theorem dX1_pass_11 : decode cX1_pass 11 = .ok (.getfield 140, 3) := dk_180 0 140 (dk_at dksX1_pass_0 11 rfl rfl)
theorem dX1_pass_14 : decode cX1_pass 14 = .ok (.iload_n 1, 1) := dk_27 (dk_at dksX1_pass_0 14 rfl rfl)
theorem dX1_pass_15 : decode cX1_pass 15 = .ok (.iadd, 1) := dk_96 (dk_at dksX1_pass_0 15 rfl rfl)
theorem dX1_pass_16 : decode cX1_pass 16 = .ok (.sipush 9999, 3) := dk_17 39 15 (dk_at dksX1_pass_0 16 rfl rfl)
theorem dX1_pass_19 : decode cX1_pass 19 = .ok (.if_icmp .gt 7, 3) := dk_163 0 7 (dk_at dksX1_pass_0 19 rfl rfl)
theorem dX1_pass_22 : decode cX1_pass 22 = .ok (.iconst 1, 1) := dk_4 (dk_at dksX1_pass_0 22 rfl rfl)
theorem dX1_pass_23 : decode cX1_pass 23 = .ok (.goto 4, 3) := dk_167 0 4 (dk_at dksX1_pass_1 0 rfl rfl)
theorem dX1_pass_26 : decode cX1_pass 26 = .ok (.iconst 0, 1) := dk_3 (dk_at dksX1_pass_1 3 rfl rfl)
theorem dX1_pass_27 : decode cX1_pass 27 = .ok (.invokestatic 76, 3) := dk_184 0 76 (dk_at dksX1_pass_1 4 rfl rfl)
theorem dX1_pass_30 : decode cX1_pass 30 = .ok (.aload_n 0, 1) := dk_42 (dk_at dksX1_pass_1 7 rfl rfl)
theorem dX1_pass_31 : decode cX1_pass 31 = .ok (.invokevirtual 88, 3) := dk_182 0 88 (dk_at dksX1_pass_1 8 rfl rfl)
theorem dX1_pass_34 : decode cX1_pass 34 = .ok (.aload_n 0, 1) := dk_42 (dk_at dksX1_pass_1 11 rfl rfl)
theorem dX1_pass_35 : decode cX1_pass 35 = .ok (.getfield 36, 3) := dk_180 0 36 (dk_at dksX1_pass_1 12 rfl rfl)
theorem dX1_pass_38 : decode cX1_pass 38 = .ok (.iload_n 1, 1) := dk_27 (dk_at dksX1_pass_1 15 rfl rfl)
theorem dX1_pass_39 : decode cX1_pass 39 = .ok (.invokevirtual 143, 3) := dk_182 0 143 (dk_at dksX1_pass_1 16 rfl rfl)
theorem dX1_pass_42 : decode cX1_pass 42 = .ok (.ireturn, 1) := dk_172 (dk_at dksX1_pass_1 19 rfl rfl)
def dkwX1_parentOf_0 : List UInt8 := [27, 184, 0, 99, 42, 180, 0, 36, 180, 0, 91, 180, 0, 95, 27, 46, 172]
abbrev dktX1_parentOf_0 : List UInt8 := dkwX1_parentOf_0 ++ []
theorem dksX1_parentOf_0 : cX1_parentOf.data.toList.drop 0 = dktX1_parentOf_0 := by decide +kernel
theorem dX1_parentOf_0 : decode cX1_parentOf 0 = .ok (.iload_n 1, 1) := dk_27 (dk_at dksX1_parentOf_0 0 rfl rfl)
theorem dX1_parentOf_1 : decode cX1_parentOf 1 = .ok (.invokestatic 99, 3) := dk_184 0 99 (dk_at dksX1_parentOf_0 1 rfl rfl)
theorem dX1_parentOf_4 : decode cX1_parentOf 4 = .ok (.aload_n 0, 1) := dk_42 (dk_at dksX1_parentOf_0 4 rfl rfl)
theorem dX1_parentOf_5 : decode cX1_parentOf 5 = .ok (.getfield 36, 3) := dk_180 0 36 (dk_at dksX1_parentOf_0 5 rfl rfl)
theorem dX1_parentOf_8 : decode cX1_parentOf 8 = .ok (.getfield 91, 3) := dk_180 0 91 (dk_at dksX1_parentOf_0 8 rfl rfl)
theorem dX1_parentOf_11 : decode cX1_parentOf 11 = .ok (.getfield 95, 3) := dk_180 0 95 (dk_at dksX1_parentOf_0 11 rfl rfl)
theorem dX1_parentOf_14 : decode cX1_parentOf 14 = .ok (.iload_n 1, 1) := dk_27 (dk_at dksX1_parentOf_0 14 rfl rfl)
theorem dX1_parentOf_15 : decode cX1_parentOf 15 = .ok (.iaload, 1) := dk_46 (dk_at dksX1_parentOf_0 15 rfl rfl)
theorem dX1_parentOf_16 : decode cX1_parentOf 16 = .ok (.ireturn, 1) := dk_172 (dk_at dksX1_parentOf_0 16 rfl rfl)
def dkwX1_depthOf_0 : List UInt8 := [27, 184, 0, 99, 42, 180, 0, 36, 180, 0, 91, 27, 182, 0, 146, 172]
abbrev dktX1_depthOf_0 : List UInt8 := dkwX1_depthOf_0 ++ []
theorem dksX1_depthOf_0 : cX1_depthOf.data.toList.drop 0 = dktX1_depthOf_0 := by decide +kernel
theorem dX1_depthOf_0 : decode cX1_depthOf 0 = .ok (.iload_n 1, 1) := dk_27 (dk_at dksX1_depthOf_0 0 rfl rfl)
theorem dX1_depthOf_1 : decode cX1_depthOf 1 = .ok (.invokestatic 99, 3) := dk_184 0 99 (dk_at dksX1_depthOf_0 1 rfl rfl)
theorem dX1_depthOf_4 : decode cX1_depthOf 4 = .ok (.aload_n 0, 1) := dk_42 (dk_at dksX1_depthOf_0 4 rfl rfl)
theorem dX1_depthOf_5 : decode cX1_depthOf 5 = .ok (.getfield 36, 3) := dk_180 0 36 (dk_at dksX1_depthOf_0 5 rfl rfl)
theorem dX1_depthOf_8 : decode cX1_depthOf 8 = .ok (.getfield 91, 3) := dk_180 0 91 (dk_at dksX1_depthOf_0 8 rfl rfl)
theorem dX1_depthOf_11 : decode cX1_depthOf 11 = .ok (.iload_n 1, 1) := dk_27 (dk_at dksX1_depthOf_0 11 rfl rfl)
theorem dX1_depthOf_12 : decode cX1_depthOf 12 = .ok (.invokevirtual 146, 3) := dk_182 0 146 (dk_at dksX1_depthOf_0 12 rfl rfl)
theorem dX1_depthOf_15 : decode cX1_depthOf 15 = .ok (.ireturn, 1) := dk_172 (dk_at dksX1_depthOf_0 15 rfl rfl)
def dkwX1_kindOf_0 : List UInt8 := [27, 184, 0, 108, 42, 180, 0, 36, 180, 0, 91, 180, 0, 115, 27, 46, 172]
abbrev dktX1_kindOf_0 : List UInt8 := dkwX1_kindOf_0 ++ []
theorem dksX1_kindOf_0 : cX1_kindOf.data.toList.drop 0 = dktX1_kindOf_0 := by decide +kernel
theorem dX1_kindOf_0 : decode cX1_kindOf 0 = .ok (.iload_n 1, 1) := dk_27 (dk_at dksX1_kindOf_0 0 rfl rfl)
theorem dX1_kindOf_1 : decode cX1_kindOf 1 = .ok (.invokestatic 108, 3) := dk_184 0 108 (dk_at dksX1_kindOf_0 1 rfl rfl)
theorem dX1_kindOf_4 : decode cX1_kindOf 4 = .ok (.aload_n 0, 1) := dk_42 (dk_at dksX1_kindOf_0 4 rfl rfl)
theorem dX1_kindOf_5 : decode cX1_kindOf 5 = .ok (.getfield 36, 3) := dk_180 0 36 (dk_at dksX1_kindOf_0 5 rfl rfl)
theorem dX1_kindOf_8 : decode cX1_kindOf 8 = .ok (.getfield 91, 3) := dk_180 0 91 (dk_at dksX1_kindOf_0 8 rfl rfl)
theorem dX1_kindOf_11 : decode cX1_kindOf 11 = .ok (.getfield 115, 3) := dk_180 0 115 (dk_at dksX1_kindOf_0 11 rfl rfl)
theorem dX1_kindOf_14 : decode cX1_kindOf 14 = .ok (.iload_n 1, 1) := dk_27 (dk_at dksX1_kindOf_0 14 rfl rfl)
theorem dX1_kindOf_15 : decode cX1_kindOf 15 = .ok (.iaload, 1) := dk_46 (dk_at dksX1_kindOf_0 15 rfl rfl)
theorem dX1_kindOf_16 : decode cX1_kindOf 16 = .ok (.ireturn, 1) := dk_172 (dk_at dksX1_kindOf_0 16 rfl rfl)
def dkwX1_valueOf_0 : List UInt8 := [27, 184, 0, 108, 42, 180, 0, 36, 180, 0, 91, 180, 0, 149, 27, 46, 172]
abbrev dktX1_valueOf_0 : List UInt8 := dkwX1_valueOf_0 ++ []
theorem dksX1_valueOf_0 : cX1_valueOf.data.toList.drop 0 = dktX1_valueOf_0 := by decide +kernel
theorem dX1_valueOf_0 : decode cX1_valueOf 0 = .ok (.iload_n 1, 1) := dk_27 (dk_at dksX1_valueOf_0 0 rfl rfl)
theorem dX1_valueOf_1 : decode cX1_valueOf 1 = .ok (.invokestatic 108, 3) := dk_184 0 108 (dk_at dksX1_valueOf_0 1 rfl rfl)
theorem dX1_valueOf_4 : decode cX1_valueOf 4 = .ok (.aload_n 0, 1) := dk_42 (dk_at dksX1_valueOf_0 4 rfl rfl)
theorem dX1_valueOf_5 : decode cX1_valueOf 5 = .ok (.getfield 36, 3) := dk_180 0 36 (dk_at dksX1_valueOf_0 5 rfl rfl)
theorem dX1_valueOf_8 : decode cX1_valueOf 8 = .ok (.getfield 91, 3) := dk_180 0 91 (dk_at dksX1_valueOf_0 8 rfl rfl)
theorem dX1_valueOf_11 : decode cX1_valueOf 11 = .ok (.getfield 149, 3) := dk_180 0 149 (dk_at dksX1_valueOf_0 11 rfl rfl)
theorem dX1_valueOf_14 : decode cX1_valueOf 14 = .ok (.iload_n 1, 1) := dk_27 (dk_at dksX1_valueOf_0 14 rfl rfl)
theorem dX1_valueOf_15 : decode cX1_valueOf 15 = .ok (.iaload, 1) := dk_46 (dk_at dksX1_valueOf_0 15 rfl rfl)
theorem dX1_valueOf_16 : decode cX1_valueOf 16 = .ok (.ireturn, 1) := dk_172 (dk_at dksX1_valueOf_0 16 rfl rfl)
def dkwX1_truthOf_0 : List UInt8 := [27, 184, 0, 108, 42, 180, 0, 36, 180, 0, 91, 27, 182, 0, 152, 172]
abbrev dktX1_truthOf_0 : List UInt8 := dkwX1_truthOf_0 ++ []
theorem dksX1_truthOf_0 : cX1_truthOf.data.toList.drop 0 = dktX1_truthOf_0 := by decide +kernel
theorem dX1_truthOf_0 : decode cX1_truthOf 0 = .ok (.iload_n 1, 1) := dk_27 (dk_at dksX1_truthOf_0 0 rfl rfl)
theorem dX1_truthOf_1 : decode cX1_truthOf 1 = .ok (.invokestatic 108, 3) := dk_184 0 108 (dk_at dksX1_truthOf_0 1 rfl rfl)
theorem dX1_truthOf_4 : decode cX1_truthOf 4 = .ok (.aload_n 0, 1) := dk_42 (dk_at dksX1_truthOf_0 4 rfl rfl)
theorem dX1_truthOf_5 : decode cX1_truthOf 5 = .ok (.getfield 36, 3) := dk_180 0 36 (dk_at dksX1_truthOf_0 5 rfl rfl)
theorem dX1_truthOf_8 : decode cX1_truthOf 8 = .ok (.getfield 91, 3) := dk_180 0 91 (dk_at dksX1_truthOf_0 8 rfl rfl)
theorem dX1_truthOf_11 : decode cX1_truthOf 11 = .ok (.iload_n 1, 1) := dk_27 (dk_at dksX1_truthOf_0 11 rfl rfl)
theorem dX1_truthOf_12 : decode cX1_truthOf 12 = .ok (.invokevirtual 152, 3) := dk_182 0 152 (dk_at dksX1_truthOf_0 12 rfl rfl)
theorem dX1_truthOf_15 : decode cX1_truthOf 15 = .ok (.ireturn, 1) := dk_172 (dk_at dksX1_truthOf_0 15 rfl rfl)
def dkwX1_questionsTo_0 : List UInt8 := [27, 184, 0, 99, 42, 180, 0, 36, 180, 0, 201, 27, 46, 172]
abbrev dktX1_questionsTo_0 : List UInt8 := dkwX1_questionsTo_0 ++ []
theorem dksX1_questionsTo_0 : cX1_questionsTo.data.toList.drop 0 = dktX1_questionsTo_0 := by decide +kernel
theorem dX1_questionsTo_0 : decode cX1_questionsTo 0 = .ok (.iload_n 1, 1) := dk_27 (dk_at dksX1_questionsTo_0 0 rfl rfl)
theorem dX1_questionsTo_1 : decode cX1_questionsTo 1 = .ok (.invokestatic 99, 3) := dk_184 0 99 (dk_at dksX1_questionsTo_0 1 rfl rfl)
theorem dX1_questionsTo_4 : decode cX1_questionsTo 4 = .ok (.aload_n 0, 1) := dk_42 (dk_at dksX1_questionsTo_0 4 rfl rfl)
theorem dX1_questionsTo_5 : decode cX1_questionsTo 5 = .ok (.getfield 36, 3) := dk_180 0 36 (dk_at dksX1_questionsTo_0 5 rfl rfl)
theorem dX1_questionsTo_8 : decode cX1_questionsTo 8 = .ok (.getfield 201, 3) := dk_180 0 201 (dk_at dksX1_questionsTo_0 8 rfl rfl)
theorem dX1_questionsTo_11 : decode cX1_questionsTo 11 = .ok (.iload_n 1, 1) := dk_27 (dk_at dksX1_questionsTo_0 11 rfl rfl)
theorem dX1_questionsTo_12 : decode cX1_questionsTo 12 = .ok (.iaload, 1) := dk_46 (dk_at dksX1_questionsTo_0 12 rfl rfl)
theorem dX1_questionsTo_13 : decode cX1_questionsTo 13 = .ok (.ireturn, 1) := dk_172 (dk_at dksX1_questionsTo_0 13 rfl rfl)
def dkwX1_wouldSolve_0 : List UInt8 := [27, 184, 0, 108, 42, 180, 0, 36, 182, 0, 204, 27, 182, 0, 118, 172]
abbrev dktX1_wouldSolve_0 : List UInt8 := dkwX1_wouldSolve_0 ++ []
theorem dksX1_wouldSolve_0 : cX1_wouldSolve.data.toList.drop 0 = dktX1_wouldSolve_0 := by decide +kernel
theorem dX1_wouldSolve_0 : decode cX1_wouldSolve 0 = .ok (.iload_n 1, 1) := dk_27 (dk_at dksX1_wouldSolve_0 0 rfl rfl)
theorem dX1_wouldSolve_1 : decode cX1_wouldSolve 1 = .ok (.invokestatic 108, 3) := dk_184 0 108 (dk_at dksX1_wouldSolve_0 1 rfl rfl)
theorem dX1_wouldSolve_4 : decode cX1_wouldSolve 4 = .ok (.aload_n 0, 1) := dk_42 (dk_at dksX1_wouldSolve_0 4 rfl rfl)
theorem dX1_wouldSolve_5 : decode cX1_wouldSolve 5 = .ok (.getfield 36, 3) := dk_180 0 36 (dk_at dksX1_wouldSolve_0 5 rfl rfl)
theorem dX1_wouldSolve_8 : decode cX1_wouldSolve 8 = .ok (.invokevirtual 204, 3) := dk_182 0 204 (dk_at dksX1_wouldSolve_0 8 rfl rfl)
theorem dX1_wouldSolve_11 : decode cX1_wouldSolve 11 = .ok (.iload_n 1, 1) := dk_27 (dk_at dksX1_wouldSolve_0 11 rfl rfl)
theorem dX1_wouldSolve_12 : decode cX1_wouldSolve 12 = .ok (.invokevirtual 118, 3) := dk_182 0 118 (dk_at dksX1_wouldSolve_0 12 rfl rfl)
theorem dX1_wouldSolve_15 : decode cX1_wouldSolve 15 = .ok (.ireturn, 1) := dk_172 (dk_at dksX1_wouldSolve_0 15 rfl rfl)
def dkwX1_costOf_1 : List UInt8 := [180, 0, 36, 182, 0, 195, 100, 172]
abbrev dktX1_costOf_1 : List UInt8 := dkwX1_costOf_1 ++ []
def dkwX1_costOf_0 : List UInt8 := [27, 184, 0, 108, 42, 180, 0, 36, 182, 0, 204, 77, 44, 27, 182, 0, 118, 87, 44, 182, 0, 195, 42]
abbrev dktX1_costOf_0 : List UInt8 := dkwX1_costOf_0 ++ dktX1_costOf_1
theorem dksX1_costOf_0 : cX1_costOf.data.toList.drop 0 = dktX1_costOf_0 := by decide +kernel
theorem dksX1_costOf_1 : cX1_costOf.data.toList.drop 23 = dktX1_costOf_1 := dk_seg dksX1_costOf_0 23 rfl rfl
theorem dX1_costOf_0 : decode cX1_costOf 0 = .ok (.iload_n 1, 1) := dk_27 (dk_at dksX1_costOf_0 0 rfl rfl)
theorem dX1_costOf_1 : decode cX1_costOf 1 = .ok (.invokestatic 108, 3) := dk_184 0 108 (dk_at dksX1_costOf_0 1 rfl rfl)
theorem dX1_costOf_4 : decode cX1_costOf 4 = .ok (.aload_n 0, 1) := dk_42 (dk_at dksX1_costOf_0 4 rfl rfl)
theorem dX1_costOf_5 : decode cX1_costOf 5 = .ok (.getfield 36, 3) := dk_180 0 36 (dk_at dksX1_costOf_0 5 rfl rfl)
theorem dX1_costOf_8 : decode cX1_costOf 8 = .ok (.invokevirtual 204, 3) := dk_182 0 204 (dk_at dksX1_costOf_0 8 rfl rfl)
theorem dX1_costOf_11 : decode cX1_costOf 11 = .ok (.astore_n 2, 1) := dk_77 (dk_at dksX1_costOf_0 11 rfl rfl)
theorem dX1_costOf_12 : decode cX1_costOf 12 = .ok (.aload_n 2, 1) := dk_44 (dk_at dksX1_costOf_0 12 rfl rfl)
theorem dX1_costOf_13 : decode cX1_costOf 13 = .ok (.iload_n 1, 1) := dk_27 (dk_at dksX1_costOf_0 13 rfl rfl)
theorem dX1_costOf_14 : decode cX1_costOf 14 = .ok (.invokevirtual 118, 3) := dk_182 0 118 (dk_at dksX1_costOf_0 14 rfl rfl)
theorem dX1_costOf_17 : decode cX1_costOf 17 = .ok (.pop, 1) := dk_87 (dk_at dksX1_costOf_0 17 rfl rfl)
theorem dX1_costOf_18 : decode cX1_costOf 18 = .ok (.aload_n 2, 1) := dk_44 (dk_at dksX1_costOf_0 18 rfl rfl)
theorem dX1_costOf_19 : decode cX1_costOf 19 = .ok (.invokevirtual 195, 3) := dk_182 0 195 (dk_at dksX1_costOf_0 19 rfl rfl)
theorem dX1_costOf_22 : decode cX1_costOf 22 = .ok (.aload_n 0, 1) := dk_42 (dk_at dksX1_costOf_0 22 rfl rfl)
theorem dX1_costOf_23 : decode cX1_costOf 23 = .ok (.getfield 36, 3) := dk_180 0 36 (dk_at dksX1_costOf_1 0 rfl rfl)
theorem dX1_costOf_26 : decode cX1_costOf 26 = .ok (.invokevirtual 195, 3) := dk_182 0 195 (dk_at dksX1_costOf_1 3 rfl rfl)
theorem dX1_costOf_29 : decode cX1_costOf 29 = .ok (.isub, 1) := dk_100 (dk_at dksX1_costOf_1 6 rfl rfl)
theorem dX1_costOf_30 : decode cX1_costOf 30 = .ok (.ireturn, 1) := dk_172 (dk_at dksX1_costOf_1 7 rfl rfl)
def dkwX1_ticksUntilTruth_3 : List UInt8 := [192, 0, 135, 180, 0, 155, 44, 180, 0, 140, 100, 184, 0, 210, 182, 0, 143, 87, 167, 255, 182, 29, 172]
abbrev dktX1_ticksUntilTruth_3 : List UInt8 := dkwX1_ticksUntilTruth_3 ++ []
def dkwX1_ticksUntilTruth_2 : List UInt8 := [44, 180, 0, 140, 100, 184, 0, 210, 96, 62, 44, 4, 44, 180, 0, 122, 180, 0, 175, 182, 0, 179]
abbrev dktX1_ticksUntilTruth_2 : List UInt8 := dkwX1_ticksUntilTruth_2 ++ dktX1_ticksUntilTruth_3
def dkwX1_ticksUntilTruth_1 : List UInt8 := [182, 0, 207, 159, 0, 64, 29, 4, 44, 180, 0, 122, 180, 0, 175, 182, 0, 179, 192, 0, 135, 180, 0, 155]
abbrev dktX1_ticksUntilTruth_1 : List UInt8 := dkwX1_ticksUntilTruth_1 ++ dktX1_ticksUntilTruth_2
def dkwX1_ticksUntilTruth_0 : List UInt8 := [27, 184, 0, 108, 42, 180, 0, 36, 182, 0, 204, 77, 3, 62, 44, 182, 0, 204, 27, 182, 0, 118, 42, 27]
abbrev dktX1_ticksUntilTruth_0 : List UInt8 := dkwX1_ticksUntilTruth_0 ++ dktX1_ticksUntilTruth_1
theorem dksX1_ticksUntilTruth_0 : cX1_ticksUntilTruth.data.toList.drop 0 = dktX1_ticksUntilTruth_0 := by decide +kernel
theorem dksX1_ticksUntilTruth_1 : cX1_ticksUntilTruth.data.toList.drop 24 = dktX1_ticksUntilTruth_1 := dk_seg dksX1_ticksUntilTruth_0 24 rfl rfl
theorem dksX1_ticksUntilTruth_2 : cX1_ticksUntilTruth.data.toList.drop 48 = dktX1_ticksUntilTruth_2 := dk_seg dksX1_ticksUntilTruth_1 24 rfl rfl
theorem dksX1_ticksUntilTruth_3 : cX1_ticksUntilTruth.data.toList.drop 70 = dktX1_ticksUntilTruth_3 := dk_seg dksX1_ticksUntilTruth_2 22 rfl rfl
theorem dX1_ticksUntilTruth_0 : decode cX1_ticksUntilTruth 0 = .ok (.iload_n 1, 1) := dk_27 (dk_at dksX1_ticksUntilTruth_0 0 rfl rfl)
theorem dX1_ticksUntilTruth_1 : decode cX1_ticksUntilTruth 1 = .ok (.invokestatic 108, 3) := dk_184 0 108 (dk_at dksX1_ticksUntilTruth_0 1 rfl rfl)
theorem dX1_ticksUntilTruth_4 : decode cX1_ticksUntilTruth 4 = .ok (.aload_n 0, 1) := dk_42 (dk_at dksX1_ticksUntilTruth_0 4 rfl rfl)
theorem dX1_ticksUntilTruth_5 : decode cX1_ticksUntilTruth 5 = .ok (.getfield 36, 3) := dk_180 0 36 (dk_at dksX1_ticksUntilTruth_0 5 rfl rfl)
theorem dX1_ticksUntilTruth_8 : decode cX1_ticksUntilTruth 8 = .ok (.invokevirtual 204, 3) := dk_182 0 204 (dk_at dksX1_ticksUntilTruth_0 8 rfl rfl)
theorem dX1_ticksUntilTruth_11 : decode cX1_ticksUntilTruth 11 = .ok (.astore_n 2, 1) := dk_77 (dk_at dksX1_ticksUntilTruth_0 11 rfl rfl)
theorem dX1_ticksUntilTruth_12 : decode cX1_ticksUntilTruth 12 = .ok (.iconst 0, 1) := dk_3 (dk_at dksX1_ticksUntilTruth_0 12 rfl rfl)
theorem dX1_ticksUntilTruth_13 : decode cX1_ticksUntilTruth 13 = .ok (.istore_n 3, 1) := dk_62 (dk_at dksX1_ticksUntilTruth_0 13 rfl rfl)
theorem dX1_ticksUntilTruth_14 : decode cX1_ticksUntilTruth 14 = .ok (.aload_n 2, 1) := dk_44 (dk_at dksX1_ticksUntilTruth_0 14 rfl rfl)
theorem dX1_ticksUntilTruth_15 : decode cX1_ticksUntilTruth 15 = .ok (.invokevirtual 204, 3) := dk_182 0 204 (dk_at dksX1_ticksUntilTruth_0 15 rfl rfl)
theorem dX1_ticksUntilTruth_18 : decode cX1_ticksUntilTruth 18 = .ok (.iload_n 1, 1) := dk_27 (dk_at dksX1_ticksUntilTruth_0 18 rfl rfl)
theorem dX1_ticksUntilTruth_19 : decode cX1_ticksUntilTruth 19 = .ok (.invokevirtual 118, 3) := dk_182 0 118 (dk_at dksX1_ticksUntilTruth_0 19 rfl rfl)
theorem dX1_ticksUntilTruth_22 : decode cX1_ticksUntilTruth 22 = .ok (.aload_n 0, 1) := dk_42 (dk_at dksX1_ticksUntilTruth_0 22 rfl rfl)
theorem dX1_ticksUntilTruth_23 : decode cX1_ticksUntilTruth 23 = .ok (.iload_n 1, 1) := dk_27 (dk_at dksX1_ticksUntilTruth_0 23 rfl rfl)
theorem dX1_ticksUntilTruth_24 : decode cX1_ticksUntilTruth 24 = .ok (.invokevirtual 207, 3) := dk_182 0 207 (dk_at dksX1_ticksUntilTruth_1 0 rfl rfl)
theorem dX1_ticksUntilTruth_27 : decode cX1_ticksUntilTruth 27 = .ok (.if_icmp .eq 64, 3) := dk_159 0 64 (dk_at dksX1_ticksUntilTruth_1 3 rfl rfl)
theorem dX1_ticksUntilTruth_30 : decode cX1_ticksUntilTruth 30 = .ok (.iload_n 3, 1) := dk_29 (dk_at dksX1_ticksUntilTruth_1 6 rfl rfl)
theorem dX1_ticksUntilTruth_31 : decode cX1_ticksUntilTruth 31 = .ok (.iconst 1, 1) := dk_4 (dk_at dksX1_ticksUntilTruth_1 7 rfl rfl)
theorem dX1_ticksUntilTruth_32 : decode cX1_ticksUntilTruth 32 = .ok (.aload_n 2, 1) := dk_44 (dk_at dksX1_ticksUntilTruth_1 8 rfl rfl)
theorem dX1_ticksUntilTruth_33 : decode cX1_ticksUntilTruth 33 = .ok (.getfield 122, 3) := dk_180 0 122 (dk_at dksX1_ticksUntilTruth_1 9 rfl rfl)
theorem dX1_ticksUntilTruth_36 : decode cX1_ticksUntilTruth 36 = .ok (.getfield 175, 3) := dk_180 0 175 (dk_at dksX1_ticksUntilTruth_1 12 rfl rfl)
theorem dX1_ticksUntilTruth_39 : decode cX1_ticksUntilTruth 39 = .ok (.invokevirtual 179, 3) := dk_182 0 179 (dk_at dksX1_ticksUntilTruth_1 15 rfl rfl)
theorem dX1_ticksUntilTruth_42 : decode cX1_ticksUntilTruth 42 = .ok (.checkcast 135, 3) := dk_192 0 135 (dk_at dksX1_ticksUntilTruth_1 18 rfl rfl)
theorem dX1_ticksUntilTruth_45 : decode cX1_ticksUntilTruth 45 = .ok (.getfield 155, 3) := dk_180 0 155 (dk_at dksX1_ticksUntilTruth_1 21 rfl rfl)
theorem dX1_ticksUntilTruth_48 : decode cX1_ticksUntilTruth 48 = .ok (.aload_n 2, 1) := dk_44 (dk_at dksX1_ticksUntilTruth_2 0 rfl rfl)
theorem dX1_ticksUntilTruth_49 : decode cX1_ticksUntilTruth 49 = .ok (.getfield 140, 3) := dk_180 0 140 (dk_at dksX1_ticksUntilTruth_2 1 rfl rfl)
theorem dX1_ticksUntilTruth_52 : decode cX1_ticksUntilTruth 52 = .ok (.isub, 1) := dk_100 (dk_at dksX1_ticksUntilTruth_2 4 rfl rfl)
theorem dX1_ticksUntilTruth_53 : decode cX1_ticksUntilTruth 53 = .ok (.invokestatic 210, 3) := dk_184 0 210 (dk_at dksX1_ticksUntilTruth_2 5 rfl rfl)
theorem dX1_ticksUntilTruth_56 : decode cX1_ticksUntilTruth 56 = .ok (.iadd, 1) := dk_96 (dk_at dksX1_ticksUntilTruth_2 8 rfl rfl)
theorem dX1_ticksUntilTruth_57 : decode cX1_ticksUntilTruth 57 = .ok (.istore_n 3, 1) := dk_62 (dk_at dksX1_ticksUntilTruth_2 9 rfl rfl)
theorem dX1_ticksUntilTruth_58 : decode cX1_ticksUntilTruth 58 = .ok (.aload_n 2, 1) := dk_44 (dk_at dksX1_ticksUntilTruth_2 10 rfl rfl)
theorem dX1_ticksUntilTruth_59 : decode cX1_ticksUntilTruth 59 = .ok (.iconst 1, 1) := dk_4 (dk_at dksX1_ticksUntilTruth_2 11 rfl rfl)
theorem dX1_ticksUntilTruth_60 : decode cX1_ticksUntilTruth 60 = .ok (.aload_n 2, 1) := dk_44 (dk_at dksX1_ticksUntilTruth_2 12 rfl rfl)
theorem dX1_ticksUntilTruth_61 : decode cX1_ticksUntilTruth 61 = .ok (.getfield 122, 3) := dk_180 0 122 (dk_at dksX1_ticksUntilTruth_2 13 rfl rfl)
theorem dX1_ticksUntilTruth_64 : decode cX1_ticksUntilTruth 64 = .ok (.getfield 175, 3) := dk_180 0 175 (dk_at dksX1_ticksUntilTruth_2 16 rfl rfl)
theorem dX1_ticksUntilTruth_67 : decode cX1_ticksUntilTruth 67 = .ok (.invokevirtual 179, 3) := dk_182 0 179 (dk_at dksX1_ticksUntilTruth_2 19 rfl rfl)
theorem dX1_ticksUntilTruth_70 : decode cX1_ticksUntilTruth 70 = .ok (.checkcast 135, 3) := dk_192 0 135 (dk_at dksX1_ticksUntilTruth_3 0 rfl rfl)
theorem dX1_ticksUntilTruth_73 : decode cX1_ticksUntilTruth 73 = .ok (.getfield 155, 3) := dk_180 0 155 (dk_at dksX1_ticksUntilTruth_3 3 rfl rfl)
theorem dX1_ticksUntilTruth_76 : decode cX1_ticksUntilTruth 76 = .ok (.aload_n 2, 1) := dk_44 (dk_at dksX1_ticksUntilTruth_3 6 rfl rfl)
theorem dX1_ticksUntilTruth_77 : decode cX1_ticksUntilTruth 77 = .ok (.getfield 140, 3) := dk_180 0 140 (dk_at dksX1_ticksUntilTruth_3 7 rfl rfl)
theorem dX1_ticksUntilTruth_80 : decode cX1_ticksUntilTruth 80 = .ok (.isub, 1) := dk_100 (dk_at dksX1_ticksUntilTruth_3 10 rfl rfl)
theorem dX1_ticksUntilTruth_81 : decode cX1_ticksUntilTruth 81 = .ok (.invokestatic 210, 3) := dk_184 0 210 (dk_at dksX1_ticksUntilTruth_3 11 rfl rfl)
theorem dX1_ticksUntilTruth_84 : decode cX1_ticksUntilTruth 84 = .ok (.invokevirtual 143, 3) := dk_182 0 143 (dk_at dksX1_ticksUntilTruth_3 14 rfl rfl)
theorem dX1_ticksUntilTruth_87 : decode cX1_ticksUntilTruth 87 = .ok (.pop, 1) := dk_87 (dk_at dksX1_ticksUntilTruth_3 17 rfl rfl)
theorem dX1_ticksUntilTruth_88 : decode cX1_ticksUntilTruth 88 = .ok (.goto (-74), 3) := dk_167 255 182 (dk_at dksX1_ticksUntilTruth_3 18 rfl rfl)
theorem dX1_ticksUntilTruth_91 : decode cX1_ticksUntilTruth 91 = .ok (.iload_n 3, 1) := dk_29 (dk_at dksX1_ticksUntilTruth_3 21 rfl rfl)
theorem dX1_ticksUntilTruth_92 : decode cX1_ticksUntilTruth 92 = .ok (.ireturn, 1) := dk_172 (dk_at dksX1_ticksUntilTruth_3 22 rfl rfl)
def dkwX1_append_1 : List UInt8 := [3, 184, 0, 76, 42, 180, 0, 52, 27, 146, 182, 0, 219, 87, 42, 180, 0, 52, 182, 0, 216, 172]
abbrev dktX1_append_1 : List UInt8 := dkwX1_append_1 ++ []
def dkwX1_append_0 : List UInt8 := [27, 16, 33, 16, 126, 184, 0, 84, 42, 180, 0, 52, 182, 0, 216, 16, 60, 162, 0, 7, 4, 167, 0, 4]
abbrev dktX1_append_0 : List UInt8 := dkwX1_append_0 ++ dktX1_append_1
theorem dksX1_append_0 : cX1_append.data.toList.drop 0 = dktX1_append_0 := by decide +kernel
theorem dksX1_append_1 : cX1_append.data.toList.drop 24 = dktX1_append_1 := dk_seg dksX1_append_0 24 rfl rfl
theorem dX1_append_0 : decode cX1_append 0 = .ok (.iload_n 1, 1) := dk_27 (dk_at dksX1_append_0 0 rfl rfl)
theorem dX1_append_1 : decode cX1_append 1 = .ok (.bipush 33, 2) := dk_16 33 (dk_at dksX1_append_0 1 rfl rfl)
theorem dX1_append_3 : decode cX1_append 3 = .ok (.bipush 126, 2) := dk_16 126 (dk_at dksX1_append_0 3 rfl rfl)
theorem dX1_append_5 : decode cX1_append 5 = .ok (.invokestatic 84, 3) := dk_184 0 84 (dk_at dksX1_append_0 5 rfl rfl)
theorem dX1_append_8 : decode cX1_append 8 = .ok (.aload_n 0, 1) := dk_42 (dk_at dksX1_append_0 8 rfl rfl)
theorem dX1_append_9 : decode cX1_append 9 = .ok (.getfield 52, 3) := dk_180 0 52 (dk_at dksX1_append_0 9 rfl rfl)
theorem dX1_append_12 : decode cX1_append 12 = .ok (.invokevirtual 216, 3) := dk_182 0 216 (dk_at dksX1_append_0 12 rfl rfl)
theorem dX1_append_15 : decode cX1_append 15 = .ok (.bipush 60, 2) := dk_16 60 (dk_at dksX1_append_0 15 rfl rfl)
theorem dX1_append_17 : decode cX1_append 17 = .ok (.if_icmp .ge 7, 3) := dk_162 0 7 (dk_at dksX1_append_0 17 rfl rfl)
theorem dX1_append_20 : decode cX1_append 20 = .ok (.iconst 1, 1) := dk_4 (dk_at dksX1_append_0 20 rfl rfl)
theorem dX1_append_21 : decode cX1_append 21 = .ok (.goto 4, 3) := dk_167 0 4 (dk_at dksX1_append_0 21 rfl rfl)
theorem dX1_append_24 : decode cX1_append 24 = .ok (.iconst 0, 1) := dk_3 (dk_at dksX1_append_1 0 rfl rfl)
theorem dX1_append_25 : decode cX1_append 25 = .ok (.invokestatic 76, 3) := dk_184 0 76 (dk_at dksX1_append_1 1 rfl rfl)
theorem dX1_append_28 : decode cX1_append 28 = .ok (.aload_n 0, 1) := dk_42 (dk_at dksX1_append_1 4 rfl rfl)
theorem dX1_append_29 : decode cX1_append 29 = .ok (.getfield 52, 3) := dk_180 0 52 (dk_at dksX1_append_1 5 rfl rfl)
theorem dX1_append_32 : decode cX1_append 32 = .ok (.iload_n 1, 1) := dk_27 (dk_at dksX1_append_1 8 rfl rfl)
theorem dX1_append_33 : decode cX1_append 33 = .ok (.i2c, 1) := dk_146 (dk_at dksX1_append_1 9 rfl rfl)
theorem dX1_append_34 : decode cX1_append 34 = .ok (.invokevirtual 219, 3) := dk_182 0 219 (dk_at dksX1_append_1 10 rfl rfl)
theorem dX1_append_37 : decode cX1_append 37 = .ok (.pop, 1) := dk_87 (dk_at dksX1_append_1 13 rfl rfl)
theorem dX1_append_38 : decode cX1_append 38 = .ok (.aload_n 0, 1) := dk_42 (dk_at dksX1_append_1 14 rfl rfl)
theorem dX1_append_39 : decode cX1_append 39 = .ok (.getfield 52, 3) := dk_180 0 52 (dk_at dksX1_append_1 15 rfl rfl)
theorem dX1_append_42 : decode cX1_append 42 = .ok (.invokevirtual 216, 3) := dk_182 0 216 (dk_at dksX1_append_1 18 rfl rfl)
theorem dX1_append_45 : decode cX1_append 45 = .ok (.ireturn, 1) := dk_172 (dk_at dksX1_append_1 21 rfl rfl)
def dkwX1_runActs_6 : List UInt8 := [132, 2, 1, 167, 255, 163, 28, 172]
abbrev dktX1_runActs_6 : List UInt8 := dkwX1_runActs_6 ++ []
def dkwX1_runActs_5 : List UInt8 := [180, 0, 255, 182, 0, 143, 87, 167, 0, 16, 42, 180, 0, 36, 25, 4, 180, 0, 255, 182, 0, 118, 87]
abbrev dktX1_runActs_5 : List UInt8 := dkwX1_runActs_5 ++ dktX1_runActs_6
def dkwX1_runActs_4 : List UInt8 := [17, 39, 15, 164, 0, 5, 28, 172, 25, 4, 180, 0, 251, 16, 43, 160, 0, 19, 42, 180, 0, 36, 25, 4]
abbrev dktX1_runActs_4 : List UInt8 := dkwX1_runActs_4 ++ dktX1_runActs_5
def dkwX1_runActs_3 : List UInt8 := [25, 4, 180, 0, 251, 16, 43, 160, 0, 24, 42, 180, 0, 36, 180, 0, 140, 25, 4, 180, 0, 255, 96]
abbrev dktX1_runActs_3 : List UInt8 := dkwX1_runActs_3 ++ dktX1_runActs_4
def dkwX1_runActs_2 : List UInt8 := [182, 0, 237, 78, 45, 185, 0, 241, 1, 0, 153, 0, 90, 45, 185, 0, 246, 1, 0, 192, 0, 249, 58, 4]
abbrev dktX1_runActs_2 : List UInt8 := dkwX1_runActs_2 ++ dktX1_runActs_3
def dkwX1_runActs_1 : List UInt8 := [3, 184, 0, 76, 42, 182, 0, 88, 42, 180, 0, 52, 3, 182, 0, 223, 3, 61, 43, 180, 0, 234]
abbrev dktX1_runActs_1 : List UInt8 := dkwX1_runActs_1 ++ dktX1_runActs_2
def dkwX1_runActs_0 : List UInt8 := [187, 0, 226, 89, 42, 180, 0, 52, 183, 0, 228, 76, 43, 182, 0, 231, 2, 160, 0, 7, 4, 167, 0, 4]
abbrev dktX1_runActs_0 : List UInt8 := dkwX1_runActs_0 ++ dktX1_runActs_1
theorem dksX1_runActs_0 : cX1_runActs.data.toList.drop 0 = dktX1_runActs_0 := by decide +kernel
theorem dksX1_runActs_1 : cX1_runActs.data.toList.drop 24 = dktX1_runActs_1 := dk_seg dksX1_runActs_0 24 rfl rfl
theorem dksX1_runActs_2 : cX1_runActs.data.toList.drop 46 = dktX1_runActs_2 := dk_seg dksX1_runActs_1 22 rfl rfl
theorem dksX1_runActs_3 : cX1_runActs.data.toList.drop 70 = dktX1_runActs_3 := dk_seg dksX1_runActs_2 24 rfl rfl
theorem dksX1_runActs_4 : cX1_runActs.data.toList.drop 93 = dktX1_runActs_4 := dk_seg dksX1_runActs_3 23 rfl rfl
theorem dksX1_runActs_5 : cX1_runActs.data.toList.drop 117 = dktX1_runActs_5 := dk_seg dksX1_runActs_4 24 rfl rfl
theorem dksX1_runActs_6 : cX1_runActs.data.toList.drop 140 = dktX1_runActs_6 := dk_seg dksX1_runActs_5 23 rfl rfl
theorem dX1_runActs_0 : decode cX1_runActs 0 = .ok (.new 226, 3) := dk_187 0 226 (dk_at dksX1_runActs_0 0 rfl rfl)
theorem dX1_runActs_3 : decode cX1_runActs 3 = .ok (.dup, 1) := dk_89 (dk_at dksX1_runActs_0 3 rfl rfl)
theorem dX1_runActs_4 : decode cX1_runActs 4 = .ok (.aload_n 0, 1) := dk_42 (dk_at dksX1_runActs_0 4 rfl rfl)
theorem dX1_runActs_5 : decode cX1_runActs 5 = .ok (.getfield 52, 3) := dk_180 0 52 (dk_at dksX1_runActs_0 5 rfl rfl)
theorem dX1_runActs_8 : decode cX1_runActs 8 = .ok (.invokespecial 228, 3) := dk_183 0 228 (dk_at dksX1_runActs_0 8 rfl rfl)
theorem dX1_runActs_11 : decode cX1_runActs 11 = .ok (.astore_n 1, 1) := dk_76 (dk_at dksX1_runActs_0 11 rfl rfl)
theorem dX1_runActs_12 : decode cX1_runActs 12 = .ok (.aload_n 1, 1) := dk_43 (dk_at dksX1_runActs_0 12 rfl rfl)
theorem dX1_runActs_13 : decode cX1_runActs 13 = .ok (.invokevirtual 231, 3) := dk_182 0 231 (dk_at dksX1_runActs_0 13 rfl rfl)
theorem dX1_runActs_16 : decode cX1_runActs 16 = .ok (.iconst (-1), 1) := dk_2 (dk_at dksX1_runActs_0 16 rfl rfl)
theorem dX1_runActs_17 : decode cX1_runActs 17 = .ok (.if_icmp .ne 7, 3) := dk_160 0 7 (dk_at dksX1_runActs_0 17 rfl rfl)
theorem dX1_runActs_20 : decode cX1_runActs 20 = .ok (.iconst 1, 1) := dk_4 (dk_at dksX1_runActs_0 20 rfl rfl)
theorem dX1_runActs_21 : decode cX1_runActs 21 = .ok (.goto 4, 3) := dk_167 0 4 (dk_at dksX1_runActs_0 21 rfl rfl)
theorem dX1_runActs_24 : decode cX1_runActs 24 = .ok (.iconst 0, 1) := dk_3 (dk_at dksX1_runActs_1 0 rfl rfl)
theorem dX1_runActs_25 : decode cX1_runActs 25 = .ok (.invokestatic 76, 3) := dk_184 0 76 (dk_at dksX1_runActs_1 1 rfl rfl)
theorem dX1_runActs_28 : decode cX1_runActs 28 = .ok (.aload_n 0, 1) := dk_42 (dk_at dksX1_runActs_1 4 rfl rfl)
theorem dX1_runActs_29 : decode cX1_runActs 29 = .ok (.invokevirtual 88, 3) := dk_182 0 88 (dk_at dksX1_runActs_1 5 rfl rfl)
theorem dX1_runActs_32 : decode cX1_runActs 32 = .ok (.aload_n 0, 1) := dk_42 (dk_at dksX1_runActs_1 8 rfl rfl)
theorem dX1_runActs_33 : decode cX1_runActs 33 = .ok (.getfield 52, 3) := dk_180 0 52 (dk_at dksX1_runActs_1 9 rfl rfl)
theorem dX1_runActs_36 : decode cX1_runActs 36 = .ok (.iconst 0, 1) := dk_3 (dk_at dksX1_runActs_1 12 rfl rfl)
theorem dX1_runActs_37 : decode cX1_runActs 37 = .ok (.invokevirtual 223, 3) := dk_182 0 223 (dk_at dksX1_runActs_1 13 rfl rfl)
theorem dX1_runActs_40 : decode cX1_runActs 40 = .ok (.iconst 0, 1) := dk_3 (dk_at dksX1_runActs_1 16 rfl rfl)
theorem dX1_runActs_41 : decode cX1_runActs 41 = .ok (.istore_n 2, 1) := dk_61 (dk_at dksX1_runActs_1 17 rfl rfl)
theorem dX1_runActs_42 : decode cX1_runActs 42 = .ok (.aload_n 1, 1) := dk_43 (dk_at dksX1_runActs_1 18 rfl rfl)
theorem dX1_runActs_43 : decode cX1_runActs 43 = .ok (.getfield 234, 3) := dk_180 0 234 (dk_at dksX1_runActs_1 19 rfl rfl)
theorem dX1_runActs_46 : decode cX1_runActs 46 = .ok (.invokevirtual 237, 3) := dk_182 0 237 (dk_at dksX1_runActs_2 0 rfl rfl)
theorem dX1_runActs_49 : decode cX1_runActs 49 = .ok (.astore_n 3, 1) := dk_78 (dk_at dksX1_runActs_2 3 rfl rfl)
theorem dX1_runActs_50 : decode cX1_runActs 50 = .ok (.aload_n 3, 1) := dk_45 (dk_at dksX1_runActs_2 4 rfl rfl)
theorem dX1_runActs_51 : decode cX1_runActs 51 = .ok (.invokeinterface 241 1, 5) := by decide +kernel
theorem dX1_runActs_56 : decode cX1_runActs 56 = .ok (.ifCond .eq 90, 3) := dk_153 0 90 (dk_at dksX1_runActs_2 10 rfl rfl)
theorem dX1_runActs_59 : decode cX1_runActs 59 = .ok (.aload_n 3, 1) := dk_45 (dk_at dksX1_runActs_2 13 rfl rfl)
theorem dX1_runActs_60 : decode cX1_runActs 60 = .ok (.invokeinterface 246 1, 5) := by decide +kernel
theorem dX1_runActs_65 : decode cX1_runActs 65 = .ok (.checkcast 249, 3) := dk_192 0 249 (dk_at dksX1_runActs_2 19 rfl rfl)
theorem dX1_runActs_68 : decode cX1_runActs 68 = .ok (.astore 4, 2) := dk_58 4 (dk_at dksX1_runActs_2 22 rfl rfl)
theorem dX1_runActs_70 : decode cX1_runActs 70 = .ok (.aload 4, 2) := dk_25 4 (dk_at dksX1_runActs_3 0 rfl rfl)
theorem dX1_runActs_72 : decode cX1_runActs 72 = .ok (.getfield 251, 3) := dk_180 0 251 (dk_at dksX1_runActs_3 2 rfl rfl)
theorem dX1_runActs_75 : decode cX1_runActs 75 = .ok (.bipush 43, 2) := dk_16 43 (dk_at dksX1_runActs_3 5 rfl rfl)
theorem dX1_runActs_77 : decode cX1_runActs 77 = .ok (.if_icmp .ne 24, 3) := dk_160 0 24 (dk_at dksX1_runActs_3 7 rfl rfl)
theorem dX1_runActs_80 : decode cX1_runActs 80 = .ok (.aload_n 0, 1) := dk_42 (dk_at dksX1_runActs_3 10 rfl rfl)
theorem dX1_runActs_81 : decode cX1_runActs 81 = .ok (.getfield 36, 3) := dk_180 0 36 (dk_at dksX1_runActs_3 11 rfl rfl)
theorem dX1_runActs_84 : decode cX1_runActs 84 = .ok (.getfield 140, 3) := dk_180 0 140 (dk_at dksX1_runActs_3 14 rfl rfl)
theorem dX1_runActs_87 : decode cX1_runActs 87 = .ok (.aload 4, 2) := dk_25 4 (dk_at dksX1_runActs_3 17 rfl rfl)
theorem dX1_runActs_89 : decode cX1_runActs 89 = .ok (.getfield 255, 3) := dk_180 0 255 (dk_at dksX1_runActs_3 19 rfl rfl)
theorem dX1_runActs_92 : decode cX1_runActs 92 = .ok (.iadd, 1) := dk_96 (dk_at dksX1_runActs_3 22 rfl rfl)
theorem dX1_runActs_93 : decode cX1_runActs 93 = .ok (.sipush 9999, 3) := dk_17 39 15 (dk_at dksX1_runActs_4 0 rfl rfl)
theorem dX1_runActs_96 : decode cX1_runActs 96 = .ok (.if_icmp .le 5, 3) := dk_164 0 5 (dk_at dksX1_runActs_4 3 rfl rfl)
theorem dX1_runActs_99 : decode cX1_runActs 99 = .ok (.iload_n 2, 1) := dk_28 (dk_at dksX1_runActs_4 6 rfl rfl)
theorem dX1_runActs_100 : decode cX1_runActs 100 = .ok (.ireturn, 1) := dk_172 (dk_at dksX1_runActs_4 7 rfl rfl)
theorem dX1_runActs_101 : decode cX1_runActs 101 = .ok (.aload 4, 2) := dk_25 4 (dk_at dksX1_runActs_4 8 rfl rfl)
theorem dX1_runActs_103 : decode cX1_runActs 103 = .ok (.getfield 251, 3) := dk_180 0 251 (dk_at dksX1_runActs_4 10 rfl rfl)
theorem dX1_runActs_106 : decode cX1_runActs 106 = .ok (.bipush 43, 2) := dk_16 43 (dk_at dksX1_runActs_4 13 rfl rfl)
theorem dX1_runActs_108 : decode cX1_runActs 108 = .ok (.if_icmp .ne 19, 3) := dk_160 0 19 (dk_at dksX1_runActs_4 15 rfl rfl)
theorem dX1_runActs_111 : decode cX1_runActs 111 = .ok (.aload_n 0, 1) := dk_42 (dk_at dksX1_runActs_4 18 rfl rfl)
theorem dX1_runActs_112 : decode cX1_runActs 112 = .ok (.getfield 36, 3) := dk_180 0 36 (dk_at dksX1_runActs_4 19 rfl rfl)
theorem dX1_runActs_115 : decode cX1_runActs 115 = .ok (.aload 4, 2) := dk_25 4 (dk_at dksX1_runActs_4 22 rfl rfl)
theorem dX1_runActs_117 : decode cX1_runActs 117 = .ok (.getfield 255, 3) := dk_180 0 255 (dk_at dksX1_runActs_5 0 rfl rfl)
theorem dX1_runActs_120 : decode cX1_runActs 120 = .ok (.invokevirtual 143, 3) := dk_182 0 143 (dk_at dksX1_runActs_5 3 rfl rfl)
theorem dX1_runActs_123 : decode cX1_runActs 123 = .ok (.pop, 1) := dk_87 (dk_at dksX1_runActs_5 6 rfl rfl)
theorem dX1_runActs_124 : decode cX1_runActs 124 = .ok (.goto 16, 3) := dk_167 0 16 (dk_at dksX1_runActs_5 7 rfl rfl)
theorem dX1_runActs_127 : decode cX1_runActs 127 = .ok (.aload_n 0, 1) := dk_42 (dk_at dksX1_runActs_5 10 rfl rfl)
theorem dX1_runActs_128 : decode cX1_runActs 128 = .ok (.getfield 36, 3) := dk_180 0 36 (dk_at dksX1_runActs_5 11 rfl rfl)
theorem dX1_runActs_131 : decode cX1_runActs 131 = .ok (.aload 4, 2) := dk_25 4 (dk_at dksX1_runActs_5 14 rfl rfl)
theorem dX1_runActs_133 : decode cX1_runActs 133 = .ok (.getfield 255, 3) := dk_180 0 255 (dk_at dksX1_runActs_5 16 rfl rfl)
theorem dX1_runActs_136 : decode cX1_runActs 136 = .ok (.invokevirtual 118, 3) := dk_182 0 118 (dk_at dksX1_runActs_5 19 rfl rfl)
theorem dX1_runActs_139 : decode cX1_runActs 139 = .ok (.pop, 1) := dk_87 (dk_at dksX1_runActs_5 22 rfl rfl)
theorem dX1_runActs_140 : decode cX1_runActs 140 = .ok (.iinc 2 1, 3) := dk_132 2 1 (dk_at dksX1_runActs_6 0 rfl rfl)
theorem dX1_runActs_143 : decode cX1_runActs 143 = .ok (.goto (-93), 3) := dk_167 255 163 (dk_at dksX1_runActs_6 3 rfl rfl)
theorem dX1_runActs_146 : decode cX1_runActs 146 = .ok (.iload_n 2, 1) := dk_28 (dk_at dksX1_runActs_6 6 rfl rfl)
theorem dX1_runActs_147 : decode cX1_runActs 147 = .ok (.ireturn, 1) := dk_172 (dk_at dksX1_runActs_6 7 rfl rfl)
def dkwX1_undo_2 : List UInt8 := [172]
abbrev dktX1_undo_2 : List UInt8 := dkwX1_undo_2 ++ []
def dkwX1_undo_1 : List UInt8 := [180, 0, 43, 182, 0, 56, 4, 100, 182, 0, 60, 192, 0, 22, 181, 0, 36, 42, 180, 0, 43, 182, 0, 56]
abbrev dktX1_undo_1 : List UInt8 := dkwX1_undo_1 ++ dktX1_undo_2
def dkwX1_undo_0 : List UInt8 := [42, 180, 0, 43, 182, 0, 72, 154, 0, 7, 4, 167, 0, 4, 3, 184, 0, 76, 42, 42, 180, 0, 43, 42]
abbrev dktX1_undo_0 : List UInt8 := dkwX1_undo_0 ++ dktX1_undo_1
theorem dksX1_undo_0 : cX1_undo.data.toList.drop 0 = dktX1_undo_0 := by decide +kernel
theorem dksX1_undo_1 : cX1_undo.data.toList.drop 24 = dktX1_undo_1 := dk_seg dksX1_undo_0 24 rfl rfl
theorem dksX1_undo_2 : cX1_undo.data.toList.drop 48 = dktX1_undo_2 := dk_seg dksX1_undo_1 24 rfl rfl
theorem dX1_undo_0 : decode cX1_undo 0 = .ok (.aload_n 0, 1) := dk_42 (dk_at dksX1_undo_0 0 rfl rfl)
theorem dX1_undo_1 : decode cX1_undo 1 = .ok (.getfield 43, 3) := dk_180 0 43 (dk_at dksX1_undo_0 1 rfl rfl)
theorem dX1_undo_4 : decode cX1_undo 4 = .ok (.invokevirtual 72, 3) := dk_182 0 72 (dk_at dksX1_undo_0 4 rfl rfl)
theorem dX1_undo_7 : decode cX1_undo 7 = .ok (.ifCond .ne 7, 3) := dk_154 0 7 (dk_at dksX1_undo_0 7 rfl rfl)
theorem dX1_undo_10 : decode cX1_undo 10 = .ok (.iconst 1, 1) := dk_4 (dk_at dksX1_undo_0 10 rfl rfl)
theorem dX1_undo_11 : decode cX1_undo 11 = .ok (.goto 4, 3) := dk_167 0 4 (dk_at dksX1_undo_0 11 rfl rfl)
theorem dX1_undo_14 : decode cX1_undo 14 = .ok (.iconst 0, 1) := dk_3 (dk_at dksX1_undo_0 14 rfl rfl)
theorem dX1_undo_15 : decode cX1_undo 15 = .ok (.invokestatic 76, 3) := dk_184 0 76 (dk_at dksX1_undo_0 15 rfl rfl)
theorem dX1_undo_18 : decode cX1_undo 18 = .ok (.aload_n 0, 1) := dk_42 (dk_at dksX1_undo_0 18 rfl rfl)
theorem dX1_undo_19 : decode cX1_undo 19 = .ok (.aload_n 0, 1) := dk_42 (dk_at dksX1_undo_0 19 rfl rfl)
theorem dX1_undo_20 : decode cX1_undo 20 = .ok (.getfield 43, 3) := dk_180 0 43 (dk_at dksX1_undo_0 20 rfl rfl)
theorem dX1_undo_23 : decode cX1_undo 23 = .ok (.aload_n 0, 1) := dk_42 (dk_at dksX1_undo_0 23 rfl rfl)
theorem dX1_undo_24 : decode cX1_undo 24 = .ok (.getfield 43, 3) := dk_180 0 43 (dk_at dksX1_undo_1 0 rfl rfl)
theorem dX1_undo_27 : decode cX1_undo 27 = .ok (.invokevirtual 56, 3) := dk_182 0 56 (dk_at dksX1_undo_1 3 rfl rfl)
theorem dX1_undo_30 : decode cX1_undo 30 = .ok (.iconst 1, 1) := dk_4 (dk_at dksX1_undo_1 6 rfl rfl)
theorem dX1_undo_31 : decode cX1_undo 31 = .ok (.isub, 1) := dk_100 (dk_at dksX1_undo_1 7 rfl rfl)
theorem dX1_undo_32 : decode cX1_undo 32 = .ok (.invokevirtual 60, 3) := dk_182 0 60 (dk_at dksX1_undo_1 8 rfl rfl)
theorem dX1_undo_35 : decode cX1_undo 35 = .ok (.checkcast 22, 3) := dk_192 0 22 (dk_at dksX1_undo_1 11 rfl rfl)
theorem dX1_undo_38 : decode cX1_undo 38 = .ok (.putfield 36, 3) := dk_181 0 36 (dk_at dksX1_undo_1 14 rfl rfl)
theorem dX1_undo_41 : decode cX1_undo 41 = .ok (.aload_n 0, 1) := dk_42 (dk_at dksX1_undo_1 17 rfl rfl)
theorem dX1_undo_42 : decode cX1_undo 42 = .ok (.getfield 43, 3) := dk_180 0 43 (dk_at dksX1_undo_1 18 rfl rfl)
theorem dX1_undo_45 : decode cX1_undo 45 = .ok (.invokevirtual 56, 3) := dk_182 0 56 (dk_at dksX1_undo_1 21 rfl rfl)
theorem dX1_undo_48 : decode cX1_undo 48 = .ok (.ireturn, 1) := dk_172 (dk_at dksX1_undo_2 0 rfl rfl)
def dkwX2_init_0 : List UInt8 := [42, 183, 0, 3, 42, 16, 6, 188, 10, 181, 0, 9, 42, 43, 181, 0, 15, 42, 44, 181, 0, 19, 177]
abbrev dktX2_init_0 : List UInt8 := dkwX2_init_0 ++ []
theorem dksX2_init_0 : cX2_init.data.toList.drop 0 = dktX2_init_0 := by decide +kernel
theorem dX2_init_0 : decode cX2_init 0 = .ok (.aload_n 0, 1) := dk_42 (dk_at dksX2_init_0 0 rfl rfl)
theorem dX2_init_1 : decode cX2_init 1 = .ok (.invokespecial 3, 3) := dk_183 0 3 (dk_at dksX2_init_0 1 rfl rfl)
theorem dX2_init_4 : decode cX2_init 4 = .ok (.aload_n 0, 1) := dk_42 (dk_at dksX2_init_0 4 rfl rfl)
theorem dX2_init_5 : decode cX2_init 5 = .ok (.bipush 6, 2) := dk_16 6 (dk_at dksX2_init_0 5 rfl rfl)
theorem dX2_init_7 : decode cX2_init 7 = .ok (.newarray .int, 2) := dk_188_10 (dk_at dksX2_init_0 7 rfl rfl)
theorem dX2_init_9 : decode cX2_init 9 = .ok (.putfield 9, 3) := dk_181 0 9 (dk_at dksX2_init_0 9 rfl rfl)
theorem dX2_init_12 : decode cX2_init 12 = .ok (.aload_n 0, 1) := dk_42 (dk_at dksX2_init_0 12 rfl rfl)
theorem dX2_init_13 : decode cX2_init 13 = .ok (.aload_n 1, 1) := dk_43 (dk_at dksX2_init_0 13 rfl rfl)
theorem dX2_init_14 : decode cX2_init 14 = .ok (.putfield 15, 3) := dk_181 0 15 (dk_at dksX2_init_0 14 rfl rfl)
theorem dX2_init_17 : decode cX2_init 17 = .ok (.aload_n 0, 1) := dk_42 (dk_at dksX2_init_0 17 rfl rfl)
theorem dX2_init_18 : decode cX2_init 18 = .ok (.aload_n 2, 1) := dk_44 (dk_at dksX2_init_0 18 rfl rfl)
theorem dX2_init_19 : decode cX2_init 19 = .ok (.putfield 19, 3) := dk_181 0 19 (dk_at dksX2_init_0 19 rfl rfl)
theorem dX2_init_22 : decode cX2_init 22 = .ok (.return_, 1) := dk_177 (dk_at dksX2_init_0 22 rfl rfl)
def dkwX2_asked_1 : List UInt8 := [167, 255, 238, 27, 172]
abbrev dktX2_asked_1 : List UInt8 := dkwX2_asked_1 ++ []
def dkwX2_asked_0 : List UInt8 := [3, 60, 3, 61, 28, 16, 6, 162, 0, 18, 27, 42, 180, 0, 9, 28, 46, 96, 60, 132, 2, 1]
abbrev dktX2_asked_0 : List UInt8 := dkwX2_asked_0 ++ dktX2_asked_1
theorem dksX2_asked_0 : cX2_asked.data.toList.drop 0 = dktX2_asked_0 := by decide +kernel
theorem dksX2_asked_1 : cX2_asked.data.toList.drop 22 = dktX2_asked_1 := dk_seg dksX2_asked_0 22 rfl rfl
theorem dX2_asked_0 : decode cX2_asked 0 = .ok (.iconst 0, 1) := dk_3 (dk_at dksX2_asked_0 0 rfl rfl)
theorem dX2_asked_1 : decode cX2_asked 1 = .ok (.istore_n 1, 1) := dk_60 (dk_at dksX2_asked_0 1 rfl rfl)
theorem dX2_asked_2 : decode cX2_asked 2 = .ok (.iconst 0, 1) := dk_3 (dk_at dksX2_asked_0 2 rfl rfl)
theorem dX2_asked_3 : decode cX2_asked 3 = .ok (.istore_n 2, 1) := dk_61 (dk_at dksX2_asked_0 3 rfl rfl)
theorem dX2_asked_4 : decode cX2_asked 4 = .ok (.iload_n 2, 1) := dk_28 (dk_at dksX2_asked_0 4 rfl rfl)
theorem dX2_asked_5 : decode cX2_asked 5 = .ok (.bipush 6, 2) := dk_16 6 (dk_at dksX2_asked_0 5 rfl rfl)
theorem dX2_asked_7 : decode cX2_asked 7 = .ok (.if_icmp .ge 18, 3) := dk_162 0 18 (dk_at dksX2_asked_0 7 rfl rfl)
theorem dX2_asked_10 : decode cX2_asked 10 = .ok (.iload_n 1, 1) := dk_27 (dk_at dksX2_asked_0 10 rfl rfl)
theorem dX2_asked_11 : decode cX2_asked 11 = .ok (.aload_n 0, 1) := dk_42 (dk_at dksX2_asked_0 11 rfl rfl)
theorem dX2_asked_12 : decode cX2_asked 12 = .ok (.getfield 9, 3) := dk_180 0 9 (dk_at dksX2_asked_0 12 rfl rfl)
theorem dX2_asked_15 : decode cX2_asked 15 = .ok (.iload_n 2, 1) := dk_28 (dk_at dksX2_asked_0 15 rfl rfl)
theorem dX2_asked_16 : decode cX2_asked 16 = .ok (.iaload, 1) := dk_46 (dk_at dksX2_asked_0 16 rfl rfl)
theorem dX2_asked_17 : decode cX2_asked 17 = .ok (.iadd, 1) := dk_96 (dk_at dksX2_asked_0 17 rfl rfl)
theorem dX2_asked_18 : decode cX2_asked 18 = .ok (.istore_n 1, 1) := dk_60 (dk_at dksX2_asked_0 18 rfl rfl)
theorem dX2_asked_19 : decode cX2_asked 19 = .ok (.iinc 2 1, 3) := dk_132 2 1 (dk_at dksX2_asked_0 19 rfl rfl)
theorem dX2_asked_22 : decode cX2_asked 22 = .ok (.goto (-18), 3) := dk_167 255 238 (dk_at dksX2_asked_1 0 rfl rfl)
theorem dX2_asked_25 : decode cX2_asked 25 = .ok (.iload_n 1, 1) := dk_27 (dk_at dksX2_asked_1 3 rfl rfl)
theorem dX2_asked_26 : decode cX2_asked 26 = .ok (.ireturn, 1) := dk_172 (dk_at dksX2_asked_1 4 rfl rfl)
def dkwX2_trial_0 : List UInt8 := [42, 42, 180, 0, 15, 182, 0, 29, 176]
abbrev dktX2_trial_0 : List UInt8 := dkwX2_trial_0 ++ []
theorem dksX2_trial_0 : cX2_trial.data.toList.drop 0 = dktX2_trial_0 := by decide +kernel
theorem dX2_trial_0 : decode cX2_trial 0 = .ok (.aload_n 0, 1) := dk_42 (dk_at dksX2_trial_0 0 rfl rfl)
theorem dX2_trial_1 : decode cX2_trial 1 = .ok (.aload_n 0, 1) := dk_42 (dk_at dksX2_trial_0 1 rfl rfl)
theorem dX2_trial_2 : decode cX2_trial 2 = .ok (.getfield 15, 3) := dk_180 0 15 (dk_at dksX2_trial_0 2 rfl rfl)
theorem dX2_trial_5 : decode cX2_trial 5 = .ok (.invokevirtual 29, 3) := dk_182 0 29 (dk_at dksX2_trial_0 5 rfl rfl)
theorem dX2_trial_8 : decode cX2_trial 8 = .ok (.areturn, 1) := dk_176 (dk_at dksX2_trial_0 8 rfl rfl)
def dkwX2_copy_2 : List UInt8 := [181, 0, 40, 44, 42, 180, 0, 44, 181, 0, 44, 44, 42, 180, 0, 47, 181, 0, 47, 44, 176]
abbrev dktX2_copy_2 : List UInt8 := dkwX2_copy_2 ++ []
def dkwX2_copy_1 : List UInt8 := [44, 180, 0, 9, 29, 42, 180, 0, 9, 29, 46, 79, 132, 3, 1, 167, 255, 235, 44, 42, 180, 0, 40]
abbrev dktX2_copy_1 : List UInt8 := dkwX2_copy_1 ++ dktX2_copy_2
def dkwX2_copy_0 : List UInt8 := [187, 0, 10, 89, 43, 42, 180, 0, 19, 182, 0, 32, 183, 0, 37, 77, 3, 62, 29, 16, 6, 162, 0, 21]
abbrev dktX2_copy_0 : List UInt8 := dkwX2_copy_0 ++ dktX2_copy_1
theorem dksX2_copy_0 : cX2_copy.data.toList.drop 0 = dktX2_copy_0 := by decide +kernel
theorem dksX2_copy_1 : cX2_copy.data.toList.drop 24 = dktX2_copy_1 := dk_seg dksX2_copy_0 24 rfl rfl
theorem dksX2_copy_2 : cX2_copy.data.toList.drop 47 = dktX2_copy_2 := dk_seg dksX2_copy_1 23 rfl rfl
theorem dX2_copy_0 : decode cX2_copy 0 = .ok (.new 10, 3) := dk_187 0 10 (dk_at dksX2_copy_0 0 rfl rfl)
theorem dX2_copy_3 : decode cX2_copy 3 = .ok (.dup, 1) := dk_89 (dk_at dksX2_copy_0 3 rfl rfl)
theorem dX2_copy_4 : decode cX2_copy 4 = .ok (.aload_n 1, 1) := dk_43 (dk_at dksX2_copy_0 4 rfl rfl)
theorem dX2_copy_5 : decode cX2_copy 5 = .ok (.aload_n 0, 1) := dk_42 (dk_at dksX2_copy_0 5 rfl rfl)
theorem dX2_copy_6 : decode cX2_copy 6 = .ok (.getfield 19, 3) := dk_180 0 19 (dk_at dksX2_copy_0 6 rfl rfl)
theorem dX2_copy_9 : decode cX2_copy 9 = .ok (.invokevirtual 32, 3) := dk_182 0 32 (dk_at dksX2_copy_0 9 rfl rfl)
theorem dX2_copy_12 : decode cX2_copy 12 = .ok (.invokespecial 37, 3) := dk_183 0 37 (dk_at dksX2_copy_0 12 rfl rfl)
theorem dX2_copy_15 : decode cX2_copy 15 = .ok (.astore_n 2, 1) := dk_77 (dk_at dksX2_copy_0 15 rfl rfl)
theorem dX2_copy_16 : decode cX2_copy 16 = .ok (.iconst 0, 1) := dk_3 (dk_at dksX2_copy_0 16 rfl rfl)
theorem dX2_copy_17 : decode cX2_copy 17 = .ok (.istore_n 3, 1) := dk_62 (dk_at dksX2_copy_0 17 rfl rfl)
theorem dX2_copy_18 : decode cX2_copy 18 = .ok (.iload_n 3, 1) := dk_29 (dk_at dksX2_copy_0 18 rfl rfl)
theorem dX2_copy_19 : decode cX2_copy 19 = .ok (.bipush 6, 2) := dk_16 6 (dk_at dksX2_copy_0 19 rfl rfl)
theorem dX2_copy_21 : decode cX2_copy 21 = .ok (.if_icmp .ge 21, 3) := dk_162 0 21 (dk_at dksX2_copy_0 21 rfl rfl)
theorem dX2_copy_24 : decode cX2_copy 24 = .ok (.aload_n 2, 1) := dk_44 (dk_at dksX2_copy_1 0 rfl rfl)
theorem dX2_copy_25 : decode cX2_copy 25 = .ok (.getfield 9, 3) := dk_180 0 9 (dk_at dksX2_copy_1 1 rfl rfl)
theorem dX2_copy_28 : decode cX2_copy 28 = .ok (.iload_n 3, 1) := dk_29 (dk_at dksX2_copy_1 4 rfl rfl)
theorem dX2_copy_29 : decode cX2_copy 29 = .ok (.aload_n 0, 1) := dk_42 (dk_at dksX2_copy_1 5 rfl rfl)
theorem dX2_copy_30 : decode cX2_copy 30 = .ok (.getfield 9, 3) := dk_180 0 9 (dk_at dksX2_copy_1 6 rfl rfl)
theorem dX2_copy_33 : decode cX2_copy 33 = .ok (.iload_n 3, 1) := dk_29 (dk_at dksX2_copy_1 9 rfl rfl)
theorem dX2_copy_34 : decode cX2_copy 34 = .ok (.iaload, 1) := dk_46 (dk_at dksX2_copy_1 10 rfl rfl)
theorem dX2_copy_35 : decode cX2_copy 35 = .ok (.iastore, 1) := dk_79 (dk_at dksX2_copy_1 11 rfl rfl)
theorem dX2_copy_36 : decode cX2_copy 36 = .ok (.iinc 3 1, 3) := dk_132 3 1 (dk_at dksX2_copy_1 12 rfl rfl)
theorem dX2_copy_39 : decode cX2_copy 39 = .ok (.goto (-21), 3) := dk_167 255 235 (dk_at dksX2_copy_1 15 rfl rfl)
theorem dX2_copy_42 : decode cX2_copy 42 = .ok (.aload_n 2, 1) := dk_44 (dk_at dksX2_copy_1 18 rfl rfl)
theorem dX2_copy_43 : decode cX2_copy 43 = .ok (.aload_n 0, 1) := dk_42 (dk_at dksX2_copy_1 19 rfl rfl)
theorem dX2_copy_44 : decode cX2_copy 44 = .ok (.getfield 40, 3) := dk_180 0 40 (dk_at dksX2_copy_1 20 rfl rfl)
theorem dX2_copy_47 : decode cX2_copy 47 = .ok (.putfield 40, 3) := dk_181 0 40 (dk_at dksX2_copy_2 0 rfl rfl)
theorem dX2_copy_50 : decode cX2_copy 50 = .ok (.aload_n 2, 1) := dk_44 (dk_at dksX2_copy_2 3 rfl rfl)
theorem dX2_copy_51 : decode cX2_copy 51 = .ok (.aload_n 0, 1) := dk_42 (dk_at dksX2_copy_2 4 rfl rfl)
theorem dX2_copy_52 : decode cX2_copy 52 = .ok (.getfield 44, 3) := dk_180 0 44 (dk_at dksX2_copy_2 5 rfl rfl)
theorem dX2_copy_55 : decode cX2_copy 55 = .ok (.putfield 44, 3) := dk_181 0 44 (dk_at dksX2_copy_2 8 rfl rfl)
theorem dX2_copy_58 : decode cX2_copy 58 = .ok (.aload_n 2, 1) := dk_44 (dk_at dksX2_copy_2 11 rfl rfl)
theorem dX2_copy_59 : decode cX2_copy 59 = .ok (.aload_n 0, 1) := dk_42 (dk_at dksX2_copy_2 12 rfl rfl)
theorem dX2_copy_60 : decode cX2_copy 60 = .ok (.getfield 47, 3) := dk_180 0 47 (dk_at dksX2_copy_2 13 rfl rfl)
theorem dX2_copy_63 : decode cX2_copy 63 = .ok (.putfield 47, 3) := dk_181 0 47 (dk_at dksX2_copy_2 16 rfl rfl)
theorem dX2_copy_66 : decode cX2_copy 66 = .ok (.aload_n 2, 1) := dk_44 (dk_at dksX2_copy_2 19 rfl rfl)
theorem dX2_copy_67 : decode cX2_copy 67 = .ok (.areturn, 1) := dk_176 (dk_at dksX2_copy_2 20 rfl rfl)
def dkwX2_solve_3 : List UInt8 := [172]
abbrev dktX2_solve_3 : List UInt8 := dkwX2_solve_3 ++ []
def dkwX2_solve_2 : List UInt8 := [25, 4, 180, 0, 113, 167, 0, 4, 2, 172, 25, 4, 180, 0, 113, 61, 132, 3, 1, 167, 255, 206, 16, 254]
abbrev dktX2_solve_2 : List UInt8 := dkwX2_solve_2 ++ dktX2_solve_3
def dkwX2_solve_1 : List UInt8 := [182, 0, 108, 58, 4, 25, 4, 180, 0, 110, 5, 159, 0, 22, 25, 4, 180, 0, 110, 4, 160, 0, 11]
abbrev dktX2_solve_1 : List UInt8 := dkwX2_solve_1 ++ dktX2_solve_2
def dkwX2_solve_0 : List UInt8 := [42, 89, 180, 0, 44, 4, 96, 181, 0, 44, 27, 61, 3, 62, 29, 16, 6, 163, 0, 50, 42, 28]
abbrev dktX2_solve_0 : List UInt8 := dkwX2_solve_0 ++ dktX2_solve_1
theorem dksX2_solve_0 : cX2_solve.data.toList.drop 0 = dktX2_solve_0 := by decide +kernel
theorem dksX2_solve_1 : cX2_solve.data.toList.drop 22 = dktX2_solve_1 := dk_seg dksX2_solve_0 22 rfl rfl
theorem dksX2_solve_2 : cX2_solve.data.toList.drop 45 = dktX2_solve_2 := dk_seg dksX2_solve_1 23 rfl rfl
theorem dksX2_solve_3 : cX2_solve.data.toList.drop 69 = dktX2_solve_3 := dk_seg dksX2_solve_2 24 rfl rfl
theorem dX2_solve_0 : decode cX2_solve 0 = .ok (.aload_n 0, 1) := dk_42 (dk_at dksX2_solve_0 0 rfl rfl)
theorem dX2_solve_1 : decode cX2_solve 1 = .ok (.dup, 1) := dk_89 (dk_at dksX2_solve_0 1 rfl rfl)
theorem dX2_solve_2 : decode cX2_solve 2 = .ok (.getfield 44, 3) := dk_180 0 44 (dk_at dksX2_solve_0 2 rfl rfl)
theorem dX2_solve_5 : decode cX2_solve 5 = .ok (.iconst 1, 1) := dk_4 (dk_at dksX2_solve_0 5 rfl rfl)
theorem dX2_solve_6 : decode cX2_solve 6 = .ok (.iadd, 1) := dk_96 (dk_at dksX2_solve_0 6 rfl rfl)
theorem dX2_solve_7 : decode cX2_solve 7 = .ok (.putfield 44, 3) := dk_181 0 44 (dk_at dksX2_solve_0 7 rfl rfl)
theorem dX2_solve_10 : decode cX2_solve 10 = .ok (.iload_n 1, 1) := dk_27 (dk_at dksX2_solve_0 10 rfl rfl)
theorem dX2_solve_11 : decode cX2_solve 11 = .ok (.istore_n 2, 1) := dk_61 (dk_at dksX2_solve_0 11 rfl rfl)
theorem dX2_solve_12 : decode cX2_solve 12 = .ok (.iconst 0, 1) := dk_3 (dk_at dksX2_solve_0 12 rfl rfl)
theorem dX2_solve_13 : decode cX2_solve 13 = .ok (.istore_n 3, 1) := dk_62 (dk_at dksX2_solve_0 13 rfl rfl)
theorem dX2_solve_14 : decode cX2_solve 14 = .ok (.iload_n 3, 1) := dk_29 (dk_at dksX2_solve_0 14 rfl rfl)
theorem dX2_solve_15 : decode cX2_solve 15 = .ok (.bipush 6, 2) := dk_16 6 (dk_at dksX2_solve_0 15 rfl rfl)
theorem dX2_solve_17 : decode cX2_solve 17 = .ok (.if_icmp .gt 50, 3) := dk_163 0 50 (dk_at dksX2_solve_0 17 rfl rfl)
theorem dX2_solve_20 : decode cX2_solve 20 = .ok (.aload_n 0, 1) := dk_42 (dk_at dksX2_solve_0 20 rfl rfl)
theorem dX2_solve_21 : decode cX2_solve 21 = .ok (.iload_n 2, 1) := dk_28 (dk_at dksX2_solve_0 21 rfl rfl)
theorem dX2_solve_22 : decode cX2_solve 22 = .ok (.invokevirtual 108, 3) := dk_182 0 108 (dk_at dksX2_solve_1 0 rfl rfl)
theorem dX2_solve_25 : decode cX2_solve 25 = .ok (.astore 4, 2) := dk_58 4 (dk_at dksX2_solve_1 3 rfl rfl)
theorem dX2_solve_27 : decode cX2_solve 27 = .ok (.aload 4, 2) := dk_25 4 (dk_at dksX2_solve_1 5 rfl rfl)
theorem dX2_solve_29 : decode cX2_solve 29 = .ok (.getfield 110, 3) := dk_180 0 110 (dk_at dksX2_solve_1 7 rfl rfl)
theorem dX2_solve_32 : decode cX2_solve 32 = .ok (.iconst 2, 1) := dk_5 (dk_at dksX2_solve_1 10 rfl rfl)
theorem dX2_solve_33 : decode cX2_solve 33 = .ok (.if_icmp .eq 22, 3) := dk_159 0 22 (dk_at dksX2_solve_1 11 rfl rfl)
theorem dX2_solve_36 : decode cX2_solve 36 = .ok (.aload 4, 2) := dk_25 4 (dk_at dksX2_solve_1 14 rfl rfl)
theorem dX2_solve_38 : decode cX2_solve 38 = .ok (.getfield 110, 3) := dk_180 0 110 (dk_at dksX2_solve_1 16 rfl rfl)
theorem dX2_solve_41 : decode cX2_solve 41 = .ok (.iconst 1, 1) := dk_4 (dk_at dksX2_solve_1 19 rfl rfl)
theorem dX2_solve_42 : decode cX2_solve 42 = .ok (.if_icmp .ne 11, 3) := dk_160 0 11 (dk_at dksX2_solve_1 20 rfl rfl)
theorem dX2_solve_45 : decode cX2_solve 45 = .ok (.aload 4, 2) := dk_25 4 (dk_at dksX2_solve_2 0 rfl rfl)
theorem dX2_solve_47 : decode cX2_solve 47 = .ok (.getfield 113, 3) := dk_180 0 113 (dk_at dksX2_solve_2 2 rfl rfl)
theorem dX2_solve_50 : decode cX2_solve 50 = .ok (.goto 4, 3) := dk_167 0 4 (dk_at dksX2_solve_2 5 rfl rfl)
theorem dX2_solve_53 : decode cX2_solve 53 = .ok (.iconst (-1), 1) := dk_2 (dk_at dksX2_solve_2 8 rfl rfl)
theorem dX2_solve_54 : decode cX2_solve 54 = .ok (.ireturn, 1) := dk_172 (dk_at dksX2_solve_2 9 rfl rfl)
theorem dX2_solve_55 : decode cX2_solve 55 = .ok (.aload 4, 2) := dk_25 4 (dk_at dksX2_solve_2 10 rfl rfl)
theorem dX2_solve_57 : decode cX2_solve 57 = .ok (.getfield 113, 3) := dk_180 0 113 (dk_at dksX2_solve_2 12 rfl rfl)
theorem dX2_solve_60 : decode cX2_solve 60 = .ok (.istore_n 2, 1) := dk_61 (dk_at dksX2_solve_2 15 rfl rfl)
theorem dX2_solve_61 : decode cX2_solve 61 = .ok (.iinc 3 1, 3) := dk_132 3 1 (dk_at dksX2_solve_2 16 rfl rfl)
theorem dX2_solve_64 : decode cX2_solve 64 = .ok (.goto (-50), 3) := dk_167 255 206 (dk_at dksX2_solve_2 19 rfl rfl)
theorem dX2_solve_67 : decode cX2_solve 67 = .ok (.bipush (-2), 2) := dk_16 254 (dk_at dksX2_solve_2 22 rfl rfl)
theorem dX2_solve_69 : decode cX2_solve 69 = .ok (.ireturn, 1) := dk_172 (dk_at dksX2_solve_3 0 rfl rfl)
def dkwX2_reply_1 : List UInt8 := [180, 0, 47, 4, 96, 181, 0, 47, 44, 176]
abbrev dktX2_reply_1 : List UInt8 := dkwX2_reply_1 ++ []
def dkwX2_reply_0 : List UInt8 := [42, 180, 0, 19, 3, 27, 182, 0, 54, 77, 44, 199, 0, 9, 42, 27, 182, 0, 104, 176, 42, 89]
abbrev dktX2_reply_0 : List UInt8 := dkwX2_reply_0 ++ dktX2_reply_1
theorem dksX2_reply_0 : cX2_reply.data.toList.drop 0 = dktX2_reply_0 := by decide +kernel
theorem dksX2_reply_1 : cX2_reply.data.toList.drop 22 = dktX2_reply_1 := dk_seg dksX2_reply_0 22 rfl rfl
theorem dX2_reply_0 : decode cX2_reply 0 = .ok (.aload_n 0, 1) := dk_42 (dk_at dksX2_reply_0 0 rfl rfl)
theorem dX2_reply_1 : decode cX2_reply 1 = .ok (.getfield 19, 3) := dk_180 0 19 (dk_at dksX2_reply_0 1 rfl rfl)
theorem dX2_reply_4 : decode cX2_reply 4 = .ok (.iconst 0, 1) := dk_3 (dk_at dksX2_reply_0 4 rfl rfl)
theorem dX2_reply_5 : decode cX2_reply 5 = .ok (.iload_n 1, 1) := dk_27 (dk_at dksX2_reply_0 5 rfl rfl)
theorem dX2_reply_6 : decode cX2_reply 6 = .ok (.invokevirtual 54, 3) := dk_182 0 54 (dk_at dksX2_reply_0 6 rfl rfl)
theorem dX2_reply_9 : decode cX2_reply 9 = .ok (.astore_n 2, 1) := dk_77 (dk_at dksX2_reply_0 9 rfl rfl)
theorem dX2_reply_10 : decode cX2_reply 10 = .ok (.aload_n 2, 1) := dk_44 (dk_at dksX2_reply_0 10 rfl rfl)
theorem dX2_reply_11 : decode cX2_reply 11 = .ok (.ifnonnull 9, 3) := dk_199 0 9 (dk_at dksX2_reply_0 11 rfl rfl)
theorem dX2_reply_14 : decode cX2_reply 14 = .ok (.aload_n 0, 1) := dk_42 (dk_at dksX2_reply_0 14 rfl rfl)
theorem dX2_reply_15 : decode cX2_reply 15 = .ok (.iload_n 1, 1) := dk_27 (dk_at dksX2_reply_0 15 rfl rfl)
theorem dX2_reply_16 : decode cX2_reply 16 = .ok (.invokevirtual 104, 3) := dk_182 0 104 (dk_at dksX2_reply_0 16 rfl rfl)
theorem dX2_reply_19 : decode cX2_reply 19 = .ok (.areturn, 1) := dk_176 (dk_at dksX2_reply_0 19 rfl rfl)
theorem dX2_reply_20 : decode cX2_reply 20 = .ok (.aload_n 0, 1) := dk_42 (dk_at dksX2_reply_0 20 rfl rfl)
theorem dX2_reply_21 : decode cX2_reply 21 = .ok (.dup, 1) := dk_89 (dk_at dksX2_reply_0 21 rfl rfl)
theorem dX2_reply_22 : decode cX2_reply 22 = .ok (.getfield 47, 3) := dk_180 0 47 (dk_at dksX2_reply_1 0 rfl rfl)
theorem dX2_reply_25 : decode cX2_reply 25 = .ok (.iconst 1, 1) := dk_4 (dk_at dksX2_reply_1 3 rfl rfl)
theorem dX2_reply_26 : decode cX2_reply 26 = .ok (.iadd, 1) := dk_96 (dk_at dksX2_reply_1 4 rfl rfl)
theorem dX2_reply_27 : decode cX2_reply 27 = .ok (.putfield 47, 3) := dk_181 0 47 (dk_at dksX2_reply_1 5 rfl rfl)
theorem dX2_reply_30 : decode cX2_reply 30 = .ok (.aload_n 2, 1) := dk_44 (dk_at dksX2_reply_1 8 rfl rfl)
theorem dX2_reply_31 : decode cX2_reply 31 = .ok (.areturn, 1) := dk_176 (dk_at dksX2_reply_1 9 rfl rfl)
def dkwX2_ask_7 : List UInt8 := [27, 42, 180, 0, 40, 182, 0, 100, 58, 5, 42, 180, 0, 19, 25, 5, 182, 0, 96, 25, 5, 176]
abbrev dktX2_ask_7 : List UInt8 := dkwX2_ask_7 ++ []
def dkwX2_ask_6 : List UInt8 := [182, 0, 96, 21, 6, 54, 4, 167, 255, 167, 42, 180, 0, 9, 28, 92, 46, 4, 96, 79, 42, 180, 0, 15]
abbrev dktX2_ask_6 : List UInt8 := dkwX2_ask_6 ++ dktX2_ask_7
def dkwX2_ask_5 : List UInt8 := [183, 0, 87, 3, 21, 6, 42, 180, 0, 40, 42, 180, 0, 15, 180, 0, 90, 21, 4, 46, 96, 183, 0, 93]
abbrev dktX2_ask_5 : List UInt8 := dkwX2_ask_5 ++ dktX2_ask_6
def dkwX2_ask_4 : List UInt8 := [21, 4, 92, 46, 4, 96, 79, 42, 180, 0, 19, 187, 0, 83, 89, 187, 0, 85, 89, 4, 21, 6]
abbrev dktX2_ask_4 : List UInt8 := dkwX2_ask_4 ++ dktX2_ask_5
def dkwX2_ask_3 : List UInt8 := [185, 0, 73, 1, 0, 192, 0, 77, 182, 0, 79, 54, 6, 21, 6, 21, 4, 164, 0, 60, 42, 180, 0, 9]
abbrev dktX2_ask_3 : List UInt8 := dkwX2_ask_3 ++ dktX2_ask_4
def dkwX2_ask_2 : List UInt8 := [167, 255, 226, 45, 182, 0, 61, 58, 5, 25, 5, 185, 0, 67, 1, 0, 153, 0, 85, 25, 5]
abbrev dktX2_ask_2 : List UInt8 := dkwX2_ask_2 ++ dktX2_ask_3
def dkwX2_ask_1 : List UInt8 := [180, 0, 19, 4, 21, 4, 182, 0, 54, 199, 0, 18, 42, 180, 0, 15, 180, 0, 58, 21, 4, 46, 54, 4]
abbrev dktX2_ask_1 : List UInt8 := dkwX2_ask_1 ++ dktX2_ask_2
def dkwX2_ask_0 : List UInt8 := [27, 16, 6, 108, 61, 42, 180, 0, 15, 28, 182, 0, 50, 78, 28, 54, 4, 21, 4, 153, 0, 31, 42]
abbrev dktX2_ask_0 : List UInt8 := dkwX2_ask_0 ++ dktX2_ask_1
theorem dksX2_ask_0 : cX2_ask.data.toList.drop 0 = dktX2_ask_0 := by decide +kernel
theorem dksX2_ask_1 : cX2_ask.data.toList.drop 23 = dktX2_ask_1 := dk_seg dksX2_ask_0 23 rfl rfl
theorem dksX2_ask_2 : cX2_ask.data.toList.drop 47 = dktX2_ask_2 := dk_seg dksX2_ask_1 24 rfl rfl
theorem dksX2_ask_3 : cX2_ask.data.toList.drop 68 = dktX2_ask_3 := dk_seg dksX2_ask_2 21 rfl rfl
theorem dksX2_ask_4 : cX2_ask.data.toList.drop 92 = dktX2_ask_4 := dk_seg dksX2_ask_3 24 rfl rfl
theorem dksX2_ask_5 : cX2_ask.data.toList.drop 114 = dktX2_ask_5 := dk_seg dksX2_ask_4 22 rfl rfl
theorem dksX2_ask_6 : cX2_ask.data.toList.drop 138 = dktX2_ask_6 := dk_seg dksX2_ask_5 24 rfl rfl
theorem dksX2_ask_7 : cX2_ask.data.toList.drop 162 = dktX2_ask_7 := dk_seg dksX2_ask_6 24 rfl rfl
theorem dX2_ask_0 : decode cX2_ask 0 = .ok (.iload_n 1, 1) := dk_27 (dk_at dksX2_ask_0 0 rfl rfl)
theorem dX2_ask_1 : decode cX2_ask 1 = .ok (.bipush 6, 2) := dk_16 6 (dk_at dksX2_ask_0 1 rfl rfl)
theorem dX2_ask_3 : decode cX2_ask 3 = .ok (.idiv, 1) := dk_108 (dk_at dksX2_ask_0 3 rfl rfl)
theorem dX2_ask_4 : decode cX2_ask 4 = .ok (.istore_n 2, 1) := dk_61 (dk_at dksX2_ask_0 4 rfl rfl)
theorem dX2_ask_5 : decode cX2_ask 5 = .ok (.aload_n 0, 1) := dk_42 (dk_at dksX2_ask_0 5 rfl rfl)
theorem dX2_ask_6 : decode cX2_ask 6 = .ok (.getfield 15, 3) := dk_180 0 15 (dk_at dksX2_ask_0 6 rfl rfl)
theorem dX2_ask_9 : decode cX2_ask 9 = .ok (.iload_n 2, 1) := dk_28 (dk_at dksX2_ask_0 9 rfl rfl)
theorem dX2_ask_10 : decode cX2_ask 10 = .ok (.invokevirtual 50, 3) := dk_182 0 50 (dk_at dksX2_ask_0 10 rfl rfl)
theorem dX2_ask_13 : decode cX2_ask 13 = .ok (.astore_n 3, 1) := dk_78 (dk_at dksX2_ask_0 13 rfl rfl)
theorem dX2_ask_14 : decode cX2_ask 14 = .ok (.iload_n 2, 1) := dk_28 (dk_at dksX2_ask_0 14 rfl rfl)
theorem dX2_ask_15 : decode cX2_ask 15 = .ok (.istore 4, 2) := dk_54 4 (dk_at dksX2_ask_0 15 rfl rfl)
theorem dX2_ask_17 : decode cX2_ask 17 = .ok (.iload 4, 2) := dk_21 4 (dk_at dksX2_ask_0 17 rfl rfl)
theorem dX2_ask_19 : decode cX2_ask 19 = .ok (.ifCond .eq 31, 3) := dk_153 0 31 (dk_at dksX2_ask_0 19 rfl rfl)
theorem dX2_ask_22 : decode cX2_ask 22 = .ok (.aload_n 0, 1) := dk_42 (dk_at dksX2_ask_0 22 rfl rfl)
theorem dX2_ask_23 : decode cX2_ask 23 = .ok (.getfield 19, 3) := dk_180 0 19 (dk_at dksX2_ask_1 0 rfl rfl)
theorem dX2_ask_26 : decode cX2_ask 26 = .ok (.iconst 1, 1) := dk_4 (dk_at dksX2_ask_1 3 rfl rfl)
theorem dX2_ask_27 : decode cX2_ask 27 = .ok (.iload 4, 2) := dk_21 4 (dk_at dksX2_ask_1 4 rfl rfl)
theorem dX2_ask_29 : decode cX2_ask 29 = .ok (.invokevirtual 54, 3) := dk_182 0 54 (dk_at dksX2_ask_1 6 rfl rfl)
theorem dX2_ask_32 : decode cX2_ask 32 = .ok (.ifnonnull 18, 3) := dk_199 0 18 (dk_at dksX2_ask_1 9 rfl rfl)
theorem dX2_ask_35 : decode cX2_ask 35 = .ok (.aload_n 0, 1) := dk_42 (dk_at dksX2_ask_1 12 rfl rfl)
theorem dX2_ask_36 : decode cX2_ask 36 = .ok (.getfield 15, 3) := dk_180 0 15 (dk_at dksX2_ask_1 13 rfl rfl)
theorem dX2_ask_39 : decode cX2_ask 39 = .ok (.getfield 58, 3) := dk_180 0 58 (dk_at dksX2_ask_1 16 rfl rfl)
theorem dX2_ask_42 : decode cX2_ask 42 = .ok (.iload 4, 2) := dk_21 4 (dk_at dksX2_ask_1 19 rfl rfl)
theorem dX2_ask_44 : decode cX2_ask 44 = .ok (.iaload, 1) := dk_46 (dk_at dksX2_ask_1 21 rfl rfl)
theorem dX2_ask_45 : decode cX2_ask 45 = .ok (.istore 4, 2) := dk_54 4 (dk_at dksX2_ask_1 22 rfl rfl)
theorem dX2_ask_47 : decode cX2_ask 47 = .ok (.goto (-30), 3) := dk_167 255 226 (dk_at dksX2_ask_2 0 rfl rfl)
theorem dX2_ask_50 : decode cX2_ask 50 = .ok (.aload_n 3, 1) := dk_45 (dk_at dksX2_ask_2 3 rfl rfl)
theorem dX2_ask_51 : decode cX2_ask 51 = .ok (.invokevirtual 61, 3) := dk_182 0 61 (dk_at dksX2_ask_2 4 rfl rfl)
theorem dX2_ask_54 : decode cX2_ask 54 = .ok (.astore 5, 2) := dk_58 5 (dk_at dksX2_ask_2 7 rfl rfl)
theorem dX2_ask_56 : decode cX2_ask 56 = .ok (.aload 5, 2) := dk_25 5 (dk_at dksX2_ask_2 9 rfl rfl)
theorem dX2_ask_58 : decode cX2_ask 58 = .ok (.invokeinterface 67 1, 5) := by decide +kernel
theorem dX2_ask_63 : decode cX2_ask 63 = .ok (.ifCond .eq 85, 3) := dk_153 0 85 (dk_at dksX2_ask_2 16 rfl rfl)
theorem dX2_ask_66 : decode cX2_ask 66 = .ok (.aload 5, 2) := dk_25 5 (dk_at dksX2_ask_2 19 rfl rfl)
theorem dX2_ask_68 : decode cX2_ask 68 = .ok (.invokeinterface 73 1, 5) := by decide +kernel
theorem dX2_ask_73 : decode cX2_ask 73 = .ok (.checkcast 77, 3) := dk_192 0 77 (dk_at dksX2_ask_3 5 rfl rfl)
theorem dX2_ask_76 : decode cX2_ask 76 = .ok (.invokevirtual 79, 3) := dk_182 0 79 (dk_at dksX2_ask_3 8 rfl rfl)
theorem dX2_ask_79 : decode cX2_ask 79 = .ok (.istore 6, 2) := dk_54 6 (dk_at dksX2_ask_3 11 rfl rfl)
theorem dX2_ask_81 : decode cX2_ask 81 = .ok (.iload 6, 2) := dk_21 6 (dk_at dksX2_ask_3 13 rfl rfl)
theorem dX2_ask_83 : decode cX2_ask 83 = .ok (.iload 4, 2) := dk_21 4 (dk_at dksX2_ask_3 15 rfl rfl)
theorem dX2_ask_85 : decode cX2_ask 85 = .ok (.if_icmp .le 60, 3) := dk_164 0 60 (dk_at dksX2_ask_3 17 rfl rfl)
theorem dX2_ask_88 : decode cX2_ask 88 = .ok (.aload_n 0, 1) := dk_42 (dk_at dksX2_ask_3 20 rfl rfl)
theorem dX2_ask_89 : decode cX2_ask 89 = .ok (.getfield 9, 3) := dk_180 0 9 (dk_at dksX2_ask_3 21 rfl rfl)
theorem dX2_ask_92 : decode cX2_ask 92 = .ok (.iload 4, 2) := dk_21 4 (dk_at dksX2_ask_4 0 rfl rfl)
theorem dX2_ask_94 : decode cX2_ask 94 = .ok (.dup2, 1) := dk_92 (dk_at dksX2_ask_4 2 rfl rfl)
theorem dX2_ask_95 : decode cX2_ask 95 = .ok (.iaload, 1) := dk_46 (dk_at dksX2_ask_4 3 rfl rfl)
theorem dX2_ask_96 : decode cX2_ask 96 = .ok (.iconst 1, 1) := dk_4 (dk_at dksX2_ask_4 4 rfl rfl)
theorem dX2_ask_97 : decode cX2_ask 97 = .ok (.iadd, 1) := dk_96 (dk_at dksX2_ask_4 5 rfl rfl)
theorem dX2_ask_98 : decode cX2_ask 98 = .ok (.iastore, 1) := dk_79 (dk_at dksX2_ask_4 6 rfl rfl)
theorem dX2_ask_99 : decode cX2_ask 99 = .ok (.aload_n 0, 1) := dk_42 (dk_at dksX2_ask_4 7 rfl rfl)
theorem dX2_ask_100 : decode cX2_ask 100 = .ok (.getfield 19, 3) := dk_180 0 19 (dk_at dksX2_ask_4 8 rfl rfl)
theorem dX2_ask_103 : decode cX2_ask 103 = .ok (.new 83, 3) := dk_187 0 83 (dk_at dksX2_ask_4 11 rfl rfl)
theorem dX2_ask_106 : decode cX2_ask 106 = .ok (.dup, 1) := dk_89 (dk_at dksX2_ask_4 14 rfl rfl)
theorem dX2_ask_107 : decode cX2_ask 107 = .ok (.new 85, 3) := dk_187 0 85 (dk_at dksX2_ask_4 15 rfl rfl)
theorem dX2_ask_110 : decode cX2_ask 110 = .ok (.dup, 1) := dk_89 (dk_at dksX2_ask_4 18 rfl rfl)
theorem dX2_ask_111 : decode cX2_ask 111 = .ok (.iconst 1, 1) := dk_4 (dk_at dksX2_ask_4 19 rfl rfl)
theorem dX2_ask_112 : decode cX2_ask 112 = .ok (.iload 6, 2) := dk_21 6 (dk_at dksX2_ask_4 20 rfl rfl)
theorem dX2_ask_114 : decode cX2_ask 114 = .ok (.invokespecial 87, 3) := dk_183 0 87 (dk_at dksX2_ask_5 0 rfl rfl)
theorem dX2_ask_117 : decode cX2_ask 117 = .ok (.iconst 0, 1) := dk_3 (dk_at dksX2_ask_5 3 rfl rfl)
theorem dX2_ask_118 : decode cX2_ask 118 = .ok (.iload 6, 2) := dk_21 6 (dk_at dksX2_ask_5 4 rfl rfl)
theorem dX2_ask_120 : decode cX2_ask 120 = .ok (.aload_n 0, 1) := dk_42 (dk_at dksX2_ask_5 6 rfl rfl)
theorem dX2_ask_121 : decode cX2_ask 121 = .ok (.getfield 40, 3) := dk_180 0 40 (dk_at dksX2_ask_5 7 rfl rfl)
theorem dX2_ask_124 : decode cX2_ask 124 = .ok (.aload_n 0, 1) := dk_42 (dk_at dksX2_ask_5 10 rfl rfl)
theorem dX2_ask_125 : decode cX2_ask 125 = .ok (.getfield 15, 3) := dk_180 0 15 (dk_at dksX2_ask_5 11 rfl rfl)
theorem dX2_ask_128 : decode cX2_ask 128 = .ok (.getfield 90, 3) := dk_180 0 90 (dk_at dksX2_ask_5 14 rfl rfl)
theorem dX2_ask_131 : decode cX2_ask 131 = .ok (.iload 4, 2) := dk_21 4 (dk_at dksX2_ask_5 17 rfl rfl)
theorem dX2_ask_133 : decode cX2_ask 133 = .ok (.iaload, 1) := dk_46 (dk_at dksX2_ask_5 19 rfl rfl)
theorem dX2_ask_134 : decode cX2_ask 134 = .ok (.iadd, 1) := dk_96 (dk_at dksX2_ask_5 20 rfl rfl)
theorem dX2_ask_135 : decode cX2_ask 135 = .ok (.invokespecial 93, 3) := dk_183 0 93 (dk_at dksX2_ask_5 21 rfl rfl)
theorem dX2_ask_138 : decode cX2_ask 138 = .ok (.invokevirtual 96, 3) := dk_182 0 96 (dk_at dksX2_ask_6 0 rfl rfl)
theorem dX2_ask_141 : decode cX2_ask 141 = .ok (.iload 6, 2) := dk_21 6 (dk_at dksX2_ask_6 3 rfl rfl)
theorem dX2_ask_143 : decode cX2_ask 143 = .ok (.istore 4, 2) := dk_54 4 (dk_at dksX2_ask_6 5 rfl rfl)
theorem dX2_ask_145 : decode cX2_ask 145 = .ok (.goto (-89), 3) := dk_167 255 167 (dk_at dksX2_ask_6 7 rfl rfl)
theorem dX2_ask_148 : decode cX2_ask 148 = .ok (.aload_n 0, 1) := dk_42 (dk_at dksX2_ask_6 10 rfl rfl)
theorem dX2_ask_149 : decode cX2_ask 149 = .ok (.getfield 9, 3) := dk_180 0 9 (dk_at dksX2_ask_6 11 rfl rfl)
theorem dX2_ask_152 : decode cX2_ask 152 = .ok (.iload_n 2, 1) := dk_28 (dk_at dksX2_ask_6 14 rfl rfl)
theorem dX2_ask_153 : decode cX2_ask 153 = .ok (.dup2, 1) := dk_92 (dk_at dksX2_ask_6 15 rfl rfl)
theorem dX2_ask_154 : decode cX2_ask 154 = .ok (.iaload, 1) := dk_46 (dk_at dksX2_ask_6 16 rfl rfl)
theorem dX2_ask_155 : decode cX2_ask 155 = .ok (.iconst 1, 1) := dk_4 (dk_at dksX2_ask_6 17 rfl rfl)
theorem dX2_ask_156 : decode cX2_ask 156 = .ok (.iadd, 1) := dk_96 (dk_at dksX2_ask_6 18 rfl rfl)
theorem dX2_ask_157 : decode cX2_ask 157 = .ok (.iastore, 1) := dk_79 (dk_at dksX2_ask_6 19 rfl rfl)
theorem dX2_ask_158 : decode cX2_ask 158 = .ok (.aload_n 0, 1) := dk_42 (dk_at dksX2_ask_6 20 rfl rfl)
theorem dX2_ask_159 : decode cX2_ask 159 = .ok (.getfield 15, 3) := dk_180 0 15 (dk_at dksX2_ask_6 21 rfl rfl)
theorem dX2_ask_162 : decode cX2_ask 162 = .ok (.iload_n 1, 1) := dk_27 (dk_at dksX2_ask_7 0 rfl rfl)
theorem dX2_ask_163 : decode cX2_ask 163 = .ok (.aload_n 0, 1) := dk_42 (dk_at dksX2_ask_7 1 rfl rfl)
theorem dX2_ask_164 : decode cX2_ask 164 = .ok (.getfield 40, 3) := dk_180 0 40 (dk_at dksX2_ask_7 2 rfl rfl)
theorem dX2_ask_167 : decode cX2_ask 167 = .ok (.invokevirtual 100, 3) := dk_182 0 100 (dk_at dksX2_ask_7 5 rfl rfl)
theorem dX2_ask_170 : decode cX2_ask 170 = .ok (.astore 5, 2) := dk_58 5 (dk_at dksX2_ask_7 8 rfl rfl)
theorem dX2_ask_172 : decode cX2_ask 172 = .ok (.aload_n 0, 1) := dk_42 (dk_at dksX2_ask_7 10 rfl rfl)
theorem dX2_ask_173 : decode cX2_ask 173 = .ok (.getfield 19, 3) := dk_180 0 19 (dk_at dksX2_ask_7 11 rfl rfl)
theorem dX2_ask_176 : decode cX2_ask 176 = .ok (.aload 5, 2) := dk_25 5 (dk_at dksX2_ask_7 14 rfl rfl)
theorem dX2_ask_178 : decode cX2_ask 178 = .ok (.invokevirtual 96, 3) := dk_182 0 96 (dk_at dksX2_ask_7 16 rfl rfl)
theorem dX2_ask_181 : decode cX2_ask 181 = .ok (.aload 5, 2) := dk_25 5 (dk_at dksX2_ask_7 19 rfl rfl)
theorem dX2_ask_183 : decode cX2_ask 183 = .ok (.areturn, 1) := dk_176 (dk_at dksX2_ask_7 21 rfl rfl)
def dkwX2_copy_2_0 : List UInt8 := [42, 42, 180, 0, 15, 182, 0, 23, 182, 0, 29, 176]
abbrev dktX2_copy_2_0 : List UInt8 := dkwX2_copy_2_0 ++ []
theorem dksX2_copy_2_0 : cX2_copy_2.data.toList.drop 0 = dktX2_copy_2_0 := by decide +kernel
theorem dX2_copy_2_0 : decode cX2_copy_2 0 = .ok (.aload_n 0, 1) := dk_42 (dk_at dksX2_copy_2_0 0 rfl rfl)
theorem dX2_copy_2_1 : decode cX2_copy_2 1 = .ok (.aload_n 0, 1) := dk_42 (dk_at dksX2_copy_2_0 1 rfl rfl)
theorem dX2_copy_2_2 : decode cX2_copy_2 2 = .ok (.getfield 15, 3) := dk_180 0 15 (dk_at dksX2_copy_2_0 2 rfl rfl)
theorem dX2_copy_2_5 : decode cX2_copy_2 5 = .ok (.invokevirtual 23, 3) := dk_182 0 23 (dk_at dksX2_copy_2_0 5 rfl rfl)
theorem dX2_copy_2_8 : decode cX2_copy_2 8 = .ok (.invokevirtual 29, 3) := dk_182 0 29 (dk_at dksX2_copy_2_0 8 rfl rfl)
theorem dX2_copy_2_11 : decode cX2_copy_2 11 = .ok (.areturn, 1) := dk_176 (dk_at dksX2_copy_2_0 11 rfl rfl)
def dkwX2_pass_1 : List UInt8 := [42, 180, 0, 40, 182, 0, 116, 96, 61, 132, 3, 1, 167, 255, 224, 28, 172]
abbrev dktX2_pass_1 : List UInt8 := dkwX2_pass_1 ++ []
def dkwX2_pass_0 : List UInt8 := [3, 61, 3, 62, 29, 27, 162, 0, 33, 42, 89, 180, 0, 40, 4, 96, 181, 0, 40, 28, 42, 180, 0, 19]
abbrev dktX2_pass_0 : List UInt8 := dkwX2_pass_0 ++ dktX2_pass_1
theorem dksX2_pass_0 : cX2_pass.data.toList.drop 0 = dktX2_pass_0 := by decide +kernel
theorem dksX2_pass_1 : cX2_pass.data.toList.drop 24 = dktX2_pass_1 := dk_seg dksX2_pass_0 24 rfl rfl
theorem dX2_pass_0 : decode cX2_pass 0 = .ok (.iconst 0, 1) := dk_3 (dk_at dksX2_pass_0 0 rfl rfl)
theorem dX2_pass_1 : decode cX2_pass 1 = .ok (.istore_n 2, 1) := dk_61 (dk_at dksX2_pass_0 1 rfl rfl)
theorem dX2_pass_2 : decode cX2_pass 2 = .ok (.iconst 0, 1) := dk_3 (dk_at dksX2_pass_0 2 rfl rfl)
theorem dX2_pass_3 : decode cX2_pass 3 = .ok (.istore_n 3, 1) := dk_62 (dk_at dksX2_pass_0 3 rfl rfl)
theorem dX2_pass_4 : decode cX2_pass 4 = .ok (.iload_n 3, 1) := dk_29 (dk_at dksX2_pass_0 4 rfl rfl)
theorem dX2_pass_5 : decode cX2_pass 5 = .ok (.iload_n 1, 1) := dk_27 (dk_at dksX2_pass_0 5 rfl rfl)
theorem dX2_pass_6 : decode cX2_pass 6 = .ok (.if_icmp .ge 33, 3) := dk_162 0 33 (dk_at dksX2_pass_0 6 rfl rfl)
theorem dX2_pass_9 : decode cX2_pass 9 = .ok (.aload_n 0, 1) := dk_42 (dk_at dksX2_pass_0 9 rfl rfl)
theorem dX2_pass_10 : decode cX2_pass 10 = .ok (.dup, 1) := dk_89 (dk_at dksX2_pass_0 10 rfl rfl)
theorem dX2_pass_11 : decode cX2_pass 11 = .ok (.getfield 40, 3) := dk_180 0 40 (dk_at dksX2_pass_0 11 rfl rfl)
theorem dX2_pass_14 : decode cX2_pass 14 = .ok (.iconst 1, 1) := dk_4 (dk_at dksX2_pass_0 14 rfl rfl)
theorem dX2_pass_15 : decode cX2_pass 15 = .ok (.iadd, 1) := dk_96 (dk_at dksX2_pass_0 15 rfl rfl)
theorem dX2_pass_16 : decode cX2_pass 16 = .ok (.putfield 40, 3) := dk_181 0 40 (dk_at dksX2_pass_0 16 rfl rfl)
theorem dX2_pass_19 : decode cX2_pass 19 = .ok (.iload_n 2, 1) := dk_28 (dk_at dksX2_pass_0 19 rfl rfl)
theorem dX2_pass_20 : decode cX2_pass 20 = .ok (.aload_n 0, 1) := dk_42 (dk_at dksX2_pass_0 20 rfl rfl)
theorem dX2_pass_21 : decode cX2_pass 21 = .ok (.getfield 19, 3) := dk_180 0 19 (dk_at dksX2_pass_0 21 rfl rfl)
theorem dX2_pass_24 : decode cX2_pass 24 = .ok (.aload_n 0, 1) := dk_42 (dk_at dksX2_pass_1 0 rfl rfl)
theorem dX2_pass_25 : decode cX2_pass 25 = .ok (.getfield 40, 3) := dk_180 0 40 (dk_at dksX2_pass_1 1 rfl rfl)
theorem dX2_pass_28 : decode cX2_pass 28 = .ok (.invokevirtual 116, 3) := dk_182 0 116 (dk_at dksX2_pass_1 4 rfl rfl)
theorem dX2_pass_31 : decode cX2_pass 31 = .ok (.iadd, 1) := dk_96 (dk_at dksX2_pass_1 7 rfl rfl)
theorem dX2_pass_32 : decode cX2_pass 32 = .ok (.istore_n 2, 1) := dk_61 (dk_at dksX2_pass_1 8 rfl rfl)
theorem dX2_pass_33 : decode cX2_pass 33 = .ok (.iinc 3 1, 3) := dk_132 3 1 (dk_at dksX2_pass_1 9 rfl rfl)
theorem dX2_pass_36 : decode cX2_pass 36 = .ok (.goto (-32), 3) := dk_167 255 224 (dk_at dksX2_pass_1 12 rfl rfl)
theorem dX2_pass_39 : decode cX2_pass 39 = .ok (.iload_n 2, 1) := dk_28 (dk_at dksX2_pass_1 15 rfl rfl)
theorem dX2_pass_40 : decode cX2_pass 40 = .ok (.ireturn, 1) := dk_172 (dk_at dksX2_pass_1 16 rfl rfl)
def dkwX3_begun_3 : List UInt8 := [27, 2, 79, 132, 1, 1, 167, 255, 240, 42, 176]
abbrev dktX3_begun_3 : List UInt8 := dkwX3_begun_3 ++ []
def dkwX3_begun_2 : List UInt8 := [180, 0, 18, 27, 8, 79, 132, 1, 1, 167, 255, 213, 3, 60, 27, 16, 36, 162, 0, 16, 42, 180, 0, 24]
abbrev dktX3_begun_2 : List UInt8 := dkwX3_begun_2 ++ dktX3_begun_3
def dkwX3_begun_1 : List UInt8 := [154, 0, 7, 2, 167, 0, 8, 27, 4, 100, 5, 108, 79, 42, 180, 0, 15, 27, 16, 20, 79, 42]
abbrev dktX3_begun_1 : List UInt8 := dkwX3_begun_1 ++ dktX3_begun_2
def dkwX3_begun_0 : List UInt8 := [187, 0, 10, 89, 183, 0, 30, 75, 3, 60, 27, 16, 6, 162, 0, 43, 42, 180, 0, 9, 27, 27]
abbrev dktX3_begun_0 : List UInt8 := dkwX3_begun_0 ++ dktX3_begun_1
theorem dksX3_begun_0 : cX3_begun.data.toList.drop 0 = dktX3_begun_0 := by decide +kernel
theorem dksX3_begun_1 : cX3_begun.data.toList.drop 22 = dktX3_begun_1 := dk_seg dksX3_begun_0 22 rfl rfl
theorem dksX3_begun_2 : cX3_begun.data.toList.drop 44 = dktX3_begun_2 := dk_seg dksX3_begun_1 22 rfl rfl
theorem dksX3_begun_3 : cX3_begun.data.toList.drop 68 = dktX3_begun_3 := dk_seg dksX3_begun_2 24 rfl rfl
theorem dX3_begun_0 : decode cX3_begun 0 = .ok (.new 10, 3) := dk_187 0 10 (dk_at dksX3_begun_0 0 rfl rfl)
theorem dX3_begun_3 : decode cX3_begun 3 = .ok (.dup, 1) := dk_89 (dk_at dksX3_begun_0 3 rfl rfl)
theorem dX3_begun_4 : decode cX3_begun 4 = .ok (.invokespecial 30, 3) := dk_183 0 30 (dk_at dksX3_begun_0 4 rfl rfl)
theorem dX3_begun_7 : decode cX3_begun 7 = .ok (.astore_n 0, 1) := dk_75 (dk_at dksX3_begun_0 7 rfl rfl)
theorem dX3_begun_8 : decode cX3_begun 8 = .ok (.iconst 0, 1) := dk_3 (dk_at dksX3_begun_0 8 rfl rfl)
theorem dX3_begun_9 : decode cX3_begun 9 = .ok (.istore_n 1, 1) := dk_60 (dk_at dksX3_begun_0 9 rfl rfl)
theorem dX3_begun_10 : decode cX3_begun 10 = .ok (.iload_n 1, 1) := dk_27 (dk_at dksX3_begun_0 10 rfl rfl)
theorem dX3_begun_11 : decode cX3_begun 11 = .ok (.bipush 6, 2) := dk_16 6 (dk_at dksX3_begun_0 11 rfl rfl)
theorem dX3_begun_13 : decode cX3_begun 13 = .ok (.if_icmp .ge 43, 3) := dk_162 0 43 (dk_at dksX3_begun_0 13 rfl rfl)
theorem dX3_begun_16 : decode cX3_begun 16 = .ok (.aload_n 0, 1) := dk_42 (dk_at dksX3_begun_0 16 rfl rfl)
theorem dX3_begun_17 : decode cX3_begun 17 = .ok (.getfield 9, 3) := dk_180 0 9 (dk_at dksX3_begun_0 17 rfl rfl)
theorem dX3_begun_20 : decode cX3_begun 20 = .ok (.iload_n 1, 1) := dk_27 (dk_at dksX3_begun_0 20 rfl rfl)
theorem dX3_begun_21 : decode cX3_begun 21 = .ok (.iload_n 1, 1) := dk_27 (dk_at dksX3_begun_0 21 rfl rfl)
theorem dX3_begun_22 : decode cX3_begun 22 = .ok (.ifCond .ne 7, 3) := dk_154 0 7 (dk_at dksX3_begun_1 0 rfl rfl)
theorem dX3_begun_25 : decode cX3_begun 25 = .ok (.iconst (-1), 1) := dk_2 (dk_at dksX3_begun_1 3 rfl rfl)
theorem dX3_begun_26 : decode cX3_begun 26 = .ok (.goto 8, 3) := dk_167 0 8 (dk_at dksX3_begun_1 4 rfl rfl)
theorem dX3_begun_29 : decode cX3_begun 29 = .ok (.iload_n 1, 1) := dk_27 (dk_at dksX3_begun_1 7 rfl rfl)
theorem dX3_begun_30 : decode cX3_begun 30 = .ok (.iconst 1, 1) := dk_4 (dk_at dksX3_begun_1 8 rfl rfl)
theorem dX3_begun_31 : decode cX3_begun 31 = .ok (.isub, 1) := dk_100 (dk_at dksX3_begun_1 9 rfl rfl)
theorem dX3_begun_32 : decode cX3_begun 32 = .ok (.iconst 2, 1) := dk_5 (dk_at dksX3_begun_1 10 rfl rfl)
theorem dX3_begun_33 : decode cX3_begun 33 = .ok (.idiv, 1) := dk_108 (dk_at dksX3_begun_1 11 rfl rfl)
theorem dX3_begun_34 : decode cX3_begun 34 = .ok (.iastore, 1) := dk_79 (dk_at dksX3_begun_1 12 rfl rfl)
theorem dX3_begun_35 : decode cX3_begun 35 = .ok (.aload_n 0, 1) := dk_42 (dk_at dksX3_begun_1 13 rfl rfl)
theorem dX3_begun_36 : decode cX3_begun 36 = .ok (.getfield 15, 3) := dk_180 0 15 (dk_at dksX3_begun_1 14 rfl rfl)
theorem dX3_begun_39 : decode cX3_begun 39 = .ok (.iload_n 1, 1) := dk_27 (dk_at dksX3_begun_1 17 rfl rfl)
theorem dX3_begun_40 : decode cX3_begun 40 = .ok (.bipush 20, 2) := dk_16 20 (dk_at dksX3_begun_1 18 rfl rfl)
theorem dX3_begun_42 : decode cX3_begun 42 = .ok (.iastore, 1) := dk_79 (dk_at dksX3_begun_1 20 rfl rfl)
theorem dX3_begun_43 : decode cX3_begun 43 = .ok (.aload_n 0, 1) := dk_42 (dk_at dksX3_begun_1 21 rfl rfl)
theorem dX3_begun_44 : decode cX3_begun 44 = .ok (.getfield 18, 3) := dk_180 0 18 (dk_at dksX3_begun_2 0 rfl rfl)
theorem dX3_begun_47 : decode cX3_begun 47 = .ok (.iload_n 1, 1) := dk_27 (dk_at dksX3_begun_2 3 rfl rfl)
theorem dX3_begun_48 : decode cX3_begun 48 = .ok (.iconst 5, 1) := dk_8 (dk_at dksX3_begun_2 4 rfl rfl)
theorem dX3_begun_49 : decode cX3_begun 49 = .ok (.iastore, 1) := dk_79 (dk_at dksX3_begun_2 5 rfl rfl)
theorem dX3_begun_50 : decode cX3_begun 50 = .ok (.iinc 1 1, 3) := dk_132 1 1 (dk_at dksX3_begun_2 6 rfl rfl)
theorem dX3_begun_53 : decode cX3_begun 53 = .ok (.goto (-43), 3) := dk_167 255 213 (dk_at dksX3_begun_2 9 rfl rfl)
theorem dX3_begun_56 : decode cX3_begun 56 = .ok (.iconst 0, 1) := dk_3 (dk_at dksX3_begun_2 12 rfl rfl)
theorem dX3_begun_57 : decode cX3_begun 57 = .ok (.istore_n 1, 1) := dk_60 (dk_at dksX3_begun_2 13 rfl rfl)
theorem dX3_begun_58 : decode cX3_begun 58 = .ok (.iload_n 1, 1) := dk_27 (dk_at dksX3_begun_2 14 rfl rfl)
theorem dX3_begun_59 : decode cX3_begun 59 = .ok (.bipush 36, 2) := dk_16 36 (dk_at dksX3_begun_2 15 rfl rfl)
theorem dX3_begun_61 : decode cX3_begun 61 = .ok (.if_icmp .ge 16, 3) := dk_162 0 16 (dk_at dksX3_begun_2 17 rfl rfl)
theorem dX3_begun_64 : decode cX3_begun 64 = .ok (.aload_n 0, 1) := dk_42 (dk_at dksX3_begun_2 20 rfl rfl)
theorem dX3_begun_65 : decode cX3_begun 65 = .ok (.getfield 24, 3) := dk_180 0 24 (dk_at dksX3_begun_2 21 rfl rfl)
theorem dX3_begun_68 : decode cX3_begun 68 = .ok (.iload_n 1, 1) := dk_27 (dk_at dksX3_begun_3 0 rfl rfl)
theorem dX3_begun_69 : decode cX3_begun 69 = .ok (.iconst (-1), 1) := dk_2 (dk_at dksX3_begun_3 1 rfl rfl)
theorem dX3_begun_70 : decode cX3_begun 70 = .ok (.iastore, 1) := dk_79 (dk_at dksX3_begun_3 2 rfl rfl)
theorem dX3_begun_71 : decode cX3_begun 71 = .ok (.iinc 1 1, 3) := dk_132 1 1 (dk_at dksX3_begun_3 3 rfl rfl)
theorem dX3_begun_74 : decode cX3_begun 74 = .ok (.goto (-16), 3) := dk_167 255 240 (dk_at dksX3_begun_3 6 rfl rfl)
theorem dX3_begun_77 : decode cX3_begun 77 = .ok (.aload_n 0, 1) := dk_42 (dk_at dksX3_begun_3 9 rfl rfl)
theorem dX3_begun_78 : decode cX3_begun 78 = .ok (.areturn, 1) := dk_176 (dk_at dksX3_begun_3 10 rfl rfl)
def dkwX3_init_2 : List UInt8 := [188, 10, 181, 0, 27, 177]
abbrev dktX3_init_2 : List UInt8 := dkwX3_init_2 ++ []
def dkwX3_init_1 : List UInt8 := [188, 10, 181, 0, 18, 42, 16, 36, 188, 10, 181, 0, 21, 42, 16, 36, 188, 10, 181, 0, 24, 42, 16, 36]
abbrev dktX3_init_1 : List UInt8 := dkwX3_init_1 ++ dktX3_init_2
def dkwX3_init_0 : List UInt8 := [42, 183, 0, 3, 42, 16, 6, 188, 10, 181, 0, 9, 42, 16, 6, 188, 10, 181, 0, 15, 42, 16, 6]
abbrev dktX3_init_0 : List UInt8 := dkwX3_init_0 ++ dktX3_init_1
theorem dksX3_init_0 : cX3_init.data.toList.drop 0 = dktX3_init_0 := by decide +kernel
theorem dksX3_init_1 : cX3_init.data.toList.drop 23 = dktX3_init_1 := dk_seg dksX3_init_0 23 rfl rfl
theorem dksX3_init_2 : cX3_init.data.toList.drop 47 = dktX3_init_2 := dk_seg dksX3_init_1 24 rfl rfl
theorem dX3_init_0 : decode cX3_init 0 = .ok (.aload_n 0, 1) := dk_42 (dk_at dksX3_init_0 0 rfl rfl)
theorem dX3_init_1 : decode cX3_init 1 = .ok (.invokespecial 3, 3) := dk_183 0 3 (dk_at dksX3_init_0 1 rfl rfl)
theorem dX3_init_4 : decode cX3_init 4 = .ok (.aload_n 0, 1) := dk_42 (dk_at dksX3_init_0 4 rfl rfl)
theorem dX3_init_5 : decode cX3_init 5 = .ok (.bipush 6, 2) := dk_16 6 (dk_at dksX3_init_0 5 rfl rfl)
theorem dX3_init_7 : decode cX3_init 7 = .ok (.newarray .int, 2) := dk_188_10 (dk_at dksX3_init_0 7 rfl rfl)
theorem dX3_init_9 : decode cX3_init 9 = .ok (.putfield 9, 3) := dk_181 0 9 (dk_at dksX3_init_0 9 rfl rfl)
theorem dX3_init_12 : decode cX3_init 12 = .ok (.aload_n 0, 1) := dk_42 (dk_at dksX3_init_0 12 rfl rfl)
theorem dX3_init_13 : decode cX3_init 13 = .ok (.bipush 6, 2) := dk_16 6 (dk_at dksX3_init_0 13 rfl rfl)
theorem dX3_init_15 : decode cX3_init 15 = .ok (.newarray .int, 2) := dk_188_10 (dk_at dksX3_init_0 15 rfl rfl)
theorem dX3_init_17 : decode cX3_init 17 = .ok (.putfield 15, 3) := dk_181 0 15 (dk_at dksX3_init_0 17 rfl rfl)
theorem dX3_init_20 : decode cX3_init 20 = .ok (.aload_n 0, 1) := dk_42 (dk_at dksX3_init_0 20 rfl rfl)
theorem dX3_init_21 : decode cX3_init 21 = .ok (.bipush 6, 2) := dk_16 6 (dk_at dksX3_init_0 21 rfl rfl)
theorem dX3_init_23 : decode cX3_init 23 = .ok (.newarray .int, 2) := dk_188_10 (dk_at dksX3_init_1 0 rfl rfl)
theorem dX3_init_25 : decode cX3_init 25 = .ok (.putfield 18, 3) := dk_181 0 18 (dk_at dksX3_init_1 2 rfl rfl)
theorem dX3_init_28 : decode cX3_init 28 = .ok (.aload_n 0, 1) := dk_42 (dk_at dksX3_init_1 5 rfl rfl)
theorem dX3_init_29 : decode cX3_init 29 = .ok (.bipush 36, 2) := dk_16 36 (dk_at dksX3_init_1 6 rfl rfl)
theorem dX3_init_31 : decode cX3_init 31 = .ok (.newarray .int, 2) := dk_188_10 (dk_at dksX3_init_1 8 rfl rfl)
theorem dX3_init_33 : decode cX3_init 33 = .ok (.putfield 21, 3) := dk_181 0 21 (dk_at dksX3_init_1 10 rfl rfl)
theorem dX3_init_36 : decode cX3_init 36 = .ok (.aload_n 0, 1) := dk_42 (dk_at dksX3_init_1 13 rfl rfl)
theorem dX3_init_37 : decode cX3_init 37 = .ok (.bipush 36, 2) := dk_16 36 (dk_at dksX3_init_1 14 rfl rfl)
theorem dX3_init_39 : decode cX3_init 39 = .ok (.newarray .int, 2) := dk_188_10 (dk_at dksX3_init_1 16 rfl rfl)
theorem dX3_init_41 : decode cX3_init 41 = .ok (.putfield 24, 3) := dk_181 0 24 (dk_at dksX3_init_1 18 rfl rfl)
theorem dX3_init_44 : decode cX3_init 44 = .ok (.aload_n 0, 1) := dk_42 (dk_at dksX3_init_1 21 rfl rfl)
theorem dX3_init_45 : decode cX3_init 45 = .ok (.bipush 36, 2) := dk_16 36 (dk_at dksX3_init_1 22 rfl rfl)
theorem dX3_init_47 : decode cX3_init 47 = .ok (.newarray .int, 2) := dk_188_10 (dk_at dksX3_init_2 0 rfl rfl)
theorem dX3_init_49 : decode cX3_init 49 = .ok (.putfield 27, 3) := dk_181 0 27 (dk_at dksX3_init_2 2 rfl rfl)
theorem dX3_init_52 : decode cX3_init 52 = .ok (.return_, 1) := dk_177 (dk_at dksX3_init_2 5 rfl rfl)
def dkwX3_depth_0 : List UInt8 := [3, 61, 27, 62, 29, 158, 0, 16, 132, 2, 1, 42, 180, 0, 9, 29, 46, 62, 167, 255, 242, 28, 172]
abbrev dktX3_depth_0 : List UInt8 := dkwX3_depth_0 ++ []
theorem dksX3_depth_0 : cX3_depth.data.toList.drop 0 = dktX3_depth_0 := by decide +kernel
theorem dX3_depth_0 : decode cX3_depth 0 = .ok (.iconst 0, 1) := dk_3 (dk_at dksX3_depth_0 0 rfl rfl)
theorem dX3_depth_1 : decode cX3_depth 1 = .ok (.istore_n 2, 1) := dk_61 (dk_at dksX3_depth_0 1 rfl rfl)
theorem dX3_depth_2 : decode cX3_depth 2 = .ok (.iload_n 1, 1) := dk_27 (dk_at dksX3_depth_0 2 rfl rfl)
theorem dX3_depth_3 : decode cX3_depth 3 = .ok (.istore_n 3, 1) := dk_62 (dk_at dksX3_depth_0 3 rfl rfl)
theorem dX3_depth_4 : decode cX3_depth 4 = .ok (.iload_n 3, 1) := dk_29 (dk_at dksX3_depth_0 4 rfl rfl)
theorem dX3_depth_5 : decode cX3_depth 5 = .ok (.ifCond .le 16, 3) := dk_158 0 16 (dk_at dksX3_depth_0 5 rfl rfl)
theorem dX3_depth_8 : decode cX3_depth 8 = .ok (.iinc 2 1, 3) := dk_132 2 1 (dk_at dksX3_depth_0 8 rfl rfl)
theorem dX3_depth_11 : decode cX3_depth 11 = .ok (.aload_n 0, 1) := dk_42 (dk_at dksX3_depth_0 11 rfl rfl)
theorem dX3_depth_12 : decode cX3_depth 12 = .ok (.getfield 9, 3) := dk_180 0 9 (dk_at dksX3_depth_0 12 rfl rfl)
theorem dX3_depth_15 : decode cX3_depth 15 = .ok (.iload_n 3, 1) := dk_29 (dk_at dksX3_depth_0 15 rfl rfl)
theorem dX3_depth_16 : decode cX3_depth 16 = .ok (.iaload, 1) := dk_46 (dk_at dksX3_depth_0 16 rfl rfl)
theorem dX3_depth_17 : decode cX3_depth 17 = .ok (.istore_n 3, 1) := dk_62 (dk_at dksX3_depth_0 17 rfl rfl)
theorem dX3_depth_18 : decode cX3_depth 18 = .ok (.goto (-14), 3) := dk_167 255 242 (dk_at dksX3_depth_0 18 rfl rfl)
theorem dX3_depth_21 : decode cX3_depth 21 = .ok (.iload_n 2, 1) := dk_28 (dk_at dksX3_depth_0 21 rfl rfl)
theorem dX3_depth_22 : decode cX3_depth 22 = .ok (.ireturn, 1) := dk_172 (dk_at dksX3_depth_0 22 rfl rfl)
def dkwX3_way_1 : List UInt8 := [42, 180, 0, 9, 29, 46, 62, 167, 255, 235, 44, 176]
abbrev dktX3_way_1 : List UInt8 := dkwX3_way_1 ++ []
def dkwX3_way_0 : List UInt8 := [187, 0, 31, 89, 183, 0, 33, 77, 27, 62, 29, 2, 159, 0, 22, 44, 29, 184, 0, 34, 182, 0, 40, 87]
abbrev dktX3_way_0 : List UInt8 := dkwX3_way_0 ++ dktX3_way_1
theorem dksX3_way_0 : cX3_way.data.toList.drop 0 = dktX3_way_0 := by decide +kernel
theorem dksX3_way_1 : cX3_way.data.toList.drop 24 = dktX3_way_1 := dk_seg dksX3_way_0 24 rfl rfl
theorem dX3_way_0 : decode cX3_way 0 = .ok (.new 31, 3) := dk_187 0 31 (dk_at dksX3_way_0 0 rfl rfl)
theorem dX3_way_3 : decode cX3_way 3 = .ok (.dup, 1) := dk_89 (dk_at dksX3_way_0 3 rfl rfl)
theorem dX3_way_4 : decode cX3_way 4 = .ok (.invokespecial 33, 3) := dk_183 0 33 (dk_at dksX3_way_0 4 rfl rfl)
theorem dX3_way_7 : decode cX3_way 7 = .ok (.astore_n 2, 1) := dk_77 (dk_at dksX3_way_0 7 rfl rfl)
theorem dX3_way_8 : decode cX3_way 8 = .ok (.iload_n 1, 1) := dk_27 (dk_at dksX3_way_0 8 rfl rfl)
theorem dX3_way_9 : decode cX3_way 9 = .ok (.istore_n 3, 1) := dk_62 (dk_at dksX3_way_0 9 rfl rfl)
theorem dX3_way_10 : decode cX3_way 10 = .ok (.iload_n 3, 1) := dk_29 (dk_at dksX3_way_0 10 rfl rfl)
theorem dX3_way_11 : decode cX3_way 11 = .ok (.iconst (-1), 1) := dk_2 (dk_at dksX3_way_0 11 rfl rfl)
theorem dX3_way_12 : decode cX3_way 12 = .ok (.if_icmp .eq 22, 3) := dk_159 0 22 (dk_at dksX3_way_0 12 rfl rfl)
theorem dX3_way_15 : decode cX3_way 15 = .ok (.aload_n 2, 1) := dk_44 (dk_at dksX3_way_0 15 rfl rfl)
theorem dX3_way_16 : decode cX3_way 16 = .ok (.iload_n 3, 1) := dk_29 (dk_at dksX3_way_0 16 rfl rfl)
theorem dX3_way_17 : decode cX3_way 17 = .ok (.invokestatic 34, 3) := dk_184 0 34 (dk_at dksX3_way_0 17 rfl rfl)
theorem dX3_way_20 : decode cX3_way 20 = .ok (.invokevirtual 40, 3) := dk_182 0 40 (dk_at dksX3_way_0 20 rfl rfl)
theorem dX3_way_23 : decode cX3_way 23 = .ok (.pop, 1) := dk_87 (dk_at dksX3_way_0 23 rfl rfl)
theorem dX3_way_24 : decode cX3_way 24 = .ok (.aload_n 0, 1) := dk_42 (dk_at dksX3_way_1 0 rfl rfl)
theorem dX3_way_25 : decode cX3_way 25 = .ok (.getfield 9, 3) := dk_180 0 9 (dk_at dksX3_way_1 1 rfl rfl)
theorem dX3_way_28 : decode cX3_way 28 = .ok (.iload_n 3, 1) := dk_29 (dk_at dksX3_way_1 4 rfl rfl)
theorem dX3_way_29 : decode cX3_way 29 = .ok (.iaload, 1) := dk_46 (dk_at dksX3_way_1 5 rfl rfl)
theorem dX3_way_30 : decode cX3_way 30 = .ok (.istore_n 3, 1) := dk_62 (dk_at dksX3_way_1 6 rfl rfl)
theorem dX3_way_31 : decode cX3_way 31 = .ok (.goto (-21), 3) := dk_167 255 235 (dk_at dksX3_way_1 7 rfl rfl)
theorem dX3_way_34 : decode cX3_way 34 = .ok (.aload_n 2, 1) := dk_44 (dk_at dksX3_way_1 10 rfl rfl)
theorem dX3_way_35 : decode cX3_way 35 = .ok (.areturn, 1) := dk_176 (dk_at dksX3_way_1 11 rfl rfl)
def dkwX3_reply_3 : List UInt8 := [28, 21, 4, 96, 183, 0, 51, 176]
abbrev dktX3_reply_3 : List UInt8 := dkwX3_reply_3 ++ []
def dkwX3_reply_2 : List UInt8 := [27, 183, 0, 48, 29, 153, 0, 7, 6, 167, 0, 9, 42, 180, 0, 21, 27, 46, 42, 180, 0, 24, 27, 46]
abbrev dktX3_reply_2 : List UInt8 := dkwX3_reply_2 ++ dktX3_reply_3
def dkwX3_reply_1 : List UInt8 := [16, 6, 108, 46, 167, 0, 9, 42, 180, 0, 27, 27, 46, 54, 4, 187, 0, 44, 89, 187, 0, 46, 89, 3]
abbrev dktX3_reply_1 : List UInt8 := dkwX3_reply_1 ++ dktX3_reply_2
def dkwX3_reply_0 : List UInt8 := [42, 180, 0, 21, 27, 46, 154, 0, 7, 4, 167, 0, 4, 3, 62, 29, 153, 0, 15, 42, 180, 0, 18, 27]
abbrev dktX3_reply_0 : List UInt8 := dkwX3_reply_0 ++ dktX3_reply_1
theorem dksX3_reply_0 : cX3_reply.data.toList.drop 0 = dktX3_reply_0 := by decide +kernel
theorem dksX3_reply_1 : cX3_reply.data.toList.drop 24 = dktX3_reply_1 := dk_seg dksX3_reply_0 24 rfl rfl
theorem dksX3_reply_2 : cX3_reply.data.toList.drop 48 = dktX3_reply_2 := dk_seg dksX3_reply_1 24 rfl rfl
theorem dksX3_reply_3 : cX3_reply.data.toList.drop 72 = dktX3_reply_3 := dk_seg dksX3_reply_2 24 rfl rfl
theorem dX3_reply_0 : decode cX3_reply 0 = .ok (.aload_n 0, 1) := dk_42 (dk_at dksX3_reply_0 0 rfl rfl)
theorem dX3_reply_1 : decode cX3_reply 1 = .ok (.getfield 21, 3) := dk_180 0 21 (dk_at dksX3_reply_0 1 rfl rfl)
theorem dX3_reply_4 : decode cX3_reply 4 = .ok (.iload_n 1, 1) := dk_27 (dk_at dksX3_reply_0 4 rfl rfl)
theorem dX3_reply_5 : decode cX3_reply 5 = .ok (.iaload, 1) := dk_46 (dk_at dksX3_reply_0 5 rfl rfl)
theorem dX3_reply_6 : decode cX3_reply 6 = .ok (.ifCond .ne 7, 3) := dk_154 0 7 (dk_at dksX3_reply_0 6 rfl rfl)
theorem dX3_reply_9 : decode cX3_reply 9 = .ok (.iconst 1, 1) := dk_4 (dk_at dksX3_reply_0 9 rfl rfl)
theorem dX3_reply_10 : decode cX3_reply 10 = .ok (.goto 4, 3) := dk_167 0 4 (dk_at dksX3_reply_0 10 rfl rfl)
theorem dX3_reply_13 : decode cX3_reply 13 = .ok (.iconst 0, 1) := dk_3 (dk_at dksX3_reply_0 13 rfl rfl)
theorem dX3_reply_14 : decode cX3_reply 14 = .ok (.istore_n 3, 1) := dk_62 (dk_at dksX3_reply_0 14 rfl rfl)
theorem dX3_reply_15 : decode cX3_reply 15 = .ok (.iload_n 3, 1) := dk_29 (dk_at dksX3_reply_0 15 rfl rfl)
theorem dX3_reply_16 : decode cX3_reply 16 = .ok (.ifCond .eq 15, 3) := dk_153 0 15 (dk_at dksX3_reply_0 16 rfl rfl)
theorem dX3_reply_19 : decode cX3_reply 19 = .ok (.aload_n 0, 1) := dk_42 (dk_at dksX3_reply_0 19 rfl rfl)
theorem dX3_reply_20 : decode cX3_reply 20 = .ok (.getfield 18, 3) := dk_180 0 18 (dk_at dksX3_reply_0 20 rfl rfl)
theorem dX3_reply_23 : decode cX3_reply 23 = .ok (.iload_n 1, 1) := dk_27 (dk_at dksX3_reply_0 23 rfl rfl)
theorem dX3_reply_24 : decode cX3_reply 24 = .ok (.bipush 6, 2) := dk_16 6 (dk_at dksX3_reply_1 0 rfl rfl)
theorem dX3_reply_26 : decode cX3_reply 26 = .ok (.idiv, 1) := dk_108 (dk_at dksX3_reply_1 2 rfl rfl)
theorem dX3_reply_27 : decode cX3_reply 27 = .ok (.iaload, 1) := dk_46 (dk_at dksX3_reply_1 3 rfl rfl)
theorem dX3_reply_28 : decode cX3_reply 28 = .ok (.goto 9, 3) := dk_167 0 9 (dk_at dksX3_reply_1 4 rfl rfl)
theorem dX3_reply_31 : decode cX3_reply 31 = .ok (.aload_n 0, 1) := dk_42 (dk_at dksX3_reply_1 7 rfl rfl)
theorem dX3_reply_32 : decode cX3_reply 32 = .ok (.getfield 27, 3) := dk_180 0 27 (dk_at dksX3_reply_1 8 rfl rfl)
theorem dX3_reply_35 : decode cX3_reply 35 = .ok (.iload_n 1, 1) := dk_27 (dk_at dksX3_reply_1 11 rfl rfl)
theorem dX3_reply_36 : decode cX3_reply 36 = .ok (.iaload, 1) := dk_46 (dk_at dksX3_reply_1 12 rfl rfl)
theorem dX3_reply_37 : decode cX3_reply 37 = .ok (.istore 4, 2) := dk_54 4 (dk_at dksX3_reply_1 13 rfl rfl)
theorem dX3_reply_39 : decode cX3_reply 39 = .ok (.new 44, 3) := dk_187 0 44 (dk_at dksX3_reply_1 15 rfl rfl)
theorem dX3_reply_42 : decode cX3_reply 42 = .ok (.dup, 1) := dk_89 (dk_at dksX3_reply_1 18 rfl rfl)
theorem dX3_reply_43 : decode cX3_reply 43 = .ok (.new 46, 3) := dk_187 0 46 (dk_at dksX3_reply_1 19 rfl rfl)
theorem dX3_reply_46 : decode cX3_reply 46 = .ok (.dup, 1) := dk_89 (dk_at dksX3_reply_1 22 rfl rfl)
theorem dX3_reply_47 : decode cX3_reply 47 = .ok (.iconst 0, 1) := dk_3 (dk_at dksX3_reply_1 23 rfl rfl)
theorem dX3_reply_48 : decode cX3_reply 48 = .ok (.iload_n 1, 1) := dk_27 (dk_at dksX3_reply_2 0 rfl rfl)
theorem dX3_reply_49 : decode cX3_reply 49 = .ok (.invokespecial 48, 3) := dk_183 0 48 (dk_at dksX3_reply_2 1 rfl rfl)
theorem dX3_reply_52 : decode cX3_reply 52 = .ok (.iload_n 3, 1) := dk_29 (dk_at dksX3_reply_2 4 rfl rfl)
theorem dX3_reply_53 : decode cX3_reply 53 = .ok (.ifCond .eq 7, 3) := dk_153 0 7 (dk_at dksX3_reply_2 5 rfl rfl)
theorem dX3_reply_56 : decode cX3_reply 56 = .ok (.iconst 3, 1) := dk_6 (dk_at dksX3_reply_2 8 rfl rfl)
theorem dX3_reply_57 : decode cX3_reply 57 = .ok (.goto 9, 3) := dk_167 0 9 (dk_at dksX3_reply_2 9 rfl rfl)
theorem dX3_reply_60 : decode cX3_reply 60 = .ok (.aload_n 0, 1) := dk_42 (dk_at dksX3_reply_2 12 rfl rfl)
theorem dX3_reply_61 : decode cX3_reply 61 = .ok (.getfield 21, 3) := dk_180 0 21 (dk_at dksX3_reply_2 13 rfl rfl)
theorem dX3_reply_64 : decode cX3_reply 64 = .ok (.iload_n 1, 1) := dk_27 (dk_at dksX3_reply_2 16 rfl rfl)
theorem dX3_reply_65 : decode cX3_reply 65 = .ok (.iaload, 1) := dk_46 (dk_at dksX3_reply_2 17 rfl rfl)
theorem dX3_reply_66 : decode cX3_reply 66 = .ok (.aload_n 0, 1) := dk_42 (dk_at dksX3_reply_2 18 rfl rfl)
theorem dX3_reply_67 : decode cX3_reply 67 = .ok (.getfield 24, 3) := dk_180 0 24 (dk_at dksX3_reply_2 19 rfl rfl)
theorem dX3_reply_70 : decode cX3_reply 70 = .ok (.iload_n 1, 1) := dk_27 (dk_at dksX3_reply_2 22 rfl rfl)
theorem dX3_reply_71 : decode cX3_reply 71 = .ok (.iaload, 1) := dk_46 (dk_at dksX3_reply_2 23 rfl rfl)
theorem dX3_reply_72 : decode cX3_reply 72 = .ok (.iload_n 2, 1) := dk_28 (dk_at dksX3_reply_3 0 rfl rfl)
theorem dX3_reply_73 : decode cX3_reply 73 = .ok (.iload 4, 2) := dk_21 4 (dk_at dksX3_reply_3 1 rfl rfl)
theorem dX3_reply_75 : decode cX3_reply 75 = .ok (.iadd, 1) := dk_96 (dk_at dksX3_reply_3 3 rfl rfl)
theorem dX3_reply_76 : decode cX3_reply 76 = .ok (.invokespecial 51, 3) := dk_183 0 51 (dk_at dksX3_reply_3 4 rfl rfl)
theorem dX3_reply_79 : decode cX3_reply 79 = .ok (.areturn, 1) := dk_176 (dk_at dksX3_reply_3 7 rfl rfl)
def dkwX3_truth_1 : List UInt8 := [28, 46, 172, 42, 180, 0, 24, 28, 46, 61, 132, 3, 1, 167, 255, 223, 16, 254, 172]
abbrev dktX3_truth_1 : List UInt8 := dkwX3_truth_1 ++ []
def dkwX3_truth_0 : List UInt8 := [27, 61, 3, 62, 29, 16, 6, 163, 0, 33, 42, 180, 0, 21, 28, 46, 5, 159, 0, 10, 42, 180, 0, 24]
abbrev dktX3_truth_0 : List UInt8 := dkwX3_truth_0 ++ dktX3_truth_1
theorem dksX3_truth_0 : cX3_truth.data.toList.drop 0 = dktX3_truth_0 := by decide +kernel
theorem dksX3_truth_1 : cX3_truth.data.toList.drop 24 = dktX3_truth_1 := dk_seg dksX3_truth_0 24 rfl rfl
theorem dX3_truth_0 : decode cX3_truth 0 = .ok (.iload_n 1, 1) := dk_27 (dk_at dksX3_truth_0 0 rfl rfl)
theorem dX3_truth_1 : decode cX3_truth 1 = .ok (.istore_n 2, 1) := dk_61 (dk_at dksX3_truth_0 1 rfl rfl)
theorem dX3_truth_2 : decode cX3_truth 2 = .ok (.iconst 0, 1) := dk_3 (dk_at dksX3_truth_0 2 rfl rfl)
theorem dX3_truth_3 : decode cX3_truth 3 = .ok (.istore_n 3, 1) := dk_62 (dk_at dksX3_truth_0 3 rfl rfl)
theorem dX3_truth_4 : decode cX3_truth 4 = .ok (.iload_n 3, 1) := dk_29 (dk_at dksX3_truth_0 4 rfl rfl)
theorem dX3_truth_5 : decode cX3_truth 5 = .ok (.bipush 6, 2) := dk_16 6 (dk_at dksX3_truth_0 5 rfl rfl)
theorem dX3_truth_7 : decode cX3_truth 7 = .ok (.if_icmp .gt 33, 3) := dk_163 0 33 (dk_at dksX3_truth_0 7 rfl rfl)
theorem dX3_truth_10 : decode cX3_truth 10 = .ok (.aload_n 0, 1) := dk_42 (dk_at dksX3_truth_0 10 rfl rfl)
theorem dX3_truth_11 : decode cX3_truth 11 = .ok (.getfield 21, 3) := dk_180 0 21 (dk_at dksX3_truth_0 11 rfl rfl)
theorem dX3_truth_14 : decode cX3_truth 14 = .ok (.iload_n 2, 1) := dk_28 (dk_at dksX3_truth_0 14 rfl rfl)
theorem dX3_truth_15 : decode cX3_truth 15 = .ok (.iaload, 1) := dk_46 (dk_at dksX3_truth_0 15 rfl rfl)
theorem dX3_truth_16 : decode cX3_truth 16 = .ok (.iconst 2, 1) := dk_5 (dk_at dksX3_truth_0 16 rfl rfl)
theorem dX3_truth_17 : decode cX3_truth 17 = .ok (.if_icmp .eq 10, 3) := dk_159 0 10 (dk_at dksX3_truth_0 17 rfl rfl)
theorem dX3_truth_20 : decode cX3_truth 20 = .ok (.aload_n 0, 1) := dk_42 (dk_at dksX3_truth_0 20 rfl rfl)
theorem dX3_truth_21 : decode cX3_truth 21 = .ok (.getfield 24, 3) := dk_180 0 24 (dk_at dksX3_truth_0 21 rfl rfl)
theorem dX3_truth_24 : decode cX3_truth 24 = .ok (.iload_n 2, 1) := dk_28 (dk_at dksX3_truth_1 0 rfl rfl)
theorem dX3_truth_25 : decode cX3_truth 25 = .ok (.iaload, 1) := dk_46 (dk_at dksX3_truth_1 1 rfl rfl)
theorem dX3_truth_26 : decode cX3_truth 26 = .ok (.ireturn, 1) := dk_172 (dk_at dksX3_truth_1 2 rfl rfl)
theorem dX3_truth_27 : decode cX3_truth 27 = .ok (.aload_n 0, 1) := dk_42 (dk_at dksX3_truth_1 3 rfl rfl)
theorem dX3_truth_28 : decode cX3_truth 28 = .ok (.getfield 24, 3) := dk_180 0 24 (dk_at dksX3_truth_1 4 rfl rfl)
theorem dX3_truth_31 : decode cX3_truth 31 = .ok (.iload_n 2, 1) := dk_28 (dk_at dksX3_truth_1 7 rfl rfl)
theorem dX3_truth_32 : decode cX3_truth 32 = .ok (.iaload, 1) := dk_46 (dk_at dksX3_truth_1 8 rfl rfl)
theorem dX3_truth_33 : decode cX3_truth 33 = .ok (.istore_n 2, 1) := dk_61 (dk_at dksX3_truth_1 9 rfl rfl)
theorem dX3_truth_34 : decode cX3_truth 34 = .ok (.iinc 3 1, 3) := dk_132 3 1 (dk_at dksX3_truth_1 10 rfl rfl)
theorem dX3_truth_37 : decode cX3_truth 37 = .ok (.goto (-33), 3) := dk_167 255 223 (dk_at dksX3_truth_1 13 rfl rfl)
theorem dX3_truth_40 : decode cX3_truth 40 = .ok (.bipush (-2), 2) := dk_16 254 (dk_at dksX3_truth_1 16 rfl rfl)
theorem dX3_truth_42 : decode cX3_truth 42 = .ok (.ireturn, 1) := dk_172 (dk_at dksX3_truth_1 18 rfl rfl)
def dkwX3_copy_4 : List UInt8 := [28, 42, 180, 0, 27, 28, 46, 79, 132, 2, 1, 167, 255, 211, 43, 176]
abbrev dktX3_copy_4 : List UInt8 := dkwX3_copy_4 ++ []
def dkwX3_copy_3 : List UInt8 := [28, 42, 180, 0, 21, 28, 46, 79, 43, 180, 0, 24, 28, 42, 180, 0, 24, 28, 46, 79, 43, 180, 0, 27]
abbrev dktX3_copy_3 : List UInt8 := dkwX3_copy_3 ++ dktX3_copy_4
def dkwX3_copy_2 : List UInt8 := [180, 0, 18, 28, 46, 79, 132, 2, 1, 167, 255, 211, 3, 61, 28, 16, 36, 162, 0, 45, 43, 180, 0, 21]
abbrev dktX3_copy_2 : List UInt8 := dkwX3_copy_2 ++ dktX3_copy_3
def dkwX3_copy_1 : List UInt8 := [180, 0, 9, 28, 46, 79, 43, 180, 0, 15, 28, 42, 180, 0, 15, 28, 46, 79, 43, 180, 0, 18, 28, 42]
abbrev dktX3_copy_1 : List UInt8 := dkwX3_copy_1 ++ dktX3_copy_2
def dkwX3_copy_0 : List UInt8 := [187, 0, 10, 89, 183, 0, 30, 76, 3, 61, 28, 16, 6, 162, 0, 45, 43, 180, 0, 9, 28, 42]
abbrev dktX3_copy_0 : List UInt8 := dkwX3_copy_0 ++ dktX3_copy_1
theorem dksX3_copy_0 : cX3_copy.data.toList.drop 0 = dktX3_copy_0 := by decide +kernel
theorem dksX3_copy_1 : cX3_copy.data.toList.drop 22 = dktX3_copy_1 := dk_seg dksX3_copy_0 22 rfl rfl
theorem dksX3_copy_2 : cX3_copy.data.toList.drop 46 = dktX3_copy_2 := dk_seg dksX3_copy_1 24 rfl rfl
theorem dksX3_copy_3 : cX3_copy.data.toList.drop 70 = dktX3_copy_3 := dk_seg dksX3_copy_2 24 rfl rfl
theorem dksX3_copy_4 : cX3_copy.data.toList.drop 94 = dktX3_copy_4 := dk_seg dksX3_copy_3 24 rfl rfl
theorem dX3_copy_0 : decode cX3_copy 0 = .ok (.new 10, 3) := dk_187 0 10 (dk_at dksX3_copy_0 0 rfl rfl)
theorem dX3_copy_3 : decode cX3_copy 3 = .ok (.dup, 1) := dk_89 (dk_at dksX3_copy_0 3 rfl rfl)
theorem dX3_copy_4 : decode cX3_copy 4 = .ok (.invokespecial 30, 3) := dk_183 0 30 (dk_at dksX3_copy_0 4 rfl rfl)
theorem dX3_copy_7 : decode cX3_copy 7 = .ok (.astore_n 1, 1) := dk_76 (dk_at dksX3_copy_0 7 rfl rfl)
theorem dX3_copy_8 : decode cX3_copy 8 = .ok (.iconst 0, 1) := dk_3 (dk_at dksX3_copy_0 8 rfl rfl)
theorem dX3_copy_9 : decode cX3_copy 9 = .ok (.istore_n 2, 1) := dk_61 (dk_at dksX3_copy_0 9 rfl rfl)
theorem dX3_copy_10 : decode cX3_copy 10 = .ok (.iload_n 2, 1) := dk_28 (dk_at dksX3_copy_0 10 rfl rfl)
theorem dX3_copy_11 : decode cX3_copy 11 = .ok (.bipush 6, 2) := dk_16 6 (dk_at dksX3_copy_0 11 rfl rfl)
theorem dX3_copy_13 : decode cX3_copy 13 = .ok (.if_icmp .ge 45, 3) := dk_162 0 45 (dk_at dksX3_copy_0 13 rfl rfl)
theorem dX3_copy_16 : decode cX3_copy 16 = .ok (.aload_n 1, 1) := dk_43 (dk_at dksX3_copy_0 16 rfl rfl)
theorem dX3_copy_17 : decode cX3_copy 17 = .ok (.getfield 9, 3) := dk_180 0 9 (dk_at dksX3_copy_0 17 rfl rfl)
theorem dX3_copy_20 : decode cX3_copy 20 = .ok (.iload_n 2, 1) := dk_28 (dk_at dksX3_copy_0 20 rfl rfl)
theorem dX3_copy_21 : decode cX3_copy 21 = .ok (.aload_n 0, 1) := dk_42 (dk_at dksX3_copy_0 21 rfl rfl)
theorem dX3_copy_22 : decode cX3_copy 22 = .ok (.getfield 9, 3) := dk_180 0 9 (dk_at dksX3_copy_1 0 rfl rfl)
theorem dX3_copy_25 : decode cX3_copy 25 = .ok (.iload_n 2, 1) := dk_28 (dk_at dksX3_copy_1 3 rfl rfl)
theorem dX3_copy_26 : decode cX3_copy 26 = .ok (.iaload, 1) := dk_46 (dk_at dksX3_copy_1 4 rfl rfl)
theorem dX3_copy_27 : decode cX3_copy 27 = .ok (.iastore, 1) := dk_79 (dk_at dksX3_copy_1 5 rfl rfl)
theorem dX3_copy_28 : decode cX3_copy 28 = .ok (.aload_n 1, 1) := dk_43 (dk_at dksX3_copy_1 6 rfl rfl)
theorem dX3_copy_29 : decode cX3_copy 29 = .ok (.getfield 15, 3) := dk_180 0 15 (dk_at dksX3_copy_1 7 rfl rfl)
theorem dX3_copy_32 : decode cX3_copy 32 = .ok (.iload_n 2, 1) := dk_28 (dk_at dksX3_copy_1 10 rfl rfl)
theorem dX3_copy_33 : decode cX3_copy 33 = .ok (.aload_n 0, 1) := dk_42 (dk_at dksX3_copy_1 11 rfl rfl)
theorem dX3_copy_34 : decode cX3_copy 34 = .ok (.getfield 15, 3) := dk_180 0 15 (dk_at dksX3_copy_1 12 rfl rfl)
theorem dX3_copy_37 : decode cX3_copy 37 = .ok (.iload_n 2, 1) := dk_28 (dk_at dksX3_copy_1 15 rfl rfl)
theorem dX3_copy_38 : decode cX3_copy 38 = .ok (.iaload, 1) := dk_46 (dk_at dksX3_copy_1 16 rfl rfl)
theorem dX3_copy_39 : decode cX3_copy 39 = .ok (.iastore, 1) := dk_79 (dk_at dksX3_copy_1 17 rfl rfl)
theorem dX3_copy_40 : decode cX3_copy 40 = .ok (.aload_n 1, 1) := dk_43 (dk_at dksX3_copy_1 18 rfl rfl)
theorem dX3_copy_41 : decode cX3_copy 41 = .ok (.getfield 18, 3) := dk_180 0 18 (dk_at dksX3_copy_1 19 rfl rfl)
theorem dX3_copy_44 : decode cX3_copy 44 = .ok (.iload_n 2, 1) := dk_28 (dk_at dksX3_copy_1 22 rfl rfl)
theorem dX3_copy_45 : decode cX3_copy 45 = .ok (.aload_n 0, 1) := dk_42 (dk_at dksX3_copy_1 23 rfl rfl)
theorem dX3_copy_46 : decode cX3_copy 46 = .ok (.getfield 18, 3) := dk_180 0 18 (dk_at dksX3_copy_2 0 rfl rfl)
theorem dX3_copy_49 : decode cX3_copy 49 = .ok (.iload_n 2, 1) := dk_28 (dk_at dksX3_copy_2 3 rfl rfl)
theorem dX3_copy_50 : decode cX3_copy 50 = .ok (.iaload, 1) := dk_46 (dk_at dksX3_copy_2 4 rfl rfl)
theorem dX3_copy_51 : decode cX3_copy 51 = .ok (.iastore, 1) := dk_79 (dk_at dksX3_copy_2 5 rfl rfl)
theorem dX3_copy_52 : decode cX3_copy 52 = .ok (.iinc 2 1, 3) := dk_132 2 1 (dk_at dksX3_copy_2 6 rfl rfl)
theorem dX3_copy_55 : decode cX3_copy 55 = .ok (.goto (-45), 3) := dk_167 255 211 (dk_at dksX3_copy_2 9 rfl rfl)
theorem dX3_copy_58 : decode cX3_copy 58 = .ok (.iconst 0, 1) := dk_3 (dk_at dksX3_copy_2 12 rfl rfl)
theorem dX3_copy_59 : decode cX3_copy 59 = .ok (.istore_n 2, 1) := dk_61 (dk_at dksX3_copy_2 13 rfl rfl)
theorem dX3_copy_60 : decode cX3_copy 60 = .ok (.iload_n 2, 1) := dk_28 (dk_at dksX3_copy_2 14 rfl rfl)
theorem dX3_copy_61 : decode cX3_copy 61 = .ok (.bipush 36, 2) := dk_16 36 (dk_at dksX3_copy_2 15 rfl rfl)
theorem dX3_copy_63 : decode cX3_copy 63 = .ok (.if_icmp .ge 45, 3) := dk_162 0 45 (dk_at dksX3_copy_2 17 rfl rfl)
theorem dX3_copy_66 : decode cX3_copy 66 = .ok (.aload_n 1, 1) := dk_43 (dk_at dksX3_copy_2 20 rfl rfl)
theorem dX3_copy_67 : decode cX3_copy 67 = .ok (.getfield 21, 3) := dk_180 0 21 (dk_at dksX3_copy_2 21 rfl rfl)
theorem dX3_copy_70 : decode cX3_copy 70 = .ok (.iload_n 2, 1) := dk_28 (dk_at dksX3_copy_3 0 rfl rfl)
theorem dX3_copy_71 : decode cX3_copy 71 = .ok (.aload_n 0, 1) := dk_42 (dk_at dksX3_copy_3 1 rfl rfl)
theorem dX3_copy_72 : decode cX3_copy 72 = .ok (.getfield 21, 3) := dk_180 0 21 (dk_at dksX3_copy_3 2 rfl rfl)
theorem dX3_copy_75 : decode cX3_copy 75 = .ok (.iload_n 2, 1) := dk_28 (dk_at dksX3_copy_3 5 rfl rfl)
theorem dX3_copy_76 : decode cX3_copy 76 = .ok (.iaload, 1) := dk_46 (dk_at dksX3_copy_3 6 rfl rfl)
theorem dX3_copy_77 : decode cX3_copy 77 = .ok (.iastore, 1) := dk_79 (dk_at dksX3_copy_3 7 rfl rfl)
theorem dX3_copy_78 : decode cX3_copy 78 = .ok (.aload_n 1, 1) := dk_43 (dk_at dksX3_copy_3 8 rfl rfl)
theorem dX3_copy_79 : decode cX3_copy 79 = .ok (.getfield 24, 3) := dk_180 0 24 (dk_at dksX3_copy_3 9 rfl rfl)
theorem dX3_copy_82 : decode cX3_copy 82 = .ok (.iload_n 2, 1) := dk_28 (dk_at dksX3_copy_3 12 rfl rfl)
theorem dX3_copy_83 : decode cX3_copy 83 = .ok (.aload_n 0, 1) := dk_42 (dk_at dksX3_copy_3 13 rfl rfl)
theorem dX3_copy_84 : decode cX3_copy 84 = .ok (.getfield 24, 3) := dk_180 0 24 (dk_at dksX3_copy_3 14 rfl rfl)
theorem dX3_copy_87 : decode cX3_copy 87 = .ok (.iload_n 2, 1) := dk_28 (dk_at dksX3_copy_3 17 rfl rfl)
theorem dX3_copy_88 : decode cX3_copy 88 = .ok (.iaload, 1) := dk_46 (dk_at dksX3_copy_3 18 rfl rfl)
theorem dX3_copy_89 : decode cX3_copy 89 = .ok (.iastore, 1) := dk_79 (dk_at dksX3_copy_3 19 rfl rfl)
theorem dX3_copy_90 : decode cX3_copy 90 = .ok (.aload_n 1, 1) := dk_43 (dk_at dksX3_copy_3 20 rfl rfl)
theorem dX3_copy_91 : decode cX3_copy 91 = .ok (.getfield 27, 3) := dk_180 0 27 (dk_at dksX3_copy_3 21 rfl rfl)
theorem dX3_copy_94 : decode cX3_copy 94 = .ok (.iload_n 2, 1) := dk_28 (dk_at dksX3_copy_4 0 rfl rfl)
theorem dX3_copy_95 : decode cX3_copy 95 = .ok (.aload_n 0, 1) := dk_42 (dk_at dksX3_copy_4 1 rfl rfl)
theorem dX3_copy_96 : decode cX3_copy 96 = .ok (.getfield 27, 3) := dk_180 0 27 (dk_at dksX3_copy_4 2 rfl rfl)
theorem dX3_copy_99 : decode cX3_copy 99 = .ok (.iload_n 2, 1) := dk_28 (dk_at dksX3_copy_4 5 rfl rfl)
theorem dX3_copy_100 : decode cX3_copy 100 = .ok (.iaload, 1) := dk_46 (dk_at dksX3_copy_4 6 rfl rfl)
theorem dX3_copy_101 : decode cX3_copy 101 = .ok (.iastore, 1) := dk_79 (dk_at dksX3_copy_4 7 rfl rfl)
theorem dX3_copy_102 : decode cX3_copy 102 = .ok (.iinc 2 1, 3) := dk_132 2 1 (dk_at dksX3_copy_4 8 rfl rfl)
theorem dX3_copy_105 : decode cX3_copy 105 = .ok (.goto (-45), 3) := dk_167 255 211 (dk_at dksX3_copy_4 11 rfl rfl)
theorem dX3_copy_108 : decode cX3_copy 108 = .ok (.aload_n 1, 1) := dk_43 (dk_at dksX3_copy_4 14 rfl rfl)
theorem dX3_copy_109 : decode cX3_copy 109 = .ok (.areturn, 1) := dk_176 (dk_at dksX3_copy_4 15 rfl rfl)
def dkwX3_set_1 : List UInt8 := [180, 0, 27, 27, 21, 4, 79, 21, 5, 172]
abbrev dktX3_set_1 : List UInt8 := dkwX3_set_1 ++ []
def dkwX3_set_0 : List UInt8 := [42, 180, 0, 21, 27, 46, 54, 5, 42, 180, 0, 21, 27, 28, 79, 42, 180, 0, 24, 27, 29, 79, 42]
abbrev dktX3_set_0 : List UInt8 := dkwX3_set_0 ++ dktX3_set_1
theorem dksX3_set_0 : cX3_set.data.toList.drop 0 = dktX3_set_0 := by decide +kernel
theorem dksX3_set_1 : cX3_set.data.toList.drop 23 = dktX3_set_1 := dk_seg dksX3_set_0 23 rfl rfl
theorem dX3_set_0 : decode cX3_set 0 = .ok (.aload_n 0, 1) := dk_42 (dk_at dksX3_set_0 0 rfl rfl)
theorem dX3_set_1 : decode cX3_set 1 = .ok (.getfield 21, 3) := dk_180 0 21 (dk_at dksX3_set_0 1 rfl rfl)
theorem dX3_set_4 : decode cX3_set 4 = .ok (.iload_n 1, 1) := dk_27 (dk_at dksX3_set_0 4 rfl rfl)
theorem dX3_set_5 : decode cX3_set 5 = .ok (.iaload, 1) := dk_46 (dk_at dksX3_set_0 5 rfl rfl)
theorem dX3_set_6 : decode cX3_set 6 = .ok (.istore 5, 2) := dk_54 5 (dk_at dksX3_set_0 6 rfl rfl)
theorem dX3_set_8 : decode cX3_set 8 = .ok (.aload_n 0, 1) := dk_42 (dk_at dksX3_set_0 8 rfl rfl)
theorem dX3_set_9 : decode cX3_set 9 = .ok (.getfield 21, 3) := dk_180 0 21 (dk_at dksX3_set_0 9 rfl rfl)
theorem dX3_set_12 : decode cX3_set 12 = .ok (.iload_n 1, 1) := dk_27 (dk_at dksX3_set_0 12 rfl rfl)
theorem dX3_set_13 : decode cX3_set 13 = .ok (.iload_n 2, 1) := dk_28 (dk_at dksX3_set_0 13 rfl rfl)
theorem dX3_set_14 : decode cX3_set 14 = .ok (.iastore, 1) := dk_79 (dk_at dksX3_set_0 14 rfl rfl)
theorem dX3_set_15 : decode cX3_set 15 = .ok (.aload_n 0, 1) := dk_42 (dk_at dksX3_set_0 15 rfl rfl)
theorem dX3_set_16 : decode cX3_set 16 = .ok (.getfield 24, 3) := dk_180 0 24 (dk_at dksX3_set_0 16 rfl rfl)
theorem dX3_set_19 : decode cX3_set 19 = .ok (.iload_n 1, 1) := dk_27 (dk_at dksX3_set_0 19 rfl rfl)
theorem dX3_set_20 : decode cX3_set 20 = .ok (.iload_n 3, 1) := dk_29 (dk_at dksX3_set_0 20 rfl rfl)
theorem dX3_set_21 : decode cX3_set 21 = .ok (.iastore, 1) := dk_79 (dk_at dksX3_set_0 21 rfl rfl)
theorem dX3_set_22 : decode cX3_set 22 = .ok (.aload_n 0, 1) := dk_42 (dk_at dksX3_set_0 22 rfl rfl)
theorem dX3_set_23 : decode cX3_set 23 = .ok (.getfield 27, 3) := dk_180 0 27 (dk_at dksX3_set_1 0 rfl rfl)
theorem dX3_set_26 : decode cX3_set 26 = .ok (.iload_n 1, 1) := dk_27 (dk_at dksX3_set_1 3 rfl rfl)
theorem dX3_set_27 : decode cX3_set 27 = .ok (.iload 4, 2) := dk_21 4 (dk_at dksX3_set_1 4 rfl rfl)
theorem dX3_set_29 : decode cX3_set 29 = .ok (.iastore, 1) := dk_79 (dk_at dksX3_set_1 6 rfl rfl)
theorem dX3_set_30 : decode cX3_set 30 = .ok (.iload 5, 2) := dk_21 5 (dk_at dksX3_set_1 7 rfl rfl)
theorem dX3_set_32 : decode cX3_set 32 = .ok (.ireturn, 1) := dk_172 (dk_at dksX3_set_1 9 rfl rfl)
def dkwX4_init_1 : List UInt8 := [183, 0, 20, 183, 0, 21, 181, 0, 24, 177]
abbrev dktX4_init_1 : List UInt8 := dkwX4_init_1 ++ []
def dkwX4_init_0 : List UInt8 := [42, 183, 0, 1, 42, 187, 0, 7, 89, 183, 0, 9, 181, 0, 10, 42, 187, 0, 16, 89, 187, 0, 18, 89]
abbrev dktX4_init_0 : List UInt8 := dkwX4_init_0 ++ dktX4_init_1
theorem dksX4_init_0 : cX4_init.data.toList.drop 0 = dktX4_init_0 := by decide +kernel
theorem dksX4_init_1 : cX4_init.data.toList.drop 24 = dktX4_init_1 := dk_seg dksX4_init_0 24 rfl rfl
theorem dX4_init_0 : decode cX4_init 0 = .ok (.aload_n 0, 1) := dk_42 (dk_at dksX4_init_0 0 rfl rfl)
theorem dX4_init_1 : decode cX4_init 1 = .ok (.invokespecial 1, 3) := dk_183 0 1 (dk_at dksX4_init_0 1 rfl rfl)
theorem dX4_init_4 : decode cX4_init 4 = .ok (.aload_n 0, 1) := dk_42 (dk_at dksX4_init_0 4 rfl rfl)
theorem dX4_init_5 : decode cX4_init 5 = .ok (.new 7, 3) := dk_187 0 7 (dk_at dksX4_init_0 5 rfl rfl)
theorem dX4_init_8 : decode cX4_init 8 = .ok (.dup, 1) := dk_89 (dk_at dksX4_init_0 8 rfl rfl)
theorem dX4_init_9 : decode cX4_init 9 = .ok (.invokespecial 9, 3) := dk_183 0 9 (dk_at dksX4_init_0 9 rfl rfl)
theorem dX4_init_12 : decode cX4_init 12 = .ok (.putfield 10, 3) := dk_181 0 10 (dk_at dksX4_init_0 12 rfl rfl)
theorem dX4_init_15 : decode cX4_init 15 = .ok (.aload_n 0, 1) := dk_42 (dk_at dksX4_init_0 15 rfl rfl)
theorem dX4_init_16 : decode cX4_init 16 = .ok (.new 16, 3) := dk_187 0 16 (dk_at dksX4_init_0 16 rfl rfl)
theorem dX4_init_19 : decode cX4_init 19 = .ok (.dup, 1) := dk_89 (dk_at dksX4_init_0 19 rfl rfl)
theorem dX4_init_20 : decode cX4_init 20 = .ok (.new 18, 3) := dk_187 0 18 (dk_at dksX4_init_0 20 rfl rfl)
theorem dX4_init_23 : decode cX4_init 23 = .ok (.dup, 1) := dk_89 (dk_at dksX4_init_0 23 rfl rfl)
theorem dX4_init_24 : decode cX4_init 24 = .ok (.invokespecial 20, 3) := dk_183 0 20 (dk_at dksX4_init_1 0 rfl rfl)
theorem dX4_init_27 : decode cX4_init 27 = .ok (.invokespecial 21, 3) := dk_183 0 21 (dk_at dksX4_init_1 3 rfl rfl)
theorem dX4_init_30 : decode cX4_init 30 = .ok (.putfield 24, 3) := dk_181 0 24 (dk_at dksX4_init_1 6 rfl rfl)
theorem dX4_init_33 : decode cX4_init 33 = .ok (.return_, 1) := dk_177 (dk_at dksX4_init_1 9 rfl rfl)
def dkwX4_of_0 : List UInt8 := [42, 180, 0, 10, 187, 0, 58, 89, 27, 28, 183, 0, 60, 182, 0, 63, 192, 0, 45, 176]
abbrev dktX4_of_0 : List UInt8 := dkwX4_of_0 ++ []
theorem dksX4_of_0 : cX4_of.data.toList.drop 0 = dktX4_of_0 := by decide +kernel
theorem dX4_of_0 : decode cX4_of 0 = .ok (.aload_n 0, 1) := dk_42 (dk_at dksX4_of_0 0 rfl rfl)
theorem dX4_of_1 : decode cX4_of 1 = .ok (.getfield 10, 3) := dk_180 0 10 (dk_at dksX4_of_0 1 rfl rfl)
theorem dX4_of_4 : decode cX4_of 4 = .ok (.new 58, 3) := dk_187 0 58 (dk_at dksX4_of_0 4 rfl rfl)
theorem dX4_of_7 : decode cX4_of 7 = .ok (.dup, 1) := dk_89 (dk_at dksX4_of_0 7 rfl rfl)
theorem dX4_of_8 : decode cX4_of 8 = .ok (.iload_n 1, 1) := dk_27 (dk_at dksX4_of_0 8 rfl rfl)
theorem dX4_of_9 : decode cX4_of 9 = .ok (.iload_n 2, 1) := dk_28 (dk_at dksX4_of_0 9 rfl rfl)
theorem dX4_of_10 : decode cX4_of 10 = .ok (.invokespecial 60, 3) := dk_183 0 60 (dk_at dksX4_of_0 10 rfl rfl)
theorem dX4_of_13 : decode cX4_of 13 = .ok (.invokevirtual 63, 3) := dk_182 0 63 (dk_at dksX4_of_0 13 rfl rfl)
theorem dX4_of_16 : decode cX4_of 16 = .ok (.checkcast 45, 3) := dk_192 0 45 (dk_at dksX4_of_0 16 rfl rfl)
theorem dX4_of_19 : decode cX4_of 19 = .ok (.areturn, 1) := dk_176 (dk_at dksX4_of_0 19 rfl rfl)
def dkwX4_copy_2 : List UInt8 := [176]
abbrev dktX4_copy_2 : List UInt8 := dkwX4_copy_2 ++ []
def dkwX4_copy_1 : List UInt8 := [180, 0, 24, 182, 0, 33, 87, 43, 42, 180, 0, 37, 181, 0, 37, 43, 42, 180, 0, 41, 181, 0, 41, 43]
abbrev dktX4_copy_1 : List UInt8 := dkwX4_copy_1 ++ dktX4_copy_2
def dkwX4_copy_0 : List UInt8 := [187, 0, 11, 89, 183, 0, 28, 76, 43, 180, 0, 10, 42, 180, 0, 10, 182, 0, 29, 43, 180, 0, 24, 42]
abbrev dktX4_copy_0 : List UInt8 := dkwX4_copy_0 ++ dktX4_copy_1
theorem dksX4_copy_0 : cX4_copy.data.toList.drop 0 = dktX4_copy_0 := by decide +kernel
theorem dksX4_copy_1 : cX4_copy.data.toList.drop 24 = dktX4_copy_1 := dk_seg dksX4_copy_0 24 rfl rfl
theorem dksX4_copy_2 : cX4_copy.data.toList.drop 48 = dktX4_copy_2 := dk_seg dksX4_copy_1 24 rfl rfl
theorem dX4_copy_0 : decode cX4_copy 0 = .ok (.new 11, 3) := dk_187 0 11 (dk_at dksX4_copy_0 0 rfl rfl)
theorem dX4_copy_3 : decode cX4_copy 3 = .ok (.dup, 1) := dk_89 (dk_at dksX4_copy_0 3 rfl rfl)
theorem dX4_copy_4 : decode cX4_copy 4 = .ok (.invokespecial 28, 3) := dk_183 0 28 (dk_at dksX4_copy_0 4 rfl rfl)
theorem dX4_copy_7 : decode cX4_copy 7 = .ok (.astore_n 1, 1) := dk_76 (dk_at dksX4_copy_0 7 rfl rfl)
theorem dX4_copy_8 : decode cX4_copy 8 = .ok (.aload_n 1, 1) := dk_43 (dk_at dksX4_copy_0 8 rfl rfl)
theorem dX4_copy_9 : decode cX4_copy 9 = .ok (.getfield 10, 3) := dk_180 0 10 (dk_at dksX4_copy_0 9 rfl rfl)
theorem dX4_copy_12 : decode cX4_copy 12 = .ok (.aload_n 0, 1) := dk_42 (dk_at dksX4_copy_0 12 rfl rfl)
theorem dX4_copy_13 : decode cX4_copy 13 = .ok (.getfield 10, 3) := dk_180 0 10 (dk_at dksX4_copy_0 13 rfl rfl)
theorem dX4_copy_16 : decode cX4_copy 16 = .ok (.invokevirtual 29, 3) := dk_182 0 29 (dk_at dksX4_copy_0 16 rfl rfl)
theorem dX4_copy_19 : decode cX4_copy 19 = .ok (.aload_n 1, 1) := dk_43 (dk_at dksX4_copy_0 19 rfl rfl)
theorem dX4_copy_20 : decode cX4_copy 20 = .ok (.getfield 24, 3) := dk_180 0 24 (dk_at dksX4_copy_0 20 rfl rfl)
theorem dX4_copy_23 : decode cX4_copy 23 = .ok (.aload_n 0, 1) := dk_42 (dk_at dksX4_copy_0 23 rfl rfl)
theorem dX4_copy_24 : decode cX4_copy 24 = .ok (.getfield 24, 3) := dk_180 0 24 (dk_at dksX4_copy_1 0 rfl rfl)
theorem dX4_copy_27 : decode cX4_copy 27 = .ok (.invokevirtual 33, 3) := dk_182 0 33 (dk_at dksX4_copy_1 3 rfl rfl)
theorem dX4_copy_30 : decode cX4_copy 30 = .ok (.pop, 1) := dk_87 (dk_at dksX4_copy_1 6 rfl rfl)
theorem dX4_copy_31 : decode cX4_copy 31 = .ok (.aload_n 1, 1) := dk_43 (dk_at dksX4_copy_1 7 rfl rfl)
theorem dX4_copy_32 : decode cX4_copy 32 = .ok (.aload_n 0, 1) := dk_42 (dk_at dksX4_copy_1 8 rfl rfl)
theorem dX4_copy_33 : decode cX4_copy 33 = .ok (.getfield 37, 3) := dk_180 0 37 (dk_at dksX4_copy_1 9 rfl rfl)
theorem dX4_copy_36 : decode cX4_copy 36 = .ok (.putfield 37, 3) := dk_181 0 37 (dk_at dksX4_copy_1 12 rfl rfl)
theorem dX4_copy_39 : decode cX4_copy 39 = .ok (.aload_n 1, 1) := dk_43 (dk_at dksX4_copy_1 15 rfl rfl)
theorem dX4_copy_40 : decode cX4_copy 40 = .ok (.aload_n 0, 1) := dk_42 (dk_at dksX4_copy_1 16 rfl rfl)
theorem dX4_copy_41 : decode cX4_copy 41 = .ok (.getfield 41, 3) := dk_180 0 41 (dk_at dksX4_copy_1 17 rfl rfl)
theorem dX4_copy_44 : decode cX4_copy 44 = .ok (.putfield 41, 3) := dk_181 0 41 (dk_at dksX4_copy_1 20 rfl rfl)
theorem dX4_copy_47 : decode cX4_copy 47 = .ok (.aload_n 1, 1) := dk_43 (dk_at dksX4_copy_1 23 rfl rfl)
theorem dX4_copy_48 : decode cX4_copy 48 = .ok (.areturn, 1) := dk_176 (dk_at dksX4_copy_2 0 rfl rfl)
def dkwX4_remember_1 : List UInt8 := [180, 0, 37, 4, 96, 181, 0, 37, 177]
abbrev dktX4_remember_1 : List UInt8 := dkwX4_remember_1 ++ []
def dkwX4_remember_0 : List UInt8 := [42, 180, 0, 10, 43, 180, 0, 44, 43, 182, 0, 50, 87, 42, 180, 0, 24, 43, 182, 0, 54, 87, 42, 89]
abbrev dktX4_remember_0 : List UInt8 := dkwX4_remember_0 ++ dktX4_remember_1
theorem dksX4_remember_0 : cX4_remember.data.toList.drop 0 = dktX4_remember_0 := by decide +kernel
theorem dksX4_remember_1 : cX4_remember.data.toList.drop 24 = dktX4_remember_1 := dk_seg dksX4_remember_0 24 rfl rfl
theorem dX4_remember_0 : decode cX4_remember 0 = .ok (.aload_n 0, 1) := dk_42 (dk_at dksX4_remember_0 0 rfl rfl)
theorem dX4_remember_1 : decode cX4_remember 1 = .ok (.getfield 10, 3) := dk_180 0 10 (dk_at dksX4_remember_0 1 rfl rfl)
theorem dX4_remember_4 : decode cX4_remember 4 = .ok (.aload_n 1, 1) := dk_43 (dk_at dksX4_remember_0 4 rfl rfl)
theorem dX4_remember_5 : decode cX4_remember 5 = .ok (.getfield 44, 3) := dk_180 0 44 (dk_at dksX4_remember_0 5 rfl rfl)
theorem dX4_remember_8 : decode cX4_remember 8 = .ok (.aload_n 1, 1) := dk_43 (dk_at dksX4_remember_0 8 rfl rfl)
theorem dX4_remember_9 : decode cX4_remember 9 = .ok (.invokevirtual 50, 3) := dk_182 0 50 (dk_at dksX4_remember_0 9 rfl rfl)
theorem dX4_remember_12 : decode cX4_remember 12 = .ok (.pop, 1) := dk_87 (dk_at dksX4_remember_0 12 rfl rfl)
theorem dX4_remember_13 : decode cX4_remember 13 = .ok (.aload_n 0, 1) := dk_42 (dk_at dksX4_remember_0 13 rfl rfl)
theorem dX4_remember_14 : decode cX4_remember 14 = .ok (.getfield 24, 3) := dk_180 0 24 (dk_at dksX4_remember_0 14 rfl rfl)
theorem dX4_remember_17 : decode cX4_remember 17 = .ok (.aload_n 1, 1) := dk_43 (dk_at dksX4_remember_0 17 rfl rfl)
theorem dX4_remember_18 : decode cX4_remember 18 = .ok (.invokevirtual 54, 3) := dk_182 0 54 (dk_at dksX4_remember_0 18 rfl rfl)
theorem dX4_remember_21 : decode cX4_remember 21 = .ok (.pop, 1) := dk_87 (dk_at dksX4_remember_0 21 rfl rfl)
theorem dX4_remember_22 : decode cX4_remember 22 = .ok (.aload_n 0, 1) := dk_42 (dk_at dksX4_remember_0 22 rfl rfl)
theorem dX4_remember_23 : decode cX4_remember 23 = .ok (.dup, 1) := dk_89 (dk_at dksX4_remember_0 23 rfl rfl)
theorem dX4_remember_24 : decode cX4_remember 24 = .ok (.getfield 37, 3) := dk_180 0 37 (dk_at dksX4_remember_1 0 rfl rfl)
theorem dX4_remember_27 : decode cX4_remember 27 = .ok (.iconst 1, 1) := dk_4 (dk_at dksX4_remember_1 3 rfl rfl)
theorem dX4_remember_28 : decode cX4_remember 28 = .ok (.iadd, 1) := dk_96 (dk_at dksX4_remember_1 4 rfl rfl)
theorem dX4_remember_29 : decode cX4_remember 29 = .ok (.putfield 37, 3) := dk_181 0 37 (dk_at dksX4_remember_1 5 rfl rfl)
theorem dX4_remember_32 : decode cX4_remember 32 = .ok (.return_, 1) := dk_177 (dk_at dksX4_remember_1 8 rfl rfl)
def dkwX4_forget_1 : List UInt8 := [180, 0, 41, 4, 96, 181, 0, 41, 177]
abbrev dktX4_forget_1 : List UInt8 := dkwX4_forget_1 ++ []
def dkwX4_forget_0 : List UInt8 := [42, 180, 0, 10, 43, 180, 0, 44, 182, 0, 67, 87, 42, 180, 0, 24, 43, 182, 0, 70, 87, 42, 89]
abbrev dktX4_forget_0 : List UInt8 := dkwX4_forget_0 ++ dktX4_forget_1
theorem dksX4_forget_0 : cX4_forget.data.toList.drop 0 = dktX4_forget_0 := by decide +kernel
theorem dksX4_forget_1 : cX4_forget.data.toList.drop 23 = dktX4_forget_1 := dk_seg dksX4_forget_0 23 rfl rfl
theorem dX4_forget_0 : decode cX4_forget 0 = .ok (.aload_n 0, 1) := dk_42 (dk_at dksX4_forget_0 0 rfl rfl)
theorem dX4_forget_1 : decode cX4_forget 1 = .ok (.getfield 10, 3) := dk_180 0 10 (dk_at dksX4_forget_0 1 rfl rfl)
theorem dX4_forget_4 : decode cX4_forget 4 = .ok (.aload_n 1, 1) := dk_43 (dk_at dksX4_forget_0 4 rfl rfl)
theorem dX4_forget_5 : decode cX4_forget 5 = .ok (.getfield 44, 3) := dk_180 0 44 (dk_at dksX4_forget_0 5 rfl rfl)
theorem dX4_forget_8 : decode cX4_forget 8 = .ok (.invokevirtual 67, 3) := dk_182 0 67 (dk_at dksX4_forget_0 8 rfl rfl)
theorem dX4_forget_11 : decode cX4_forget 11 = .ok (.pop, 1) := dk_87 (dk_at dksX4_forget_0 11 rfl rfl)
theorem dX4_forget_12 : decode cX4_forget 12 = .ok (.aload_n 0, 1) := dk_42 (dk_at dksX4_forget_0 12 rfl rfl)
theorem dX4_forget_13 : decode cX4_forget 13 = .ok (.getfield 24, 3) := dk_180 0 24 (dk_at dksX4_forget_0 13 rfl rfl)
theorem dX4_forget_16 : decode cX4_forget 16 = .ok (.aload_n 1, 1) := dk_43 (dk_at dksX4_forget_0 16 rfl rfl)
theorem dX4_forget_17 : decode cX4_forget 17 = .ok (.invokevirtual 70, 3) := dk_182 0 70 (dk_at dksX4_forget_0 17 rfl rfl)
theorem dX4_forget_20 : decode cX4_forget 20 = .ok (.pop, 1) := dk_87 (dk_at dksX4_forget_0 20 rfl rfl)
theorem dX4_forget_21 : decode cX4_forget 21 = .ok (.aload_n 0, 1) := dk_42 (dk_at dksX4_forget_0 21 rfl rfl)
theorem dX4_forget_22 : decode cX4_forget 22 = .ok (.dup, 1) := dk_89 (dk_at dksX4_forget_0 22 rfl rfl)
theorem dX4_forget_23 : decode cX4_forget 23 = .ok (.getfield 41, 3) := dk_180 0 41 (dk_at dksX4_forget_1 0 rfl rfl)
theorem dX4_forget_26 : decode cX4_forget 26 = .ok (.iconst 1, 1) := dk_4 (dk_at dksX4_forget_1 3 rfl rfl)
theorem dX4_forget_27 : decode cX4_forget 27 = .ok (.iadd, 1) := dk_96 (dk_at dksX4_forget_1 4 rfl rfl)
theorem dX4_forget_28 : decode cX4_forget 28 = .ok (.putfield 41, 3) := dk_181 0 41 (dk_at dksX4_forget_1 5 rfl rfl)
theorem dX4_forget_31 : decode cX4_forget 31 = .ok (.return_, 1) := dk_177 (dk_at dksX4_forget_1 8 rfl rfl)
def dkwX4_end_2 : List UInt8 := [182, 0, 67, 87, 42, 89, 180, 0, 41, 4, 96, 181, 0, 41, 132, 2, 1, 167, 255, 195, 28, 172]
abbrev dktX4_end_2 : List UInt8 := dkwX4_end_2 ++ []
def dkwX4_end_1 : List UInt8 := [180, 0, 80, 27, 163, 0, 40, 42, 180, 0, 10, 42, 180, 0, 24, 182, 0, 83, 192, 0, 45, 180, 0, 44]
abbrev dktX4_end_1 : List UInt8 := dkwX4_end_1 ++ dktX4_end_2
def dkwX4_end_0 : List UInt8 := [3, 61, 42, 180, 0, 24, 182, 0, 72, 154, 0, 57, 42, 180, 0, 24, 182, 0, 76, 192, 0, 45]
abbrev dktX4_end_0 : List UInt8 := dkwX4_end_0 ++ dktX4_end_1
theorem dksX4_end_0 : cX4_end.data.toList.drop 0 = dktX4_end_0 := by decide +kernel
theorem dksX4_end_1 : cX4_end.data.toList.drop 22 = dktX4_end_1 := dk_seg dksX4_end_0 22 rfl rfl
theorem dksX4_end_2 : cX4_end.data.toList.drop 46 = dktX4_end_2 := dk_seg dksX4_end_1 24 rfl rfl
theorem dX4_end_0 : decode cX4_end 0 = .ok (.iconst 0, 1) := dk_3 (dk_at dksX4_end_0 0 rfl rfl)
theorem dX4_end_1 : decode cX4_end 1 = .ok (.istore_n 2, 1) := dk_61 (dk_at dksX4_end_0 1 rfl rfl)
theorem dX4_end_2 : decode cX4_end 2 = .ok (.aload_n 0, 1) := dk_42 (dk_at dksX4_end_0 2 rfl rfl)
theorem dX4_end_3 : decode cX4_end 3 = .ok (.getfield 24, 3) := dk_180 0 24 (dk_at dksX4_end_0 3 rfl rfl)
theorem dX4_end_6 : decode cX4_end 6 = .ok (.invokevirtual 72, 3) := dk_182 0 72 (dk_at dksX4_end_0 6 rfl rfl)
theorem dX4_end_9 : decode cX4_end 9 = .ok (.ifCond .ne 57, 3) := dk_154 0 57 (dk_at dksX4_end_0 9 rfl rfl)
theorem dX4_end_12 : decode cX4_end 12 = .ok (.aload_n 0, 1) := dk_42 (dk_at dksX4_end_0 12 rfl rfl)
theorem dX4_end_13 : decode cX4_end 13 = .ok (.getfield 24, 3) := dk_180 0 24 (dk_at dksX4_end_0 13 rfl rfl)
theorem dX4_end_16 : decode cX4_end 16 = .ok (.invokevirtual 76, 3) := dk_182 0 76 (dk_at dksX4_end_0 16 rfl rfl)
theorem dX4_end_19 : decode cX4_end 19 = .ok (.checkcast 45, 3) := dk_192 0 45 (dk_at dksX4_end_0 19 rfl rfl)
theorem dX4_end_22 : decode cX4_end 22 = .ok (.getfield 80, 3) := dk_180 0 80 (dk_at dksX4_end_1 0 rfl rfl)
theorem dX4_end_25 : decode cX4_end 25 = .ok (.iload_n 1, 1) := dk_27 (dk_at dksX4_end_1 3 rfl rfl)
theorem dX4_end_26 : decode cX4_end 26 = .ok (.if_icmp .gt 40, 3) := dk_163 0 40 (dk_at dksX4_end_1 4 rfl rfl)
theorem dX4_end_29 : decode cX4_end 29 = .ok (.aload_n 0, 1) := dk_42 (dk_at dksX4_end_1 7 rfl rfl)
theorem dX4_end_30 : decode cX4_end 30 = .ok (.getfield 10, 3) := dk_180 0 10 (dk_at dksX4_end_1 8 rfl rfl)
theorem dX4_end_33 : decode cX4_end 33 = .ok (.aload_n 0, 1) := dk_42 (dk_at dksX4_end_1 11 rfl rfl)
theorem dX4_end_34 : decode cX4_end 34 = .ok (.getfield 24, 3) := dk_180 0 24 (dk_at dksX4_end_1 12 rfl rfl)
theorem dX4_end_37 : decode cX4_end 37 = .ok (.invokevirtual 83, 3) := dk_182 0 83 (dk_at dksX4_end_1 15 rfl rfl)
theorem dX4_end_40 : decode cX4_end 40 = .ok (.checkcast 45, 3) := dk_192 0 45 (dk_at dksX4_end_1 18 rfl rfl)
theorem dX4_end_43 : decode cX4_end 43 = .ok (.getfield 44, 3) := dk_180 0 44 (dk_at dksX4_end_1 21 rfl rfl)
theorem dX4_end_46 : decode cX4_end 46 = .ok (.invokevirtual 67, 3) := dk_182 0 67 (dk_at dksX4_end_2 0 rfl rfl)
theorem dX4_end_49 : decode cX4_end 49 = .ok (.pop, 1) := dk_87 (dk_at dksX4_end_2 3 rfl rfl)
theorem dX4_end_50 : decode cX4_end 50 = .ok (.aload_n 0, 1) := dk_42 (dk_at dksX4_end_2 4 rfl rfl)
theorem dX4_end_51 : decode cX4_end 51 = .ok (.dup, 1) := dk_89 (dk_at dksX4_end_2 5 rfl rfl)
theorem dX4_end_52 : decode cX4_end 52 = .ok (.getfield 41, 3) := dk_180 0 41 (dk_at dksX4_end_2 6 rfl rfl)
theorem dX4_end_55 : decode cX4_end 55 = .ok (.iconst 1, 1) := dk_4 (dk_at dksX4_end_2 9 rfl rfl)
theorem dX4_end_56 : decode cX4_end 56 = .ok (.iadd, 1) := dk_96 (dk_at dksX4_end_2 10 rfl rfl)
theorem dX4_end_57 : decode cX4_end 57 = .ok (.putfield 41, 3) := dk_181 0 41 (dk_at dksX4_end_2 11 rfl rfl)
theorem dX4_end_60 : decode cX4_end 60 = .ok (.iinc 2 1, 3) := dk_132 2 1 (dk_at dksX4_end_2 14 rfl rfl)
theorem dX4_end_63 : decode cX4_end 63 = .ok (.goto (-61), 3) := dk_167 255 195 (dk_at dksX4_end_2 17 rfl rfl)
theorem dX4_end_66 : decode cX4_end 66 = .ok (.iload_n 2, 1) := dk_28 (dk_at dksX4_end_2 20 rfl rfl)
theorem dX4_end_67 : decode cX4_end 67 = .ok (.ireturn, 1) := dk_172 (dk_at dksX4_end_2 21 rfl rfl)
theorem dX5_init_0 : decode cX5_init 0 = .ok (.aload_n 0, 1) := by decide +kernel
theorem dX5_init_1 : decode cX5_init 1 = .ok (.invokespecial 1, 3) := by decide +kernel
theorem dX5_init_4 : decode cX5_init 4 = .ok (.return_, 1) := by decide +kernel
def dkwX5_compare_0 : List UInt8 := [42, 43, 192, 0, 8, 44, 192, 0, 8, 182, 0, 29, 172]
abbrev dktX5_compare_0 : List UInt8 := dkwX5_compare_0 ++ []
theorem dksX5_compare_0 : cX5_compare.data.toList.drop 0 = dktX5_compare_0 := by decide +kernel
theorem dX5_compare_0 : decode cX5_compare 0 = .ok (.aload_n 0, 1) := dk_42 (dk_at dksX5_compare_0 0 rfl rfl)
theorem dX5_compare_1 : decode cX5_compare 1 = .ok (.aload_n 1, 1) := dk_43 (dk_at dksX5_compare_0 1 rfl rfl)
theorem dX5_compare_2 : decode cX5_compare 2 = .ok (.checkcast 8, 3) := dk_192 0 8 (dk_at dksX5_compare_0 2 rfl rfl)
theorem dX5_compare_5 : decode cX5_compare 5 = .ok (.aload_n 2, 1) := dk_44 (dk_at dksX5_compare_0 5 rfl rfl)
theorem dX5_compare_6 : decode cX5_compare 6 = .ok (.checkcast 8, 3) := dk_192 0 8 (dk_at dksX5_compare_0 6 rfl rfl)
theorem dX5_compare_9 : decode cX5_compare 9 = .ok (.invokevirtual 29, 3) := dk_182 0 29 (dk_at dksX5_compare_0 9 rfl rfl)
theorem dX5_compare_12 : decode cX5_compare 12 = .ok (.ireturn, 1) := dk_172 (dk_at dksX5_compare_0 12 rfl rfl)
def dkwX5_compare_2_1 : List UInt8 := [44, 180, 0, 19, 182, 0, 23, 172]
abbrev dktX5_compare_2_1 : List UInt8 := dkwX5_compare_2_1 ++ []
def dkwX5_compare_2_0 : List UInt8 := [43, 180, 0, 7, 44, 180, 0, 7, 184, 0, 13, 62, 29, 153, 0, 7, 29, 167, 0, 14, 43, 180, 0, 19]
abbrev dktX5_compare_2_0 : List UInt8 := dkwX5_compare_2_0 ++ dktX5_compare_2_1
theorem dksX5_compare_2_0 : cX5_compare_2.data.toList.drop 0 = dktX5_compare_2_0 := by decide +kernel
theorem dksX5_compare_2_1 : cX5_compare_2.data.toList.drop 24 = dktX5_compare_2_1 := dk_seg dksX5_compare_2_0 24 rfl rfl
theorem dX5_compare_2_0 : decode cX5_compare_2 0 = .ok (.aload_n 1, 1) := dk_43 (dk_at dksX5_compare_2_0 0 rfl rfl)
theorem dX5_compare_2_1 : decode cX5_compare_2 1 = .ok (.getfield 7, 3) := dk_180 0 7 (dk_at dksX5_compare_2_0 1 rfl rfl)
theorem dX5_compare_2_4 : decode cX5_compare_2 4 = .ok (.aload_n 2, 1) := dk_44 (dk_at dksX5_compare_2_0 4 rfl rfl)
theorem dX5_compare_2_5 : decode cX5_compare_2 5 = .ok (.getfield 7, 3) := dk_180 0 7 (dk_at dksX5_compare_2_0 5 rfl rfl)
theorem dX5_compare_2_8 : decode cX5_compare_2 8 = .ok (.invokestatic 13, 3) := dk_184 0 13 (dk_at dksX5_compare_2_0 8 rfl rfl)
theorem dX5_compare_2_11 : decode cX5_compare_2 11 = .ok (.istore_n 3, 1) := dk_62 (dk_at dksX5_compare_2_0 11 rfl rfl)
theorem dX5_compare_2_12 : decode cX5_compare_2 12 = .ok (.iload_n 3, 1) := dk_29 (dk_at dksX5_compare_2_0 12 rfl rfl)
theorem dX5_compare_2_13 : decode cX5_compare_2 13 = .ok (.ifCond .eq 7, 3) := dk_153 0 7 (dk_at dksX5_compare_2_0 13 rfl rfl)
theorem dX5_compare_2_16 : decode cX5_compare_2 16 = .ok (.iload_n 3, 1) := dk_29 (dk_at dksX5_compare_2_0 16 rfl rfl)
theorem dX5_compare_2_17 : decode cX5_compare_2 17 = .ok (.goto 14, 3) := dk_167 0 14 (dk_at dksX5_compare_2_0 17 rfl rfl)
theorem dX5_compare_2_20 : decode cX5_compare_2 20 = .ok (.aload_n 1, 1) := dk_43 (dk_at dksX5_compare_2_0 20 rfl rfl)
theorem dX5_compare_2_21 : decode cX5_compare_2 21 = .ok (.getfield 19, 3) := dk_180 0 19 (dk_at dksX5_compare_2_0 21 rfl rfl)
theorem dX5_compare_2_24 : decode cX5_compare_2 24 = .ok (.aload_n 2, 1) := dk_44 (dk_at dksX5_compare_2_1 0 rfl rfl)
theorem dX5_compare_2_25 : decode cX5_compare_2 25 = .ok (.getfield 19, 3) := dk_180 0 19 (dk_at dksX5_compare_2_1 1 rfl rfl)
theorem dX5_compare_2_28 : decode cX5_compare_2 28 = .ok (.invokevirtual 23, 3) := dk_182 0 23 (dk_at dksX5_compare_2_1 4 rfl rfl)
theorem dX5_compare_2_31 : decode cX5_compare_2 31 = .ok (.ireturn, 1) := dk_172 (dk_at dksX5_compare_2_1 7 rfl rfl)
def dkwX7_init_0 : List UInt8 := [42, 183, 0, 1, 42, 27, 181, 0, 7, 42, 28, 181, 0, 13, 177]
abbrev dktX7_init_0 : List UInt8 := dkwX7_init_0 ++ []
theorem dksX7_init_0 : cX7_init.data.toList.drop 0 = dktX7_init_0 := by decide +kernel
theorem dX7_init_0 : decode cX7_init 0 = .ok (.aload_n 0, 1) := dk_42 (dk_at dksX7_init_0 0 rfl rfl)
theorem dX7_init_1 : decode cX7_init 1 = .ok (.invokespecial 1, 3) := dk_183 0 1 (dk_at dksX7_init_0 1 rfl rfl)
theorem dX7_init_4 : decode cX7_init 4 = .ok (.aload_n 0, 1) := dk_42 (dk_at dksX7_init_0 4 rfl rfl)
theorem dX7_init_5 : decode cX7_init 5 = .ok (.iload_n 1, 1) := dk_27 (dk_at dksX7_init_0 5 rfl rfl)
theorem dX7_init_6 : decode cX7_init 6 = .ok (.putfield 7, 3) := dk_181 0 7 (dk_at dksX7_init_0 6 rfl rfl)
theorem dX7_init_9 : decode cX7_init 9 = .ok (.aload_n 0, 1) := dk_42 (dk_at dksX7_init_0 9 rfl rfl)
theorem dX7_init_10 : decode cX7_init 10 = .ok (.iload_n 2, 1) := dk_28 (dk_at dksX7_init_0 10 rfl rfl)
theorem dX7_init_11 : decode cX7_init 11 = .ok (.putfield 13, 3) := dk_181 0 13 (dk_at dksX7_init_0 11 rfl rfl)
theorem dX7_init_14 : decode cX7_init 14 = .ok (.return_, 1) := dk_177 (dk_at dksX7_init_0 14 rfl rfl)
def dkwX7_compareTo_1 : List UInt8 := [42, 180, 0, 13, 43, 180, 0, 13, 184, 0, 17, 172]
abbrev dktX7_compareTo_1 : List UInt8 := dkwX7_compareTo_1 ++ []
def dkwX7_compareTo_0 : List UInt8 := [42, 180, 0, 7, 43, 180, 0, 7, 159, 0, 16, 42, 180, 0, 7, 153, 0, 7, 2, 167, 0, 4, 4, 172]
abbrev dktX7_compareTo_0 : List UInt8 := dkwX7_compareTo_0 ++ dktX7_compareTo_1
theorem dksX7_compareTo_0 : cX7_compareTo.data.toList.drop 0 = dktX7_compareTo_0 := by decide +kernel
theorem dksX7_compareTo_1 : cX7_compareTo.data.toList.drop 24 = dktX7_compareTo_1 := dk_seg dksX7_compareTo_0 24 rfl rfl
theorem dX7_compareTo_0 : decode cX7_compareTo 0 = .ok (.aload_n 0, 1) := dk_42 (dk_at dksX7_compareTo_0 0 rfl rfl)
theorem dX7_compareTo_1 : decode cX7_compareTo 1 = .ok (.getfield 7, 3) := dk_180 0 7 (dk_at dksX7_compareTo_0 1 rfl rfl)
theorem dX7_compareTo_4 : decode cX7_compareTo 4 = .ok (.aload_n 1, 1) := dk_43 (dk_at dksX7_compareTo_0 4 rfl rfl)
theorem dX7_compareTo_5 : decode cX7_compareTo 5 = .ok (.getfield 7, 3) := dk_180 0 7 (dk_at dksX7_compareTo_0 5 rfl rfl)
theorem dX7_compareTo_8 : decode cX7_compareTo 8 = .ok (.if_icmp .eq 16, 3) := dk_159 0 16 (dk_at dksX7_compareTo_0 8 rfl rfl)
theorem dX7_compareTo_11 : decode cX7_compareTo 11 = .ok (.aload_n 0, 1) := dk_42 (dk_at dksX7_compareTo_0 11 rfl rfl)
theorem dX7_compareTo_12 : decode cX7_compareTo 12 = .ok (.getfield 7, 3) := dk_180 0 7 (dk_at dksX7_compareTo_0 12 rfl rfl)
theorem dX7_compareTo_15 : decode cX7_compareTo 15 = .ok (.ifCond .eq 7, 3) := dk_153 0 7 (dk_at dksX7_compareTo_0 15 rfl rfl)
theorem dX7_compareTo_18 : decode cX7_compareTo 18 = .ok (.iconst (-1), 1) := dk_2 (dk_at dksX7_compareTo_0 18 rfl rfl)
theorem dX7_compareTo_19 : decode cX7_compareTo 19 = .ok (.goto 4, 3) := dk_167 0 4 (dk_at dksX7_compareTo_0 19 rfl rfl)
theorem dX7_compareTo_22 : decode cX7_compareTo 22 = .ok (.iconst 1, 1) := dk_4 (dk_at dksX7_compareTo_0 22 rfl rfl)
theorem dX7_compareTo_23 : decode cX7_compareTo 23 = .ok (.ireturn, 1) := dk_172 (dk_at dksX7_compareTo_0 23 rfl rfl)
theorem dX7_compareTo_24 : decode cX7_compareTo 24 = .ok (.aload_n 0, 1) := dk_42 (dk_at dksX7_compareTo_1 0 rfl rfl)
theorem dX7_compareTo_25 : decode cX7_compareTo 25 = .ok (.getfield 13, 3) := dk_180 0 13 (dk_at dksX7_compareTo_1 1 rfl rfl)
theorem dX7_compareTo_28 : decode cX7_compareTo 28 = .ok (.aload_n 1, 1) := dk_43 (dk_at dksX7_compareTo_1 4 rfl rfl)
theorem dX7_compareTo_29 : decode cX7_compareTo 29 = .ok (.getfield 13, 3) := dk_180 0 13 (dk_at dksX7_compareTo_1 5 rfl rfl)
theorem dX7_compareTo_32 : decode cX7_compareTo 32 = .ok (.invokestatic 17, 3) := dk_184 0 17 (dk_at dksX7_compareTo_1 8 rfl rfl)
theorem dX7_compareTo_35 : decode cX7_compareTo 35 = .ok (.ireturn, 1) := dk_172 (dk_at dksX7_compareTo_1 11 rfl rfl)
def dkwX7_compareTo_2_0 : List UInt8 := [42, 43, 192, 0, 8, 182, 0, 23, 172]
abbrev dktX7_compareTo_2_0 : List UInt8 := dkwX7_compareTo_2_0 ++ []
theorem dksX7_compareTo_2_0 : cX7_compareTo_2.data.toList.drop 0 = dktX7_compareTo_2_0 := by decide +kernel
theorem dX7_compareTo_2_0 : decode cX7_compareTo_2 0 = .ok (.aload_n 0, 1) := dk_42 (dk_at dksX7_compareTo_2_0 0 rfl rfl)
theorem dX7_compareTo_2_1 : decode cX7_compareTo_2 1 = .ok (.aload_n 1, 1) := dk_43 (dk_at dksX7_compareTo_2_0 1 rfl rfl)
theorem dX7_compareTo_2_2 : decode cX7_compareTo_2 2 = .ok (.checkcast 8, 3) := dk_192 0 8 (dk_at dksX7_compareTo_2_0 2 rfl rfl)
theorem dX7_compareTo_2_5 : decode cX7_compareTo_2 5 = .ok (.invokevirtual 23, 3) := dk_182 0 23 (dk_at dksX7_compareTo_2_0 5 rfl rfl)
theorem dX7_compareTo_2_8 : decode cX7_compareTo_2 8 = .ok (.ireturn, 1) := dk_172 (dk_at dksX7_compareTo_2_0 8 rfl rfl)
def dkwX8_init_1 : List UInt8 := [181, 0, 20, 177]
abbrev dktX8_init_1 : List UInt8 := dkwX8_init_1 ++ []
def dkwX8_init_0 : List UInt8 := [42, 183, 0, 1, 42, 43, 181, 0, 7, 42, 28, 181, 0, 13, 42, 29, 181, 0, 17, 42, 21, 4]
abbrev dktX8_init_0 : List UInt8 := dkwX8_init_0 ++ dktX8_init_1
theorem dksX8_init_0 : cX8_init.data.toList.drop 0 = dktX8_init_0 := by decide +kernel
theorem dksX8_init_1 : cX8_init.data.toList.drop 22 = dktX8_init_1 := dk_seg dksX8_init_0 22 rfl rfl
theorem dX8_init_0 : decode cX8_init 0 = .ok (.aload_n 0, 1) := dk_42 (dk_at dksX8_init_0 0 rfl rfl)
theorem dX8_init_1 : decode cX8_init 1 = .ok (.invokespecial 1, 3) := dk_183 0 1 (dk_at dksX8_init_0 1 rfl rfl)
theorem dX8_init_4 : decode cX8_init 4 = .ok (.aload_n 0, 1) := dk_42 (dk_at dksX8_init_0 4 rfl rfl)
theorem dX8_init_5 : decode cX8_init 5 = .ok (.aload_n 1, 1) := dk_43 (dk_at dksX8_init_0 5 rfl rfl)
theorem dX8_init_6 : decode cX8_init 6 = .ok (.putfield 7, 3) := dk_181 0 7 (dk_at dksX8_init_0 6 rfl rfl)
theorem dX8_init_9 : decode cX8_init 9 = .ok (.aload_n 0, 1) := dk_42 (dk_at dksX8_init_0 9 rfl rfl)
theorem dX8_init_10 : decode cX8_init 10 = .ok (.iload_n 2, 1) := dk_28 (dk_at dksX8_init_0 10 rfl rfl)
theorem dX8_init_11 : decode cX8_init 11 = .ok (.putfield 13, 3) := dk_181 0 13 (dk_at dksX8_init_0 11 rfl rfl)
theorem dX8_init_14 : decode cX8_init 14 = .ok (.aload_n 0, 1) := dk_42 (dk_at dksX8_init_0 14 rfl rfl)
theorem dX8_init_15 : decode cX8_init 15 = .ok (.iload_n 3, 1) := dk_29 (dk_at dksX8_init_0 15 rfl rfl)
theorem dX8_init_16 : decode cX8_init 16 = .ok (.putfield 17, 3) := dk_181 0 17 (dk_at dksX8_init_0 16 rfl rfl)
theorem dX8_init_19 : decode cX8_init 19 = .ok (.aload_n 0, 1) := dk_42 (dk_at dksX8_init_0 19 rfl rfl)
theorem dX8_init_20 : decode cX8_init 20 = .ok (.iload 4, 2) := dk_21 4 (dk_at dksX8_init_0 20 rfl rfl)
theorem dX8_init_22 : decode cX8_init 22 = .ok (.putfield 20, 3) := dk_181 0 20 (dk_at dksX8_init_1 0 rfl rfl)
theorem dX8_init_25 : decode cX8_init 25 = .ok (.return_, 1) := dk_177 (dk_at dksX8_init_1 3 rfl rfl)
def dkwX9_init_0 : List UInt8 := [42, 183, 0, 3, 42, 187, 0, 9, 89, 183, 0, 11, 181, 0, 12, 42, 43, 181, 0, 18, 177]
abbrev dktX9_init_0 : List UInt8 := dkwX9_init_0 ++ []
theorem dksX9_init_0 : cX9_init.data.toList.drop 0 = dktX9_init_0 := by decide +kernel
theorem dX9_init_0 : decode cX9_init 0 = .ok (.aload_n 0, 1) := dk_42 (dk_at dksX9_init_0 0 rfl rfl)
theorem dX9_init_1 : decode cX9_init 1 = .ok (.invokespecial 3, 3) := dk_183 0 3 (dk_at dksX9_init_0 1 rfl rfl)
theorem dX9_init_4 : decode cX9_init 4 = .ok (.aload_n 0, 1) := dk_42 (dk_at dksX9_init_0 4 rfl rfl)
theorem dX9_init_5 : decode cX9_init 5 = .ok (.new 9, 3) := dk_187 0 9 (dk_at dksX9_init_0 5 rfl rfl)
theorem dX9_init_8 : decode cX9_init 8 = .ok (.dup, 1) := dk_89 (dk_at dksX9_init_0 8 rfl rfl)
theorem dX9_init_9 : decode cX9_init 9 = .ok (.invokespecial 11, 3) := dk_183 0 11 (dk_at dksX9_init_0 9 rfl rfl)
theorem dX9_init_12 : decode cX9_init 12 = .ok (.putfield 12, 3) := dk_181 0 12 (dk_at dksX9_init_0 12 rfl rfl)
theorem dX9_init_15 : decode cX9_init 15 = .ok (.aload_n 0, 1) := dk_42 (dk_at dksX9_init_0 15 rfl rfl)
theorem dX9_init_16 : decode cX9_init 16 = .ok (.aload_n 1, 1) := dk_43 (dk_at dksX9_init_0 16 rfl rfl)
theorem dX9_init_17 : decode cX9_init 17 = .ok (.putfield 18, 3) := dk_181 0 18 (dk_at dksX9_init_0 17 rfl rfl)
theorem dX9_init_20 : decode cX9_init 20 = .ok (.return_, 1) := dk_177 (dk_at dksX9_init_0 20 rfl rfl)
def dkwX9_read_3 : List UInt8 := [167, 255, 198, 42, 180, 0, 36, 153, 0, 10, 42, 180, 0, 22, 167, 0, 4, 2, 172]
abbrev dktX9_read_3 : List UInt8 := dkwX9_read_3 ++ []
def dkwX9_read_2 : List UInt8 := [182, 0, 48, 42, 180, 0, 36, 154, 255, 213, 42, 180, 0, 12, 42, 182, 0, 61, 182, 0, 65, 87]
abbrev dktX9_read_2 : List UInt8 := dkwX9_read_2 ++ dktX9_read_3
def dkwX9_read_1 : List UInt8 := [180, 0, 18, 182, 0, 26, 162, 0, 43, 42, 42, 182, 0, 40, 16, 44, 160, 0, 7, 4, 167, 0, 4, 3]
abbrev dktX9_read_1 : List UInt8 := dkwX9_read_1 ++ dktX9_read_2
def dkwX9_read_0 : List UInt8 := [42, 180, 0, 12, 42, 182, 0, 61, 182, 0, 65, 87, 42, 180, 0, 36, 154, 0, 57, 42, 180, 0, 22, 42]
abbrev dktX9_read_0 : List UInt8 := dkwX9_read_0 ++ dktX9_read_1
theorem dksX9_read_0 : cX9_read.data.toList.drop 0 = dktX9_read_0 := by decide +kernel
theorem dksX9_read_1 : cX9_read.data.toList.drop 24 = dktX9_read_1 := dk_seg dksX9_read_0 24 rfl rfl
theorem dksX9_read_2 : cX9_read.data.toList.drop 48 = dktX9_read_2 := dk_seg dksX9_read_1 24 rfl rfl
theorem dksX9_read_3 : cX9_read.data.toList.drop 70 = dktX9_read_3 := dk_seg dksX9_read_2 22 rfl rfl
theorem dX9_read_0 : decode cX9_read 0 = .ok (.aload_n 0, 1) := dk_42 (dk_at dksX9_read_0 0 rfl rfl)
theorem dX9_read_1 : decode cX9_read 1 = .ok (.getfield 12, 3) := dk_180 0 12 (dk_at dksX9_read_0 1 rfl rfl)
theorem dX9_read_4 : decode cX9_read 4 = .ok (.aload_n 0, 1) := dk_42 (dk_at dksX9_read_0 4 rfl rfl)
theorem dX9_read_5 : decode cX9_read 5 = .ok (.invokevirtual 61, 3) := dk_182 0 61 (dk_at dksX9_read_0 5 rfl rfl)
theorem dX9_read_8 : decode cX9_read 8 = .ok (.invokevirtual 65, 3) := dk_182 0 65 (dk_at dksX9_read_0 8 rfl rfl)
theorem dX9_read_11 : decode cX9_read 11 = .ok (.pop, 1) := dk_87 (dk_at dksX9_read_0 11 rfl rfl)
theorem dX9_read_12 : decode cX9_read 12 = .ok (.aload_n 0, 1) := dk_42 (dk_at dksX9_read_0 12 rfl rfl)
theorem dX9_read_13 : decode cX9_read 13 = .ok (.getfield 36, 3) := dk_180 0 36 (dk_at dksX9_read_0 13 rfl rfl)
theorem dX9_read_16 : decode cX9_read 16 = .ok (.ifCond .ne 57, 3) := dk_154 0 57 (dk_at dksX9_read_0 16 rfl rfl)
theorem dX9_read_19 : decode cX9_read 19 = .ok (.aload_n 0, 1) := dk_42 (dk_at dksX9_read_0 19 rfl rfl)
theorem dX9_read_20 : decode cX9_read 20 = .ok (.getfield 22, 3) := dk_180 0 22 (dk_at dksX9_read_0 20 rfl rfl)
theorem dX9_read_23 : decode cX9_read 23 = .ok (.aload_n 0, 1) := dk_42 (dk_at dksX9_read_0 23 rfl rfl)
theorem dX9_read_24 : decode cX9_read 24 = .ok (.getfield 18, 3) := dk_180 0 18 (dk_at dksX9_read_1 0 rfl rfl)
theorem dX9_read_27 : decode cX9_read 27 = .ok (.invokevirtual 26, 3) := dk_182 0 26 (dk_at dksX9_read_1 3 rfl rfl)
theorem dX9_read_30 : decode cX9_read 30 = .ok (.if_icmp .ge 43, 3) := dk_162 0 43 (dk_at dksX9_read_1 6 rfl rfl)
theorem dX9_read_33 : decode cX9_read 33 = .ok (.aload_n 0, 1) := dk_42 (dk_at dksX9_read_1 9 rfl rfl)
theorem dX9_read_34 : decode cX9_read 34 = .ok (.aload_n 0, 1) := dk_42 (dk_at dksX9_read_1 10 rfl rfl)
theorem dX9_read_35 : decode cX9_read 35 = .ok (.invokevirtual 40, 3) := dk_182 0 40 (dk_at dksX9_read_1 11 rfl rfl)
theorem dX9_read_38 : decode cX9_read 38 = .ok (.bipush 44, 2) := dk_16 44 (dk_at dksX9_read_1 14 rfl rfl)
theorem dX9_read_40 : decode cX9_read 40 = .ok (.if_icmp .ne 7, 3) := dk_160 0 7 (dk_at dksX9_read_1 16 rfl rfl)
theorem dX9_read_43 : decode cX9_read 43 = .ok (.iconst 1, 1) := dk_4 (dk_at dksX9_read_1 19 rfl rfl)
theorem dX9_read_44 : decode cX9_read 44 = .ok (.goto 4, 3) := dk_167 0 4 (dk_at dksX9_read_1 20 rfl rfl)
theorem dX9_read_47 : decode cX9_read 47 = .ok (.iconst 0, 1) := dk_3 (dk_at dksX9_read_1 23 rfl rfl)
theorem dX9_read_48 : decode cX9_read 48 = .ok (.invokevirtual 48, 3) := dk_182 0 48 (dk_at dksX9_read_2 0 rfl rfl)
theorem dX9_read_51 : decode cX9_read 51 = .ok (.aload_n 0, 1) := dk_42 (dk_at dksX9_read_2 3 rfl rfl)
theorem dX9_read_52 : decode cX9_read 52 = .ok (.getfield 36, 3) := dk_180 0 36 (dk_at dksX9_read_2 4 rfl rfl)
theorem dX9_read_55 : decode cX9_read 55 = .ok (.ifCond .ne (-43), 3) := dk_154 255 213 (dk_at dksX9_read_2 7 rfl rfl)
theorem dX9_read_58 : decode cX9_read 58 = .ok (.aload_n 0, 1) := dk_42 (dk_at dksX9_read_2 10 rfl rfl)
theorem dX9_read_59 : decode cX9_read 59 = .ok (.getfield 12, 3) := dk_180 0 12 (dk_at dksX9_read_2 11 rfl rfl)
theorem dX9_read_62 : decode cX9_read 62 = .ok (.aload_n 0, 1) := dk_42 (dk_at dksX9_read_2 14 rfl rfl)
theorem dX9_read_63 : decode cX9_read 63 = .ok (.invokevirtual 61, 3) := dk_182 0 61 (dk_at dksX9_read_2 15 rfl rfl)
theorem dX9_read_66 : decode cX9_read 66 = .ok (.invokevirtual 65, 3) := dk_182 0 65 (dk_at dksX9_read_2 18 rfl rfl)
theorem dX9_read_69 : decode cX9_read 69 = .ok (.pop, 1) := dk_87 (dk_at dksX9_read_2 21 rfl rfl)
theorem dX9_read_70 : decode cX9_read 70 = .ok (.goto (-58), 3) := dk_167 255 198 (dk_at dksX9_read_3 0 rfl rfl)
theorem dX9_read_73 : decode cX9_read 73 = .ok (.aload_n 0, 1) := dk_42 (dk_at dksX9_read_3 3 rfl rfl)
theorem dX9_read_74 : decode cX9_read 74 = .ok (.getfield 36, 3) := dk_180 0 36 (dk_at dksX9_read_3 4 rfl rfl)
theorem dX9_read_77 : decode cX9_read 77 = .ok (.ifCond .eq 10, 3) := dk_153 0 10 (dk_at dksX9_read_3 7 rfl rfl)
theorem dX9_read_80 : decode cX9_read 80 = .ok (.aload_n 0, 1) := dk_42 (dk_at dksX9_read_3 10 rfl rfl)
theorem dX9_read_81 : decode cX9_read 81 = .ok (.getfield 22, 3) := dk_180 0 22 (dk_at dksX9_read_3 11 rfl rfl)
theorem dX9_read_84 : decode cX9_read 84 = .ok (.goto 4, 3) := dk_167 0 4 (dk_at dksX9_read_3 14 rfl rfl)
theorem dX9_read_87 : decode cX9_read 87 = .ok (.iconst (-1), 1) := dk_2 (dk_at dksX9_read_3 17 rfl rfl)
theorem dX9_read_88 : decode cX9_read 88 = .ok (.ireturn, 1) := dk_172 (dk_at dksX9_read_3 18 rfl rfl)
def dkwX9_act_2 : List UInt8 := [42, 3, 16, 35, 182, 0, 54, 183, 0, 58, 176]
abbrev dktX9_act_2 : List UInt8 := dkwX9_act_2 ++ []
def dkwX9_act_1 : List UInt8 := [182, 0, 48, 187, 0, 52, 89, 27, 27, 16, 43, 160, 0, 13, 42, 4, 16, 99, 182, 0, 54, 167, 0, 10]
abbrev dktX9_act_1 : List UInt8 := dkwX9_act_1 ++ dktX9_act_2
def dkwX9_act_0 : List UInt8 := [42, 182, 0, 40, 60, 42, 27, 16, 63, 159, 0, 9, 27, 16, 43, 160, 0, 7, 4, 167, 0, 4, 3]
abbrev dktX9_act_0 : List UInt8 := dkwX9_act_0 ++ dktX9_act_1
theorem dksX9_act_0 : cX9_act.data.toList.drop 0 = dktX9_act_0 := by decide +kernel
theorem dksX9_act_1 : cX9_act.data.toList.drop 23 = dktX9_act_1 := dk_seg dksX9_act_0 23 rfl rfl
theorem dksX9_act_2 : cX9_act.data.toList.drop 47 = dktX9_act_2 := dk_seg dksX9_act_1 24 rfl rfl
theorem dX9_act_0 : decode cX9_act 0 = .ok (.aload_n 0, 1) := dk_42 (dk_at dksX9_act_0 0 rfl rfl)
theorem dX9_act_1 : decode cX9_act 1 = .ok (.invokevirtual 40, 3) := dk_182 0 40 (dk_at dksX9_act_0 1 rfl rfl)
theorem dX9_act_4 : decode cX9_act 4 = .ok (.istore_n 1, 1) := dk_60 (dk_at dksX9_act_0 4 rfl rfl)
theorem dX9_act_5 : decode cX9_act 5 = .ok (.aload_n 0, 1) := dk_42 (dk_at dksX9_act_0 5 rfl rfl)
theorem dX9_act_6 : decode cX9_act 6 = .ok (.iload_n 1, 1) := dk_27 (dk_at dksX9_act_0 6 rfl rfl)
theorem dX9_act_7 : decode cX9_act 7 = .ok (.bipush 63, 2) := dk_16 63 (dk_at dksX9_act_0 7 rfl rfl)
theorem dX9_act_9 : decode cX9_act 9 = .ok (.if_icmp .eq 9, 3) := dk_159 0 9 (dk_at dksX9_act_0 9 rfl rfl)
theorem dX9_act_12 : decode cX9_act 12 = .ok (.iload_n 1, 1) := dk_27 (dk_at dksX9_act_0 12 rfl rfl)
theorem dX9_act_13 : decode cX9_act 13 = .ok (.bipush 43, 2) := dk_16 43 (dk_at dksX9_act_0 13 rfl rfl)
theorem dX9_act_15 : decode cX9_act 15 = .ok (.if_icmp .ne 7, 3) := dk_160 0 7 (dk_at dksX9_act_0 15 rfl rfl)
theorem dX9_act_18 : decode cX9_act 18 = .ok (.iconst 1, 1) := dk_4 (dk_at dksX9_act_0 18 rfl rfl)
theorem dX9_act_19 : decode cX9_act 19 = .ok (.goto 4, 3) := dk_167 0 4 (dk_at dksX9_act_0 19 rfl rfl)
theorem dX9_act_22 : decode cX9_act 22 = .ok (.iconst 0, 1) := dk_3 (dk_at dksX9_act_0 22 rfl rfl)
theorem dX9_act_23 : decode cX9_act 23 = .ok (.invokevirtual 48, 3) := dk_182 0 48 (dk_at dksX9_act_1 0 rfl rfl)
theorem dX9_act_26 : decode cX9_act 26 = .ok (.new 52, 3) := dk_187 0 52 (dk_at dksX9_act_1 3 rfl rfl)
theorem dX9_act_29 : decode cX9_act 29 = .ok (.dup, 1) := dk_89 (dk_at dksX9_act_1 6 rfl rfl)
theorem dX9_act_30 : decode cX9_act 30 = .ok (.iload_n 1, 1) := dk_27 (dk_at dksX9_act_1 7 rfl rfl)
theorem dX9_act_31 : decode cX9_act 31 = .ok (.iload_n 1, 1) := dk_27 (dk_at dksX9_act_1 8 rfl rfl)
theorem dX9_act_32 : decode cX9_act 32 = .ok (.bipush 43, 2) := dk_16 43 (dk_at dksX9_act_1 9 rfl rfl)
theorem dX9_act_34 : decode cX9_act 34 = .ok (.if_icmp .ne 13, 3) := dk_160 0 13 (dk_at dksX9_act_1 11 rfl rfl)
theorem dX9_act_37 : decode cX9_act 37 = .ok (.aload_n 0, 1) := dk_42 (dk_at dksX9_act_1 14 rfl rfl)
theorem dX9_act_38 : decode cX9_act 38 = .ok (.iconst 1, 1) := dk_4 (dk_at dksX9_act_1 15 rfl rfl)
theorem dX9_act_39 : decode cX9_act 39 = .ok (.bipush 99, 2) := dk_16 99 (dk_at dksX9_act_1 16 rfl rfl)
theorem dX9_act_41 : decode cX9_act 41 = .ok (.invokevirtual 54, 3) := dk_182 0 54 (dk_at dksX9_act_1 18 rfl rfl)
theorem dX9_act_44 : decode cX9_act 44 = .ok (.goto 10, 3) := dk_167 0 10 (dk_at dksX9_act_1 21 rfl rfl)
theorem dX9_act_47 : decode cX9_act 47 = .ok (.aload_n 0, 1) := dk_42 (dk_at dksX9_act_2 0 rfl rfl)
theorem dX9_act_48 : decode cX9_act 48 = .ok (.iconst 0, 1) := dk_3 (dk_at dksX9_act_2 1 rfl rfl)
theorem dX9_act_49 : decode cX9_act 49 = .ok (.bipush 35, 2) := dk_16 35 (dk_at dksX9_act_2 2 rfl rfl)
theorem dX9_act_51 : decode cX9_act 51 = .ok (.invokevirtual 54, 3) := dk_182 0 54 (dk_at dksX9_act_2 4 rfl rfl)
theorem dX9_act_54 : decode cX9_act 54 = .ok (.invokespecial 58, 3) := dk_183 0 58 (dk_at dksX9_act_2 7 rfl rfl)
theorem dX9_act_57 : decode cX9_act 57 = .ok (.areturn, 1) := dk_176 (dk_at dksX9_act_2 10 rfl rfl)
def dkwX9_here_1 : List UInt8 := [182, 0, 32, 167, 0, 5, 16, 32, 172]
abbrev dktX9_here_1 : List UInt8 := dkwX9_here_1 ++ []
def dkwX9_here_0 : List UInt8 := [42, 180, 0, 22, 42, 180, 0, 18, 182, 0, 26, 162, 0, 17, 42, 180, 0, 18, 42, 180, 0, 22]
abbrev dktX9_here_0 : List UInt8 := dkwX9_here_0 ++ dktX9_here_1
theorem dksX9_here_0 : cX9_here.data.toList.drop 0 = dktX9_here_0 := by decide +kernel
theorem dksX9_here_1 : cX9_here.data.toList.drop 22 = dktX9_here_1 := dk_seg dksX9_here_0 22 rfl rfl
theorem dX9_here_0 : decode cX9_here 0 = .ok (.aload_n 0, 1) := dk_42 (dk_at dksX9_here_0 0 rfl rfl)
theorem dX9_here_1 : decode cX9_here 1 = .ok (.getfield 22, 3) := dk_180 0 22 (dk_at dksX9_here_0 1 rfl rfl)
theorem dX9_here_4 : decode cX9_here 4 = .ok (.aload_n 0, 1) := dk_42 (dk_at dksX9_here_0 4 rfl rfl)
theorem dX9_here_5 : decode cX9_here 5 = .ok (.getfield 18, 3) := dk_180 0 18 (dk_at dksX9_here_0 5 rfl rfl)
theorem dX9_here_8 : decode cX9_here 8 = .ok (.invokevirtual 26, 3) := dk_182 0 26 (dk_at dksX9_here_0 8 rfl rfl)
theorem dX9_here_11 : decode cX9_here 11 = .ok (.if_icmp .ge 17, 3) := dk_162 0 17 (dk_at dksX9_here_0 11 rfl rfl)
theorem dX9_here_14 : decode cX9_here 14 = .ok (.aload_n 0, 1) := dk_42 (dk_at dksX9_here_0 14 rfl rfl)
theorem dX9_here_15 : decode cX9_here 15 = .ok (.getfield 18, 3) := dk_180 0 18 (dk_at dksX9_here_0 15 rfl rfl)
theorem dX9_here_18 : decode cX9_here 18 = .ok (.aload_n 0, 1) := dk_42 (dk_at dksX9_here_0 18 rfl rfl)
theorem dX9_here_19 : decode cX9_here 19 = .ok (.getfield 22, 3) := dk_180 0 22 (dk_at dksX9_here_0 19 rfl rfl)
theorem dX9_here_22 : decode cX9_here 22 = .ok (.invokevirtual 32, 3) := dk_182 0 32 (dk_at dksX9_here_1 0 rfl rfl)
theorem dX9_here_25 : decode cX9_here 25 = .ok (.goto 5, 3) := dk_167 0 5 (dk_at dksX9_here_1 3 rfl rfl)
theorem dX9_here_28 : decode cX9_here 28 = .ok (.bipush 32, 2) := dk_16 32 (dk_at dksX9_here_1 6 rfl rfl)
theorem dX9_here_30 : decode cX9_here 30 = .ok (.ireturn, 1) := dk_172 (dk_at dksX9_here_1 8 rfl rfl)
def dkwX9_step_1 : List UInt8 := [180, 0, 22, 42, 180, 0, 36, 153, 0, 7, 3, 167, 0, 4, 4, 96, 181, 0, 22, 177]
abbrev dktX9_step_1 : List UInt8 := dkwX9_step_1 ++ []
def dkwX9_step_0 : List UInt8 := [42, 42, 180, 0, 36, 154, 0, 7, 27, 154, 0, 7, 4, 167, 0, 4, 3, 181, 0, 36, 42, 89]
abbrev dktX9_step_0 : List UInt8 := dkwX9_step_0 ++ dktX9_step_1
theorem dksX9_step_0 : cX9_step.data.toList.drop 0 = dktX9_step_0 := by decide +kernel
theorem dksX9_step_1 : cX9_step.data.toList.drop 22 = dktX9_step_1 := dk_seg dksX9_step_0 22 rfl rfl
theorem dX9_step_0 : decode cX9_step 0 = .ok (.aload_n 0, 1) := dk_42 (dk_at dksX9_step_0 0 rfl rfl)
theorem dX9_step_1 : decode cX9_step 1 = .ok (.aload_n 0, 1) := dk_42 (dk_at dksX9_step_0 1 rfl rfl)
theorem dX9_step_2 : decode cX9_step 2 = .ok (.getfield 36, 3) := dk_180 0 36 (dk_at dksX9_step_0 2 rfl rfl)
theorem dX9_step_5 : decode cX9_step 5 = .ok (.ifCond .ne 7, 3) := dk_154 0 7 (dk_at dksX9_step_0 5 rfl rfl)
theorem dX9_step_8 : decode cX9_step 8 = .ok (.iload_n 1, 1) := dk_27 (dk_at dksX9_step_0 8 rfl rfl)
theorem dX9_step_9 : decode cX9_step 9 = .ok (.ifCond .ne 7, 3) := dk_154 0 7 (dk_at dksX9_step_0 9 rfl rfl)
theorem dX9_step_12 : decode cX9_step 12 = .ok (.iconst 1, 1) := dk_4 (dk_at dksX9_step_0 12 rfl rfl)
theorem dX9_step_13 : decode cX9_step 13 = .ok (.goto 4, 3) := dk_167 0 4 (dk_at dksX9_step_0 13 rfl rfl)
theorem dX9_step_16 : decode cX9_step 16 = .ok (.iconst 0, 1) := dk_3 (dk_at dksX9_step_0 16 rfl rfl)
theorem dX9_step_17 : decode cX9_step 17 = .ok (.putfield 36, 3) := dk_181 0 36 (dk_at dksX9_step_0 17 rfl rfl)
theorem dX9_step_20 : decode cX9_step 20 = .ok (.aload_n 0, 1) := dk_42 (dk_at dksX9_step_0 20 rfl rfl)
theorem dX9_step_21 : decode cX9_step 21 = .ok (.dup, 1) := dk_89 (dk_at dksX9_step_0 21 rfl rfl)
theorem dX9_step_22 : decode cX9_step 22 = .ok (.getfield 22, 3) := dk_180 0 22 (dk_at dksX9_step_1 0 rfl rfl)
theorem dX9_step_25 : decode cX9_step 25 = .ok (.aload_n 0, 1) := dk_42 (dk_at dksX9_step_1 3 rfl rfl)
theorem dX9_step_26 : decode cX9_step 26 = .ok (.getfield 36, 3) := dk_180 0 36 (dk_at dksX9_step_1 4 rfl rfl)
theorem dX9_step_29 : decode cX9_step 29 = .ok (.ifCond .eq 7, 3) := dk_153 0 7 (dk_at dksX9_step_1 7 rfl rfl)
theorem dX9_step_32 : decode cX9_step 32 = .ok (.iconst 0, 1) := dk_3 (dk_at dksX9_step_1 10 rfl rfl)
theorem dX9_step_33 : decode cX9_step 33 = .ok (.goto 4, 3) := dk_167 0 4 (dk_at dksX9_step_1 11 rfl rfl)
theorem dX9_step_36 : decode cX9_step 36 = .ok (.iconst 1, 1) := dk_4 (dk_at dksX9_step_1 14 rfl rfl)
theorem dX9_step_37 : decode cX9_step 37 = .ok (.iadd, 1) := dk_96 (dk_at dksX9_step_1 15 rfl rfl)
theorem dX9_step_38 : decode cX9_step 38 = .ok (.putfield 22, 3) := dk_181 0 22 (dk_at dksX9_step_1 16 rfl rfl)
theorem dX9_step_41 : decode cX9_step 41 = .ok (.return_, 1) := dk_177 (dk_at dksX9_step_1 19 rfl rfl)
def dkwX9_number_3 : List UInt8 := [167, 255, 204, 29, 172]
abbrev dktX9_number_3 : List UInt8 := dkwX9_number_3 ++ []
def dkwX9_number_2 : List UInt8 := [104, 42, 182, 0, 40, 96, 16, 48, 100, 62, 42, 29, 28, 163, 0, 7, 4, 167, 0, 4, 3, 182, 0, 48]
abbrev dktX9_number_2 : List UInt8 := dkwX9_number_2 ++ dktX9_number_3
def dkwX9_number_1 : List UInt8 := [154, 0, 51, 29, 158, 0, 47, 42, 182, 0, 40, 16, 48, 16, 57, 184, 0, 44, 153, 0, 33, 16, 10, 29]
abbrev dktX9_number_1 : List UInt8 := dkwX9_number_1 ++ dktX9_number_2
def dkwX9_number_0 : List UInt8 := [42, 182, 0, 40, 16, 48, 100, 62, 42, 29, 27, 16, 9, 184, 0, 44, 182, 0, 48, 42, 180, 0, 36]
abbrev dktX9_number_0 : List UInt8 := dkwX9_number_0 ++ dktX9_number_1
theorem dksX9_number_0 : cX9_number.data.toList.drop 0 = dktX9_number_0 := by decide +kernel
theorem dksX9_number_1 : cX9_number.data.toList.drop 23 = dktX9_number_1 := dk_seg dksX9_number_0 23 rfl rfl
theorem dksX9_number_2 : cX9_number.data.toList.drop 47 = dktX9_number_2 := dk_seg dksX9_number_1 24 rfl rfl
theorem dksX9_number_3 : cX9_number.data.toList.drop 71 = dktX9_number_3 := dk_seg dksX9_number_2 24 rfl rfl
theorem dX9_number_0 : decode cX9_number 0 = .ok (.aload_n 0, 1) := dk_42 (dk_at dksX9_number_0 0 rfl rfl)
theorem dX9_number_1 : decode cX9_number 1 = .ok (.invokevirtual 40, 3) := dk_182 0 40 (dk_at dksX9_number_0 1 rfl rfl)
theorem dX9_number_4 : decode cX9_number 4 = .ok (.bipush 48, 2) := dk_16 48 (dk_at dksX9_number_0 4 rfl rfl)
theorem dX9_number_6 : decode cX9_number 6 = .ok (.isub, 1) := dk_100 (dk_at dksX9_number_0 6 rfl rfl)
theorem dX9_number_7 : decode cX9_number 7 = .ok (.istore_n 3, 1) := dk_62 (dk_at dksX9_number_0 7 rfl rfl)
theorem dX9_number_8 : decode cX9_number 8 = .ok (.aload_n 0, 1) := dk_42 (dk_at dksX9_number_0 8 rfl rfl)
theorem dX9_number_9 : decode cX9_number 9 = .ok (.iload_n 3, 1) := dk_29 (dk_at dksX9_number_0 9 rfl rfl)
theorem dX9_number_10 : decode cX9_number 10 = .ok (.iload_n 1, 1) := dk_27 (dk_at dksX9_number_0 10 rfl rfl)
theorem dX9_number_11 : decode cX9_number 11 = .ok (.bipush 9, 2) := dk_16 9 (dk_at dksX9_number_0 11 rfl rfl)
theorem dX9_number_13 : decode cX9_number 13 = .ok (.invokestatic 44, 3) := dk_184 0 44 (dk_at dksX9_number_0 13 rfl rfl)
theorem dX9_number_16 : decode cX9_number 16 = .ok (.invokevirtual 48, 3) := dk_182 0 48 (dk_at dksX9_number_0 16 rfl rfl)
theorem dX9_number_19 : decode cX9_number 19 = .ok (.aload_n 0, 1) := dk_42 (dk_at dksX9_number_0 19 rfl rfl)
theorem dX9_number_20 : decode cX9_number 20 = .ok (.getfield 36, 3) := dk_180 0 36 (dk_at dksX9_number_0 20 rfl rfl)
theorem dX9_number_23 : decode cX9_number 23 = .ok (.ifCond .ne 51, 3) := dk_154 0 51 (dk_at dksX9_number_1 0 rfl rfl)
theorem dX9_number_26 : decode cX9_number 26 = .ok (.iload_n 3, 1) := dk_29 (dk_at dksX9_number_1 3 rfl rfl)
theorem dX9_number_27 : decode cX9_number 27 = .ok (.ifCond .le 47, 3) := dk_158 0 47 (dk_at dksX9_number_1 4 rfl rfl)
theorem dX9_number_30 : decode cX9_number 30 = .ok (.aload_n 0, 1) := dk_42 (dk_at dksX9_number_1 7 rfl rfl)
theorem dX9_number_31 : decode cX9_number 31 = .ok (.invokevirtual 40, 3) := dk_182 0 40 (dk_at dksX9_number_1 8 rfl rfl)
theorem dX9_number_34 : decode cX9_number 34 = .ok (.bipush 48, 2) := dk_16 48 (dk_at dksX9_number_1 11 rfl rfl)
theorem dX9_number_36 : decode cX9_number 36 = .ok (.bipush 57, 2) := dk_16 57 (dk_at dksX9_number_1 13 rfl rfl)
theorem dX9_number_38 : decode cX9_number 38 = .ok (.invokestatic 44, 3) := dk_184 0 44 (dk_at dksX9_number_1 15 rfl rfl)
theorem dX9_number_41 : decode cX9_number 41 = .ok (.ifCond .eq 33, 3) := dk_153 0 33 (dk_at dksX9_number_1 18 rfl rfl)
theorem dX9_number_44 : decode cX9_number 44 = .ok (.bipush 10, 2) := dk_16 10 (dk_at dksX9_number_1 21 rfl rfl)
theorem dX9_number_46 : decode cX9_number 46 = .ok (.iload_n 3, 1) := dk_29 (dk_at dksX9_number_1 23 rfl rfl)
theorem dX9_number_47 : decode cX9_number 47 = .ok (.imul, 1) := dk_104 (dk_at dksX9_number_2 0 rfl rfl)
theorem dX9_number_48 : decode cX9_number 48 = .ok (.aload_n 0, 1) := dk_42 (dk_at dksX9_number_2 1 rfl rfl)
theorem dX9_number_49 : decode cX9_number 49 = .ok (.invokevirtual 40, 3) := dk_182 0 40 (dk_at dksX9_number_2 2 rfl rfl)
theorem dX9_number_52 : decode cX9_number 52 = .ok (.iadd, 1) := dk_96 (dk_at dksX9_number_2 5 rfl rfl)
theorem dX9_number_53 : decode cX9_number 53 = .ok (.bipush 48, 2) := dk_16 48 (dk_at dksX9_number_2 6 rfl rfl)
theorem dX9_number_55 : decode cX9_number 55 = .ok (.isub, 1) := dk_100 (dk_at dksX9_number_2 8 rfl rfl)
theorem dX9_number_56 : decode cX9_number 56 = .ok (.istore_n 3, 1) := dk_62 (dk_at dksX9_number_2 9 rfl rfl)
theorem dX9_number_57 : decode cX9_number 57 = .ok (.aload_n 0, 1) := dk_42 (dk_at dksX9_number_2 10 rfl rfl)
theorem dX9_number_58 : decode cX9_number 58 = .ok (.iload_n 3, 1) := dk_29 (dk_at dksX9_number_2 11 rfl rfl)
theorem dX9_number_59 : decode cX9_number 59 = .ok (.iload_n 2, 1) := dk_28 (dk_at dksX9_number_2 12 rfl rfl)
theorem dX9_number_60 : decode cX9_number 60 = .ok (.if_icmp .gt 7, 3) := dk_163 0 7 (dk_at dksX9_number_2 13 rfl rfl)
theorem dX9_number_63 : decode cX9_number 63 = .ok (.iconst 1, 1) := dk_4 (dk_at dksX9_number_2 16 rfl rfl)
theorem dX9_number_64 : decode cX9_number 64 = .ok (.goto 4, 3) := dk_167 0 4 (dk_at dksX9_number_2 17 rfl rfl)
theorem dX9_number_67 : decode cX9_number 67 = .ok (.iconst 0, 1) := dk_3 (dk_at dksX9_number_2 20 rfl rfl)
theorem dX9_number_68 : decode cX9_number 68 = .ok (.invokevirtual 48, 3) := dk_182 0 48 (dk_at dksX9_number_2 21 rfl rfl)
theorem dX9_number_71 : decode cX9_number 71 = .ok (.goto (-52), 3) := dk_167 255 204 (dk_at dksX9_number_3 0 rfl rfl)
theorem dX9_number_74 : decode cX9_number 74 = .ok (.iload_n 3, 1) := dk_29 (dk_at dksX9_number_3 3 rfl rfl)
theorem dX9_number_75 : decode cX9_number 75 = .ok (.ireturn, 1) := dk_172 (dk_at dksX9_number_3 4 rfl rfl)
def dkwX10_init_0 : List UInt8 := [42, 183, 0, 1, 42, 27, 181, 0, 7, 42, 28, 181, 0, 13, 177]
abbrev dktX10_init_0 : List UInt8 := dkwX10_init_0 ++ []
theorem dksX10_init_0 : cX10_init.data.toList.drop 0 = dktX10_init_0 := by decide +kernel
theorem dX10_init_0 : decode cX10_init 0 = .ok (.aload_n 0, 1) := dk_42 (dk_at dksX10_init_0 0 rfl rfl)
theorem dX10_init_1 : decode cX10_init 1 = .ok (.invokespecial 1, 3) := dk_183 0 1 (dk_at dksX10_init_0 1 rfl rfl)
theorem dX10_init_4 : decode cX10_init 4 = .ok (.aload_n 0, 1) := dk_42 (dk_at dksX10_init_0 4 rfl rfl)
theorem dX10_init_5 : decode cX10_init 5 = .ok (.iload_n 1, 1) := dk_27 (dk_at dksX10_init_0 5 rfl rfl)
theorem dX10_init_6 : decode cX10_init 6 = .ok (.putfield 7, 3) := dk_181 0 7 (dk_at dksX10_init_0 6 rfl rfl)
theorem dX10_init_9 : decode cX10_init 9 = .ok (.aload_n 0, 1) := dk_42 (dk_at dksX10_init_0 9 rfl rfl)
theorem dX10_init_10 : decode cX10_init 10 = .ok (.iload_n 2, 1) := dk_28 (dk_at dksX10_init_0 10 rfl rfl)
theorem dX10_init_11 : decode cX10_init 11 = .ok (.putfield 13, 3) := dk_181 0 13 (dk_at dksX10_init_0 11 rfl rfl)
theorem dX10_init_14 : decode cX10_init 14 = .ok (.return_, 1) := dk_177 (dk_at dksX10_init_0 14 rfl rfl)
