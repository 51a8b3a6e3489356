/-! DECODE ROWS BY BYTES: one lemma an opcode; a method's code is cut into short pieces once, and a row reads its own piece alone. -/
set_option maxRecDepth 100000
/-- the code has just these bytes from pc on -/
def DkAt (code : ByteArray) (pc : Nat) (bs : List UInt8) : Prop := ∀ (j : Nat) (b : UInt8), bs[j]? = some b → code.data.toList[pc + j]? = some b
/-- the piece W has the bytes bs from its place j on -/
def dkIn (W : List UInt8) (j : Nat) (bs : List UInt8) : Bool := decide ((W.drop j).take bs.length = bs)
theorem dk_seg {l W T : List UInt8} {o o2 : Nat} (h : l.drop o = W ++ T) (n : Nat) (hn : W.length = n) (ho : o + n = o2) : l.drop o2 = T := by
  subst ho
  rw [← List.drop_drop, h, List.drop_left' hn]
theorem dk_at {code : ByteArray} {W T bs : List UInt8} {o pc : Nat} (h : code.data.toList.drop o = W ++ T) (j : Nat) (hp : o + j = pc) (hw : dkIn W j bs = true) : DkAt code pc bs := by
  subst hp
  intro i b e
  have h1 := of_decide_eq_true hw
  have h2 : i < bs.length := (List.getElem?_eq_some_iff.mp e).1
  have h3 : W[j + i]? = some b := by
    rw [← h1, List.getElem?_take, if_pos h2, List.getElem?_drop] at e
    exact e
  have h4 : j + i < W.length := (List.getElem?_eq_some_iff.mp h3).1
  have h5 : (code.data.toList.drop o)[j + i]? = some b := by
    rw [h, List.getElem?_append_left h4]
    exact h3
  rw [List.getElem?_drop, ← Nat.add_assoc] at h5
  exact h5
theorem dk_u1 {A : ByteArray} {p : Nat} {b : UInt8} (h : A.data.toList[p]? = some b) : (Reader.u1 : Reader DecodeError Nat) A p = .ok (b.toNat, p + 1) := by
  obtain ⟨h1, h2⟩ := List.getElem?_eq_some_iff.mp h
  have h3 : p < A.size := by simpa using h1
  have h4 : A[p]'h3 = b := h2
  have e : (Reader.u1 : Reader DecodeError Nat) A p = (if h : p < A.size then .ok (A[p].toNat, p + 1) else .error (HasTruncated.truncated p)) := by
    show (do if h : p < A.size then do set (p + 1); Pure.pure A[p].toNat else MonadExcept.throw (HasTruncated.truncated p) : Reader DecodeError Nat) A p = _
    by_cases hi : p < A.size
    · rw [dif_pos hi, dif_pos hi]; rfl
    · rw [dif_neg hi, dif_neg hi]; rfl
  rw [e, dif_pos h3, h4]
theorem dk_bind {α β : Type} {r : Reader DecodeError α} {f : α → Reader DecodeError β} {A : ByteArray} {p s : Nat} {a : α} (h : r A p = .ok (a, s)) : (r >>= f) A p = f a A s := by
  show (do let (a, s) ← r A p; f a A s : Except DecodeError (β × Nat)) = _
  rw [h]
  rfl
theorem dk_map {α β : Type} {r : Reader DecodeError α} {g : α → β} {A : ByteArray} {p s : Nat} {a : α} (h : r A p = .ok (a, s)) : (g <$> r) A p = .ok (g a, s) := by
  show (do let (a, s) ← r A p; .ok (g a, s) : Except DecodeError (β × Nat)) = _
  rw [h]
  rfl
theorem dk_u2 {A : ByteArray} {p : Nat} {a b : UInt8} (h : A.data.toList[p]? = some a) (h2 : A.data.toList[p + 1]? = some b) : (Reader.u2 : Reader DecodeError Nat) A p = .ok (a.toNat * 256 + b.toNat, p + 2) := by
  show (Reader.u1 >>= fun hi => Reader.u1 >>= fun lo => Pure.pure (hi * 256 + lo) : Reader DecodeError Nat) A p = _
  rw [dk_bind (dk_u1 h), dk_bind (dk_u1 h2)]
  rfl
theorem dk_of {code : ByteArray} {pc n : Nat} {i : Instr} (h : Decoder.instr pc code pc = .ok (i, pc + n)) : decode code pc = .ok (i, n) := by
  have e : decode code pc = (match Decoder.instr pc code pc with | .error x => .error x | .ok (j, s) => .ok (j, s - pc)) := by
    show (do let (j, s) ← Decoder.instr pc code pc; Pure.pure (j, s - pc) : Except DecodeError (Instr × Nat)) = _
    cases Decoder.instr pc code pc <;> rfl
  rw [e, h]
  show Except.ok (i, pc + n - pc) = _
  rw [Nat.add_sub_cancel_left]
theorem dk_1 {code : ByteArray} {pc : Nat} (h : DkAt code pc [1]) : decode code pc = .ok (.aconst_null, 1) := dk_of ((dk_bind (dk_u1 (h 0 _ rfl))).trans rfl)
theorem dk_2 {code : ByteArray} {pc : Nat} (h : DkAt code pc [2]) : decode code pc = .ok (.iconst (-1), 1) := dk_of ((dk_bind (dk_u1 (h 0 _ rfl))).trans rfl)
theorem dk_3 {code : ByteArray} {pc : Nat} (h : DkAt code pc [3]) : decode code pc = .ok (.iconst 0, 1) := dk_of ((dk_bind (dk_u1 (h 0 _ rfl))).trans rfl)
theorem dk_4 {code : ByteArray} {pc : Nat} (h : DkAt code pc [4]) : decode code pc = .ok (.iconst 1, 1) := dk_of ((dk_bind (dk_u1 (h 0 _ rfl))).trans rfl)
theorem dk_5 {code : ByteArray} {pc : Nat} (h : DkAt code pc [5]) : decode code pc = .ok (.iconst 2, 1) := dk_of ((dk_bind (dk_u1 (h 0 _ rfl))).trans rfl)
theorem dk_6 {code : ByteArray} {pc : Nat} (h : DkAt code pc [6]) : decode code pc = .ok (.iconst 3, 1) := dk_of ((dk_bind (dk_u1 (h 0 _ rfl))).trans rfl)
theorem dk_7 {code : ByteArray} {pc : Nat} (h : DkAt code pc [7]) : decode code pc = .ok (.iconst 4, 1) := dk_of ((dk_bind (dk_u1 (h 0 _ rfl))).trans rfl)
theorem dk_8 {code : ByteArray} {pc : Nat} (h : DkAt code pc [8]) : decode code pc = .ok (.iconst 5, 1) := dk_of ((dk_bind (dk_u1 (h 0 _ rfl))).trans rfl)
theorem dk_9 {code : ByteArray} {pc : Nat} (h : DkAt code pc [9]) : decode code pc = .ok (.lconst 0, 1) := dk_of ((dk_bind (dk_u1 (h 0 _ rfl))).trans rfl)
theorem dk_10 {code : ByteArray} {pc : Nat} (h : DkAt code pc [10]) : decode code pc = .ok (.lconst 1, 1) := dk_of ((dk_bind (dk_u1 (h 0 _ rfl))).trans rfl)
theorem dk_16 {code : ByteArray} {pc : Nat} (a : UInt8) (h : DkAt code pc [16, a]) : decode code pc = .ok (.bipush (Reader.signed 8 a.toNat), 2) := dk_of ((dk_bind (dk_u1 (h 0 _ rfl))).trans ((dk_bind (dk_map (dk_u1 (h 1 _ rfl)))).trans rfl))
theorem dk_17 {code : ByteArray} {pc : Nat} (a b : UInt8) (h : DkAt code pc [17, a, b]) : decode code pc = .ok (.sipush (Reader.signed 16 (a.toNat * 256 + b.toNat)), 3) := dk_of ((dk_bind (dk_u1 (h 0 _ rfl))).trans ((dk_bind (dk_map (dk_u2 (h 1 _ rfl) (h 2 _ rfl)))).trans rfl))
theorem dk_18 {code : ByteArray} {pc : Nat} (a : UInt8) (h : DkAt code pc [18, a]) : decode code pc = .ok (.ldc a.toNat, 2) := dk_of ((dk_bind (dk_u1 (h 0 _ rfl))).trans ((dk_bind (dk_u1 (h 1 _ rfl))).trans rfl))
theorem dk_19 {code : ByteArray} {pc : Nat} (a b : UInt8) (h : DkAt code pc [19, a, b]) : decode code pc = .ok (.ldc_w (a.toNat * 256 + b.toNat), 3) := dk_of ((dk_bind (dk_u1 (h 0 _ rfl))).trans ((dk_bind (dk_u2 (h 1 _ rfl) (h 2 _ rfl))).trans rfl))
theorem dk_20 {code : ByteArray} {pc : Nat} (a b : UInt8) (h : DkAt code pc [20, a, b]) : decode code pc = .ok (.ldc2_w (a.toNat * 256 + b.toNat), 3) := dk_of ((dk_bind (dk_u1 (h 0 _ rfl))).trans ((dk_bind (dk_u2 (h 1 _ rfl) (h 2 _ rfl))).trans rfl))
theorem dk_21 {code : ByteArray} {pc : Nat} (a : UInt8) (h : DkAt code pc [21, a]) : decode code pc = .ok (.iload a.toNat, 2) := dk_of ((dk_bind (dk_u1 (h 0 _ rfl))).trans ((dk_bind (dk_u1 (h 1 _ rfl))).trans rfl))
theorem dk_22 {code : ByteArray} {pc : Nat} (a : UInt8) (h : DkAt code pc [22, a]) : decode code pc = .ok (.lload a.toNat, 2) := dk_of ((dk_bind (dk_u1 (h 0 _ rfl))).trans ((dk_bind (dk_u1 (h 1 _ rfl))).trans rfl))
theorem dk_25 {code : ByteArray} {pc : Nat} (a : UInt8) (h : DkAt code pc [25, a]) : decode code pc = .ok (.aload a.toNat, 2) := dk_of ((dk_bind (dk_u1 (h 0 _ rfl))).trans ((dk_bind (dk_u1 (h 1 _ rfl))).trans rfl))
theorem dk_26 {code : ByteArray} {pc : Nat} (h : DkAt code pc [26]) : decode code pc = .ok (.iload_n 0, 1) := dk_of ((dk_bind (dk_u1 (h 0 _ rfl))).trans rfl)
theorem dk_27 {code : ByteArray} {pc : Nat} (h : DkAt code pc [27]) : decode code pc = .ok (.iload_n 1, 1) := dk_of ((dk_bind (dk_u1 (h 0 _ rfl))).trans rfl)
theorem dk_28 {code : ByteArray} {pc : Nat} (h : DkAt code pc [28]) : decode code pc = .ok (.iload_n 2, 1) := dk_of ((dk_bind (dk_u1 (h 0 _ rfl))).trans rfl)
theorem dk_29 {code : ByteArray} {pc : Nat} (h : DkAt code pc [29]) : decode code pc = .ok (.iload_n 3, 1) := dk_of ((dk_bind (dk_u1 (h 0 _ rfl))).trans rfl)
theorem dk_30 {code : ByteArray} {pc : Nat} (h : DkAt code pc [30]) : decode code pc = .ok (.lload_n 0, 1) := dk_of ((dk_bind (dk_u1 (h 0 _ rfl))).trans rfl)
theorem dk_32 {code : ByteArray} {pc : Nat} (h : DkAt code pc [32]) : decode code pc = .ok (.lload_n 2, 1) := dk_of ((dk_bind (dk_u1 (h 0 _ rfl))).trans rfl)
theorem dk_42 {code : ByteArray} {pc : Nat} (h : DkAt code pc [42]) : decode code pc = .ok (.aload_n 0, 1) := dk_of ((dk_bind (dk_u1 (h 0 _ rfl))).trans rfl)
theorem dk_43 {code : ByteArray} {pc : Nat} (h : DkAt code pc [43]) : decode code pc = .ok (.aload_n 1, 1) := dk_of ((dk_bind (dk_u1 (h 0 _ rfl))).trans rfl)
theorem dk_44 {code : ByteArray} {pc : Nat} (h : DkAt code pc [44]) : decode code pc = .ok (.aload_n 2, 1) := dk_of ((dk_bind (dk_u1 (h 0 _ rfl))).trans rfl)
theorem dk_45 {code : ByteArray} {pc : Nat} (h : DkAt code pc [45]) : decode code pc = .ok (.aload_n 3, 1) := dk_of ((dk_bind (dk_u1 (h 0 _ rfl))).trans rfl)
theorem dk_46 {code : ByteArray} {pc : Nat} (h : DkAt code pc [46]) : decode code pc = .ok (.iaload, 1) := dk_of ((dk_bind (dk_u1 (h 0 _ rfl))).trans rfl)
theorem dk_47 {code : ByteArray} {pc : Nat} (h : DkAt code pc [47]) : decode code pc = .ok (.laload, 1) := dk_of ((dk_bind (dk_u1 (h 0 _ rfl))).trans rfl)
theorem dk_50 {code : ByteArray} {pc : Nat} (h : DkAt code pc [50]) : decode code pc = .ok (.aaload, 1) := dk_of ((dk_bind (dk_u1 (h 0 _ rfl))).trans rfl)
theorem dk_51 {code : ByteArray} {pc : Nat} (h : DkAt code pc [51]) : decode code pc = .ok (.baload, 1) := dk_of ((dk_bind (dk_u1 (h 0 _ rfl))).trans rfl)
theorem dk_54 {code : ByteArray} {pc : Nat} (a : UInt8) (h : DkAt code pc [54, a]) : decode code pc = .ok (.istore a.toNat, 2) := dk_of ((dk_bind (dk_u1 (h 0 _ rfl))).trans ((dk_bind (dk_u1 (h 1 _ rfl))).trans rfl))
theorem dk_58 {code : ByteArray} {pc : Nat} (a : UInt8) (h : DkAt code pc [58, a]) : decode code pc = .ok (.astore a.toNat, 2) := dk_of ((dk_bind (dk_u1 (h 0 _ rfl))).trans ((dk_bind (dk_u1 (h 1 _ rfl))).trans rfl))
theorem dk_59 {code : ByteArray} {pc : Nat} (h : DkAt code pc [59]) : decode code pc = .ok (.istore_n 0, 1) := dk_of ((dk_bind (dk_u1 (h 0 _ rfl))).trans rfl)
theorem dk_60 {code : ByteArray} {pc : Nat} (h : DkAt code pc [60]) : decode code pc = .ok (.istore_n 1, 1) := dk_of ((dk_bind (dk_u1 (h 0 _ rfl))).trans rfl)
theorem dk_61 {code : ByteArray} {pc : Nat} (h : DkAt code pc [61]) : decode code pc = .ok (.istore_n 2, 1) := dk_of ((dk_bind (dk_u1 (h 0 _ rfl))).trans rfl)
theorem dk_62 {code : ByteArray} {pc : Nat} (h : DkAt code pc [62]) : decode code pc = .ok (.istore_n 3, 1) := dk_of ((dk_bind (dk_u1 (h 0 _ rfl))).trans rfl)
theorem dk_76 {code : ByteArray} {pc : Nat} (h : DkAt code pc [76]) : decode code pc = .ok (.astore_n 1, 1) := dk_of ((dk_bind (dk_u1 (h 0 _ rfl))).trans rfl)
theorem dk_77 {code : ByteArray} {pc : Nat} (h : DkAt code pc [77]) : decode code pc = .ok (.astore_n 2, 1) := dk_of ((dk_bind (dk_u1 (h 0 _ rfl))).trans rfl)
theorem dk_78 {code : ByteArray} {pc : Nat} (h : DkAt code pc [78]) : decode code pc = .ok (.astore_n 3, 1) := dk_of ((dk_bind (dk_u1 (h 0 _ rfl))).trans rfl)
theorem dk_79 {code : ByteArray} {pc : Nat} (h : DkAt code pc [79]) : decode code pc = .ok (.iastore, 1) := dk_of ((dk_bind (dk_u1 (h 0 _ rfl))).trans rfl)
theorem dk_80 {code : ByteArray} {pc : Nat} (h : DkAt code pc [80]) : decode code pc = .ok (.lastore, 1) := dk_of ((dk_bind (dk_u1 (h 0 _ rfl))).trans rfl)
theorem dk_83 {code : ByteArray} {pc : Nat} (h : DkAt code pc [83]) : decode code pc = .ok (.aastore, 1) := dk_of ((dk_bind (dk_u1 (h 0 _ rfl))).trans rfl)
theorem dk_84 {code : ByteArray} {pc : Nat} (h : DkAt code pc [84]) : decode code pc = .ok (.bastore, 1) := dk_of ((dk_bind (dk_u1 (h 0 _ rfl))).trans rfl)
theorem dk_87 {code : ByteArray} {pc : Nat} (h : DkAt code pc [87]) : decode code pc = .ok (.pop, 1) := dk_of ((dk_bind (dk_u1 (h 0 _ rfl))).trans rfl)
theorem dk_89 {code : ByteArray} {pc : Nat} (h : DkAt code pc [89]) : decode code pc = .ok (.dup, 1) := dk_of ((dk_bind (dk_u1 (h 0 _ rfl))).trans rfl)
theorem dk_90 {code : ByteArray} {pc : Nat} (h : DkAt code pc [90]) : decode code pc = .ok (.dup_x1, 1) := dk_of ((dk_bind (dk_u1 (h 0 _ rfl))).trans rfl)
theorem dk_92 {code : ByteArray} {pc : Nat} (h : DkAt code pc [92]) : decode code pc = .ok (.dup2, 1) := dk_of ((dk_bind (dk_u1 (h 0 _ rfl))).trans rfl)
theorem dk_96 {code : ByteArray} {pc : Nat} (h : DkAt code pc [96]) : decode code pc = .ok (.iadd, 1) := dk_of ((dk_bind (dk_u1 (h 0 _ rfl))).trans rfl)
theorem dk_100 {code : ByteArray} {pc : Nat} (h : DkAt code pc [100]) : decode code pc = .ok (.isub, 1) := dk_of ((dk_bind (dk_u1 (h 0 _ rfl))).trans rfl)
theorem dk_104 {code : ByteArray} {pc : Nat} (h : DkAt code pc [104]) : decode code pc = .ok (.imul, 1) := dk_of ((dk_bind (dk_u1 (h 0 _ rfl))).trans rfl)
theorem dk_108 {code : ByteArray} {pc : Nat} (h : DkAt code pc [108]) : decode code pc = .ok (.idiv, 1) := dk_of ((dk_bind (dk_u1 (h 0 _ rfl))).trans rfl)
theorem dk_112 {code : ByteArray} {pc : Nat} (h : DkAt code pc [112]) : decode code pc = .ok (.irem, 1) := dk_of ((dk_bind (dk_u1 (h 0 _ rfl))).trans rfl)
theorem dk_116 {code : ByteArray} {pc : Nat} (h : DkAt code pc [116]) : decode code pc = .ok (.ineg, 1) := dk_of ((dk_bind (dk_u1 (h 0 _ rfl))).trans rfl)
theorem dk_120 {code : ByteArray} {pc : Nat} (h : DkAt code pc [120]) : decode code pc = .ok (.ishl, 1) := dk_of ((dk_bind (dk_u1 (h 0 _ rfl))).trans rfl)
theorem dk_122 {code : ByteArray} {pc : Nat} (h : DkAt code pc [122]) : decode code pc = .ok (.ishr, 1) := dk_of ((dk_bind (dk_u1 (h 0 _ rfl))).trans rfl)
theorem dk_124 {code : ByteArray} {pc : Nat} (h : DkAt code pc [124]) : decode code pc = .ok (.iushr, 1) := dk_of ((dk_bind (dk_u1 (h 0 _ rfl))).trans rfl)
theorem dk_126 {code : ByteArray} {pc : Nat} (h : DkAt code pc [126]) : decode code pc = .ok (.iand, 1) := dk_of ((dk_bind (dk_u1 (h 0 _ rfl))).trans rfl)
theorem dk_128 {code : ByteArray} {pc : Nat} (h : DkAt code pc [128]) : decode code pc = .ok (.ior, 1) := dk_of ((dk_bind (dk_u1 (h 0 _ rfl))).trans rfl)
theorem dk_130 {code : ByteArray} {pc : Nat} (h : DkAt code pc [130]) : decode code pc = .ok (.ixor, 1) := dk_of ((dk_bind (dk_u1 (h 0 _ rfl))).trans rfl)
theorem dk_132 {code : ByteArray} {pc : Nat} (a b : UInt8) (h : DkAt code pc [132, a, b]) : decode code pc = .ok (.iinc a.toNat (Reader.signed 8 b.toNat), 3) := dk_of ((dk_bind (dk_u1 (h 0 _ rfl))).trans ((dk_bind (dk_u1 (h 1 _ rfl))).trans ((dk_bind (dk_map (dk_u1 (h 2 _ rfl)))).trans rfl)))
theorem dk_133 {code : ByteArray} {pc : Nat} (h : DkAt code pc [133]) : decode code pc = .ok (.i2l, 1) := dk_of ((dk_bind (dk_u1 (h 0 _ rfl))).trans rfl)
theorem dk_145 {code : ByteArray} {pc : Nat} (h : DkAt code pc [145]) : decode code pc = .ok (.i2b, 1) := dk_of ((dk_bind (dk_u1 (h 0 _ rfl))).trans rfl)
theorem dk_146 {code : ByteArray} {pc : Nat} (h : DkAt code pc [146]) : decode code pc = .ok (.i2c, 1) := dk_of ((dk_bind (dk_u1 (h 0 _ rfl))).trans rfl)
theorem dk_148 {code : ByteArray} {pc : Nat} (h : DkAt code pc [148]) : decode code pc = .ok (.lcmp, 1) := dk_of ((dk_bind (dk_u1 (h 0 _ rfl))).trans rfl)
theorem dk_153 {code : ByteArray} {pc : Nat} (a b : UInt8) (h : DkAt code pc [153, a, b]) : decode code pc = .ok (.ifCond .eq (Reader.signed 16 (a.toNat * 256 + b.toNat)), 3) := dk_of ((dk_bind (dk_u1 (h 0 _ rfl))).trans ((dk_bind (dk_map (dk_u2 (h 1 _ rfl) (h 2 _ rfl)))).trans rfl))
theorem dk_154 {code : ByteArray} {pc : Nat} (a b : UInt8) (h : DkAt code pc [154, a, b]) : decode code pc = .ok (.ifCond .ne (Reader.signed 16 (a.toNat * 256 + b.toNat)), 3) := dk_of ((dk_bind (dk_u1 (h 0 _ rfl))).trans ((dk_bind (dk_map (dk_u2 (h 1 _ rfl) (h 2 _ rfl)))).trans rfl))
theorem dk_155 {code : ByteArray} {pc : Nat} (a b : UInt8) (h : DkAt code pc [155, a, b]) : decode code pc = .ok (.ifCond .lt (Reader.signed 16 (a.toNat * 256 + b.toNat)), 3) := dk_of ((dk_bind (dk_u1 (h 0 _ rfl))).trans ((dk_bind (dk_map (dk_u2 (h 1 _ rfl) (h 2 _ rfl)))).trans rfl))
theorem dk_156 {code : ByteArray} {pc : Nat} (a b : UInt8) (h : DkAt code pc [156, a, b]) : decode code pc = .ok (.ifCond .ge (Reader.signed 16 (a.toNat * 256 + b.toNat)), 3) := dk_of ((dk_bind (dk_u1 (h 0 _ rfl))).trans ((dk_bind (dk_map (dk_u2 (h 1 _ rfl) (h 2 _ rfl)))).trans rfl))
theorem dk_157 {code : ByteArray} {pc : Nat} (a b : UInt8) (h : DkAt code pc [157, a, b]) : decode code pc = .ok (.ifCond .gt (Reader.signed 16 (a.toNat * 256 + b.toNat)), 3) := dk_of ((dk_bind (dk_u1 (h 0 _ rfl))).trans ((dk_bind (dk_map (dk_u2 (h 1 _ rfl) (h 2 _ rfl)))).trans rfl))
theorem dk_158 {code : ByteArray} {pc : Nat} (a b : UInt8) (h : DkAt code pc [158, a, b]) : decode code pc = .ok (.ifCond .le (Reader.signed 16 (a.toNat * 256 + b.toNat)), 3) := dk_of ((dk_bind (dk_u1 (h 0 _ rfl))).trans ((dk_bind (dk_map (dk_u2 (h 1 _ rfl) (h 2 _ rfl)))).trans rfl))
theorem dk_159 {code : ByteArray} {pc : Nat} (a b : UInt8) (h : DkAt code pc [159, a, b]) : decode code pc = .ok (.if_icmp .eq (Reader.signed 16 (a.toNat * 256 + b.toNat)), 3) := dk_of ((dk_bind (dk_u1 (h 0 _ rfl))).trans ((dk_bind (dk_map (dk_u2 (h 1 _ rfl) (h 2 _ rfl)))).trans rfl))
theorem dk_160 {code : ByteArray} {pc : Nat} (a b : UInt8) (h : DkAt code pc [160, a, b]) : decode code pc = .ok (.if_icmp .ne (Reader.signed 16 (a.toNat * 256 + b.toNat)), 3) := dk_of ((dk_bind (dk_u1 (h 0 _ rfl))).trans ((dk_bind (dk_map (dk_u2 (h 1 _ rfl) (h 2 _ rfl)))).trans rfl))
theorem dk_161 {code : ByteArray} {pc : Nat} (a b : UInt8) (h : DkAt code pc [161, a, b]) : decode code pc = .ok (.if_icmp .lt (Reader.signed 16 (a.toNat * 256 + b.toNat)), 3) := dk_of ((dk_bind (dk_u1 (h 0 _ rfl))).trans ((dk_bind (dk_map (dk_u2 (h 1 _ rfl) (h 2 _ rfl)))).trans rfl))
theorem dk_162 {code : ByteArray} {pc : Nat} (a b : UInt8) (h : DkAt code pc [162, a, b]) : decode code pc = .ok (.if_icmp .ge (Reader.signed 16 (a.toNat * 256 + b.toNat)), 3) := dk_of ((dk_bind (dk_u1 (h 0 _ rfl))).trans ((dk_bind (dk_map (dk_u2 (h 1 _ rfl) (h 2 _ rfl)))).trans rfl))
theorem dk_163 {code : ByteArray} {pc : Nat} (a b : UInt8) (h : DkAt code pc [163, a, b]) : decode code pc = .ok (.if_icmp .gt (Reader.signed 16 (a.toNat * 256 + b.toNat)), 3) := dk_of ((dk_bind (dk_u1 (h 0 _ rfl))).trans ((dk_bind (dk_map (dk_u2 (h 1 _ rfl) (h 2 _ rfl)))).trans rfl))
theorem dk_164 {code : ByteArray} {pc : Nat} (a b : UInt8) (h : DkAt code pc [164, a, b]) : decode code pc = .ok (.if_icmp .le (Reader.signed 16 (a.toNat * 256 + b.toNat)), 3) := dk_of ((dk_bind (dk_u1 (h 0 _ rfl))).trans ((dk_bind (dk_map (dk_u2 (h 1 _ rfl) (h 2 _ rfl)))).trans rfl))
theorem dk_165 {code : ByteArray} {pc : Nat} (a b : UInt8) (h : DkAt code pc [165, a, b]) : decode code pc = .ok (.if_acmp .eq (Reader.signed 16 (a.toNat * 256 + b.toNat)), 3) := dk_of ((dk_bind (dk_u1 (h 0 _ rfl))).trans ((dk_bind (dk_map (dk_u2 (h 1 _ rfl) (h 2 _ rfl)))).trans rfl))
theorem dk_166 {code : ByteArray} {pc : Nat} (a b : UInt8) (h : DkAt code pc [166, a, b]) : decode code pc = .ok (.if_acmp .ne (Reader.signed 16 (a.toNat * 256 + b.toNat)), 3) := dk_of ((dk_bind (dk_u1 (h 0 _ rfl))).trans ((dk_bind (dk_map (dk_u2 (h 1 _ rfl) (h 2 _ rfl)))).trans rfl))
theorem dk_167 {code : ByteArray} {pc : Nat} (a b : UInt8) (h : DkAt code pc [167, a, b]) : decode code pc = .ok (.goto (Reader.signed 16 (a.toNat * 256 + b.toNat)), 3) := dk_of ((dk_bind (dk_u1 (h 0 _ rfl))).trans ((dk_bind (dk_map (dk_u2 (h 1 _ rfl) (h 2 _ rfl)))).trans rfl))
theorem dk_172 {code : ByteArray} {pc : Nat} (h : DkAt code pc [172]) : decode code pc = .ok (.ireturn, 1) := dk_of ((dk_bind (dk_u1 (h 0 _ rfl))).trans rfl)
theorem dk_176 {code : ByteArray} {pc : Nat} (h : DkAt code pc [176]) : decode code pc = .ok (.areturn, 1) := dk_of ((dk_bind (dk_u1 (h 0 _ rfl))).trans rfl)
theorem dk_177 {code : ByteArray} {pc : Nat} (h : DkAt code pc [177]) : decode code pc = .ok (.return_, 1) := dk_of ((dk_bind (dk_u1 (h 0 _ rfl))).trans rfl)
theorem dk_178 {code : ByteArray} {pc : Nat} (a b : UInt8) (h : DkAt code pc [178, a, b]) : decode code pc = .ok (.getstatic (a.toNat * 256 + b.toNat), 3) := dk_of ((dk_bind (dk_u1 (h 0 _ rfl))).trans ((dk_bind (dk_u2 (h 1 _ rfl) (h 2 _ rfl))).trans rfl))
theorem dk_180 {code : ByteArray} {pc : Nat} (a b : UInt8) (h : DkAt code pc [180, a, b]) : decode code pc = .ok (.getfield (a.toNat * 256 + b.toNat), 3) := dk_of ((dk_bind (dk_u1 (h 0 _ rfl))).trans ((dk_bind (dk_u2 (h 1 _ rfl) (h 2 _ rfl))).trans rfl))
theorem dk_181 {code : ByteArray} {pc : Nat} (a b : UInt8) (h : DkAt code pc [181, a, b]) : decode code pc = .ok (.putfield (a.toNat * 256 + b.toNat), 3) := dk_of ((dk_bind (dk_u1 (h 0 _ rfl))).trans ((dk_bind (dk_u2 (h 1 _ rfl) (h 2 _ rfl))).trans rfl))
theorem dk_182 {code : ByteArray} {pc : Nat} (a b : UInt8) (h : DkAt code pc [182, a, b]) : decode code pc = .ok (.invokevirtual (a.toNat * 256 + b.toNat), 3) := dk_of ((dk_bind (dk_u1 (h 0 _ rfl))).trans ((dk_bind (dk_u2 (h 1 _ rfl) (h 2 _ rfl))).trans rfl))
theorem dk_183 {code : ByteArray} {pc : Nat} (a b : UInt8) (h : DkAt code pc [183, a, b]) : decode code pc = .ok (.invokespecial (a.toNat * 256 + b.toNat), 3) := dk_of ((dk_bind (dk_u1 (h 0 _ rfl))).trans ((dk_bind (dk_u2 (h 1 _ rfl) (h 2 _ rfl))).trans rfl))
theorem dk_184 {code : ByteArray} {pc : Nat} (a b : UInt8) (h : DkAt code pc [184, a, b]) : decode code pc = .ok (.invokestatic (a.toNat * 256 + b.toNat), 3) := dk_of ((dk_bind (dk_u1 (h 0 _ rfl))).trans ((dk_bind (dk_u2 (h 1 _ rfl) (h 2 _ rfl))).trans rfl))
theorem dk_187 {code : ByteArray} {pc : Nat} (a b : UInt8) (h : DkAt code pc [187, a, b]) : decode code pc = .ok (.new (a.toNat * 256 + b.toNat), 3) := dk_of ((dk_bind (dk_u1 (h 0 _ rfl))).trans ((dk_bind (dk_u2 (h 1 _ rfl) (h 2 _ rfl))).trans rfl))
theorem dk_188_4 {code : ByteArray} {pc : Nat} (h : DkAt code pc [188, 4]) : decode code pc = .ok (.newarray .boolean, 2) := dk_of ((dk_bind (dk_u1 (h 0 _ rfl))).trans ((dk_bind (dk_u1 (h 1 _ rfl))).trans rfl))
theorem dk_188_8 {code : ByteArray} {pc : Nat} (h : DkAt code pc [188, 8]) : decode code pc = .ok (.newarray .byte, 2) := dk_of ((dk_bind (dk_u1 (h 0 _ rfl))).trans ((dk_bind (dk_u1 (h 1 _ rfl))).trans rfl))
theorem dk_188_10 {code : ByteArray} {pc : Nat} (h : DkAt code pc [188, 10]) : decode code pc = .ok (.newarray .int, 2) := dk_of ((dk_bind (dk_u1 (h 0 _ rfl))).trans ((dk_bind (dk_u1 (h 1 _ rfl))).trans rfl))
theorem dk_188_11 {code : ByteArray} {pc : Nat} (h : DkAt code pc [188, 11]) : decode code pc = .ok (.newarray .long, 2) := dk_of ((dk_bind (dk_u1 (h 0 _ rfl))).trans ((dk_bind (dk_u1 (h 1 _ rfl))).trans rfl))
theorem dk_189 {code : ByteArray} {pc : Nat} (a b : UInt8) (h : DkAt code pc [189, a, b]) : decode code pc = .ok (.anewarray (a.toNat * 256 + b.toNat), 3) := dk_of ((dk_bind (dk_u1 (h 0 _ rfl))).trans ((dk_bind (dk_u2 (h 1 _ rfl) (h 2 _ rfl))).trans rfl))
theorem dk_190 {code : ByteArray} {pc : Nat} (h : DkAt code pc [190]) : decode code pc = .ok (.arraylength, 1) := dk_of ((dk_bind (dk_u1 (h 0 _ rfl))).trans rfl)
theorem dk_191 {code : ByteArray} {pc : Nat} (h : DkAt code pc [191]) : decode code pc = .ok (.athrow, 1) := dk_of ((dk_bind (dk_u1 (h 0 _ rfl))).trans rfl)
theorem dk_192 {code : ByteArray} {pc : Nat} (a b : UInt8) (h : DkAt code pc [192, a, b]) : decode code pc = .ok (.checkcast (a.toNat * 256 + b.toNat), 3) := dk_of ((dk_bind (dk_u1 (h 0 _ rfl))).trans ((dk_bind (dk_u2 (h 1 _ rfl) (h 2 _ rfl))).trans rfl))
theorem dk_193 {code : ByteArray} {pc : Nat} (a b : UInt8) (h : DkAt code pc [193, a, b]) : decode code pc = .ok (.instanceof (a.toNat * 256 + b.toNat), 3) := dk_of ((dk_bind (dk_u1 (h 0 _ rfl))).trans ((dk_bind (dk_u2 (h 1 _ rfl) (h 2 _ rfl))).trans rfl))
theorem dk_198 {code : ByteArray} {pc : Nat} (a b : UInt8) (h : DkAt code pc [198, a, b]) : decode code pc = .ok (.ifnull (Reader.signed 16 (a.toNat * 256 + b.toNat)), 3) := dk_of ((dk_bind (dk_u1 (h 0 _ rfl))).trans ((dk_bind (dk_map (dk_u2 (h 1 _ rfl) (h 2 _ rfl)))).trans rfl))
theorem dk_199 {code : ByteArray} {pc : Nat} (a b : UInt8) (h : DkAt code pc [199, a, b]) : decode code pc = .ok (.ifnonnull (Reader.signed 16 (a.toNat * 256 + b.toNat)), 3) := dk_of ((dk_bind (dk_u1 (h 0 _ rfl))).trans ((dk_bind (dk_map (dk_u2 (h 1 _ rfl) (h 2 _ rfl)))).trans rfl))
/-! ApartBenchLaw -/
set_option maxRecDepth 100000
def RX0 : String := "ApartBenchLaw"
abbrev cX0_land : ByteArray := method_3_code
def yX0_land : MethodName := ⟨RX0, "land", "(LApartBench;I[J)I"⟩
def dkwX0_land_0 : List UInt8 := [44, 3, 42, 27, 182, 0, 7, 133, 80, 167, 0, 6, 78, 4, 172, 3, 172]
abbrev dktX0_land_0 : List UInt8 := dkwX0_land_0 ++ []
theorem dksX0_land_0 : cX0_land.data.toList.drop 0 = dktX0_land_0 := by decide +kernel
theorem dX0_land_0 : decode cX0_land 0 = .ok (.aload_n 2, 1) := dk_44 (dk_at dksX0_land_0 0 rfl rfl)
theorem dX0_land_1 : decode cX0_land 1 = .ok (.iconst 0, 1) := dk_3 (dk_at dksX0_land_0 1 rfl rfl)
theorem dX0_land_2 : decode cX0_land 2 = .ok (.aload_n 0, 1) := dk_42 (dk_at dksX0_land_0 2 rfl rfl)
theorem dX0_land_3 : decode cX0_land 3 = .ok (.iload_n 1, 1) := dk_27 (dk_at dksX0_land_0 3 rfl rfl)
theorem dX0_land_4 : decode cX0_land 4 = .ok (.invokevirtual 7, 3) := dk_182 0 7 (dk_at dksX0_land_0 4 rfl rfl)
theorem dX0_land_7 : decode cX0_land 7 = .ok (.i2l, 1) := dk_133 (dk_at dksX0_land_0 7 rfl rfl)
theorem dX0_land_8 : decode cX0_land 8 = .ok (.lastore, 1) := dk_80 (dk_at dksX0_land_0 8 rfl rfl)
theorem dX0_land_9 : decode cX0_land 9 = .ok (.goto 6, 3) := dk_167 0 6 (dk_at dksX0_land_0 9 rfl rfl)
theorem dX0_land_12 : decode cX0_land 12 = .ok (.astore_n 3, 1) := dk_78 (dk_at dksX0_land_0 12 rfl rfl)
theorem dX0_land_13 : decode cX0_land 13 = .ok (.iconst 1, 1) := dk_4 (dk_at dksX0_land_0 13 rfl rfl)
theorem dX0_land_14 : decode cX0_land 14 = .ok (.ireturn, 1) := dk_172 (dk_at dksX0_land_0 14 rfl rfl)
theorem dX0_land_15 : decode cX0_land 15 = .ok (.iconst 0, 1) := dk_3 (dk_at dksX0_land_0 15 rfl rfl)
theorem dX0_land_16 : decode cX0_land 16 = .ok (.ireturn, 1) := dk_172 (dk_at dksX0_land_0 16 rfl rfl)
abbrev cX0_count : ByteArray := method_4_code
def yX0_count : MethodName := ⟨RX0, "count", "(LApartBench;I[J)I"⟩
def dkwX0_count_0 : List UInt8 := [44, 3, 42, 27, 182, 0, 15, 133, 80, 167, 0, 6, 78, 4, 172, 3, 172]
abbrev dktX0_count_0 : List UInt8 := dkwX0_count_0 ++ []
theorem dksX0_count_0 : cX0_count.data.toList.drop 0 = dktX0_count_0 := by decide +kernel
theorem dX0_count_0 : decode cX0_count 0 = .ok (.aload_n 2, 1) := dk_44 (dk_at dksX0_count_0 0 rfl rfl)
theorem dX0_count_1 : decode cX0_count 1 = .ok (.iconst 0, 1) := dk_3 (dk_at dksX0_count_0 1 rfl rfl)
theorem dX0_count_2 : decode cX0_count 2 = .ok (.aload_n 0, 1) := dk_42 (dk_at dksX0_count_0 2 rfl rfl)
theorem dX0_count_3 : decode cX0_count 3 = .ok (.iload_n 1, 1) := dk_27 (dk_at dksX0_count_0 3 rfl rfl)
theorem dX0_count_4 : decode cX0_count 4 = .ok (.invokevirtual 15, 3) := dk_182 0 15 (dk_at dksX0_count_0 4 rfl rfl)
theorem dX0_count_7 : decode cX0_count 7 = .ok (.i2l, 1) := dk_133 (dk_at dksX0_count_0 7 rfl rfl)
theorem dX0_count_8 : decode cX0_count 8 = .ok (.lastore, 1) := dk_80 (dk_at dksX0_count_0 8 rfl rfl)
theorem dX0_count_9 : decode cX0_count 9 = .ok (.goto 6, 3) := dk_167 0 6 (dk_at dksX0_count_0 9 rfl rfl)
theorem dX0_count_12 : decode cX0_count 12 = .ok (.astore_n 3, 1) := dk_78 (dk_at dksX0_count_0 12 rfl rfl)
theorem dX0_count_13 : decode cX0_count 13 = .ok (.iconst 1, 1) := dk_4 (dk_at dksX0_count_0 13 rfl rfl)
theorem dX0_count_14 : decode cX0_count 14 = .ok (.ireturn, 1) := dk_172 (dk_at dksX0_count_0 14 rfl rfl)
theorem dX0_count_15 : decode cX0_count 15 = .ok (.iconst 0, 1) := dk_3 (dk_at dksX0_count_0 15 rfl rfl)
theorem dX0_count_16 : decode cX0_count 16 = .ok (.ireturn, 1) := dk_172 (dk_at dksX0_count_0 16 rfl rfl)
abbrev cX0_far : ByteArray := method_5_code
def yX0_far : MethodName := ⟨RX0, "far", "(LApartBench;III[J)I"⟩
def dkwX0_far_0 : List UInt8 := [25, 4, 3, 42, 27, 28, 29, 182, 0, 20, 133, 80, 167, 0, 7, 58, 5, 4, 172, 3, 172]
abbrev dktX0_far_0 : List UInt8 := dkwX0_far_0 ++ []
theorem dksX0_far_0 : cX0_far.data.toList.drop 0 = dktX0_far_0 := by decide +kernel
theorem dX0_far_0 : decode cX0_far 0 = .ok (.aload 4, 2) := dk_25 4 (dk_at dksX0_far_0 0 rfl rfl)
theorem dX0_far_2 : decode cX0_far 2 = .ok (.iconst 0, 1) := dk_3 (dk_at dksX0_far_0 2 rfl rfl)
theorem dX0_far_3 : decode cX0_far 3 = .ok (.aload_n 0, 1) := dk_42 (dk_at dksX0_far_0 3 rfl rfl)
theorem dX0_far_4 : decode cX0_far 4 = .ok (.iload_n 1, 1) := dk_27 (dk_at dksX0_far_0 4 rfl rfl)
theorem dX0_far_5 : decode cX0_far 5 = .ok (.iload_n 2, 1) := dk_28 (dk_at dksX0_far_0 5 rfl rfl)
theorem dX0_far_6 : decode cX0_far 6 = .ok (.iload_n 3, 1) := dk_29 (dk_at dksX0_far_0 6 rfl rfl)
theorem dX0_far_7 : decode cX0_far 7 = .ok (.invokevirtual 20, 3) := dk_182 0 20 (dk_at dksX0_far_0 7 rfl rfl)
theorem dX0_far_10 : decode cX0_far 10 = .ok (.i2l, 1) := dk_133 (dk_at dksX0_far_0 10 rfl rfl)
theorem dX0_far_11 : decode cX0_far 11 = .ok (.lastore, 1) := dk_80 (dk_at dksX0_far_0 11 rfl rfl)
theorem dX0_far_12 : decode cX0_far 12 = .ok (.goto 7, 3) := dk_167 0 7 (dk_at dksX0_far_0 12 rfl rfl)
theorem dX0_far_15 : decode cX0_far 15 = .ok (.astore 5, 2) := dk_58 5 (dk_at dksX0_far_0 15 rfl rfl)
theorem dX0_far_17 : decode cX0_far 17 = .ok (.iconst 1, 1) := dk_4 (dk_at dksX0_far_0 17 rfl rfl)
theorem dX0_far_18 : decode cX0_far 18 = .ok (.ireturn, 1) := dk_172 (dk_at dksX0_far_0 18 rfl rfl)
theorem dX0_far_19 : decode cX0_far 19 = .ok (.iconst 0, 1) := dk_3 (dk_at dksX0_far_0 19 rfl rfl)
theorem dX0_far_20 : decode cX0_far 20 = .ok (.ireturn, 1) := dk_172 (dk_at dksX0_far_0 20 rfl rfl)
abbrev cX0_judge : ByteArray := method_6_code
def yX0_judge : MethodName := ⟨RX0, "judge", "(LApartBench;II[J)I"⟩
def dkwX0_judge_0 : List UInt8 := [45, 3, 42, 27, 28, 182, 0, 24, 133, 80, 167, 0, 7, 58, 4, 4, 172, 3, 172]
abbrev dktX0_judge_0 : List UInt8 := dkwX0_judge_0 ++ []
theorem dksX0_judge_0 : cX0_judge.data.toList.drop 0 = dktX0_judge_0 := by decide +kernel
theorem dX0_judge_0 : decode cX0_judge 0 = .ok (.aload_n 3, 1) := dk_45 (dk_at dksX0_judge_0 0 rfl rfl)
theorem dX0_judge_1 : decode cX0_judge 1 = .ok (.iconst 0, 1) := dk_3 (dk_at dksX0_judge_0 1 rfl rfl)
theorem dX0_judge_2 : decode cX0_judge 2 = .ok (.aload_n 0, 1) := dk_42 (dk_at dksX0_judge_0 2 rfl rfl)
theorem dX0_judge_3 : decode cX0_judge 3 = .ok (.iload_n 1, 1) := dk_27 (dk_at dksX0_judge_0 3 rfl rfl)
theorem dX0_judge_4 : decode cX0_judge 4 = .ok (.iload_n 2, 1) := dk_28 (dk_at dksX0_judge_0 4 rfl rfl)
theorem dX0_judge_5 : decode cX0_judge 5 = .ok (.invokevirtual 24, 3) := dk_182 0 24 (dk_at dksX0_judge_0 5 rfl rfl)
theorem dX0_judge_8 : decode cX0_judge 8 = .ok (.i2l, 1) := dk_133 (dk_at dksX0_judge_0 8 rfl rfl)
theorem dX0_judge_9 : decode cX0_judge 9 = .ok (.lastore, 1) := dk_80 (dk_at dksX0_judge_0 9 rfl rfl)
theorem dX0_judge_10 : decode cX0_judge 10 = .ok (.goto 7, 3) := dk_167 0 7 (dk_at dksX0_judge_0 10 rfl rfl)
theorem dX0_judge_13 : decode cX0_judge 13 = .ok (.astore 4, 2) := dk_58 4 (dk_at dksX0_judge_0 13 rfl rfl)
theorem dX0_judge_15 : decode cX0_judge 15 = .ok (.iconst 1, 1) := dk_4 (dk_at dksX0_judge_0 15 rfl rfl)
theorem dX0_judge_16 : decode cX0_judge 16 = .ok (.ireturn, 1) := dk_172 (dk_at dksX0_judge_0 16 rfl rfl)
theorem dX0_judge_17 : decode cX0_judge 17 = .ok (.iconst 0, 1) := dk_3 (dk_at dksX0_judge_0 17 rfl rfl)
theorem dX0_judge_18 : decode cX0_judge 18 = .ok (.ireturn, 1) := dk_172 (dk_at dksX0_judge_0 18 rfl rfl)
abbrev cX0_stop : ByteArray := method_7_code
def yX0_stop : MethodName := ⟨RX0, "stop", "(LApartBench;III[J)I"⟩
def dkwX0_stop_0 : List UInt8 := [25, 4, 3, 42, 27, 28, 29, 182, 0, 28, 133, 80, 167, 0, 7, 58, 5, 4, 172, 3, 172]
abbrev dktX0_stop_0 : List UInt8 := dkwX0_stop_0 ++ []
theorem dksX0_stop_0 : cX0_stop.data.toList.drop 0 = dktX0_stop_0 := by decide +kernel
theorem dX0_stop_0 : decode cX0_stop 0 = .ok (.aload 4, 2) := dk_25 4 (dk_at dksX0_stop_0 0 rfl rfl)
theorem dX0_stop_2 : decode cX0_stop 2 = .ok (.iconst 0, 1) := dk_3 (dk_at dksX0_stop_0 2 rfl rfl)
theorem dX0_stop_3 : decode cX0_stop 3 = .ok (.aload_n 0, 1) := dk_42 (dk_at dksX0_stop_0 3 rfl rfl)
theorem dX0_stop_4 : decode cX0_stop 4 = .ok (.iload_n 1, 1) := dk_27 (dk_at dksX0_stop_0 4 rfl rfl)
theorem dX0_stop_5 : decode cX0_stop 5 = .ok (.iload_n 2, 1) := dk_28 (dk_at dksX0_stop_0 5 rfl rfl)
theorem dX0_stop_6 : decode cX0_stop 6 = .ok (.iload_n 3, 1) := dk_29 (dk_at dksX0_stop_0 6 rfl rfl)
theorem dX0_stop_7 : decode cX0_stop 7 = .ok (.invokevirtual 28, 3) := dk_182 0 28 (dk_at dksX0_stop_0 7 rfl rfl)
theorem dX0_stop_10 : decode cX0_stop 10 = .ok (.i2l, 1) := dk_133 (dk_at dksX0_stop_0 10 rfl rfl)
theorem dX0_stop_11 : decode cX0_stop 11 = .ok (.lastore, 1) := dk_80 (dk_at dksX0_stop_0 11 rfl rfl)
theorem dX0_stop_12 : decode cX0_stop 12 = .ok (.goto 7, 3) := dk_167 0 7 (dk_at dksX0_stop_0 12 rfl rfl)
theorem dX0_stop_15 : decode cX0_stop 15 = .ok (.astore 5, 2) := dk_58 5 (dk_at dksX0_stop_0 15 rfl rfl)
theorem dX0_stop_17 : decode cX0_stop 17 = .ok (.iconst 1, 1) := dk_4 (dk_at dksX0_stop_0 17 rfl rfl)
theorem dX0_stop_18 : decode cX0_stop 18 = .ok (.ireturn, 1) := dk_172 (dk_at dksX0_stop_0 18 rfl rfl)
theorem dX0_stop_19 : decode cX0_stop 19 = .ok (.iconst 0, 1) := dk_3 (dk_at dksX0_stop_0 19 rfl rfl)
theorem dX0_stop_20 : decode cX0_stop 20 = .ok (.ireturn, 1) := dk_172 (dk_at dksX0_stop_0 20 rfl rfl)
abbrev cX0_where : ByteArray := method_8_code
def yX0_where : MethodName := ⟨RX0, "where", "(LApartBench;II[J)I"⟩
def dkwX0_where_0 : List UInt8 := [45, 3, 42, 27, 28, 182, 0, 31, 133, 80, 167, 0, 7, 58, 4, 4, 172, 3, 172]
abbrev dktX0_where_0 : List UInt8 := dkwX0_where_0 ++ []
theorem dksX0_where_0 : cX0_where.data.toList.drop 0 = dktX0_where_0 := by decide +kernel
theorem dX0_where_0 : decode cX0_where 0 = .ok (.aload_n 3, 1) := dk_45 (dk_at dksX0_where_0 0 rfl rfl)
theorem dX0_where_1 : decode cX0_where 1 = .ok (.iconst 0, 1) := dk_3 (dk_at dksX0_where_0 1 rfl rfl)
theorem dX0_where_2 : decode cX0_where 2 = .ok (.aload_n 0, 1) := dk_42 (dk_at dksX0_where_0 2 rfl rfl)
theorem dX0_where_3 : decode cX0_where 3 = .ok (.iload_n 1, 1) := dk_27 (dk_at dksX0_where_0 3 rfl rfl)
theorem dX0_where_4 : decode cX0_where 4 = .ok (.iload_n 2, 1) := dk_28 (dk_at dksX0_where_0 4 rfl rfl)
theorem dX0_where_5 : decode cX0_where 5 = .ok (.invokevirtual 31, 3) := dk_182 0 31 (dk_at dksX0_where_0 5 rfl rfl)
theorem dX0_where_8 : decode cX0_where 8 = .ok (.i2l, 1) := dk_133 (dk_at dksX0_where_0 8 rfl rfl)
theorem dX0_where_9 : decode cX0_where 9 = .ok (.lastore, 1) := dk_80 (dk_at dksX0_where_0 9 rfl rfl)
theorem dX0_where_10 : decode cX0_where 10 = .ok (.goto 7, 3) := dk_167 0 7 (dk_at dksX0_where_0 10 rfl rfl)
theorem dX0_where_13 : decode cX0_where 13 = .ok (.astore 4, 2) := dk_58 4 (dk_at dksX0_where_0 13 rfl rfl)
theorem dX0_where_15 : decode cX0_where 15 = .ok (.iconst 1, 1) := dk_4 (dk_at dksX0_where_0 15 rfl rfl)
theorem dX0_where_16 : decode cX0_where 16 = .ok (.ireturn, 1) := dk_172 (dk_at dksX0_where_0 16 rfl rfl)
theorem dX0_where_17 : decode cX0_where 17 = .ok (.iconst 0, 1) := dk_3 (dk_at dksX0_where_0 17 rfl rfl)
theorem dX0_where_18 : decode cX0_where 18 = .ok (.ireturn, 1) := dk_172 (dk_at dksX0_where_0 18 rfl rfl)
abbrev cX0_proof : ByteArray := method_9_code
def yX0_proof : MethodName := ⟨RX0, "proof", "(LApartBench;II[J)I"⟩
def dkwX0_proof_0 : List UInt8 := [45, 3, 42, 27, 28, 182, 0, 34, 133, 80, 167, 0, 7, 58, 4, 4, 172, 3, 172]
abbrev dktX0_proof_0 : List UInt8 := dkwX0_proof_0 ++ []
theorem dksX0_proof_0 : cX0_proof.data.toList.drop 0 = dktX0_proof_0 := by decide +kernel
theorem dX0_proof_0 : decode cX0_proof 0 = .ok (.aload_n 3, 1) := dk_45 (dk_at dksX0_proof_0 0 rfl rfl)
theorem dX0_proof_1 : decode cX0_proof 1 = .ok (.iconst 0, 1) := dk_3 (dk_at dksX0_proof_0 1 rfl rfl)
theorem dX0_proof_2 : decode cX0_proof 2 = .ok (.aload_n 0, 1) := dk_42 (dk_at dksX0_proof_0 2 rfl rfl)
theorem dX0_proof_3 : decode cX0_proof 3 = .ok (.iload_n 1, 1) := dk_27 (dk_at dksX0_proof_0 3 rfl rfl)
theorem dX0_proof_4 : decode cX0_proof 4 = .ok (.iload_n 2, 1) := dk_28 (dk_at dksX0_proof_0 4 rfl rfl)
theorem dX0_proof_5 : decode cX0_proof 5 = .ok (.invokevirtual 34, 3) := dk_182 0 34 (dk_at dksX0_proof_0 5 rfl rfl)
theorem dX0_proof_8 : decode cX0_proof 8 = .ok (.i2l, 1) := dk_133 (dk_at dksX0_proof_0 8 rfl rfl)
theorem dX0_proof_9 : decode cX0_proof 9 = .ok (.lastore, 1) := dk_80 (dk_at dksX0_proof_0 9 rfl rfl)
theorem dX0_proof_10 : decode cX0_proof 10 = .ok (.goto 7, 3) := dk_167 0 7 (dk_at dksX0_proof_0 10 rfl rfl)
theorem dX0_proof_13 : decode cX0_proof 13 = .ok (.astore 4, 2) := dk_58 4 (dk_at dksX0_proof_0 13 rfl rfl)
theorem dX0_proof_15 : decode cX0_proof 15 = .ok (.iconst 1, 1) := dk_4 (dk_at dksX0_proof_0 15 rfl rfl)
theorem dX0_proof_16 : decode cX0_proof 16 = .ok (.ireturn, 1) := dk_172 (dk_at dksX0_proof_0 16 rfl rfl)
theorem dX0_proof_17 : decode cX0_proof 17 = .ok (.iconst 0, 1) := dk_3 (dk_at dksX0_proof_0 17 rfl rfl)
theorem dX0_proof_18 : decode cX0_proof 18 = .ok (.ireturn, 1) := dk_172 (dk_at dksX0_proof_0 18 rfl rfl)
abbrev cX0_said : ByteArray := method_10_code
def yX0_said : MethodName := ⟨RX0, "said", "(LApartBench;III[J)I"⟩
def dkwX0_said_0 : List UInt8 := [25, 4, 3, 42, 27, 28, 29, 182, 0, 37, 133, 80, 167, 0, 7, 58, 5, 4, 172, 3, 172]
abbrev dktX0_said_0 : List UInt8 := dkwX0_said_0 ++ []
theorem dksX0_said_0 : cX0_said.data.toList.drop 0 = dktX0_said_0 := by decide +kernel
theorem dX0_said_0 : decode cX0_said 0 = .ok (.aload 4, 2) := dk_25 4 (dk_at dksX0_said_0 0 rfl rfl)
theorem dX0_said_2 : decode cX0_said 2 = .ok (.iconst 0, 1) := dk_3 (dk_at dksX0_said_0 2 rfl rfl)
theorem dX0_said_3 : decode cX0_said 3 = .ok (.aload_n 0, 1) := dk_42 (dk_at dksX0_said_0 3 rfl rfl)
theorem dX0_said_4 : decode cX0_said 4 = .ok (.iload_n 1, 1) := dk_27 (dk_at dksX0_said_0 4 rfl rfl)
theorem dX0_said_5 : decode cX0_said 5 = .ok (.iload_n 2, 1) := dk_28 (dk_at dksX0_said_0 5 rfl rfl)
theorem dX0_said_6 : decode cX0_said 6 = .ok (.iload_n 3, 1) := dk_29 (dk_at dksX0_said_0 6 rfl rfl)
theorem dX0_said_7 : decode cX0_said 7 = .ok (.invokevirtual 37, 3) := dk_182 0 37 (dk_at dksX0_said_0 7 rfl rfl)
theorem dX0_said_10 : decode cX0_said 10 = .ok (.i2l, 1) := dk_133 (dk_at dksX0_said_0 10 rfl rfl)
theorem dX0_said_11 : decode cX0_said 11 = .ok (.lastore, 1) := dk_80 (dk_at dksX0_said_0 11 rfl rfl)
theorem dX0_said_12 : decode cX0_said 12 = .ok (.goto 7, 3) := dk_167 0 7 (dk_at dksX0_said_0 12 rfl rfl)
theorem dX0_said_15 : decode cX0_said 15 = .ok (.astore 5, 2) := dk_58 5 (dk_at dksX0_said_0 15 rfl rfl)
theorem dX0_said_17 : decode cX0_said 17 = .ok (.iconst 1, 1) := dk_4 (dk_at dksX0_said_0 17 rfl rfl)
theorem dX0_said_18 : decode cX0_said 18 = .ok (.ireturn, 1) := dk_172 (dk_at dksX0_said_0 18 rfl rfl)
theorem dX0_said_19 : decode cX0_said 19 = .ok (.iconst 0, 1) := dk_3 (dk_at dksX0_said_0 19 rfl rfl)
theorem dX0_said_20 : decode cX0_said 20 = .ok (.ireturn, 1) := dk_172 (dk_at dksX0_said_0 20 rfl rfl)
abbrev cX0_met : ByteArray := method_11_code
def yX0_met : MethodName := ⟨RX0, "met", "(LApartBench;II[J)I"⟩
def dkwX0_met_0 : List UInt8 := [45, 3, 42, 27, 28, 182, 0, 40, 133, 80, 167, 0, 11, 58, 4, 4, 172, 58, 4, 5, 172, 3, 172]
abbrev dktX0_met_0 : List UInt8 := dkwX0_met_0 ++ []
theorem dksX0_met_0 : cX0_met.data.toList.drop 0 = dktX0_met_0 := by decide +kernel
theorem dX0_met_0 : decode cX0_met 0 = .ok (.aload_n 3, 1) := dk_45 (dk_at dksX0_met_0 0 rfl rfl)
theorem dX0_met_1 : decode cX0_met 1 = .ok (.iconst 0, 1) := dk_3 (dk_at dksX0_met_0 1 rfl rfl)
theorem dX0_met_2 : decode cX0_met 2 = .ok (.aload_n 0, 1) := dk_42 (dk_at dksX0_met_0 2 rfl rfl)
theorem dX0_met_3 : decode cX0_met 3 = .ok (.iload_n 1, 1) := dk_27 (dk_at dksX0_met_0 3 rfl rfl)
theorem dX0_met_4 : decode cX0_met 4 = .ok (.iload_n 2, 1) := dk_28 (dk_at dksX0_met_0 4 rfl rfl)
theorem dX0_met_5 : decode cX0_met 5 = .ok (.invokevirtual 40, 3) := dk_182 0 40 (dk_at dksX0_met_0 5 rfl rfl)
theorem dX0_met_8 : decode cX0_met 8 = .ok (.i2l, 1) := dk_133 (dk_at dksX0_met_0 8 rfl rfl)
theorem dX0_met_9 : decode cX0_met 9 = .ok (.lastore, 1) := dk_80 (dk_at dksX0_met_0 9 rfl rfl)
theorem dX0_met_10 : decode cX0_met 10 = .ok (.goto 11, 3) := dk_167 0 11 (dk_at dksX0_met_0 10 rfl rfl)
theorem dX0_met_13 : decode cX0_met 13 = .ok (.astore 4, 2) := dk_58 4 (dk_at dksX0_met_0 13 rfl rfl)
theorem dX0_met_15 : decode cX0_met 15 = .ok (.iconst 1, 1) := dk_4 (dk_at dksX0_met_0 15 rfl rfl)
theorem dX0_met_16 : decode cX0_met 16 = .ok (.ireturn, 1) := dk_172 (dk_at dksX0_met_0 16 rfl rfl)
theorem dX0_met_17 : decode cX0_met 17 = .ok (.astore 4, 2) := dk_58 4 (dk_at dksX0_met_0 17 rfl rfl)
theorem dX0_met_19 : decode cX0_met 19 = .ok (.iconst 2, 1) := dk_5 (dk_at dksX0_met_0 19 rfl rfl)
theorem dX0_met_20 : decode cX0_met 20 = .ok (.ireturn, 1) := dk_172 (dk_at dksX0_met_0 20 rfl rfl)
theorem dX0_met_21 : decode cX0_met 21 = .ok (.iconst 0, 1) := dk_3 (dk_at dksX0_met_0 21 rfl rfl)
theorem dX0_met_22 : decode cX0_met 22 = .ok (.ireturn, 1) := dk_172 (dk_at dksX0_met_0 22 rfl rfl)
abbrev cX0_guilty : ByteArray := method_12_code
def yX0_guilty : MethodName := ⟨RX0, "guilty", "(LApartBench;II[J)I"⟩
def dkwX0_guilty_0 : List UInt8 := [45, 3, 42, 27, 28, 182, 0, 43, 133, 80, 167, 0, 7, 58, 4, 4, 172, 3, 172]
abbrev dktX0_guilty_0 : List UInt8 := dkwX0_guilty_0 ++ []
theorem dksX0_guilty_0 : cX0_guilty.data.toList.drop 0 = dktX0_guilty_0 := by decide +kernel
theorem dX0_guilty_0 : decode cX0_guilty 0 = .ok (.aload_n 3, 1) := dk_45 (dk_at dksX0_guilty_0 0 rfl rfl)
theorem dX0_guilty_1 : decode cX0_guilty 1 = .ok (.iconst 0, 1) := dk_3 (dk_at dksX0_guilty_0 1 rfl rfl)
theorem dX0_guilty_2 : decode cX0_guilty 2 = .ok (.aload_n 0, 1) := dk_42 (dk_at dksX0_guilty_0 2 rfl rfl)
theorem dX0_guilty_3 : decode cX0_guilty 3 = .ok (.iload_n 1, 1) := dk_27 (dk_at dksX0_guilty_0 3 rfl rfl)
theorem dX0_guilty_4 : decode cX0_guilty 4 = .ok (.iload_n 2, 1) := dk_28 (dk_at dksX0_guilty_0 4 rfl rfl)
theorem dX0_guilty_5 : decode cX0_guilty 5 = .ok (.invokevirtual 43, 3) := dk_182 0 43 (dk_at dksX0_guilty_0 5 rfl rfl)
theorem dX0_guilty_8 : decode cX0_guilty 8 = .ok (.i2l, 1) := dk_133 (dk_at dksX0_guilty_0 8 rfl rfl)
theorem dX0_guilty_9 : decode cX0_guilty 9 = .ok (.lastore, 1) := dk_80 (dk_at dksX0_guilty_0 9 rfl rfl)
theorem dX0_guilty_10 : decode cX0_guilty 10 = .ok (.goto 7, 3) := dk_167 0 7 (dk_at dksX0_guilty_0 10 rfl rfl)
theorem dX0_guilty_13 : decode cX0_guilty 13 = .ok (.astore 4, 2) := dk_58 4 (dk_at dksX0_guilty_0 13 rfl rfl)
theorem dX0_guilty_15 : decode cX0_guilty 15 = .ok (.iconst 1, 1) := dk_4 (dk_at dksX0_guilty_0 15 rfl rfl)
theorem dX0_guilty_16 : decode cX0_guilty 16 = .ok (.ireturn, 1) := dk_172 (dk_at dksX0_guilty_0 16 rfl rfl)
theorem dX0_guilty_17 : decode cX0_guilty 17 = .ok (.iconst 0, 1) := dk_3 (dk_at dksX0_guilty_0 17 rfl rfl)
theorem dX0_guilty_18 : decode cX0_guilty 18 = .ok (.ireturn, 1) := dk_172 (dk_at dksX0_guilty_0 18 rfl rfl)
abbrev cX0_news : ByteArray := method_13_code
def yX0_news : MethodName := ⟨RX0, "news", "(LApartBench;II[J)I"⟩
def dkwX0_news_0 : List UInt8 := [45, 3, 42, 27, 28, 182, 0, 46, 133, 80, 167, 0, 7, 58, 4, 4, 172, 3, 172]
abbrev dktX0_news_0 : List UInt8 := dkwX0_news_0 ++ []
theorem dksX0_news_0 : cX0_news.data.toList.drop 0 = dktX0_news_0 := by decide +kernel
theorem dX0_news_0 : decode cX0_news 0 = .ok (.aload_n 3, 1) := dk_45 (dk_at dksX0_news_0 0 rfl rfl)
theorem dX0_news_1 : decode cX0_news 1 = .ok (.iconst 0, 1) := dk_3 (dk_at dksX0_news_0 1 rfl rfl)
theorem dX0_news_2 : decode cX0_news 2 = .ok (.aload_n 0, 1) := dk_42 (dk_at dksX0_news_0 2 rfl rfl)
theorem dX0_news_3 : decode cX0_news 3 = .ok (.iload_n 1, 1) := dk_27 (dk_at dksX0_news_0 3 rfl rfl)
theorem dX0_news_4 : decode cX0_news 4 = .ok (.iload_n 2, 1) := dk_28 (dk_at dksX0_news_0 4 rfl rfl)
theorem dX0_news_5 : decode cX0_news 5 = .ok (.invokevirtual 46, 3) := dk_182 0 46 (dk_at dksX0_news_0 5 rfl rfl)
theorem dX0_news_8 : decode cX0_news 8 = .ok (.i2l, 1) := dk_133 (dk_at dksX0_news_0 8 rfl rfl)
theorem dX0_news_9 : decode cX0_news 9 = .ok (.lastore, 1) := dk_80 (dk_at dksX0_news_0 9 rfl rfl)
theorem dX0_news_10 : decode cX0_news 10 = .ok (.goto 7, 3) := dk_167 0 7 (dk_at dksX0_news_0 10 rfl rfl)
theorem dX0_news_13 : decode cX0_news 13 = .ok (.astore 4, 2) := dk_58 4 (dk_at dksX0_news_0 13 rfl rfl)
theorem dX0_news_15 : decode cX0_news 15 = .ok (.iconst 1, 1) := dk_4 (dk_at dksX0_news_0 15 rfl rfl)
theorem dX0_news_16 : decode cX0_news 16 = .ok (.ireturn, 1) := dk_172 (dk_at dksX0_news_0 16 rfl rfl)
theorem dX0_news_17 : decode cX0_news 17 = .ok (.iconst 0, 1) := dk_3 (dk_at dksX0_news_0 17 rfl rfl)
theorem dX0_news_18 : decode cX0_news 18 = .ok (.ireturn, 1) := dk_172 (dk_at dksX0_news_0 18 rfl rfl)
abbrev cX0_start : ByteArray := method_14_code
def yX0_start : MethodName := ⟨RX0, "start", "(LApartBench;II[J)I"⟩
def dkwX0_start_0 : List UInt8 := [45, 3, 42, 27, 28, 182, 0, 49, 133, 80, 167, 0, 7, 58, 4, 4, 172, 3, 172]
abbrev dktX0_start_0 : List UInt8 := dkwX0_start_0 ++ []
theorem dksX0_start_0 : cX0_start.data.toList.drop 0 = dktX0_start_0 := by decide +kernel
theorem dX0_start_0 : decode cX0_start 0 = .ok (.aload_n 3, 1) := dk_45 (dk_at dksX0_start_0 0 rfl rfl)
theorem dX0_start_1 : decode cX0_start 1 = .ok (.iconst 0, 1) := dk_3 (dk_at dksX0_start_0 1 rfl rfl)
theorem dX0_start_2 : decode cX0_start 2 = .ok (.aload_n 0, 1) := dk_42 (dk_at dksX0_start_0 2 rfl rfl)
theorem dX0_start_3 : decode cX0_start 3 = .ok (.iload_n 1, 1) := dk_27 (dk_at dksX0_start_0 3 rfl rfl)
theorem dX0_start_4 : decode cX0_start 4 = .ok (.iload_n 2, 1) := dk_28 (dk_at dksX0_start_0 4 rfl rfl)
theorem dX0_start_5 : decode cX0_start 5 = .ok (.invokevirtual 49, 3) := dk_182 0 49 (dk_at dksX0_start_0 5 rfl rfl)
theorem dX0_start_8 : decode cX0_start 8 = .ok (.i2l, 1) := dk_133 (dk_at dksX0_start_0 8 rfl rfl)
theorem dX0_start_9 : decode cX0_start 9 = .ok (.lastore, 1) := dk_80 (dk_at dksX0_start_0 9 rfl rfl)
theorem dX0_start_10 : decode cX0_start 10 = .ok (.goto 7, 3) := dk_167 0 7 (dk_at dksX0_start_0 10 rfl rfl)
theorem dX0_start_13 : decode cX0_start 13 = .ok (.astore 4, 2) := dk_58 4 (dk_at dksX0_start_0 13 rfl rfl)
theorem dX0_start_15 : decode cX0_start 15 = .ok (.iconst 1, 1) := dk_4 (dk_at dksX0_start_0 15 rfl rfl)
theorem dX0_start_16 : decode cX0_start 16 = .ok (.ireturn, 1) := dk_172 (dk_at dksX0_start_0 16 rfl rfl)
theorem dX0_start_17 : decode cX0_start 17 = .ok (.iconst 0, 1) := dk_3 (dk_at dksX0_start_0 17 rfl rfl)
theorem dX0_start_18 : decode cX0_start 18 = .ok (.ireturn, 1) := dk_172 (dk_at dksX0_start_0 18 rfl rfl)
abbrev cX0_inn : ByteArray := method_15_code
def yX0_inn : MethodName := ⟨RX0, "inn", "(LApartBench;IZ[J)I"⟩
def dkwX0_inn_1 : List UInt8 := [3, 172]
abbrev dktX0_inn_1 : List UInt8 := dkwX0_inn_1 ++ []
def dkwX0_inn_0 : List UInt8 := [45, 3, 42, 27, 28, 182, 0, 52, 153, 0, 7, 10, 167, 0, 4, 9, 80, 167, 0, 7, 58, 4, 4, 172]
abbrev dktX0_inn_0 : List UInt8 := dkwX0_inn_0 ++ dktX0_inn_1
theorem dksX0_inn_0 : cX0_inn.data.toList.drop 0 = dktX0_inn_0 := by decide +kernel
theorem dksX0_inn_1 : cX0_inn.data.toList.drop 24 = dktX0_inn_1 := dk_seg dksX0_inn_0 24 rfl rfl
theorem dX0_inn_0 : decode cX0_inn 0 = .ok (.aload_n 3, 1) := dk_45 (dk_at dksX0_inn_0 0 rfl rfl)
theorem dX0_inn_1 : decode cX0_inn 1 = .ok (.iconst 0, 1) := dk_3 (dk_at dksX0_inn_0 1 rfl rfl)
theorem dX0_inn_2 : decode cX0_inn 2 = .ok (.aload_n 0, 1) := dk_42 (dk_at dksX0_inn_0 2 rfl rfl)
theorem dX0_inn_3 : decode cX0_inn 3 = .ok (.iload_n 1, 1) := dk_27 (dk_at dksX0_inn_0 3 rfl rfl)
theorem dX0_inn_4 : decode cX0_inn 4 = .ok (.iload_n 2, 1) := dk_28 (dk_at dksX0_inn_0 4 rfl rfl)
theorem dX0_inn_5 : decode cX0_inn 5 = .ok (.invokevirtual 52, 3) := dk_182 0 52 (dk_at dksX0_inn_0 5 rfl rfl)
theorem dX0_inn_8 : decode cX0_inn 8 = .ok (.ifCond .eq 7, 3) := dk_153 0 7 (dk_at dksX0_inn_0 8 rfl rfl)
theorem dX0_inn_11 : decode cX0_inn 11 = .ok (.lconst 1, 1) := dk_10 (dk_at dksX0_inn_0 11 rfl rfl)
theorem dX0_inn_12 : decode cX0_inn 12 = .ok (.goto 4, 3) := dk_167 0 4 (dk_at dksX0_inn_0 12 rfl rfl)
theorem dX0_inn_15 : decode cX0_inn 15 = .ok (.lconst 0, 1) := dk_9 (dk_at dksX0_inn_0 15 rfl rfl)
theorem dX0_inn_16 : decode cX0_inn 16 = .ok (.lastore, 1) := dk_80 (dk_at dksX0_inn_0 16 rfl rfl)
theorem dX0_inn_17 : decode cX0_inn 17 = .ok (.goto 7, 3) := dk_167 0 7 (dk_at dksX0_inn_0 17 rfl rfl)
theorem dX0_inn_20 : decode cX0_inn 20 = .ok (.astore 4, 2) := dk_58 4 (dk_at dksX0_inn_0 20 rfl rfl)
theorem dX0_inn_22 : decode cX0_inn 22 = .ok (.iconst 1, 1) := dk_4 (dk_at dksX0_inn_0 22 rfl rfl)
theorem dX0_inn_23 : decode cX0_inn 23 = .ok (.ireturn, 1) := dk_172 (dk_at dksX0_inn_0 23 rfl rfl)
theorem dX0_inn_24 : decode cX0_inn 24 = .ok (.iconst 0, 1) := dk_3 (dk_at dksX0_inn_1 0 rfl rfl)
theorem dX0_inn_25 : decode cX0_inn 25 = .ok (.ireturn, 1) := dk_172 (dk_at dksX0_inn_1 1 rfl rfl)
abbrev cX0_word : ByteArray := method_16_code
def yX0_word : MethodName := ⟨RX0, "word", "(LApartBench;III[J)I"⟩
def dkwX0_word_0 : List UInt8 := [25, 4, 3, 42, 27, 28, 29, 182, 0, 56, 133, 80, 167, 0, 7, 58, 5, 4, 172, 3, 172]
abbrev dktX0_word_0 : List UInt8 := dkwX0_word_0 ++ []
theorem dksX0_word_0 : cX0_word.data.toList.drop 0 = dktX0_word_0 := by decide +kernel
theorem dX0_word_0 : decode cX0_word 0 = .ok (.aload 4, 2) := dk_25 4 (dk_at dksX0_word_0 0 rfl rfl)
theorem dX0_word_2 : decode cX0_word 2 = .ok (.iconst 0, 1) := dk_3 (dk_at dksX0_word_0 2 rfl rfl)
theorem dX0_word_3 : decode cX0_word 3 = .ok (.aload_n 0, 1) := dk_42 (dk_at dksX0_word_0 3 rfl rfl)
theorem dX0_word_4 : decode cX0_word 4 = .ok (.iload_n 1, 1) := dk_27 (dk_at dksX0_word_0 4 rfl rfl)
theorem dX0_word_5 : decode cX0_word 5 = .ok (.iload_n 2, 1) := dk_28 (dk_at dksX0_word_0 5 rfl rfl)
theorem dX0_word_6 : decode cX0_word 6 = .ok (.iload_n 3, 1) := dk_29 (dk_at dksX0_word_0 6 rfl rfl)
theorem dX0_word_7 : decode cX0_word 7 = .ok (.invokevirtual 56, 3) := dk_182 0 56 (dk_at dksX0_word_0 7 rfl rfl)
theorem dX0_word_10 : decode cX0_word 10 = .ok (.i2l, 1) := dk_133 (dk_at dksX0_word_0 10 rfl rfl)
theorem dX0_word_11 : decode cX0_word 11 = .ok (.lastore, 1) := dk_80 (dk_at dksX0_word_0 11 rfl rfl)
theorem dX0_word_12 : decode cX0_word 12 = .ok (.goto 7, 3) := dk_167 0 7 (dk_at dksX0_word_0 12 rfl rfl)
theorem dX0_word_15 : decode cX0_word 15 = .ok (.astore 5, 2) := dk_58 5 (dk_at dksX0_word_0 15 rfl rfl)
theorem dX0_word_17 : decode cX0_word 17 = .ok (.iconst 1, 1) := dk_4 (dk_at dksX0_word_0 17 rfl rfl)
theorem dX0_word_18 : decode cX0_word 18 = .ok (.ireturn, 1) := dk_172 (dk_at dksX0_word_0 18 rfl rfl)
theorem dX0_word_19 : decode cX0_word 19 = .ok (.iconst 0, 1) := dk_3 (dk_at dksX0_word_0 19 rfl rfl)
theorem dX0_word_20 : decode cX0_word 20 = .ok (.ireturn, 1) := dk_172 (dk_at dksX0_word_0 20 rfl rfl)
abbrev cX0_feast : ByteArray := method_17_code
def yX0_feast : MethodName := ⟨RX0, "feast", "(LApartBench;III[J)I"⟩
def dkwX0_feast_0 : List UInt8 := [25, 4, 3, 42, 27, 28, 29, 182, 0, 59, 133, 80, 167, 0, 7, 58, 5, 4, 172, 3, 172]
abbrev dktX0_feast_0 : List UInt8 := dkwX0_feast_0 ++ []
theorem dksX0_feast_0 : cX0_feast.data.toList.drop 0 = dktX0_feast_0 := by decide +kernel
theorem dX0_feast_0 : decode cX0_feast 0 = .ok (.aload 4, 2) := dk_25 4 (dk_at dksX0_feast_0 0 rfl rfl)
theorem dX0_feast_2 : decode cX0_feast 2 = .ok (.iconst 0, 1) := dk_3 (dk_at dksX0_feast_0 2 rfl rfl)
theorem dX0_feast_3 : decode cX0_feast 3 = .ok (.aload_n 0, 1) := dk_42 (dk_at dksX0_feast_0 3 rfl rfl)
theorem dX0_feast_4 : decode cX0_feast 4 = .ok (.iload_n 1, 1) := dk_27 (dk_at dksX0_feast_0 4 rfl rfl)
theorem dX0_feast_5 : decode cX0_feast 5 = .ok (.iload_n 2, 1) := dk_28 (dk_at dksX0_feast_0 5 rfl rfl)
theorem dX0_feast_6 : decode cX0_feast 6 = .ok (.iload_n 3, 1) := dk_29 (dk_at dksX0_feast_0 6 rfl rfl)
theorem dX0_feast_7 : decode cX0_feast 7 = .ok (.invokevirtual 59, 3) := dk_182 0 59 (dk_at dksX0_feast_0 7 rfl rfl)
theorem dX0_feast_10 : decode cX0_feast 10 = .ok (.i2l, 1) := dk_133 (dk_at dksX0_feast_0 10 rfl rfl)
theorem dX0_feast_11 : decode cX0_feast 11 = .ok (.lastore, 1) := dk_80 (dk_at dksX0_feast_0 11 rfl rfl)
theorem dX0_feast_12 : decode cX0_feast 12 = .ok (.goto 7, 3) := dk_167 0 7 (dk_at dksX0_feast_0 12 rfl rfl)
theorem dX0_feast_15 : decode cX0_feast 15 = .ok (.astore 5, 2) := dk_58 5 (dk_at dksX0_feast_0 15 rfl rfl)
theorem dX0_feast_17 : decode cX0_feast 17 = .ok (.iconst 1, 1) := dk_4 (dk_at dksX0_feast_0 17 rfl rfl)
theorem dX0_feast_18 : decode cX0_feast 18 = .ok (.ireturn, 1) := dk_172 (dk_at dksX0_feast_0 18 rfl rfl)
theorem dX0_feast_19 : decode cX0_feast 19 = .ok (.iconst 0, 1) := dk_3 (dk_at dksX0_feast_0 19 rfl rfl)
theorem dX0_feast_20 : decode cX0_feast 20 = .ok (.ireturn, 1) := dk_172 (dk_at dksX0_feast_0 20 rfl rfl)
abbrev cX0_flood : ByteArray := method_18_code
def yX0_flood : MethodName := ⟨RX0, "flood", "(LApartBench;III[J)I"⟩
def dkwX0_flood_0 : List UInt8 := [25, 4, 3, 42, 27, 28, 29, 182, 0, 62, 133, 80, 167, 0, 7, 58, 5, 4, 172, 3, 172]
abbrev dktX0_flood_0 : List UInt8 := dkwX0_flood_0 ++ []
theorem dksX0_flood_0 : cX0_flood.data.toList.drop 0 = dktX0_flood_0 := by decide +kernel
theorem dX0_flood_0 : decode cX0_flood 0 = .ok (.aload 4, 2) := dk_25 4 (dk_at dksX0_flood_0 0 rfl rfl)
theorem dX0_flood_2 : decode cX0_flood 2 = .ok (.iconst 0, 1) := dk_3 (dk_at dksX0_flood_0 2 rfl rfl)
theorem dX0_flood_3 : decode cX0_flood 3 = .ok (.aload_n 0, 1) := dk_42 (dk_at dksX0_flood_0 3 rfl rfl)
theorem dX0_flood_4 : decode cX0_flood 4 = .ok (.iload_n 1, 1) := dk_27 (dk_at dksX0_flood_0 4 rfl rfl)
theorem dX0_flood_5 : decode cX0_flood 5 = .ok (.iload_n 2, 1) := dk_28 (dk_at dksX0_flood_0 5 rfl rfl)
theorem dX0_flood_6 : decode cX0_flood 6 = .ok (.iload_n 3, 1) := dk_29 (dk_at dksX0_flood_0 6 rfl rfl)
theorem dX0_flood_7 : decode cX0_flood 7 = .ok (.invokevirtual 62, 3) := dk_182 0 62 (dk_at dksX0_flood_0 7 rfl rfl)
theorem dX0_flood_10 : decode cX0_flood 10 = .ok (.i2l, 1) := dk_133 (dk_at dksX0_flood_0 10 rfl rfl)
theorem dX0_flood_11 : decode cX0_flood 11 = .ok (.lastore, 1) := dk_80 (dk_at dksX0_flood_0 11 rfl rfl)
theorem dX0_flood_12 : decode cX0_flood 12 = .ok (.goto 7, 3) := dk_167 0 7 (dk_at dksX0_flood_0 12 rfl rfl)
theorem dX0_flood_15 : decode cX0_flood 15 = .ok (.astore 5, 2) := dk_58 5 (dk_at dksX0_flood_0 15 rfl rfl)
theorem dX0_flood_17 : decode cX0_flood 17 = .ok (.iconst 1, 1) := dk_4 (dk_at dksX0_flood_0 17 rfl rfl)
theorem dX0_flood_18 : decode cX0_flood 18 = .ok (.ireturn, 1) := dk_172 (dk_at dksX0_flood_0 18 rfl rfl)
theorem dX0_flood_19 : decode cX0_flood 19 = .ok (.iconst 0, 1) := dk_3 (dk_at dksX0_flood_0 19 rfl rfl)
theorem dX0_flood_20 : decode cX0_flood 20 = .ok (.ireturn, 1) := dk_172 (dk_at dksX0_flood_0 20 rfl rfl)
abbrev cX0_burn : ByteArray := method_19_code
def yX0_burn : MethodName := ⟨RX0, "burn", "(LApartBench;I[J)I"⟩
def dkwX0_burn_0 : List UInt8 := [44, 3, 42, 27, 182, 0, 65, 133, 80, 167, 0, 6, 78, 4, 172, 3, 172]
abbrev dktX0_burn_0 : List UInt8 := dkwX0_burn_0 ++ []
theorem dksX0_burn_0 : cX0_burn.data.toList.drop 0 = dktX0_burn_0 := by decide +kernel
theorem dX0_burn_0 : decode cX0_burn 0 = .ok (.aload_n 2, 1) := dk_44 (dk_at dksX0_burn_0 0 rfl rfl)
theorem dX0_burn_1 : decode cX0_burn 1 = .ok (.iconst 0, 1) := dk_3 (dk_at dksX0_burn_0 1 rfl rfl)
theorem dX0_burn_2 : decode cX0_burn 2 = .ok (.aload_n 0, 1) := dk_42 (dk_at dksX0_burn_0 2 rfl rfl)
theorem dX0_burn_3 : decode cX0_burn 3 = .ok (.iload_n 1, 1) := dk_27 (dk_at dksX0_burn_0 3 rfl rfl)
theorem dX0_burn_4 : decode cX0_burn 4 = .ok (.invokevirtual 65, 3) := dk_182 0 65 (dk_at dksX0_burn_0 4 rfl rfl)
theorem dX0_burn_7 : decode cX0_burn 7 = .ok (.i2l, 1) := dk_133 (dk_at dksX0_burn_0 7 rfl rfl)
theorem dX0_burn_8 : decode cX0_burn 8 = .ok (.lastore, 1) := dk_80 (dk_at dksX0_burn_0 8 rfl rfl)
theorem dX0_burn_9 : decode cX0_burn 9 = .ok (.goto 6, 3) := dk_167 0 6 (dk_at dksX0_burn_0 9 rfl rfl)
theorem dX0_burn_12 : decode cX0_burn 12 = .ok (.astore_n 3, 1) := dk_78 (dk_at dksX0_burn_0 12 rfl rfl)
theorem dX0_burn_13 : decode cX0_burn 13 = .ok (.iconst 1, 1) := dk_4 (dk_at dksX0_burn_0 13 rfl rfl)
theorem dX0_burn_14 : decode cX0_burn 14 = .ok (.ireturn, 1) := dk_172 (dk_at dksX0_burn_0 14 rfl rfl)
theorem dX0_burn_15 : decode cX0_burn 15 = .ok (.iconst 0, 1) := dk_3 (dk_at dksX0_burn_0 15 rfl rfl)
theorem dX0_burn_16 : decode cX0_burn 16 = .ok (.ireturn, 1) := dk_172 (dk_at dksX0_burn_0 16 rfl rfl)
abbrev cX0_when : ByteArray := method_20_code
def yX0_when : MethodName := ⟨RX0, "when", "(LApartBench;II[J)I"⟩
def dkwX0_when_0 : List UInt8 := [45, 3, 42, 27, 28, 182, 0, 68, 133, 80, 167, 0, 7, 58, 4, 4, 172, 3, 172]
abbrev dktX0_when_0 : List UInt8 := dkwX0_when_0 ++ []
theorem dksX0_when_0 : cX0_when.data.toList.drop 0 = dktX0_when_0 := by decide +kernel
theorem dX0_when_0 : decode cX0_when 0 = .ok (.aload_n 3, 1) := dk_45 (dk_at dksX0_when_0 0 rfl rfl)
theorem dX0_when_1 : decode cX0_when 1 = .ok (.iconst 0, 1) := dk_3 (dk_at dksX0_when_0 1 rfl rfl)
theorem dX0_when_2 : decode cX0_when 2 = .ok (.aload_n 0, 1) := dk_42 (dk_at dksX0_when_0 2 rfl rfl)
theorem dX0_when_3 : decode cX0_when 3 = .ok (.iload_n 1, 1) := dk_27 (dk_at dksX0_when_0 3 rfl rfl)
theorem dX0_when_4 : decode cX0_when 4 = .ok (.iload_n 2, 1) := dk_28 (dk_at dksX0_when_0 4 rfl rfl)
theorem dX0_when_5 : decode cX0_when 5 = .ok (.invokevirtual 68, 3) := dk_182 0 68 (dk_at dksX0_when_0 5 rfl rfl)
theorem dX0_when_8 : decode cX0_when 8 = .ok (.i2l, 1) := dk_133 (dk_at dksX0_when_0 8 rfl rfl)
theorem dX0_when_9 : decode cX0_when 9 = .ok (.lastore, 1) := dk_80 (dk_at dksX0_when_0 9 rfl rfl)
theorem dX0_when_10 : decode cX0_when 10 = .ok (.goto 7, 3) := dk_167 0 7 (dk_at dksX0_when_0 10 rfl rfl)
theorem dX0_when_13 : decode cX0_when 13 = .ok (.astore 4, 2) := dk_58 4 (dk_at dksX0_when_0 13 rfl rfl)
theorem dX0_when_15 : decode cX0_when 15 = .ok (.iconst 1, 1) := dk_4 (dk_at dksX0_when_0 15 rfl rfl)
theorem dX0_when_16 : decode cX0_when 16 = .ok (.ireturn, 1) := dk_172 (dk_at dksX0_when_0 16 rfl rfl)
theorem dX0_when_17 : decode cX0_when 17 = .ok (.iconst 0, 1) := dk_3 (dk_at dksX0_when_0 17 rfl rfl)
theorem dX0_when_18 : decode cX0_when 18 = .ok (.ireturn, 1) := dk_172 (dk_at dksX0_when_0 18 rfl rfl)
abbrev cX0_round : ByteArray := method_21_code
def yX0_round : MethodName := ⟨RX0, "round", "(LApartBench;I[J)I"⟩
def dkwX0_round_0 : List UInt8 := [44, 3, 42, 27, 182, 0, 71, 133, 80, 167, 0, 6, 78, 4, 172, 3, 172]
abbrev dktX0_round_0 : List UInt8 := dkwX0_round_0 ++ []
theorem dksX0_round_0 : cX0_round.data.toList.drop 0 = dktX0_round_0 := by decide +kernel
theorem dX0_round_0 : decode cX0_round 0 = .ok (.aload_n 2, 1) := dk_44 (dk_at dksX0_round_0 0 rfl rfl)
theorem dX0_round_1 : decode cX0_round 1 = .ok (.iconst 0, 1) := dk_3 (dk_at dksX0_round_0 1 rfl rfl)
theorem dX0_round_2 : decode cX0_round 2 = .ok (.aload_n 0, 1) := dk_42 (dk_at dksX0_round_0 2 rfl rfl)
theorem dX0_round_3 : decode cX0_round 3 = .ok (.iload_n 1, 1) := dk_27 (dk_at dksX0_round_0 3 rfl rfl)
theorem dX0_round_4 : decode cX0_round 4 = .ok (.invokevirtual 71, 3) := dk_182 0 71 (dk_at dksX0_round_0 4 rfl rfl)
theorem dX0_round_7 : decode cX0_round 7 = .ok (.i2l, 1) := dk_133 (dk_at dksX0_round_0 7 rfl rfl)
theorem dX0_round_8 : decode cX0_round 8 = .ok (.lastore, 1) := dk_80 (dk_at dksX0_round_0 8 rfl rfl)
theorem dX0_round_9 : decode cX0_round 9 = .ok (.goto 6, 3) := dk_167 0 6 (dk_at dksX0_round_0 9 rfl rfl)
theorem dX0_round_12 : decode cX0_round 12 = .ok (.astore_n 3, 1) := dk_78 (dk_at dksX0_round_0 12 rfl rfl)
theorem dX0_round_13 : decode cX0_round 13 = .ok (.iconst 1, 1) := dk_4 (dk_at dksX0_round_0 13 rfl rfl)
theorem dX0_round_14 : decode cX0_round 14 = .ok (.ireturn, 1) := dk_172 (dk_at dksX0_round_0 14 rfl rfl)
theorem dX0_round_15 : decode cX0_round 15 = .ok (.iconst 0, 1) := dk_3 (dk_at dksX0_round_0 15 rfl rfl)
theorem dX0_round_16 : decode cX0_round 16 = .ok (.ireturn, 1) := dk_172 (dk_at dksX0_round_0 16 rfl rfl)
abbrev cX0_free : ByteArray := method_22_code
def yX0_free : MethodName := ⟨RX0, "free", "(LApartBench;II[J)I"⟩
def dkwX0_free_0 : List UInt8 := [45, 3, 42, 27, 28, 182, 0, 74, 133, 80, 167, 0, 7, 58, 4, 4, 172, 3, 172]
abbrev dktX0_free_0 : List UInt8 := dkwX0_free_0 ++ []
theorem dksX0_free_0 : cX0_free.data.toList.drop 0 = dktX0_free_0 := by decide +kernel
theorem dX0_free_0 : decode cX0_free 0 = .ok (.aload_n 3, 1) := dk_45 (dk_at dksX0_free_0 0 rfl rfl)
theorem dX0_free_1 : decode cX0_free 1 = .ok (.iconst 0, 1) := dk_3 (dk_at dksX0_free_0 1 rfl rfl)
theorem dX0_free_2 : decode cX0_free 2 = .ok (.aload_n 0, 1) := dk_42 (dk_at dksX0_free_0 2 rfl rfl)
theorem dX0_free_3 : decode cX0_free 3 = .ok (.iload_n 1, 1) := dk_27 (dk_at dksX0_free_0 3 rfl rfl)
theorem dX0_free_4 : decode cX0_free 4 = .ok (.iload_n 2, 1) := dk_28 (dk_at dksX0_free_0 4 rfl rfl)
theorem dX0_free_5 : decode cX0_free 5 = .ok (.invokevirtual 74, 3) := dk_182 0 74 (dk_at dksX0_free_0 5 rfl rfl)
theorem dX0_free_8 : decode cX0_free 8 = .ok (.i2l, 1) := dk_133 (dk_at dksX0_free_0 8 rfl rfl)
theorem dX0_free_9 : decode cX0_free 9 = .ok (.lastore, 1) := dk_80 (dk_at dksX0_free_0 9 rfl rfl)
theorem dX0_free_10 : decode cX0_free 10 = .ok (.goto 7, 3) := dk_167 0 7 (dk_at dksX0_free_0 10 rfl rfl)
theorem dX0_free_13 : decode cX0_free 13 = .ok (.astore 4, 2) := dk_58 4 (dk_at dksX0_free_0 13 rfl rfl)
theorem dX0_free_15 : decode cX0_free 15 = .ok (.iconst 1, 1) := dk_4 (dk_at dksX0_free_0 15 rfl rfl)
theorem dX0_free_16 : decode cX0_free 16 = .ok (.ireturn, 1) := dk_172 (dk_at dksX0_free_0 16 rfl rfl)
theorem dX0_free_17 : decode cX0_free 17 = .ok (.iconst 0, 1) := dk_3 (dk_at dksX0_free_0 17 rfl rfl)
theorem dX0_free_18 : decode cX0_free 18 = .ok (.ireturn, 1) := dk_172 (dk_at dksX0_free_0 18 rfl rfl)
abbrev cX0_mercy : ByteArray := method_23_code
def yX0_mercy : MethodName := ⟨RX0, "mercy", "(LApartBench;I[J)I"⟩
def dkwX0_mercy_0 : List UInt8 := [44, 3, 42, 27, 182, 0, 77, 133, 80, 167, 0, 6, 78, 4, 172, 3, 172]
abbrev dktX0_mercy_0 : List UInt8 := dkwX0_mercy_0 ++ []
theorem dksX0_mercy_0 : cX0_mercy.data.toList.drop 0 = dktX0_mercy_0 := by decide +kernel
theorem dX0_mercy_0 : decode cX0_mercy 0 = .ok (.aload_n 2, 1) := dk_44 (dk_at dksX0_mercy_0 0 rfl rfl)
theorem dX0_mercy_1 : decode cX0_mercy 1 = .ok (.iconst 0, 1) := dk_3 (dk_at dksX0_mercy_0 1 rfl rfl)
theorem dX0_mercy_2 : decode cX0_mercy 2 = .ok (.aload_n 0, 1) := dk_42 (dk_at dksX0_mercy_0 2 rfl rfl)
theorem dX0_mercy_3 : decode cX0_mercy 3 = .ok (.iload_n 1, 1) := dk_27 (dk_at dksX0_mercy_0 3 rfl rfl)
theorem dX0_mercy_4 : decode cX0_mercy 4 = .ok (.invokevirtual 77, 3) := dk_182 0 77 (dk_at dksX0_mercy_0 4 rfl rfl)
theorem dX0_mercy_7 : decode cX0_mercy 7 = .ok (.i2l, 1) := dk_133 (dk_at dksX0_mercy_0 7 rfl rfl)
theorem dX0_mercy_8 : decode cX0_mercy 8 = .ok (.lastore, 1) := dk_80 (dk_at dksX0_mercy_0 8 rfl rfl)
theorem dX0_mercy_9 : decode cX0_mercy 9 = .ok (.goto 6, 3) := dk_167 0 6 (dk_at dksX0_mercy_0 9 rfl rfl)
theorem dX0_mercy_12 : decode cX0_mercy 12 = .ok (.astore_n 3, 1) := dk_78 (dk_at dksX0_mercy_0 12 rfl rfl)
theorem dX0_mercy_13 : decode cX0_mercy 13 = .ok (.iconst 1, 1) := dk_4 (dk_at dksX0_mercy_0 13 rfl rfl)
theorem dX0_mercy_14 : decode cX0_mercy 14 = .ok (.ireturn, 1) := dk_172 (dk_at dksX0_mercy_0 14 rfl rfl)
theorem dX0_mercy_15 : decode cX0_mercy 15 = .ok (.iconst 0, 1) := dk_3 (dk_at dksX0_mercy_0 15 rfl rfl)
theorem dX0_mercy_16 : decode cX0_mercy 16 = .ok (.ireturn, 1) := dk_172 (dk_at dksX0_mercy_0 16 rfl rfl)
abbrev cX0_deaf : ByteArray := method_24_code
def yX0_deaf : MethodName := ⟨RX0, "deaf", "(LApartBench;I[J)I"⟩
def dkwX0_deaf_0 : List UInt8 := [44, 3, 42, 27, 182, 0, 80, 133, 80, 167, 0, 6, 78, 4, 172, 3, 172]
abbrev dktX0_deaf_0 : List UInt8 := dkwX0_deaf_0 ++ []
theorem dksX0_deaf_0 : cX0_deaf.data.toList.drop 0 = dktX0_deaf_0 := by decide +kernel
theorem dX0_deaf_0 : decode cX0_deaf 0 = .ok (.aload_n 2, 1) := dk_44 (dk_at dksX0_deaf_0 0 rfl rfl)
theorem dX0_deaf_1 : decode cX0_deaf 1 = .ok (.iconst 0, 1) := dk_3 (dk_at dksX0_deaf_0 1 rfl rfl)
theorem dX0_deaf_2 : decode cX0_deaf 2 = .ok (.aload_n 0, 1) := dk_42 (dk_at dksX0_deaf_0 2 rfl rfl)
theorem dX0_deaf_3 : decode cX0_deaf 3 = .ok (.iload_n 1, 1) := dk_27 (dk_at dksX0_deaf_0 3 rfl rfl)
theorem dX0_deaf_4 : decode cX0_deaf 4 = .ok (.invokevirtual 80, 3) := dk_182 0 80 (dk_at dksX0_deaf_0 4 rfl rfl)
theorem dX0_deaf_7 : decode cX0_deaf 7 = .ok (.i2l, 1) := dk_133 (dk_at dksX0_deaf_0 7 rfl rfl)
theorem dX0_deaf_8 : decode cX0_deaf 8 = .ok (.lastore, 1) := dk_80 (dk_at dksX0_deaf_0 8 rfl rfl)
theorem dX0_deaf_9 : decode cX0_deaf 9 = .ok (.goto 6, 3) := dk_167 0 6 (dk_at dksX0_deaf_0 9 rfl rfl)
theorem dX0_deaf_12 : decode cX0_deaf 12 = .ok (.astore_n 3, 1) := dk_78 (dk_at dksX0_deaf_0 12 rfl rfl)
theorem dX0_deaf_13 : decode cX0_deaf 13 = .ok (.iconst 1, 1) := dk_4 (dk_at dksX0_deaf_0 13 rfl rfl)
theorem dX0_deaf_14 : decode cX0_deaf 14 = .ok (.ireturn, 1) := dk_172 (dk_at dksX0_deaf_0 14 rfl rfl)
theorem dX0_deaf_15 : decode cX0_deaf 15 = .ok (.iconst 0, 1) := dk_3 (dk_at dksX0_deaf_0 15 rfl rfl)
theorem dX0_deaf_16 : decode cX0_deaf 16 = .ok (.ireturn, 1) := dk_172 (dk_at dksX0_deaf_0 16 rfl rfl)
abbrev cX0_soonest : ByteArray := method_25_code
def yX0_soonest : MethodName := ⟨RX0, "soonest", "(LApartBench;I[J)I"⟩
def dkwX0_soonest_0 : List UInt8 := [44, 3, 42, 27, 182, 0, 83, 133, 80, 167, 0, 6, 78, 4, 172, 3, 172]
abbrev dktX0_soonest_0 : List UInt8 := dkwX0_soonest_0 ++ []
theorem dksX0_soonest_0 : cX0_soonest.data.toList.drop 0 = dktX0_soonest_0 := by decide +kernel
theorem dX0_soonest_0 : decode cX0_soonest 0 = .ok (.aload_n 2, 1) := dk_44 (dk_at dksX0_soonest_0 0 rfl rfl)
theorem dX0_soonest_1 : decode cX0_soonest 1 = .ok (.iconst 0, 1) := dk_3 (dk_at dksX0_soonest_0 1 rfl rfl)
theorem dX0_soonest_2 : decode cX0_soonest 2 = .ok (.aload_n 0, 1) := dk_42 (dk_at dksX0_soonest_0 2 rfl rfl)
theorem dX0_soonest_3 : decode cX0_soonest 3 = .ok (.iload_n 1, 1) := dk_27 (dk_at dksX0_soonest_0 3 rfl rfl)
theorem dX0_soonest_4 : decode cX0_soonest 4 = .ok (.invokevirtual 83, 3) := dk_182 0 83 (dk_at dksX0_soonest_0 4 rfl rfl)
theorem dX0_soonest_7 : decode cX0_soonest 7 = .ok (.i2l, 1) := dk_133 (dk_at dksX0_soonest_0 7 rfl rfl)
theorem dX0_soonest_8 : decode cX0_soonest 8 = .ok (.lastore, 1) := dk_80 (dk_at dksX0_soonest_0 8 rfl rfl)
theorem dX0_soonest_9 : decode cX0_soonest 9 = .ok (.goto 6, 3) := dk_167 0 6 (dk_at dksX0_soonest_0 9 rfl rfl)
theorem dX0_soonest_12 : decode cX0_soonest 12 = .ok (.astore_n 3, 1) := dk_78 (dk_at dksX0_soonest_0 12 rfl rfl)
theorem dX0_soonest_13 : decode cX0_soonest 13 = .ok (.iconst 1, 1) := dk_4 (dk_at dksX0_soonest_0 13 rfl rfl)
theorem dX0_soonest_14 : decode cX0_soonest 14 = .ok (.ireturn, 1) := dk_172 (dk_at dksX0_soonest_0 14 rfl rfl)
theorem dX0_soonest_15 : decode cX0_soonest 15 = .ok (.iconst 0, 1) := dk_3 (dk_at dksX0_soonest_0 15 rfl rfl)
theorem dX0_soonest_16 : decode cX0_soonest 16 = .ok (.ireturn, 1) := dk_172 (dk_at dksX0_soonest_0 16 rfl rfl)
abbrev cX0_see : ByteArray := method_26_code
def yX0_see : MethodName := ⟨RX0, "see", "(LApartBench;IIZ[J)I"⟩
def dkwX0_see_0 : List UInt8 := [25, 4, 3, 42, 27, 28, 29, 182, 0, 86, 133, 80, 167, 0, 7, 58, 5, 4, 172, 3, 172]
abbrev dktX0_see_0 : List UInt8 := dkwX0_see_0 ++ []
theorem dksX0_see_0 : cX0_see.data.toList.drop 0 = dktX0_see_0 := by decide +kernel
theorem dX0_see_0 : decode cX0_see 0 = .ok (.aload 4, 2) := dk_25 4 (dk_at dksX0_see_0 0 rfl rfl)
theorem dX0_see_2 : decode cX0_see 2 = .ok (.iconst 0, 1) := dk_3 (dk_at dksX0_see_0 2 rfl rfl)
theorem dX0_see_3 : decode cX0_see 3 = .ok (.aload_n 0, 1) := dk_42 (dk_at dksX0_see_0 3 rfl rfl)
theorem dX0_see_4 : decode cX0_see 4 = .ok (.iload_n 1, 1) := dk_27 (dk_at dksX0_see_0 4 rfl rfl)
theorem dX0_see_5 : decode cX0_see 5 = .ok (.iload_n 2, 1) := dk_28 (dk_at dksX0_see_0 5 rfl rfl)
theorem dX0_see_6 : decode cX0_see 6 = .ok (.iload_n 3, 1) := dk_29 (dk_at dksX0_see_0 6 rfl rfl)
theorem dX0_see_7 : decode cX0_see 7 = .ok (.invokevirtual 86, 3) := dk_182 0 86 (dk_at dksX0_see_0 7 rfl rfl)
theorem dX0_see_10 : decode cX0_see 10 = .ok (.i2l, 1) := dk_133 (dk_at dksX0_see_0 10 rfl rfl)
theorem dX0_see_11 : decode cX0_see 11 = .ok (.lastore, 1) := dk_80 (dk_at dksX0_see_0 11 rfl rfl)
theorem dX0_see_12 : decode cX0_see 12 = .ok (.goto 7, 3) := dk_167 0 7 (dk_at dksX0_see_0 12 rfl rfl)
theorem dX0_see_15 : decode cX0_see 15 = .ok (.astore 5, 2) := dk_58 5 (dk_at dksX0_see_0 15 rfl rfl)
theorem dX0_see_17 : decode cX0_see 17 = .ok (.iconst 1, 1) := dk_4 (dk_at dksX0_see_0 17 rfl rfl)
theorem dX0_see_18 : decode cX0_see 18 = .ok (.ireturn, 1) := dk_172 (dk_at dksX0_see_0 18 rfl rfl)
theorem dX0_see_19 : decode cX0_see 19 = .ok (.iconst 0, 1) := dk_3 (dk_at dksX0_see_0 19 rfl rfl)
theorem dX0_see_20 : decode cX0_see 20 = .ok (.ireturn, 1) := dk_172 (dk_at dksX0_see_0 20 rfl rfl)
abbrev cX0_sent : ByteArray := method_27_code
def yX0_sent : MethodName := ⟨RX0, "sent", "(LApartBench;II[J)I"⟩
def dkwX0_sent_0 : List UInt8 := [45, 3, 42, 27, 28, 182, 0, 90, 133, 80, 167, 0, 7, 58, 4, 4, 172, 3, 172]
abbrev dktX0_sent_0 : List UInt8 := dkwX0_sent_0 ++ []
theorem dksX0_sent_0 : cX0_sent.data.toList.drop 0 = dktX0_sent_0 := by decide +kernel
theorem dX0_sent_0 : decode cX0_sent 0 = .ok (.aload_n 3, 1) := dk_45 (dk_at dksX0_sent_0 0 rfl rfl)
theorem dX0_sent_1 : decode cX0_sent 1 = .ok (.iconst 0, 1) := dk_3 (dk_at dksX0_sent_0 1 rfl rfl)
theorem dX0_sent_2 : decode cX0_sent 2 = .ok (.aload_n 0, 1) := dk_42 (dk_at dksX0_sent_0 2 rfl rfl)
theorem dX0_sent_3 : decode cX0_sent 3 = .ok (.iload_n 1, 1) := dk_27 (dk_at dksX0_sent_0 3 rfl rfl)
theorem dX0_sent_4 : decode cX0_sent 4 = .ok (.iload_n 2, 1) := dk_28 (dk_at dksX0_sent_0 4 rfl rfl)
theorem dX0_sent_5 : decode cX0_sent 5 = .ok (.invokevirtual 90, 3) := dk_182 0 90 (dk_at dksX0_sent_0 5 rfl rfl)
theorem dX0_sent_8 : decode cX0_sent 8 = .ok (.i2l, 1) := dk_133 (dk_at dksX0_sent_0 8 rfl rfl)
theorem dX0_sent_9 : decode cX0_sent 9 = .ok (.lastore, 1) := dk_80 (dk_at dksX0_sent_0 9 rfl rfl)
theorem dX0_sent_10 : decode cX0_sent 10 = .ok (.goto 7, 3) := dk_167 0 7 (dk_at dksX0_sent_0 10 rfl rfl)
theorem dX0_sent_13 : decode cX0_sent 13 = .ok (.astore 4, 2) := dk_58 4 (dk_at dksX0_sent_0 13 rfl rfl)
theorem dX0_sent_15 : decode cX0_sent 15 = .ok (.iconst 1, 1) := dk_4 (dk_at dksX0_sent_0 15 rfl rfl)
theorem dX0_sent_16 : decode cX0_sent 16 = .ok (.ireturn, 1) := dk_172 (dk_at dksX0_sent_0 16 rfl rfl)
theorem dX0_sent_17 : decode cX0_sent 17 = .ok (.iconst 0, 1) := dk_3 (dk_at dksX0_sent_0 17 rfl rfl)
theorem dX0_sent_18 : decode cX0_sent 18 = .ok (.ireturn, 1) := dk_172 (dk_at dksX0_sent_0 18 rfl rfl)
abbrev cX0_game : ByteArray := method_28_code
def yX0_game : MethodName := ⟨RX0, "game", "(LApartBench;II[J)I"⟩
def dkwX0_game_0 : List UInt8 := [45, 3, 42, 27, 28, 182, 0, 93, 133, 80, 167, 0, 7, 58, 4, 4, 172, 3, 172]
abbrev dktX0_game_0 : List UInt8 := dkwX0_game_0 ++ []
theorem dksX0_game_0 : cX0_game.data.toList.drop 0 = dktX0_game_0 := by decide +kernel
theorem dX0_game_0 : decode cX0_game 0 = .ok (.aload_n 3, 1) := dk_45 (dk_at dksX0_game_0 0 rfl rfl)
theorem dX0_game_1 : decode cX0_game 1 = .ok (.iconst 0, 1) := dk_3 (dk_at dksX0_game_0 1 rfl rfl)
theorem dX0_game_2 : decode cX0_game 2 = .ok (.aload_n 0, 1) := dk_42 (dk_at dksX0_game_0 2 rfl rfl)
theorem dX0_game_3 : decode cX0_game 3 = .ok (.iload_n 1, 1) := dk_27 (dk_at dksX0_game_0 3 rfl rfl)
theorem dX0_game_4 : decode cX0_game 4 = .ok (.iload_n 2, 1) := dk_28 (dk_at dksX0_game_0 4 rfl rfl)
theorem dX0_game_5 : decode cX0_game 5 = .ok (.invokevirtual 93, 3) := dk_182 0 93 (dk_at dksX0_game_0 5 rfl rfl)
theorem dX0_game_8 : decode cX0_game 8 = .ok (.i2l, 1) := dk_133 (dk_at dksX0_game_0 8 rfl rfl)
theorem dX0_game_9 : decode cX0_game 9 = .ok (.lastore, 1) := dk_80 (dk_at dksX0_game_0 9 rfl rfl)
theorem dX0_game_10 : decode cX0_game 10 = .ok (.goto 7, 3) := dk_167 0 7 (dk_at dksX0_game_0 10 rfl rfl)
theorem dX0_game_13 : decode cX0_game 13 = .ok (.astore 4, 2) := dk_58 4 (dk_at dksX0_game_0 13 rfl rfl)
theorem dX0_game_15 : decode cX0_game 15 = .ok (.iconst 1, 1) := dk_4 (dk_at dksX0_game_0 15 rfl rfl)
theorem dX0_game_16 : decode cX0_game 16 = .ok (.ireturn, 1) := dk_172 (dk_at dksX0_game_0 16 rfl rfl)
theorem dX0_game_17 : decode cX0_game 17 = .ok (.iconst 0, 1) := dk_3 (dk_at dksX0_game_0 17 rfl rfl)
theorem dX0_game_18 : decode cX0_game 18 = .ok (.ireturn, 1) := dk_172 (dk_at dksX0_game_0 18 rfl rfl)
abbrev cX0_season : ByteArray := method_29_code
def yX0_season : MethodName := ⟨RX0, "season", "(LApartBench;III[J)I"⟩
def dkwX0_season_1 : List UInt8 := [172]
abbrev dktX0_season_1 : List UInt8 := dkwX0_season_1 ++ []
def dkwX0_season_0 : List UInt8 := [25, 4, 3, 42, 27, 28, 29, 182, 0, 96, 133, 80, 167, 0, 11, 58, 5, 4, 172, 58, 5, 5, 172, 3]
abbrev dktX0_season_0 : List UInt8 := dkwX0_season_0 ++ dktX0_season_1
theorem dksX0_season_0 : cX0_season.data.toList.drop 0 = dktX0_season_0 := by decide +kernel
theorem dksX0_season_1 : cX0_season.data.toList.drop 24 = dktX0_season_1 := dk_seg dksX0_season_0 24 rfl rfl
theorem dX0_season_0 : decode cX0_season 0 = .ok (.aload 4, 2) := dk_25 4 (dk_at dksX0_season_0 0 rfl rfl)
theorem dX0_season_2 : decode cX0_season 2 = .ok (.iconst 0, 1) := dk_3 (dk_at dksX0_season_0 2 rfl rfl)
theorem dX0_season_3 : decode cX0_season 3 = .ok (.aload_n 0, 1) := dk_42 (dk_at dksX0_season_0 3 rfl rfl)
theorem dX0_season_4 : decode cX0_season 4 = .ok (.iload_n 1, 1) := dk_27 (dk_at dksX0_season_0 4 rfl rfl)
theorem dX0_season_5 : decode cX0_season 5 = .ok (.iload_n 2, 1) := dk_28 (dk_at dksX0_season_0 5 rfl rfl)
theorem dX0_season_6 : decode cX0_season 6 = .ok (.iload_n 3, 1) := dk_29 (dk_at dksX0_season_0 6 rfl rfl)
theorem dX0_season_7 : decode cX0_season 7 = .ok (.invokevirtual 96, 3) := dk_182 0 96 (dk_at dksX0_season_0 7 rfl rfl)
theorem dX0_season_10 : decode cX0_season 10 = .ok (.i2l, 1) := dk_133 (dk_at dksX0_season_0 10 rfl rfl)
theorem dX0_season_11 : decode cX0_season 11 = .ok (.lastore, 1) := dk_80 (dk_at dksX0_season_0 11 rfl rfl)
theorem dX0_season_12 : decode cX0_season 12 = .ok (.goto 11, 3) := dk_167 0 11 (dk_at dksX0_season_0 12 rfl rfl)
theorem dX0_season_15 : decode cX0_season 15 = .ok (.astore 5, 2) := dk_58 5 (dk_at dksX0_season_0 15 rfl rfl)
theorem dX0_season_17 : decode cX0_season 17 = .ok (.iconst 1, 1) := dk_4 (dk_at dksX0_season_0 17 rfl rfl)
theorem dX0_season_18 : decode cX0_season 18 = .ok (.ireturn, 1) := dk_172 (dk_at dksX0_season_0 18 rfl rfl)
theorem dX0_season_19 : decode cX0_season 19 = .ok (.astore 5, 2) := dk_58 5 (dk_at dksX0_season_0 19 rfl rfl)
theorem dX0_season_21 : decode cX0_season 21 = .ok (.iconst 2, 1) := dk_5 (dk_at dksX0_season_0 21 rfl rfl)
theorem dX0_season_22 : decode cX0_season 22 = .ok (.ireturn, 1) := dk_172 (dk_at dksX0_season_0 22 rfl rfl)
theorem dX0_season_23 : decode cX0_season 23 = .ok (.iconst 0, 1) := dk_3 (dk_at dksX0_season_0 23 rfl rfl)
theorem dX0_season_24 : decode cX0_season 24 = .ok (.ireturn, 1) := dk_172 (dk_at dksX0_season_1 0 rfl rfl)
theorem q105 : (Jvm.Cond.initialized "ApartBenchLaw") ∈ lw_all := lw_g (lw_at lw_m1 0 rfl) rfl
theorem q147 : (Jvm.Cond.classLink "ApartBenchLaw" (8 : Nat) "ApartBench") ∈ lw_all := lw_g (lw_at lw_m1 42 rfl) rfl
theorem q149 : (Jvm.Cond.methodLink "ApartBenchLaw" (99 : Nat) ({ cls := "ApartBench", name := "<init>", desc := "()V" } : Jvm.MethodName)) ∈ lw_all := lw_g (lw_at lw_m1 44 rfl) rfl
theorem q844 : (Jvm.Cond.methodLink "ApartBenchLaw" (103 : Nat) ({ cls := "ApartBench", name := "feed", desc := "(IIIII)I" } : Jvm.MethodName)) ∈ lw_all := lw_g (lw_at lw_m4 19 rfl) rfl
theorem q852 : (Jvm.Cond.methodLink "ApartBenchLaw" (118 : Nat) ({ cls := "ApartBench", name := "fault", desc := "()I" } : Jvm.MethodName)) ∈ lw_all := lw_g (lw_at lw_m4 27 rfl) rfl
theorem q856 : (Jvm.Cond.methodLink "ApartBenchLaw" (170 : Nat) ({ cls := "ApartBench", name := "undo", desc := "()I" } : Jvm.MethodName)) ∈ lw_all := lw_g (lw_at lw_m4 31 rfl) rfl
theorem q866 : (Jvm.Cond.methodLink "ApartBenchLaw" (199 : Nat) ({ cls := "ApartBench", name := "forget", desc := "()I" } : Jvm.MethodName)) ∈ lw_all := lw_g (lw_at lw_m4 41 rfl) rfl
theorem q870 : (Jvm.Cond.methodLink "ApartBenchLaw" (212 : Nat) ({ cls := "ApartBench", name := "image", desc := "()V" } : Jvm.MethodName)) ∈ lw_all := lw_g (lw_at lw_m4 45 rfl) rfl
theorem q881 : (Jvm.Cond.methodLink "ApartBenchLaw" (216 : Nat) ({ cls := "ApartBench", name := "restore", desc := "()Z" } : Jvm.MethodName)) ∈ lw_all := lw_g (lw_at lw_m4 56 rfl) rfl
theorem q885 : (Jvm.Cond.methodLink "ApartBenchLaw" (108 : Nat) ({ cls := "ApartBenchLaw", name := "land", desc := "(LApartBench;I[J)I" } : Jvm.MethodName)) ∈ lw_all := lw_g (lw_at lw_m4 60 rfl) rfl
theorem q886 : (Jvm.Cond.static ({ cls := "ApartBenchLaw", name := "land", desc := "(LApartBench;I[J)I" } : Jvm.MethodName)) ∈ lw_all := lw_g (lw_at lw_m4 61 rfl) rfl
theorem q887 : (Jvm.Cond.codeWith ({ cls := "ApartBenchLaw", name := "land", desc := "(LApartBench;I[J)I" } : Jvm.MethodName) method_3_code (4 : Nat) (Option.some Jvm.ClassFile.FieldType.int) [((0 : Nat), (9 : Nat), (12 : Nat), (13 : Nat))]) ∈ lw_all := lw_g (lw_at lw_m4 62 rfl) rfl
theorem q888 : (Jvm.Cond.classLink "ApartBenchLaw" (13 : Nat) "java/lang/IllegalArgumentException") ∈ lw_all := lw_g (lw_at lw_m4 63 rfl) rfl
theorem q889 : (Jvm.Cond.methodLink "ApartBenchLaw" (7 : Nat) ({ cls := "ApartBench", name := "land", desc := "(I)I" } : Jvm.MethodName)) ∈ lw_all := lw_g (lw_at lw_m4 64 rfl) rfl
theorem q1251 : (Jvm.Cond.methodLink "ApartBenchLaw" (122 : Nat) ({ cls := "ApartBenchLaw", name := "count", desc := "(LApartBench;I[J)I" } : Jvm.MethodName)) ∈ lw_all := lw_g (lw_at lw_m5 186 rfl) rfl
theorem q1252 : (Jvm.Cond.static ({ cls := "ApartBenchLaw", name := "count", desc := "(LApartBench;I[J)I" } : Jvm.MethodName)) ∈ lw_all := lw_g (lw_at lw_m5 187 rfl) rfl
theorem q1253 : (Jvm.Cond.codeWith ({ cls := "ApartBenchLaw", name := "count", desc := "(LApartBench;I[J)I" } : Jvm.MethodName) method_4_code (4 : Nat) (Option.some Jvm.ClassFile.FieldType.int) [((0 : Nat), (9 : Nat), (12 : Nat), (18 : Nat))]) ∈ lw_all := lw_g (lw_at lw_m5 188 rfl) rfl
theorem q1254 : (Jvm.Cond.classLink "ApartBenchLaw" (18 : Nat) "java/util/NoSuchElementException") ∈ lw_all := lw_g (lw_at lw_m5 189 rfl) rfl
theorem q1255 : (Jvm.Cond.methodLink "ApartBenchLaw" (15 : Nat) ({ cls := "ApartBench", name := "count", desc := "(I)I" } : Jvm.MethodName)) ∈ lw_all := lw_g (lw_at lw_m5 190 rfl) rfl
theorem q1441 : (Jvm.Cond.methodLink "ApartBenchLaw" (125 : Nat) ({ cls := "ApartBenchLaw", name := "far", desc := "(LApartBench;III[J)I" } : Jvm.MethodName)) ∈ lw_all := lw_g (lw_at lw_m6 136 rfl) rfl
theorem q1442 : (Jvm.Cond.static ({ cls := "ApartBenchLaw", name := "far", desc := "(LApartBench;III[J)I" } : Jvm.MethodName)) ∈ lw_all := lw_g (lw_at lw_m6 137 rfl) rfl
theorem q1443 : (Jvm.Cond.codeWith ({ cls := "ApartBenchLaw", name := "far", desc := "(LApartBench;III[J)I" } : Jvm.MethodName) method_5_code (6 : Nat) (Option.some Jvm.ClassFile.FieldType.int) [((0 : Nat), (12 : Nat), (15 : Nat), (18 : Nat))]) ∈ lw_all := lw_g (lw_at lw_m6 138 rfl) rfl
theorem q1444 : (Jvm.Cond.methodLink "ApartBenchLaw" (20 : Nat) ({ cls := "ApartBench", name := "far", desc := "(III)I" } : Jvm.MethodName)) ∈ lw_all := lw_g (lw_at lw_m6 139 rfl) rfl
theorem q1454 : (Jvm.Cond.methodLink "ApartBenchLaw" (129 : Nat) ({ cls := "ApartBenchLaw", name := "judge", desc := "(LApartBench;II[J)I" } : Jvm.MethodName)) ∈ lw_all := lw_g (lw_at lw_m6 149 rfl) rfl
theorem q1455 : (Jvm.Cond.static ({ cls := "ApartBenchLaw", name := "judge", desc := "(LApartBench;II[J)I" } : Jvm.MethodName)) ∈ lw_all := lw_g (lw_at lw_m6 150 rfl) rfl
theorem q1456 : (Jvm.Cond.codeWith ({ cls := "ApartBenchLaw", name := "judge", desc := "(LApartBench;II[J)I" } : Jvm.MethodName) method_6_code (5 : Nat) (Option.some Jvm.ClassFile.FieldType.int) [((0 : Nat), (10 : Nat), (13 : Nat), (18 : Nat))]) ∈ lw_all := lw_g (lw_at lw_m6 151 rfl) rfl
theorem q1457 : (Jvm.Cond.methodLink "ApartBenchLaw" (24 : Nat) ({ cls := "ApartBench", name := "judge", desc := "(II)I" } : Jvm.MethodName)) ∈ lw_all := lw_g (lw_at lw_m6 152 rfl) rfl
theorem q1480 : (Jvm.Cond.methodLink "ApartBenchLaw" (133 : Nat) ({ cls := "ApartBenchLaw", name := "stop", desc := "(LApartBench;III[J)I" } : Jvm.MethodName)) ∈ lw_all := lw_g (lw_at lw_m6 175 rfl) rfl
theorem q1481 : (Jvm.Cond.static ({ cls := "ApartBenchLaw", name := "stop", desc := "(LApartBench;III[J)I" } : Jvm.MethodName)) ∈ lw_all := lw_g (lw_at lw_m6 176 rfl) rfl
theorem q1482 : (Jvm.Cond.codeWith ({ cls := "ApartBenchLaw", name := "stop", desc := "(LApartBench;III[J)I" } : Jvm.MethodName) method_7_code (6 : Nat) (Option.some Jvm.ClassFile.FieldType.int) [((0 : Nat), (12 : Nat), (15 : Nat), (18 : Nat))]) ∈ lw_all := lw_g (lw_at lw_m6 177 rfl) rfl
theorem q1483 : (Jvm.Cond.methodLink "ApartBenchLaw" (28 : Nat) ({ cls := "ApartBench", name := "stop", desc := "(III)I" } : Jvm.MethodName)) ∈ lw_all := lw_g (lw_at lw_m6 178 rfl) rfl
theorem q1487 : (Jvm.Cond.methodLink "ApartBenchLaw" (136 : Nat) ({ cls := "ApartBenchLaw", name := "where", desc := "(LApartBench;II[J)I" } : Jvm.MethodName)) ∈ lw_all := lw_g (lw_at lw_m6 182 rfl) rfl
theorem q1488 : (Jvm.Cond.static ({ cls := "ApartBenchLaw", name := "where", desc := "(LApartBench;II[J)I" } : Jvm.MethodName)) ∈ lw_all := lw_g (lw_at lw_m6 183 rfl) rfl
theorem q1489 : (Jvm.Cond.codeWith ({ cls := "ApartBenchLaw", name := "where", desc := "(LApartBench;II[J)I" } : Jvm.MethodName) method_8_code (5 : Nat) (Option.some Jvm.ClassFile.FieldType.int) [((0 : Nat), (10 : Nat), (13 : Nat), (18 : Nat))]) ∈ lw_all := lw_g (lw_at lw_m6 184 rfl) rfl
theorem q1490 : (Jvm.Cond.methodLink "ApartBenchLaw" (31 : Nat) ({ cls := "ApartBench", name := "where", desc := "(II)I" } : Jvm.MethodName)) ∈ lw_all := lw_g (lw_at lw_m6 185 rfl) rfl
theorem q1495 : (Jvm.Cond.methodLink "ApartBenchLaw" (139 : Nat) ({ cls := "ApartBenchLaw", name := "proof", desc := "(LApartBench;II[J)I" } : Jvm.MethodName)) ∈ lw_all := lw_g (lw_at lw_m6 190 rfl) rfl
theorem q1496 : (Jvm.Cond.static ({ cls := "ApartBenchLaw", name := "proof", desc := "(LApartBench;II[J)I" } : Jvm.MethodName)) ∈ lw_all := lw_g (lw_at lw_m6 191 rfl) rfl
theorem q1497 : (Jvm.Cond.codeWith ({ cls := "ApartBenchLaw", name := "proof", desc := "(LApartBench;II[J)I" } : Jvm.MethodName) method_9_code (5 : Nat) (Option.some Jvm.ClassFile.FieldType.int) [((0 : Nat), (10 : Nat), (13 : Nat), (18 : Nat))]) ∈ lw_all := lw_g (lw_at lw_m6 192 rfl) rfl
theorem q1498 : (Jvm.Cond.methodLink "ApartBenchLaw" (34 : Nat) ({ cls := "ApartBench", name := "proof", desc := "(II)I" } : Jvm.MethodName)) ∈ lw_all := lw_g (lw_at lw_m6 193 rfl) rfl
theorem q1507 : (Jvm.Cond.methodLink "ApartBenchLaw" (142 : Nat) ({ cls := "ApartBenchLaw", name := "said", desc := "(LApartBench;III[J)I" } : Jvm.MethodName)) ∈ lw_all := lw_g (lw_at lw_m6 202 rfl) rfl
theorem q1508 : (Jvm.Cond.static ({ cls := "ApartBenchLaw", name := "said", desc := "(LApartBench;III[J)I" } : Jvm.MethodName)) ∈ lw_all := lw_g (lw_at lw_m6 203 rfl) rfl
theorem q1509 : (Jvm.Cond.codeWith ({ cls := "ApartBenchLaw", name := "said", desc := "(LApartBench;III[J)I" } : Jvm.MethodName) method_10_code (6 : Nat) (Option.some Jvm.ClassFile.FieldType.int) [((0 : Nat), (12 : Nat), (15 : Nat), (18 : Nat))]) ∈ lw_all := lw_g (lw_at lw_m6 204 rfl) rfl
theorem q1510 : (Jvm.Cond.methodLink "ApartBenchLaw" (37 : Nat) ({ cls := "ApartBench", name := "said", desc := "(III)I" } : Jvm.MethodName)) ∈ lw_all := lw_g (lw_at lw_m6 205 rfl) rfl
theorem q1514 : (Jvm.Cond.methodLink "ApartBenchLaw" (145 : Nat) ({ cls := "ApartBenchLaw", name := "met", desc := "(LApartBench;II[J)I" } : Jvm.MethodName)) ∈ lw_all := lw_g (lw_at lw_m6 209 rfl) rfl
theorem q1515 : (Jvm.Cond.static ({ cls := "ApartBenchLaw", name := "met", desc := "(LApartBench;II[J)I" } : Jvm.MethodName)) ∈ lw_all := lw_g (lw_at lw_m6 210 rfl) rfl
theorem q1516 : (Jvm.Cond.codeWith ({ cls := "ApartBenchLaw", name := "met", desc := "(LApartBench;II[J)I" } : Jvm.MethodName) method_11_code (5 : Nat) (Option.some Jvm.ClassFile.FieldType.int) [((0 : Nat), (10 : Nat), (13 : Nat), (18 : Nat)), ((0 : Nat), (10 : Nat), (17 : Nat), (13 : Nat))]) ∈ lw_all := lw_g (lw_at lw_m6 211 rfl) rfl
theorem q1517 : (Jvm.Cond.methodLink "ApartBenchLaw" (40 : Nat) ({ cls := "ApartBench", name := "met", desc := "(II)I" } : Jvm.MethodName)) ∈ lw_all := lw_g (lw_at lw_m6 212 rfl) rfl
theorem q1521 : (Jvm.Cond.methodLink "ApartBenchLaw" (148 : Nat) ({ cls := "ApartBenchLaw", name := "guilty", desc := "(LApartBench;II[J)I" } : Jvm.MethodName)) ∈ lw_all := lw_g (lw_at lw_m6 216 rfl) rfl
theorem q1522 : (Jvm.Cond.static ({ cls := "ApartBenchLaw", name := "guilty", desc := "(LApartBench;II[J)I" } : Jvm.MethodName)) ∈ lw_all := lw_g (lw_at lw_m6 217 rfl) rfl
theorem q1523 : (Jvm.Cond.codeWith ({ cls := "ApartBenchLaw", name := "guilty", desc := "(LApartBench;II[J)I" } : Jvm.MethodName) method_12_code (5 : Nat) (Option.some Jvm.ClassFile.FieldType.int) [((0 : Nat), (10 : Nat), (13 : Nat), (18 : Nat))]) ∈ lw_all := lw_g (lw_at lw_m6 218 rfl) rfl
theorem q1524 : (Jvm.Cond.methodLink "ApartBenchLaw" (43 : Nat) ({ cls := "ApartBench", name := "guilty", desc := "(II)I" } : Jvm.MethodName)) ∈ lw_all := lw_g (lw_at lw_m6 219 rfl) rfl
theorem q1528 : (Jvm.Cond.methodLink "ApartBenchLaw" (151 : Nat) ({ cls := "ApartBenchLaw", name := "news", desc := "(LApartBench;II[J)I" } : Jvm.MethodName)) ∈ lw_all := lw_g (lw_at lw_m6 223 rfl) rfl
theorem q1529 : (Jvm.Cond.static ({ cls := "ApartBenchLaw", name := "news", desc := "(LApartBench;II[J)I" } : Jvm.MethodName)) ∈ lw_all := lw_g (lw_at lw_m6 224 rfl) rfl
theorem q1530 : (Jvm.Cond.codeWith ({ cls := "ApartBenchLaw", name := "news", desc := "(LApartBench;II[J)I" } : Jvm.MethodName) method_13_code (5 : Nat) (Option.some Jvm.ClassFile.FieldType.int) [((0 : Nat), (10 : Nat), (13 : Nat), (18 : Nat))]) ∈ lw_all := lw_g (lw_at lw_m6 225 rfl) rfl
theorem q1531 : (Jvm.Cond.methodLink "ApartBenchLaw" (46 : Nat) ({ cls := "ApartBench", name := "news", desc := "(II)I" } : Jvm.MethodName)) ∈ lw_all := lw_g (lw_at lw_m6 226 rfl) rfl
theorem q1536 : (Jvm.Cond.methodLink "ApartBenchLaw" (154 : Nat) ({ cls := "ApartBenchLaw", name := "start", desc := "(LApartBench;II[J)I" } : Jvm.MethodName)) ∈ lw_all := lw_g (lw_at lw_m6 231 rfl) rfl
theorem q1537 : (Jvm.Cond.static ({ cls := "ApartBenchLaw", name := "start", desc := "(LApartBench;II[J)I" } : Jvm.MethodName)) ∈ lw_all := lw_g (lw_at lw_m6 232 rfl) rfl
theorem q1538 : (Jvm.Cond.codeWith ({ cls := "ApartBenchLaw", name := "start", desc := "(LApartBench;II[J)I" } : Jvm.MethodName) method_14_code (5 : Nat) (Option.some Jvm.ClassFile.FieldType.int) [((0 : Nat), (10 : Nat), (13 : Nat), (18 : Nat))]) ∈ lw_all := lw_g (lw_at lw_m6 233 rfl) rfl
theorem q1539 : (Jvm.Cond.methodLink "ApartBenchLaw" (49 : Nat) ({ cls := "ApartBench", name := "start", desc := "(II)I" } : Jvm.MethodName)) ∈ lw_all := lw_g (lw_at lw_m6 234 rfl) rfl
theorem q1560 : (Jvm.Cond.methodLink "ApartBenchLaw" (157 : Nat) ({ cls := "ApartBenchLaw", name := "inn", desc := "(LApartBench;IZ[J)I" } : Jvm.MethodName)) ∈ lw_all := lw_g (lw_at lw_m7 15 rfl) rfl
theorem q1561 : (Jvm.Cond.static ({ cls := "ApartBenchLaw", name := "inn", desc := "(LApartBench;IZ[J)I" } : Jvm.MethodName)) ∈ lw_all := lw_g (lw_at lw_m7 16 rfl) rfl
theorem q1562 : (Jvm.Cond.codeWith ({ cls := "ApartBenchLaw", name := "inn", desc := "(LApartBench;IZ[J)I" } : Jvm.MethodName) method_15_code (5 : Nat) (Option.some Jvm.ClassFile.FieldType.int) [((0 : Nat), (17 : Nat), (20 : Nat), (18 : Nat))]) ∈ lw_all := lw_g (lw_at lw_m7 17 rfl) rfl
theorem q1563 : (Jvm.Cond.methodLink "ApartBenchLaw" (52 : Nat) ({ cls := "ApartBench", name := "inn", desc := "(IZ)Z" } : Jvm.MethodName)) ∈ lw_all := lw_g (lw_at lw_m7 18 rfl) rfl
theorem q1567 : (Jvm.Cond.methodLink "ApartBenchLaw" (161 : Nat) ({ cls := "ApartBenchLaw", name := "word", desc := "(LApartBench;III[J)I" } : Jvm.MethodName)) ∈ lw_all := lw_g (lw_at lw_m7 22 rfl) rfl
theorem q1568 : (Jvm.Cond.static ({ cls := "ApartBenchLaw", name := "word", desc := "(LApartBench;III[J)I" } : Jvm.MethodName)) ∈ lw_all := lw_g (lw_at lw_m7 23 rfl) rfl
theorem q1569 : (Jvm.Cond.codeWith ({ cls := "ApartBenchLaw", name := "word", desc := "(LApartBench;III[J)I" } : Jvm.MethodName) method_16_code (6 : Nat) (Option.some Jvm.ClassFile.FieldType.int) [((0 : Nat), (12 : Nat), (15 : Nat), (18 : Nat))]) ∈ lw_all := lw_g (lw_at lw_m7 24 rfl) rfl
theorem q1570 : (Jvm.Cond.methodLink "ApartBenchLaw" (56 : Nat) ({ cls := "ApartBench", name := "word", desc := "(III)I" } : Jvm.MethodName)) ∈ lw_all := lw_g (lw_at lw_m7 25 rfl) rfl
theorem q1581 : (Jvm.Cond.methodLink "ApartBenchLaw" (164 : Nat) ({ cls := "ApartBenchLaw", name := "feast", desc := "(LApartBench;III[J)I" } : Jvm.MethodName)) ∈ lw_all := lw_g (lw_at lw_m7 36 rfl) rfl
theorem q1582 : (Jvm.Cond.static ({ cls := "ApartBenchLaw", name := "feast", desc := "(LApartBench;III[J)I" } : Jvm.MethodName)) ∈ lw_all := lw_g (lw_at lw_m7 37 rfl) rfl
theorem q1583 : (Jvm.Cond.codeWith ({ cls := "ApartBenchLaw", name := "feast", desc := "(LApartBench;III[J)I" } : Jvm.MethodName) method_17_code (6 : Nat) (Option.some Jvm.ClassFile.FieldType.int) [((0 : Nat), (12 : Nat), (15 : Nat), (18 : Nat))]) ∈ lw_all := lw_g (lw_at lw_m7 38 rfl) rfl
theorem q1584 : (Jvm.Cond.methodLink "ApartBenchLaw" (59 : Nat) ({ cls := "ApartBench", name := "feast", desc := "(III)I" } : Jvm.MethodName)) ∈ lw_all := lw_g (lw_at lw_m7 39 rfl) rfl
theorem q1592 : (Jvm.Cond.methodLink "ApartBenchLaw" (167 : Nat) ({ cls := "ApartBenchLaw", name := "flood", desc := "(LApartBench;III[J)I" } : Jvm.MethodName)) ∈ lw_all := lw_g (lw_at lw_m7 47 rfl) rfl
theorem q1593 : (Jvm.Cond.static ({ cls := "ApartBenchLaw", name := "flood", desc := "(LApartBench;III[J)I" } : Jvm.MethodName)) ∈ lw_all := lw_g (lw_at lw_m7 48 rfl) rfl
theorem q1594 : (Jvm.Cond.codeWith ({ cls := "ApartBenchLaw", name := "flood", desc := "(LApartBench;III[J)I" } : Jvm.MethodName) method_18_code (6 : Nat) (Option.some Jvm.ClassFile.FieldType.int) [((0 : Nat), (12 : Nat), (15 : Nat), (18 : Nat))]) ∈ lw_all := lw_g (lw_at lw_m7 49 rfl) rfl
theorem q1595 : (Jvm.Cond.methodLink "ApartBenchLaw" (62 : Nat) ({ cls := "ApartBench", name := "flood", desc := "(III)I" } : Jvm.MethodName)) ∈ lw_all := lw_g (lw_at lw_m7 50 rfl) rfl
theorem q1603 : (Jvm.Cond.methodLink "ApartBenchLaw" (174 : Nat) ({ cls := "ApartBenchLaw", name := "burn", desc := "(LApartBench;I[J)I" } : Jvm.MethodName)) ∈ lw_all := lw_g (lw_at lw_m7 58 rfl) rfl
theorem q1604 : (Jvm.Cond.static ({ cls := "ApartBenchLaw", name := "burn", desc := "(LApartBench;I[J)I" } : Jvm.MethodName)) ∈ lw_all := lw_g (lw_at lw_m7 59 rfl) rfl
theorem q1605 : (Jvm.Cond.codeWith ({ cls := "ApartBenchLaw", name := "burn", desc := "(LApartBench;I[J)I" } : Jvm.MethodName) method_19_code (4 : Nat) (Option.some Jvm.ClassFile.FieldType.int) [((0 : Nat), (9 : Nat), (12 : Nat), (18 : Nat))]) ∈ lw_all := lw_g (lw_at lw_m7 60 rfl) rfl
theorem q1606 : (Jvm.Cond.methodLink "ApartBenchLaw" (65 : Nat) ({ cls := "ApartBench", name := "burn", desc := "(I)I" } : Jvm.MethodName)) ∈ lw_all := lw_g (lw_at lw_m7 61 rfl) rfl
theorem q1610 : (Jvm.Cond.methodLink "ApartBenchLaw" (177 : Nat) ({ cls := "ApartBenchLaw", name := "when", desc := "(LApartBench;II[J)I" } : Jvm.MethodName)) ∈ lw_all := lw_g (lw_at lw_m7 65 rfl) rfl
theorem q1611 : (Jvm.Cond.static ({ cls := "ApartBenchLaw", name := "when", desc := "(LApartBench;II[J)I" } : Jvm.MethodName)) ∈ lw_all := lw_g (lw_at lw_m7 66 rfl) rfl
theorem q1612 : (Jvm.Cond.codeWith ({ cls := "ApartBenchLaw", name := "when", desc := "(LApartBench;II[J)I" } : Jvm.MethodName) method_20_code (5 : Nat) (Option.some Jvm.ClassFile.FieldType.int) [((0 : Nat), (10 : Nat), (13 : Nat), (18 : Nat))]) ∈ lw_all := lw_g (lw_at lw_m7 67 rfl) rfl
theorem q1613 : (Jvm.Cond.methodLink "ApartBenchLaw" (68 : Nat) ({ cls := "ApartBench", name := "when", desc := "(II)I" } : Jvm.MethodName)) ∈ lw_all := lw_g (lw_at lw_m7 68 rfl) rfl
theorem q1617 : (Jvm.Cond.methodLink "ApartBenchLaw" (180 : Nat) ({ cls := "ApartBenchLaw", name := "round", desc := "(LApartBench;I[J)I" } : Jvm.MethodName)) ∈ lw_all := lw_g (lw_at lw_m7 72 rfl) rfl
theorem q1618 : (Jvm.Cond.static ({ cls := "ApartBenchLaw", name := "round", desc := "(LApartBench;I[J)I" } : Jvm.MethodName)) ∈ lw_all := lw_g (lw_at lw_m7 73 rfl) rfl
theorem q1619 : (Jvm.Cond.codeWith ({ cls := "ApartBenchLaw", name := "round", desc := "(LApartBench;I[J)I" } : Jvm.MethodName) method_21_code (4 : Nat) (Option.some Jvm.ClassFile.FieldType.int) [((0 : Nat), (9 : Nat), (12 : Nat), (18 : Nat))]) ∈ lw_all := lw_g (lw_at lw_m7 74 rfl) rfl
theorem q1620 : (Jvm.Cond.methodLink "ApartBenchLaw" (71 : Nat) ({ cls := "ApartBench", name := "round", desc := "(I)I" } : Jvm.MethodName)) ∈ lw_all := lw_g (lw_at lw_m7 75 rfl) rfl
theorem q1624 : (Jvm.Cond.methodLink "ApartBenchLaw" (183 : Nat) ({ cls := "ApartBenchLaw", name := "free", desc := "(LApartBench;II[J)I" } : Jvm.MethodName)) ∈ lw_all := lw_g (lw_at lw_m7 79 rfl) rfl
theorem q1625 : (Jvm.Cond.static ({ cls := "ApartBenchLaw", name := "free", desc := "(LApartBench;II[J)I" } : Jvm.MethodName)) ∈ lw_all := lw_g (lw_at lw_m7 80 rfl) rfl
theorem q1626 : (Jvm.Cond.codeWith ({ cls := "ApartBenchLaw", name := "free", desc := "(LApartBench;II[J)I" } : Jvm.MethodName) method_22_code (5 : Nat) (Option.some Jvm.ClassFile.FieldType.int) [((0 : Nat), (10 : Nat), (13 : Nat), (18 : Nat))]) ∈ lw_all := lw_g (lw_at lw_m7 81 rfl) rfl
theorem q1627 : (Jvm.Cond.methodLink "ApartBenchLaw" (74 : Nat) ({ cls := "ApartBench", name := "free", desc := "(II)I" } : Jvm.MethodName)) ∈ lw_all := lw_g (lw_at lw_m7 82 rfl) rfl
theorem q1639 : (Jvm.Cond.methodLink "ApartBenchLaw" (186 : Nat) ({ cls := "ApartBenchLaw", name := "mercy", desc := "(LApartBench;I[J)I" } : Jvm.MethodName)) ∈ lw_all := lw_g (lw_at lw_m7 94 rfl) rfl
theorem q1640 : (Jvm.Cond.static ({ cls := "ApartBenchLaw", name := "mercy", desc := "(LApartBench;I[J)I" } : Jvm.MethodName)) ∈ lw_all := lw_g (lw_at lw_m7 95 rfl) rfl
theorem q1641 : (Jvm.Cond.codeWith ({ cls := "ApartBenchLaw", name := "mercy", desc := "(LApartBench;I[J)I" } : Jvm.MethodName) method_23_code (4 : Nat) (Option.some Jvm.ClassFile.FieldType.int) [((0 : Nat), (9 : Nat), (12 : Nat), (18 : Nat))]) ∈ lw_all := lw_g (lw_at lw_m7 96 rfl) rfl
theorem q1642 : (Jvm.Cond.methodLink "ApartBenchLaw" (77 : Nat) ({ cls := "ApartBench", name := "mercy", desc := "(I)I" } : Jvm.MethodName)) ∈ lw_all := lw_g (lw_at lw_m7 97 rfl) rfl
theorem q1657 : (Jvm.Cond.methodLink "ApartBenchLaw" (189 : Nat) ({ cls := "ApartBenchLaw", name := "deaf", desc := "(LApartBench;I[J)I" } : Jvm.MethodName)) ∈ lw_all := lw_g (lw_at lw_m7 112 rfl) rfl
theorem q1658 : (Jvm.Cond.static ({ cls := "ApartBenchLaw", name := "deaf", desc := "(LApartBench;I[J)I" } : Jvm.MethodName)) ∈ lw_all := lw_g (lw_at lw_m7 113 rfl) rfl
theorem q1659 : (Jvm.Cond.codeWith ({ cls := "ApartBenchLaw", name := "deaf", desc := "(LApartBench;I[J)I" } : Jvm.MethodName) method_24_code (4 : Nat) (Option.some Jvm.ClassFile.FieldType.int) [((0 : Nat), (9 : Nat), (12 : Nat), (18 : Nat))]) ∈ lw_all := lw_g (lw_at lw_m7 114 rfl) rfl
theorem q1660 : (Jvm.Cond.methodLink "ApartBenchLaw" (80 : Nat) ({ cls := "ApartBench", name := "deaf", desc := "(I)I" } : Jvm.MethodName)) ∈ lw_all := lw_g (lw_at lw_m7 115 rfl) rfl
theorem q1664 : (Jvm.Cond.methodLink "ApartBenchLaw" (192 : Nat) ({ cls := "ApartBenchLaw", name := "soonest", desc := "(LApartBench;I[J)I" } : Jvm.MethodName)) ∈ lw_all := lw_g (lw_at lw_m7 119 rfl) rfl
theorem q1665 : (Jvm.Cond.static ({ cls := "ApartBenchLaw", name := "soonest", desc := "(LApartBench;I[J)I" } : Jvm.MethodName)) ∈ lw_all := lw_g (lw_at lw_m7 120 rfl) rfl
theorem q1666 : (Jvm.Cond.codeWith ({ cls := "ApartBenchLaw", name := "soonest", desc := "(LApartBench;I[J)I" } : Jvm.MethodName) method_25_code (4 : Nat) (Option.some Jvm.ClassFile.FieldType.int) [((0 : Nat), (9 : Nat), (12 : Nat), (18 : Nat))]) ∈ lw_all := lw_g (lw_at lw_m7 121 rfl) rfl
theorem q1667 : (Jvm.Cond.methodLink "ApartBenchLaw" (83 : Nat) ({ cls := "ApartBench", name := "soonest", desc := "(I)I" } : Jvm.MethodName)) ∈ lw_all := lw_g (lw_at lw_m7 122 rfl) rfl
theorem q1671 : (Jvm.Cond.methodLink "ApartBenchLaw" (195 : Nat) ({ cls := "ApartBenchLaw", name := "see", desc := "(LApartBench;IIZ[J)I" } : Jvm.MethodName)) ∈ lw_all := lw_g (lw_at lw_m7 126 rfl) rfl
theorem q1672 : (Jvm.Cond.static ({ cls := "ApartBenchLaw", name := "see", desc := "(LApartBench;IIZ[J)I" } : Jvm.MethodName)) ∈ lw_all := lw_g (lw_at lw_m7 127 rfl) rfl
theorem q1673 : (Jvm.Cond.codeWith ({ cls := "ApartBenchLaw", name := "see", desc := "(LApartBench;IIZ[J)I" } : Jvm.MethodName) method_26_code (6 : Nat) (Option.some Jvm.ClassFile.FieldType.int) [((0 : Nat), (12 : Nat), (15 : Nat), (18 : Nat))]) ∈ lw_all := lw_g (lw_at lw_m7 128 rfl) rfl
theorem q1674 : (Jvm.Cond.methodLink "ApartBenchLaw" (86 : Nat) ({ cls := "ApartBench", name := "see", desc := "(IIZ)I" } : Jvm.MethodName)) ∈ lw_all := lw_g (lw_at lw_m7 129 rfl) rfl
theorem q1678 : (Jvm.Cond.methodLink "ApartBenchLaw" (203 : Nat) ({ cls := "ApartBenchLaw", name := "sent", desc := "(LApartBench;II[J)I" } : Jvm.MethodName)) ∈ lw_all := lw_g (lw_at lw_m7 133 rfl) rfl
theorem q1679 : (Jvm.Cond.static ({ cls := "ApartBenchLaw", name := "sent", desc := "(LApartBench;II[J)I" } : Jvm.MethodName)) ∈ lw_all := lw_g (lw_at lw_m7 134 rfl) rfl
theorem q1680 : (Jvm.Cond.codeWith ({ cls := "ApartBenchLaw", name := "sent", desc := "(LApartBench;II[J)I" } : Jvm.MethodName) method_27_code (5 : Nat) (Option.some Jvm.ClassFile.FieldType.int) [((0 : Nat), (10 : Nat), (13 : Nat), (18 : Nat))]) ∈ lw_all := lw_g (lw_at lw_m7 135 rfl) rfl
theorem q1681 : (Jvm.Cond.methodLink "ApartBenchLaw" (90 : Nat) ({ cls := "ApartBench", name := "sent", desc := "(II)I" } : Jvm.MethodName)) ∈ lw_all := lw_g (lw_at lw_m7 136 rfl) rfl
theorem q1689 : (Jvm.Cond.methodLink "ApartBenchLaw" (206 : Nat) ({ cls := "ApartBenchLaw", name := "game", desc := "(LApartBench;II[J)I" } : Jvm.MethodName)) ∈ lw_all := lw_g (lw_at lw_m7 144 rfl) rfl
theorem q1690 : (Jvm.Cond.static ({ cls := "ApartBenchLaw", name := "game", desc := "(LApartBench;II[J)I" } : Jvm.MethodName)) ∈ lw_all := lw_g (lw_at lw_m7 145 rfl) rfl
theorem q1691 : (Jvm.Cond.codeWith ({ cls := "ApartBenchLaw", name := "game", desc := "(LApartBench;II[J)I" } : Jvm.MethodName) method_28_code (5 : Nat) (Option.some Jvm.ClassFile.FieldType.int) [((0 : Nat), (10 : Nat), (13 : Nat), (18 : Nat))]) ∈ lw_all := lw_g (lw_at lw_m7 146 rfl) rfl
theorem q1692 : (Jvm.Cond.methodLink "ApartBenchLaw" (93 : Nat) ({ cls := "ApartBench", name := "game", desc := "(II)I" } : Jvm.MethodName)) ∈ lw_all := lw_g (lw_at lw_m7 147 rfl) rfl
theorem q1700 : (Jvm.Cond.methodLink "ApartBenchLaw" (209 : Nat) ({ cls := "ApartBenchLaw", name := "season", desc := "(LApartBench;III[J)I" } : Jvm.MethodName)) ∈ lw_all := lw_g (lw_at lw_m7 155 rfl) rfl
theorem q1701 : (Jvm.Cond.static ({ cls := "ApartBenchLaw", name := "season", desc := "(LApartBench;III[J)I" } : Jvm.MethodName)) ∈ lw_all := lw_g (lw_at lw_m7 156 rfl) rfl
theorem q1702 : (Jvm.Cond.codeWith ({ cls := "ApartBenchLaw", name := "season", desc := "(LApartBench;III[J)I" } : Jvm.MethodName) method_29_code (6 : Nat) (Option.some Jvm.ClassFile.FieldType.int) [((0 : Nat), (12 : Nat), (15 : Nat), (18 : Nat)), ((0 : Nat), (12 : Nat), (19 : Nat), (13 : Nat))]) ∈ lw_all := lw_g (lw_at lw_m7 157 rfl) rfl
theorem q1703 : (Jvm.Cond.methodLink "ApartBenchLaw" (96 : Nat) ({ cls := "ApartBench", name := "season", desc := "(III)I" } : Jvm.MethodName)) ∈ lw_all := lw_g (lw_at lw_m7 158 rfl) rfl
theorem q1712 : (Jvm.Cond.classLink "ApartBenchLaw" (100 : Nat) "ApartBenchModel") ∈ lw_all := lw_g (lw_at lw_m7 167 rfl) rfl
theorem q1714 : (Jvm.Cond.methodLink "ApartBenchLaw" (102 : Nat) ({ cls := "ApartBenchModel", name := "<init>", desc := "()V" } : Jvm.MethodName)) ∈ lw_all := lw_g (lw_at lw_m7 169 rfl) rfl
theorem q1918 : (Jvm.Cond.methodLink "ApartBenchLaw" (114 : Nat) ({ cls := "ApartBenchModel", name := "thrown", desc := "()I" } : Jvm.MethodName)) ∈ lw_all := lw_g (lw_at lw_m8 133 rfl) rfl
theorem q1922 : (Jvm.Cond.methodLink "ApartBenchLaw" (107 : Nat) ({ cls := "ApartBenchModel", name := "feed", desc := "(IIIII)I" } : Jvm.MethodName)) ∈ lw_all := lw_g (lw_at lw_m8 137 rfl) rfl
theorem q1926 : (Jvm.Cond.methodLink "ApartBenchLaw" (113 : Nat) ({ cls := "ApartBenchModel", name := "land", desc := "(I)I" } : Jvm.MethodName)) ∈ lw_all := lw_g (lw_at lw_m8 141 rfl) rfl
theorem q2061 : (Jvm.Cond.methodLink "ApartBenchLaw" (121 : Nat) ({ cls := "ApartBenchModel", name := "fault", desc := "()I" } : Jvm.MethodName)) ∈ lw_all := lw_g (lw_at lw_m9 36 rfl) rfl
theorem q2065 : (Jvm.Cond.methodLink "ApartBenchLaw" (124 : Nat) ({ cls := "ApartBenchModel", name := "count", desc := "(I)I" } : Jvm.MethodName)) ∈ lw_all := lw_g (lw_at lw_m9 40 rfl) rfl
theorem q2153 : (Jvm.Cond.methodLink "ApartBenchLaw" (128 : Nat) ({ cls := "ApartBenchModel", name := "far", desc := "(III)I" } : Jvm.MethodName)) ∈ lw_all := lw_g (lw_at lw_m9 128 rfl) rfl
theorem q2167 : (Jvm.Cond.methodLink "ApartBenchLaw" (132 : Nat) ({ cls := "ApartBenchModel", name := "judge", desc := "(II)I" } : Jvm.MethodName)) ∈ lw_all := lw_g (lw_at lw_m9 142 rfl) rfl
theorem q2176 : (Jvm.Cond.methodLink "ApartBenchLaw" (135 : Nat) ({ cls := "ApartBenchModel", name := "stop", desc := "(III)I" } : Jvm.MethodName)) ∈ lw_all := lw_g (lw_at lw_m9 151 rfl) rfl
theorem q2180 : (Jvm.Cond.methodLink "ApartBenchLaw" (138 : Nat) ({ cls := "ApartBenchModel", name := "where", desc := "(II)I" } : Jvm.MethodName)) ∈ lw_all := lw_g (lw_at lw_m9 155 rfl) rfl
theorem q2184 : (Jvm.Cond.methodLink "ApartBenchLaw" (141 : Nat) ({ cls := "ApartBenchModel", name := "proof", desc := "(II)I" } : Jvm.MethodName)) ∈ lw_all := lw_g (lw_at lw_m9 159 rfl) rfl
theorem q2192 : (Jvm.Cond.methodLink "ApartBenchLaw" (144 : Nat) ({ cls := "ApartBenchModel", name := "said", desc := "(III)I" } : Jvm.MethodName)) ∈ lw_all := lw_g (lw_at lw_m9 167 rfl) rfl
theorem q2197 : (Jvm.Cond.methodLink "ApartBenchLaw" (147 : Nat) ({ cls := "ApartBenchModel", name := "met", desc := "(II)I" } : Jvm.MethodName)) ∈ lw_all := lw_g (lw_at lw_m9 172 rfl) rfl
theorem q2201 : (Jvm.Cond.methodLink "ApartBenchLaw" (150 : Nat) ({ cls := "ApartBenchModel", name := "guilty", desc := "(II)I" } : Jvm.MethodName)) ∈ lw_all := lw_g (lw_at lw_m9 176 rfl) rfl
theorem q2205 : (Jvm.Cond.methodLink "ApartBenchLaw" (153 : Nat) ({ cls := "ApartBenchModel", name := "news", desc := "(II)I" } : Jvm.MethodName)) ∈ lw_all := lw_g (lw_at lw_m9 180 rfl) rfl
theorem q2209 : (Jvm.Cond.methodLink "ApartBenchLaw" (156 : Nat) ({ cls := "ApartBenchModel", name := "start", desc := "(II)I" } : Jvm.MethodName)) ∈ lw_all := lw_g (lw_at lw_m9 184 rfl) rfl
theorem q2226 : (Jvm.Cond.methodLink "ApartBenchLaw" (160 : Nat) ({ cls := "ApartBenchModel", name := "inn", desc := "(IZ)Z" } : Jvm.MethodName)) ∈ lw_all := lw_g (lw_at lw_m9 201 rfl) rfl
theorem q2230 : (Jvm.Cond.methodLink "ApartBenchLaw" (163 : Nat) ({ cls := "ApartBenchModel", name := "word", desc := "(III)I" } : Jvm.MethodName)) ∈ lw_all := lw_g (lw_at lw_m9 205 rfl) rfl
theorem q2238 : (Jvm.Cond.methodLink "ApartBenchLaw" (166 : Nat) ({ cls := "ApartBenchModel", name := "feast", desc := "(III)I" } : Jvm.MethodName)) ∈ lw_all := lw_g (lw_at lw_m9 213 rfl) rfl
theorem q2242 : (Jvm.Cond.methodLink "ApartBenchLaw" (169 : Nat) ({ cls := "ApartBenchModel", name := "flood", desc := "(III)I" } : Jvm.MethodName)) ∈ lw_all := lw_g (lw_at lw_m9 217 rfl) rfl
theorem q2247 : (Jvm.Cond.methodLink "ApartBenchLaw" (173 : Nat) ({ cls := "ApartBenchModel", name := "undo", desc := "()I" } : Jvm.MethodName)) ∈ lw_all := lw_g (lw_at lw_m9 222 rfl) rfl
theorem q2255 : (Jvm.Cond.methodLink "ApartBenchLaw" (176 : Nat) ({ cls := "ApartBenchModel", name := "burn", desc := "(I)I" } : Jvm.MethodName)) ∈ lw_all := lw_g (lw_at lw_m9 230 rfl) rfl
theorem q2259 : (Jvm.Cond.methodLink "ApartBenchLaw" (179 : Nat) ({ cls := "ApartBenchModel", name := "when", desc := "(II)I" } : Jvm.MethodName)) ∈ lw_all := lw_g (lw_at lw_m9 234 rfl) rfl
theorem q2263 : (Jvm.Cond.methodLink "ApartBenchLaw" (182 : Nat) ({ cls := "ApartBenchModel", name := "round", desc := "(I)I" } : Jvm.MethodName)) ∈ lw_all := lw_g (lw_at lw_m9 238 rfl) rfl
theorem q2267 : (Jvm.Cond.methodLink "ApartBenchLaw" (185 : Nat) ({ cls := "ApartBenchModel", name := "free", desc := "(II)I" } : Jvm.MethodName)) ∈ lw_all := lw_g (lw_at lw_m10 2 rfl) rfl
theorem q2271 : (Jvm.Cond.methodLink "ApartBenchLaw" (188 : Nat) ({ cls := "ApartBenchModel", name := "mercy", desc := "(I)I" } : Jvm.MethodName)) ∈ lw_all := lw_g (lw_at lw_m10 6 rfl) rfl
theorem q2278 : (Jvm.Cond.methodLink "ApartBenchLaw" (191 : Nat) ({ cls := "ApartBenchModel", name := "deaf", desc := "(I)I" } : Jvm.MethodName)) ∈ lw_all := lw_g (lw_at lw_m10 13 rfl) rfl
theorem q2282 : (Jvm.Cond.methodLink "ApartBenchLaw" (194 : Nat) ({ cls := "ApartBenchModel", name := "soonest", desc := "(I)I" } : Jvm.MethodName)) ∈ lw_all := lw_g (lw_at lw_m10 17 rfl) rfl
theorem q2286 : (Jvm.Cond.methodLink "ApartBenchLaw" (198 : Nat) ({ cls := "ApartBenchModel", name := "see", desc := "(IIZ)I" } : Jvm.MethodName)) ∈ lw_all := lw_g (lw_at lw_m10 21 rfl) rfl
theorem q2290 : (Jvm.Cond.methodLink "ApartBenchLaw" (202 : Nat) ({ cls := "ApartBenchModel", name := "forget", desc := "()I" } : Jvm.MethodName)) ∈ lw_all := lw_g (lw_at lw_m10 25 rfl) rfl
theorem q2294 : (Jvm.Cond.methodLink "ApartBenchLaw" (205 : Nat) ({ cls := "ApartBenchModel", name := "sent", desc := "(II)I" } : Jvm.MethodName)) ∈ lw_all := lw_g (lw_at lw_m10 29 rfl) rfl
theorem q2303 : (Jvm.Cond.methodLink "ApartBenchLaw" (208 : Nat) ({ cls := "ApartBenchModel", name := "game", desc := "(II)I" } : Jvm.MethodName)) ∈ lw_all := lw_g (lw_at lw_m10 38 rfl) rfl
theorem q2311 : (Jvm.Cond.methodLink "ApartBenchLaw" (211 : Nat) ({ cls := "ApartBenchModel", name := "season", desc := "(III)I" } : Jvm.MethodName)) ∈ lw_all := lw_g (lw_at lw_m10 46 rfl) rfl
theorem q2321 : (Jvm.Cond.methodLink "ApartBenchLaw" (215 : Nat) ({ cls := "ApartBenchModel", name := "image", desc := "()V" } : Jvm.MethodName)) ∈ lw_all := lw_g (lw_at lw_m10 56 rfl) rfl
theorem q2328 : (Jvm.Cond.methodLink "ApartBenchLaw" (220 : Nat) ({ cls := "ApartBenchModel", name := "restore", desc := "()Z" } : Jvm.MethodName)) ∈ lw_all := lw_g (lw_at lw_m10 63 rfl) rfl

/-! ApartBench -/
set_option maxRecDepth 100000
def RX1 : String := "ApartBench"
def TX1 : u_T := fun k => match k with
  | 0 => ("ApartBench", "land", "LApartBench$Land;", false)
  | 1 => ("ApartBench", "book", "LApartBench$Book;", true)
  | 2 => ("ApartBench", "image", "LApartBench$Book;", true)
  | 3 => ("ApartBench", "now", "LApartBench$State;", true)
  | 4 => ("ApartBench", "tried", "LApartBench$State;", true)
  | 5 => ("ApartBench", "trial", "LApartBench$Trial;", false)
  | 6 => ("ApartBench", "hasImage", "Z", false)
  | 7 => ("ApartBench", "tape", "[B", true)
  | 8 => ("ApartBench", "taped", "I", false)
  | 9 => ("ApartBench", "faultPlace", "I", false)
  | _ => ("ApartBench", "its", "I", false)
def tyX1 : Nat → FieldType := fun k => match k with
  | 0 => .object "ApartBench$Land"
  | 1 => .object "ApartBench$Book"
  | 2 => .object "ApartBench$Book"
  | 3 => .object "ApartBench$State"
  | 4 => .object "ApartBench$State"
  | 5 => .object "ApartBench$Trial"
  | 6 => .boolean
  | 7 => .array .byte
  | 8 => .int
  | 9 => .int
  | _ => .int
abbrev wsX10 : List Cond := u_ws RX1 TX1 11
theorem nmX1 : ∀ a, a < 11 → ∀ b, b < 11 → a ≠ b → (TX1 a).2.1 ≠ (TX1 b).2.1 := by decide +kernel
theorem tyX1_ok : ∀ k, k < 11 → parseFieldDescriptor (TX1 k).2.2.1 = some (tyX1 k) := by decide +kernel
abbrev cX1_init : ByteArray := prog_1_method_1_code
def yX1_init : MethodName := ⟨RX1, "<init>", "()V"⟩
def dkwX1_init_4 : List UInt8 := [180, 0, 10, 182, 0, 54, 42, 180, 0, 30, 42, 180, 0, 10, 182, 0, 57, 177]
abbrev dktX1_init_4 : List UInt8 := dkwX1_init_4 ++ []
def dkwX1_init_3 : List UInt8 := [180, 0, 34, 183, 0, 39, 181, 0, 42, 42, 17, 2, 88, 188, 8, 181, 0, 46, 42, 2, 181, 0, 50, 42]
abbrev dktX1_init_3 : List UInt8 := dkwX1_init_3 ++ dktX1_init_4
def dkwX1_init_2 : List UInt8 := [181, 0, 30, 42, 187, 0, 31, 89, 183, 0, 33, 181, 0, 34, 42, 187, 0, 37, 89, 42, 180, 0, 10, 42]
abbrev dktX1_init_2 : List UInt8 := dkwX1_init_2 ++ dktX1_init_3
def dkwX1_init_1 : List UInt8 := [181, 0, 19, 42, 187, 0, 16, 89, 183, 0, 18, 181, 0, 23, 42, 42, 180, 0, 19, 180, 0, 26]
abbrev dktX1_init_1 : List UInt8 := dkwX1_init_1 ++ dktX1_init_2
def dkwX1_init_0 : List UInt8 := [42, 183, 0, 1, 42, 187, 0, 7, 89, 183, 0, 9, 181, 0, 10, 42, 187, 0, 16, 89, 183, 0, 18]
abbrev dktX1_init_0 : List UInt8 := dkwX1_init_0 ++ dktX1_init_1
theorem dksX1_init_0 : cX1_init.data.toList.drop 0 = dktX1_init_0 := by decide +kernel
theorem dksX1_init_1 : cX1_init.data.toList.drop 23 = dktX1_init_1 := dk_seg dksX1_init_0 23 rfl rfl
theorem dksX1_init_2 : cX1_init.data.toList.drop 45 = dktX1_init_2 := dk_seg dksX1_init_1 22 rfl rfl
theorem dksX1_init_3 : cX1_init.data.toList.drop 69 = dktX1_init_3 := dk_seg dksX1_init_2 24 rfl rfl
theorem dksX1_init_4 : cX1_init.data.toList.drop 93 = dktX1_init_4 := dk_seg dksX1_init_3 24 rfl rfl
theorem dX1_init_0 : decode cX1_init 0 = .ok (.aload_n 0, 1) := dk_42 (dk_at dksX1_init_0 0 rfl rfl)
theorem dX1_init_1 : decode cX1_init 1 = .ok (.invokespecial 1, 3) := dk_183 0 1 (dk_at dksX1_init_0 1 rfl rfl)
theorem dX1_init_4 : decode cX1_init 4 = .ok (.aload_n 0, 1) := dk_42 (dk_at dksX1_init_0 4 rfl rfl)
theorem dX1_init_5 : decode cX1_init 5 = .ok (.new 7, 3) := dk_187 0 7 (dk_at dksX1_init_0 5 rfl rfl)
theorem dX1_init_8 : decode cX1_init 8 = .ok (.dup, 1) := dk_89 (dk_at dksX1_init_0 8 rfl rfl)
theorem dX1_init_9 : decode cX1_init 9 = .ok (.invokespecial 9, 3) := dk_183 0 9 (dk_at dksX1_init_0 9 rfl rfl)
theorem dX1_init_12 : decode cX1_init 12 = .ok (.putfield 10, 3) := dk_181 0 10 (dk_at dksX1_init_0 12 rfl rfl)
theorem dX1_init_15 : decode cX1_init 15 = .ok (.aload_n 0, 1) := dk_42 (dk_at dksX1_init_0 15 rfl rfl)
theorem dX1_init_16 : decode cX1_init 16 = .ok (.new 16, 3) := dk_187 0 16 (dk_at dksX1_init_0 16 rfl rfl)
theorem dX1_init_19 : decode cX1_init 19 = .ok (.dup, 1) := dk_89 (dk_at dksX1_init_0 19 rfl rfl)
theorem dX1_init_20 : decode cX1_init 20 = .ok (.invokespecial 18, 3) := dk_183 0 18 (dk_at dksX1_init_0 20 rfl rfl)
theorem dX1_init_23 : decode cX1_init 23 = .ok (.putfield 19, 3) := dk_181 0 19 (dk_at dksX1_init_1 0 rfl rfl)
theorem dX1_init_26 : decode cX1_init 26 = .ok (.aload_n 0, 1) := dk_42 (dk_at dksX1_init_1 3 rfl rfl)
theorem dX1_init_27 : decode cX1_init 27 = .ok (.new 16, 3) := dk_187 0 16 (dk_at dksX1_init_1 4 rfl rfl)
theorem dX1_init_30 : decode cX1_init 30 = .ok (.dup, 1) := dk_89 (dk_at dksX1_init_1 7 rfl rfl)
theorem dX1_init_31 : decode cX1_init 31 = .ok (.invokespecial 18, 3) := dk_183 0 18 (dk_at dksX1_init_1 8 rfl rfl)
theorem dX1_init_34 : decode cX1_init 34 = .ok (.putfield 23, 3) := dk_181 0 23 (dk_at dksX1_init_1 11 rfl rfl)
theorem dX1_init_37 : decode cX1_init 37 = .ok (.aload_n 0, 1) := dk_42 (dk_at dksX1_init_1 14 rfl rfl)
theorem dX1_init_38 : decode cX1_init 38 = .ok (.aload_n 0, 1) := dk_42 (dk_at dksX1_init_1 15 rfl rfl)
theorem dX1_init_39 : decode cX1_init 39 = .ok (.getfield 19, 3) := dk_180 0 19 (dk_at dksX1_init_1 16 rfl rfl)
theorem dX1_init_42 : decode cX1_init 42 = .ok (.getfield 26, 3) := dk_180 0 26 (dk_at dksX1_init_1 19 rfl rfl)
theorem dX1_init_45 : decode cX1_init 45 = .ok (.putfield 30, 3) := dk_181 0 30 (dk_at dksX1_init_2 0 rfl rfl)
theorem dX1_init_48 : decode cX1_init 48 = .ok (.aload_n 0, 1) := dk_42 (dk_at dksX1_init_2 3 rfl rfl)
theorem dX1_init_49 : decode cX1_init 49 = .ok (.new 31, 3) := dk_187 0 31 (dk_at dksX1_init_2 4 rfl rfl)
theorem dX1_init_52 : decode cX1_init 52 = .ok (.dup, 1) := dk_89 (dk_at dksX1_init_2 7 rfl rfl)
theorem dX1_init_53 : decode cX1_init 53 = .ok (.invokespecial 33, 3) := dk_183 0 33 (dk_at dksX1_init_2 8 rfl rfl)
theorem dX1_init_56 : decode cX1_init 56 = .ok (.putfield 34, 3) := dk_181 0 34 (dk_at dksX1_init_2 11 rfl rfl)
theorem dX1_init_59 : decode cX1_init 59 = .ok (.aload_n 0, 1) := dk_42 (dk_at dksX1_init_2 14 rfl rfl)
theorem dX1_init_60 : decode cX1_init 60 = .ok (.new 37, 3) := dk_187 0 37 (dk_at dksX1_init_2 15 rfl rfl)
theorem dX1_init_63 : decode cX1_init 63 = .ok (.dup, 1) := dk_89 (dk_at dksX1_init_2 18 rfl rfl)
theorem dX1_init_64 : decode cX1_init 64 = .ok (.aload_n 0, 1) := dk_42 (dk_at dksX1_init_2 19 rfl rfl)
theorem dX1_init_65 : decode cX1_init 65 = .ok (.getfield 10, 3) := dk_180 0 10 (dk_at dksX1_init_2 20 rfl rfl)
theorem dX1_init_68 : decode cX1_init 68 = .ok (.aload_n 0, 1) := dk_42 (dk_at dksX1_init_2 23 rfl rfl)
theorem dX1_init_69 : decode cX1_init 69 = .ok (.getfield 34, 3) := dk_180 0 34 (dk_at dksX1_init_3 0 rfl rfl)
theorem dX1_init_72 : decode cX1_init 72 = .ok (.invokespecial 39, 3) := dk_183 0 39 (dk_at dksX1_init_3 3 rfl rfl)
theorem dX1_init_75 : decode cX1_init 75 = .ok (.putfield 42, 3) := dk_181 0 42 (dk_at dksX1_init_3 6 rfl rfl)
theorem dX1_init_78 : decode cX1_init 78 = .ok (.aload_n 0, 1) := dk_42 (dk_at dksX1_init_3 9 rfl rfl)
theorem dX1_init_79 : decode cX1_init 79 = .ok (.sipush 600, 3) := dk_17 2 88 (dk_at dksX1_init_3 10 rfl rfl)
theorem dX1_init_82 : decode cX1_init 82 = .ok (.newarray .byte, 2) := dk_188_8 (dk_at dksX1_init_3 13 rfl rfl)
theorem dX1_init_84 : decode cX1_init 84 = .ok (.putfield 46, 3) := dk_181 0 46 (dk_at dksX1_init_3 15 rfl rfl)
theorem dX1_init_87 : decode cX1_init 87 = .ok (.aload_n 0, 1) := dk_42 (dk_at dksX1_init_3 18 rfl rfl)
theorem dX1_init_88 : decode cX1_init 88 = .ok (.iconst (-1), 1) := dk_2 (dk_at dksX1_init_3 19 rfl rfl)
theorem dX1_init_89 : decode cX1_init 89 = .ok (.putfield 50, 3) := dk_181 0 50 (dk_at dksX1_init_3 20 rfl rfl)
theorem dX1_init_92 : decode cX1_init 92 = .ok (.aload_n 0, 1) := dk_42 (dk_at dksX1_init_3 23 rfl rfl)
theorem dX1_init_93 : decode cX1_init 93 = .ok (.getfield 10, 3) := dk_180 0 10 (dk_at dksX1_init_4 0 rfl rfl)
theorem dX1_init_96 : decode cX1_init 96 = .ok (.invokevirtual 54, 3) := dk_182 0 54 (dk_at dksX1_init_4 3 rfl rfl)
theorem dX1_init_99 : decode cX1_init 99 = .ok (.aload_n 0, 1) := dk_42 (dk_at dksX1_init_4 6 rfl rfl)
theorem dX1_init_100 : decode cX1_init 100 = .ok (.getfield 30, 3) := dk_180 0 30 (dk_at dksX1_init_4 7 rfl rfl)
theorem dX1_init_103 : decode cX1_init 103 = .ok (.aload_n 0, 1) := dk_42 (dk_at dksX1_init_4 10 rfl rfl)
theorem dX1_init_104 : decode cX1_init 104 = .ok (.getfield 10, 3) := dk_180 0 10 (dk_at dksX1_init_4 11 rfl rfl)
theorem dX1_init_107 : decode cX1_init 107 = .ok (.invokevirtual 57, 3) := dk_182 0 57 (dk_at dksX1_init_4 14 rfl rfl)
theorem dX1_init_110 : decode cX1_init 110 = .ok (.return_, 1) := dk_177 (dk_at dksX1_init_4 17 rfl rfl)
abbrev cX1_feed : ByteArray := prog_1_method_9_code
def yX1_feed : MethodName := ⟨RX1, "feed", "(IIIII)I"⟩
def dkwX1_feed_2 : List UInt8 := [172]
abbrev dktX1_feed_2 : List UInt8 := dkwX1_feed_2 ++ []
def dkwX1_feed_1 : List UInt8 := [182, 0, 98, 42, 29, 182, 0, 98, 42, 21, 4, 182, 0, 98, 42, 21, 5, 182, 0, 98, 42, 180, 0, 95]
abbrev dktX1_feed_1 : List UInt8 := dkwX1_feed_1 ++ dktX1_feed_2
def dkwX1_feed_0 : List UInt8 := [42, 180, 0, 95, 16, 20, 96, 17, 2, 88, 164, 0, 5, 2, 172, 42, 27, 182, 0, 98, 42, 28]
abbrev dktX1_feed_0 : List UInt8 := dkwX1_feed_0 ++ dktX1_feed_1
theorem dksX1_feed_0 : cX1_feed.data.toList.drop 0 = dktX1_feed_0 := by decide +kernel
theorem dksX1_feed_1 : cX1_feed.data.toList.drop 22 = dktX1_feed_1 := dk_seg dksX1_feed_0 22 rfl rfl
theorem dksX1_feed_2 : cX1_feed.data.toList.drop 46 = dktX1_feed_2 := dk_seg dksX1_feed_1 24 rfl rfl
theorem dX1_feed_0 : decode cX1_feed 0 = .ok (.aload_n 0, 1) := dk_42 (dk_at dksX1_feed_0 0 rfl rfl)
theorem dX1_feed_1 : decode cX1_feed 1 = .ok (.getfield 95, 3) := dk_180 0 95 (dk_at dksX1_feed_0 1 rfl rfl)
theorem dX1_feed_4 : decode cX1_feed 4 = .ok (.bipush 20, 2) := dk_16 20 (dk_at dksX1_feed_0 4 rfl rfl)
theorem dX1_feed_6 : decode cX1_feed 6 = .ok (.iadd, 1) := dk_96 (dk_at dksX1_feed_0 6 rfl rfl)
theorem dX1_feed_7 : decode cX1_feed 7 = .ok (.sipush 600, 3) := dk_17 2 88 (dk_at dksX1_feed_0 7 rfl rfl)
theorem dX1_feed_10 : decode cX1_feed 10 = .ok (.if_icmp .le 5, 3) := dk_164 0 5 (dk_at dksX1_feed_0 10 rfl rfl)
theorem dX1_feed_13 : decode cX1_feed 13 = .ok (.iconst (-1), 1) := dk_2 (dk_at dksX1_feed_0 13 rfl rfl)
theorem dX1_feed_14 : decode cX1_feed 14 = .ok (.ireturn, 1) := dk_172 (dk_at dksX1_feed_0 14 rfl rfl)
theorem dX1_feed_15 : decode cX1_feed 15 = .ok (.aload_n 0, 1) := dk_42 (dk_at dksX1_feed_0 15 rfl rfl)
theorem dX1_feed_16 : decode cX1_feed 16 = .ok (.iload_n 1, 1) := dk_27 (dk_at dksX1_feed_0 16 rfl rfl)
theorem dX1_feed_17 : decode cX1_feed 17 = .ok (.invokevirtual 98, 3) := dk_182 0 98 (dk_at dksX1_feed_0 17 rfl rfl)
theorem dX1_feed_20 : decode cX1_feed 20 = .ok (.aload_n 0, 1) := dk_42 (dk_at dksX1_feed_0 20 rfl rfl)
theorem dX1_feed_21 : decode cX1_feed 21 = .ok (.iload_n 2, 1) := dk_28 (dk_at dksX1_feed_0 21 rfl rfl)
theorem dX1_feed_22 : decode cX1_feed 22 = .ok (.invokevirtual 98, 3) := dk_182 0 98 (dk_at dksX1_feed_1 0 rfl rfl)
theorem dX1_feed_25 : decode cX1_feed 25 = .ok (.aload_n 0, 1) := dk_42 (dk_at dksX1_feed_1 3 rfl rfl)
theorem dX1_feed_26 : decode cX1_feed 26 = .ok (.iload_n 3, 1) := dk_29 (dk_at dksX1_feed_1 4 rfl rfl)
theorem dX1_feed_27 : decode cX1_feed 27 = .ok (.invokevirtual 98, 3) := dk_182 0 98 (dk_at dksX1_feed_1 5 rfl rfl)
theorem dX1_feed_30 : decode cX1_feed 30 = .ok (.aload_n 0, 1) := dk_42 (dk_at dksX1_feed_1 8 rfl rfl)
theorem dX1_feed_31 : decode cX1_feed 31 = .ok (.iload 4, 2) := dk_21 4 (dk_at dksX1_feed_1 9 rfl rfl)
theorem dX1_feed_33 : decode cX1_feed 33 = .ok (.invokevirtual 98, 3) := dk_182 0 98 (dk_at dksX1_feed_1 11 rfl rfl)
theorem dX1_feed_36 : decode cX1_feed 36 = .ok (.aload_n 0, 1) := dk_42 (dk_at dksX1_feed_1 14 rfl rfl)
theorem dX1_feed_37 : decode cX1_feed 37 = .ok (.iload 5, 2) := dk_21 5 (dk_at dksX1_feed_1 15 rfl rfl)
theorem dX1_feed_39 : decode cX1_feed 39 = .ok (.invokevirtual 98, 3) := dk_182 0 98 (dk_at dksX1_feed_1 17 rfl rfl)
theorem dX1_feed_42 : decode cX1_feed 42 = .ok (.aload_n 0, 1) := dk_42 (dk_at dksX1_feed_1 20 rfl rfl)
theorem dX1_feed_43 : decode cX1_feed 43 = .ok (.getfield 95, 3) := dk_180 0 95 (dk_at dksX1_feed_1 21 rfl rfl)
theorem dX1_feed_46 : decode cX1_feed 46 = .ok (.ireturn, 1) := dk_172 (dk_at dksX1_feed_2 0 rfl rfl)
abbrev cX1_lay : ByteArray := prog_1_method_10_code
def yX1_lay : MethodName := ⟨RX1, "lay", "(I)V"⟩
def dkwX1_lay_1 : List UInt8 := [180, 0, 95, 4, 96, 181, 0, 95, 132, 2, 248, 167, 255, 226, 177]
abbrev dktX1_lay_1 : List UInt8 := dkwX1_lay_1 ++ []
def dkwX1_lay_0 : List UInt8 := [16, 24, 61, 28, 155, 0, 32, 42, 180, 0, 46, 42, 180, 0, 95, 27, 28, 122, 145, 84, 42, 89]
abbrev dktX1_lay_0 : List UInt8 := dkwX1_lay_0 ++ dktX1_lay_1
theorem dksX1_lay_0 : cX1_lay.data.toList.drop 0 = dktX1_lay_0 := by decide +kernel
theorem dksX1_lay_1 : cX1_lay.data.toList.drop 22 = dktX1_lay_1 := dk_seg dksX1_lay_0 22 rfl rfl
theorem dX1_lay_0 : decode cX1_lay 0 = .ok (.bipush 24, 2) := dk_16 24 (dk_at dksX1_lay_0 0 rfl rfl)
theorem dX1_lay_2 : decode cX1_lay 2 = .ok (.istore_n 2, 1) := dk_61 (dk_at dksX1_lay_0 2 rfl rfl)
theorem dX1_lay_3 : decode cX1_lay 3 = .ok (.iload_n 2, 1) := dk_28 (dk_at dksX1_lay_0 3 rfl rfl)
theorem dX1_lay_4 : decode cX1_lay 4 = .ok (.ifCond .lt 32, 3) := dk_155 0 32 (dk_at dksX1_lay_0 4 rfl rfl)
theorem dX1_lay_7 : decode cX1_lay 7 = .ok (.aload_n 0, 1) := dk_42 (dk_at dksX1_lay_0 7 rfl rfl)
theorem dX1_lay_8 : decode cX1_lay 8 = .ok (.getfield 46, 3) := dk_180 0 46 (dk_at dksX1_lay_0 8 rfl rfl)
theorem dX1_lay_11 : decode cX1_lay 11 = .ok (.aload_n 0, 1) := dk_42 (dk_at dksX1_lay_0 11 rfl rfl)
theorem dX1_lay_12 : decode cX1_lay 12 = .ok (.getfield 95, 3) := dk_180 0 95 (dk_at dksX1_lay_0 12 rfl rfl)
theorem dX1_lay_15 : decode cX1_lay 15 = .ok (.iload_n 1, 1) := dk_27 (dk_at dksX1_lay_0 15 rfl rfl)
theorem dX1_lay_16 : decode cX1_lay 16 = .ok (.iload_n 2, 1) := dk_28 (dk_at dksX1_lay_0 16 rfl rfl)
theorem dX1_lay_17 : decode cX1_lay 17 = .ok (.ishr, 1) := dk_122 (dk_at dksX1_lay_0 17 rfl rfl)
theorem dX1_lay_18 : decode cX1_lay 18 = .ok (.i2b, 1) := dk_145 (dk_at dksX1_lay_0 18 rfl rfl)
theorem dX1_lay_19 : decode cX1_lay 19 = .ok (.bastore, 1) := dk_84 (dk_at dksX1_lay_0 19 rfl rfl)
theorem dX1_lay_20 : decode cX1_lay 20 = .ok (.aload_n 0, 1) := dk_42 (dk_at dksX1_lay_0 20 rfl rfl)
theorem dX1_lay_21 : decode cX1_lay 21 = .ok (.dup, 1) := dk_89 (dk_at dksX1_lay_0 21 rfl rfl)
theorem dX1_lay_22 : decode cX1_lay 22 = .ok (.getfield 95, 3) := dk_180 0 95 (dk_at dksX1_lay_1 0 rfl rfl)
theorem dX1_lay_25 : decode cX1_lay 25 = .ok (.iconst 1, 1) := dk_4 (dk_at dksX1_lay_1 3 rfl rfl)
theorem dX1_lay_26 : decode cX1_lay 26 = .ok (.iadd, 1) := dk_96 (dk_at dksX1_lay_1 4 rfl rfl)
theorem dX1_lay_27 : decode cX1_lay 27 = .ok (.putfield 95, 3) := dk_181 0 95 (dk_at dksX1_lay_1 5 rfl rfl)
theorem dX1_lay_30 : decode cX1_lay 30 = .ok (.iinc 2 (-8), 3) := dk_132 2 248 (dk_at dksX1_lay_1 8 rfl rfl)
theorem dX1_lay_33 : decode cX1_lay 33 = .ok (.goto (-30), 3) := dk_167 255 226 (dk_at dksX1_lay_1 11 rfl rfl)
theorem dX1_lay_36 : decode cX1_lay 36 = .ok (.return_, 1) := dk_177 (dk_at dksX1_lay_1 14 rfl rfl)
abbrev cX1_fault : ByteArray := prog_1_method_12_code
def yX1_fault : MethodName := ⟨RX1, "fault", "()I"⟩
theorem dX1_fault_0 : decode cX1_fault 0 = .ok (.aload_n 0, 1) := by decide +kernel
theorem dX1_fault_1 : decode cX1_fault 1 = .ok (.getfield 50, 3) := by decide +kernel
theorem dX1_fault_4 : decode cX1_fault 4 = .ok (.ireturn, 1) := by decide +kernel
abbrev cX1_undo : ByteArray := prog_1_method_30_code
def yX1_undo : MethodName := ⟨RX1, "undo", "()I"⟩
def dkwX1_undo_2 : List UInt8 := [192, 0, 31, 182, 0, 135, 42, 180, 0, 19, 180, 0, 125, 172]
abbrev dktX1_undo_2 : List UInt8 := dkwX1_undo_2 ++ []
def dkwX1_undo_1 : List UInt8 := [181, 0, 125, 42, 180, 0, 30, 42, 180, 0, 19, 180, 0, 249, 42, 180, 0, 19, 180, 0, 125, 182, 0, 89]
abbrev dktX1_undo_1 : List UInt8 := dkwX1_undo_1 ++ dktX1_undo_2
def dkwX1_undo_0 : List UInt8 := [42, 180, 0, 19, 180, 0, 125, 154, 0, 5, 2, 172, 42, 180, 0, 19, 89, 180, 0, 125, 4, 100]
abbrev dktX1_undo_0 : List UInt8 := dkwX1_undo_0 ++ dktX1_undo_1
theorem dksX1_undo_0 : cX1_undo.data.toList.drop 0 = dktX1_undo_0 := by decide +kernel
theorem dksX1_undo_1 : cX1_undo.data.toList.drop 22 = dktX1_undo_1 := dk_seg dksX1_undo_0 22 rfl rfl
theorem dksX1_undo_2 : cX1_undo.data.toList.drop 46 = dktX1_undo_2 := dk_seg dksX1_undo_1 24 rfl rfl
theorem dX1_undo_0 : decode cX1_undo 0 = .ok (.aload_n 0, 1) := dk_42 (dk_at dksX1_undo_0 0 rfl rfl)
theorem dX1_undo_1 : decode cX1_undo 1 = .ok (.getfield 19, 3) := dk_180 0 19 (dk_at dksX1_undo_0 1 rfl rfl)
theorem dX1_undo_4 : decode cX1_undo 4 = .ok (.getfield 125, 3) := dk_180 0 125 (dk_at dksX1_undo_0 4 rfl rfl)
theorem dX1_undo_7 : decode cX1_undo 7 = .ok (.ifCond .ne 5, 3) := dk_154 0 5 (dk_at dksX1_undo_0 7 rfl rfl)
theorem dX1_undo_10 : decode cX1_undo 10 = .ok (.iconst (-1), 1) := dk_2 (dk_at dksX1_undo_0 10 rfl rfl)
theorem dX1_undo_11 : decode cX1_undo 11 = .ok (.ireturn, 1) := dk_172 (dk_at dksX1_undo_0 11 rfl rfl)
theorem dX1_undo_12 : decode cX1_undo 12 = .ok (.aload_n 0, 1) := dk_42 (dk_at dksX1_undo_0 12 rfl rfl)
theorem dX1_undo_13 : decode cX1_undo 13 = .ok (.getfield 19, 3) := dk_180 0 19 (dk_at dksX1_undo_0 13 rfl rfl)
theorem dX1_undo_16 : decode cX1_undo 16 = .ok (.dup, 1) := dk_89 (dk_at dksX1_undo_0 16 rfl rfl)
theorem dX1_undo_17 : decode cX1_undo 17 = .ok (.getfield 125, 3) := dk_180 0 125 (dk_at dksX1_undo_0 17 rfl rfl)
theorem dX1_undo_20 : decode cX1_undo 20 = .ok (.iconst 1, 1) := dk_4 (dk_at dksX1_undo_0 20 rfl rfl)
theorem dX1_undo_21 : decode cX1_undo 21 = .ok (.isub, 1) := dk_100 (dk_at dksX1_undo_0 21 rfl rfl)
theorem dX1_undo_22 : decode cX1_undo 22 = .ok (.putfield 125, 3) := dk_181 0 125 (dk_at dksX1_undo_1 0 rfl rfl)
theorem dX1_undo_25 : decode cX1_undo 25 = .ok (.aload_n 0, 1) := dk_42 (dk_at dksX1_undo_1 3 rfl rfl)
theorem dX1_undo_26 : decode cX1_undo 26 = .ok (.getfield 30, 3) := dk_180 0 30 (dk_at dksX1_undo_1 4 rfl rfl)
theorem dX1_undo_29 : decode cX1_undo 29 = .ok (.aload_n 0, 1) := dk_42 (dk_at dksX1_undo_1 7 rfl rfl)
theorem dX1_undo_30 : decode cX1_undo 30 = .ok (.getfield 19, 3) := dk_180 0 19 (dk_at dksX1_undo_1 8 rfl rfl)
theorem dX1_undo_33 : decode cX1_undo 33 = .ok (.getfield 249, 3) := dk_180 0 249 (dk_at dksX1_undo_1 11 rfl rfl)
theorem dX1_undo_36 : decode cX1_undo 36 = .ok (.aload_n 0, 1) := dk_42 (dk_at dksX1_undo_1 14 rfl rfl)
theorem dX1_undo_37 : decode cX1_undo 37 = .ok (.getfield 19, 3) := dk_180 0 19 (dk_at dksX1_undo_1 15 rfl rfl)
theorem dX1_undo_40 : decode cX1_undo 40 = .ok (.getfield 125, 3) := dk_180 0 125 (dk_at dksX1_undo_1 18 rfl rfl)
theorem dX1_undo_43 : decode cX1_undo 43 = .ok (.invokevirtual 89, 3) := dk_182 0 89 (dk_at dksX1_undo_1 21 rfl rfl)
theorem dX1_undo_46 : decode cX1_undo 46 = .ok (.checkcast 31, 3) := dk_192 0 31 (dk_at dksX1_undo_2 0 rfl rfl)
theorem dX1_undo_49 : decode cX1_undo 49 = .ok (.invokevirtual 135, 3) := dk_182 0 135 (dk_at dksX1_undo_2 3 rfl rfl)
theorem dX1_undo_52 : decode cX1_undo 52 = .ok (.aload_n 0, 1) := dk_42 (dk_at dksX1_undo_2 6 rfl rfl)
theorem dX1_undo_53 : decode cX1_undo 53 = .ok (.getfield 19, 3) := dk_180 0 19 (dk_at dksX1_undo_2 7 rfl rfl)
theorem dX1_undo_56 : decode cX1_undo 56 = .ok (.getfield 125, 3) := dk_180 0 125 (dk_at dksX1_undo_2 10 rfl rfl)
theorem dX1_undo_59 : decode cX1_undo 59 = .ok (.ireturn, 1) := dk_172 (dk_at dksX1_undo_2 13 rfl rfl)
abbrev cX1_forget : ByteArray := prog_1_method_42_code
def yX1_forget : MethodName := ⟨RX1, "forget", "()I"⟩
def dkwX1_forget_1 : List UInt8 := [181, 0, 128, 42, 180, 0, 19, 180, 0, 128, 172]
abbrev dktX1_forget_1 : List UInt8 := dkwX1_forget_1 ++ []
def dkwX1_forget_0 : List UInt8 := [42, 180, 0, 19, 180, 0, 128, 154, 0, 5, 2, 172, 42, 180, 0, 19, 89, 180, 0, 128, 4, 100]
abbrev dktX1_forget_0 : List UInt8 := dkwX1_forget_0 ++ dktX1_forget_1
theorem dksX1_forget_0 : cX1_forget.data.toList.drop 0 = dktX1_forget_0 := by decide +kernel
theorem dksX1_forget_1 : cX1_forget.data.toList.drop 22 = dktX1_forget_1 := dk_seg dksX1_forget_0 22 rfl rfl
theorem dX1_forget_0 : decode cX1_forget 0 = .ok (.aload_n 0, 1) := dk_42 (dk_at dksX1_forget_0 0 rfl rfl)
theorem dX1_forget_1 : decode cX1_forget 1 = .ok (.getfield 19, 3) := dk_180 0 19 (dk_at dksX1_forget_0 1 rfl rfl)
theorem dX1_forget_4 : decode cX1_forget 4 = .ok (.getfield 128, 3) := dk_180 0 128 (dk_at dksX1_forget_0 4 rfl rfl)
theorem dX1_forget_7 : decode cX1_forget 7 = .ok (.ifCond .ne 5, 3) := dk_154 0 5 (dk_at dksX1_forget_0 7 rfl rfl)
theorem dX1_forget_10 : decode cX1_forget 10 = .ok (.iconst (-1), 1) := dk_2 (dk_at dksX1_forget_0 10 rfl rfl)
theorem dX1_forget_11 : decode cX1_forget 11 = .ok (.ireturn, 1) := dk_172 (dk_at dksX1_forget_0 11 rfl rfl)
theorem dX1_forget_12 : decode cX1_forget 12 = .ok (.aload_n 0, 1) := dk_42 (dk_at dksX1_forget_0 12 rfl rfl)
theorem dX1_forget_13 : decode cX1_forget 13 = .ok (.getfield 19, 3) := dk_180 0 19 (dk_at dksX1_forget_0 13 rfl rfl)
theorem dX1_forget_16 : decode cX1_forget 16 = .ok (.dup, 1) := dk_89 (dk_at dksX1_forget_0 16 rfl rfl)
theorem dX1_forget_17 : decode cX1_forget 17 = .ok (.getfield 128, 3) := dk_180 0 128 (dk_at dksX1_forget_0 17 rfl rfl)
theorem dX1_forget_20 : decode cX1_forget 20 = .ok (.iconst 1, 1) := dk_4 (dk_at dksX1_forget_0 20 rfl rfl)
theorem dX1_forget_21 : decode cX1_forget 21 = .ok (.isub, 1) := dk_100 (dk_at dksX1_forget_0 21 rfl rfl)
theorem dX1_forget_22 : decode cX1_forget 22 = .ok (.putfield 128, 3) := dk_181 0 128 (dk_at dksX1_forget_1 0 rfl rfl)
theorem dX1_forget_25 : decode cX1_forget 25 = .ok (.aload_n 0, 1) := dk_42 (dk_at dksX1_forget_1 3 rfl rfl)
theorem dX1_forget_26 : decode cX1_forget 26 = .ok (.getfield 19, 3) := dk_180 0 19 (dk_at dksX1_forget_1 4 rfl rfl)
theorem dX1_forget_29 : decode cX1_forget 29 = .ok (.getfield 128, 3) := dk_180 0 128 (dk_at dksX1_forget_1 7 rfl rfl)
theorem dX1_forget_32 : decode cX1_forget 32 = .ok (.ireturn, 1) := dk_172 (dk_at dksX1_forget_1 10 rfl rfl)
abbrev cX1_image : ByteArray := prog_1_method_49_code
def yX1_image : MethodName := ⟨RX1, "image", "()V"⟩
def dkwX1_image_0 : List UInt8 := [42, 180, 0, 23, 42, 180, 0, 19, 182, 1, 49, 42, 4, 181, 0, 131, 177]
abbrev dktX1_image_0 : List UInt8 := dkwX1_image_0 ++ []
theorem dksX1_image_0 : cX1_image.data.toList.drop 0 = dktX1_image_0 := by decide +kernel
theorem dX1_image_0 : decode cX1_image 0 = .ok (.aload_n 0, 1) := dk_42 (dk_at dksX1_image_0 0 rfl rfl)
theorem dX1_image_1 : decode cX1_image 1 = .ok (.getfield 23, 3) := dk_180 0 23 (dk_at dksX1_image_0 1 rfl rfl)
theorem dX1_image_4 : decode cX1_image 4 = .ok (.aload_n 0, 1) := dk_42 (dk_at dksX1_image_0 4 rfl rfl)
theorem dX1_image_5 : decode cX1_image 5 = .ok (.getfield 19, 3) := dk_180 0 19 (dk_at dksX1_image_0 5 rfl rfl)
theorem dX1_image_8 : decode cX1_image 8 = .ok (.invokevirtual 305, 3) := dk_182 1 49 (dk_at dksX1_image_0 8 rfl rfl)
theorem dX1_image_11 : decode cX1_image 11 = .ok (.aload_n 0, 1) := dk_42 (dk_at dksX1_image_0 11 rfl rfl)
theorem dX1_image_12 : decode cX1_image 12 = .ok (.iconst 1, 1) := dk_4 (dk_at dksX1_image_0 12 rfl rfl)
theorem dX1_image_13 : decode cX1_image 13 = .ok (.putfield 131, 3) := dk_181 0 131 (dk_at dksX1_image_0 13 rfl rfl)
theorem dX1_image_16 : decode cX1_image 16 = .ok (.return_, 1) := dk_177 (dk_at dksX1_image_0 16 rfl rfl)
abbrev cX1_restore : ByteArray := prog_1_method_50_code
def yX1_restore : MethodName := ⟨RX1, "restore", "()Z"⟩
def dkwX1_restore_0 : List UInt8 := [42, 180, 0, 131, 154, 0, 5, 3, 172, 42, 180, 0, 19, 42, 180, 0, 23, 182, 1, 49, 4, 172]
abbrev dktX1_restore_0 : List UInt8 := dkwX1_restore_0 ++ []
theorem dksX1_restore_0 : cX1_restore.data.toList.drop 0 = dktX1_restore_0 := by decide +kernel
theorem dX1_restore_0 : decode cX1_restore 0 = .ok (.aload_n 0, 1) := dk_42 (dk_at dksX1_restore_0 0 rfl rfl)
theorem dX1_restore_1 : decode cX1_restore 1 = .ok (.getfield 131, 3) := dk_180 0 131 (dk_at dksX1_restore_0 1 rfl rfl)
theorem dX1_restore_4 : decode cX1_restore 4 = .ok (.ifCond .ne 5, 3) := dk_154 0 5 (dk_at dksX1_restore_0 4 rfl rfl)
theorem dX1_restore_7 : decode cX1_restore 7 = .ok (.iconst 0, 1) := dk_3 (dk_at dksX1_restore_0 7 rfl rfl)
theorem dX1_restore_8 : decode cX1_restore 8 = .ok (.ireturn, 1) := dk_172 (dk_at dksX1_restore_0 8 rfl rfl)
theorem dX1_restore_9 : decode cX1_restore 9 = .ok (.aload_n 0, 1) := dk_42 (dk_at dksX1_restore_0 9 rfl rfl)
theorem dX1_restore_10 : decode cX1_restore 10 = .ok (.getfield 19, 3) := dk_180 0 19 (dk_at dksX1_restore_0 10 rfl rfl)
theorem dX1_restore_13 : decode cX1_restore 13 = .ok (.aload_n 0, 1) := dk_42 (dk_at dksX1_restore_0 13 rfl rfl)
theorem dX1_restore_14 : decode cX1_restore 14 = .ok (.getfield 23, 3) := dk_180 0 23 (dk_at dksX1_restore_0 14 rfl rfl)
theorem dX1_restore_17 : decode cX1_restore 17 = .ok (.invokevirtual 305, 3) := dk_182 1 49 (dk_at dksX1_restore_0 17 rfl rfl)
theorem dX1_restore_20 : decode cX1_restore 20 = .ok (.iconst 1, 1) := dk_4 (dk_at dksX1_restore_0 20 rfl rfl)
theorem dX1_restore_21 : decode cX1_restore 21 = .ok (.ireturn, 1) := dk_172 (dk_at dksX1_restore_0 21 rfl rfl)
abbrev cX1_land : ByteArray := prog_1_method_11_code
def yX1_land : MethodName := ⟨RX1, "land", "(I)I"⟩
def dkwX1_land_5 : List UInt8 := [180, 0, 19, 3, 181, 0, 128, 42, 3, 181, 0, 131, 3, 172]
abbrev dktX1_land_5 : List UInt8 := dkwX1_land_5 ++ []
def dkwX1_land_4 : List UInt8 := [89, 42, 180, 0, 10, 42, 180, 0, 34, 183, 0, 39, 181, 0, 42, 42, 180, 0, 19, 3, 181, 0, 125, 42]
abbrev dktX1_land_4 : List UInt8 := dkwX1_land_4 ++ dktX1_land_5
def dkwX1_land_3 : List UInt8 := [46, 4, 96, 79, 44, 180, 0, 122, 172, 42, 180, 0, 30, 42, 180, 0, 10, 182, 0, 57, 42, 187, 0, 37]
abbrev dktX1_land_3 : List UInt8 := dkwX1_land_3 ++ dktX1_land_4
def dkwX1_land_2 : List UInt8 := [181, 0, 10, 167, 0, 30, 77, 42, 44, 180, 0, 115, 181, 0, 50, 42, 180, 0, 19, 180, 0, 118, 3, 92]
abbrev dktX1_land_2 : List UInt8 := dkwX1_land_2 ++ dktX1_land_3
def dkwX1_land_1 : List UInt8 := [181, 0, 95, 42, 2, 181, 0, 50, 42, 187, 0, 105, 89, 42, 180, 0, 46, 27, 183, 0, 107, 182, 0, 110]
abbrev dktX1_land_1 : List UInt8 := dkwX1_land_1 ++ dktX1_land_2
def dkwX1_land_0 : List UInt8 := [27, 155, 0, 15, 27, 42, 180, 0, 95, 163, 0, 7, 4, 167, 0, 4, 3, 184, 0, 102, 42, 3]
abbrev dktX1_land_0 : List UInt8 := dkwX1_land_0 ++ dktX1_land_1
theorem dksX1_land_0 : cX1_land.data.toList.drop 0 = dktX1_land_0 := by decide +kernel
theorem dksX1_land_1 : cX1_land.data.toList.drop 22 = dktX1_land_1 := dk_seg dksX1_land_0 22 rfl rfl
theorem dksX1_land_2 : cX1_land.data.toList.drop 46 = dktX1_land_2 := dk_seg dksX1_land_1 24 rfl rfl
theorem dksX1_land_3 : cX1_land.data.toList.drop 70 = dktX1_land_3 := dk_seg dksX1_land_2 24 rfl rfl
theorem dksX1_land_4 : cX1_land.data.toList.drop 94 = dktX1_land_4 := dk_seg dksX1_land_3 24 rfl rfl
theorem dksX1_land_5 : cX1_land.data.toList.drop 118 = dktX1_land_5 := dk_seg dksX1_land_4 24 rfl rfl
theorem dX1_land_0 : decode cX1_land 0 = .ok (.iload_n 1, 1) := dk_27 (dk_at dksX1_land_0 0 rfl rfl)
theorem dX1_land_1 : decode cX1_land 1 = .ok (.ifCond .lt 15, 3) := dk_155 0 15 (dk_at dksX1_land_0 1 rfl rfl)
theorem dX1_land_4 : decode cX1_land 4 = .ok (.iload_n 1, 1) := dk_27 (dk_at dksX1_land_0 4 rfl rfl)
theorem dX1_land_5 : decode cX1_land 5 = .ok (.aload_n 0, 1) := dk_42 (dk_at dksX1_land_0 5 rfl rfl)
theorem dX1_land_6 : decode cX1_land 6 = .ok (.getfield 95, 3) := dk_180 0 95 (dk_at dksX1_land_0 6 rfl rfl)
theorem dX1_land_9 : decode cX1_land 9 = .ok (.if_icmp .gt 7, 3) := dk_163 0 7 (dk_at dksX1_land_0 9 rfl rfl)
theorem dX1_land_12 : decode cX1_land 12 = .ok (.iconst 1, 1) := dk_4 (dk_at dksX1_land_0 12 rfl rfl)
theorem dX1_land_13 : decode cX1_land 13 = .ok (.goto 4, 3) := dk_167 0 4 (dk_at dksX1_land_0 13 rfl rfl)
theorem dX1_land_16 : decode cX1_land 16 = .ok (.iconst 0, 1) := dk_3 (dk_at dksX1_land_0 16 rfl rfl)
theorem dX1_land_17 : decode cX1_land 17 = .ok (.invokestatic 102, 3) := dk_184 0 102 (dk_at dksX1_land_0 17 rfl rfl)
theorem dX1_land_20 : decode cX1_land 20 = .ok (.aload_n 0, 1) := dk_42 (dk_at dksX1_land_0 20 rfl rfl)
theorem dX1_land_21 : decode cX1_land 21 = .ok (.iconst 0, 1) := dk_3 (dk_at dksX1_land_0 21 rfl rfl)
theorem dX1_land_22 : decode cX1_land 22 = .ok (.putfield 95, 3) := dk_181 0 95 (dk_at dksX1_land_1 0 rfl rfl)
theorem dX1_land_25 : decode cX1_land 25 = .ok (.aload_n 0, 1) := dk_42 (dk_at dksX1_land_1 3 rfl rfl)
theorem dX1_land_26 : decode cX1_land 26 = .ok (.iconst (-1), 1) := dk_2 (dk_at dksX1_land_1 4 rfl rfl)
theorem dX1_land_27 : decode cX1_land 27 = .ok (.putfield 50, 3) := dk_181 0 50 (dk_at dksX1_land_1 5 rfl rfl)
theorem dX1_land_30 : decode cX1_land 30 = .ok (.aload_n 0, 1) := dk_42 (dk_at dksX1_land_1 8 rfl rfl)
theorem dX1_land_31 : decode cX1_land 31 = .ok (.new 105, 3) := dk_187 0 105 (dk_at dksX1_land_1 9 rfl rfl)
theorem dX1_land_34 : decode cX1_land 34 = .ok (.dup, 1) := dk_89 (dk_at dksX1_land_1 12 rfl rfl)
theorem dX1_land_35 : decode cX1_land 35 = .ok (.aload_n 0, 1) := dk_42 (dk_at dksX1_land_1 13 rfl rfl)
theorem dX1_land_36 : decode cX1_land 36 = .ok (.getfield 46, 3) := dk_180 0 46 (dk_at dksX1_land_1 14 rfl rfl)
theorem dX1_land_39 : decode cX1_land 39 = .ok (.iload_n 1, 1) := dk_27 (dk_at dksX1_land_1 17 rfl rfl)
theorem dX1_land_40 : decode cX1_land 40 = .ok (.invokespecial 107, 3) := dk_183 0 107 (dk_at dksX1_land_1 18 rfl rfl)
theorem dX1_land_43 : decode cX1_land 43 = .ok (.invokevirtual 110, 3) := dk_182 0 110 (dk_at dksX1_land_1 21 rfl rfl)
theorem dX1_land_46 : decode cX1_land 46 = .ok (.putfield 10, 3) := dk_181 0 10 (dk_at dksX1_land_2 0 rfl rfl)
theorem dX1_land_49 : decode cX1_land 49 = .ok (.goto 30, 3) := dk_167 0 30 (dk_at dksX1_land_2 3 rfl rfl)
theorem dX1_land_52 : decode cX1_land 52 = .ok (.astore_n 2, 1) := dk_77 (dk_at dksX1_land_2 6 rfl rfl)
theorem dX1_land_53 : decode cX1_land 53 = .ok (.aload_n 0, 1) := dk_42 (dk_at dksX1_land_2 7 rfl rfl)
theorem dX1_land_54 : decode cX1_land 54 = .ok (.aload_n 2, 1) := dk_44 (dk_at dksX1_land_2 8 rfl rfl)
theorem dX1_land_55 : decode cX1_land 55 = .ok (.getfield 115, 3) := dk_180 0 115 (dk_at dksX1_land_2 9 rfl rfl)
theorem dX1_land_58 : decode cX1_land 58 = .ok (.putfield 50, 3) := dk_181 0 50 (dk_at dksX1_land_2 12 rfl rfl)
theorem dX1_land_61 : decode cX1_land 61 = .ok (.aload_n 0, 1) := dk_42 (dk_at dksX1_land_2 15 rfl rfl)
theorem dX1_land_62 : decode cX1_land 62 = .ok (.getfield 19, 3) := dk_180 0 19 (dk_at dksX1_land_2 16 rfl rfl)
theorem dX1_land_65 : decode cX1_land 65 = .ok (.getfield 118, 3) := dk_180 0 118 (dk_at dksX1_land_2 19 rfl rfl)
theorem dX1_land_68 : decode cX1_land 68 = .ok (.iconst 0, 1) := dk_3 (dk_at dksX1_land_2 22 rfl rfl)
theorem dX1_land_69 : decode cX1_land 69 = .ok (.dup2, 1) := dk_92 (dk_at dksX1_land_2 23 rfl rfl)
theorem dX1_land_70 : decode cX1_land 70 = .ok (.iaload, 1) := dk_46 (dk_at dksX1_land_3 0 rfl rfl)
theorem dX1_land_71 : decode cX1_land 71 = .ok (.iconst 1, 1) := dk_4 (dk_at dksX1_land_3 1 rfl rfl)
theorem dX1_land_72 : decode cX1_land 72 = .ok (.iadd, 1) := dk_96 (dk_at dksX1_land_3 2 rfl rfl)
theorem dX1_land_73 : decode cX1_land 73 = .ok (.iastore, 1) := dk_79 (dk_at dksX1_land_3 3 rfl rfl)
theorem dX1_land_74 : decode cX1_land 74 = .ok (.aload_n 2, 1) := dk_44 (dk_at dksX1_land_3 4 rfl rfl)
theorem dX1_land_75 : decode cX1_land 75 = .ok (.getfield 122, 3) := dk_180 0 122 (dk_at dksX1_land_3 5 rfl rfl)
theorem dX1_land_78 : decode cX1_land 78 = .ok (.ireturn, 1) := dk_172 (dk_at dksX1_land_3 8 rfl rfl)
theorem dX1_land_79 : decode cX1_land 79 = .ok (.aload_n 0, 1) := dk_42 (dk_at dksX1_land_3 9 rfl rfl)
theorem dX1_land_80 : decode cX1_land 80 = .ok (.getfield 30, 3) := dk_180 0 30 (dk_at dksX1_land_3 10 rfl rfl)
theorem dX1_land_83 : decode cX1_land 83 = .ok (.aload_n 0, 1) := dk_42 (dk_at dksX1_land_3 13 rfl rfl)
theorem dX1_land_84 : decode cX1_land 84 = .ok (.getfield 10, 3) := dk_180 0 10 (dk_at dksX1_land_3 14 rfl rfl)
theorem dX1_land_87 : decode cX1_land 87 = .ok (.invokevirtual 57, 3) := dk_182 0 57 (dk_at dksX1_land_3 17 rfl rfl)
theorem dX1_land_90 : decode cX1_land 90 = .ok (.aload_n 0, 1) := dk_42 (dk_at dksX1_land_3 20 rfl rfl)
theorem dX1_land_91 : decode cX1_land 91 = .ok (.new 37, 3) := dk_187 0 37 (dk_at dksX1_land_3 21 rfl rfl)
theorem dX1_land_94 : decode cX1_land 94 = .ok (.dup, 1) := dk_89 (dk_at dksX1_land_4 0 rfl rfl)
theorem dX1_land_95 : decode cX1_land 95 = .ok (.aload_n 0, 1) := dk_42 (dk_at dksX1_land_4 1 rfl rfl)
theorem dX1_land_96 : decode cX1_land 96 = .ok (.getfield 10, 3) := dk_180 0 10 (dk_at dksX1_land_4 2 rfl rfl)
theorem dX1_land_99 : decode cX1_land 99 = .ok (.aload_n 0, 1) := dk_42 (dk_at dksX1_land_4 5 rfl rfl)
theorem dX1_land_100 : decode cX1_land 100 = .ok (.getfield 34, 3) := dk_180 0 34 (dk_at dksX1_land_4 6 rfl rfl)
theorem dX1_land_103 : decode cX1_land 103 = .ok (.invokespecial 39, 3) := dk_183 0 39 (dk_at dksX1_land_4 9 rfl rfl)
theorem dX1_land_106 : decode cX1_land 106 = .ok (.putfield 42, 3) := dk_181 0 42 (dk_at dksX1_land_4 12 rfl rfl)
theorem dX1_land_109 : decode cX1_land 109 = .ok (.aload_n 0, 1) := dk_42 (dk_at dksX1_land_4 15 rfl rfl)
theorem dX1_land_110 : decode cX1_land 110 = .ok (.getfield 19, 3) := dk_180 0 19 (dk_at dksX1_land_4 16 rfl rfl)
theorem dX1_land_113 : decode cX1_land 113 = .ok (.iconst 0, 1) := dk_3 (dk_at dksX1_land_4 19 rfl rfl)
theorem dX1_land_114 : decode cX1_land 114 = .ok (.putfield 125, 3) := dk_181 0 125 (dk_at dksX1_land_4 20 rfl rfl)
theorem dX1_land_117 : decode cX1_land 117 = .ok (.aload_n 0, 1) := dk_42 (dk_at dksX1_land_4 23 rfl rfl)
theorem dX1_land_118 : decode cX1_land 118 = .ok (.getfield 19, 3) := dk_180 0 19 (dk_at dksX1_land_5 0 rfl rfl)
theorem dX1_land_121 : decode cX1_land 121 = .ok (.iconst 0, 1) := dk_3 (dk_at dksX1_land_5 3 rfl rfl)
theorem dX1_land_122 : decode cX1_land 122 = .ok (.putfield 128, 3) := dk_181 0 128 (dk_at dksX1_land_5 4 rfl rfl)
theorem dX1_land_125 : decode cX1_land 125 = .ok (.aload_n 0, 1) := dk_42 (dk_at dksX1_land_5 7 rfl rfl)
theorem dX1_land_126 : decode cX1_land 126 = .ok (.iconst 0, 1) := dk_3 (dk_at dksX1_land_5 8 rfl rfl)
theorem dX1_land_127 : decode cX1_land 127 = .ok (.putfield 131, 3) := dk_181 0 131 (dk_at dksX1_land_5 9 rfl rfl)
theorem dX1_land_130 : decode cX1_land 130 = .ok (.iconst 0, 1) := dk_3 (dk_at dksX1_land_5 12 rfl rfl)
theorem dX1_land_131 : decode cX1_land 131 = .ok (.ireturn, 1) := dk_172 (dk_at dksX1_land_5 13 rfl rfl)
abbrev cX1_right : ByteArray := prog_1_method_2_code
def yX1_right : MethodName := ⟨RX1, "right", "(Z)V"⟩
def dkwX1_right_0 : List UInt8 := [26, 154, 0, 11, 187, 0, 61, 89, 183, 0, 63, 191, 177]
abbrev dktX1_right_0 : List UInt8 := dkwX1_right_0 ++ []
theorem dksX1_right_0 : cX1_right.data.toList.drop 0 = dktX1_right_0 := by decide +kernel
theorem dX1_right_0 : decode cX1_right 0 = .ok (.iload_n 0, 1) := dk_26 (dk_at dksX1_right_0 0 rfl rfl)
theorem dX1_right_1 : decode cX1_right 1 = .ok (.ifCond .ne 11, 3) := dk_154 0 11 (dk_at dksX1_right_0 1 rfl rfl)
theorem dX1_right_4 : decode cX1_right 4 = .ok (.new 61, 3) := dk_187 0 61 (dk_at dksX1_right_0 4 rfl rfl)
theorem dX1_right_7 : decode cX1_right 7 = .ok (.dup, 1) := dk_89 (dk_at dksX1_right_0 7 rfl rfl)
theorem dX1_right_8 : decode cX1_right 8 = .ok (.invokespecial 63, 3) := dk_183 0 63 (dk_at dksX1_right_0 8 rfl rfl)
theorem dX1_right_11 : decode cX1_right 11 = .ok (.athrow, 1) := dk_191 (dk_at dksX1_right_0 11 rfl rfl)
theorem dX1_right_12 : decode cX1_right 12 = .ok (.return_, 1) := dk_177 (dk_at dksX1_right_0 12 rfl rfl)
abbrev cX1_count : ByteArray := prog_1_method_14_code
def yX1_count : MethodName := ⟨RX1, "count", "(I)I"⟩
def dkwX1_count_6 : List UInt8 := [180, 0, 95, 172, 42, 180, 0, 19, 180, 0, 118, 27, 16, 13, 100, 46, 172]
abbrev dktX1_count_6 : List UInt8 := dkwX1_count_6 ++ []
def dkwX1_count_5 : List UInt8 := [42, 182, 0, 164, 172, 42, 180, 0, 19, 180, 0, 125, 172, 42, 180, 0, 19, 180, 0, 128, 172, 42]
abbrev dktX1_count_5 : List UInt8 := dkwX1_count_5 ++ dktX1_count_6
def dkwX1_count_4 : List UInt8 := [42, 180, 0, 30, 180, 0, 155, 172, 42, 180, 0, 30, 180, 0, 158, 172, 42, 180, 0, 30, 180, 0, 161, 172]
abbrev dktX1_count_4 : List UInt8 := dkwX1_count_4 ++ dktX1_count_5
def dkwX1_count_3 : List UInt8 := [42, 180, 0, 10, 180, 0, 86, 182, 0, 71, 172, 42, 182, 0, 84, 172, 42, 180, 0, 30, 180, 0, 152, 172]
abbrev dktX1_count_3 : List UInt8 := dkwX1_count_3 ++ dktX1_count_4
def dkwX1_count_2 : List UInt8 := [42, 180, 0, 10, 180, 0, 77, 172, 42, 180, 0, 10, 180, 0, 146, 172, 42, 180, 0, 10, 180, 0, 149, 172]
abbrev dktX1_count_2 : List UInt8 := dkwX1_count_2 ++ dktX1_count_3
def dkwX1_count_1 : List UInt8 := [170, 0, 0, 0, 163, 0, 0, 0, 0, 0, 0, 0, 12, 0, 0, 0, 65, 0, 0, 0, 73, 0, 0, 0, 81, 0, 0, 0, 89, 0, 0, 0, 100, 0, 0, 0, 105, 0, 0, 0, 113, 0, 0, 0, 121, 0, 0, 0, 129, 0, 0, 0, 137, 0, 0, 0, 142, 0, 0, 0, 150, 0, 0, 0, 158]
abbrev dktX1_count_1 : List UInt8 := dkwX1_count_1 ++ dktX1_count_2
def dkwX1_count_0 : List UInt8 := [27, 3, 16, 15, 184, 0, 142, 184, 0, 80, 27]
abbrev dktX1_count_0 : List UInt8 := dkwX1_count_0 ++ dktX1_count_1
theorem dksX1_count_0 : cX1_count.data.toList.drop 0 = dktX1_count_0 := by decide +kernel
theorem dksX1_count_1 : cX1_count.data.toList.drop 11 = dktX1_count_1 := dk_seg dksX1_count_0 11 rfl rfl
theorem dksX1_count_2 : cX1_count.data.toList.drop 76 = dktX1_count_2 := dk_seg dksX1_count_1 65 rfl rfl
theorem dksX1_count_3 : cX1_count.data.toList.drop 100 = dktX1_count_3 := dk_seg dksX1_count_2 24 rfl rfl
theorem dksX1_count_4 : cX1_count.data.toList.drop 124 = dktX1_count_4 := dk_seg dksX1_count_3 24 rfl rfl
theorem dksX1_count_5 : cX1_count.data.toList.drop 148 = dktX1_count_5 := dk_seg dksX1_count_4 24 rfl rfl
theorem dksX1_count_6 : cX1_count.data.toList.drop 170 = dktX1_count_6 := dk_seg dksX1_count_5 22 rfl rfl
theorem dX1_count_0 : decode cX1_count 0 = .ok (.iload_n 1, 1) := dk_27 (dk_at dksX1_count_0 0 rfl rfl)
theorem dX1_count_1 : decode cX1_count 1 = .ok (.iconst 0, 1) := dk_3 (dk_at dksX1_count_0 1 rfl rfl)
theorem dX1_count_2 : decode cX1_count 2 = .ok (.bipush 15, 2) := dk_16 15 (dk_at dksX1_count_0 2 rfl rfl)
theorem dX1_count_4 : decode cX1_count 4 = .ok (.invokestatic 142, 3) := dk_184 0 142 (dk_at dksX1_count_0 4 rfl rfl)
theorem dX1_count_7 : decode cX1_count 7 = .ok (.invokestatic 80, 3) := dk_184 0 80 (dk_at dksX1_count_0 7 rfl rfl)
theorem dX1_count_10 : decode cX1_count 10 = .ok (.iload_n 1, 1) := dk_27 (dk_at dksX1_count_0 10 rfl rfl)
theorem dX1_count_11 : decode cX1_count 11 = .ok (.tableswitch 163 0 12 #[65, 73, 81, 89, 100, 105, 113, 121, 129, 137, 142, 150, 158], 65) := by decide +kernel
theorem dX1_count_76 : decode cX1_count 76 = .ok (.aload_n 0, 1) := dk_42 (dk_at dksX1_count_2 0 rfl rfl)
theorem dX1_count_77 : decode cX1_count 77 = .ok (.getfield 10, 3) := dk_180 0 10 (dk_at dksX1_count_2 1 rfl rfl)
theorem dX1_count_80 : decode cX1_count 80 = .ok (.getfield 77, 3) := dk_180 0 77 (dk_at dksX1_count_2 4 rfl rfl)
theorem dX1_count_83 : decode cX1_count 83 = .ok (.ireturn, 1) := dk_172 (dk_at dksX1_count_2 7 rfl rfl)
theorem dX1_count_84 : decode cX1_count 84 = .ok (.aload_n 0, 1) := dk_42 (dk_at dksX1_count_2 8 rfl rfl)
theorem dX1_count_85 : decode cX1_count 85 = .ok (.getfield 10, 3) := dk_180 0 10 (dk_at dksX1_count_2 9 rfl rfl)
theorem dX1_count_88 : decode cX1_count 88 = .ok (.getfield 146, 3) := dk_180 0 146 (dk_at dksX1_count_2 12 rfl rfl)
theorem dX1_count_91 : decode cX1_count 91 = .ok (.ireturn, 1) := dk_172 (dk_at dksX1_count_2 15 rfl rfl)
theorem dX1_count_92 : decode cX1_count 92 = .ok (.aload_n 0, 1) := dk_42 (dk_at dksX1_count_2 16 rfl rfl)
theorem dX1_count_93 : decode cX1_count 93 = .ok (.getfield 10, 3) := dk_180 0 10 (dk_at dksX1_count_2 17 rfl rfl)
theorem dX1_count_96 : decode cX1_count 96 = .ok (.getfield 149, 3) := dk_180 0 149 (dk_at dksX1_count_2 20 rfl rfl)
theorem dX1_count_99 : decode cX1_count 99 = .ok (.ireturn, 1) := dk_172 (dk_at dksX1_count_2 23 rfl rfl)
theorem dX1_count_100 : decode cX1_count 100 = .ok (.aload_n 0, 1) := dk_42 (dk_at dksX1_count_3 0 rfl rfl)
theorem dX1_count_101 : decode cX1_count 101 = .ok (.getfield 10, 3) := dk_180 0 10 (dk_at dksX1_count_3 1 rfl rfl)
theorem dX1_count_104 : decode cX1_count 104 = .ok (.getfield 86, 3) := dk_180 0 86 (dk_at dksX1_count_3 4 rfl rfl)
theorem dX1_count_107 : decode cX1_count 107 = .ok (.invokevirtual 71, 3) := dk_182 0 71 (dk_at dksX1_count_3 7 rfl rfl)
theorem dX1_count_110 : decode cX1_count 110 = .ok (.ireturn, 1) := dk_172 (dk_at dksX1_count_3 10 rfl rfl)
theorem dX1_count_111 : decode cX1_count 111 = .ok (.aload_n 0, 1) := dk_42 (dk_at dksX1_count_3 11 rfl rfl)
theorem dX1_count_112 : decode cX1_count 112 = .ok (.invokevirtual 84, 3) := dk_182 0 84 (dk_at dksX1_count_3 12 rfl rfl)
theorem dX1_count_115 : decode cX1_count 115 = .ok (.ireturn, 1) := dk_172 (dk_at dksX1_count_3 15 rfl rfl)
theorem dX1_count_116 : decode cX1_count 116 = .ok (.aload_n 0, 1) := dk_42 (dk_at dksX1_count_3 16 rfl rfl)
theorem dX1_count_117 : decode cX1_count 117 = .ok (.getfield 30, 3) := dk_180 0 30 (dk_at dksX1_count_3 17 rfl rfl)
theorem dX1_count_120 : decode cX1_count 120 = .ok (.getfield 152, 3) := dk_180 0 152 (dk_at dksX1_count_3 20 rfl rfl)
theorem dX1_count_123 : decode cX1_count 123 = .ok (.ireturn, 1) := dk_172 (dk_at dksX1_count_3 23 rfl rfl)
theorem dX1_count_124 : decode cX1_count 124 = .ok (.aload_n 0, 1) := dk_42 (dk_at dksX1_count_4 0 rfl rfl)
theorem dX1_count_125 : decode cX1_count 125 = .ok (.getfield 30, 3) := dk_180 0 30 (dk_at dksX1_count_4 1 rfl rfl)
theorem dX1_count_128 : decode cX1_count 128 = .ok (.getfield 155, 3) := dk_180 0 155 (dk_at dksX1_count_4 4 rfl rfl)
theorem dX1_count_131 : decode cX1_count 131 = .ok (.ireturn, 1) := dk_172 (dk_at dksX1_count_4 7 rfl rfl)
theorem dX1_count_132 : decode cX1_count 132 = .ok (.aload_n 0, 1) := dk_42 (dk_at dksX1_count_4 8 rfl rfl)
theorem dX1_count_133 : decode cX1_count 133 = .ok (.getfield 30, 3) := dk_180 0 30 (dk_at dksX1_count_4 9 rfl rfl)
theorem dX1_count_136 : decode cX1_count 136 = .ok (.getfield 158, 3) := dk_180 0 158 (dk_at dksX1_count_4 12 rfl rfl)
theorem dX1_count_139 : decode cX1_count 139 = .ok (.ireturn, 1) := dk_172 (dk_at dksX1_count_4 15 rfl rfl)
theorem dX1_count_140 : decode cX1_count 140 = .ok (.aload_n 0, 1) := dk_42 (dk_at dksX1_count_4 16 rfl rfl)
theorem dX1_count_141 : decode cX1_count 141 = .ok (.getfield 30, 3) := dk_180 0 30 (dk_at dksX1_count_4 17 rfl rfl)
theorem dX1_count_144 : decode cX1_count 144 = .ok (.getfield 161, 3) := dk_180 0 161 (dk_at dksX1_count_4 20 rfl rfl)
theorem dX1_count_147 : decode cX1_count 147 = .ok (.ireturn, 1) := dk_172 (dk_at dksX1_count_4 23 rfl rfl)
theorem dX1_count_148 : decode cX1_count 148 = .ok (.aload_n 0, 1) := dk_42 (dk_at dksX1_count_5 0 rfl rfl)
theorem dX1_count_149 : decode cX1_count 149 = .ok (.invokevirtual 164, 3) := dk_182 0 164 (dk_at dksX1_count_5 1 rfl rfl)
theorem dX1_count_152 : decode cX1_count 152 = .ok (.ireturn, 1) := dk_172 (dk_at dksX1_count_5 4 rfl rfl)
theorem dX1_count_153 : decode cX1_count 153 = .ok (.aload_n 0, 1) := dk_42 (dk_at dksX1_count_5 5 rfl rfl)
theorem dX1_count_154 : decode cX1_count 154 = .ok (.getfield 19, 3) := dk_180 0 19 (dk_at dksX1_count_5 6 rfl rfl)
theorem dX1_count_157 : decode cX1_count 157 = .ok (.getfield 125, 3) := dk_180 0 125 (dk_at dksX1_count_5 9 rfl rfl)
theorem dX1_count_160 : decode cX1_count 160 = .ok (.ireturn, 1) := dk_172 (dk_at dksX1_count_5 12 rfl rfl)
theorem dX1_count_161 : decode cX1_count 161 = .ok (.aload_n 0, 1) := dk_42 (dk_at dksX1_count_5 13 rfl rfl)
theorem dX1_count_162 : decode cX1_count 162 = .ok (.getfield 19, 3) := dk_180 0 19 (dk_at dksX1_count_5 14 rfl rfl)
theorem dX1_count_165 : decode cX1_count 165 = .ok (.getfield 128, 3) := dk_180 0 128 (dk_at dksX1_count_5 17 rfl rfl)
theorem dX1_count_168 : decode cX1_count 168 = .ok (.ireturn, 1) := dk_172 (dk_at dksX1_count_5 20 rfl rfl)
theorem dX1_count_169 : decode cX1_count 169 = .ok (.aload_n 0, 1) := dk_42 (dk_at dksX1_count_5 21 rfl rfl)
theorem dX1_count_170 : decode cX1_count 170 = .ok (.getfield 95, 3) := dk_180 0 95 (dk_at dksX1_count_6 0 rfl rfl)
theorem dX1_count_173 : decode cX1_count 173 = .ok (.ireturn, 1) := dk_172 (dk_at dksX1_count_6 3 rfl rfl)
theorem dX1_count_174 : decode cX1_count 174 = .ok (.aload_n 0, 1) := dk_42 (dk_at dksX1_count_6 4 rfl rfl)
theorem dX1_count_175 : decode cX1_count 175 = .ok (.getfield 19, 3) := dk_180 0 19 (dk_at dksX1_count_6 5 rfl rfl)
theorem dX1_count_178 : decode cX1_count 178 = .ok (.getfield 118, 3) := dk_180 0 118 (dk_at dksX1_count_6 8 rfl rfl)
theorem dX1_count_181 : decode cX1_count 181 = .ok (.iload_n 1, 1) := dk_27 (dk_at dksX1_count_6 11 rfl rfl)
theorem dX1_count_182 : decode cX1_count 182 = .ok (.bipush 13, 2) := dk_16 13 (dk_at dksX1_count_6 12 rfl rfl)
theorem dX1_count_184 : decode cX1_count 184 = .ok (.isub, 1) := dk_100 (dk_at dksX1_count_6 14 rfl rfl)
theorem dX1_count_185 : decode cX1_count 185 = .ok (.iaload, 1) := dk_46 (dk_at dksX1_count_6 15 rfl rfl)
theorem dX1_count_186 : decode cX1_count 186 = .ok (.ireturn, 1) := dk_172 (dk_at dksX1_count_6 16 rfl rfl)
abbrev cX1_within : ByteArray := prog_1_method_4_code
def yX1_within : MethodName := ⟨RX1, "within", "(III)Z"⟩
def dkwX1_within_0 : List UInt8 := [26, 27, 161, 0, 12, 26, 28, 163, 0, 7, 4, 167, 0, 4, 3, 172]
abbrev dktX1_within_0 : List UInt8 := dkwX1_within_0 ++ []
theorem dksX1_within_0 : cX1_within.data.toList.drop 0 = dktX1_within_0 := by decide +kernel
theorem dX1_within_0 : decode cX1_within 0 = .ok (.iload_n 0, 1) := dk_26 (dk_at dksX1_within_0 0 rfl rfl)
theorem dX1_within_1 : decode cX1_within 1 = .ok (.iload_n 1, 1) := dk_27 (dk_at dksX1_within_0 1 rfl rfl)
theorem dX1_within_2 : decode cX1_within 2 = .ok (.if_icmp .lt 12, 3) := dk_161 0 12 (dk_at dksX1_within_0 2 rfl rfl)
theorem dX1_within_5 : decode cX1_within 5 = .ok (.iload_n 0, 1) := dk_26 (dk_at dksX1_within_0 5 rfl rfl)
theorem dX1_within_6 : decode cX1_within 6 = .ok (.iload_n 2, 1) := dk_28 (dk_at dksX1_within_0 6 rfl rfl)
theorem dX1_within_7 : decode cX1_within 7 = .ok (.if_icmp .gt 7, 3) := dk_163 0 7 (dk_at dksX1_within_0 7 rfl rfl)
theorem dX1_within_10 : decode cX1_within 10 = .ok (.iconst 1, 1) := dk_4 (dk_at dksX1_within_0 10 rfl rfl)
theorem dX1_within_11 : decode cX1_within 11 = .ok (.goto 4, 3) := dk_167 0 4 (dk_at dksX1_within_0 11 rfl rfl)
theorem dX1_within_14 : decode cX1_within 14 = .ok (.iconst 0, 1) := dk_3 (dk_at dksX1_within_0 14 rfl rfl)
theorem dX1_within_15 : decode cX1_within 15 = .ok (.ireturn, 1) := dk_172 (dk_at dksX1_within_0 15 rfl rfl)
abbrev cX1_there : ByteArray := prog_1_method_3_code
def yX1_there : MethodName := ⟨RX1, "there", "(Z)V"⟩
def dkwX1_there_0 : List UInt8 := [26, 154, 0, 11, 187, 0, 64, 89, 183, 0, 66, 191, 177]
abbrev dktX1_there_0 : List UInt8 := dkwX1_there_0 ++ []
theorem dksX1_there_0 : cX1_there.data.toList.drop 0 = dktX1_there_0 := by decide +kernel
theorem dX1_there_0 : decode cX1_there 0 = .ok (.iload_n 0, 1) := dk_26 (dk_at dksX1_there_0 0 rfl rfl)
theorem dX1_there_1 : decode cX1_there 1 = .ok (.ifCond .ne 11, 3) := dk_154 0 11 (dk_at dksX1_there_0 1 rfl rfl)
theorem dX1_there_4 : decode cX1_there 4 = .ok (.new 64, 3) := dk_187 0 64 (dk_at dksX1_there_0 4 rfl rfl)
theorem dX1_there_7 : decode cX1_there 7 = .ok (.dup, 1) := dk_89 (dk_at dksX1_there_0 7 rfl rfl)
theorem dX1_there_8 : decode cX1_there 8 = .ok (.invokespecial 66, 3) := dk_183 0 66 (dk_at dksX1_there_0 8 rfl rfl)
theorem dX1_there_11 : decode cX1_there 11 = .ok (.athrow, 1) := dk_191 (dk_at dksX1_there_0 11 rfl rfl)
theorem dX1_there_12 : decode cX1_there 12 = .ok (.return_, 1) := dk_177 (dk_at dksX1_there_0 12 rfl rfl)
abbrev cX1_cases : ByteArray := prog_1_method_5_code
def yX1_cases : MethodName := ⟨RX1, "cases", "()I"⟩
def dkwX1_cases_0 : List UInt8 := [42, 180, 0, 10, 180, 0, 67, 182, 0, 71, 172]
abbrev dktX1_cases_0 : List UInt8 := dkwX1_cases_0 ++ []
theorem dksX1_cases_0 : cX1_cases.data.toList.drop 0 = dktX1_cases_0 := by decide +kernel
theorem dX1_cases_0 : decode cX1_cases 0 = .ok (.aload_n 0, 1) := dk_42 (dk_at dksX1_cases_0 0 rfl rfl)
theorem dX1_cases_1 : decode cX1_cases 1 = .ok (.getfield 10, 3) := dk_180 0 10 (dk_at dksX1_cases_0 1 rfl rfl)
theorem dX1_cases_4 : decode cX1_cases 4 = .ok (.getfield 67, 3) := dk_180 0 67 (dk_at dksX1_cases_0 4 rfl rfl)
theorem dX1_cases_7 : decode cX1_cases 7 = .ok (.invokevirtual 71, 3) := dk_182 0 71 (dk_at dksX1_cases_0 7 rfl rfl)
theorem dX1_cases_10 : decode cX1_cases 10 = .ok (.ireturn, 1) := dk_172 (dk_at dksX1_cases_0 10 rfl rfl)
abbrev cX1_tries : ByteArray := prog_1_method_13_code
def yX1_tries : MethodName := ⟨RX1, "tries", "()I"⟩
def dkwX1_tries_0 : List UInt8 := [42, 180, 0, 34, 42, 180, 0, 30, 182, 0, 135, 42, 180, 0, 42, 182, 0, 139, 172]
abbrev dktX1_tries_0 : List UInt8 := dkwX1_tries_0 ++ []
theorem dksX1_tries_0 : cX1_tries.data.toList.drop 0 = dktX1_tries_0 := by decide +kernel
theorem dX1_tries_0 : decode cX1_tries 0 = .ok (.aload_n 0, 1) := dk_42 (dk_at dksX1_tries_0 0 rfl rfl)
theorem dX1_tries_1 : decode cX1_tries 1 = .ok (.getfield 34, 3) := dk_180 0 34 (dk_at dksX1_tries_0 1 rfl rfl)
theorem dX1_tries_4 : decode cX1_tries 4 = .ok (.aload_n 0, 1) := dk_42 (dk_at dksX1_tries_0 4 rfl rfl)
theorem dX1_tries_5 : decode cX1_tries 5 = .ok (.getfield 30, 3) := dk_180 0 30 (dk_at dksX1_tries_0 5 rfl rfl)
theorem dX1_tries_8 : decode cX1_tries 8 = .ok (.invokevirtual 135, 3) := dk_182 0 135 (dk_at dksX1_tries_0 8 rfl rfl)
theorem dX1_tries_11 : decode cX1_tries 11 = .ok (.aload_n 0, 1) := dk_42 (dk_at dksX1_tries_0 11 rfl rfl)
theorem dX1_tries_12 : decode cX1_tries 12 = .ok (.getfield 42, 3) := dk_180 0 42 (dk_at dksX1_tries_0 12 rfl rfl)
theorem dX1_tries_15 : decode cX1_tries 15 = .ok (.invokevirtual 139, 3) := dk_182 0 139 (dk_at dksX1_tries_0 15 rfl rfl)
theorem dX1_tries_18 : decode cX1_tries 18 = .ok (.ireturn, 1) := dk_172 (dk_at dksX1_tries_0 18 rfl rfl)
abbrev cX1_far : ByteArray := prog_1_method_15_code
def yX1_far : MethodName := ⟨RX1, "far", "(III)I"⟩
def dkwX1_far_2 : List UInt8 := [17, 39, 15, 161, 0, 7, 2, 167, 0, 5, 21, 4, 172]
abbrev dktX1_far_2 : List UInt8 := dkwX1_far_2 ++ []
def dkwX1_far_1 : List UInt8 := [180, 0, 10, 27, 28, 182, 0, 170, 167, 0, 12, 42, 180, 0, 10, 27, 28, 182, 0, 174, 54, 4, 21, 4]
abbrev dktX1_far_1 : List UInt8 := dkwX1_far_1 ++ dktX1_far_2
def dkwX1_far_0 : List UInt8 := [42, 27, 182, 0, 167, 42, 28, 182, 0, 167, 29, 3, 4, 184, 0, 142, 184, 0, 80, 29, 154, 0, 15, 42]
abbrev dktX1_far_0 : List UInt8 := dkwX1_far_0 ++ dktX1_far_1
theorem dksX1_far_0 : cX1_far.data.toList.drop 0 = dktX1_far_0 := by decide +kernel
theorem dksX1_far_1 : cX1_far.data.toList.drop 24 = dktX1_far_1 := dk_seg dksX1_far_0 24 rfl rfl
theorem dksX1_far_2 : cX1_far.data.toList.drop 48 = dktX1_far_2 := dk_seg dksX1_far_1 24 rfl rfl
theorem dX1_far_0 : decode cX1_far 0 = .ok (.aload_n 0, 1) := dk_42 (dk_at dksX1_far_0 0 rfl rfl)
theorem dX1_far_1 : decode cX1_far 1 = .ok (.iload_n 1, 1) := dk_27 (dk_at dksX1_far_0 1 rfl rfl)
theorem dX1_far_2 : decode cX1_far 2 = .ok (.invokevirtual 167, 3) := dk_182 0 167 (dk_at dksX1_far_0 2 rfl rfl)
theorem dX1_far_5 : decode cX1_far 5 = .ok (.aload_n 0, 1) := dk_42 (dk_at dksX1_far_0 5 rfl rfl)
theorem dX1_far_6 : decode cX1_far 6 = .ok (.iload_n 2, 1) := dk_28 (dk_at dksX1_far_0 6 rfl rfl)
theorem dX1_far_7 : decode cX1_far 7 = .ok (.invokevirtual 167, 3) := dk_182 0 167 (dk_at dksX1_far_0 7 rfl rfl)
theorem dX1_far_10 : decode cX1_far 10 = .ok (.iload_n 3, 1) := dk_29 (dk_at dksX1_far_0 10 rfl rfl)
theorem dX1_far_11 : decode cX1_far 11 = .ok (.iconst 0, 1) := dk_3 (dk_at dksX1_far_0 11 rfl rfl)
theorem dX1_far_12 : decode cX1_far 12 = .ok (.iconst 1, 1) := dk_4 (dk_at dksX1_far_0 12 rfl rfl)
theorem dX1_far_13 : decode cX1_far 13 = .ok (.invokestatic 142, 3) := dk_184 0 142 (dk_at dksX1_far_0 13 rfl rfl)
theorem dX1_far_16 : decode cX1_far 16 = .ok (.invokestatic 80, 3) := dk_184 0 80 (dk_at dksX1_far_0 16 rfl rfl)
theorem dX1_far_19 : decode cX1_far 19 = .ok (.iload_n 3, 1) := dk_29 (dk_at dksX1_far_0 19 rfl rfl)
theorem dX1_far_20 : decode cX1_far 20 = .ok (.ifCond .ne 15, 3) := dk_154 0 15 (dk_at dksX1_far_0 20 rfl rfl)
theorem dX1_far_23 : decode cX1_far 23 = .ok (.aload_n 0, 1) := dk_42 (dk_at dksX1_far_0 23 rfl rfl)
theorem dX1_far_24 : decode cX1_far 24 = .ok (.getfield 10, 3) := dk_180 0 10 (dk_at dksX1_far_1 0 rfl rfl)
theorem dX1_far_27 : decode cX1_far 27 = .ok (.iload_n 1, 1) := dk_27 (dk_at dksX1_far_1 3 rfl rfl)
theorem dX1_far_28 : decode cX1_far 28 = .ok (.iload_n 2, 1) := dk_28 (dk_at dksX1_far_1 4 rfl rfl)
theorem dX1_far_29 : decode cX1_far 29 = .ok (.invokevirtual 170, 3) := dk_182 0 170 (dk_at dksX1_far_1 5 rfl rfl)
theorem dX1_far_32 : decode cX1_far 32 = .ok (.goto 12, 3) := dk_167 0 12 (dk_at dksX1_far_1 8 rfl rfl)
theorem dX1_far_35 : decode cX1_far 35 = .ok (.aload_n 0, 1) := dk_42 (dk_at dksX1_far_1 11 rfl rfl)
theorem dX1_far_36 : decode cX1_far 36 = .ok (.getfield 10, 3) := dk_180 0 10 (dk_at dksX1_far_1 12 rfl rfl)
theorem dX1_far_39 : decode cX1_far 39 = .ok (.iload_n 1, 1) := dk_27 (dk_at dksX1_far_1 15 rfl rfl)
theorem dX1_far_40 : decode cX1_far 40 = .ok (.iload_n 2, 1) := dk_28 (dk_at dksX1_far_1 16 rfl rfl)
theorem dX1_far_41 : decode cX1_far 41 = .ok (.invokevirtual 174, 3) := dk_182 0 174 (dk_at dksX1_far_1 17 rfl rfl)
theorem dX1_far_44 : decode cX1_far 44 = .ok (.istore 4, 2) := dk_54 4 (dk_at dksX1_far_1 20 rfl rfl)
theorem dX1_far_46 : decode cX1_far 46 = .ok (.iload 4, 2) := dk_21 4 (dk_at dksX1_far_1 22 rfl rfl)
theorem dX1_far_48 : decode cX1_far 48 = .ok (.sipush 9999, 3) := dk_17 39 15 (dk_at dksX1_far_2 0 rfl rfl)
theorem dX1_far_51 : decode cX1_far 51 = .ok (.if_icmp .lt 7, 3) := dk_161 0 7 (dk_at dksX1_far_2 3 rfl rfl)
theorem dX1_far_54 : decode cX1_far 54 = .ok (.iconst (-1), 1) := dk_2 (dk_at dksX1_far_2 6 rfl rfl)
theorem dX1_far_55 : decode cX1_far 55 = .ok (.goto 5, 3) := dk_167 0 5 (dk_at dksX1_far_2 7 rfl rfl)
theorem dX1_far_58 : decode cX1_far 58 = .ok (.iload 4, 2) := dk_21 4 (dk_at dksX1_far_2 10 rfl rfl)
theorem dX1_far_60 : decode cX1_far 60 = .ok (.ireturn, 1) := dk_172 (dk_at dksX1_far_2 12 rfl rfl)
abbrev cX1_townAt : ByteArray := prog_1_method_6_code
def yX1_townAt : MethodName := ⟨RX1, "townAt", "(I)V"⟩
def dkwX1_townAt_0 : List UInt8 := [27, 155, 0, 18, 27, 42, 180, 0, 10, 180, 0, 77, 162, 0, 7, 4, 167, 0, 4, 3, 184, 0, 80, 177]
abbrev dktX1_townAt_0 : List UInt8 := dkwX1_townAt_0 ++ []
theorem dksX1_townAt_0 : cX1_townAt.data.toList.drop 0 = dktX1_townAt_0 := by decide +kernel
theorem dX1_townAt_0 : decode cX1_townAt 0 = .ok (.iload_n 1, 1) := dk_27 (dk_at dksX1_townAt_0 0 rfl rfl)
theorem dX1_townAt_1 : decode cX1_townAt 1 = .ok (.ifCond .lt 18, 3) := dk_155 0 18 (dk_at dksX1_townAt_0 1 rfl rfl)
theorem dX1_townAt_4 : decode cX1_townAt 4 = .ok (.iload_n 1, 1) := dk_27 (dk_at dksX1_townAt_0 4 rfl rfl)
theorem dX1_townAt_5 : decode cX1_townAt 5 = .ok (.aload_n 0, 1) := dk_42 (dk_at dksX1_townAt_0 5 rfl rfl)
theorem dX1_townAt_6 : decode cX1_townAt 6 = .ok (.getfield 10, 3) := dk_180 0 10 (dk_at dksX1_townAt_0 6 rfl rfl)
theorem dX1_townAt_9 : decode cX1_townAt 9 = .ok (.getfield 77, 3) := dk_180 0 77 (dk_at dksX1_townAt_0 9 rfl rfl)
theorem dX1_townAt_12 : decode cX1_townAt 12 = .ok (.if_icmp .ge 7, 3) := dk_162 0 7 (dk_at dksX1_townAt_0 12 rfl rfl)
theorem dX1_townAt_15 : decode cX1_townAt 15 = .ok (.iconst 1, 1) := dk_4 (dk_at dksX1_townAt_0 15 rfl rfl)
theorem dX1_townAt_16 : decode cX1_townAt 16 = .ok (.goto 4, 3) := dk_167 0 4 (dk_at dksX1_townAt_0 16 rfl rfl)
theorem dX1_townAt_19 : decode cX1_townAt 19 = .ok (.iconst 0, 1) := dk_3 (dk_at dksX1_townAt_0 19 rfl rfl)
theorem dX1_townAt_20 : decode cX1_townAt 20 = .ok (.invokestatic 80, 3) := dk_184 0 80 (dk_at dksX1_townAt_0 20 rfl rfl)
theorem dX1_townAt_23 : decode cX1_townAt 23 = .ok (.return_, 1) := dk_177 (dk_at dksX1_townAt_0 23 rfl rfl)
abbrev cX1_judge : ByteArray := prog_1_method_16_code
def yX1_judge : MethodName := ⟨RX1, "judge", "(II)I"⟩
def dkwX1_judge_3 : List UInt8 := [42, 180, 0, 42, 180, 0, 191, 16, 7, 27, 104, 45, 182, 0, 189, 96, 4, 100, 46, 172]
abbrev dktX1_judge_3 : List UInt8 := dkwX1_judge_3 ++ []
def dkwX1_judge_2 : List UInt8 := [28, 5, 160, 0, 10, 45, 180, 0, 186, 167, 0, 34, 28, 6, 160, 0, 10, 45, 182, 0, 189, 167, 0, 22]
abbrev dktX1_judge_2 : List UInt8 := dkwX1_judge_2 ++ dktX1_judge_3
def dkwX1_judge_1 : List UInt8 := [45, 182, 0, 181, 167, 0, 63, 28, 4, 160, 0, 15, 42, 180, 0, 30, 180, 0, 183, 27, 46, 167, 0, 46]
abbrev dktX1_judge_1 : List UInt8 := dkwX1_judge_1 ++ dktX1_judge_2
def dkwX1_judge_0 : List UInt8 := [42, 27, 182, 0, 177, 78, 28, 3, 7, 184, 0, 142, 184, 0, 80, 42, 182, 0, 164, 87, 28, 154, 0, 10]
abbrev dktX1_judge_0 : List UInt8 := dkwX1_judge_0 ++ dktX1_judge_1
theorem dksX1_judge_0 : cX1_judge.data.toList.drop 0 = dktX1_judge_0 := by decide +kernel
theorem dksX1_judge_1 : cX1_judge.data.toList.drop 24 = dktX1_judge_1 := dk_seg dksX1_judge_0 24 rfl rfl
theorem dksX1_judge_2 : cX1_judge.data.toList.drop 48 = dktX1_judge_2 := dk_seg dksX1_judge_1 24 rfl rfl
theorem dksX1_judge_3 : cX1_judge.data.toList.drop 72 = dktX1_judge_3 := dk_seg dksX1_judge_2 24 rfl rfl
theorem dX1_judge_0 : decode cX1_judge 0 = .ok (.aload_n 0, 1) := dk_42 (dk_at dksX1_judge_0 0 rfl rfl)
theorem dX1_judge_1 : decode cX1_judge 1 = .ok (.iload_n 1, 1) := dk_27 (dk_at dksX1_judge_0 1 rfl rfl)
theorem dX1_judge_2 : decode cX1_judge 2 = .ok (.invokevirtual 177, 3) := dk_182 0 177 (dk_at dksX1_judge_0 2 rfl rfl)
theorem dX1_judge_5 : decode cX1_judge 5 = .ok (.astore_n 3, 1) := dk_78 (dk_at dksX1_judge_0 5 rfl rfl)
theorem dX1_judge_6 : decode cX1_judge 6 = .ok (.iload_n 2, 1) := dk_28 (dk_at dksX1_judge_0 6 rfl rfl)
theorem dX1_judge_7 : decode cX1_judge 7 = .ok (.iconst 0, 1) := dk_3 (dk_at dksX1_judge_0 7 rfl rfl)
theorem dX1_judge_8 : decode cX1_judge 8 = .ok (.iconst 4, 1) := dk_7 (dk_at dksX1_judge_0 8 rfl rfl)
theorem dX1_judge_9 : decode cX1_judge 9 = .ok (.invokestatic 142, 3) := dk_184 0 142 (dk_at dksX1_judge_0 9 rfl rfl)
theorem dX1_judge_12 : decode cX1_judge 12 = .ok (.invokestatic 80, 3) := dk_184 0 80 (dk_at dksX1_judge_0 12 rfl rfl)
theorem dX1_judge_15 : decode cX1_judge 15 = .ok (.aload_n 0, 1) := dk_42 (dk_at dksX1_judge_0 15 rfl rfl)
theorem dX1_judge_16 : decode cX1_judge 16 = .ok (.invokevirtual 164, 3) := dk_182 0 164 (dk_at dksX1_judge_0 16 rfl rfl)
theorem dX1_judge_19 : decode cX1_judge 19 = .ok (.pop, 1) := dk_87 (dk_at dksX1_judge_0 19 rfl rfl)
theorem dX1_judge_20 : decode cX1_judge 20 = .ok (.iload_n 2, 1) := dk_28 (dk_at dksX1_judge_0 20 rfl rfl)
theorem dX1_judge_21 : decode cX1_judge 21 = .ok (.ifCond .ne 10, 3) := dk_154 0 10 (dk_at dksX1_judge_0 21 rfl rfl)
theorem dX1_judge_24 : decode cX1_judge 24 = .ok (.aload_n 3, 1) := dk_45 (dk_at dksX1_judge_1 0 rfl rfl)
theorem dX1_judge_25 : decode cX1_judge 25 = .ok (.invokevirtual 181, 3) := dk_182 0 181 (dk_at dksX1_judge_1 1 rfl rfl)
theorem dX1_judge_28 : decode cX1_judge 28 = .ok (.goto 63, 3) := dk_167 0 63 (dk_at dksX1_judge_1 4 rfl rfl)
theorem dX1_judge_31 : decode cX1_judge 31 = .ok (.iload_n 2, 1) := dk_28 (dk_at dksX1_judge_1 7 rfl rfl)
theorem dX1_judge_32 : decode cX1_judge 32 = .ok (.iconst 1, 1) := dk_4 (dk_at dksX1_judge_1 8 rfl rfl)
theorem dX1_judge_33 : decode cX1_judge 33 = .ok (.if_icmp .ne 15, 3) := dk_160 0 15 (dk_at dksX1_judge_1 9 rfl rfl)
theorem dX1_judge_36 : decode cX1_judge 36 = .ok (.aload_n 0, 1) := dk_42 (dk_at dksX1_judge_1 12 rfl rfl)
theorem dX1_judge_37 : decode cX1_judge 37 = .ok (.getfield 30, 3) := dk_180 0 30 (dk_at dksX1_judge_1 13 rfl rfl)
theorem dX1_judge_40 : decode cX1_judge 40 = .ok (.getfield 183, 3) := dk_180 0 183 (dk_at dksX1_judge_1 16 rfl rfl)
theorem dX1_judge_43 : decode cX1_judge 43 = .ok (.iload_n 1, 1) := dk_27 (dk_at dksX1_judge_1 19 rfl rfl)
theorem dX1_judge_44 : decode cX1_judge 44 = .ok (.iaload, 1) := dk_46 (dk_at dksX1_judge_1 20 rfl rfl)
theorem dX1_judge_45 : decode cX1_judge 45 = .ok (.goto 46, 3) := dk_167 0 46 (dk_at dksX1_judge_1 21 rfl rfl)
theorem dX1_judge_48 : decode cX1_judge 48 = .ok (.iload_n 2, 1) := dk_28 (dk_at dksX1_judge_2 0 rfl rfl)
theorem dX1_judge_49 : decode cX1_judge 49 = .ok (.iconst 2, 1) := dk_5 (dk_at dksX1_judge_2 1 rfl rfl)
theorem dX1_judge_50 : decode cX1_judge 50 = .ok (.if_icmp .ne 10, 3) := dk_160 0 10 (dk_at dksX1_judge_2 2 rfl rfl)
theorem dX1_judge_53 : decode cX1_judge 53 = .ok (.aload_n 3, 1) := dk_45 (dk_at dksX1_judge_2 5 rfl rfl)
theorem dX1_judge_54 : decode cX1_judge 54 = .ok (.getfield 186, 3) := dk_180 0 186 (dk_at dksX1_judge_2 6 rfl rfl)
theorem dX1_judge_57 : decode cX1_judge 57 = .ok (.goto 34, 3) := dk_167 0 34 (dk_at dksX1_judge_2 9 rfl rfl)
theorem dX1_judge_60 : decode cX1_judge 60 = .ok (.iload_n 2, 1) := dk_28 (dk_at dksX1_judge_2 12 rfl rfl)
theorem dX1_judge_61 : decode cX1_judge 61 = .ok (.iconst 3, 1) := dk_6 (dk_at dksX1_judge_2 13 rfl rfl)
theorem dX1_judge_62 : decode cX1_judge 62 = .ok (.if_icmp .ne 10, 3) := dk_160 0 10 (dk_at dksX1_judge_2 14 rfl rfl)
theorem dX1_judge_65 : decode cX1_judge 65 = .ok (.aload_n 3, 1) := dk_45 (dk_at dksX1_judge_2 17 rfl rfl)
theorem dX1_judge_66 : decode cX1_judge 66 = .ok (.invokevirtual 189, 3) := dk_182 0 189 (dk_at dksX1_judge_2 18 rfl rfl)
theorem dX1_judge_69 : decode cX1_judge 69 = .ok (.goto 22, 3) := dk_167 0 22 (dk_at dksX1_judge_2 21 rfl rfl)
theorem dX1_judge_72 : decode cX1_judge 72 = .ok (.aload_n 0, 1) := dk_42 (dk_at dksX1_judge_3 0 rfl rfl)
theorem dX1_judge_73 : decode cX1_judge 73 = .ok (.getfield 42, 3) := dk_180 0 42 (dk_at dksX1_judge_3 1 rfl rfl)
theorem dX1_judge_76 : decode cX1_judge 76 = .ok (.getfield 191, 3) := dk_180 0 191 (dk_at dksX1_judge_3 4 rfl rfl)
theorem dX1_judge_79 : decode cX1_judge 79 = .ok (.bipush 7, 2) := dk_16 7 (dk_at dksX1_judge_3 7 rfl rfl)
theorem dX1_judge_81 : decode cX1_judge 81 = .ok (.iload_n 1, 1) := dk_27 (dk_at dksX1_judge_3 9 rfl rfl)
theorem dX1_judge_82 : decode cX1_judge 82 = .ok (.imul, 1) := dk_104 (dk_at dksX1_judge_3 10 rfl rfl)
theorem dX1_judge_83 : decode cX1_judge 83 = .ok (.aload_n 3, 1) := dk_45 (dk_at dksX1_judge_3 11 rfl rfl)
theorem dX1_judge_84 : decode cX1_judge 84 = .ok (.invokevirtual 189, 3) := dk_182 0 189 (dk_at dksX1_judge_3 12 rfl rfl)
theorem dX1_judge_87 : decode cX1_judge 87 = .ok (.iadd, 1) := dk_96 (dk_at dksX1_judge_3 15 rfl rfl)
theorem dX1_judge_88 : decode cX1_judge 88 = .ok (.iconst 1, 1) := dk_4 (dk_at dksX1_judge_3 16 rfl rfl)
theorem dX1_judge_89 : decode cX1_judge 89 = .ok (.isub, 1) := dk_100 (dk_at dksX1_judge_3 17 rfl rfl)
theorem dX1_judge_90 : decode cX1_judge 90 = .ok (.iaload, 1) := dk_46 (dk_at dksX1_judge_3 18 rfl rfl)
theorem dX1_judge_91 : decode cX1_judge 91 = .ok (.ireturn, 1) := dk_172 (dk_at dksX1_judge_3 19 rfl rfl)
abbrev cX1_judgeAt : ByteArray := prog_1_method_8_code
def yX1_judgeAt : MethodName := ⟨RX1, "judgeAt", "(I)LApartBench$Judge;"⟩
def dkwX1_judgeAt_1 : List UInt8 := [184, 0, 80, 42, 180, 0, 10, 180, 0, 86, 27, 182, 0, 89, 192, 0, 93, 176]
abbrev dktX1_judgeAt_1 : List UInt8 := dkwX1_judgeAt_1 ++ []
def dkwX1_judgeAt_0 : List UInt8 := [27, 155, 0, 21, 27, 42, 180, 0, 10, 180, 0, 86, 182, 0, 71, 162, 0, 7, 4, 167, 0, 4, 3]
abbrev dktX1_judgeAt_0 : List UInt8 := dkwX1_judgeAt_0 ++ dktX1_judgeAt_1
theorem dksX1_judgeAt_0 : cX1_judgeAt.data.toList.drop 0 = dktX1_judgeAt_0 := by decide +kernel
theorem dksX1_judgeAt_1 : cX1_judgeAt.data.toList.drop 23 = dktX1_judgeAt_1 := dk_seg dksX1_judgeAt_0 23 rfl rfl
theorem dX1_judgeAt_0 : decode cX1_judgeAt 0 = .ok (.iload_n 1, 1) := dk_27 (dk_at dksX1_judgeAt_0 0 rfl rfl)
theorem dX1_judgeAt_1 : decode cX1_judgeAt 1 = .ok (.ifCond .lt 21, 3) := dk_155 0 21 (dk_at dksX1_judgeAt_0 1 rfl rfl)
theorem dX1_judgeAt_4 : decode cX1_judgeAt 4 = .ok (.iload_n 1, 1) := dk_27 (dk_at dksX1_judgeAt_0 4 rfl rfl)
theorem dX1_judgeAt_5 : decode cX1_judgeAt 5 = .ok (.aload_n 0, 1) := dk_42 (dk_at dksX1_judgeAt_0 5 rfl rfl)
theorem dX1_judgeAt_6 : decode cX1_judgeAt 6 = .ok (.getfield 10, 3) := dk_180 0 10 (dk_at dksX1_judgeAt_0 6 rfl rfl)
theorem dX1_judgeAt_9 : decode cX1_judgeAt 9 = .ok (.getfield 86, 3) := dk_180 0 86 (dk_at dksX1_judgeAt_0 9 rfl rfl)
theorem dX1_judgeAt_12 : decode cX1_judgeAt 12 = .ok (.invokevirtual 71, 3) := dk_182 0 71 (dk_at dksX1_judgeAt_0 12 rfl rfl)
theorem dX1_judgeAt_15 : decode cX1_judgeAt 15 = .ok (.if_icmp .ge 7, 3) := dk_162 0 7 (dk_at dksX1_judgeAt_0 15 rfl rfl)
theorem dX1_judgeAt_18 : decode cX1_judgeAt 18 = .ok (.iconst 1, 1) := dk_4 (dk_at dksX1_judgeAt_0 18 rfl rfl)
theorem dX1_judgeAt_19 : decode cX1_judgeAt 19 = .ok (.goto 4, 3) := dk_167 0 4 (dk_at dksX1_judgeAt_0 19 rfl rfl)
theorem dX1_judgeAt_22 : decode cX1_judgeAt 22 = .ok (.iconst 0, 1) := dk_3 (dk_at dksX1_judgeAt_0 22 rfl rfl)
theorem dX1_judgeAt_23 : decode cX1_judgeAt 23 = .ok (.invokestatic 80, 3) := dk_184 0 80 (dk_at dksX1_judgeAt_1 0 rfl rfl)
theorem dX1_judgeAt_26 : decode cX1_judgeAt 26 = .ok (.aload_n 0, 1) := dk_42 (dk_at dksX1_judgeAt_1 3 rfl rfl)
theorem dX1_judgeAt_27 : decode cX1_judgeAt 27 = .ok (.getfield 10, 3) := dk_180 0 10 (dk_at dksX1_judgeAt_1 4 rfl rfl)
theorem dX1_judgeAt_30 : decode cX1_judgeAt 30 = .ok (.getfield 86, 3) := dk_180 0 86 (dk_at dksX1_judgeAt_1 7 rfl rfl)
theorem dX1_judgeAt_33 : decode cX1_judgeAt 33 = .ok (.iload_n 1, 1) := dk_27 (dk_at dksX1_judgeAt_1 10 rfl rfl)
theorem dX1_judgeAt_34 : decode cX1_judgeAt 34 = .ok (.invokevirtual 89, 3) := dk_182 0 89 (dk_at dksX1_judgeAt_1 11 rfl rfl)
theorem dX1_judgeAt_37 : decode cX1_judgeAt 37 = .ok (.checkcast 93, 3) := dk_192 0 93 (dk_at dksX1_judgeAt_1 14 rfl rfl)
theorem dX1_judgeAt_40 : decode cX1_judgeAt 40 = .ok (.areturn, 1) := dk_176 (dk_at dksX1_judgeAt_1 17 rfl rfl)
abbrev cX1_stop : ByteArray := prog_1_method_17_code
def yX1_stop : MethodName := ⟨RX1, "stop", "(III)I"⟩
def dkwX1_stop_3 : List UInt8 := [16, 7, 27, 104, 28, 96, 46, 172]
abbrev dktX1_stop_3 : List UInt8 := dkwX1_stop_3 ++ []
def dkwX1_stop_2 : List UInt8 := [180, 0, 42, 180, 0, 194, 16, 7, 27, 104, 28, 96, 46, 167, 0, 17, 42, 180, 0, 42, 180, 0, 191]
abbrev dktX1_stop_2 : List UInt8 := dkwX1_stop_2 ++ dktX1_stop_3
def dkwX1_stop_1 : List UInt8 := [184, 0, 142, 153, 0, 7, 4, 167, 0, 4, 3, 184, 0, 80, 42, 182, 0, 164, 87, 29, 154, 0, 20, 42]
abbrev dktX1_stop_1 : List UInt8 := dkwX1_stop_1 ++ dktX1_stop_2
def dkwX1_stop_0 : List UInt8 := [42, 27, 182, 0, 177, 58, 4, 28, 155, 0, 25, 28, 25, 4, 182, 0, 189, 162, 0, 16, 29, 3, 4]
abbrev dktX1_stop_0 : List UInt8 := dkwX1_stop_0 ++ dktX1_stop_1
theorem dksX1_stop_0 : cX1_stop.data.toList.drop 0 = dktX1_stop_0 := by decide +kernel
theorem dksX1_stop_1 : cX1_stop.data.toList.drop 23 = dktX1_stop_1 := dk_seg dksX1_stop_0 23 rfl rfl
theorem dksX1_stop_2 : cX1_stop.data.toList.drop 47 = dktX1_stop_2 := dk_seg dksX1_stop_1 24 rfl rfl
theorem dksX1_stop_3 : cX1_stop.data.toList.drop 70 = dktX1_stop_3 := dk_seg dksX1_stop_2 23 rfl rfl
theorem dX1_stop_0 : decode cX1_stop 0 = .ok (.aload_n 0, 1) := dk_42 (dk_at dksX1_stop_0 0 rfl rfl)
theorem dX1_stop_1 : decode cX1_stop 1 = .ok (.iload_n 1, 1) := dk_27 (dk_at dksX1_stop_0 1 rfl rfl)
theorem dX1_stop_2 : decode cX1_stop 2 = .ok (.invokevirtual 177, 3) := dk_182 0 177 (dk_at dksX1_stop_0 2 rfl rfl)
theorem dX1_stop_5 : decode cX1_stop 5 = .ok (.astore 4, 2) := dk_58 4 (dk_at dksX1_stop_0 5 rfl rfl)
theorem dX1_stop_7 : decode cX1_stop 7 = .ok (.iload_n 2, 1) := dk_28 (dk_at dksX1_stop_0 7 rfl rfl)
theorem dX1_stop_8 : decode cX1_stop 8 = .ok (.ifCond .lt 25, 3) := dk_155 0 25 (dk_at dksX1_stop_0 8 rfl rfl)
theorem dX1_stop_11 : decode cX1_stop 11 = .ok (.iload_n 2, 1) := dk_28 (dk_at dksX1_stop_0 11 rfl rfl)
theorem dX1_stop_12 : decode cX1_stop 12 = .ok (.aload 4, 2) := dk_25 4 (dk_at dksX1_stop_0 12 rfl rfl)
theorem dX1_stop_14 : decode cX1_stop 14 = .ok (.invokevirtual 189, 3) := dk_182 0 189 (dk_at dksX1_stop_0 14 rfl rfl)
theorem dX1_stop_17 : decode cX1_stop 17 = .ok (.if_icmp .ge 16, 3) := dk_162 0 16 (dk_at dksX1_stop_0 17 rfl rfl)
theorem dX1_stop_20 : decode cX1_stop 20 = .ok (.iload_n 3, 1) := dk_29 (dk_at dksX1_stop_0 20 rfl rfl)
theorem dX1_stop_21 : decode cX1_stop 21 = .ok (.iconst 0, 1) := dk_3 (dk_at dksX1_stop_0 21 rfl rfl)
theorem dX1_stop_22 : decode cX1_stop 22 = .ok (.iconst 1, 1) := dk_4 (dk_at dksX1_stop_0 22 rfl rfl)
theorem dX1_stop_23 : decode cX1_stop 23 = .ok (.invokestatic 142, 3) := dk_184 0 142 (dk_at dksX1_stop_1 0 rfl rfl)
theorem dX1_stop_26 : decode cX1_stop 26 = .ok (.ifCond .eq 7, 3) := dk_153 0 7 (dk_at dksX1_stop_1 3 rfl rfl)
theorem dX1_stop_29 : decode cX1_stop 29 = .ok (.iconst 1, 1) := dk_4 (dk_at dksX1_stop_1 6 rfl rfl)
theorem dX1_stop_30 : decode cX1_stop 30 = .ok (.goto 4, 3) := dk_167 0 4 (dk_at dksX1_stop_1 7 rfl rfl)
theorem dX1_stop_33 : decode cX1_stop 33 = .ok (.iconst 0, 1) := dk_3 (dk_at dksX1_stop_1 10 rfl rfl)
theorem dX1_stop_34 : decode cX1_stop 34 = .ok (.invokestatic 80, 3) := dk_184 0 80 (dk_at dksX1_stop_1 11 rfl rfl)
theorem dX1_stop_37 : decode cX1_stop 37 = .ok (.aload_n 0, 1) := dk_42 (dk_at dksX1_stop_1 14 rfl rfl)
theorem dX1_stop_38 : decode cX1_stop 38 = .ok (.invokevirtual 164, 3) := dk_182 0 164 (dk_at dksX1_stop_1 15 rfl rfl)
theorem dX1_stop_41 : decode cX1_stop 41 = .ok (.pop, 1) := dk_87 (dk_at dksX1_stop_1 18 rfl rfl)
theorem dX1_stop_42 : decode cX1_stop 42 = .ok (.iload_n 3, 1) := dk_29 (dk_at dksX1_stop_1 19 rfl rfl)
theorem dX1_stop_43 : decode cX1_stop 43 = .ok (.ifCond .ne 20, 3) := dk_154 0 20 (dk_at dksX1_stop_1 20 rfl rfl)
theorem dX1_stop_46 : decode cX1_stop 46 = .ok (.aload_n 0, 1) := dk_42 (dk_at dksX1_stop_1 23 rfl rfl)
theorem dX1_stop_47 : decode cX1_stop 47 = .ok (.getfield 42, 3) := dk_180 0 42 (dk_at dksX1_stop_2 0 rfl rfl)
theorem dX1_stop_50 : decode cX1_stop 50 = .ok (.getfield 194, 3) := dk_180 0 194 (dk_at dksX1_stop_2 3 rfl rfl)
theorem dX1_stop_53 : decode cX1_stop 53 = .ok (.bipush 7, 2) := dk_16 7 (dk_at dksX1_stop_2 6 rfl rfl)
theorem dX1_stop_55 : decode cX1_stop 55 = .ok (.iload_n 1, 1) := dk_27 (dk_at dksX1_stop_2 8 rfl rfl)
theorem dX1_stop_56 : decode cX1_stop 56 = .ok (.imul, 1) := dk_104 (dk_at dksX1_stop_2 9 rfl rfl)
theorem dX1_stop_57 : decode cX1_stop 57 = .ok (.iload_n 2, 1) := dk_28 (dk_at dksX1_stop_2 10 rfl rfl)
theorem dX1_stop_58 : decode cX1_stop 58 = .ok (.iadd, 1) := dk_96 (dk_at dksX1_stop_2 11 rfl rfl)
theorem dX1_stop_59 : decode cX1_stop 59 = .ok (.iaload, 1) := dk_46 (dk_at dksX1_stop_2 12 rfl rfl)
theorem dX1_stop_60 : decode cX1_stop 60 = .ok (.goto 17, 3) := dk_167 0 17 (dk_at dksX1_stop_2 13 rfl rfl)
theorem dX1_stop_63 : decode cX1_stop 63 = .ok (.aload_n 0, 1) := dk_42 (dk_at dksX1_stop_2 16 rfl rfl)
theorem dX1_stop_64 : decode cX1_stop 64 = .ok (.getfield 42, 3) := dk_180 0 42 (dk_at dksX1_stop_2 17 rfl rfl)
theorem dX1_stop_67 : decode cX1_stop 67 = .ok (.getfield 191, 3) := dk_180 0 191 (dk_at dksX1_stop_2 20 rfl rfl)
theorem dX1_stop_70 : decode cX1_stop 70 = .ok (.bipush 7, 2) := dk_16 7 (dk_at dksX1_stop_3 0 rfl rfl)
theorem dX1_stop_72 : decode cX1_stop 72 = .ok (.iload_n 1, 1) := dk_27 (dk_at dksX1_stop_3 2 rfl rfl)
theorem dX1_stop_73 : decode cX1_stop 73 = .ok (.imul, 1) := dk_104 (dk_at dksX1_stop_3 3 rfl rfl)
theorem dX1_stop_74 : decode cX1_stop 74 = .ok (.iload_n 2, 1) := dk_28 (dk_at dksX1_stop_3 4 rfl rfl)
theorem dX1_stop_75 : decode cX1_stop 75 = .ok (.iadd, 1) := dk_96 (dk_at dksX1_stop_3 5 rfl rfl)
theorem dX1_stop_76 : decode cX1_stop 76 = .ok (.iaload, 1) := dk_46 (dk_at dksX1_stop_3 6 rfl rfl)
theorem dX1_stop_77 : decode cX1_stop 77 = .ok (.ireturn, 1) := dk_172 (dk_at dksX1_stop_3 7 rfl rfl)
abbrev cX1_where : ByteArray := prog_1_method_18_code
def yX1_where : MethodName := ⟨RX1, "where", "(II)I"⟩
def dkwX1_where_0 : List UInt8 := [42, 27, 182, 0, 177, 87, 42, 182, 0, 164, 87, 42, 180, 0, 42, 27, 28, 182, 0, 197, 172]
abbrev dktX1_where_0 : List UInt8 := dkwX1_where_0 ++ []
theorem dksX1_where_0 : cX1_where.data.toList.drop 0 = dktX1_where_0 := by decide +kernel
theorem dX1_where_0 : decode cX1_where 0 = .ok (.aload_n 0, 1) := dk_42 (dk_at dksX1_where_0 0 rfl rfl)
theorem dX1_where_1 : decode cX1_where 1 = .ok (.iload_n 1, 1) := dk_27 (dk_at dksX1_where_0 1 rfl rfl)
theorem dX1_where_2 : decode cX1_where 2 = .ok (.invokevirtual 177, 3) := dk_182 0 177 (dk_at dksX1_where_0 2 rfl rfl)
theorem dX1_where_5 : decode cX1_where 5 = .ok (.pop, 1) := dk_87 (dk_at dksX1_where_0 5 rfl rfl)
theorem dX1_where_6 : decode cX1_where 6 = .ok (.aload_n 0, 1) := dk_42 (dk_at dksX1_where_0 6 rfl rfl)
theorem dX1_where_7 : decode cX1_where 7 = .ok (.invokevirtual 164, 3) := dk_182 0 164 (dk_at dksX1_where_0 7 rfl rfl)
theorem dX1_where_10 : decode cX1_where 10 = .ok (.pop, 1) := dk_87 (dk_at dksX1_where_0 10 rfl rfl)
theorem dX1_where_11 : decode cX1_where 11 = .ok (.aload_n 0, 1) := dk_42 (dk_at dksX1_where_0 11 rfl rfl)
theorem dX1_where_12 : decode cX1_where 12 = .ok (.getfield 42, 3) := dk_180 0 42 (dk_at dksX1_where_0 12 rfl rfl)
theorem dX1_where_15 : decode cX1_where 15 = .ok (.iload_n 1, 1) := dk_27 (dk_at dksX1_where_0 15 rfl rfl)
theorem dX1_where_16 : decode cX1_where 16 = .ok (.iload_n 2, 1) := dk_28 (dk_at dksX1_where_0 16 rfl rfl)
theorem dX1_where_17 : decode cX1_where 17 = .ok (.invokevirtual 197, 3) := dk_182 0 197 (dk_at dksX1_where_0 17 rfl rfl)
theorem dX1_where_20 : decode cX1_where 20 = .ok (.ireturn, 1) := dk_172 (dk_at dksX1_where_0 20 rfl rfl)
abbrev cX1_proof : ByteArray := prog_1_method_19_code
def yX1_proof : MethodName := ⟨RX1, "proof", "(II)I"⟩
def dkwX1_proof_1 : List UInt8 := [28, 46, 172]
abbrev dktX1_proof_1 : List UInt8 := dkwX1_proof_1 ++ []
def dkwX1_proof_0 : List UInt8 := [42, 27, 182, 0, 200, 42, 28, 182, 0, 167, 42, 180, 0, 10, 180, 0, 67, 27, 182, 0, 89, 192, 0, 203]
abbrev dktX1_proof_0 : List UInt8 := dkwX1_proof_0 ++ dktX1_proof_1
theorem dksX1_proof_0 : cX1_proof.data.toList.drop 0 = dktX1_proof_0 := by decide +kernel
theorem dksX1_proof_1 : cX1_proof.data.toList.drop 24 = dktX1_proof_1 := dk_seg dksX1_proof_0 24 rfl rfl
theorem dX1_proof_0 : decode cX1_proof 0 = .ok (.aload_n 0, 1) := dk_42 (dk_at dksX1_proof_0 0 rfl rfl)
theorem dX1_proof_1 : decode cX1_proof 1 = .ok (.iload_n 1, 1) := dk_27 (dk_at dksX1_proof_0 1 rfl rfl)
theorem dX1_proof_2 : decode cX1_proof 2 = .ok (.invokevirtual 200, 3) := dk_182 0 200 (dk_at dksX1_proof_0 2 rfl rfl)
theorem dX1_proof_5 : decode cX1_proof 5 = .ok (.aload_n 0, 1) := dk_42 (dk_at dksX1_proof_0 5 rfl rfl)
theorem dX1_proof_6 : decode cX1_proof 6 = .ok (.iload_n 2, 1) := dk_28 (dk_at dksX1_proof_0 6 rfl rfl)
theorem dX1_proof_7 : decode cX1_proof 7 = .ok (.invokevirtual 167, 3) := dk_182 0 167 (dk_at dksX1_proof_0 7 rfl rfl)
theorem dX1_proof_10 : decode cX1_proof 10 = .ok (.aload_n 0, 1) := dk_42 (dk_at dksX1_proof_0 10 rfl rfl)
theorem dX1_proof_11 : decode cX1_proof 11 = .ok (.getfield 10, 3) := dk_180 0 10 (dk_at dksX1_proof_0 11 rfl rfl)
theorem dX1_proof_14 : decode cX1_proof 14 = .ok (.getfield 67, 3) := dk_180 0 67 (dk_at dksX1_proof_0 14 rfl rfl)
theorem dX1_proof_17 : decode cX1_proof 17 = .ok (.iload_n 1, 1) := dk_27 (dk_at dksX1_proof_0 17 rfl rfl)
theorem dX1_proof_18 : decode cX1_proof 18 = .ok (.invokevirtual 89, 3) := dk_182 0 89 (dk_at dksX1_proof_0 18 rfl rfl)
theorem dX1_proof_21 : decode cX1_proof 21 = .ok (.checkcast 203, 3) := dk_192 0 203 (dk_at dksX1_proof_0 21 rfl rfl)
theorem dX1_proof_24 : decode cX1_proof 24 = .ok (.iload_n 2, 1) := dk_28 (dk_at dksX1_proof_1 0 rfl rfl)
theorem dX1_proof_25 : decode cX1_proof 25 = .ok (.iaload, 1) := dk_46 (dk_at dksX1_proof_1 1 rfl rfl)
theorem dX1_proof_26 : decode cX1_proof 26 = .ok (.ireturn, 1) := dk_172 (dk_at dksX1_proof_1 2 rfl rfl)
abbrev cX1_caseAt : ByteArray := prog_1_method_7_code
def yX1_caseAt : MethodName := ⟨RX1, "caseAt", "(I)V"⟩
def dkwX1_caseAt_0 : List UInt8 := [27, 155, 0, 15, 27, 42, 182, 0, 84, 162, 0, 7, 4, 167, 0, 4, 3, 184, 0, 80, 177]
abbrev dktX1_caseAt_0 : List UInt8 := dkwX1_caseAt_0 ++ []
theorem dksX1_caseAt_0 : cX1_caseAt.data.toList.drop 0 = dktX1_caseAt_0 := by decide +kernel
theorem dX1_caseAt_0 : decode cX1_caseAt 0 = .ok (.iload_n 1, 1) := dk_27 (dk_at dksX1_caseAt_0 0 rfl rfl)
theorem dX1_caseAt_1 : decode cX1_caseAt 1 = .ok (.ifCond .lt 15, 3) := dk_155 0 15 (dk_at dksX1_caseAt_0 1 rfl rfl)
theorem dX1_caseAt_4 : decode cX1_caseAt 4 = .ok (.iload_n 1, 1) := dk_27 (dk_at dksX1_caseAt_0 4 rfl rfl)
theorem dX1_caseAt_5 : decode cX1_caseAt 5 = .ok (.aload_n 0, 1) := dk_42 (dk_at dksX1_caseAt_0 5 rfl rfl)
theorem dX1_caseAt_6 : decode cX1_caseAt 6 = .ok (.invokevirtual 84, 3) := dk_182 0 84 (dk_at dksX1_caseAt_0 6 rfl rfl)
theorem dX1_caseAt_9 : decode cX1_caseAt 9 = .ok (.if_icmp .ge 7, 3) := dk_162 0 7 (dk_at dksX1_caseAt_0 9 rfl rfl)
theorem dX1_caseAt_12 : decode cX1_caseAt 12 = .ok (.iconst 1, 1) := dk_4 (dk_at dksX1_caseAt_0 12 rfl rfl)
theorem dX1_caseAt_13 : decode cX1_caseAt 13 = .ok (.goto 4, 3) := dk_167 0 4 (dk_at dksX1_caseAt_0 13 rfl rfl)
theorem dX1_caseAt_16 : decode cX1_caseAt 16 = .ok (.iconst 0, 1) := dk_3 (dk_at dksX1_caseAt_0 16 rfl rfl)
theorem dX1_caseAt_17 : decode cX1_caseAt 17 = .ok (.invokestatic 80, 3) := dk_184 0 80 (dk_at dksX1_caseAt_0 17 rfl rfl)
theorem dX1_caseAt_20 : decode cX1_caseAt 20 = .ok (.return_, 1) := dk_177 (dk_at dksX1_caseAt_0 20 rfl rfl)
abbrev cX1_said : ByteArray := prog_1_method_20_code
def yX1_said : MethodName := ⟨RX1, "said", "(III)I"⟩
def dkwX1_said_4 : List UInt8 := [21, 4, 51, 153, 0, 7, 4, 167, 0, 4, 3, 172]
abbrev dktX1_said_4 : List UInt8 := dkwX1_said_4 ++ []
def dkwX1_said_3 : List UInt8 := [160, 0, 16, 42, 180, 0, 42, 180, 0, 210, 21, 4, 46, 167, 0, 21, 42, 180, 0, 42, 180, 0, 213]
abbrev dktX1_said_3 : List UInt8 := dkwX1_said_3 ++ dktX1_said_4
def dkwX1_said_2 : List UInt8 := [167, 0, 57, 29, 4, 160, 0, 16, 42, 180, 0, 42, 180, 0, 207, 21, 4, 46, 167, 0, 39, 29, 5]
abbrev dktX1_said_2 : List UInt8 := dkwX1_said_2 ++ dktX1_said_3
def dkwX1_said_1 : List UInt8 := [87, 8, 27, 104, 28, 96, 54, 4, 29, 154, 0, 16, 42, 180, 0, 42, 180, 0, 204, 21, 4, 46]
abbrev dktX1_said_1 : List UInt8 := dkwX1_said_1 ++ dktX1_said_2
def dkwX1_said_0 : List UInt8 := [42, 27, 182, 0, 200, 42, 28, 182, 0, 177, 87, 29, 3, 6, 184, 0, 142, 184, 0, 80, 42, 182, 0, 164]
abbrev dktX1_said_0 : List UInt8 := dkwX1_said_0 ++ dktX1_said_1
theorem dksX1_said_0 : cX1_said.data.toList.drop 0 = dktX1_said_0 := by decide +kernel
theorem dksX1_said_1 : cX1_said.data.toList.drop 24 = dktX1_said_1 := dk_seg dksX1_said_0 24 rfl rfl
theorem dksX1_said_2 : cX1_said.data.toList.drop 46 = dktX1_said_2 := dk_seg dksX1_said_1 22 rfl rfl
theorem dksX1_said_3 : cX1_said.data.toList.drop 69 = dktX1_said_3 := dk_seg dksX1_said_2 23 rfl rfl
theorem dksX1_said_4 : cX1_said.data.toList.drop 92 = dktX1_said_4 := dk_seg dksX1_said_3 23 rfl rfl
theorem dX1_said_0 : decode cX1_said 0 = .ok (.aload_n 0, 1) := dk_42 (dk_at dksX1_said_0 0 rfl rfl)
theorem dX1_said_1 : decode cX1_said 1 = .ok (.iload_n 1, 1) := dk_27 (dk_at dksX1_said_0 1 rfl rfl)
theorem dX1_said_2 : decode cX1_said 2 = .ok (.invokevirtual 200, 3) := dk_182 0 200 (dk_at dksX1_said_0 2 rfl rfl)
theorem dX1_said_5 : decode cX1_said 5 = .ok (.aload_n 0, 1) := dk_42 (dk_at dksX1_said_0 5 rfl rfl)
theorem dX1_said_6 : decode cX1_said 6 = .ok (.iload_n 2, 1) := dk_28 (dk_at dksX1_said_0 6 rfl rfl)
theorem dX1_said_7 : decode cX1_said 7 = .ok (.invokevirtual 177, 3) := dk_182 0 177 (dk_at dksX1_said_0 7 rfl rfl)
theorem dX1_said_10 : decode cX1_said 10 = .ok (.pop, 1) := dk_87 (dk_at dksX1_said_0 10 rfl rfl)
theorem dX1_said_11 : decode cX1_said 11 = .ok (.iload_n 3, 1) := dk_29 (dk_at dksX1_said_0 11 rfl rfl)
theorem dX1_said_12 : decode cX1_said 12 = .ok (.iconst 0, 1) := dk_3 (dk_at dksX1_said_0 12 rfl rfl)
theorem dX1_said_13 : decode cX1_said 13 = .ok (.iconst 3, 1) := dk_6 (dk_at dksX1_said_0 13 rfl rfl)
theorem dX1_said_14 : decode cX1_said 14 = .ok (.invokestatic 142, 3) := dk_184 0 142 (dk_at dksX1_said_0 14 rfl rfl)
theorem dX1_said_17 : decode cX1_said 17 = .ok (.invokestatic 80, 3) := dk_184 0 80 (dk_at dksX1_said_0 17 rfl rfl)
theorem dX1_said_20 : decode cX1_said 20 = .ok (.aload_n 0, 1) := dk_42 (dk_at dksX1_said_0 20 rfl rfl)
theorem dX1_said_21 : decode cX1_said 21 = .ok (.invokevirtual 164, 3) := dk_182 0 164 (dk_at dksX1_said_0 21 rfl rfl)
theorem dX1_said_24 : decode cX1_said 24 = .ok (.pop, 1) := dk_87 (dk_at dksX1_said_1 0 rfl rfl)
theorem dX1_said_25 : decode cX1_said 25 = .ok (.iconst 5, 1) := dk_8 (dk_at dksX1_said_1 1 rfl rfl)
theorem dX1_said_26 : decode cX1_said 26 = .ok (.iload_n 1, 1) := dk_27 (dk_at dksX1_said_1 2 rfl rfl)
theorem dX1_said_27 : decode cX1_said 27 = .ok (.imul, 1) := dk_104 (dk_at dksX1_said_1 3 rfl rfl)
theorem dX1_said_28 : decode cX1_said 28 = .ok (.iload_n 2, 1) := dk_28 (dk_at dksX1_said_1 4 rfl rfl)
theorem dX1_said_29 : decode cX1_said 29 = .ok (.iadd, 1) := dk_96 (dk_at dksX1_said_1 5 rfl rfl)
theorem dX1_said_30 : decode cX1_said 30 = .ok (.istore 4, 2) := dk_54 4 (dk_at dksX1_said_1 6 rfl rfl)
theorem dX1_said_32 : decode cX1_said 32 = .ok (.iload_n 3, 1) := dk_29 (dk_at dksX1_said_1 8 rfl rfl)
theorem dX1_said_33 : decode cX1_said 33 = .ok (.ifCond .ne 16, 3) := dk_154 0 16 (dk_at dksX1_said_1 9 rfl rfl)
theorem dX1_said_36 : decode cX1_said 36 = .ok (.aload_n 0, 1) := dk_42 (dk_at dksX1_said_1 12 rfl rfl)
theorem dX1_said_37 : decode cX1_said 37 = .ok (.getfield 42, 3) := dk_180 0 42 (dk_at dksX1_said_1 13 rfl rfl)
theorem dX1_said_40 : decode cX1_said 40 = .ok (.getfield 204, 3) := dk_180 0 204 (dk_at dksX1_said_1 16 rfl rfl)
theorem dX1_said_43 : decode cX1_said 43 = .ok (.iload 4, 2) := dk_21 4 (dk_at dksX1_said_1 19 rfl rfl)
theorem dX1_said_45 : decode cX1_said 45 = .ok (.iaload, 1) := dk_46 (dk_at dksX1_said_1 21 rfl rfl)
theorem dX1_said_46 : decode cX1_said 46 = .ok (.goto 57, 3) := dk_167 0 57 (dk_at dksX1_said_2 0 rfl rfl)
theorem dX1_said_49 : decode cX1_said 49 = .ok (.iload_n 3, 1) := dk_29 (dk_at dksX1_said_2 3 rfl rfl)
theorem dX1_said_50 : decode cX1_said 50 = .ok (.iconst 1, 1) := dk_4 (dk_at dksX1_said_2 4 rfl rfl)
theorem dX1_said_51 : decode cX1_said 51 = .ok (.if_icmp .ne 16, 3) := dk_160 0 16 (dk_at dksX1_said_2 5 rfl rfl)
theorem dX1_said_54 : decode cX1_said 54 = .ok (.aload_n 0, 1) := dk_42 (dk_at dksX1_said_2 8 rfl rfl)
theorem dX1_said_55 : decode cX1_said 55 = .ok (.getfield 42, 3) := dk_180 0 42 (dk_at dksX1_said_2 9 rfl rfl)
theorem dX1_said_58 : decode cX1_said 58 = .ok (.getfield 207, 3) := dk_180 0 207 (dk_at dksX1_said_2 12 rfl rfl)
theorem dX1_said_61 : decode cX1_said 61 = .ok (.iload 4, 2) := dk_21 4 (dk_at dksX1_said_2 15 rfl rfl)
theorem dX1_said_63 : decode cX1_said 63 = .ok (.iaload, 1) := dk_46 (dk_at dksX1_said_2 17 rfl rfl)
theorem dX1_said_64 : decode cX1_said 64 = .ok (.goto 39, 3) := dk_167 0 39 (dk_at dksX1_said_2 18 rfl rfl)
theorem dX1_said_67 : decode cX1_said 67 = .ok (.iload_n 3, 1) := dk_29 (dk_at dksX1_said_2 21 rfl rfl)
theorem dX1_said_68 : decode cX1_said 68 = .ok (.iconst 2, 1) := dk_5 (dk_at dksX1_said_2 22 rfl rfl)
theorem dX1_said_69 : decode cX1_said 69 = .ok (.if_icmp .ne 16, 3) := dk_160 0 16 (dk_at dksX1_said_3 0 rfl rfl)
theorem dX1_said_72 : decode cX1_said 72 = .ok (.aload_n 0, 1) := dk_42 (dk_at dksX1_said_3 3 rfl rfl)
theorem dX1_said_73 : decode cX1_said 73 = .ok (.getfield 42, 3) := dk_180 0 42 (dk_at dksX1_said_3 4 rfl rfl)
theorem dX1_said_76 : decode cX1_said 76 = .ok (.getfield 210, 3) := dk_180 0 210 (dk_at dksX1_said_3 7 rfl rfl)
theorem dX1_said_79 : decode cX1_said 79 = .ok (.iload 4, 2) := dk_21 4 (dk_at dksX1_said_3 10 rfl rfl)
theorem dX1_said_81 : decode cX1_said 81 = .ok (.iaload, 1) := dk_46 (dk_at dksX1_said_3 12 rfl rfl)
theorem dX1_said_82 : decode cX1_said 82 = .ok (.goto 21, 3) := dk_167 0 21 (dk_at dksX1_said_3 13 rfl rfl)
theorem dX1_said_85 : decode cX1_said 85 = .ok (.aload_n 0, 1) := dk_42 (dk_at dksX1_said_3 16 rfl rfl)
theorem dX1_said_86 : decode cX1_said 86 = .ok (.getfield 42, 3) := dk_180 0 42 (dk_at dksX1_said_3 17 rfl rfl)
theorem dX1_said_89 : decode cX1_said 89 = .ok (.getfield 213, 3) := dk_180 0 213 (dk_at dksX1_said_3 20 rfl rfl)
theorem dX1_said_92 : decode cX1_said 92 = .ok (.iload 4, 2) := dk_21 4 (dk_at dksX1_said_4 0 rfl rfl)
theorem dX1_said_94 : decode cX1_said 94 = .ok (.baload, 1) := dk_51 (dk_at dksX1_said_4 2 rfl rfl)
theorem dX1_said_95 : decode cX1_said 95 = .ok (.ifCond .eq 7, 3) := dk_153 0 7 (dk_at dksX1_said_4 3 rfl rfl)
theorem dX1_said_98 : decode cX1_said 98 = .ok (.iconst 1, 1) := dk_4 (dk_at dksX1_said_4 6 rfl rfl)
theorem dX1_said_99 : decode cX1_said 99 = .ok (.goto 4, 3) := dk_167 0 4 (dk_at dksX1_said_4 7 rfl rfl)
theorem dX1_said_102 : decode cX1_said 102 = .ok (.iconst 0, 1) := dk_3 (dk_at dksX1_said_4 10 rfl rfl)
theorem dX1_said_103 : decode cX1_said 103 = .ok (.ireturn, 1) := dk_172 (dk_at dksX1_said_4 11 rfl rfl)
abbrev cX1_met : ByteArray := prog_1_method_21_code
def yX1_met : MethodName := ⟨RX1, "met", "(II)I"⟩
def dkwX1_met_2 : List UInt8 := [17, 39, 15, 161, 0, 7, 2, 167, 0, 4, 29, 172]
abbrev dktX1_met_2 : List UInt8 := dkwX1_met_2 ++ []
def dkwX1_met_1 : List UInt8 := [184, 0, 102, 42, 182, 0, 164, 87, 42, 180, 0, 42, 180, 0, 217, 8, 27, 104, 28, 96, 46, 62, 29]
abbrev dktX1_met_1 : List UInt8 := dkwX1_met_1 ++ dktX1_met_2
def dkwX1_met_0 : List UInt8 := [42, 27, 182, 0, 177, 87, 42, 28, 182, 0, 177, 87, 27, 28, 159, 0, 7, 4, 167, 0, 4, 3]
abbrev dktX1_met_0 : List UInt8 := dkwX1_met_0 ++ dktX1_met_1
theorem dksX1_met_0 : cX1_met.data.toList.drop 0 = dktX1_met_0 := by decide +kernel
theorem dksX1_met_1 : cX1_met.data.toList.drop 22 = dktX1_met_1 := dk_seg dksX1_met_0 22 rfl rfl
theorem dksX1_met_2 : cX1_met.data.toList.drop 45 = dktX1_met_2 := dk_seg dksX1_met_1 23 rfl rfl
theorem dX1_met_0 : decode cX1_met 0 = .ok (.aload_n 0, 1) := dk_42 (dk_at dksX1_met_0 0 rfl rfl)
theorem dX1_met_1 : decode cX1_met 1 = .ok (.iload_n 1, 1) := dk_27 (dk_at dksX1_met_0 1 rfl rfl)
theorem dX1_met_2 : decode cX1_met 2 = .ok (.invokevirtual 177, 3) := dk_182 0 177 (dk_at dksX1_met_0 2 rfl rfl)
theorem dX1_met_5 : decode cX1_met 5 = .ok (.pop, 1) := dk_87 (dk_at dksX1_met_0 5 rfl rfl)
theorem dX1_met_6 : decode cX1_met 6 = .ok (.aload_n 0, 1) := dk_42 (dk_at dksX1_met_0 6 rfl rfl)
theorem dX1_met_7 : decode cX1_met 7 = .ok (.iload_n 2, 1) := dk_28 (dk_at dksX1_met_0 7 rfl rfl)
theorem dX1_met_8 : decode cX1_met 8 = .ok (.invokevirtual 177, 3) := dk_182 0 177 (dk_at dksX1_met_0 8 rfl rfl)
theorem dX1_met_11 : decode cX1_met 11 = .ok (.pop, 1) := dk_87 (dk_at dksX1_met_0 11 rfl rfl)
theorem dX1_met_12 : decode cX1_met 12 = .ok (.iload_n 1, 1) := dk_27 (dk_at dksX1_met_0 12 rfl rfl)
theorem dX1_met_13 : decode cX1_met 13 = .ok (.iload_n 2, 1) := dk_28 (dk_at dksX1_met_0 13 rfl rfl)
theorem dX1_met_14 : decode cX1_met 14 = .ok (.if_icmp .eq 7, 3) := dk_159 0 7 (dk_at dksX1_met_0 14 rfl rfl)
theorem dX1_met_17 : decode cX1_met 17 = .ok (.iconst 1, 1) := dk_4 (dk_at dksX1_met_0 17 rfl rfl)
theorem dX1_met_18 : decode cX1_met 18 = .ok (.goto 4, 3) := dk_167 0 4 (dk_at dksX1_met_0 18 rfl rfl)
theorem dX1_met_21 : decode cX1_met 21 = .ok (.iconst 0, 1) := dk_3 (dk_at dksX1_met_0 21 rfl rfl)
theorem dX1_met_22 : decode cX1_met 22 = .ok (.invokestatic 102, 3) := dk_184 0 102 (dk_at dksX1_met_1 0 rfl rfl)
theorem dX1_met_25 : decode cX1_met 25 = .ok (.aload_n 0, 1) := dk_42 (dk_at dksX1_met_1 3 rfl rfl)
theorem dX1_met_26 : decode cX1_met 26 = .ok (.invokevirtual 164, 3) := dk_182 0 164 (dk_at dksX1_met_1 4 rfl rfl)
theorem dX1_met_29 : decode cX1_met 29 = .ok (.pop, 1) := dk_87 (dk_at dksX1_met_1 7 rfl rfl)
theorem dX1_met_30 : decode cX1_met 30 = .ok (.aload_n 0, 1) := dk_42 (dk_at dksX1_met_1 8 rfl rfl)
theorem dX1_met_31 : decode cX1_met 31 = .ok (.getfield 42, 3) := dk_180 0 42 (dk_at dksX1_met_1 9 rfl rfl)
theorem dX1_met_34 : decode cX1_met 34 = .ok (.getfield 217, 3) := dk_180 0 217 (dk_at dksX1_met_1 12 rfl rfl)
theorem dX1_met_37 : decode cX1_met 37 = .ok (.iconst 5, 1) := dk_8 (dk_at dksX1_met_1 15 rfl rfl)
theorem dX1_met_38 : decode cX1_met 38 = .ok (.iload_n 1, 1) := dk_27 (dk_at dksX1_met_1 16 rfl rfl)
theorem dX1_met_39 : decode cX1_met 39 = .ok (.imul, 1) := dk_104 (dk_at dksX1_met_1 17 rfl rfl)
theorem dX1_met_40 : decode cX1_met 40 = .ok (.iload_n 2, 1) := dk_28 (dk_at dksX1_met_1 18 rfl rfl)
theorem dX1_met_41 : decode cX1_met 41 = .ok (.iadd, 1) := dk_96 (dk_at dksX1_met_1 19 rfl rfl)
theorem dX1_met_42 : decode cX1_met 42 = .ok (.iaload, 1) := dk_46 (dk_at dksX1_met_1 20 rfl rfl)
theorem dX1_met_43 : decode cX1_met 43 = .ok (.istore_n 3, 1) := dk_62 (dk_at dksX1_met_1 21 rfl rfl)
theorem dX1_met_44 : decode cX1_met 44 = .ok (.iload_n 3, 1) := dk_29 (dk_at dksX1_met_1 22 rfl rfl)
theorem dX1_met_45 : decode cX1_met 45 = .ok (.sipush 9999, 3) := dk_17 39 15 (dk_at dksX1_met_2 0 rfl rfl)
theorem dX1_met_48 : decode cX1_met 48 = .ok (.if_icmp .lt 7, 3) := dk_161 0 7 (dk_at dksX1_met_2 3 rfl rfl)
theorem dX1_met_51 : decode cX1_met 51 = .ok (.iconst (-1), 1) := dk_2 (dk_at dksX1_met_2 6 rfl rfl)
theorem dX1_met_52 : decode cX1_met 52 = .ok (.goto 4, 3) := dk_167 0 4 (dk_at dksX1_met_2 7 rfl rfl)
theorem dX1_met_55 : decode cX1_met 55 = .ok (.iload_n 3, 1) := dk_29 (dk_at dksX1_met_2 10 rfl rfl)
theorem dX1_met_56 : decode cX1_met 56 = .ok (.ireturn, 1) := dk_172 (dk_at dksX1_met_2 11 rfl rfl)
abbrev cX1_guilty : ByteArray := prog_1_method_22_code
def yX1_guilty : MethodName := ⟨RX1, "guilty", "(II)I"⟩
def dkwX1_guilty_1 : List UInt8 := [180, 0, 42, 180, 0, 220, 27, 46, 167, 0, 12, 42, 180, 0, 42, 180, 0, 223, 27, 46, 172]
abbrev dktX1_guilty_1 : List UInt8 := dkwX1_guilty_1 ++ []
def dkwX1_guilty_0 : List UInt8 := [42, 27, 182, 0, 200, 28, 3, 4, 184, 0, 142, 184, 0, 80, 42, 182, 0, 164, 87, 28, 154, 0, 15, 42]
abbrev dktX1_guilty_0 : List UInt8 := dkwX1_guilty_0 ++ dktX1_guilty_1
theorem dksX1_guilty_0 : cX1_guilty.data.toList.drop 0 = dktX1_guilty_0 := by decide +kernel
theorem dksX1_guilty_1 : cX1_guilty.data.toList.drop 24 = dktX1_guilty_1 := dk_seg dksX1_guilty_0 24 rfl rfl
theorem dX1_guilty_0 : decode cX1_guilty 0 = .ok (.aload_n 0, 1) := dk_42 (dk_at dksX1_guilty_0 0 rfl rfl)
theorem dX1_guilty_1 : decode cX1_guilty 1 = .ok (.iload_n 1, 1) := dk_27 (dk_at dksX1_guilty_0 1 rfl rfl)
theorem dX1_guilty_2 : decode cX1_guilty 2 = .ok (.invokevirtual 200, 3) := dk_182 0 200 (dk_at dksX1_guilty_0 2 rfl rfl)
theorem dX1_guilty_5 : decode cX1_guilty 5 = .ok (.iload_n 2, 1) := dk_28 (dk_at dksX1_guilty_0 5 rfl rfl)
theorem dX1_guilty_6 : decode cX1_guilty 6 = .ok (.iconst 0, 1) := dk_3 (dk_at dksX1_guilty_0 6 rfl rfl)
theorem dX1_guilty_7 : decode cX1_guilty 7 = .ok (.iconst 1, 1) := dk_4 (dk_at dksX1_guilty_0 7 rfl rfl)
theorem dX1_guilty_8 : decode cX1_guilty 8 = .ok (.invokestatic 142, 3) := dk_184 0 142 (dk_at dksX1_guilty_0 8 rfl rfl)
theorem dX1_guilty_11 : decode cX1_guilty 11 = .ok (.invokestatic 80, 3) := dk_184 0 80 (dk_at dksX1_guilty_0 11 rfl rfl)
theorem dX1_guilty_14 : decode cX1_guilty 14 = .ok (.aload_n 0, 1) := dk_42 (dk_at dksX1_guilty_0 14 rfl rfl)
theorem dX1_guilty_15 : decode cX1_guilty 15 = .ok (.invokevirtual 164, 3) := dk_182 0 164 (dk_at dksX1_guilty_0 15 rfl rfl)
theorem dX1_guilty_18 : decode cX1_guilty 18 = .ok (.pop, 1) := dk_87 (dk_at dksX1_guilty_0 18 rfl rfl)
theorem dX1_guilty_19 : decode cX1_guilty 19 = .ok (.iload_n 2, 1) := dk_28 (dk_at dksX1_guilty_0 19 rfl rfl)
theorem dX1_guilty_20 : decode cX1_guilty 20 = .ok (.ifCond .ne 15, 3) := dk_154 0 15 (dk_at dksX1_guilty_0 20 rfl rfl)
theorem dX1_guilty_23 : decode cX1_guilty 23 = .ok (.aload_n 0, 1) := dk_42 (dk_at dksX1_guilty_0 23 rfl rfl)
theorem dX1_guilty_24 : decode cX1_guilty 24 = .ok (.getfield 42, 3) := dk_180 0 42 (dk_at dksX1_guilty_1 0 rfl rfl)
theorem dX1_guilty_27 : decode cX1_guilty 27 = .ok (.getfield 220, 3) := dk_180 0 220 (dk_at dksX1_guilty_1 3 rfl rfl)
theorem dX1_guilty_30 : decode cX1_guilty 30 = .ok (.iload_n 1, 1) := dk_27 (dk_at dksX1_guilty_1 6 rfl rfl)
theorem dX1_guilty_31 : decode cX1_guilty 31 = .ok (.iaload, 1) := dk_46 (dk_at dksX1_guilty_1 7 rfl rfl)
theorem dX1_guilty_32 : decode cX1_guilty 32 = .ok (.goto 12, 3) := dk_167 0 12 (dk_at dksX1_guilty_1 8 rfl rfl)
theorem dX1_guilty_35 : decode cX1_guilty 35 = .ok (.aload_n 0, 1) := dk_42 (dk_at dksX1_guilty_1 11 rfl rfl)
theorem dX1_guilty_36 : decode cX1_guilty 36 = .ok (.getfield 42, 3) := dk_180 0 42 (dk_at dksX1_guilty_1 12 rfl rfl)
theorem dX1_guilty_39 : decode cX1_guilty 39 = .ok (.getfield 223, 3) := dk_180 0 223 (dk_at dksX1_guilty_1 15 rfl rfl)
theorem dX1_guilty_42 : decode cX1_guilty 42 = .ok (.iload_n 1, 1) := dk_27 (dk_at dksX1_guilty_1 18 rfl rfl)
theorem dX1_guilty_43 : decode cX1_guilty 43 = .ok (.iaload, 1) := dk_46 (dk_at dksX1_guilty_1 19 rfl rfl)
theorem dX1_guilty_44 : decode cX1_guilty 44 = .ok (.ireturn, 1) := dk_172 (dk_at dksX1_guilty_1 20 rfl rfl)
abbrev cX1_news : ByteArray := prog_1_method_23_code
def yX1_news : MethodName := ⟨RX1, "news", "(II)I"⟩
def dkwX1_news_8 : List UInt8 := [167, 0, 4, 29, 172]
abbrev dktX1_news_8 : List UInt8 := dkwX1_news_8 ++ []
def dkwX1_news_7 : List UInt8 := [28, 182, 0, 174, 96, 184, 0, 226, 62, 132, 4, 1, 167, 255, 183, 29, 17, 39, 15, 161, 0, 7, 2]
abbrev dktX1_news_7 : List UInt8 := dkwX1_news_7 ++ dktX1_news_8
def dkwX1_news_6 : List UInt8 := [21, 4, 104, 5, 96, 46, 42, 180, 0, 10, 42, 180, 0, 30, 180, 0, 231, 6, 21, 4, 104, 4, 96, 46]
abbrev dktX1_news_6 : List UInt8 := dkwX1_news_6 ++ dktX1_news_7
def dkwX1_news_5 : List UInt8 := [180, 0, 30, 180, 0, 231, 6, 21, 4, 104, 46, 27, 160, 0, 45, 29, 42, 180, 0, 30, 180, 0, 231, 6]
abbrev dktX1_news_5 : List UInt8 := dkwX1_news_5 ++ dktX1_news_6
def dkwX1_news_4 : List UInt8 := [132, 4, 1, 167, 255, 182, 3, 54, 4, 21, 4, 42, 180, 0, 30, 180, 0, 155, 162, 0, 67, 42]
abbrev dktX1_news_4 : List UInt8 := dkwX1_news_4 ++ dktX1_news_5
def dkwX1_news_3 : List UInt8 := [42, 180, 0, 10, 42, 180, 0, 42, 180, 0, 210, 21, 5, 46, 28, 182, 0, 174, 96, 184, 0, 226, 62]
abbrev dktX1_news_3 : List UInt8 := dkwX1_news_3 ++ dktX1_news_4
def dkwX1_news_2 : List UInt8 := [180, 0, 42, 180, 0, 204, 21, 5, 46, 2, 159, 0, 37, 29, 42, 180, 0, 42, 180, 0, 207, 21, 5, 46]
abbrev dktX1_news_2 : List UInt8 := dkwX1_news_2 ++ dktX1_news_3
def dkwX1_news_1 : List UInt8 := [42, 180, 0, 10, 180, 0, 86, 182, 0, 71, 162, 0, 65, 8, 27, 104, 21, 4, 96, 54, 5, 42]
abbrev dktX1_news_1 : List UInt8 := dkwX1_news_1 ++ dktX1_news_2
def dkwX1_news_0 : List UInt8 := [42, 27, 182, 0, 200, 42, 28, 182, 0, 167, 42, 182, 0, 164, 87, 17, 39, 15, 62, 3, 54, 4, 21, 4]
abbrev dktX1_news_0 : List UInt8 := dkwX1_news_0 ++ dktX1_news_1
theorem dksX1_news_0 : cX1_news.data.toList.drop 0 = dktX1_news_0 := by decide +kernel
theorem dksX1_news_1 : cX1_news.data.toList.drop 24 = dktX1_news_1 := dk_seg dksX1_news_0 24 rfl rfl
theorem dksX1_news_2 : cX1_news.data.toList.drop 46 = dktX1_news_2 := dk_seg dksX1_news_1 22 rfl rfl
theorem dksX1_news_3 : cX1_news.data.toList.drop 70 = dktX1_news_3 := dk_seg dksX1_news_2 24 rfl rfl
theorem dksX1_news_4 : cX1_news.data.toList.drop 93 = dktX1_news_4 := dk_seg dksX1_news_3 23 rfl rfl
theorem dksX1_news_5 : cX1_news.data.toList.drop 115 = dktX1_news_5 := dk_seg dksX1_news_4 22 rfl rfl
theorem dksX1_news_6 : cX1_news.data.toList.drop 139 = dktX1_news_6 := dk_seg dksX1_news_5 24 rfl rfl
theorem dksX1_news_7 : cX1_news.data.toList.drop 163 = dktX1_news_7 := dk_seg dksX1_news_6 24 rfl rfl
theorem dksX1_news_8 : cX1_news.data.toList.drop 186 = dktX1_news_8 := dk_seg dksX1_news_7 23 rfl rfl
theorem dX1_news_0 : decode cX1_news 0 = .ok (.aload_n 0, 1) := dk_42 (dk_at dksX1_news_0 0 rfl rfl)
theorem dX1_news_1 : decode cX1_news 1 = .ok (.iload_n 1, 1) := dk_27 (dk_at dksX1_news_0 1 rfl rfl)
theorem dX1_news_2 : decode cX1_news 2 = .ok (.invokevirtual 200, 3) := dk_182 0 200 (dk_at dksX1_news_0 2 rfl rfl)
theorem dX1_news_5 : decode cX1_news 5 = .ok (.aload_n 0, 1) := dk_42 (dk_at dksX1_news_0 5 rfl rfl)
theorem dX1_news_6 : decode cX1_news 6 = .ok (.iload_n 2, 1) := dk_28 (dk_at dksX1_news_0 6 rfl rfl)
theorem dX1_news_7 : decode cX1_news 7 = .ok (.invokevirtual 167, 3) := dk_182 0 167 (dk_at dksX1_news_0 7 rfl rfl)
theorem dX1_news_10 : decode cX1_news 10 = .ok (.aload_n 0, 1) := dk_42 (dk_at dksX1_news_0 10 rfl rfl)
theorem dX1_news_11 : decode cX1_news 11 = .ok (.invokevirtual 164, 3) := dk_182 0 164 (dk_at dksX1_news_0 11 rfl rfl)
theorem dX1_news_14 : decode cX1_news 14 = .ok (.pop, 1) := dk_87 (dk_at dksX1_news_0 14 rfl rfl)
theorem dX1_news_15 : decode cX1_news 15 = .ok (.sipush 9999, 3) := dk_17 39 15 (dk_at dksX1_news_0 15 rfl rfl)
theorem dX1_news_18 : decode cX1_news 18 = .ok (.istore_n 3, 1) := dk_62 (dk_at dksX1_news_0 18 rfl rfl)
theorem dX1_news_19 : decode cX1_news 19 = .ok (.iconst 0, 1) := dk_3 (dk_at dksX1_news_0 19 rfl rfl)
theorem dX1_news_20 : decode cX1_news 20 = .ok (.istore 4, 2) := dk_54 4 (dk_at dksX1_news_0 20 rfl rfl)
theorem dX1_news_22 : decode cX1_news 22 = .ok (.iload 4, 2) := dk_21 4 (dk_at dksX1_news_0 22 rfl rfl)
theorem dX1_news_24 : decode cX1_news 24 = .ok (.aload_n 0, 1) := dk_42 (dk_at dksX1_news_1 0 rfl rfl)
theorem dX1_news_25 : decode cX1_news 25 = .ok (.getfield 10, 3) := dk_180 0 10 (dk_at dksX1_news_1 1 rfl rfl)
theorem dX1_news_28 : decode cX1_news 28 = .ok (.getfield 86, 3) := dk_180 0 86 (dk_at dksX1_news_1 4 rfl rfl)
theorem dX1_news_31 : decode cX1_news 31 = .ok (.invokevirtual 71, 3) := dk_182 0 71 (dk_at dksX1_news_1 7 rfl rfl)
theorem dX1_news_34 : decode cX1_news 34 = .ok (.if_icmp .ge 65, 3) := dk_162 0 65 (dk_at dksX1_news_1 10 rfl rfl)
theorem dX1_news_37 : decode cX1_news 37 = .ok (.iconst 5, 1) := dk_8 (dk_at dksX1_news_1 13 rfl rfl)
theorem dX1_news_38 : decode cX1_news 38 = .ok (.iload_n 1, 1) := dk_27 (dk_at dksX1_news_1 14 rfl rfl)
theorem dX1_news_39 : decode cX1_news 39 = .ok (.imul, 1) := dk_104 (dk_at dksX1_news_1 15 rfl rfl)
theorem dX1_news_40 : decode cX1_news 40 = .ok (.iload 4, 2) := dk_21 4 (dk_at dksX1_news_1 16 rfl rfl)
theorem dX1_news_42 : decode cX1_news 42 = .ok (.iadd, 1) := dk_96 (dk_at dksX1_news_1 18 rfl rfl)
theorem dX1_news_43 : decode cX1_news 43 = .ok (.istore 5, 2) := dk_54 5 (dk_at dksX1_news_1 19 rfl rfl)
theorem dX1_news_45 : decode cX1_news 45 = .ok (.aload_n 0, 1) := dk_42 (dk_at dksX1_news_1 21 rfl rfl)
theorem dX1_news_46 : decode cX1_news 46 = .ok (.getfield 42, 3) := dk_180 0 42 (dk_at dksX1_news_2 0 rfl rfl)
theorem dX1_news_49 : decode cX1_news 49 = .ok (.getfield 204, 3) := dk_180 0 204 (dk_at dksX1_news_2 3 rfl rfl)
theorem dX1_news_52 : decode cX1_news 52 = .ok (.iload 5, 2) := dk_21 5 (dk_at dksX1_news_2 6 rfl rfl)
theorem dX1_news_54 : decode cX1_news 54 = .ok (.iaload, 1) := dk_46 (dk_at dksX1_news_2 8 rfl rfl)
theorem dX1_news_55 : decode cX1_news 55 = .ok (.iconst (-1), 1) := dk_2 (dk_at dksX1_news_2 9 rfl rfl)
theorem dX1_news_56 : decode cX1_news 56 = .ok (.if_icmp .eq 37, 3) := dk_159 0 37 (dk_at dksX1_news_2 10 rfl rfl)
theorem dX1_news_59 : decode cX1_news 59 = .ok (.iload_n 3, 1) := dk_29 (dk_at dksX1_news_2 13 rfl rfl)
theorem dX1_news_60 : decode cX1_news 60 = .ok (.aload_n 0, 1) := dk_42 (dk_at dksX1_news_2 14 rfl rfl)
theorem dX1_news_61 : decode cX1_news 61 = .ok (.getfield 42, 3) := dk_180 0 42 (dk_at dksX1_news_2 15 rfl rfl)
theorem dX1_news_64 : decode cX1_news 64 = .ok (.getfield 207, 3) := dk_180 0 207 (dk_at dksX1_news_2 18 rfl rfl)
theorem dX1_news_67 : decode cX1_news 67 = .ok (.iload 5, 2) := dk_21 5 (dk_at dksX1_news_2 21 rfl rfl)
theorem dX1_news_69 : decode cX1_news 69 = .ok (.iaload, 1) := dk_46 (dk_at dksX1_news_2 23 rfl rfl)
theorem dX1_news_70 : decode cX1_news 70 = .ok (.aload_n 0, 1) := dk_42 (dk_at dksX1_news_3 0 rfl rfl)
theorem dX1_news_71 : decode cX1_news 71 = .ok (.getfield 10, 3) := dk_180 0 10 (dk_at dksX1_news_3 1 rfl rfl)
theorem dX1_news_74 : decode cX1_news 74 = .ok (.aload_n 0, 1) := dk_42 (dk_at dksX1_news_3 4 rfl rfl)
theorem dX1_news_75 : decode cX1_news 75 = .ok (.getfield 42, 3) := dk_180 0 42 (dk_at dksX1_news_3 5 rfl rfl)
theorem dX1_news_78 : decode cX1_news 78 = .ok (.getfield 210, 3) := dk_180 0 210 (dk_at dksX1_news_3 8 rfl rfl)
theorem dX1_news_81 : decode cX1_news 81 = .ok (.iload 5, 2) := dk_21 5 (dk_at dksX1_news_3 11 rfl rfl)
theorem dX1_news_83 : decode cX1_news 83 = .ok (.iaload, 1) := dk_46 (dk_at dksX1_news_3 13 rfl rfl)
theorem dX1_news_84 : decode cX1_news 84 = .ok (.iload_n 2, 1) := dk_28 (dk_at dksX1_news_3 14 rfl rfl)
theorem dX1_news_85 : decode cX1_news 85 = .ok (.invokevirtual 174, 3) := dk_182 0 174 (dk_at dksX1_news_3 15 rfl rfl)
theorem dX1_news_88 : decode cX1_news 88 = .ok (.iadd, 1) := dk_96 (dk_at dksX1_news_3 18 rfl rfl)
theorem dX1_news_89 : decode cX1_news 89 = .ok (.invokestatic 226, 3) := dk_184 0 226 (dk_at dksX1_news_3 19 rfl rfl)
theorem dX1_news_92 : decode cX1_news 92 = .ok (.istore_n 3, 1) := dk_62 (dk_at dksX1_news_3 22 rfl rfl)
theorem dX1_news_93 : decode cX1_news 93 = .ok (.iinc 4 1, 3) := dk_132 4 1 (dk_at dksX1_news_4 0 rfl rfl)
theorem dX1_news_96 : decode cX1_news 96 = .ok (.goto (-74), 3) := dk_167 255 182 (dk_at dksX1_news_4 3 rfl rfl)
theorem dX1_news_99 : decode cX1_news 99 = .ok (.iconst 0, 1) := dk_3 (dk_at dksX1_news_4 6 rfl rfl)
theorem dX1_news_100 : decode cX1_news 100 = .ok (.istore 4, 2) := dk_54 4 (dk_at dksX1_news_4 7 rfl rfl)
theorem dX1_news_102 : decode cX1_news 102 = .ok (.iload 4, 2) := dk_21 4 (dk_at dksX1_news_4 9 rfl rfl)
theorem dX1_news_104 : decode cX1_news 104 = .ok (.aload_n 0, 1) := dk_42 (dk_at dksX1_news_4 11 rfl rfl)
theorem dX1_news_105 : decode cX1_news 105 = .ok (.getfield 30, 3) := dk_180 0 30 (dk_at dksX1_news_4 12 rfl rfl)
theorem dX1_news_108 : decode cX1_news 108 = .ok (.getfield 155, 3) := dk_180 0 155 (dk_at dksX1_news_4 15 rfl rfl)
theorem dX1_news_111 : decode cX1_news 111 = .ok (.if_icmp .ge 67, 3) := dk_162 0 67 (dk_at dksX1_news_4 18 rfl rfl)
theorem dX1_news_114 : decode cX1_news 114 = .ok (.aload_n 0, 1) := dk_42 (dk_at dksX1_news_4 21 rfl rfl)
theorem dX1_news_115 : decode cX1_news 115 = .ok (.getfield 30, 3) := dk_180 0 30 (dk_at dksX1_news_5 0 rfl rfl)
theorem dX1_news_118 : decode cX1_news 118 = .ok (.getfield 231, 3) := dk_180 0 231 (dk_at dksX1_news_5 3 rfl rfl)
theorem dX1_news_121 : decode cX1_news 121 = .ok (.iconst 3, 1) := dk_6 (dk_at dksX1_news_5 6 rfl rfl)
theorem dX1_news_122 : decode cX1_news 122 = .ok (.iload 4, 2) := dk_21 4 (dk_at dksX1_news_5 7 rfl rfl)
theorem dX1_news_124 : decode cX1_news 124 = .ok (.imul, 1) := dk_104 (dk_at dksX1_news_5 9 rfl rfl)
theorem dX1_news_125 : decode cX1_news 125 = .ok (.iaload, 1) := dk_46 (dk_at dksX1_news_5 10 rfl rfl)
theorem dX1_news_126 : decode cX1_news 126 = .ok (.iload_n 1, 1) := dk_27 (dk_at dksX1_news_5 11 rfl rfl)
theorem dX1_news_127 : decode cX1_news 127 = .ok (.if_icmp .ne 45, 3) := dk_160 0 45 (dk_at dksX1_news_5 12 rfl rfl)
theorem dX1_news_130 : decode cX1_news 130 = .ok (.iload_n 3, 1) := dk_29 (dk_at dksX1_news_5 15 rfl rfl)
theorem dX1_news_131 : decode cX1_news 131 = .ok (.aload_n 0, 1) := dk_42 (dk_at dksX1_news_5 16 rfl rfl)
theorem dX1_news_132 : decode cX1_news 132 = .ok (.getfield 30, 3) := dk_180 0 30 (dk_at dksX1_news_5 17 rfl rfl)
theorem dX1_news_135 : decode cX1_news 135 = .ok (.getfield 231, 3) := dk_180 0 231 (dk_at dksX1_news_5 20 rfl rfl)
theorem dX1_news_138 : decode cX1_news 138 = .ok (.iconst 3, 1) := dk_6 (dk_at dksX1_news_5 23 rfl rfl)
theorem dX1_news_139 : decode cX1_news 139 = .ok (.iload 4, 2) := dk_21 4 (dk_at dksX1_news_6 0 rfl rfl)
theorem dX1_news_141 : decode cX1_news 141 = .ok (.imul, 1) := dk_104 (dk_at dksX1_news_6 2 rfl rfl)
theorem dX1_news_142 : decode cX1_news 142 = .ok (.iconst 2, 1) := dk_5 (dk_at dksX1_news_6 3 rfl rfl)
theorem dX1_news_143 : decode cX1_news 143 = .ok (.iadd, 1) := dk_96 (dk_at dksX1_news_6 4 rfl rfl)
theorem dX1_news_144 : decode cX1_news 144 = .ok (.iaload, 1) := dk_46 (dk_at dksX1_news_6 5 rfl rfl)
theorem dX1_news_145 : decode cX1_news 145 = .ok (.aload_n 0, 1) := dk_42 (dk_at dksX1_news_6 6 rfl rfl)
theorem dX1_news_146 : decode cX1_news 146 = .ok (.getfield 10, 3) := dk_180 0 10 (dk_at dksX1_news_6 7 rfl rfl)
theorem dX1_news_149 : decode cX1_news 149 = .ok (.aload_n 0, 1) := dk_42 (dk_at dksX1_news_6 10 rfl rfl)
theorem dX1_news_150 : decode cX1_news 150 = .ok (.getfield 30, 3) := dk_180 0 30 (dk_at dksX1_news_6 11 rfl rfl)
theorem dX1_news_153 : decode cX1_news 153 = .ok (.getfield 231, 3) := dk_180 0 231 (dk_at dksX1_news_6 14 rfl rfl)
theorem dX1_news_156 : decode cX1_news 156 = .ok (.iconst 3, 1) := dk_6 (dk_at dksX1_news_6 17 rfl rfl)
theorem dX1_news_157 : decode cX1_news 157 = .ok (.iload 4, 2) := dk_21 4 (dk_at dksX1_news_6 18 rfl rfl)
theorem dX1_news_159 : decode cX1_news 159 = .ok (.imul, 1) := dk_104 (dk_at dksX1_news_6 20 rfl rfl)
theorem dX1_news_160 : decode cX1_news 160 = .ok (.iconst 1, 1) := dk_4 (dk_at dksX1_news_6 21 rfl rfl)
theorem dX1_news_161 : decode cX1_news 161 = .ok (.iadd, 1) := dk_96 (dk_at dksX1_news_6 22 rfl rfl)
theorem dX1_news_162 : decode cX1_news 162 = .ok (.iaload, 1) := dk_46 (dk_at dksX1_news_6 23 rfl rfl)
theorem dX1_news_163 : decode cX1_news 163 = .ok (.iload_n 2, 1) := dk_28 (dk_at dksX1_news_7 0 rfl rfl)
theorem dX1_news_164 : decode cX1_news 164 = .ok (.invokevirtual 174, 3) := dk_182 0 174 (dk_at dksX1_news_7 1 rfl rfl)
theorem dX1_news_167 : decode cX1_news 167 = .ok (.iadd, 1) := dk_96 (dk_at dksX1_news_7 4 rfl rfl)
theorem dX1_news_168 : decode cX1_news 168 = .ok (.invokestatic 226, 3) := dk_184 0 226 (dk_at dksX1_news_7 5 rfl rfl)
theorem dX1_news_171 : decode cX1_news 171 = .ok (.istore_n 3, 1) := dk_62 (dk_at dksX1_news_7 8 rfl rfl)
theorem dX1_news_172 : decode cX1_news 172 = .ok (.iinc 4 1, 3) := dk_132 4 1 (dk_at dksX1_news_7 9 rfl rfl)
theorem dX1_news_175 : decode cX1_news 175 = .ok (.goto (-73), 3) := dk_167 255 183 (dk_at dksX1_news_7 12 rfl rfl)
theorem dX1_news_178 : decode cX1_news 178 = .ok (.iload_n 3, 1) := dk_29 (dk_at dksX1_news_7 15 rfl rfl)
theorem dX1_news_179 : decode cX1_news 179 = .ok (.sipush 9999, 3) := dk_17 39 15 (dk_at dksX1_news_7 16 rfl rfl)
theorem dX1_news_182 : decode cX1_news 182 = .ok (.if_icmp .lt 7, 3) := dk_161 0 7 (dk_at dksX1_news_7 19 rfl rfl)
theorem dX1_news_185 : decode cX1_news 185 = .ok (.iconst (-1), 1) := dk_2 (dk_at dksX1_news_7 22 rfl rfl)
theorem dX1_news_186 : decode cX1_news 186 = .ok (.goto 4, 3) := dk_167 0 4 (dk_at dksX1_news_8 0 rfl rfl)
theorem dX1_news_189 : decode cX1_news 189 = .ok (.iload_n 3, 1) := dk_29 (dk_at dksX1_news_8 3 rfl rfl)
theorem dX1_news_190 : decode cX1_news 190 = .ok (.ireturn, 1) := dk_172 (dk_at dksX1_news_8 4 rfl rfl)
abbrev cX1_start : ByteArray := prog_1_method_25_code
def yX1_start : MethodName := ⟨RX1, "start", "(II)I"⟩
def dkwX1_start_2 : List UInt8 := [28, 79, 29, 172]
abbrev dktX1_start_2 : List UInt8 := dkwX1_start_2 ++ []
def dkwX1_start_1 : List UInt8 := [180, 0, 19, 182, 0, 238, 42, 180, 0, 30, 180, 0, 183, 27, 46, 62, 42, 180, 0, 30, 180, 0, 183, 27]
abbrev dktX1_start_1 : List UInt8 := dkwX1_start_1 ++ dktX1_start_2
def dkwX1_start_0 : List UInt8 := [42, 27, 182, 0, 177, 87, 28, 3, 16, 60, 184, 0, 142, 154, 0, 9, 42, 4, 182, 0, 234, 172, 42]
abbrev dktX1_start_0 : List UInt8 := dkwX1_start_0 ++ dktX1_start_1
theorem dksX1_start_0 : cX1_start.data.toList.drop 0 = dktX1_start_0 := by decide +kernel
theorem dksX1_start_1 : cX1_start.data.toList.drop 23 = dktX1_start_1 := dk_seg dksX1_start_0 23 rfl rfl
theorem dksX1_start_2 : cX1_start.data.toList.drop 47 = dktX1_start_2 := dk_seg dksX1_start_1 24 rfl rfl
theorem dX1_start_0 : decode cX1_start 0 = .ok (.aload_n 0, 1) := dk_42 (dk_at dksX1_start_0 0 rfl rfl)
theorem dX1_start_1 : decode cX1_start 1 = .ok (.iload_n 1, 1) := dk_27 (dk_at dksX1_start_0 1 rfl rfl)
theorem dX1_start_2 : decode cX1_start 2 = .ok (.invokevirtual 177, 3) := dk_182 0 177 (dk_at dksX1_start_0 2 rfl rfl)
theorem dX1_start_5 : decode cX1_start 5 = .ok (.pop, 1) := dk_87 (dk_at dksX1_start_0 5 rfl rfl)
theorem dX1_start_6 : decode cX1_start 6 = .ok (.iload_n 2, 1) := dk_28 (dk_at dksX1_start_0 6 rfl rfl)
theorem dX1_start_7 : decode cX1_start 7 = .ok (.iconst 0, 1) := dk_3 (dk_at dksX1_start_0 7 rfl rfl)
theorem dX1_start_8 : decode cX1_start 8 = .ok (.bipush 60, 2) := dk_16 60 (dk_at dksX1_start_0 8 rfl rfl)
theorem dX1_start_10 : decode cX1_start 10 = .ok (.invokestatic 142, 3) := dk_184 0 142 (dk_at dksX1_start_0 10 rfl rfl)
theorem dX1_start_13 : decode cX1_start 13 = .ok (.ifCond .ne 9, 3) := dk_154 0 9 (dk_at dksX1_start_0 13 rfl rfl)
theorem dX1_start_16 : decode cX1_start 16 = .ok (.aload_n 0, 1) := dk_42 (dk_at dksX1_start_0 16 rfl rfl)
theorem dX1_start_17 : decode cX1_start 17 = .ok (.iconst 1, 1) := dk_4 (dk_at dksX1_start_0 17 rfl rfl)
theorem dX1_start_18 : decode cX1_start 18 = .ok (.invokevirtual 234, 3) := dk_182 0 234 (dk_at dksX1_start_0 18 rfl rfl)
theorem dX1_start_21 : decode cX1_start 21 = .ok (.ireturn, 1) := dk_172 (dk_at dksX1_start_0 21 rfl rfl)
theorem dX1_start_22 : decode cX1_start 22 = .ok (.aload_n 0, 1) := dk_42 (dk_at dksX1_start_0 22 rfl rfl)
theorem dX1_start_23 : decode cX1_start 23 = .ok (.getfield 19, 3) := dk_180 0 19 (dk_at dksX1_start_1 0 rfl rfl)
theorem dX1_start_26 : decode cX1_start 26 = .ok (.invokevirtual 238, 3) := dk_182 0 238 (dk_at dksX1_start_1 3 rfl rfl)
theorem dX1_start_29 : decode cX1_start 29 = .ok (.aload_n 0, 1) := dk_42 (dk_at dksX1_start_1 6 rfl rfl)
theorem dX1_start_30 : decode cX1_start 30 = .ok (.getfield 30, 3) := dk_180 0 30 (dk_at dksX1_start_1 7 rfl rfl)
theorem dX1_start_33 : decode cX1_start 33 = .ok (.getfield 183, 3) := dk_180 0 183 (dk_at dksX1_start_1 10 rfl rfl)
theorem dX1_start_36 : decode cX1_start 36 = .ok (.iload_n 1, 1) := dk_27 (dk_at dksX1_start_1 13 rfl rfl)
theorem dX1_start_37 : decode cX1_start 37 = .ok (.iaload, 1) := dk_46 (dk_at dksX1_start_1 14 rfl rfl)
theorem dX1_start_38 : decode cX1_start 38 = .ok (.istore_n 3, 1) := dk_62 (dk_at dksX1_start_1 15 rfl rfl)
theorem dX1_start_39 : decode cX1_start 39 = .ok (.aload_n 0, 1) := dk_42 (dk_at dksX1_start_1 16 rfl rfl)
theorem dX1_start_40 : decode cX1_start 40 = .ok (.getfield 30, 3) := dk_180 0 30 (dk_at dksX1_start_1 17 rfl rfl)
theorem dX1_start_43 : decode cX1_start 43 = .ok (.getfield 183, 3) := dk_180 0 183 (dk_at dksX1_start_1 20 rfl rfl)
theorem dX1_start_46 : decode cX1_start 46 = .ok (.iload_n 1, 1) := dk_27 (dk_at dksX1_start_1 23 rfl rfl)
theorem dX1_start_47 : decode cX1_start 47 = .ok (.iload_n 2, 1) := dk_28 (dk_at dksX1_start_2 0 rfl rfl)
theorem dX1_start_48 : decode cX1_start 48 = .ok (.iastore, 1) := dk_79 (dk_at dksX1_start_2 1 rfl rfl)
theorem dX1_start_49 : decode cX1_start 49 = .ok (.iload_n 3, 1) := dk_29 (dk_at dksX1_start_2 2 rfl rfl)
theorem dX1_start_50 : decode cX1_start 50 = .ok (.ireturn, 1) := dk_172 (dk_at dksX1_start_2 3 rfl rfl)
abbrev cX1_refuses : ByteArray := prog_1_method_24_code
def yX1_refuses : MethodName := ⟨RX1, "refuses", "(I)I"⟩
def dkwX1_refuses_0 : List UInt8 := [42, 180, 0, 19, 180, 0, 118, 27, 92, 46, 4, 96, 79, 2, 172]
abbrev dktX1_refuses_0 : List UInt8 := dkwX1_refuses_0 ++ []
theorem dksX1_refuses_0 : cX1_refuses.data.toList.drop 0 = dktX1_refuses_0 := by decide +kernel
theorem dX1_refuses_0 : decode cX1_refuses 0 = .ok (.aload_n 0, 1) := dk_42 (dk_at dksX1_refuses_0 0 rfl rfl)
theorem dX1_refuses_1 : decode cX1_refuses 1 = .ok (.getfield 19, 3) := dk_180 0 19 (dk_at dksX1_refuses_0 1 rfl rfl)
theorem dX1_refuses_4 : decode cX1_refuses 4 = .ok (.getfield 118, 3) := dk_180 0 118 (dk_at dksX1_refuses_0 4 rfl rfl)
theorem dX1_refuses_7 : decode cX1_refuses 7 = .ok (.iload_n 1, 1) := dk_27 (dk_at dksX1_refuses_0 7 rfl rfl)
theorem dX1_refuses_8 : decode cX1_refuses 8 = .ok (.dup2, 1) := dk_92 (dk_at dksX1_refuses_0 8 rfl rfl)
theorem dX1_refuses_9 : decode cX1_refuses 9 = .ok (.iaload, 1) := dk_46 (dk_at dksX1_refuses_0 9 rfl rfl)
theorem dX1_refuses_10 : decode cX1_refuses 10 = .ok (.iconst 1, 1) := dk_4 (dk_at dksX1_refuses_0 10 rfl rfl)
theorem dX1_refuses_11 : decode cX1_refuses 11 = .ok (.iadd, 1) := dk_96 (dk_at dksX1_refuses_0 11 rfl rfl)
theorem dX1_refuses_12 : decode cX1_refuses 12 = .ok (.iastore, 1) := dk_79 (dk_at dksX1_refuses_0 12 rfl rfl)
theorem dX1_refuses_13 : decode cX1_refuses 13 = .ok (.iconst (-1), 1) := dk_2 (dk_at dksX1_refuses_0 13 rfl rfl)
theorem dX1_refuses_14 : decode cX1_refuses 14 = .ok (.ireturn, 1) := dk_172 (dk_at dksX1_refuses_0 14 rfl rfl)
abbrev cX1_inn : ByteArray := prog_1_method_26_code
def yX1_inn : MethodName := ⟨RX1, "inn", "(IZ)Z"⟩
def dkwX1_inn_2 : List UInt8 := [89, 180, 0, 152, 4, 27, 120, 130, 181, 0, 152, 4, 172]
abbrev dktX1_inn_2 : List UInt8 := dkwX1_inn_2 ++ []
def dkwX1_inn_1 : List UInt8 := [3, 28, 160, 0, 11, 42, 4, 182, 0, 234, 87, 3, 172, 42, 180, 0, 19, 182, 0, 238, 42, 180, 0, 30]
abbrev dktX1_inn_1 : List UInt8 := dkwX1_inn_1 ++ dktX1_inn_2
def dkwX1_inn_0 : List UInt8 := [42, 27, 182, 0, 167, 42, 180, 0, 30, 180, 0, 152, 27, 122, 4, 126, 4, 160, 0, 7, 4, 167, 0, 4]
abbrev dktX1_inn_0 : List UInt8 := dkwX1_inn_0 ++ dktX1_inn_1
theorem dksX1_inn_0 : cX1_inn.data.toList.drop 0 = dktX1_inn_0 := by decide +kernel
theorem dksX1_inn_1 : cX1_inn.data.toList.drop 24 = dktX1_inn_1 := dk_seg dksX1_inn_0 24 rfl rfl
theorem dksX1_inn_2 : cX1_inn.data.toList.drop 48 = dktX1_inn_2 := dk_seg dksX1_inn_1 24 rfl rfl
theorem dX1_inn_0 : decode cX1_inn 0 = .ok (.aload_n 0, 1) := dk_42 (dk_at dksX1_inn_0 0 rfl rfl)
theorem dX1_inn_1 : decode cX1_inn 1 = .ok (.iload_n 1, 1) := dk_27 (dk_at dksX1_inn_0 1 rfl rfl)
theorem dX1_inn_2 : decode cX1_inn 2 = .ok (.invokevirtual 167, 3) := dk_182 0 167 (dk_at dksX1_inn_0 2 rfl rfl)
theorem dX1_inn_5 : decode cX1_inn 5 = .ok (.aload_n 0, 1) := dk_42 (dk_at dksX1_inn_0 5 rfl rfl)
theorem dX1_inn_6 : decode cX1_inn 6 = .ok (.getfield 30, 3) := dk_180 0 30 (dk_at dksX1_inn_0 6 rfl rfl)
theorem dX1_inn_9 : decode cX1_inn 9 = .ok (.getfield 152, 3) := dk_180 0 152 (dk_at dksX1_inn_0 9 rfl rfl)
theorem dX1_inn_12 : decode cX1_inn 12 = .ok (.iload_n 1, 1) := dk_27 (dk_at dksX1_inn_0 12 rfl rfl)
theorem dX1_inn_13 : decode cX1_inn 13 = .ok (.ishr, 1) := dk_122 (dk_at dksX1_inn_0 13 rfl rfl)
theorem dX1_inn_14 : decode cX1_inn 14 = .ok (.iconst 1, 1) := dk_4 (dk_at dksX1_inn_0 14 rfl rfl)
theorem dX1_inn_15 : decode cX1_inn 15 = .ok (.iand, 1) := dk_126 (dk_at dksX1_inn_0 15 rfl rfl)
theorem dX1_inn_16 : decode cX1_inn 16 = .ok (.iconst 1, 1) := dk_4 (dk_at dksX1_inn_0 16 rfl rfl)
theorem dX1_inn_17 : decode cX1_inn 17 = .ok (.if_icmp .ne 7, 3) := dk_160 0 7 (dk_at dksX1_inn_0 17 rfl rfl)
theorem dX1_inn_20 : decode cX1_inn 20 = .ok (.iconst 1, 1) := dk_4 (dk_at dksX1_inn_0 20 rfl rfl)
theorem dX1_inn_21 : decode cX1_inn 21 = .ok (.goto 4, 3) := dk_167 0 4 (dk_at dksX1_inn_0 21 rfl rfl)
theorem dX1_inn_24 : decode cX1_inn 24 = .ok (.iconst 0, 1) := dk_3 (dk_at dksX1_inn_1 0 rfl rfl)
theorem dX1_inn_25 : decode cX1_inn 25 = .ok (.iload_n 2, 1) := dk_28 (dk_at dksX1_inn_1 1 rfl rfl)
theorem dX1_inn_26 : decode cX1_inn 26 = .ok (.if_icmp .ne 11, 3) := dk_160 0 11 (dk_at dksX1_inn_1 2 rfl rfl)
theorem dX1_inn_29 : decode cX1_inn 29 = .ok (.aload_n 0, 1) := dk_42 (dk_at dksX1_inn_1 5 rfl rfl)
theorem dX1_inn_30 : decode cX1_inn 30 = .ok (.iconst 1, 1) := dk_4 (dk_at dksX1_inn_1 6 rfl rfl)
theorem dX1_inn_31 : decode cX1_inn 31 = .ok (.invokevirtual 234, 3) := dk_182 0 234 (dk_at dksX1_inn_1 7 rfl rfl)
theorem dX1_inn_34 : decode cX1_inn 34 = .ok (.pop, 1) := dk_87 (dk_at dksX1_inn_1 10 rfl rfl)
theorem dX1_inn_35 : decode cX1_inn 35 = .ok (.iconst 0, 1) := dk_3 (dk_at dksX1_inn_1 11 rfl rfl)
theorem dX1_inn_36 : decode cX1_inn 36 = .ok (.ireturn, 1) := dk_172 (dk_at dksX1_inn_1 12 rfl rfl)
theorem dX1_inn_37 : decode cX1_inn 37 = .ok (.aload_n 0, 1) := dk_42 (dk_at dksX1_inn_1 13 rfl rfl)
theorem dX1_inn_38 : decode cX1_inn 38 = .ok (.getfield 19, 3) := dk_180 0 19 (dk_at dksX1_inn_1 14 rfl rfl)
theorem dX1_inn_41 : decode cX1_inn 41 = .ok (.invokevirtual 238, 3) := dk_182 0 238 (dk_at dksX1_inn_1 17 rfl rfl)
theorem dX1_inn_44 : decode cX1_inn 44 = .ok (.aload_n 0, 1) := dk_42 (dk_at dksX1_inn_1 20 rfl rfl)
theorem dX1_inn_45 : decode cX1_inn 45 = .ok (.getfield 30, 3) := dk_180 0 30 (dk_at dksX1_inn_1 21 rfl rfl)
theorem dX1_inn_48 : decode cX1_inn 48 = .ok (.dup, 1) := dk_89 (dk_at dksX1_inn_2 0 rfl rfl)
theorem dX1_inn_49 : decode cX1_inn 49 = .ok (.getfield 152, 3) := dk_180 0 152 (dk_at dksX1_inn_2 1 rfl rfl)
theorem dX1_inn_52 : decode cX1_inn 52 = .ok (.iconst 1, 1) := dk_4 (dk_at dksX1_inn_2 4 rfl rfl)
theorem dX1_inn_53 : decode cX1_inn 53 = .ok (.iload_n 1, 1) := dk_27 (dk_at dksX1_inn_2 5 rfl rfl)
theorem dX1_inn_54 : decode cX1_inn 54 = .ok (.ishl, 1) := dk_120 (dk_at dksX1_inn_2 6 rfl rfl)
theorem dX1_inn_55 : decode cX1_inn 55 = .ok (.ixor, 1) := dk_130 (dk_at dksX1_inn_2 7 rfl rfl)
theorem dX1_inn_56 : decode cX1_inn 56 = .ok (.putfield 152, 3) := dk_181 0 152 (dk_at dksX1_inn_2 8 rfl rfl)
theorem dX1_inn_59 : decode cX1_inn 59 = .ok (.iconst 1, 1) := dk_4 (dk_at dksX1_inn_2 11 rfl rfl)
theorem dX1_inn_60 : decode cX1_inn 60 = .ok (.ireturn, 1) := dk_172 (dk_at dksX1_inn_2 12 rfl rfl)
abbrev cX1_word : ByteArray := prog_1_method_27_code
def yX1_word : MethodName := ⟨RX1, "word", "(III)I"⟩
def dkwX1_word_2 : List UInt8 := [180, 0, 30, 27, 28, 29, 182, 0, 241, 42, 180, 0, 30, 180, 0, 155, 172]
abbrev dktX1_word_2 : List UInt8 := dkwX1_word_2 ++ []
def dkwX1_word_1 : List UInt8 := [16, 99, 184, 0, 142, 154, 0, 9, 42, 4, 182, 0, 234, 172, 42, 180, 0, 19, 182, 0, 238, 42]
abbrev dktX1_word_1 : List UInt8 := dkwX1_word_1 ++ dktX1_word_2
def dkwX1_word_0 : List UInt8 := [42, 27, 182, 0, 200, 42, 28, 182, 0, 167, 42, 180, 0, 30, 180, 0, 155, 7, 159, 0, 13, 29, 3]
abbrev dktX1_word_0 : List UInt8 := dkwX1_word_0 ++ dktX1_word_1
theorem dksX1_word_0 : cX1_word.data.toList.drop 0 = dktX1_word_0 := by decide +kernel
theorem dksX1_word_1 : cX1_word.data.toList.drop 23 = dktX1_word_1 := dk_seg dksX1_word_0 23 rfl rfl
theorem dksX1_word_2 : cX1_word.data.toList.drop 45 = dktX1_word_2 := dk_seg dksX1_word_1 22 rfl rfl
theorem dX1_word_0 : decode cX1_word 0 = .ok (.aload_n 0, 1) := dk_42 (dk_at dksX1_word_0 0 rfl rfl)
theorem dX1_word_1 : decode cX1_word 1 = .ok (.iload_n 1, 1) := dk_27 (dk_at dksX1_word_0 1 rfl rfl)
theorem dX1_word_2 : decode cX1_word 2 = .ok (.invokevirtual 200, 3) := dk_182 0 200 (dk_at dksX1_word_0 2 rfl rfl)
theorem dX1_word_5 : decode cX1_word 5 = .ok (.aload_n 0, 1) := dk_42 (dk_at dksX1_word_0 5 rfl rfl)
theorem dX1_word_6 : decode cX1_word 6 = .ok (.iload_n 2, 1) := dk_28 (dk_at dksX1_word_0 6 rfl rfl)
theorem dX1_word_7 : decode cX1_word 7 = .ok (.invokevirtual 167, 3) := dk_182 0 167 (dk_at dksX1_word_0 7 rfl rfl)
theorem dX1_word_10 : decode cX1_word 10 = .ok (.aload_n 0, 1) := dk_42 (dk_at dksX1_word_0 10 rfl rfl)
theorem dX1_word_11 : decode cX1_word 11 = .ok (.getfield 30, 3) := dk_180 0 30 (dk_at dksX1_word_0 11 rfl rfl)
theorem dX1_word_14 : decode cX1_word 14 = .ok (.getfield 155, 3) := dk_180 0 155 (dk_at dksX1_word_0 14 rfl rfl)
theorem dX1_word_17 : decode cX1_word 17 = .ok (.iconst 4, 1) := dk_7 (dk_at dksX1_word_0 17 rfl rfl)
theorem dX1_word_18 : decode cX1_word 18 = .ok (.if_icmp .eq 13, 3) := dk_159 0 13 (dk_at dksX1_word_0 18 rfl rfl)
theorem dX1_word_21 : decode cX1_word 21 = .ok (.iload_n 3, 1) := dk_29 (dk_at dksX1_word_0 21 rfl rfl)
theorem dX1_word_22 : decode cX1_word 22 = .ok (.iconst 0, 1) := dk_3 (dk_at dksX1_word_0 22 rfl rfl)
theorem dX1_word_23 : decode cX1_word 23 = .ok (.bipush 99, 2) := dk_16 99 (dk_at dksX1_word_1 0 rfl rfl)
theorem dX1_word_25 : decode cX1_word 25 = .ok (.invokestatic 142, 3) := dk_184 0 142 (dk_at dksX1_word_1 2 rfl rfl)
theorem dX1_word_28 : decode cX1_word 28 = .ok (.ifCond .ne 9, 3) := dk_154 0 9 (dk_at dksX1_word_1 5 rfl rfl)
theorem dX1_word_31 : decode cX1_word 31 = .ok (.aload_n 0, 1) := dk_42 (dk_at dksX1_word_1 8 rfl rfl)
theorem dX1_word_32 : decode cX1_word 32 = .ok (.iconst 1, 1) := dk_4 (dk_at dksX1_word_1 9 rfl rfl)
theorem dX1_word_33 : decode cX1_word 33 = .ok (.invokevirtual 234, 3) := dk_182 0 234 (dk_at dksX1_word_1 10 rfl rfl)
theorem dX1_word_36 : decode cX1_word 36 = .ok (.ireturn, 1) := dk_172 (dk_at dksX1_word_1 13 rfl rfl)
theorem dX1_word_37 : decode cX1_word 37 = .ok (.aload_n 0, 1) := dk_42 (dk_at dksX1_word_1 14 rfl rfl)
theorem dX1_word_38 : decode cX1_word 38 = .ok (.getfield 19, 3) := dk_180 0 19 (dk_at dksX1_word_1 15 rfl rfl)
theorem dX1_word_41 : decode cX1_word 41 = .ok (.invokevirtual 238, 3) := dk_182 0 238 (dk_at dksX1_word_1 18 rfl rfl)
theorem dX1_word_44 : decode cX1_word 44 = .ok (.aload_n 0, 1) := dk_42 (dk_at dksX1_word_1 21 rfl rfl)
theorem dX1_word_45 : decode cX1_word 45 = .ok (.getfield 30, 3) := dk_180 0 30 (dk_at dksX1_word_2 0 rfl rfl)
theorem dX1_word_48 : decode cX1_word 48 = .ok (.iload_n 1, 1) := dk_27 (dk_at dksX1_word_2 3 rfl rfl)
theorem dX1_word_49 : decode cX1_word 49 = .ok (.iload_n 2, 1) := dk_28 (dk_at dksX1_word_2 4 rfl rfl)
theorem dX1_word_50 : decode cX1_word 50 = .ok (.iload_n 3, 1) := dk_29 (dk_at dksX1_word_2 5 rfl rfl)
theorem dX1_word_51 : decode cX1_word 51 = .ok (.invokevirtual 241, 3) := dk_182 0 241 (dk_at dksX1_word_2 6 rfl rfl)
theorem dX1_word_54 : decode cX1_word 54 = .ok (.aload_n 0, 1) := dk_42 (dk_at dksX1_word_2 9 rfl rfl)
theorem dX1_word_55 : decode cX1_word 55 = .ok (.getfield 30, 3) := dk_180 0 30 (dk_at dksX1_word_2 10 rfl rfl)
theorem dX1_word_58 : decode cX1_word 58 = .ok (.getfield 155, 3) := dk_180 0 155 (dk_at dksX1_word_2 13 rfl rfl)
theorem dX1_word_61 : decode cX1_word 61 = .ok (.ireturn, 1) := dk_172 (dk_at dksX1_word_2 16 rfl rfl)
abbrev cX1_feast : ByteArray := prog_1_method_28_code
def yX1_feast : MethodName := ⟨RX1, "feast", "(III)I"⟩
def dkwX1_feast_2 : List UInt8 := [180, 0, 30, 27, 28, 29, 182, 0, 245, 42, 180, 0, 30, 180, 0, 158, 172]
abbrev dktX1_feast_2 : List UInt8 := dkwX1_feast_2 ++ []
def dkwX1_feast_1 : List UInt8 := [163, 0, 8, 29, 28, 162, 0, 9, 42, 4, 182, 0, 234, 172, 42, 180, 0, 19, 182, 0, 238, 42]
abbrev dktX1_feast_1 : List UInt8 := dkwX1_feast_1 ++ dktX1_feast_2
def dkwX1_feast_0 : List UInt8 := [42, 27, 182, 0, 167, 42, 180, 0, 30, 180, 0, 158, 7, 159, 0, 18, 28, 155, 0, 14, 29, 16, 99]
abbrev dktX1_feast_0 : List UInt8 := dkwX1_feast_0 ++ dktX1_feast_1
theorem dksX1_feast_0 : cX1_feast.data.toList.drop 0 = dktX1_feast_0 := by decide +kernel
theorem dksX1_feast_1 : cX1_feast.data.toList.drop 23 = dktX1_feast_1 := dk_seg dksX1_feast_0 23 rfl rfl
theorem dksX1_feast_2 : cX1_feast.data.toList.drop 45 = dktX1_feast_2 := dk_seg dksX1_feast_1 22 rfl rfl
theorem dX1_feast_0 : decode cX1_feast 0 = .ok (.aload_n 0, 1) := dk_42 (dk_at dksX1_feast_0 0 rfl rfl)
theorem dX1_feast_1 : decode cX1_feast 1 = .ok (.iload_n 1, 1) := dk_27 (dk_at dksX1_feast_0 1 rfl rfl)
theorem dX1_feast_2 : decode cX1_feast 2 = .ok (.invokevirtual 167, 3) := dk_182 0 167 (dk_at dksX1_feast_0 2 rfl rfl)
theorem dX1_feast_5 : decode cX1_feast 5 = .ok (.aload_n 0, 1) := dk_42 (dk_at dksX1_feast_0 5 rfl rfl)
theorem dX1_feast_6 : decode cX1_feast 6 = .ok (.getfield 30, 3) := dk_180 0 30 (dk_at dksX1_feast_0 6 rfl rfl)
theorem dX1_feast_9 : decode cX1_feast 9 = .ok (.getfield 158, 3) := dk_180 0 158 (dk_at dksX1_feast_0 9 rfl rfl)
theorem dX1_feast_12 : decode cX1_feast 12 = .ok (.iconst 4, 1) := dk_7 (dk_at dksX1_feast_0 12 rfl rfl)
theorem dX1_feast_13 : decode cX1_feast 13 = .ok (.if_icmp .eq 18, 3) := dk_159 0 18 (dk_at dksX1_feast_0 13 rfl rfl)
theorem dX1_feast_16 : decode cX1_feast 16 = .ok (.iload_n 2, 1) := dk_28 (dk_at dksX1_feast_0 16 rfl rfl)
theorem dX1_feast_17 : decode cX1_feast 17 = .ok (.ifCond .lt 14, 3) := dk_155 0 14 (dk_at dksX1_feast_0 17 rfl rfl)
theorem dX1_feast_20 : decode cX1_feast 20 = .ok (.iload_n 3, 1) := dk_29 (dk_at dksX1_feast_0 20 rfl rfl)
theorem dX1_feast_21 : decode cX1_feast 21 = .ok (.bipush 99, 2) := dk_16 99 (dk_at dksX1_feast_0 21 rfl rfl)
theorem dX1_feast_23 : decode cX1_feast 23 = .ok (.if_icmp .gt 8, 3) := dk_163 0 8 (dk_at dksX1_feast_1 0 rfl rfl)
theorem dX1_feast_26 : decode cX1_feast 26 = .ok (.iload_n 3, 1) := dk_29 (dk_at dksX1_feast_1 3 rfl rfl)
theorem dX1_feast_27 : decode cX1_feast 27 = .ok (.iload_n 2, 1) := dk_28 (dk_at dksX1_feast_1 4 rfl rfl)
theorem dX1_feast_28 : decode cX1_feast 28 = .ok (.if_icmp .ge 9, 3) := dk_162 0 9 (dk_at dksX1_feast_1 5 rfl rfl)
theorem dX1_feast_31 : decode cX1_feast 31 = .ok (.aload_n 0, 1) := dk_42 (dk_at dksX1_feast_1 8 rfl rfl)
theorem dX1_feast_32 : decode cX1_feast 32 = .ok (.iconst 1, 1) := dk_4 (dk_at dksX1_feast_1 9 rfl rfl)
theorem dX1_feast_33 : decode cX1_feast 33 = .ok (.invokevirtual 234, 3) := dk_182 0 234 (dk_at dksX1_feast_1 10 rfl rfl)
theorem dX1_feast_36 : decode cX1_feast 36 = .ok (.ireturn, 1) := dk_172 (dk_at dksX1_feast_1 13 rfl rfl)
theorem dX1_feast_37 : decode cX1_feast 37 = .ok (.aload_n 0, 1) := dk_42 (dk_at dksX1_feast_1 14 rfl rfl)
theorem dX1_feast_38 : decode cX1_feast 38 = .ok (.getfield 19, 3) := dk_180 0 19 (dk_at dksX1_feast_1 15 rfl rfl)
theorem dX1_feast_41 : decode cX1_feast 41 = .ok (.invokevirtual 238, 3) := dk_182 0 238 (dk_at dksX1_feast_1 18 rfl rfl)
theorem dX1_feast_44 : decode cX1_feast 44 = .ok (.aload_n 0, 1) := dk_42 (dk_at dksX1_feast_1 21 rfl rfl)
theorem dX1_feast_45 : decode cX1_feast 45 = .ok (.getfield 30, 3) := dk_180 0 30 (dk_at dksX1_feast_2 0 rfl rfl)
theorem dX1_feast_48 : decode cX1_feast 48 = .ok (.iload_n 1, 1) := dk_27 (dk_at dksX1_feast_2 3 rfl rfl)
theorem dX1_feast_49 : decode cX1_feast 49 = .ok (.iload_n 2, 1) := dk_28 (dk_at dksX1_feast_2 4 rfl rfl)
theorem dX1_feast_50 : decode cX1_feast 50 = .ok (.iload_n 3, 1) := dk_29 (dk_at dksX1_feast_2 5 rfl rfl)
theorem dX1_feast_51 : decode cX1_feast 51 = .ok (.invokevirtual 245, 3) := dk_182 0 245 (dk_at dksX1_feast_2 6 rfl rfl)
theorem dX1_feast_54 : decode cX1_feast 54 = .ok (.aload_n 0, 1) := dk_42 (dk_at dksX1_feast_2 9 rfl rfl)
theorem dX1_feast_55 : decode cX1_feast 55 = .ok (.getfield 30, 3) := dk_180 0 30 (dk_at dksX1_feast_2 10 rfl rfl)
theorem dX1_feast_58 : decode cX1_feast 58 = .ok (.getfield 158, 3) := dk_180 0 158 (dk_at dksX1_feast_2 13 rfl rfl)
theorem dX1_feast_61 : decode cX1_feast 61 = .ok (.ireturn, 1) := dk_172 (dk_at dksX1_feast_2 16 rfl rfl)
abbrev cX1_flood : ByteArray := prog_1_method_29_code
def yX1_flood : MethodName := ⟨RX1, "flood", "(III)I"⟩
def dkwX1_flood_2 : List UInt8 := [182, 0, 238, 42, 180, 0, 30, 27, 28, 29, 182, 0, 247, 42, 180, 0, 30, 180, 0, 161, 172]
abbrev dktX1_flood_2 : List UInt8 := dkwX1_flood_2 ++ []
def dkwX1_flood_1 : List UInt8 := [153, 0, 13, 29, 3, 16, 20, 184, 0, 142, 154, 0, 9, 42, 4, 182, 0, 234, 172, 42, 180, 0, 19]
abbrev dktX1_flood_1 : List UInt8 := dkwX1_flood_1 ++ dktX1_flood_2
def dkwX1_flood_0 : List UInt8 := [42, 27, 182, 0, 167, 42, 180, 0, 30, 180, 0, 161, 7, 159, 0, 23, 28, 3, 16, 99, 184, 0, 142]
abbrev dktX1_flood_0 : List UInt8 := dkwX1_flood_0 ++ dktX1_flood_1
theorem dksX1_flood_0 : cX1_flood.data.toList.drop 0 = dktX1_flood_0 := by decide +kernel
theorem dksX1_flood_1 : cX1_flood.data.toList.drop 23 = dktX1_flood_1 := dk_seg dksX1_flood_0 23 rfl rfl
theorem dksX1_flood_2 : cX1_flood.data.toList.drop 46 = dktX1_flood_2 := dk_seg dksX1_flood_1 23 rfl rfl
theorem dX1_flood_0 : decode cX1_flood 0 = .ok (.aload_n 0, 1) := dk_42 (dk_at dksX1_flood_0 0 rfl rfl)
theorem dX1_flood_1 : decode cX1_flood 1 = .ok (.iload_n 1, 1) := dk_27 (dk_at dksX1_flood_0 1 rfl rfl)
theorem dX1_flood_2 : decode cX1_flood 2 = .ok (.invokevirtual 167, 3) := dk_182 0 167 (dk_at dksX1_flood_0 2 rfl rfl)
theorem dX1_flood_5 : decode cX1_flood 5 = .ok (.aload_n 0, 1) := dk_42 (dk_at dksX1_flood_0 5 rfl rfl)
theorem dX1_flood_6 : decode cX1_flood 6 = .ok (.getfield 30, 3) := dk_180 0 30 (dk_at dksX1_flood_0 6 rfl rfl)
theorem dX1_flood_9 : decode cX1_flood 9 = .ok (.getfield 161, 3) := dk_180 0 161 (dk_at dksX1_flood_0 9 rfl rfl)
theorem dX1_flood_12 : decode cX1_flood 12 = .ok (.iconst 4, 1) := dk_7 (dk_at dksX1_flood_0 12 rfl rfl)
theorem dX1_flood_13 : decode cX1_flood 13 = .ok (.if_icmp .eq 23, 3) := dk_159 0 23 (dk_at dksX1_flood_0 13 rfl rfl)
theorem dX1_flood_16 : decode cX1_flood 16 = .ok (.iload_n 2, 1) := dk_28 (dk_at dksX1_flood_0 16 rfl rfl)
theorem dX1_flood_17 : decode cX1_flood 17 = .ok (.iconst 0, 1) := dk_3 (dk_at dksX1_flood_0 17 rfl rfl)
theorem dX1_flood_18 : decode cX1_flood 18 = .ok (.bipush 99, 2) := dk_16 99 (dk_at dksX1_flood_0 18 rfl rfl)
theorem dX1_flood_20 : decode cX1_flood 20 = .ok (.invokestatic 142, 3) := dk_184 0 142 (dk_at dksX1_flood_0 20 rfl rfl)
theorem dX1_flood_23 : decode cX1_flood 23 = .ok (.ifCond .eq 13, 3) := dk_153 0 13 (dk_at dksX1_flood_1 0 rfl rfl)
theorem dX1_flood_26 : decode cX1_flood 26 = .ok (.iload_n 3, 1) := dk_29 (dk_at dksX1_flood_1 3 rfl rfl)
theorem dX1_flood_27 : decode cX1_flood 27 = .ok (.iconst 0, 1) := dk_3 (dk_at dksX1_flood_1 4 rfl rfl)
theorem dX1_flood_28 : decode cX1_flood 28 = .ok (.bipush 20, 2) := dk_16 20 (dk_at dksX1_flood_1 5 rfl rfl)
theorem dX1_flood_30 : decode cX1_flood 30 = .ok (.invokestatic 142, 3) := dk_184 0 142 (dk_at dksX1_flood_1 7 rfl rfl)
theorem dX1_flood_33 : decode cX1_flood 33 = .ok (.ifCond .ne 9, 3) := dk_154 0 9 (dk_at dksX1_flood_1 10 rfl rfl)
theorem dX1_flood_36 : decode cX1_flood 36 = .ok (.aload_n 0, 1) := dk_42 (dk_at dksX1_flood_1 13 rfl rfl)
theorem dX1_flood_37 : decode cX1_flood 37 = .ok (.iconst 1, 1) := dk_4 (dk_at dksX1_flood_1 14 rfl rfl)
theorem dX1_flood_38 : decode cX1_flood 38 = .ok (.invokevirtual 234, 3) := dk_182 0 234 (dk_at dksX1_flood_1 15 rfl rfl)
theorem dX1_flood_41 : decode cX1_flood 41 = .ok (.ireturn, 1) := dk_172 (dk_at dksX1_flood_1 18 rfl rfl)
theorem dX1_flood_42 : decode cX1_flood 42 = .ok (.aload_n 0, 1) := dk_42 (dk_at dksX1_flood_1 19 rfl rfl)
theorem dX1_flood_43 : decode cX1_flood 43 = .ok (.getfield 19, 3) := dk_180 0 19 (dk_at dksX1_flood_1 20 rfl rfl)
theorem dX1_flood_46 : decode cX1_flood 46 = .ok (.invokevirtual 238, 3) := dk_182 0 238 (dk_at dksX1_flood_2 0 rfl rfl)
theorem dX1_flood_49 : decode cX1_flood 49 = .ok (.aload_n 0, 1) := dk_42 (dk_at dksX1_flood_2 3 rfl rfl)
theorem dX1_flood_50 : decode cX1_flood 50 = .ok (.getfield 30, 3) := dk_180 0 30 (dk_at dksX1_flood_2 4 rfl rfl)
theorem dX1_flood_53 : decode cX1_flood 53 = .ok (.iload_n 1, 1) := dk_27 (dk_at dksX1_flood_2 7 rfl rfl)
theorem dX1_flood_54 : decode cX1_flood 54 = .ok (.iload_n 2, 1) := dk_28 (dk_at dksX1_flood_2 8 rfl rfl)
theorem dX1_flood_55 : decode cX1_flood 55 = .ok (.iload_n 3, 1) := dk_29 (dk_at dksX1_flood_2 9 rfl rfl)
theorem dX1_flood_56 : decode cX1_flood 56 = .ok (.invokevirtual 247, 3) := dk_182 0 247 (dk_at dksX1_flood_2 10 rfl rfl)
theorem dX1_flood_59 : decode cX1_flood 59 = .ok (.aload_n 0, 1) := dk_42 (dk_at dksX1_flood_2 13 rfl rfl)
theorem dX1_flood_60 : decode cX1_flood 60 = .ok (.getfield 30, 3) := dk_180 0 30 (dk_at dksX1_flood_2 14 rfl rfl)
theorem dX1_flood_63 : decode cX1_flood 63 = .ok (.getfield 161, 3) := dk_180 0 161 (dk_at dksX1_flood_2 17 rfl rfl)
theorem dX1_flood_66 : decode cX1_flood 66 = .ok (.ireturn, 1) := dk_172 (dk_at dksX1_flood_2 20 rfl rfl)
abbrev cX1_burn : ByteArray := prog_1_method_31_code
def yX1_burn : MethodName := ⟨RX1, "burn", "(I)I"⟩
def dkwX1_burn_4 : List UInt8 := [21, 4, 61, 21, 5, 62, 132, 4, 1, 167, 255, 170, 27, 154, 0, 7, 28, 167, 0, 4, 29, 172]
abbrev dktX1_burn_4 : List UInt8 := dkwX1_burn_4 ++ []
def dkwX1_burn_3 : List UInt8 := [130, 126, 181, 0, 152, 42, 180, 0, 42, 182, 0, 139, 54, 5, 21, 5, 29, 163, 0, 6, 167, 0, 9]
abbrev dktX1_burn_3 : List UInt8 := dkwX1_burn_3 ++ dktX1_burn_4
def dkwX1_burn_2 : List UInt8 := [42, 180, 0, 34, 42, 180, 0, 30, 182, 0, 135, 42, 180, 0, 34, 89, 180, 0, 152, 4, 21, 4, 120, 2]
abbrev dktX1_burn_2 : List UInt8 := dkwX1_burn_2 ++ dktX1_burn_3
def dkwX1_burn_1 : List UInt8 := [180, 0, 77, 162, 0, 80, 42, 180, 0, 30, 180, 0, 152, 21, 4, 122, 4, 126, 154, 0, 6, 167, 0, 56]
abbrev dktX1_burn_1 : List UInt8 := dkwX1_burn_1 ++ dktX1_burn_2
def dkwX1_burn_0 : List UInt8 := [27, 3, 4, 184, 0, 142, 184, 0, 80, 2, 61, 2, 62, 3, 54, 4, 21, 4, 42, 180, 0, 10]
abbrev dktX1_burn_0 : List UInt8 := dkwX1_burn_0 ++ dktX1_burn_1
theorem dksX1_burn_0 : cX1_burn.data.toList.drop 0 = dktX1_burn_0 := by decide +kernel
theorem dksX1_burn_1 : cX1_burn.data.toList.drop 22 = dktX1_burn_1 := dk_seg dksX1_burn_0 22 rfl rfl
theorem dksX1_burn_2 : cX1_burn.data.toList.drop 46 = dktX1_burn_2 := dk_seg dksX1_burn_1 24 rfl rfl
theorem dksX1_burn_3 : cX1_burn.data.toList.drop 70 = dktX1_burn_3 := dk_seg dksX1_burn_2 24 rfl rfl
theorem dksX1_burn_4 : cX1_burn.data.toList.drop 93 = dktX1_burn_4 := dk_seg dksX1_burn_3 23 rfl rfl
theorem dX1_burn_0 : decode cX1_burn 0 = .ok (.iload_n 1, 1) := dk_27 (dk_at dksX1_burn_0 0 rfl rfl)
theorem dX1_burn_1 : decode cX1_burn 1 = .ok (.iconst 0, 1) := dk_3 (dk_at dksX1_burn_0 1 rfl rfl)
theorem dX1_burn_2 : decode cX1_burn 2 = .ok (.iconst 1, 1) := dk_4 (dk_at dksX1_burn_0 2 rfl rfl)
theorem dX1_burn_3 : decode cX1_burn 3 = .ok (.invokestatic 142, 3) := dk_184 0 142 (dk_at dksX1_burn_0 3 rfl rfl)
theorem dX1_burn_6 : decode cX1_burn 6 = .ok (.invokestatic 80, 3) := dk_184 0 80 (dk_at dksX1_burn_0 6 rfl rfl)
theorem dX1_burn_9 : decode cX1_burn 9 = .ok (.iconst (-1), 1) := dk_2 (dk_at dksX1_burn_0 9 rfl rfl)
theorem dX1_burn_10 : decode cX1_burn 10 = .ok (.istore_n 2, 1) := dk_61 (dk_at dksX1_burn_0 10 rfl rfl)
theorem dX1_burn_11 : decode cX1_burn 11 = .ok (.iconst (-1), 1) := dk_2 (dk_at dksX1_burn_0 11 rfl rfl)
theorem dX1_burn_12 : decode cX1_burn 12 = .ok (.istore_n 3, 1) := dk_62 (dk_at dksX1_burn_0 12 rfl rfl)
theorem dX1_burn_13 : decode cX1_burn 13 = .ok (.iconst 0, 1) := dk_3 (dk_at dksX1_burn_0 13 rfl rfl)
theorem dX1_burn_14 : decode cX1_burn 14 = .ok (.istore 4, 2) := dk_54 4 (dk_at dksX1_burn_0 14 rfl rfl)
theorem dX1_burn_16 : decode cX1_burn 16 = .ok (.iload 4, 2) := dk_21 4 (dk_at dksX1_burn_0 16 rfl rfl)
theorem dX1_burn_18 : decode cX1_burn 18 = .ok (.aload_n 0, 1) := dk_42 (dk_at dksX1_burn_0 18 rfl rfl)
theorem dX1_burn_19 : decode cX1_burn 19 = .ok (.getfield 10, 3) := dk_180 0 10 (dk_at dksX1_burn_0 19 rfl rfl)
theorem dX1_burn_22 : decode cX1_burn 22 = .ok (.getfield 77, 3) := dk_180 0 77 (dk_at dksX1_burn_1 0 rfl rfl)
theorem dX1_burn_25 : decode cX1_burn 25 = .ok (.if_icmp .ge 80, 3) := dk_162 0 80 (dk_at dksX1_burn_1 3 rfl rfl)
theorem dX1_burn_28 : decode cX1_burn 28 = .ok (.aload_n 0, 1) := dk_42 (dk_at dksX1_burn_1 6 rfl rfl)
theorem dX1_burn_29 : decode cX1_burn 29 = .ok (.getfield 30, 3) := dk_180 0 30 (dk_at dksX1_burn_1 7 rfl rfl)
theorem dX1_burn_32 : decode cX1_burn 32 = .ok (.getfield 152, 3) := dk_180 0 152 (dk_at dksX1_burn_1 10 rfl rfl)
theorem dX1_burn_35 : decode cX1_burn 35 = .ok (.iload 4, 2) := dk_21 4 (dk_at dksX1_burn_1 13 rfl rfl)
theorem dX1_burn_37 : decode cX1_burn 37 = .ok (.ishr, 1) := dk_122 (dk_at dksX1_burn_1 15 rfl rfl)
theorem dX1_burn_38 : decode cX1_burn 38 = .ok (.iconst 1, 1) := dk_4 (dk_at dksX1_burn_1 16 rfl rfl)
theorem dX1_burn_39 : decode cX1_burn 39 = .ok (.iand, 1) := dk_126 (dk_at dksX1_burn_1 17 rfl rfl)
theorem dX1_burn_40 : decode cX1_burn 40 = .ok (.ifCond .ne 6, 3) := dk_154 0 6 (dk_at dksX1_burn_1 18 rfl rfl)
theorem dX1_burn_43 : decode cX1_burn 43 = .ok (.goto 56, 3) := dk_167 0 56 (dk_at dksX1_burn_1 21 rfl rfl)
theorem dX1_burn_46 : decode cX1_burn 46 = .ok (.aload_n 0, 1) := dk_42 (dk_at dksX1_burn_2 0 rfl rfl)
theorem dX1_burn_47 : decode cX1_burn 47 = .ok (.getfield 34, 3) := dk_180 0 34 (dk_at dksX1_burn_2 1 rfl rfl)
theorem dX1_burn_50 : decode cX1_burn 50 = .ok (.aload_n 0, 1) := dk_42 (dk_at dksX1_burn_2 4 rfl rfl)
theorem dX1_burn_51 : decode cX1_burn 51 = .ok (.getfield 30, 3) := dk_180 0 30 (dk_at dksX1_burn_2 5 rfl rfl)
theorem dX1_burn_54 : decode cX1_burn 54 = .ok (.invokevirtual 135, 3) := dk_182 0 135 (dk_at dksX1_burn_2 8 rfl rfl)
theorem dX1_burn_57 : decode cX1_burn 57 = .ok (.aload_n 0, 1) := dk_42 (dk_at dksX1_burn_2 11 rfl rfl)
theorem dX1_burn_58 : decode cX1_burn 58 = .ok (.getfield 34, 3) := dk_180 0 34 (dk_at dksX1_burn_2 12 rfl rfl)
theorem dX1_burn_61 : decode cX1_burn 61 = .ok (.dup, 1) := dk_89 (dk_at dksX1_burn_2 15 rfl rfl)
theorem dX1_burn_62 : decode cX1_burn 62 = .ok (.getfield 152, 3) := dk_180 0 152 (dk_at dksX1_burn_2 16 rfl rfl)
theorem dX1_burn_65 : decode cX1_burn 65 = .ok (.iconst 1, 1) := dk_4 (dk_at dksX1_burn_2 19 rfl rfl)
theorem dX1_burn_66 : decode cX1_burn 66 = .ok (.iload 4, 2) := dk_21 4 (dk_at dksX1_burn_2 20 rfl rfl)
theorem dX1_burn_68 : decode cX1_burn 68 = .ok (.ishl, 1) := dk_120 (dk_at dksX1_burn_2 22 rfl rfl)
theorem dX1_burn_69 : decode cX1_burn 69 = .ok (.iconst (-1), 1) := dk_2 (dk_at dksX1_burn_2 23 rfl rfl)
theorem dX1_burn_70 : decode cX1_burn 70 = .ok (.ixor, 1) := dk_130 (dk_at dksX1_burn_3 0 rfl rfl)
theorem dX1_burn_71 : decode cX1_burn 71 = .ok (.iand, 1) := dk_126 (dk_at dksX1_burn_3 1 rfl rfl)
theorem dX1_burn_72 : decode cX1_burn 72 = .ok (.putfield 152, 3) := dk_181 0 152 (dk_at dksX1_burn_3 2 rfl rfl)
theorem dX1_burn_75 : decode cX1_burn 75 = .ok (.aload_n 0, 1) := dk_42 (dk_at dksX1_burn_3 5 rfl rfl)
theorem dX1_burn_76 : decode cX1_burn 76 = .ok (.getfield 42, 3) := dk_180 0 42 (dk_at dksX1_burn_3 6 rfl rfl)
theorem dX1_burn_79 : decode cX1_burn 79 = .ok (.invokevirtual 139, 3) := dk_182 0 139 (dk_at dksX1_burn_3 9 rfl rfl)
theorem dX1_burn_82 : decode cX1_burn 82 = .ok (.istore 5, 2) := dk_54 5 (dk_at dksX1_burn_3 12 rfl rfl)
theorem dX1_burn_84 : decode cX1_burn 84 = .ok (.iload 5, 2) := dk_21 5 (dk_at dksX1_burn_3 14 rfl rfl)
theorem dX1_burn_86 : decode cX1_burn 86 = .ok (.iload_n 3, 1) := dk_29 (dk_at dksX1_burn_3 16 rfl rfl)
theorem dX1_burn_87 : decode cX1_burn 87 = .ok (.if_icmp .gt 6, 3) := dk_163 0 6 (dk_at dksX1_burn_3 17 rfl rfl)
theorem dX1_burn_90 : decode cX1_burn 90 = .ok (.goto 9, 3) := dk_167 0 9 (dk_at dksX1_burn_3 20 rfl rfl)
theorem dX1_burn_93 : decode cX1_burn 93 = .ok (.iload 4, 2) := dk_21 4 (dk_at dksX1_burn_4 0 rfl rfl)
theorem dX1_burn_95 : decode cX1_burn 95 = .ok (.istore_n 2, 1) := dk_61 (dk_at dksX1_burn_4 2 rfl rfl)
theorem dX1_burn_96 : decode cX1_burn 96 = .ok (.iload 5, 2) := dk_21 5 (dk_at dksX1_burn_4 3 rfl rfl)
theorem dX1_burn_98 : decode cX1_burn 98 = .ok (.istore_n 3, 1) := dk_62 (dk_at dksX1_burn_4 5 rfl rfl)
theorem dX1_burn_99 : decode cX1_burn 99 = .ok (.iinc 4 1, 3) := dk_132 4 1 (dk_at dksX1_burn_4 6 rfl rfl)
theorem dX1_burn_102 : decode cX1_burn 102 = .ok (.goto (-86), 3) := dk_167 255 170 (dk_at dksX1_burn_4 9 rfl rfl)
theorem dX1_burn_105 : decode cX1_burn 105 = .ok (.iload_n 1, 1) := dk_27 (dk_at dksX1_burn_4 12 rfl rfl)
theorem dX1_burn_106 : decode cX1_burn 106 = .ok (.ifCond .ne 7, 3) := dk_154 0 7 (dk_at dksX1_burn_4 13 rfl rfl)
theorem dX1_burn_109 : decode cX1_burn 109 = .ok (.iload_n 2, 1) := dk_28 (dk_at dksX1_burn_4 16 rfl rfl)
theorem dX1_burn_110 : decode cX1_burn 110 = .ok (.goto 4, 3) := dk_167 0 4 (dk_at dksX1_burn_4 17 rfl rfl)
theorem dX1_burn_113 : decode cX1_burn 113 = .ok (.iload_n 3, 1) := dk_29 (dk_at dksX1_burn_4 20 rfl rfl)
theorem dX1_burn_114 : decode cX1_burn 114 = .ok (.ireturn, 1) := dk_172 (dk_at dksX1_burn_4 21 rfl rfl)
abbrev cX1_when : ByteArray := prog_1_method_32_code
def yX1_when : MethodName := ⟨RX1, "when", "(II)I"⟩
def dkwX1_when_4 : List UInt8 := [21, 4, 172]
abbrev dktX1_when_4 : List UInt8 := dkwX1_when_4 ++ []
def dkwX1_when_3 : List UInt8 := [167, 0, 10, 21, 5, 62, 21, 6, 54, 4, 132, 5, 1, 167, 255, 198, 28, 154, 0, 7, 29, 167, 0, 5]
abbrev dktX1_when_3 : List UInt8 := dkwX1_when_3 ++ dktX1_when_4
def dkwX1_when_2 : List UInt8 := [180, 0, 183, 27, 21, 5, 79, 42, 180, 0, 42, 182, 0, 139, 54, 6, 21, 6, 21, 4, 163, 0, 6]
abbrev dktX1_when_2 : List UInt8 := dkwX1_when_2 ++ dktX1_when_3
def dkwX1_when_1 : List UInt8 := [21, 5, 16, 60, 163, 0, 57, 42, 180, 0, 34, 42, 180, 0, 30, 182, 0, 135, 42, 180, 0, 34]
abbrev dktX1_when_1 : List UInt8 := dkwX1_when_1 ++ dktX1_when_2
def dkwX1_when_0 : List UInt8 := [42, 27, 182, 0, 177, 87, 28, 3, 4, 184, 0, 142, 184, 0, 80, 2, 62, 2, 54, 4, 3, 54, 5]
abbrev dktX1_when_0 : List UInt8 := dkwX1_when_0 ++ dktX1_when_1
theorem dksX1_when_0 : cX1_when.data.toList.drop 0 = dktX1_when_0 := by decide +kernel
theorem dksX1_when_1 : cX1_when.data.toList.drop 23 = dktX1_when_1 := dk_seg dksX1_when_0 23 rfl rfl
theorem dksX1_when_2 : cX1_when.data.toList.drop 45 = dktX1_when_2 := dk_seg dksX1_when_1 22 rfl rfl
theorem dksX1_when_3 : cX1_when.data.toList.drop 68 = dktX1_when_3 := dk_seg dksX1_when_2 23 rfl rfl
theorem dksX1_when_4 : cX1_when.data.toList.drop 92 = dktX1_when_4 := dk_seg dksX1_when_3 24 rfl rfl
theorem dX1_when_0 : decode cX1_when 0 = .ok (.aload_n 0, 1) := dk_42 (dk_at dksX1_when_0 0 rfl rfl)
theorem dX1_when_1 : decode cX1_when 1 = .ok (.iload_n 1, 1) := dk_27 (dk_at dksX1_when_0 1 rfl rfl)
theorem dX1_when_2 : decode cX1_when 2 = .ok (.invokevirtual 177, 3) := dk_182 0 177 (dk_at dksX1_when_0 2 rfl rfl)
theorem dX1_when_5 : decode cX1_when 5 = .ok (.pop, 1) := dk_87 (dk_at dksX1_when_0 5 rfl rfl)
theorem dX1_when_6 : decode cX1_when 6 = .ok (.iload_n 2, 1) := dk_28 (dk_at dksX1_when_0 6 rfl rfl)
theorem dX1_when_7 : decode cX1_when 7 = .ok (.iconst 0, 1) := dk_3 (dk_at dksX1_when_0 7 rfl rfl)
theorem dX1_when_8 : decode cX1_when 8 = .ok (.iconst 1, 1) := dk_4 (dk_at dksX1_when_0 8 rfl rfl)
theorem dX1_when_9 : decode cX1_when 9 = .ok (.invokestatic 142, 3) := dk_184 0 142 (dk_at dksX1_when_0 9 rfl rfl)
theorem dX1_when_12 : decode cX1_when 12 = .ok (.invokestatic 80, 3) := dk_184 0 80 (dk_at dksX1_when_0 12 rfl rfl)
theorem dX1_when_15 : decode cX1_when 15 = .ok (.iconst (-1), 1) := dk_2 (dk_at dksX1_when_0 15 rfl rfl)
theorem dX1_when_16 : decode cX1_when 16 = .ok (.istore_n 3, 1) := dk_62 (dk_at dksX1_when_0 16 rfl rfl)
theorem dX1_when_17 : decode cX1_when 17 = .ok (.iconst (-1), 1) := dk_2 (dk_at dksX1_when_0 17 rfl rfl)
theorem dX1_when_18 : decode cX1_when 18 = .ok (.istore 4, 2) := dk_54 4 (dk_at dksX1_when_0 18 rfl rfl)
theorem dX1_when_20 : decode cX1_when 20 = .ok (.iconst 0, 1) := dk_3 (dk_at dksX1_when_0 20 rfl rfl)
theorem dX1_when_21 : decode cX1_when 21 = .ok (.istore 5, 2) := dk_54 5 (dk_at dksX1_when_0 21 rfl rfl)
theorem dX1_when_23 : decode cX1_when 23 = .ok (.iload 5, 2) := dk_21 5 (dk_at dksX1_when_1 0 rfl rfl)
theorem dX1_when_25 : decode cX1_when 25 = .ok (.bipush 60, 2) := dk_16 60 (dk_at dksX1_when_1 2 rfl rfl)
theorem dX1_when_27 : decode cX1_when 27 = .ok (.if_icmp .gt 57, 3) := dk_163 0 57 (dk_at dksX1_when_1 4 rfl rfl)
theorem dX1_when_30 : decode cX1_when 30 = .ok (.aload_n 0, 1) := dk_42 (dk_at dksX1_when_1 7 rfl rfl)
theorem dX1_when_31 : decode cX1_when 31 = .ok (.getfield 34, 3) := dk_180 0 34 (dk_at dksX1_when_1 8 rfl rfl)
theorem dX1_when_34 : decode cX1_when 34 = .ok (.aload_n 0, 1) := dk_42 (dk_at dksX1_when_1 11 rfl rfl)
theorem dX1_when_35 : decode cX1_when 35 = .ok (.getfield 30, 3) := dk_180 0 30 (dk_at dksX1_when_1 12 rfl rfl)
theorem dX1_when_38 : decode cX1_when 38 = .ok (.invokevirtual 135, 3) := dk_182 0 135 (dk_at dksX1_when_1 15 rfl rfl)
theorem dX1_when_41 : decode cX1_when 41 = .ok (.aload_n 0, 1) := dk_42 (dk_at dksX1_when_1 18 rfl rfl)
theorem dX1_when_42 : decode cX1_when 42 = .ok (.getfield 34, 3) := dk_180 0 34 (dk_at dksX1_when_1 19 rfl rfl)
theorem dX1_when_45 : decode cX1_when 45 = .ok (.getfield 183, 3) := dk_180 0 183 (dk_at dksX1_when_2 0 rfl rfl)
theorem dX1_when_48 : decode cX1_when 48 = .ok (.iload_n 1, 1) := dk_27 (dk_at dksX1_when_2 3 rfl rfl)
theorem dX1_when_49 : decode cX1_when 49 = .ok (.iload 5, 2) := dk_21 5 (dk_at dksX1_when_2 4 rfl rfl)
theorem dX1_when_51 : decode cX1_when 51 = .ok (.iastore, 1) := dk_79 (dk_at dksX1_when_2 6 rfl rfl)
theorem dX1_when_52 : decode cX1_when 52 = .ok (.aload_n 0, 1) := dk_42 (dk_at dksX1_when_2 7 rfl rfl)
theorem dX1_when_53 : decode cX1_when 53 = .ok (.getfield 42, 3) := dk_180 0 42 (dk_at dksX1_when_2 8 rfl rfl)
theorem dX1_when_56 : decode cX1_when 56 = .ok (.invokevirtual 139, 3) := dk_182 0 139 (dk_at dksX1_when_2 11 rfl rfl)
theorem dX1_when_59 : decode cX1_when 59 = .ok (.istore 6, 2) := dk_54 6 (dk_at dksX1_when_2 14 rfl rfl)
theorem dX1_when_61 : decode cX1_when 61 = .ok (.iload 6, 2) := dk_21 6 (dk_at dksX1_when_2 16 rfl rfl)
theorem dX1_when_63 : decode cX1_when 63 = .ok (.iload 4, 2) := dk_21 4 (dk_at dksX1_when_2 18 rfl rfl)
theorem dX1_when_65 : decode cX1_when 65 = .ok (.if_icmp .gt 6, 3) := dk_163 0 6 (dk_at dksX1_when_2 20 rfl rfl)
theorem dX1_when_68 : decode cX1_when 68 = .ok (.goto 10, 3) := dk_167 0 10 (dk_at dksX1_when_3 0 rfl rfl)
theorem dX1_when_71 : decode cX1_when 71 = .ok (.iload 5, 2) := dk_21 5 (dk_at dksX1_when_3 3 rfl rfl)
theorem dX1_when_73 : decode cX1_when 73 = .ok (.istore_n 3, 1) := dk_62 (dk_at dksX1_when_3 5 rfl rfl)
theorem dX1_when_74 : decode cX1_when 74 = .ok (.iload 6, 2) := dk_21 6 (dk_at dksX1_when_3 6 rfl rfl)
theorem dX1_when_76 : decode cX1_when 76 = .ok (.istore 4, 2) := dk_54 4 (dk_at dksX1_when_3 8 rfl rfl)
theorem dX1_when_78 : decode cX1_when 78 = .ok (.iinc 5 1, 3) := dk_132 5 1 (dk_at dksX1_when_3 10 rfl rfl)
theorem dX1_when_81 : decode cX1_when 81 = .ok (.goto (-58), 3) := dk_167 255 198 (dk_at dksX1_when_3 13 rfl rfl)
theorem dX1_when_84 : decode cX1_when 84 = .ok (.iload_n 2, 1) := dk_28 (dk_at dksX1_when_3 16 rfl rfl)
theorem dX1_when_85 : decode cX1_when 85 = .ok (.ifCond .ne 7, 3) := dk_154 0 7 (dk_at dksX1_when_3 17 rfl rfl)
theorem dX1_when_88 : decode cX1_when 88 = .ok (.iload_n 3, 1) := dk_29 (dk_at dksX1_when_3 20 rfl rfl)
theorem dX1_when_89 : decode cX1_when 89 = .ok (.goto 5, 3) := dk_167 0 5 (dk_at dksX1_when_3 21 rfl rfl)
theorem dX1_when_92 : decode cX1_when 92 = .ok (.iload 4, 2) := dk_21 4 (dk_at dksX1_when_4 0 rfl rfl)
theorem dX1_when_94 : decode cX1_when 94 = .ok (.ireturn, 1) := dk_172 (dk_at dksX1_when_4 2 rfl rfl)
abbrev cX1_round : ByteArray := prog_1_method_33_code
def yX1_round : MethodName := ⟨RX1, "round", "(I)I"⟩
def dkwX1_round_1 : List UInt8 := [180, 0, 42, 182, 0, 139, 28, 100, 172]
abbrev dktX1_round_1 : List UInt8 := dkwX1_round_1 ++ []
def dkwX1_round_0 : List UInt8 := [42, 27, 182, 0, 177, 87, 42, 182, 0, 164, 61, 42, 180, 0, 34, 4, 27, 120, 181, 0, 252, 42]
abbrev dktX1_round_0 : List UInt8 := dkwX1_round_0 ++ dktX1_round_1
theorem dksX1_round_0 : cX1_round.data.toList.drop 0 = dktX1_round_0 := by decide +kernel
theorem dksX1_round_1 : cX1_round.data.toList.drop 22 = dktX1_round_1 := dk_seg dksX1_round_0 22 rfl rfl
theorem dX1_round_0 : decode cX1_round 0 = .ok (.aload_n 0, 1) := dk_42 (dk_at dksX1_round_0 0 rfl rfl)
theorem dX1_round_1 : decode cX1_round 1 = .ok (.iload_n 1, 1) := dk_27 (dk_at dksX1_round_0 1 rfl rfl)
theorem dX1_round_2 : decode cX1_round 2 = .ok (.invokevirtual 177, 3) := dk_182 0 177 (dk_at dksX1_round_0 2 rfl rfl)
theorem dX1_round_5 : decode cX1_round 5 = .ok (.pop, 1) := dk_87 (dk_at dksX1_round_0 5 rfl rfl)
theorem dX1_round_6 : decode cX1_round 6 = .ok (.aload_n 0, 1) := dk_42 (dk_at dksX1_round_0 6 rfl rfl)
theorem dX1_round_7 : decode cX1_round 7 = .ok (.invokevirtual 164, 3) := dk_182 0 164 (dk_at dksX1_round_0 7 rfl rfl)
theorem dX1_round_10 : decode cX1_round 10 = .ok (.istore_n 2, 1) := dk_61 (dk_at dksX1_round_0 10 rfl rfl)
theorem dX1_round_11 : decode cX1_round 11 = .ok (.aload_n 0, 1) := dk_42 (dk_at dksX1_round_0 11 rfl rfl)
theorem dX1_round_12 : decode cX1_round 12 = .ok (.getfield 34, 3) := dk_180 0 34 (dk_at dksX1_round_0 12 rfl rfl)
theorem dX1_round_15 : decode cX1_round 15 = .ok (.iconst 1, 1) := dk_4 (dk_at dksX1_round_0 15 rfl rfl)
theorem dX1_round_16 : decode cX1_round 16 = .ok (.iload_n 1, 1) := dk_27 (dk_at dksX1_round_0 16 rfl rfl)
theorem dX1_round_17 : decode cX1_round 17 = .ok (.ishl, 1) := dk_120 (dk_at dksX1_round_0 17 rfl rfl)
theorem dX1_round_18 : decode cX1_round 18 = .ok (.putfield 252, 3) := dk_181 0 252 (dk_at dksX1_round_0 18 rfl rfl)
theorem dX1_round_21 : decode cX1_round 21 = .ok (.aload_n 0, 1) := dk_42 (dk_at dksX1_round_0 21 rfl rfl)
theorem dX1_round_22 : decode cX1_round 22 = .ok (.getfield 42, 3) := dk_180 0 42 (dk_at dksX1_round_1 0 rfl rfl)
theorem dX1_round_25 : decode cX1_round 25 = .ok (.invokevirtual 139, 3) := dk_182 0 139 (dk_at dksX1_round_1 3 rfl rfl)
theorem dX1_round_28 : decode cX1_round 28 = .ok (.iload_n 2, 1) := dk_28 (dk_at dksX1_round_1 6 rfl rfl)
theorem dX1_round_29 : decode cX1_round 29 = .ok (.isub, 1) := dk_100 (dk_at dksX1_round_1 7 rfl rfl)
theorem dX1_round_30 : decode cX1_round 30 = .ok (.ireturn, 1) := dk_172 (dk_at dksX1_round_1 8 rfl rfl)
abbrev cX1_free : ByteArray := prog_1_method_36_code
def yX1_free : MethodName := ⟨RX1, "free", "(II)I"⟩
def dkwX1_free_4 : List UInt8 := [132, 3, 1, 167, 255, 185, 2, 172]
abbrev dktX1_free_4 : List UInt8 := dkwX1_free_4 ++ []
def dkwX1_free_3 : List UInt8 := [182, 0, 255, 154, 0, 14, 28, 154, 0, 7, 29, 167, 0, 5, 21, 4, 172, 132, 4, 1, 167, 255, 200]
abbrev dktX1_free_3 : List UInt8 := dkwX1_free_3 ++ dktX1_free_4
def dkwX1_free_2 : List UInt8 := [42, 180, 0, 34, 42, 180, 0, 30, 182, 0, 135, 42, 180, 0, 34, 27, 21, 4, 29, 182, 0, 241, 42, 27]
abbrev dktX1_free_2 : List UInt8 := dkwX1_free_2 ++ dktX1_free_3
def dkwX1_free_1 : List UInt8 := [172, 3, 62, 29, 16, 60, 163, 0, 71, 3, 54, 4, 21, 4, 42, 180, 0, 10, 180, 0, 77, 162, 0, 50]
abbrev dktX1_free_1 : List UInt8 := dkwX1_free_1 ++ dktX1_free_2
def dkwX1_free_0 : List UInt8 := [42, 27, 182, 0, 200, 28, 3, 4, 184, 0, 142, 184, 0, 80, 42, 27, 182, 1, 3, 154, 0, 6, 16, 254]
abbrev dktX1_free_0 : List UInt8 := dkwX1_free_0 ++ dktX1_free_1
theorem dksX1_free_0 : cX1_free.data.toList.drop 0 = dktX1_free_0 := by decide +kernel
theorem dksX1_free_1 : cX1_free.data.toList.drop 24 = dktX1_free_1 := dk_seg dksX1_free_0 24 rfl rfl
theorem dksX1_free_2 : cX1_free.data.toList.drop 48 = dktX1_free_2 := dk_seg dksX1_free_1 24 rfl rfl
theorem dksX1_free_3 : cX1_free.data.toList.drop 72 = dktX1_free_3 := dk_seg dksX1_free_2 24 rfl rfl
theorem dksX1_free_4 : cX1_free.data.toList.drop 95 = dktX1_free_4 := dk_seg dksX1_free_3 23 rfl rfl
theorem dX1_free_0 : decode cX1_free 0 = .ok (.aload_n 0, 1) := dk_42 (dk_at dksX1_free_0 0 rfl rfl)
theorem dX1_free_1 : decode cX1_free 1 = .ok (.iload_n 1, 1) := dk_27 (dk_at dksX1_free_0 1 rfl rfl)
theorem dX1_free_2 : decode cX1_free 2 = .ok (.invokevirtual 200, 3) := dk_182 0 200 (dk_at dksX1_free_0 2 rfl rfl)
theorem dX1_free_5 : decode cX1_free 5 = .ok (.iload_n 2, 1) := dk_28 (dk_at dksX1_free_0 5 rfl rfl)
theorem dX1_free_6 : decode cX1_free 6 = .ok (.iconst 0, 1) := dk_3 (dk_at dksX1_free_0 6 rfl rfl)
theorem dX1_free_7 : decode cX1_free 7 = .ok (.iconst 1, 1) := dk_4 (dk_at dksX1_free_0 7 rfl rfl)
theorem dX1_free_8 : decode cX1_free 8 = .ok (.invokestatic 142, 3) := dk_184 0 142 (dk_at dksX1_free_0 8 rfl rfl)
theorem dX1_free_11 : decode cX1_free 11 = .ok (.invokestatic 80, 3) := dk_184 0 80 (dk_at dksX1_free_0 11 rfl rfl)
theorem dX1_free_14 : decode cX1_free 14 = .ok (.aload_n 0, 1) := dk_42 (dk_at dksX1_free_0 14 rfl rfl)
theorem dX1_free_15 : decode cX1_free 15 = .ok (.iload_n 1, 1) := dk_27 (dk_at dksX1_free_0 15 rfl rfl)
theorem dX1_free_16 : decode cX1_free 16 = .ok (.invokevirtual 259, 3) := dk_182 1 3 (dk_at dksX1_free_0 16 rfl rfl)
theorem dX1_free_19 : decode cX1_free 19 = .ok (.ifCond .ne 6, 3) := dk_154 0 6 (dk_at dksX1_free_0 19 rfl rfl)
theorem dX1_free_22 : decode cX1_free 22 = .ok (.bipush (-2), 2) := dk_16 254 (dk_at dksX1_free_0 22 rfl rfl)
theorem dX1_free_24 : decode cX1_free 24 = .ok (.ireturn, 1) := dk_172 (dk_at dksX1_free_1 0 rfl rfl)
theorem dX1_free_25 : decode cX1_free 25 = .ok (.iconst 0, 1) := dk_3 (dk_at dksX1_free_1 1 rfl rfl)
theorem dX1_free_26 : decode cX1_free 26 = .ok (.istore_n 3, 1) := dk_62 (dk_at dksX1_free_1 2 rfl rfl)
theorem dX1_free_27 : decode cX1_free 27 = .ok (.iload_n 3, 1) := dk_29 (dk_at dksX1_free_1 3 rfl rfl)
theorem dX1_free_28 : decode cX1_free 28 = .ok (.bipush 60, 2) := dk_16 60 (dk_at dksX1_free_1 4 rfl rfl)
theorem dX1_free_30 : decode cX1_free 30 = .ok (.if_icmp .gt 71, 3) := dk_163 0 71 (dk_at dksX1_free_1 6 rfl rfl)
theorem dX1_free_33 : decode cX1_free 33 = .ok (.iconst 0, 1) := dk_3 (dk_at dksX1_free_1 9 rfl rfl)
theorem dX1_free_34 : decode cX1_free 34 = .ok (.istore 4, 2) := dk_54 4 (dk_at dksX1_free_1 10 rfl rfl)
theorem dX1_free_36 : decode cX1_free 36 = .ok (.iload 4, 2) := dk_21 4 (dk_at dksX1_free_1 12 rfl rfl)
theorem dX1_free_38 : decode cX1_free 38 = .ok (.aload_n 0, 1) := dk_42 (dk_at dksX1_free_1 14 rfl rfl)
theorem dX1_free_39 : decode cX1_free 39 = .ok (.getfield 10, 3) := dk_180 0 10 (dk_at dksX1_free_1 15 rfl rfl)
theorem dX1_free_42 : decode cX1_free 42 = .ok (.getfield 77, 3) := dk_180 0 77 (dk_at dksX1_free_1 18 rfl rfl)
theorem dX1_free_45 : decode cX1_free 45 = .ok (.if_icmp .ge 50, 3) := dk_162 0 50 (dk_at dksX1_free_1 21 rfl rfl)
theorem dX1_free_48 : decode cX1_free 48 = .ok (.aload_n 0, 1) := dk_42 (dk_at dksX1_free_2 0 rfl rfl)
theorem dX1_free_49 : decode cX1_free 49 = .ok (.getfield 34, 3) := dk_180 0 34 (dk_at dksX1_free_2 1 rfl rfl)
theorem dX1_free_52 : decode cX1_free 52 = .ok (.aload_n 0, 1) := dk_42 (dk_at dksX1_free_2 4 rfl rfl)
theorem dX1_free_53 : decode cX1_free 53 = .ok (.getfield 30, 3) := dk_180 0 30 (dk_at dksX1_free_2 5 rfl rfl)
theorem dX1_free_56 : decode cX1_free 56 = .ok (.invokevirtual 135, 3) := dk_182 0 135 (dk_at dksX1_free_2 8 rfl rfl)
theorem dX1_free_59 : decode cX1_free 59 = .ok (.aload_n 0, 1) := dk_42 (dk_at dksX1_free_2 11 rfl rfl)
theorem dX1_free_60 : decode cX1_free 60 = .ok (.getfield 34, 3) := dk_180 0 34 (dk_at dksX1_free_2 12 rfl rfl)
theorem dX1_free_63 : decode cX1_free 63 = .ok (.iload_n 1, 1) := dk_27 (dk_at dksX1_free_2 15 rfl rfl)
theorem dX1_free_64 : decode cX1_free 64 = .ok (.iload 4, 2) := dk_21 4 (dk_at dksX1_free_2 16 rfl rfl)
theorem dX1_free_66 : decode cX1_free 66 = .ok (.iload_n 3, 1) := dk_29 (dk_at dksX1_free_2 18 rfl rfl)
theorem dX1_free_67 : decode cX1_free 67 = .ok (.invokevirtual 241, 3) := dk_182 0 241 (dk_at dksX1_free_2 19 rfl rfl)
theorem dX1_free_70 : decode cX1_free 70 = .ok (.aload_n 0, 1) := dk_42 (dk_at dksX1_free_2 22 rfl rfl)
theorem dX1_free_71 : decode cX1_free 71 = .ok (.iload_n 1, 1) := dk_27 (dk_at dksX1_free_2 23 rfl rfl)
theorem dX1_free_72 : decode cX1_free 72 = .ok (.invokevirtual 255, 3) := dk_182 0 255 (dk_at dksX1_free_3 0 rfl rfl)
theorem dX1_free_75 : decode cX1_free 75 = .ok (.ifCond .ne 14, 3) := dk_154 0 14 (dk_at dksX1_free_3 3 rfl rfl)
theorem dX1_free_78 : decode cX1_free 78 = .ok (.iload_n 2, 1) := dk_28 (dk_at dksX1_free_3 6 rfl rfl)
theorem dX1_free_79 : decode cX1_free 79 = .ok (.ifCond .ne 7, 3) := dk_154 0 7 (dk_at dksX1_free_3 7 rfl rfl)
theorem dX1_free_82 : decode cX1_free 82 = .ok (.iload_n 3, 1) := dk_29 (dk_at dksX1_free_3 10 rfl rfl)
theorem dX1_free_83 : decode cX1_free 83 = .ok (.goto 5, 3) := dk_167 0 5 (dk_at dksX1_free_3 11 rfl rfl)
theorem dX1_free_86 : decode cX1_free 86 = .ok (.iload 4, 2) := dk_21 4 (dk_at dksX1_free_3 14 rfl rfl)
theorem dX1_free_88 : decode cX1_free 88 = .ok (.ireturn, 1) := dk_172 (dk_at dksX1_free_3 16 rfl rfl)
theorem dX1_free_89 : decode cX1_free 89 = .ok (.iinc 4 1, 3) := dk_132 4 1 (dk_at dksX1_free_3 17 rfl rfl)
theorem dX1_free_92 : decode cX1_free 92 = .ok (.goto (-56), 3) := dk_167 255 200 (dk_at dksX1_free_3 20 rfl rfl)
theorem dX1_free_95 : decode cX1_free 95 = .ok (.iinc 3 1, 3) := dk_132 3 1 (dk_at dksX1_free_4 0 rfl rfl)
theorem dX1_free_98 : decode cX1_free 98 = .ok (.goto (-71), 3) := dk_167 255 185 (dk_at dksX1_free_4 3 rfl rfl)
theorem dX1_free_101 : decode cX1_free 101 = .ok (.iconst (-1), 1) := dk_2 (dk_at dksX1_free_4 6 rfl rfl)
theorem dX1_free_102 : decode cX1_free 102 = .ok (.ireturn, 1) := dk_172 (dk_at dksX1_free_4 7 rfl rfl)
abbrev cX1_isGuiltyNow : ByteArray := prog_1_method_35_code
def yX1_isGuiltyNow : MethodName := ⟨RX1, "isGuiltyNow", "(I)Z"⟩
def dkwX1_isGuiltyNow_0 : List UInt8 := [42, 180, 0, 34, 42, 180, 0, 30, 182, 0, 135, 42, 27, 182, 0, 255, 172]
abbrev dktX1_isGuiltyNow_0 : List UInt8 := dkwX1_isGuiltyNow_0 ++ []
theorem dksX1_isGuiltyNow_0 : cX1_isGuiltyNow.data.toList.drop 0 = dktX1_isGuiltyNow_0 := by decide +kernel
theorem dX1_isGuiltyNow_0 : decode cX1_isGuiltyNow 0 = .ok (.aload_n 0, 1) := dk_42 (dk_at dksX1_isGuiltyNow_0 0 rfl rfl)
theorem dX1_isGuiltyNow_1 : decode cX1_isGuiltyNow 1 = .ok (.getfield 34, 3) := dk_180 0 34 (dk_at dksX1_isGuiltyNow_0 1 rfl rfl)
theorem dX1_isGuiltyNow_4 : decode cX1_isGuiltyNow 4 = .ok (.aload_n 0, 1) := dk_42 (dk_at dksX1_isGuiltyNow_0 4 rfl rfl)
theorem dX1_isGuiltyNow_5 : decode cX1_isGuiltyNow 5 = .ok (.getfield 30, 3) := dk_180 0 30 (dk_at dksX1_isGuiltyNow_0 5 rfl rfl)
theorem dX1_isGuiltyNow_8 : decode cX1_isGuiltyNow 8 = .ok (.invokevirtual 135, 3) := dk_182 0 135 (dk_at dksX1_isGuiltyNow_0 8 rfl rfl)
theorem dX1_isGuiltyNow_11 : decode cX1_isGuiltyNow 11 = .ok (.aload_n 0, 1) := dk_42 (dk_at dksX1_isGuiltyNow_0 11 rfl rfl)
theorem dX1_isGuiltyNow_12 : decode cX1_isGuiltyNow 12 = .ok (.iload_n 1, 1) := dk_27 (dk_at dksX1_isGuiltyNow_0 12 rfl rfl)
theorem dX1_isGuiltyNow_13 : decode cX1_isGuiltyNow 13 = .ok (.invokevirtual 255, 3) := dk_182 0 255 (dk_at dksX1_isGuiltyNow_0 13 rfl rfl)
theorem dX1_isGuiltyNow_16 : decode cX1_isGuiltyNow 16 = .ok (.ireturn, 1) := dk_172 (dk_at dksX1_isGuiltyNow_0 16 rfl rfl)
abbrev cX1_isGuilty : ByteArray := prog_1_method_34_code
def yX1_isGuilty : MethodName := ⟨RX1, "isGuilty", "(I)Z"⟩
def dkwX1_isGuilty_1 : List UInt8 := [167, 0, 4, 3, 172]
abbrev dktX1_isGuilty_1 : List UInt8 := dkwX1_isGuilty_1 ++ []
def dkwX1_isGuilty_0 : List UInt8 := [42, 180, 0, 42, 182, 0, 139, 87, 42, 180, 0, 42, 180, 0, 220, 27, 46, 2, 159, 0, 7, 4]
abbrev dktX1_isGuilty_0 : List UInt8 := dkwX1_isGuilty_0 ++ dktX1_isGuilty_1
theorem dksX1_isGuilty_0 : cX1_isGuilty.data.toList.drop 0 = dktX1_isGuilty_0 := by decide +kernel
theorem dksX1_isGuilty_1 : cX1_isGuilty.data.toList.drop 22 = dktX1_isGuilty_1 := dk_seg dksX1_isGuilty_0 22 rfl rfl
theorem dX1_isGuilty_0 : decode cX1_isGuilty 0 = .ok (.aload_n 0, 1) := dk_42 (dk_at dksX1_isGuilty_0 0 rfl rfl)
theorem dX1_isGuilty_1 : decode cX1_isGuilty 1 = .ok (.getfield 42, 3) := dk_180 0 42 (dk_at dksX1_isGuilty_0 1 rfl rfl)
theorem dX1_isGuilty_4 : decode cX1_isGuilty 4 = .ok (.invokevirtual 139, 3) := dk_182 0 139 (dk_at dksX1_isGuilty_0 4 rfl rfl)
theorem dX1_isGuilty_7 : decode cX1_isGuilty 7 = .ok (.pop, 1) := dk_87 (dk_at dksX1_isGuilty_0 7 rfl rfl)
theorem dX1_isGuilty_8 : decode cX1_isGuilty 8 = .ok (.aload_n 0, 1) := dk_42 (dk_at dksX1_isGuilty_0 8 rfl rfl)
theorem dX1_isGuilty_9 : decode cX1_isGuilty 9 = .ok (.getfield 42, 3) := dk_180 0 42 (dk_at dksX1_isGuilty_0 9 rfl rfl)
theorem dX1_isGuilty_12 : decode cX1_isGuilty 12 = .ok (.getfield 220, 3) := dk_180 0 220 (dk_at dksX1_isGuilty_0 12 rfl rfl)
theorem dX1_isGuilty_15 : decode cX1_isGuilty 15 = .ok (.iload_n 1, 1) := dk_27 (dk_at dksX1_isGuilty_0 15 rfl rfl)
theorem dX1_isGuilty_16 : decode cX1_isGuilty 16 = .ok (.iaload, 1) := dk_46 (dk_at dksX1_isGuilty_0 16 rfl rfl)
theorem dX1_isGuilty_17 : decode cX1_isGuilty 17 = .ok (.iconst (-1), 1) := dk_2 (dk_at dksX1_isGuilty_0 17 rfl rfl)
theorem dX1_isGuilty_18 : decode cX1_isGuilty 18 = .ok (.if_icmp .eq 7, 3) := dk_159 0 7 (dk_at dksX1_isGuilty_0 18 rfl rfl)
theorem dX1_isGuilty_21 : decode cX1_isGuilty 21 = .ok (.iconst 1, 1) := dk_4 (dk_at dksX1_isGuilty_0 21 rfl rfl)
theorem dX1_isGuilty_22 : decode cX1_isGuilty 22 = .ok (.goto 4, 3) := dk_167 0 4 (dk_at dksX1_isGuilty_1 0 rfl rfl)
theorem dX1_isGuilty_25 : decode cX1_isGuilty 25 = .ok (.iconst 0, 1) := dk_3 (dk_at dksX1_isGuilty_1 3 rfl rfl)
theorem dX1_isGuilty_26 : decode cX1_isGuilty 26 = .ok (.ireturn, 1) := dk_172 (dk_at dksX1_isGuilty_1 4 rfl rfl)
abbrev cX1_mercy : ByteArray := prog_1_method_37_code
def yX1_mercy : MethodName := ⟨RX1, "mercy", "(I)I"⟩
def dkwX1_mercy_4 : List UInt8 := [132, 3, 1, 167, 255, 170, 28, 172]
abbrev dktX1_mercy_4 : List UInt8 := dkwX1_mercy_4 ++ []
def dkwX1_mercy_3 : List UInt8 := [181, 1, 14, 42, 29, 182, 1, 17, 153, 0, 16, 42, 27, 182, 0, 255, 153, 0, 6, 167, 0, 5, 29, 61]
abbrev dktX1_mercy_3 : List UInt8 := dkwX1_mercy_3 ++ dktX1_mercy_4
def dkwX1_mercy_2 : List UInt8 := [180, 0, 34, 42, 180, 0, 30, 182, 0, 135, 42, 180, 0, 34, 27, 181, 1, 11, 42, 180, 0, 34, 29]
abbrev dktX1_mercy_2 : List UInt8 := dkwX1_mercy_2 ++ dktX1_mercy_3
def dkwX1_mercy_1 : List UInt8 := [162, 0, 76, 28, 2, 159, 0, 17, 29, 184, 1, 6, 28, 184, 1, 6, 161, 0, 6, 167, 0, 51, 42]
abbrev dktX1_mercy_1 : List UInt8 := dkwX1_mercy_1 ++ dktX1_mercy_2
def dkwX1_mercy_0 : List UInt8 := [42, 27, 182, 0, 200, 2, 61, 3, 62, 29, 4, 42, 180, 0, 10, 180, 0, 86, 182, 0, 71, 120]
abbrev dktX1_mercy_0 : List UInt8 := dkwX1_mercy_0 ++ dktX1_mercy_1
theorem dksX1_mercy_0 : cX1_mercy.data.toList.drop 0 = dktX1_mercy_0 := by decide +kernel
theorem dksX1_mercy_1 : cX1_mercy.data.toList.drop 22 = dktX1_mercy_1 := dk_seg dksX1_mercy_0 22 rfl rfl
theorem dksX1_mercy_2 : cX1_mercy.data.toList.drop 45 = dktX1_mercy_2 := dk_seg dksX1_mercy_1 23 rfl rfl
theorem dksX1_mercy_3 : cX1_mercy.data.toList.drop 68 = dktX1_mercy_3 := dk_seg dksX1_mercy_2 23 rfl rfl
theorem dksX1_mercy_4 : cX1_mercy.data.toList.drop 92 = dktX1_mercy_4 := dk_seg dksX1_mercy_3 24 rfl rfl
theorem dX1_mercy_0 : decode cX1_mercy 0 = .ok (.aload_n 0, 1) := dk_42 (dk_at dksX1_mercy_0 0 rfl rfl)
theorem dX1_mercy_1 : decode cX1_mercy 1 = .ok (.iload_n 1, 1) := dk_27 (dk_at dksX1_mercy_0 1 rfl rfl)
theorem dX1_mercy_2 : decode cX1_mercy 2 = .ok (.invokevirtual 200, 3) := dk_182 0 200 (dk_at dksX1_mercy_0 2 rfl rfl)
theorem dX1_mercy_5 : decode cX1_mercy 5 = .ok (.iconst (-1), 1) := dk_2 (dk_at dksX1_mercy_0 5 rfl rfl)
theorem dX1_mercy_6 : decode cX1_mercy 6 = .ok (.istore_n 2, 1) := dk_61 (dk_at dksX1_mercy_0 6 rfl rfl)
theorem dX1_mercy_7 : decode cX1_mercy 7 = .ok (.iconst 0, 1) := dk_3 (dk_at dksX1_mercy_0 7 rfl rfl)
theorem dX1_mercy_8 : decode cX1_mercy 8 = .ok (.istore_n 3, 1) := dk_62 (dk_at dksX1_mercy_0 8 rfl rfl)
theorem dX1_mercy_9 : decode cX1_mercy 9 = .ok (.iload_n 3, 1) := dk_29 (dk_at dksX1_mercy_0 9 rfl rfl)
theorem dX1_mercy_10 : decode cX1_mercy 10 = .ok (.iconst 1, 1) := dk_4 (dk_at dksX1_mercy_0 10 rfl rfl)
theorem dX1_mercy_11 : decode cX1_mercy 11 = .ok (.aload_n 0, 1) := dk_42 (dk_at dksX1_mercy_0 11 rfl rfl)
theorem dX1_mercy_12 : decode cX1_mercy 12 = .ok (.getfield 10, 3) := dk_180 0 10 (dk_at dksX1_mercy_0 12 rfl rfl)
theorem dX1_mercy_15 : decode cX1_mercy 15 = .ok (.getfield 86, 3) := dk_180 0 86 (dk_at dksX1_mercy_0 15 rfl rfl)
theorem dX1_mercy_18 : decode cX1_mercy 18 = .ok (.invokevirtual 71, 3) := dk_182 0 71 (dk_at dksX1_mercy_0 18 rfl rfl)
theorem dX1_mercy_21 : decode cX1_mercy 21 = .ok (.ishl, 1) := dk_120 (dk_at dksX1_mercy_0 21 rfl rfl)
theorem dX1_mercy_22 : decode cX1_mercy 22 = .ok (.if_icmp .ge 76, 3) := dk_162 0 76 (dk_at dksX1_mercy_1 0 rfl rfl)
theorem dX1_mercy_25 : decode cX1_mercy 25 = .ok (.iload_n 2, 1) := dk_28 (dk_at dksX1_mercy_1 3 rfl rfl)
theorem dX1_mercy_26 : decode cX1_mercy 26 = .ok (.iconst (-1), 1) := dk_2 (dk_at dksX1_mercy_1 4 rfl rfl)
theorem dX1_mercy_27 : decode cX1_mercy 27 = .ok (.if_icmp .eq 17, 3) := dk_159 0 17 (dk_at dksX1_mercy_1 5 rfl rfl)
theorem dX1_mercy_30 : decode cX1_mercy 30 = .ok (.iload_n 3, 1) := dk_29 (dk_at dksX1_mercy_1 8 rfl rfl)
theorem dX1_mercy_31 : decode cX1_mercy 31 = .ok (.invokestatic 262, 3) := dk_184 1 6 (dk_at dksX1_mercy_1 9 rfl rfl)
theorem dX1_mercy_34 : decode cX1_mercy 34 = .ok (.iload_n 2, 1) := dk_28 (dk_at dksX1_mercy_1 12 rfl rfl)
theorem dX1_mercy_35 : decode cX1_mercy 35 = .ok (.invokestatic 262, 3) := dk_184 1 6 (dk_at dksX1_mercy_1 13 rfl rfl)
theorem dX1_mercy_38 : decode cX1_mercy 38 = .ok (.if_icmp .lt 6, 3) := dk_161 0 6 (dk_at dksX1_mercy_1 16 rfl rfl)
theorem dX1_mercy_41 : decode cX1_mercy 41 = .ok (.goto 51, 3) := dk_167 0 51 (dk_at dksX1_mercy_1 19 rfl rfl)
theorem dX1_mercy_44 : decode cX1_mercy 44 = .ok (.aload_n 0, 1) := dk_42 (dk_at dksX1_mercy_1 22 rfl rfl)
theorem dX1_mercy_45 : decode cX1_mercy 45 = .ok (.getfield 34, 3) := dk_180 0 34 (dk_at dksX1_mercy_2 0 rfl rfl)
theorem dX1_mercy_48 : decode cX1_mercy 48 = .ok (.aload_n 0, 1) := dk_42 (dk_at dksX1_mercy_2 3 rfl rfl)
theorem dX1_mercy_49 : decode cX1_mercy 49 = .ok (.getfield 30, 3) := dk_180 0 30 (dk_at dksX1_mercy_2 4 rfl rfl)
theorem dX1_mercy_52 : decode cX1_mercy 52 = .ok (.invokevirtual 135, 3) := dk_182 0 135 (dk_at dksX1_mercy_2 7 rfl rfl)
theorem dX1_mercy_55 : decode cX1_mercy 55 = .ok (.aload_n 0, 1) := dk_42 (dk_at dksX1_mercy_2 10 rfl rfl)
theorem dX1_mercy_56 : decode cX1_mercy 56 = .ok (.getfield 34, 3) := dk_180 0 34 (dk_at dksX1_mercy_2 11 rfl rfl)
theorem dX1_mercy_59 : decode cX1_mercy 59 = .ok (.iload_n 1, 1) := dk_27 (dk_at dksX1_mercy_2 14 rfl rfl)
theorem dX1_mercy_60 : decode cX1_mercy 60 = .ok (.putfield 267, 3) := dk_181 1 11 (dk_at dksX1_mercy_2 15 rfl rfl)
theorem dX1_mercy_63 : decode cX1_mercy 63 = .ok (.aload_n 0, 1) := dk_42 (dk_at dksX1_mercy_2 18 rfl rfl)
theorem dX1_mercy_64 : decode cX1_mercy 64 = .ok (.getfield 34, 3) := dk_180 0 34 (dk_at dksX1_mercy_2 19 rfl rfl)
theorem dX1_mercy_67 : decode cX1_mercy 67 = .ok (.iload_n 3, 1) := dk_29 (dk_at dksX1_mercy_2 22 rfl rfl)
theorem dX1_mercy_68 : decode cX1_mercy 68 = .ok (.putfield 270, 3) := dk_181 1 14 (dk_at dksX1_mercy_3 0 rfl rfl)
theorem dX1_mercy_71 : decode cX1_mercy 71 = .ok (.aload_n 0, 1) := dk_42 (dk_at dksX1_mercy_3 3 rfl rfl)
theorem dX1_mercy_72 : decode cX1_mercy 72 = .ok (.iload_n 3, 1) := dk_29 (dk_at dksX1_mercy_3 4 rfl rfl)
theorem dX1_mercy_73 : decode cX1_mercy 73 = .ok (.invokevirtual 273, 3) := dk_182 1 17 (dk_at dksX1_mercy_3 5 rfl rfl)
theorem dX1_mercy_76 : decode cX1_mercy 76 = .ok (.ifCond .eq 16, 3) := dk_153 0 16 (dk_at dksX1_mercy_3 8 rfl rfl)
theorem dX1_mercy_79 : decode cX1_mercy 79 = .ok (.aload_n 0, 1) := dk_42 (dk_at dksX1_mercy_3 11 rfl rfl)
theorem dX1_mercy_80 : decode cX1_mercy 80 = .ok (.iload_n 1, 1) := dk_27 (dk_at dksX1_mercy_3 12 rfl rfl)
theorem dX1_mercy_81 : decode cX1_mercy 81 = .ok (.invokevirtual 255, 3) := dk_182 0 255 (dk_at dksX1_mercy_3 13 rfl rfl)
theorem dX1_mercy_84 : decode cX1_mercy 84 = .ok (.ifCond .eq 6, 3) := dk_153 0 6 (dk_at dksX1_mercy_3 16 rfl rfl)
theorem dX1_mercy_87 : decode cX1_mercy 87 = .ok (.goto 5, 3) := dk_167 0 5 (dk_at dksX1_mercy_3 19 rfl rfl)
theorem dX1_mercy_90 : decode cX1_mercy 90 = .ok (.iload_n 3, 1) := dk_29 (dk_at dksX1_mercy_3 22 rfl rfl)
theorem dX1_mercy_91 : decode cX1_mercy 91 = .ok (.istore_n 2, 1) := dk_61 (dk_at dksX1_mercy_3 23 rfl rfl)
theorem dX1_mercy_92 : decode cX1_mercy 92 = .ok (.iinc 3 1, 3) := dk_132 3 1 (dk_at dksX1_mercy_4 0 rfl rfl)
theorem dX1_mercy_95 : decode cX1_mercy 95 = .ok (.goto (-86), 3) := dk_167 255 170 (dk_at dksX1_mercy_4 3 rfl rfl)
theorem dX1_mercy_98 : decode cX1_mercy 98 = .ok (.iload_n 2, 1) := dk_28 (dk_at dksX1_mercy_4 6 rfl rfl)
theorem dX1_mercy_99 : decode cX1_mercy 99 = .ok (.ireturn, 1) := dk_172 (dk_at dksX1_mercy_4 7 rfl rfl)
abbrev cX1_reaches : ByteArray := prog_1_method_38_code
def yX1_reaches : MethodName := ⟨RX1, "reaches", "(I)Z"⟩
def dkwX1_reaches_2 : List UInt8 := [172, 132, 2, 1, 167, 255, 208, 4, 172]
abbrev dktX1_reaches_2 : List UInt8 := dkwX1_reaches_2 ++ []
def dkwX1_reaches_1 : List UInt8 := [160, 0, 25, 42, 180, 0, 10, 180, 0, 86, 28, 182, 0, 89, 192, 0, 93, 182, 1, 20, 154, 0, 5, 3]
abbrev dktX1_reaches_1 : List UInt8 := dkwX1_reaches_1 ++ dktX1_reaches_2
def dkwX1_reaches_0 : List UInt8 := [3, 61, 28, 42, 180, 0, 10, 180, 0, 86, 182, 0, 71, 162, 0, 40, 27, 28, 122, 4, 126, 4]
abbrev dktX1_reaches_0 : List UInt8 := dkwX1_reaches_0 ++ dktX1_reaches_1
theorem dksX1_reaches_0 : cX1_reaches.data.toList.drop 0 = dktX1_reaches_0 := by decide +kernel
theorem dksX1_reaches_1 : cX1_reaches.data.toList.drop 22 = dktX1_reaches_1 := dk_seg dksX1_reaches_0 22 rfl rfl
theorem dksX1_reaches_2 : cX1_reaches.data.toList.drop 46 = dktX1_reaches_2 := dk_seg dksX1_reaches_1 24 rfl rfl
theorem dX1_reaches_0 : decode cX1_reaches 0 = .ok (.iconst 0, 1) := dk_3 (dk_at dksX1_reaches_0 0 rfl rfl)
theorem dX1_reaches_1 : decode cX1_reaches 1 = .ok (.istore_n 2, 1) := dk_61 (dk_at dksX1_reaches_0 1 rfl rfl)
theorem dX1_reaches_2 : decode cX1_reaches 2 = .ok (.iload_n 2, 1) := dk_28 (dk_at dksX1_reaches_0 2 rfl rfl)
theorem dX1_reaches_3 : decode cX1_reaches 3 = .ok (.aload_n 0, 1) := dk_42 (dk_at dksX1_reaches_0 3 rfl rfl)
theorem dX1_reaches_4 : decode cX1_reaches 4 = .ok (.getfield 10, 3) := dk_180 0 10 (dk_at dksX1_reaches_0 4 rfl rfl)
theorem dX1_reaches_7 : decode cX1_reaches 7 = .ok (.getfield 86, 3) := dk_180 0 86 (dk_at dksX1_reaches_0 7 rfl rfl)
theorem dX1_reaches_10 : decode cX1_reaches 10 = .ok (.invokevirtual 71, 3) := dk_182 0 71 (dk_at dksX1_reaches_0 10 rfl rfl)
theorem dX1_reaches_13 : decode cX1_reaches 13 = .ok (.if_icmp .ge 40, 3) := dk_162 0 40 (dk_at dksX1_reaches_0 13 rfl rfl)
theorem dX1_reaches_16 : decode cX1_reaches 16 = .ok (.iload_n 1, 1) := dk_27 (dk_at dksX1_reaches_0 16 rfl rfl)
theorem dX1_reaches_17 : decode cX1_reaches 17 = .ok (.iload_n 2, 1) := dk_28 (dk_at dksX1_reaches_0 17 rfl rfl)
theorem dX1_reaches_18 : decode cX1_reaches 18 = .ok (.ishr, 1) := dk_122 (dk_at dksX1_reaches_0 18 rfl rfl)
theorem dX1_reaches_19 : decode cX1_reaches 19 = .ok (.iconst 1, 1) := dk_4 (dk_at dksX1_reaches_0 19 rfl rfl)
theorem dX1_reaches_20 : decode cX1_reaches 20 = .ok (.iand, 1) := dk_126 (dk_at dksX1_reaches_0 20 rfl rfl)
theorem dX1_reaches_21 : decode cX1_reaches 21 = .ok (.iconst 1, 1) := dk_4 (dk_at dksX1_reaches_0 21 rfl rfl)
theorem dX1_reaches_22 : decode cX1_reaches 22 = .ok (.if_icmp .ne 25, 3) := dk_160 0 25 (dk_at dksX1_reaches_1 0 rfl rfl)
theorem dX1_reaches_25 : decode cX1_reaches 25 = .ok (.aload_n 0, 1) := dk_42 (dk_at dksX1_reaches_1 3 rfl rfl)
theorem dX1_reaches_26 : decode cX1_reaches 26 = .ok (.getfield 10, 3) := dk_180 0 10 (dk_at dksX1_reaches_1 4 rfl rfl)
theorem dX1_reaches_29 : decode cX1_reaches 29 = .ok (.getfield 86, 3) := dk_180 0 86 (dk_at dksX1_reaches_1 7 rfl rfl)
theorem dX1_reaches_32 : decode cX1_reaches 32 = .ok (.iload_n 2, 1) := dk_28 (dk_at dksX1_reaches_1 10 rfl rfl)
theorem dX1_reaches_33 : decode cX1_reaches 33 = .ok (.invokevirtual 89, 3) := dk_182 0 89 (dk_at dksX1_reaches_1 11 rfl rfl)
theorem dX1_reaches_36 : decode cX1_reaches 36 = .ok (.checkcast 93, 3) := dk_192 0 93 (dk_at dksX1_reaches_1 14 rfl rfl)
theorem dX1_reaches_39 : decode cX1_reaches 39 = .ok (.invokevirtual 276, 3) := dk_182 1 20 (dk_at dksX1_reaches_1 17 rfl rfl)
theorem dX1_reaches_42 : decode cX1_reaches 42 = .ok (.ifCond .ne 5, 3) := dk_154 0 5 (dk_at dksX1_reaches_1 20 rfl rfl)
theorem dX1_reaches_45 : decode cX1_reaches 45 = .ok (.iconst 0, 1) := dk_3 (dk_at dksX1_reaches_1 23 rfl rfl)
theorem dX1_reaches_46 : decode cX1_reaches 46 = .ok (.ireturn, 1) := dk_172 (dk_at dksX1_reaches_2 0 rfl rfl)
theorem dX1_reaches_47 : decode cX1_reaches 47 = .ok (.iinc 2 1, 3) := dk_132 2 1 (dk_at dksX1_reaches_2 1 rfl rfl)
theorem dX1_reaches_50 : decode cX1_reaches 50 = .ok (.goto (-48), 3) := dk_167 255 208 (dk_at dksX1_reaches_2 4 rfl rfl)
theorem dX1_reaches_53 : decode cX1_reaches 53 = .ok (.iconst 1, 1) := dk_4 (dk_at dksX1_reaches_2 7 rfl rfl)
theorem dX1_reaches_54 : decode cX1_reaches 54 = .ok (.ireturn, 1) := dk_172 (dk_at dksX1_reaches_2 8 rfl rfl)
abbrev cX1_deaf : ByteArray := prog_1_method_39_code
def yX1_deaf : MethodName := ⟨RX1, "deaf", "(I)I"⟩
def dkwX1_deaf_1 : List UInt8 := [181, 1, 24, 42, 180, 0, 42, 182, 0, 139, 172]
abbrev dktX1_deaf_1 : List UInt8 := dkwX1_deaf_1 ++ []
def dkwX1_deaf_0 : List UInt8 := [42, 27, 182, 0, 177, 87, 42, 180, 0, 34, 42, 180, 0, 30, 182, 0, 135, 42, 180, 0, 34, 4, 27, 120]
abbrev dktX1_deaf_0 : List UInt8 := dkwX1_deaf_0 ++ dktX1_deaf_1
theorem dksX1_deaf_0 : cX1_deaf.data.toList.drop 0 = dktX1_deaf_0 := by decide +kernel
theorem dksX1_deaf_1 : cX1_deaf.data.toList.drop 24 = dktX1_deaf_1 := dk_seg dksX1_deaf_0 24 rfl rfl
theorem dX1_deaf_0 : decode cX1_deaf 0 = .ok (.aload_n 0, 1) := dk_42 (dk_at dksX1_deaf_0 0 rfl rfl)
theorem dX1_deaf_1 : decode cX1_deaf 1 = .ok (.iload_n 1, 1) := dk_27 (dk_at dksX1_deaf_0 1 rfl rfl)
theorem dX1_deaf_2 : decode cX1_deaf 2 = .ok (.invokevirtual 177, 3) := dk_182 0 177 (dk_at dksX1_deaf_0 2 rfl rfl)
theorem dX1_deaf_5 : decode cX1_deaf 5 = .ok (.pop, 1) := dk_87 (dk_at dksX1_deaf_0 5 rfl rfl)
theorem dX1_deaf_6 : decode cX1_deaf 6 = .ok (.aload_n 0, 1) := dk_42 (dk_at dksX1_deaf_0 6 rfl rfl)
theorem dX1_deaf_7 : decode cX1_deaf 7 = .ok (.getfield 34, 3) := dk_180 0 34 (dk_at dksX1_deaf_0 7 rfl rfl)
theorem dX1_deaf_10 : decode cX1_deaf 10 = .ok (.aload_n 0, 1) := dk_42 (dk_at dksX1_deaf_0 10 rfl rfl)
theorem dX1_deaf_11 : decode cX1_deaf 11 = .ok (.getfield 30, 3) := dk_180 0 30 (dk_at dksX1_deaf_0 11 rfl rfl)
theorem dX1_deaf_14 : decode cX1_deaf 14 = .ok (.invokevirtual 135, 3) := dk_182 0 135 (dk_at dksX1_deaf_0 14 rfl rfl)
theorem dX1_deaf_17 : decode cX1_deaf 17 = .ok (.aload_n 0, 1) := dk_42 (dk_at dksX1_deaf_0 17 rfl rfl)
theorem dX1_deaf_18 : decode cX1_deaf 18 = .ok (.getfield 34, 3) := dk_180 0 34 (dk_at dksX1_deaf_0 18 rfl rfl)
theorem dX1_deaf_21 : decode cX1_deaf 21 = .ok (.iconst 1, 1) := dk_4 (dk_at dksX1_deaf_0 21 rfl rfl)
theorem dX1_deaf_22 : decode cX1_deaf 22 = .ok (.iload_n 1, 1) := dk_27 (dk_at dksX1_deaf_0 22 rfl rfl)
theorem dX1_deaf_23 : decode cX1_deaf 23 = .ok (.ishl, 1) := dk_120 (dk_at dksX1_deaf_0 23 rfl rfl)
theorem dX1_deaf_24 : decode cX1_deaf 24 = .ok (.putfield 280, 3) := dk_181 1 24 (dk_at dksX1_deaf_1 0 rfl rfl)
theorem dX1_deaf_27 : decode cX1_deaf 27 = .ok (.aload_n 0, 1) := dk_42 (dk_at dksX1_deaf_1 3 rfl rfl)
theorem dX1_deaf_28 : decode cX1_deaf 28 = .ok (.getfield 42, 3) := dk_180 0 42 (dk_at dksX1_deaf_1 4 rfl rfl)
theorem dX1_deaf_31 : decode cX1_deaf 31 = .ok (.invokevirtual 139, 3) := dk_182 0 139 (dk_at dksX1_deaf_1 7 rfl rfl)
theorem dX1_deaf_34 : decode cX1_deaf 34 = .ok (.ireturn, 1) := dk_172 (dk_at dksX1_deaf_1 10 rfl rfl)
abbrev cX1_soonest : ByteArray := prog_1_method_40_code
def yX1_soonest : MethodName := ⟨RX1, "soonest", "(I)I"⟩
def dkwX1_soonest_3 : List UInt8 := [61, 132, 3, 1, 167, 255, 201, 28, 172]
abbrev dktX1_soonest_3 : List UInt8 := dkwX1_soonest_3 ++ []
def dkwX1_soonest_2 : List UInt8 := [159, 0, 22, 27, 154, 0, 12, 21, 4, 28, 162, 0, 15, 167, 0, 9, 21, 4, 28, 164, 0, 6, 21, 4]
abbrev dktX1_soonest_2 : List UInt8 := dkwX1_soonest_2 ++ dktX1_soonest_3
def dkwX1_soonest_1 : List UInt8 := [162, 0, 53, 42, 180, 0, 42, 180, 0, 220, 29, 46, 54, 4, 21, 4, 2, 159, 0, 30, 28, 2]
abbrev dktX1_soonest_1 : List UInt8 := dkwX1_soonest_1 ++ dktX1_soonest_2
def dkwX1_soonest_0 : List UInt8 := [27, 3, 4, 184, 0, 142, 184, 0, 80, 42, 182, 0, 164, 87, 2, 61, 3, 62, 29, 42, 182, 0, 84]
abbrev dktX1_soonest_0 : List UInt8 := dkwX1_soonest_0 ++ dktX1_soonest_1
theorem dksX1_soonest_0 : cX1_soonest.data.toList.drop 0 = dktX1_soonest_0 := by decide +kernel
theorem dksX1_soonest_1 : cX1_soonest.data.toList.drop 23 = dktX1_soonest_1 := dk_seg dksX1_soonest_0 23 rfl rfl
theorem dksX1_soonest_2 : cX1_soonest.data.toList.drop 45 = dktX1_soonest_2 := dk_seg dksX1_soonest_1 22 rfl rfl
theorem dksX1_soonest_3 : cX1_soonest.data.toList.drop 69 = dktX1_soonest_3 := dk_seg dksX1_soonest_2 24 rfl rfl
theorem dX1_soonest_0 : decode cX1_soonest 0 = .ok (.iload_n 1, 1) := dk_27 (dk_at dksX1_soonest_0 0 rfl rfl)
theorem dX1_soonest_1 : decode cX1_soonest 1 = .ok (.iconst 0, 1) := dk_3 (dk_at dksX1_soonest_0 1 rfl rfl)
theorem dX1_soonest_2 : decode cX1_soonest 2 = .ok (.iconst 1, 1) := dk_4 (dk_at dksX1_soonest_0 2 rfl rfl)
theorem dX1_soonest_3 : decode cX1_soonest 3 = .ok (.invokestatic 142, 3) := dk_184 0 142 (dk_at dksX1_soonest_0 3 rfl rfl)
theorem dX1_soonest_6 : decode cX1_soonest 6 = .ok (.invokestatic 80, 3) := dk_184 0 80 (dk_at dksX1_soonest_0 6 rfl rfl)
theorem dX1_soonest_9 : decode cX1_soonest 9 = .ok (.aload_n 0, 1) := dk_42 (dk_at dksX1_soonest_0 9 rfl rfl)
theorem dX1_soonest_10 : decode cX1_soonest 10 = .ok (.invokevirtual 164, 3) := dk_182 0 164 (dk_at dksX1_soonest_0 10 rfl rfl)
theorem dX1_soonest_13 : decode cX1_soonest 13 = .ok (.pop, 1) := dk_87 (dk_at dksX1_soonest_0 13 rfl rfl)
theorem dX1_soonest_14 : decode cX1_soonest 14 = .ok (.iconst (-1), 1) := dk_2 (dk_at dksX1_soonest_0 14 rfl rfl)
theorem dX1_soonest_15 : decode cX1_soonest 15 = .ok (.istore_n 2, 1) := dk_61 (dk_at dksX1_soonest_0 15 rfl rfl)
theorem dX1_soonest_16 : decode cX1_soonest 16 = .ok (.iconst 0, 1) := dk_3 (dk_at dksX1_soonest_0 16 rfl rfl)
theorem dX1_soonest_17 : decode cX1_soonest 17 = .ok (.istore_n 3, 1) := dk_62 (dk_at dksX1_soonest_0 17 rfl rfl)
theorem dX1_soonest_18 : decode cX1_soonest 18 = .ok (.iload_n 3, 1) := dk_29 (dk_at dksX1_soonest_0 18 rfl rfl)
theorem dX1_soonest_19 : decode cX1_soonest 19 = .ok (.aload_n 0, 1) := dk_42 (dk_at dksX1_soonest_0 19 rfl rfl)
theorem dX1_soonest_20 : decode cX1_soonest 20 = .ok (.invokevirtual 84, 3) := dk_182 0 84 (dk_at dksX1_soonest_0 20 rfl rfl)
theorem dX1_soonest_23 : decode cX1_soonest 23 = .ok (.if_icmp .ge 53, 3) := dk_162 0 53 (dk_at dksX1_soonest_1 0 rfl rfl)
theorem dX1_soonest_26 : decode cX1_soonest 26 = .ok (.aload_n 0, 1) := dk_42 (dk_at dksX1_soonest_1 3 rfl rfl)
theorem dX1_soonest_27 : decode cX1_soonest 27 = .ok (.getfield 42, 3) := dk_180 0 42 (dk_at dksX1_soonest_1 4 rfl rfl)
theorem dX1_soonest_30 : decode cX1_soonest 30 = .ok (.getfield 220, 3) := dk_180 0 220 (dk_at dksX1_soonest_1 7 rfl rfl)
theorem dX1_soonest_33 : decode cX1_soonest 33 = .ok (.iload_n 3, 1) := dk_29 (dk_at dksX1_soonest_1 10 rfl rfl)
theorem dX1_soonest_34 : decode cX1_soonest 34 = .ok (.iaload, 1) := dk_46 (dk_at dksX1_soonest_1 11 rfl rfl)
theorem dX1_soonest_35 : decode cX1_soonest 35 = .ok (.istore 4, 2) := dk_54 4 (dk_at dksX1_soonest_1 12 rfl rfl)
theorem dX1_soonest_37 : decode cX1_soonest 37 = .ok (.iload 4, 2) := dk_21 4 (dk_at dksX1_soonest_1 14 rfl rfl)
theorem dX1_soonest_39 : decode cX1_soonest 39 = .ok (.iconst (-1), 1) := dk_2 (dk_at dksX1_soonest_1 16 rfl rfl)
theorem dX1_soonest_40 : decode cX1_soonest 40 = .ok (.if_icmp .eq 30, 3) := dk_159 0 30 (dk_at dksX1_soonest_1 17 rfl rfl)
theorem dX1_soonest_43 : decode cX1_soonest 43 = .ok (.iload_n 2, 1) := dk_28 (dk_at dksX1_soonest_1 20 rfl rfl)
theorem dX1_soonest_44 : decode cX1_soonest 44 = .ok (.iconst (-1), 1) := dk_2 (dk_at dksX1_soonest_1 21 rfl rfl)
theorem dX1_soonest_45 : decode cX1_soonest 45 = .ok (.if_icmp .eq 22, 3) := dk_159 0 22 (dk_at dksX1_soonest_2 0 rfl rfl)
theorem dX1_soonest_48 : decode cX1_soonest 48 = .ok (.iload_n 1, 1) := dk_27 (dk_at dksX1_soonest_2 3 rfl rfl)
theorem dX1_soonest_49 : decode cX1_soonest 49 = .ok (.ifCond .ne 12, 3) := dk_154 0 12 (dk_at dksX1_soonest_2 4 rfl rfl)
theorem dX1_soonest_52 : decode cX1_soonest 52 = .ok (.iload 4, 2) := dk_21 4 (dk_at dksX1_soonest_2 7 rfl rfl)
theorem dX1_soonest_54 : decode cX1_soonest 54 = .ok (.iload_n 2, 1) := dk_28 (dk_at dksX1_soonest_2 9 rfl rfl)
theorem dX1_soonest_55 : decode cX1_soonest 55 = .ok (.if_icmp .ge 15, 3) := dk_162 0 15 (dk_at dksX1_soonest_2 10 rfl rfl)
theorem dX1_soonest_58 : decode cX1_soonest 58 = .ok (.goto 9, 3) := dk_167 0 9 (dk_at dksX1_soonest_2 13 rfl rfl)
theorem dX1_soonest_61 : decode cX1_soonest 61 = .ok (.iload 4, 2) := dk_21 4 (dk_at dksX1_soonest_2 16 rfl rfl)
theorem dX1_soonest_63 : decode cX1_soonest 63 = .ok (.iload_n 2, 1) := dk_28 (dk_at dksX1_soonest_2 18 rfl rfl)
theorem dX1_soonest_64 : decode cX1_soonest 64 = .ok (.if_icmp .le 6, 3) := dk_164 0 6 (dk_at dksX1_soonest_2 19 rfl rfl)
theorem dX1_soonest_67 : decode cX1_soonest 67 = .ok (.iload 4, 2) := dk_21 4 (dk_at dksX1_soonest_2 22 rfl rfl)
theorem dX1_soonest_69 : decode cX1_soonest 69 = .ok (.istore_n 2, 1) := dk_61 (dk_at dksX1_soonest_3 0 rfl rfl)
theorem dX1_soonest_70 : decode cX1_soonest 70 = .ok (.iinc 3 1, 3) := dk_132 3 1 (dk_at dksX1_soonest_3 1 rfl rfl)
theorem dX1_soonest_73 : decode cX1_soonest 73 = .ok (.goto (-55), 3) := dk_167 255 201 (dk_at dksX1_soonest_3 4 rfl rfl)
theorem dX1_soonest_76 : decode cX1_soonest 76 = .ok (.iload_n 2, 1) := dk_28 (dk_at dksX1_soonest_3 7 rfl rfl)
theorem dX1_soonest_77 : decode cX1_soonest 77 = .ok (.ireturn, 1) := dk_172 (dk_at dksX1_soonest_3 8 rfl rfl)
abbrev cX1_see : ByteArray := prog_1_method_41_code
def yX1_see : MethodName := ⟨RX1, "see", "(IIZ)I"⟩
def dkwX1_see_3 : List UInt8 := [180, 0, 128, 4, 96, 181, 0, 128, 42, 180, 0, 19, 180, 0, 128, 172]
abbrev dktX1_see_3 : List UInt8 := dkwX1_see_3 ++ []
def dkwX1_see_2 : List UInt8 := [180, 1, 30, 21, 4, 28, 79, 42, 180, 0, 19, 180, 1, 33, 21, 4, 29, 84, 42, 180, 0, 19, 89]
abbrev dktX1_see_2 : List UInt8 := dkwX1_see_2 ++ dktX1_see_3
def dkwX1_see_1 : List UInt8 := [160, 0, 9, 42, 5, 182, 0, 234, 172, 42, 180, 0, 19, 180, 1, 27, 21, 4, 27, 79, 42, 180, 0, 19]
abbrev dktX1_see_1 : List UInt8 := dkwX1_see_1 ++ dktX1_see_2
def dkwX1_see_0 : List UInt8 := [42, 27, 182, 0, 200, 42, 28, 182, 0, 177, 87, 42, 180, 0, 19, 180, 0, 128, 54, 4, 21, 4, 16, 8]
abbrev dktX1_see_0 : List UInt8 := dkwX1_see_0 ++ dktX1_see_1
theorem dksX1_see_0 : cX1_see.data.toList.drop 0 = dktX1_see_0 := by decide +kernel
theorem dksX1_see_1 : cX1_see.data.toList.drop 24 = dktX1_see_1 := dk_seg dksX1_see_0 24 rfl rfl
theorem dksX1_see_2 : cX1_see.data.toList.drop 48 = dktX1_see_2 := dk_seg dksX1_see_1 24 rfl rfl
theorem dksX1_see_3 : cX1_see.data.toList.drop 71 = dktX1_see_3 := dk_seg dksX1_see_2 23 rfl rfl
theorem dX1_see_0 : decode cX1_see 0 = .ok (.aload_n 0, 1) := dk_42 (dk_at dksX1_see_0 0 rfl rfl)
theorem dX1_see_1 : decode cX1_see 1 = .ok (.iload_n 1, 1) := dk_27 (dk_at dksX1_see_0 1 rfl rfl)
theorem dX1_see_2 : decode cX1_see 2 = .ok (.invokevirtual 200, 3) := dk_182 0 200 (dk_at dksX1_see_0 2 rfl rfl)
theorem dX1_see_5 : decode cX1_see 5 = .ok (.aload_n 0, 1) := dk_42 (dk_at dksX1_see_0 5 rfl rfl)
theorem dX1_see_6 : decode cX1_see 6 = .ok (.iload_n 2, 1) := dk_28 (dk_at dksX1_see_0 6 rfl rfl)
theorem dX1_see_7 : decode cX1_see 7 = .ok (.invokevirtual 177, 3) := dk_182 0 177 (dk_at dksX1_see_0 7 rfl rfl)
theorem dX1_see_10 : decode cX1_see 10 = .ok (.pop, 1) := dk_87 (dk_at dksX1_see_0 10 rfl rfl)
theorem dX1_see_11 : decode cX1_see 11 = .ok (.aload_n 0, 1) := dk_42 (dk_at dksX1_see_0 11 rfl rfl)
theorem dX1_see_12 : decode cX1_see 12 = .ok (.getfield 19, 3) := dk_180 0 19 (dk_at dksX1_see_0 12 rfl rfl)
theorem dX1_see_15 : decode cX1_see 15 = .ok (.getfield 128, 3) := dk_180 0 128 (dk_at dksX1_see_0 15 rfl rfl)
theorem dX1_see_18 : decode cX1_see 18 = .ok (.istore 4, 2) := dk_54 4 (dk_at dksX1_see_0 18 rfl rfl)
theorem dX1_see_20 : decode cX1_see 20 = .ok (.iload 4, 2) := dk_21 4 (dk_at dksX1_see_0 20 rfl rfl)
theorem dX1_see_22 : decode cX1_see 22 = .ok (.bipush 8, 2) := dk_16 8 (dk_at dksX1_see_0 22 rfl rfl)
theorem dX1_see_24 : decode cX1_see 24 = .ok (.if_icmp .ne 9, 3) := dk_160 0 9 (dk_at dksX1_see_1 0 rfl rfl)
theorem dX1_see_27 : decode cX1_see 27 = .ok (.aload_n 0, 1) := dk_42 (dk_at dksX1_see_1 3 rfl rfl)
theorem dX1_see_28 : decode cX1_see 28 = .ok (.iconst 2, 1) := dk_5 (dk_at dksX1_see_1 4 rfl rfl)
theorem dX1_see_29 : decode cX1_see 29 = .ok (.invokevirtual 234, 3) := dk_182 0 234 (dk_at dksX1_see_1 5 rfl rfl)
theorem dX1_see_32 : decode cX1_see 32 = .ok (.ireturn, 1) := dk_172 (dk_at dksX1_see_1 8 rfl rfl)
theorem dX1_see_33 : decode cX1_see 33 = .ok (.aload_n 0, 1) := dk_42 (dk_at dksX1_see_1 9 rfl rfl)
theorem dX1_see_34 : decode cX1_see 34 = .ok (.getfield 19, 3) := dk_180 0 19 (dk_at dksX1_see_1 10 rfl rfl)
theorem dX1_see_37 : decode cX1_see 37 = .ok (.getfield 283, 3) := dk_180 1 27 (dk_at dksX1_see_1 13 rfl rfl)
theorem dX1_see_40 : decode cX1_see 40 = .ok (.iload 4, 2) := dk_21 4 (dk_at dksX1_see_1 16 rfl rfl)
theorem dX1_see_42 : decode cX1_see 42 = .ok (.iload_n 1, 1) := dk_27 (dk_at dksX1_see_1 18 rfl rfl)
theorem dX1_see_43 : decode cX1_see 43 = .ok (.iastore, 1) := dk_79 (dk_at dksX1_see_1 19 rfl rfl)
theorem dX1_see_44 : decode cX1_see 44 = .ok (.aload_n 0, 1) := dk_42 (dk_at dksX1_see_1 20 rfl rfl)
theorem dX1_see_45 : decode cX1_see 45 = .ok (.getfield 19, 3) := dk_180 0 19 (dk_at dksX1_see_1 21 rfl rfl)
theorem dX1_see_48 : decode cX1_see 48 = .ok (.getfield 286, 3) := dk_180 1 30 (dk_at dksX1_see_2 0 rfl rfl)
theorem dX1_see_51 : decode cX1_see 51 = .ok (.iload 4, 2) := dk_21 4 (dk_at dksX1_see_2 3 rfl rfl)
theorem dX1_see_53 : decode cX1_see 53 = .ok (.iload_n 2, 1) := dk_28 (dk_at dksX1_see_2 5 rfl rfl)
theorem dX1_see_54 : decode cX1_see 54 = .ok (.iastore, 1) := dk_79 (dk_at dksX1_see_2 6 rfl rfl)
theorem dX1_see_55 : decode cX1_see 55 = .ok (.aload_n 0, 1) := dk_42 (dk_at dksX1_see_2 7 rfl rfl)
theorem dX1_see_56 : decode cX1_see 56 = .ok (.getfield 19, 3) := dk_180 0 19 (dk_at dksX1_see_2 8 rfl rfl)
theorem dX1_see_59 : decode cX1_see 59 = .ok (.getfield 289, 3) := dk_180 1 33 (dk_at dksX1_see_2 11 rfl rfl)
theorem dX1_see_62 : decode cX1_see 62 = .ok (.iload 4, 2) := dk_21 4 (dk_at dksX1_see_2 14 rfl rfl)
theorem dX1_see_64 : decode cX1_see 64 = .ok (.iload_n 3, 1) := dk_29 (dk_at dksX1_see_2 16 rfl rfl)
theorem dX1_see_65 : decode cX1_see 65 = .ok (.bastore, 1) := dk_84 (dk_at dksX1_see_2 17 rfl rfl)
theorem dX1_see_66 : decode cX1_see 66 = .ok (.aload_n 0, 1) := dk_42 (dk_at dksX1_see_2 18 rfl rfl)
theorem dX1_see_67 : decode cX1_see 67 = .ok (.getfield 19, 3) := dk_180 0 19 (dk_at dksX1_see_2 19 rfl rfl)
theorem dX1_see_70 : decode cX1_see 70 = .ok (.dup, 1) := dk_89 (dk_at dksX1_see_2 22 rfl rfl)
theorem dX1_see_71 : decode cX1_see 71 = .ok (.getfield 128, 3) := dk_180 0 128 (dk_at dksX1_see_3 0 rfl rfl)
theorem dX1_see_74 : decode cX1_see 74 = .ok (.iconst 1, 1) := dk_4 (dk_at dksX1_see_3 3 rfl rfl)
theorem dX1_see_75 : decode cX1_see 75 = .ok (.iadd, 1) := dk_96 (dk_at dksX1_see_3 4 rfl rfl)
theorem dX1_see_76 : decode cX1_see 76 = .ok (.putfield 128, 3) := dk_181 0 128 (dk_at dksX1_see_3 5 rfl rfl)
theorem dX1_see_79 : decode cX1_see 79 = .ok (.aload_n 0, 1) := dk_42 (dk_at dksX1_see_3 8 rfl rfl)
theorem dX1_see_80 : decode cX1_see 80 = .ok (.getfield 19, 3) := dk_180 0 19 (dk_at dksX1_see_3 9 rfl rfl)
theorem dX1_see_83 : decode cX1_see 83 = .ok (.getfield 128, 3) := dk_180 0 128 (dk_at dksX1_see_3 12 rfl rfl)
theorem dX1_see_86 : decode cX1_see 86 = .ok (.ireturn, 1) := dk_172 (dk_at dksX1_see_3 15 rfl rfl)
abbrev cX1_sent : ByteArray := prog_1_method_44_code
def yX1_sent : MethodName := ⟨RX1, "sent", "(II)I"⟩
def dkwX1_sent_6 : List UInt8 := [29, 167, 0, 5, 21, 4, 172]
abbrev dktX1_sent_6 : List UInt8 := dkwX1_sent_6 ++ []
def dkwX1_sent_5 : List UInt8 := [21, 5, 104, 21, 6, 96, 54, 4, 132, 6, 1, 167, 255, 189, 132, 5, 1, 167, 255, 173, 28, 154, 0, 7]
abbrev dktX1_sent_5 : List UInt8 := dkwX1_sent_5 ++ dktX1_sent_6
def dkwX1_sent_4 : List UInt8 := [182, 0, 241, 42, 182, 1, 36, 154, 0, 6, 167, 0, 22, 132, 3, 1, 21, 4, 2, 160, 0, 13, 16, 100]
abbrev dktX1_sent_4 : List UInt8 := dkwX1_sent_4 ++ dktX1_sent_5
def dkwX1_sent_3 : List UInt8 := [162, 0, 61, 42, 180, 0, 34, 42, 180, 0, 30, 182, 0, 135, 42, 180, 0, 34, 27, 21, 6, 21, 5]
abbrev dktX1_sent_3 : List UInt8 := dkwX1_sent_3 ++ dktX1_sent_4
def dkwX1_sent_2 : List UInt8 := [54, 4, 3, 54, 5, 21, 5, 16, 60, 163, 0, 82, 3, 54, 6, 21, 6, 42, 180, 0, 10, 180, 0, 77]
abbrev dktX1_sent_2 : List UInt8 := dkwX1_sent_2 ++ dktX1_sent_3
def dkwX1_sent_1 : List UInt8 := [182, 0, 135, 28, 5, 160, 0, 16, 42, 182, 1, 36, 153, 0, 7, 4, 167, 0, 4, 3, 172, 3, 62, 2]
abbrev dktX1_sent_1 : List UInt8 := dkwX1_sent_1 ++ dktX1_sent_2
def dkwX1_sent_0 : List UInt8 := [42, 27, 182, 0, 200, 28, 3, 5, 184, 0, 142, 184, 0, 80, 42, 180, 0, 34, 42, 180, 0, 30]
abbrev dktX1_sent_0 : List UInt8 := dkwX1_sent_0 ++ dktX1_sent_1
theorem dksX1_sent_0 : cX1_sent.data.toList.drop 0 = dktX1_sent_0 := by decide +kernel
theorem dksX1_sent_1 : cX1_sent.data.toList.drop 22 = dktX1_sent_1 := dk_seg dksX1_sent_0 22 rfl rfl
theorem dksX1_sent_2 : cX1_sent.data.toList.drop 46 = dktX1_sent_2 := dk_seg dksX1_sent_1 24 rfl rfl
theorem dksX1_sent_3 : cX1_sent.data.toList.drop 70 = dktX1_sent_3 := dk_seg dksX1_sent_2 24 rfl rfl
theorem dksX1_sent_4 : cX1_sent.data.toList.drop 93 = dktX1_sent_4 := dk_seg dksX1_sent_3 23 rfl rfl
theorem dksX1_sent_5 : cX1_sent.data.toList.drop 117 = dktX1_sent_5 := dk_seg dksX1_sent_4 24 rfl rfl
theorem dksX1_sent_6 : cX1_sent.data.toList.drop 141 = dktX1_sent_6 := dk_seg dksX1_sent_5 24 rfl rfl
theorem dX1_sent_0 : decode cX1_sent 0 = .ok (.aload_n 0, 1) := dk_42 (dk_at dksX1_sent_0 0 rfl rfl)
theorem dX1_sent_1 : decode cX1_sent 1 = .ok (.iload_n 1, 1) := dk_27 (dk_at dksX1_sent_0 1 rfl rfl)
theorem dX1_sent_2 : decode cX1_sent 2 = .ok (.invokevirtual 200, 3) := dk_182 0 200 (dk_at dksX1_sent_0 2 rfl rfl)
theorem dX1_sent_5 : decode cX1_sent 5 = .ok (.iload_n 2, 1) := dk_28 (dk_at dksX1_sent_0 5 rfl rfl)
theorem dX1_sent_6 : decode cX1_sent 6 = .ok (.iconst 0, 1) := dk_3 (dk_at dksX1_sent_0 6 rfl rfl)
theorem dX1_sent_7 : decode cX1_sent 7 = .ok (.iconst 2, 1) := dk_5 (dk_at dksX1_sent_0 7 rfl rfl)
theorem dX1_sent_8 : decode cX1_sent 8 = .ok (.invokestatic 142, 3) := dk_184 0 142 (dk_at dksX1_sent_0 8 rfl rfl)
theorem dX1_sent_11 : decode cX1_sent 11 = .ok (.invokestatic 80, 3) := dk_184 0 80 (dk_at dksX1_sent_0 11 rfl rfl)
theorem dX1_sent_14 : decode cX1_sent 14 = .ok (.aload_n 0, 1) := dk_42 (dk_at dksX1_sent_0 14 rfl rfl)
theorem dX1_sent_15 : decode cX1_sent 15 = .ok (.getfield 34, 3) := dk_180 0 34 (dk_at dksX1_sent_0 15 rfl rfl)
theorem dX1_sent_18 : decode cX1_sent 18 = .ok (.aload_n 0, 1) := dk_42 (dk_at dksX1_sent_0 18 rfl rfl)
theorem dX1_sent_19 : decode cX1_sent 19 = .ok (.getfield 30, 3) := dk_180 0 30 (dk_at dksX1_sent_0 19 rfl rfl)
theorem dX1_sent_22 : decode cX1_sent 22 = .ok (.invokevirtual 135, 3) := dk_182 0 135 (dk_at dksX1_sent_1 0 rfl rfl)
theorem dX1_sent_25 : decode cX1_sent 25 = .ok (.iload_n 2, 1) := dk_28 (dk_at dksX1_sent_1 3 rfl rfl)
theorem dX1_sent_26 : decode cX1_sent 26 = .ok (.iconst 2, 1) := dk_5 (dk_at dksX1_sent_1 4 rfl rfl)
theorem dX1_sent_27 : decode cX1_sent 27 = .ok (.if_icmp .ne 16, 3) := dk_160 0 16 (dk_at dksX1_sent_1 5 rfl rfl)
theorem dX1_sent_30 : decode cX1_sent 30 = .ok (.aload_n 0, 1) := dk_42 (dk_at dksX1_sent_1 8 rfl rfl)
theorem dX1_sent_31 : decode cX1_sent 31 = .ok (.invokevirtual 292, 3) := dk_182 1 36 (dk_at dksX1_sent_1 9 rfl rfl)
theorem dX1_sent_34 : decode cX1_sent 34 = .ok (.ifCond .eq 7, 3) := dk_153 0 7 (dk_at dksX1_sent_1 12 rfl rfl)
theorem dX1_sent_37 : decode cX1_sent 37 = .ok (.iconst 1, 1) := dk_4 (dk_at dksX1_sent_1 15 rfl rfl)
theorem dX1_sent_38 : decode cX1_sent 38 = .ok (.goto 4, 3) := dk_167 0 4 (dk_at dksX1_sent_1 16 rfl rfl)
theorem dX1_sent_41 : decode cX1_sent 41 = .ok (.iconst 0, 1) := dk_3 (dk_at dksX1_sent_1 19 rfl rfl)
theorem dX1_sent_42 : decode cX1_sent 42 = .ok (.ireturn, 1) := dk_172 (dk_at dksX1_sent_1 20 rfl rfl)
theorem dX1_sent_43 : decode cX1_sent 43 = .ok (.iconst 0, 1) := dk_3 (dk_at dksX1_sent_1 21 rfl rfl)
theorem dX1_sent_44 : decode cX1_sent 44 = .ok (.istore_n 3, 1) := dk_62 (dk_at dksX1_sent_1 22 rfl rfl)
theorem dX1_sent_45 : decode cX1_sent 45 = .ok (.iconst (-1), 1) := dk_2 (dk_at dksX1_sent_1 23 rfl rfl)
theorem dX1_sent_46 : decode cX1_sent 46 = .ok (.istore 4, 2) := dk_54 4 (dk_at dksX1_sent_2 0 rfl rfl)
theorem dX1_sent_48 : decode cX1_sent 48 = .ok (.iconst 0, 1) := dk_3 (dk_at dksX1_sent_2 2 rfl rfl)
theorem dX1_sent_49 : decode cX1_sent 49 = .ok (.istore 5, 2) := dk_54 5 (dk_at dksX1_sent_2 3 rfl rfl)
theorem dX1_sent_51 : decode cX1_sent 51 = .ok (.iload 5, 2) := dk_21 5 (dk_at dksX1_sent_2 5 rfl rfl)
theorem dX1_sent_53 : decode cX1_sent 53 = .ok (.bipush 60, 2) := dk_16 60 (dk_at dksX1_sent_2 7 rfl rfl)
theorem dX1_sent_55 : decode cX1_sent 55 = .ok (.if_icmp .gt 82, 3) := dk_163 0 82 (dk_at dksX1_sent_2 9 rfl rfl)
theorem dX1_sent_58 : decode cX1_sent 58 = .ok (.iconst 0, 1) := dk_3 (dk_at dksX1_sent_2 12 rfl rfl)
theorem dX1_sent_59 : decode cX1_sent 59 = .ok (.istore 6, 2) := dk_54 6 (dk_at dksX1_sent_2 13 rfl rfl)
theorem dX1_sent_61 : decode cX1_sent 61 = .ok (.iload 6, 2) := dk_21 6 (dk_at dksX1_sent_2 15 rfl rfl)
theorem dX1_sent_63 : decode cX1_sent 63 = .ok (.aload_n 0, 1) := dk_42 (dk_at dksX1_sent_2 17 rfl rfl)
theorem dX1_sent_64 : decode cX1_sent 64 = .ok (.getfield 10, 3) := dk_180 0 10 (dk_at dksX1_sent_2 18 rfl rfl)
theorem dX1_sent_67 : decode cX1_sent 67 = .ok (.getfield 77, 3) := dk_180 0 77 (dk_at dksX1_sent_2 21 rfl rfl)
theorem dX1_sent_70 : decode cX1_sent 70 = .ok (.if_icmp .ge 61, 3) := dk_162 0 61 (dk_at dksX1_sent_3 0 rfl rfl)
theorem dX1_sent_73 : decode cX1_sent 73 = .ok (.aload_n 0, 1) := dk_42 (dk_at dksX1_sent_3 3 rfl rfl)
theorem dX1_sent_74 : decode cX1_sent 74 = .ok (.getfield 34, 3) := dk_180 0 34 (dk_at dksX1_sent_3 4 rfl rfl)
theorem dX1_sent_77 : decode cX1_sent 77 = .ok (.aload_n 0, 1) := dk_42 (dk_at dksX1_sent_3 7 rfl rfl)
theorem dX1_sent_78 : decode cX1_sent 78 = .ok (.getfield 30, 3) := dk_180 0 30 (dk_at dksX1_sent_3 8 rfl rfl)
theorem dX1_sent_81 : decode cX1_sent 81 = .ok (.invokevirtual 135, 3) := dk_182 0 135 (dk_at dksX1_sent_3 11 rfl rfl)
theorem dX1_sent_84 : decode cX1_sent 84 = .ok (.aload_n 0, 1) := dk_42 (dk_at dksX1_sent_3 14 rfl rfl)
theorem dX1_sent_85 : decode cX1_sent 85 = .ok (.getfield 34, 3) := dk_180 0 34 (dk_at dksX1_sent_3 15 rfl rfl)
theorem dX1_sent_88 : decode cX1_sent 88 = .ok (.iload_n 1, 1) := dk_27 (dk_at dksX1_sent_3 18 rfl rfl)
theorem dX1_sent_89 : decode cX1_sent 89 = .ok (.iload 6, 2) := dk_21 6 (dk_at dksX1_sent_3 19 rfl rfl)
theorem dX1_sent_91 : decode cX1_sent 91 = .ok (.iload 5, 2) := dk_21 5 (dk_at dksX1_sent_3 21 rfl rfl)
theorem dX1_sent_93 : decode cX1_sent 93 = .ok (.invokevirtual 241, 3) := dk_182 0 241 (dk_at dksX1_sent_4 0 rfl rfl)
theorem dX1_sent_96 : decode cX1_sent 96 = .ok (.aload_n 0, 1) := dk_42 (dk_at dksX1_sent_4 3 rfl rfl)
theorem dX1_sent_97 : decode cX1_sent 97 = .ok (.invokevirtual 292, 3) := dk_182 1 36 (dk_at dksX1_sent_4 4 rfl rfl)
theorem dX1_sent_100 : decode cX1_sent 100 = .ok (.ifCond .ne 6, 3) := dk_154 0 6 (dk_at dksX1_sent_4 7 rfl rfl)
theorem dX1_sent_103 : decode cX1_sent 103 = .ok (.goto 22, 3) := dk_167 0 22 (dk_at dksX1_sent_4 10 rfl rfl)
theorem dX1_sent_106 : decode cX1_sent 106 = .ok (.iinc 3 1, 3) := dk_132 3 1 (dk_at dksX1_sent_4 13 rfl rfl)
theorem dX1_sent_109 : decode cX1_sent 109 = .ok (.iload 4, 2) := dk_21 4 (dk_at dksX1_sent_4 16 rfl rfl)
theorem dX1_sent_111 : decode cX1_sent 111 = .ok (.iconst (-1), 1) := dk_2 (dk_at dksX1_sent_4 18 rfl rfl)
theorem dX1_sent_112 : decode cX1_sent 112 = .ok (.if_icmp .ne 13, 3) := dk_160 0 13 (dk_at dksX1_sent_4 19 rfl rfl)
theorem dX1_sent_115 : decode cX1_sent 115 = .ok (.bipush 100, 2) := dk_16 100 (dk_at dksX1_sent_4 22 rfl rfl)
theorem dX1_sent_117 : decode cX1_sent 117 = .ok (.iload 5, 2) := dk_21 5 (dk_at dksX1_sent_5 0 rfl rfl)
theorem dX1_sent_119 : decode cX1_sent 119 = .ok (.imul, 1) := dk_104 (dk_at dksX1_sent_5 2 rfl rfl)
theorem dX1_sent_120 : decode cX1_sent 120 = .ok (.iload 6, 2) := dk_21 6 (dk_at dksX1_sent_5 3 rfl rfl)
theorem dX1_sent_122 : decode cX1_sent 122 = .ok (.iadd, 1) := dk_96 (dk_at dksX1_sent_5 5 rfl rfl)
theorem dX1_sent_123 : decode cX1_sent 123 = .ok (.istore 4, 2) := dk_54 4 (dk_at dksX1_sent_5 6 rfl rfl)
theorem dX1_sent_125 : decode cX1_sent 125 = .ok (.iinc 6 1, 3) := dk_132 6 1 (dk_at dksX1_sent_5 8 rfl rfl)
theorem dX1_sent_128 : decode cX1_sent 128 = .ok (.goto (-67), 3) := dk_167 255 189 (dk_at dksX1_sent_5 11 rfl rfl)
theorem dX1_sent_131 : decode cX1_sent 131 = .ok (.iinc 5 1, 3) := dk_132 5 1 (dk_at dksX1_sent_5 14 rfl rfl)
theorem dX1_sent_134 : decode cX1_sent 134 = .ok (.goto (-83), 3) := dk_167 255 173 (dk_at dksX1_sent_5 17 rfl rfl)
theorem dX1_sent_137 : decode cX1_sent 137 = .ok (.iload_n 2, 1) := dk_28 (dk_at dksX1_sent_5 20 rfl rfl)
theorem dX1_sent_138 : decode cX1_sent 138 = .ok (.ifCond .ne 7, 3) := dk_154 0 7 (dk_at dksX1_sent_5 21 rfl rfl)
theorem dX1_sent_141 : decode cX1_sent 141 = .ok (.iload_n 3, 1) := dk_29 (dk_at dksX1_sent_6 0 rfl rfl)
theorem dX1_sent_142 : decode cX1_sent 142 = .ok (.goto 5, 3) := dk_167 0 5 (dk_at dksX1_sent_6 1 rfl rfl)
theorem dX1_sent_145 : decode cX1_sent 145 = .ok (.iload 4, 2) := dk_21 4 (dk_at dksX1_sent_6 4 rfl rfl)
theorem dX1_sent_147 : decode cX1_sent 147 = .ok (.ireturn, 1) := dk_172 (dk_at dksX1_sent_6 6 rfl rfl)
abbrev cX1_isSeen : ByteArray := prog_1_method_43_code
def yX1_isSeen : MethodName := ⟨RX1, "isSeen", "()Z"⟩
def dkwX1_isSeen_3 : List UInt8 := [4, 172]
abbrev dktX1_isSeen_3 : List UInt8 := dkwX1_isSeen_3 ++ []
def dkwX1_isSeen_2 : List UInt8 := [27, 46, 96, 51, 42, 180, 0, 19, 180, 1, 33, 27, 51, 159, 0, 5, 3, 172, 132, 1, 1, 167, 255, 199]
abbrev dktX1_isSeen_2 : List UInt8 := dkwX1_isSeen_2 ++ dktX1_isSeen_3
def dkwX1_isSeen_1 : List UInt8 := [180, 0, 42, 180, 0, 213, 8, 42, 180, 0, 19, 180, 1, 27, 27, 46, 104, 42, 180, 0, 19, 180, 1, 30]
abbrev dktX1_isSeen_1 : List UInt8 := dkwX1_isSeen_1 ++ dktX1_isSeen_2
def dkwX1_isSeen_0 : List UInt8 := [42, 180, 0, 42, 182, 0, 139, 87, 3, 60, 27, 42, 180, 0, 19, 180, 0, 128, 162, 0, 52, 42]
abbrev dktX1_isSeen_0 : List UInt8 := dkwX1_isSeen_0 ++ dktX1_isSeen_1
theorem dksX1_isSeen_0 : cX1_isSeen.data.toList.drop 0 = dktX1_isSeen_0 := by decide +kernel
theorem dksX1_isSeen_1 : cX1_isSeen.data.toList.drop 22 = dktX1_isSeen_1 := dk_seg dksX1_isSeen_0 22 rfl rfl
theorem dksX1_isSeen_2 : cX1_isSeen.data.toList.drop 46 = dktX1_isSeen_2 := dk_seg dksX1_isSeen_1 24 rfl rfl
theorem dksX1_isSeen_3 : cX1_isSeen.data.toList.drop 70 = dktX1_isSeen_3 := dk_seg dksX1_isSeen_2 24 rfl rfl
theorem dX1_isSeen_0 : decode cX1_isSeen 0 = .ok (.aload_n 0, 1) := dk_42 (dk_at dksX1_isSeen_0 0 rfl rfl)
theorem dX1_isSeen_1 : decode cX1_isSeen 1 = .ok (.getfield 42, 3) := dk_180 0 42 (dk_at dksX1_isSeen_0 1 rfl rfl)
theorem dX1_isSeen_4 : decode cX1_isSeen 4 = .ok (.invokevirtual 139, 3) := dk_182 0 139 (dk_at dksX1_isSeen_0 4 rfl rfl)
theorem dX1_isSeen_7 : decode cX1_isSeen 7 = .ok (.pop, 1) := dk_87 (dk_at dksX1_isSeen_0 7 rfl rfl)
theorem dX1_isSeen_8 : decode cX1_isSeen 8 = .ok (.iconst 0, 1) := dk_3 (dk_at dksX1_isSeen_0 8 rfl rfl)
theorem dX1_isSeen_9 : decode cX1_isSeen 9 = .ok (.istore_n 1, 1) := dk_60 (dk_at dksX1_isSeen_0 9 rfl rfl)
theorem dX1_isSeen_10 : decode cX1_isSeen 10 = .ok (.iload_n 1, 1) := dk_27 (dk_at dksX1_isSeen_0 10 rfl rfl)
theorem dX1_isSeen_11 : decode cX1_isSeen 11 = .ok (.aload_n 0, 1) := dk_42 (dk_at dksX1_isSeen_0 11 rfl rfl)
theorem dX1_isSeen_12 : decode cX1_isSeen 12 = .ok (.getfield 19, 3) := dk_180 0 19 (dk_at dksX1_isSeen_0 12 rfl rfl)
theorem dX1_isSeen_15 : decode cX1_isSeen 15 = .ok (.getfield 128, 3) := dk_180 0 128 (dk_at dksX1_isSeen_0 15 rfl rfl)
theorem dX1_isSeen_18 : decode cX1_isSeen 18 = .ok (.if_icmp .ge 52, 3) := dk_162 0 52 (dk_at dksX1_isSeen_0 18 rfl rfl)
theorem dX1_isSeen_21 : decode cX1_isSeen 21 = .ok (.aload_n 0, 1) := dk_42 (dk_at dksX1_isSeen_0 21 rfl rfl)
theorem dX1_isSeen_22 : decode cX1_isSeen 22 = .ok (.getfield 42, 3) := dk_180 0 42 (dk_at dksX1_isSeen_1 0 rfl rfl)
theorem dX1_isSeen_25 : decode cX1_isSeen 25 = .ok (.getfield 213, 3) := dk_180 0 213 (dk_at dksX1_isSeen_1 3 rfl rfl)
theorem dX1_isSeen_28 : decode cX1_isSeen 28 = .ok (.iconst 5, 1) := dk_8 (dk_at dksX1_isSeen_1 6 rfl rfl)
theorem dX1_isSeen_29 : decode cX1_isSeen 29 = .ok (.aload_n 0, 1) := dk_42 (dk_at dksX1_isSeen_1 7 rfl rfl)
theorem dX1_isSeen_30 : decode cX1_isSeen 30 = .ok (.getfield 19, 3) := dk_180 0 19 (dk_at dksX1_isSeen_1 8 rfl rfl)
theorem dX1_isSeen_33 : decode cX1_isSeen 33 = .ok (.getfield 283, 3) := dk_180 1 27 (dk_at dksX1_isSeen_1 11 rfl rfl)
theorem dX1_isSeen_36 : decode cX1_isSeen 36 = .ok (.iload_n 1, 1) := dk_27 (dk_at dksX1_isSeen_1 14 rfl rfl)
theorem dX1_isSeen_37 : decode cX1_isSeen 37 = .ok (.iaload, 1) := dk_46 (dk_at dksX1_isSeen_1 15 rfl rfl)
theorem dX1_isSeen_38 : decode cX1_isSeen 38 = .ok (.imul, 1) := dk_104 (dk_at dksX1_isSeen_1 16 rfl rfl)
theorem dX1_isSeen_39 : decode cX1_isSeen 39 = .ok (.aload_n 0, 1) := dk_42 (dk_at dksX1_isSeen_1 17 rfl rfl)
theorem dX1_isSeen_40 : decode cX1_isSeen 40 = .ok (.getfield 19, 3) := dk_180 0 19 (dk_at dksX1_isSeen_1 18 rfl rfl)
theorem dX1_isSeen_43 : decode cX1_isSeen 43 = .ok (.getfield 286, 3) := dk_180 1 30 (dk_at dksX1_isSeen_1 21 rfl rfl)
theorem dX1_isSeen_46 : decode cX1_isSeen 46 = .ok (.iload_n 1, 1) := dk_27 (dk_at dksX1_isSeen_2 0 rfl rfl)
theorem dX1_isSeen_47 : decode cX1_isSeen 47 = .ok (.iaload, 1) := dk_46 (dk_at dksX1_isSeen_2 1 rfl rfl)
theorem dX1_isSeen_48 : decode cX1_isSeen 48 = .ok (.iadd, 1) := dk_96 (dk_at dksX1_isSeen_2 2 rfl rfl)
theorem dX1_isSeen_49 : decode cX1_isSeen 49 = .ok (.baload, 1) := dk_51 (dk_at dksX1_isSeen_2 3 rfl rfl)
theorem dX1_isSeen_50 : decode cX1_isSeen 50 = .ok (.aload_n 0, 1) := dk_42 (dk_at dksX1_isSeen_2 4 rfl rfl)
theorem dX1_isSeen_51 : decode cX1_isSeen 51 = .ok (.getfield 19, 3) := dk_180 0 19 (dk_at dksX1_isSeen_2 5 rfl rfl)
theorem dX1_isSeen_54 : decode cX1_isSeen 54 = .ok (.getfield 289, 3) := dk_180 1 33 (dk_at dksX1_isSeen_2 8 rfl rfl)
theorem dX1_isSeen_57 : decode cX1_isSeen 57 = .ok (.iload_n 1, 1) := dk_27 (dk_at dksX1_isSeen_2 11 rfl rfl)
theorem dX1_isSeen_58 : decode cX1_isSeen 58 = .ok (.baload, 1) := dk_51 (dk_at dksX1_isSeen_2 12 rfl rfl)
theorem dX1_isSeen_59 : decode cX1_isSeen 59 = .ok (.if_icmp .eq 5, 3) := dk_159 0 5 (dk_at dksX1_isSeen_2 13 rfl rfl)
theorem dX1_isSeen_62 : decode cX1_isSeen 62 = .ok (.iconst 0, 1) := dk_3 (dk_at dksX1_isSeen_2 16 rfl rfl)
theorem dX1_isSeen_63 : decode cX1_isSeen 63 = .ok (.ireturn, 1) := dk_172 (dk_at dksX1_isSeen_2 17 rfl rfl)
theorem dX1_isSeen_64 : decode cX1_isSeen 64 = .ok (.iinc 1 1, 3) := dk_132 1 1 (dk_at dksX1_isSeen_2 18 rfl rfl)
theorem dX1_isSeen_67 : decode cX1_isSeen 67 = .ok (.goto (-57), 3) := dk_167 255 199 (dk_at dksX1_isSeen_2 21 rfl rfl)
theorem dX1_isSeen_70 : decode cX1_isSeen 70 = .ok (.iconst 1, 1) := dk_4 (dk_at dksX1_isSeen_3 0 rfl rfl)
theorem dX1_isSeen_71 : decode cX1_isSeen 71 = .ok (.ireturn, 1) := dk_172 (dk_at dksX1_isSeen_3 1 rfl rfl)
abbrev cX1_game : ByteArray := prog_1_method_46_code
def yX1_game : MethodName := ⟨RX1, "game", "(II)I"⟩
def dkwX1_game_8 : List UInt8 := [132, 7, 1, 167, 255, 143, 28, 154, 0, 8, 21, 5, 167, 0, 5, 21, 6, 172]
abbrev dktX1_game_8 : List UInt8 := dkwX1_game_8 ++ []
def dkwX1_game_7 : List UInt8 := [132, 5, 1, 21, 6, 2, 160, 0, 17, 16, 10, 21, 7, 29, 108, 104, 21, 7, 29, 112, 96, 54, 6]
abbrev dktX1_game_7 : List UInt8 := dkwX1_game_7 ++ dktX1_game_8
def dkwX1_game_6 : List UInt8 := [154, 0, 7, 4, 167, 0, 4, 3, 54, 8, 132, 9, 1, 167, 255, 194, 21, 8, 154, 0, 6, 167, 0, 26]
abbrev dktX1_game_6 : List UInt8 := dkwX1_game_6 ++ dktX1_game_7
def dkwX1_game_5 : List UInt8 := [21, 9, 96, 51, 153, 0, 25, 167, 0, 18, 25, 4, 21, 9, 29, 104, 21, 7, 29, 112, 96, 51]
abbrev dktX1_game_5 : List UInt8 := dkwX1_game_5 ++ dktX1_game_6
def dkwX1_game_4 : List UInt8 := [162, 0, 62, 21, 8, 153, 0, 48, 25, 4, 21, 7, 51, 153, 0, 21, 25, 4, 21, 7, 29, 108, 29, 104]
abbrev dktX1_game_4 : List UInt8 := dkwX1_game_4 ++ dktX1_game_5
def dkwX1_game_3 : List UInt8 := [54, 6, 3, 54, 7, 21, 7, 29, 29, 104, 162, 0, 111, 4, 54, 8, 3, 54, 9, 21, 9, 29]
abbrev dktX1_game_3 : List UInt8 := dkwX1_game_3 ++ dktX1_game_4
def dkwX1_game_2 : List UInt8 := [27, 21, 5, 29, 108, 21, 5, 29, 112, 182, 1, 39, 84, 132, 5, 1, 167, 255, 227, 3, 54, 5, 2]
abbrev dktX1_game_2 : List UInt8 := dkwX1_game_2 ++ dktX1_game_3
def dkwX1_game_1 : List UInt8 := [62, 29, 29, 104, 188, 4, 58, 4, 3, 54, 5, 21, 5, 29, 29, 104, 162, 0, 27, 25, 4, 21, 5, 42]
abbrev dktX1_game_1 : List UInt8 := dkwX1_game_1 ++ dktX1_game_2
def dkwX1_game_0 : List UInt8 := [42, 27, 182, 0, 200, 28, 3, 4, 184, 0, 142, 184, 0, 80, 42, 180, 0, 10, 180, 0, 86, 182, 0, 71]
abbrev dktX1_game_0 : List UInt8 := dkwX1_game_0 ++ dktX1_game_1
theorem dksX1_game_0 : cX1_game.data.toList.drop 0 = dktX1_game_0 := by decide +kernel
theorem dksX1_game_1 : cX1_game.data.toList.drop 24 = dktX1_game_1 := dk_seg dksX1_game_0 24 rfl rfl
theorem dksX1_game_2 : cX1_game.data.toList.drop 48 = dktX1_game_2 := dk_seg dksX1_game_1 24 rfl rfl
theorem dksX1_game_3 : cX1_game.data.toList.drop 71 = dktX1_game_3 := dk_seg dksX1_game_2 23 rfl rfl
theorem dksX1_game_4 : cX1_game.data.toList.drop 93 = dktX1_game_4 := dk_seg dksX1_game_3 22 rfl rfl
theorem dksX1_game_5 : cX1_game.data.toList.drop 117 = dktX1_game_5 := dk_seg dksX1_game_4 24 rfl rfl
theorem dksX1_game_6 : cX1_game.data.toList.drop 139 = dktX1_game_6 := dk_seg dksX1_game_5 22 rfl rfl
theorem dksX1_game_7 : cX1_game.data.toList.drop 163 = dktX1_game_7 := dk_seg dksX1_game_6 24 rfl rfl
theorem dksX1_game_8 : cX1_game.data.toList.drop 186 = dktX1_game_8 := dk_seg dksX1_game_7 23 rfl rfl
theorem dX1_game_0 : decode cX1_game 0 = .ok (.aload_n 0, 1) := dk_42 (dk_at dksX1_game_0 0 rfl rfl)
theorem dX1_game_1 : decode cX1_game 1 = .ok (.iload_n 1, 1) := dk_27 (dk_at dksX1_game_0 1 rfl rfl)
theorem dX1_game_2 : decode cX1_game 2 = .ok (.invokevirtual 200, 3) := dk_182 0 200 (dk_at dksX1_game_0 2 rfl rfl)
theorem dX1_game_5 : decode cX1_game 5 = .ok (.iload_n 2, 1) := dk_28 (dk_at dksX1_game_0 5 rfl rfl)
theorem dX1_game_6 : decode cX1_game 6 = .ok (.iconst 0, 1) := dk_3 (dk_at dksX1_game_0 6 rfl rfl)
theorem dX1_game_7 : decode cX1_game 7 = .ok (.iconst 1, 1) := dk_4 (dk_at dksX1_game_0 7 rfl rfl)
theorem dX1_game_8 : decode cX1_game 8 = .ok (.invokestatic 142, 3) := dk_184 0 142 (dk_at dksX1_game_0 8 rfl rfl)
theorem dX1_game_11 : decode cX1_game 11 = .ok (.invokestatic 80, 3) := dk_184 0 80 (dk_at dksX1_game_0 11 rfl rfl)
theorem dX1_game_14 : decode cX1_game 14 = .ok (.aload_n 0, 1) := dk_42 (dk_at dksX1_game_0 14 rfl rfl)
theorem dX1_game_15 : decode cX1_game 15 = .ok (.getfield 10, 3) := dk_180 0 10 (dk_at dksX1_game_0 15 rfl rfl)
theorem dX1_game_18 : decode cX1_game 18 = .ok (.getfield 86, 3) := dk_180 0 86 (dk_at dksX1_game_0 18 rfl rfl)
theorem dX1_game_21 : decode cX1_game 21 = .ok (.invokevirtual 71, 3) := dk_182 0 71 (dk_at dksX1_game_0 21 rfl rfl)
theorem dX1_game_24 : decode cX1_game 24 = .ok (.istore_n 3, 1) := dk_62 (dk_at dksX1_game_1 0 rfl rfl)
theorem dX1_game_25 : decode cX1_game 25 = .ok (.iload_n 3, 1) := dk_29 (dk_at dksX1_game_1 1 rfl rfl)
theorem dX1_game_26 : decode cX1_game 26 = .ok (.iload_n 3, 1) := dk_29 (dk_at dksX1_game_1 2 rfl rfl)
theorem dX1_game_27 : decode cX1_game 27 = .ok (.imul, 1) := dk_104 (dk_at dksX1_game_1 3 rfl rfl)
theorem dX1_game_28 : decode cX1_game 28 = .ok (.newarray .boolean, 2) := dk_188_4 (dk_at dksX1_game_1 4 rfl rfl)
theorem dX1_game_30 : decode cX1_game 30 = .ok (.astore 4, 2) := dk_58 4 (dk_at dksX1_game_1 6 rfl rfl)
theorem dX1_game_32 : decode cX1_game 32 = .ok (.iconst 0, 1) := dk_3 (dk_at dksX1_game_1 8 rfl rfl)
theorem dX1_game_33 : decode cX1_game 33 = .ok (.istore 5, 2) := dk_54 5 (dk_at dksX1_game_1 9 rfl rfl)
theorem dX1_game_35 : decode cX1_game 35 = .ok (.iload 5, 2) := dk_21 5 (dk_at dksX1_game_1 11 rfl rfl)
theorem dX1_game_37 : decode cX1_game 37 = .ok (.iload_n 3, 1) := dk_29 (dk_at dksX1_game_1 13 rfl rfl)
theorem dX1_game_38 : decode cX1_game 38 = .ok (.iload_n 3, 1) := dk_29 (dk_at dksX1_game_1 14 rfl rfl)
theorem dX1_game_39 : decode cX1_game 39 = .ok (.imul, 1) := dk_104 (dk_at dksX1_game_1 15 rfl rfl)
theorem dX1_game_40 : decode cX1_game 40 = .ok (.if_icmp .ge 27, 3) := dk_162 0 27 (dk_at dksX1_game_1 16 rfl rfl)
theorem dX1_game_43 : decode cX1_game 43 = .ok (.aload 4, 2) := dk_25 4 (dk_at dksX1_game_1 19 rfl rfl)
theorem dX1_game_45 : decode cX1_game 45 = .ok (.iload 5, 2) := dk_21 5 (dk_at dksX1_game_1 21 rfl rfl)
theorem dX1_game_47 : decode cX1_game 47 = .ok (.aload_n 0, 1) := dk_42 (dk_at dksX1_game_1 23 rfl rfl)
theorem dX1_game_48 : decode cX1_game 48 = .ok (.iload_n 1, 1) := dk_27 (dk_at dksX1_game_2 0 rfl rfl)
theorem dX1_game_49 : decode cX1_game 49 = .ok (.iload 5, 2) := dk_21 5 (dk_at dksX1_game_2 1 rfl rfl)
theorem dX1_game_51 : decode cX1_game 51 = .ok (.iload_n 3, 1) := dk_29 (dk_at dksX1_game_2 3 rfl rfl)
theorem dX1_game_52 : decode cX1_game 52 = .ok (.idiv, 1) := dk_108 (dk_at dksX1_game_2 4 rfl rfl)
theorem dX1_game_53 : decode cX1_game 53 = .ok (.iload 5, 2) := dk_21 5 (dk_at dksX1_game_2 5 rfl rfl)
theorem dX1_game_55 : decode cX1_game 55 = .ok (.iload_n 3, 1) := dk_29 (dk_at dksX1_game_2 7 rfl rfl)
theorem dX1_game_56 : decode cX1_game 56 = .ok (.irem, 1) := dk_112 (dk_at dksX1_game_2 8 rfl rfl)
theorem dX1_game_57 : decode cX1_game 57 = .ok (.invokevirtual 295, 3) := dk_182 1 39 (dk_at dksX1_game_2 9 rfl rfl)
theorem dX1_game_60 : decode cX1_game 60 = .ok (.bastore, 1) := dk_84 (dk_at dksX1_game_2 12 rfl rfl)
theorem dX1_game_61 : decode cX1_game 61 = .ok (.iinc 5 1, 3) := dk_132 5 1 (dk_at dksX1_game_2 13 rfl rfl)
theorem dX1_game_64 : decode cX1_game 64 = .ok (.goto (-29), 3) := dk_167 255 227 (dk_at dksX1_game_2 16 rfl rfl)
theorem dX1_game_67 : decode cX1_game 67 = .ok (.iconst 0, 1) := dk_3 (dk_at dksX1_game_2 19 rfl rfl)
theorem dX1_game_68 : decode cX1_game 68 = .ok (.istore 5, 2) := dk_54 5 (dk_at dksX1_game_2 20 rfl rfl)
theorem dX1_game_70 : decode cX1_game 70 = .ok (.iconst (-1), 1) := dk_2 (dk_at dksX1_game_2 22 rfl rfl)
theorem dX1_game_71 : decode cX1_game 71 = .ok (.istore 6, 2) := dk_54 6 (dk_at dksX1_game_3 0 rfl rfl)
theorem dX1_game_73 : decode cX1_game 73 = .ok (.iconst 0, 1) := dk_3 (dk_at dksX1_game_3 2 rfl rfl)
theorem dX1_game_74 : decode cX1_game 74 = .ok (.istore 7, 2) := dk_54 7 (dk_at dksX1_game_3 3 rfl rfl)
theorem dX1_game_76 : decode cX1_game 76 = .ok (.iload 7, 2) := dk_21 7 (dk_at dksX1_game_3 5 rfl rfl)
theorem dX1_game_78 : decode cX1_game 78 = .ok (.iload_n 3, 1) := dk_29 (dk_at dksX1_game_3 7 rfl rfl)
theorem dX1_game_79 : decode cX1_game 79 = .ok (.iload_n 3, 1) := dk_29 (dk_at dksX1_game_3 8 rfl rfl)
theorem dX1_game_80 : decode cX1_game 80 = .ok (.imul, 1) := dk_104 (dk_at dksX1_game_3 9 rfl rfl)
theorem dX1_game_81 : decode cX1_game 81 = .ok (.if_icmp .ge 111, 3) := dk_162 0 111 (dk_at dksX1_game_3 10 rfl rfl)
theorem dX1_game_84 : decode cX1_game 84 = .ok (.iconst 1, 1) := dk_4 (dk_at dksX1_game_3 13 rfl rfl)
theorem dX1_game_85 : decode cX1_game 85 = .ok (.istore 8, 2) := dk_54 8 (dk_at dksX1_game_3 14 rfl rfl)
theorem dX1_game_87 : decode cX1_game 87 = .ok (.iconst 0, 1) := dk_3 (dk_at dksX1_game_3 16 rfl rfl)
theorem dX1_game_88 : decode cX1_game 88 = .ok (.istore 9, 2) := dk_54 9 (dk_at dksX1_game_3 17 rfl rfl)
theorem dX1_game_90 : decode cX1_game 90 = .ok (.iload 9, 2) := dk_21 9 (dk_at dksX1_game_3 19 rfl rfl)
theorem dX1_game_92 : decode cX1_game 92 = .ok (.iload_n 3, 1) := dk_29 (dk_at dksX1_game_3 21 rfl rfl)
theorem dX1_game_93 : decode cX1_game 93 = .ok (.if_icmp .ge 62, 3) := dk_162 0 62 (dk_at dksX1_game_4 0 rfl rfl)
theorem dX1_game_96 : decode cX1_game 96 = .ok (.iload 8, 2) := dk_21 8 (dk_at dksX1_game_4 3 rfl rfl)
theorem dX1_game_98 : decode cX1_game 98 = .ok (.ifCond .eq 48, 3) := dk_153 0 48 (dk_at dksX1_game_4 5 rfl rfl)
theorem dX1_game_101 : decode cX1_game 101 = .ok (.aload 4, 2) := dk_25 4 (dk_at dksX1_game_4 8 rfl rfl)
theorem dX1_game_103 : decode cX1_game 103 = .ok (.iload 7, 2) := dk_21 7 (dk_at dksX1_game_4 10 rfl rfl)
theorem dX1_game_105 : decode cX1_game 105 = .ok (.baload, 1) := dk_51 (dk_at dksX1_game_4 12 rfl rfl)
theorem dX1_game_106 : decode cX1_game 106 = .ok (.ifCond .eq 21, 3) := dk_153 0 21 (dk_at dksX1_game_4 13 rfl rfl)
theorem dX1_game_109 : decode cX1_game 109 = .ok (.aload 4, 2) := dk_25 4 (dk_at dksX1_game_4 16 rfl rfl)
theorem dX1_game_111 : decode cX1_game 111 = .ok (.iload 7, 2) := dk_21 7 (dk_at dksX1_game_4 18 rfl rfl)
theorem dX1_game_113 : decode cX1_game 113 = .ok (.iload_n 3, 1) := dk_29 (dk_at dksX1_game_4 20 rfl rfl)
theorem dX1_game_114 : decode cX1_game 114 = .ok (.idiv, 1) := dk_108 (dk_at dksX1_game_4 21 rfl rfl)
theorem dX1_game_115 : decode cX1_game 115 = .ok (.iload_n 3, 1) := dk_29 (dk_at dksX1_game_4 22 rfl rfl)
theorem dX1_game_116 : decode cX1_game 116 = .ok (.imul, 1) := dk_104 (dk_at dksX1_game_4 23 rfl rfl)
theorem dX1_game_117 : decode cX1_game 117 = .ok (.iload 9, 2) := dk_21 9 (dk_at dksX1_game_5 0 rfl rfl)
theorem dX1_game_119 : decode cX1_game 119 = .ok (.iadd, 1) := dk_96 (dk_at dksX1_game_5 2 rfl rfl)
theorem dX1_game_120 : decode cX1_game 120 = .ok (.baload, 1) := dk_51 (dk_at dksX1_game_5 3 rfl rfl)
theorem dX1_game_121 : decode cX1_game 121 = .ok (.ifCond .eq 25, 3) := dk_153 0 25 (dk_at dksX1_game_5 4 rfl rfl)
theorem dX1_game_124 : decode cX1_game 124 = .ok (.goto 18, 3) := dk_167 0 18 (dk_at dksX1_game_5 7 rfl rfl)
theorem dX1_game_127 : decode cX1_game 127 = .ok (.aload 4, 2) := dk_25 4 (dk_at dksX1_game_5 10 rfl rfl)
theorem dX1_game_129 : decode cX1_game 129 = .ok (.iload 9, 2) := dk_21 9 (dk_at dksX1_game_5 12 rfl rfl)
theorem dX1_game_131 : decode cX1_game 131 = .ok (.iload_n 3, 1) := dk_29 (dk_at dksX1_game_5 14 rfl rfl)
theorem dX1_game_132 : decode cX1_game 132 = .ok (.imul, 1) := dk_104 (dk_at dksX1_game_5 15 rfl rfl)
theorem dX1_game_133 : decode cX1_game 133 = .ok (.iload 7, 2) := dk_21 7 (dk_at dksX1_game_5 16 rfl rfl)
theorem dX1_game_135 : decode cX1_game 135 = .ok (.iload_n 3, 1) := dk_29 (dk_at dksX1_game_5 18 rfl rfl)
theorem dX1_game_136 : decode cX1_game 136 = .ok (.irem, 1) := dk_112 (dk_at dksX1_game_5 19 rfl rfl)
theorem dX1_game_137 : decode cX1_game 137 = .ok (.iadd, 1) := dk_96 (dk_at dksX1_game_5 20 rfl rfl)
theorem dX1_game_138 : decode cX1_game 138 = .ok (.baload, 1) := dk_51 (dk_at dksX1_game_5 21 rfl rfl)
theorem dX1_game_139 : decode cX1_game 139 = .ok (.ifCond .ne 7, 3) := dk_154 0 7 (dk_at dksX1_game_6 0 rfl rfl)
theorem dX1_game_142 : decode cX1_game 142 = .ok (.iconst 1, 1) := dk_4 (dk_at dksX1_game_6 3 rfl rfl)
theorem dX1_game_143 : decode cX1_game 143 = .ok (.goto 4, 3) := dk_167 0 4 (dk_at dksX1_game_6 4 rfl rfl)
theorem dX1_game_146 : decode cX1_game 146 = .ok (.iconst 0, 1) := dk_3 (dk_at dksX1_game_6 7 rfl rfl)
theorem dX1_game_147 : decode cX1_game 147 = .ok (.istore 8, 2) := dk_54 8 (dk_at dksX1_game_6 8 rfl rfl)
theorem dX1_game_149 : decode cX1_game 149 = .ok (.iinc 9 1, 3) := dk_132 9 1 (dk_at dksX1_game_6 10 rfl rfl)
theorem dX1_game_152 : decode cX1_game 152 = .ok (.goto (-62), 3) := dk_167 255 194 (dk_at dksX1_game_6 13 rfl rfl)
theorem dX1_game_155 : decode cX1_game 155 = .ok (.iload 8, 2) := dk_21 8 (dk_at dksX1_game_6 16 rfl rfl)
theorem dX1_game_157 : decode cX1_game 157 = .ok (.ifCond .ne 6, 3) := dk_154 0 6 (dk_at dksX1_game_6 18 rfl rfl)
theorem dX1_game_160 : decode cX1_game 160 = .ok (.goto 26, 3) := dk_167 0 26 (dk_at dksX1_game_6 21 rfl rfl)
theorem dX1_game_163 : decode cX1_game 163 = .ok (.iinc 5 1, 3) := dk_132 5 1 (dk_at dksX1_game_7 0 rfl rfl)
theorem dX1_game_166 : decode cX1_game 166 = .ok (.iload 6, 2) := dk_21 6 (dk_at dksX1_game_7 3 rfl rfl)
theorem dX1_game_168 : decode cX1_game 168 = .ok (.iconst (-1), 1) := dk_2 (dk_at dksX1_game_7 5 rfl rfl)
theorem dX1_game_169 : decode cX1_game 169 = .ok (.if_icmp .ne 17, 3) := dk_160 0 17 (dk_at dksX1_game_7 6 rfl rfl)
theorem dX1_game_172 : decode cX1_game 172 = .ok (.bipush 10, 2) := dk_16 10 (dk_at dksX1_game_7 9 rfl rfl)
theorem dX1_game_174 : decode cX1_game 174 = .ok (.iload 7, 2) := dk_21 7 (dk_at dksX1_game_7 11 rfl rfl)
theorem dX1_game_176 : decode cX1_game 176 = .ok (.iload_n 3, 1) := dk_29 (dk_at dksX1_game_7 13 rfl rfl)
theorem dX1_game_177 : decode cX1_game 177 = .ok (.idiv, 1) := dk_108 (dk_at dksX1_game_7 14 rfl rfl)
theorem dX1_game_178 : decode cX1_game 178 = .ok (.imul, 1) := dk_104 (dk_at dksX1_game_7 15 rfl rfl)
theorem dX1_game_179 : decode cX1_game 179 = .ok (.iload 7, 2) := dk_21 7 (dk_at dksX1_game_7 16 rfl rfl)
theorem dX1_game_181 : decode cX1_game 181 = .ok (.iload_n 3, 1) := dk_29 (dk_at dksX1_game_7 18 rfl rfl)
theorem dX1_game_182 : decode cX1_game 182 = .ok (.irem, 1) := dk_112 (dk_at dksX1_game_7 19 rfl rfl)
theorem dX1_game_183 : decode cX1_game 183 = .ok (.iadd, 1) := dk_96 (dk_at dksX1_game_7 20 rfl rfl)
theorem dX1_game_184 : decode cX1_game 184 = .ok (.istore 6, 2) := dk_54 6 (dk_at dksX1_game_7 21 rfl rfl)
theorem dX1_game_186 : decode cX1_game 186 = .ok (.iinc 7 1, 3) := dk_132 7 1 (dk_at dksX1_game_8 0 rfl rfl)
theorem dX1_game_189 : decode cX1_game 189 = .ok (.goto (-113), 3) := dk_167 255 143 (dk_at dksX1_game_8 3 rfl rfl)
theorem dX1_game_192 : decode cX1_game 192 = .ok (.iload_n 2, 1) := dk_28 (dk_at dksX1_game_8 6 rfl rfl)
theorem dX1_game_193 : decode cX1_game 193 = .ok (.ifCond .ne 8, 3) := dk_154 0 8 (dk_at dksX1_game_8 7 rfl rfl)
theorem dX1_game_196 : decode cX1_game 196 = .ok (.iload 5, 2) := dk_21 5 (dk_at dksX1_game_8 10 rfl rfl)
theorem dX1_game_198 : decode cX1_game 198 = .ok (.goto 5, 3) := dk_167 0 5 (dk_at dksX1_game_8 12 rfl rfl)
theorem dX1_game_201 : decode cX1_game 201 = .ok (.iload 6, 2) := dk_21 6 (dk_at dksX1_game_8 15 rfl rfl)
theorem dX1_game_203 : decode cX1_game 203 = .ok (.ireturn, 1) := dk_172 (dk_at dksX1_game_8 17 rfl rfl)
abbrev cX1_wins : ByteArray := prog_1_method_45_code
def yX1_wins : MethodName := ⟨RX1, "wins", "(III)Z"⟩
def dkwX1_wins_2 : List UInt8 := [181, 1, 11, 42, 180, 0, 34, 4, 29, 120, 181, 1, 14, 42, 27, 182, 0, 255, 172]
abbrev dktX1_wins_2 : List UInt8 := dkwX1_wins_2 ++ []
def dkwX1_wins_1 : List UInt8 := [192, 0, 93, 182, 1, 20, 153, 0, 13, 42, 180, 0, 34, 4, 28, 120, 181, 1, 24, 42, 180, 0, 34, 27]
abbrev dktX1_wins_1 : List UInt8 := dkwX1_wins_1 ++ dktX1_wins_2
def dkwX1_wins_0 : List UInt8 := [42, 180, 0, 34, 42, 180, 0, 30, 182, 0, 135, 42, 180, 0, 10, 180, 0, 86, 28, 182, 0, 89]
abbrev dktX1_wins_0 : List UInt8 := dkwX1_wins_0 ++ dktX1_wins_1
theorem dksX1_wins_0 : cX1_wins.data.toList.drop 0 = dktX1_wins_0 := by decide +kernel
theorem dksX1_wins_1 : cX1_wins.data.toList.drop 22 = dktX1_wins_1 := dk_seg dksX1_wins_0 22 rfl rfl
theorem dksX1_wins_2 : cX1_wins.data.toList.drop 46 = dktX1_wins_2 := dk_seg dksX1_wins_1 24 rfl rfl
theorem dX1_wins_0 : decode cX1_wins 0 = .ok (.aload_n 0, 1) := dk_42 (dk_at dksX1_wins_0 0 rfl rfl)
theorem dX1_wins_1 : decode cX1_wins 1 = .ok (.getfield 34, 3) := dk_180 0 34 (dk_at dksX1_wins_0 1 rfl rfl)
theorem dX1_wins_4 : decode cX1_wins 4 = .ok (.aload_n 0, 1) := dk_42 (dk_at dksX1_wins_0 4 rfl rfl)
theorem dX1_wins_5 : decode cX1_wins 5 = .ok (.getfield 30, 3) := dk_180 0 30 (dk_at dksX1_wins_0 5 rfl rfl)
theorem dX1_wins_8 : decode cX1_wins 8 = .ok (.invokevirtual 135, 3) := dk_182 0 135 (dk_at dksX1_wins_0 8 rfl rfl)
theorem dX1_wins_11 : decode cX1_wins 11 = .ok (.aload_n 0, 1) := dk_42 (dk_at dksX1_wins_0 11 rfl rfl)
theorem dX1_wins_12 : decode cX1_wins 12 = .ok (.getfield 10, 3) := dk_180 0 10 (dk_at dksX1_wins_0 12 rfl rfl)
theorem dX1_wins_15 : decode cX1_wins 15 = .ok (.getfield 86, 3) := dk_180 0 86 (dk_at dksX1_wins_0 15 rfl rfl)
theorem dX1_wins_18 : decode cX1_wins 18 = .ok (.iload_n 2, 1) := dk_28 (dk_at dksX1_wins_0 18 rfl rfl)
theorem dX1_wins_19 : decode cX1_wins 19 = .ok (.invokevirtual 89, 3) := dk_182 0 89 (dk_at dksX1_wins_0 19 rfl rfl)
theorem dX1_wins_22 : decode cX1_wins 22 = .ok (.checkcast 93, 3) := dk_192 0 93 (dk_at dksX1_wins_1 0 rfl rfl)
theorem dX1_wins_25 : decode cX1_wins 25 = .ok (.invokevirtual 276, 3) := dk_182 1 20 (dk_at dksX1_wins_1 3 rfl rfl)
theorem dX1_wins_28 : decode cX1_wins 28 = .ok (.ifCond .eq 13, 3) := dk_153 0 13 (dk_at dksX1_wins_1 6 rfl rfl)
theorem dX1_wins_31 : decode cX1_wins 31 = .ok (.aload_n 0, 1) := dk_42 (dk_at dksX1_wins_1 9 rfl rfl)
theorem dX1_wins_32 : decode cX1_wins 32 = .ok (.getfield 34, 3) := dk_180 0 34 (dk_at dksX1_wins_1 10 rfl rfl)
theorem dX1_wins_35 : decode cX1_wins 35 = .ok (.iconst 1, 1) := dk_4 (dk_at dksX1_wins_1 13 rfl rfl)
theorem dX1_wins_36 : decode cX1_wins 36 = .ok (.iload_n 2, 1) := dk_28 (dk_at dksX1_wins_1 14 rfl rfl)
theorem dX1_wins_37 : decode cX1_wins 37 = .ok (.ishl, 1) := dk_120 (dk_at dksX1_wins_1 15 rfl rfl)
theorem dX1_wins_38 : decode cX1_wins 38 = .ok (.putfield 280, 3) := dk_181 1 24 (dk_at dksX1_wins_1 16 rfl rfl)
theorem dX1_wins_41 : decode cX1_wins 41 = .ok (.aload_n 0, 1) := dk_42 (dk_at dksX1_wins_1 19 rfl rfl)
theorem dX1_wins_42 : decode cX1_wins 42 = .ok (.getfield 34, 3) := dk_180 0 34 (dk_at dksX1_wins_1 20 rfl rfl)
theorem dX1_wins_45 : decode cX1_wins 45 = .ok (.iload_n 1, 1) := dk_27 (dk_at dksX1_wins_1 23 rfl rfl)
theorem dX1_wins_46 : decode cX1_wins 46 = .ok (.putfield 267, 3) := dk_181 1 11 (dk_at dksX1_wins_2 0 rfl rfl)
theorem dX1_wins_49 : decode cX1_wins 49 = .ok (.aload_n 0, 1) := dk_42 (dk_at dksX1_wins_2 3 rfl rfl)
theorem dX1_wins_50 : decode cX1_wins 50 = .ok (.getfield 34, 3) := dk_180 0 34 (dk_at dksX1_wins_2 4 rfl rfl)
theorem dX1_wins_53 : decode cX1_wins 53 = .ok (.iconst 1, 1) := dk_4 (dk_at dksX1_wins_2 7 rfl rfl)
theorem dX1_wins_54 : decode cX1_wins 54 = .ok (.iload_n 3, 1) := dk_29 (dk_at dksX1_wins_2 8 rfl rfl)
theorem dX1_wins_55 : decode cX1_wins 55 = .ok (.ishl, 1) := dk_120 (dk_at dksX1_wins_2 9 rfl rfl)
theorem dX1_wins_56 : decode cX1_wins 56 = .ok (.putfield 270, 3) := dk_181 1 14 (dk_at dksX1_wins_2 10 rfl rfl)
theorem dX1_wins_59 : decode cX1_wins 59 = .ok (.aload_n 0, 1) := dk_42 (dk_at dksX1_wins_2 13 rfl rfl)
theorem dX1_wins_60 : decode cX1_wins 60 = .ok (.iload_n 1, 1) := dk_27 (dk_at dksX1_wins_2 14 rfl rfl)
theorem dX1_wins_61 : decode cX1_wins 61 = .ok (.invokevirtual 255, 3) := dk_182 0 255 (dk_at dksX1_wins_2 15 rfl rfl)
theorem dX1_wins_64 : decode cX1_wins 64 = .ok (.ireturn, 1) := dk_172 (dk_at dksX1_wins_2 18 rfl rfl)
abbrev cX1_season : ByteArray := prog_1_method_48_code
def yX1_season : MethodName := ⟨RX1, "season", "(III)I"⟩
def dkwX1_season_8 : List UInt8 := [167, 0, 5, 21, 6, 172]
abbrev dktX1_season_8 : List UInt8 := dkwX1_season_8 ++ []
def dkwX1_season_7 : List UInt8 := [132, 7, 1, 167, 255, 126, 29, 154, 0, 8, 21, 4, 167, 0, 15, 29, 4, 160, 0, 8, 21, 5]
abbrev dktX1_season_7 : List UInt8 := dkwX1_season_7 ++ dktX1_season_8
def dkwX1_season_6 : List UInt8 := [167, 0, 10, 21, 5, 21, 8, 184, 0, 226, 54, 5, 21, 8, 42, 182, 0, 84, 160, 0, 6, 132, 6, 1]
abbrev dktX1_season_6 : List UInt8 := dkwX1_season_6 ++ dktX1_season_7
def dkwX1_season_5 : List UInt8 := [180, 0, 42, 182, 0, 139, 54, 8, 21, 4, 21, 8, 96, 54, 4, 21, 7, 154, 0, 8, 21, 8]
abbrev dktX1_season_5 : List UInt8 := dkwX1_season_5 ++ dktX1_season_6
def dkwX1_season_4 : List UInt8 := [42, 180, 0, 34, 21, 9, 21, 10, 42, 16, 6, 182, 1, 46, 182, 0, 247, 132, 8, 1, 167, 255, 199, 42]
abbrev dktX1_season_4 : List UInt8 := dkwX1_season_4 ++ dktX1_season_5
def dkwX1_season_3 : List UInt8 := [158, 0, 47, 42, 42, 180, 0, 10, 180, 0, 77, 182, 1, 46, 54, 9, 42, 16, 30, 182, 1, 46, 54, 10]
abbrev dktX1_season_3 : List UInt8 := dkwX1_season_3 ++ dktX1_season_4
def dkwX1_season_2 : List UInt8 := [180, 0, 30, 182, 0, 135, 3, 54, 8, 21, 8, 5, 162, 0, 57, 42, 180, 0, 10, 180, 0, 77]
abbrev dktX1_season_2 : List UInt8 := dkwX1_season_2 ++ dktX1_season_3
def dkwX1_season_1 : List UInt8 := [3, 54, 4, 3, 54, 5, 3, 54, 6, 3, 54, 7, 21, 7, 28, 162, 0, 130, 42, 180, 0, 34, 42]
abbrev dktX1_season_1 : List UInt8 := dkwX1_season_1 ++ dktX1_season_2
def dkwX1_season_0 : List UInt8 := [29, 3, 5, 184, 0, 142, 184, 0, 80, 28, 3, 16, 40, 184, 0, 142, 184, 0, 102, 42, 27, 181, 1, 42]
abbrev dktX1_season_0 : List UInt8 := dkwX1_season_0 ++ dktX1_season_1
theorem dksX1_season_0 : cX1_season.data.toList.drop 0 = dktX1_season_0 := by decide +kernel
theorem dksX1_season_1 : cX1_season.data.toList.drop 24 = dktX1_season_1 := dk_seg dksX1_season_0 24 rfl rfl
theorem dksX1_season_2 : cX1_season.data.toList.drop 47 = dktX1_season_2 := dk_seg dksX1_season_1 23 rfl rfl
theorem dksX1_season_3 : cX1_season.data.toList.drop 69 = dktX1_season_3 := dk_seg dksX1_season_2 22 rfl rfl
theorem dksX1_season_4 : cX1_season.data.toList.drop 93 = dktX1_season_4 := dk_seg dksX1_season_3 24 rfl rfl
theorem dksX1_season_5 : cX1_season.data.toList.drop 117 = dktX1_season_5 := dk_seg dksX1_season_4 24 rfl rfl
theorem dksX1_season_6 : cX1_season.data.toList.drop 139 = dktX1_season_6 := dk_seg dksX1_season_5 22 rfl rfl
theorem dksX1_season_7 : cX1_season.data.toList.drop 163 = dktX1_season_7 := dk_seg dksX1_season_6 24 rfl rfl
theorem dksX1_season_8 : cX1_season.data.toList.drop 185 = dktX1_season_8 := dk_seg dksX1_season_7 22 rfl rfl
theorem dX1_season_0 : decode cX1_season 0 = .ok (.iload_n 3, 1) := dk_29 (dk_at dksX1_season_0 0 rfl rfl)
theorem dX1_season_1 : decode cX1_season 1 = .ok (.iconst 0, 1) := dk_3 (dk_at dksX1_season_0 1 rfl rfl)
theorem dX1_season_2 : decode cX1_season 2 = .ok (.iconst 2, 1) := dk_5 (dk_at dksX1_season_0 2 rfl rfl)
theorem dX1_season_3 : decode cX1_season 3 = .ok (.invokestatic 142, 3) := dk_184 0 142 (dk_at dksX1_season_0 3 rfl rfl)
theorem dX1_season_6 : decode cX1_season 6 = .ok (.invokestatic 80, 3) := dk_184 0 80 (dk_at dksX1_season_0 6 rfl rfl)
theorem dX1_season_9 : decode cX1_season 9 = .ok (.iload_n 2, 1) := dk_28 (dk_at dksX1_season_0 9 rfl rfl)
theorem dX1_season_10 : decode cX1_season 10 = .ok (.iconst 0, 1) := dk_3 (dk_at dksX1_season_0 10 rfl rfl)
theorem dX1_season_11 : decode cX1_season 11 = .ok (.bipush 40, 2) := dk_16 40 (dk_at dksX1_season_0 11 rfl rfl)
theorem dX1_season_13 : decode cX1_season 13 = .ok (.invokestatic 142, 3) := dk_184 0 142 (dk_at dksX1_season_0 13 rfl rfl)
theorem dX1_season_16 : decode cX1_season 16 = .ok (.invokestatic 102, 3) := dk_184 0 102 (dk_at dksX1_season_0 16 rfl rfl)
theorem dX1_season_19 : decode cX1_season 19 = .ok (.aload_n 0, 1) := dk_42 (dk_at dksX1_season_0 19 rfl rfl)
theorem dX1_season_20 : decode cX1_season 20 = .ok (.iload_n 1, 1) := dk_27 (dk_at dksX1_season_0 20 rfl rfl)
theorem dX1_season_21 : decode cX1_season 21 = .ok (.putfield 298, 3) := dk_181 1 42 (dk_at dksX1_season_0 21 rfl rfl)
theorem dX1_season_24 : decode cX1_season 24 = .ok (.iconst 0, 1) := dk_3 (dk_at dksX1_season_1 0 rfl rfl)
theorem dX1_season_25 : decode cX1_season 25 = .ok (.istore 4, 2) := dk_54 4 (dk_at dksX1_season_1 1 rfl rfl)
theorem dX1_season_27 : decode cX1_season 27 = .ok (.iconst 0, 1) := dk_3 (dk_at dksX1_season_1 3 rfl rfl)
theorem dX1_season_28 : decode cX1_season 28 = .ok (.istore 5, 2) := dk_54 5 (dk_at dksX1_season_1 4 rfl rfl)
theorem dX1_season_30 : decode cX1_season 30 = .ok (.iconst 0, 1) := dk_3 (dk_at dksX1_season_1 6 rfl rfl)
theorem dX1_season_31 : decode cX1_season 31 = .ok (.istore 6, 2) := dk_54 6 (dk_at dksX1_season_1 7 rfl rfl)
theorem dX1_season_33 : decode cX1_season 33 = .ok (.iconst 0, 1) := dk_3 (dk_at dksX1_season_1 9 rfl rfl)
theorem dX1_season_34 : decode cX1_season 34 = .ok (.istore 7, 2) := dk_54 7 (dk_at dksX1_season_1 10 rfl rfl)
theorem dX1_season_36 : decode cX1_season 36 = .ok (.iload 7, 2) := dk_21 7 (dk_at dksX1_season_1 12 rfl rfl)
theorem dX1_season_38 : decode cX1_season 38 = .ok (.iload_n 2, 1) := dk_28 (dk_at dksX1_season_1 14 rfl rfl)
theorem dX1_season_39 : decode cX1_season 39 = .ok (.if_icmp .ge 130, 3) := dk_162 0 130 (dk_at dksX1_season_1 15 rfl rfl)
theorem dX1_season_42 : decode cX1_season 42 = .ok (.aload_n 0, 1) := dk_42 (dk_at dksX1_season_1 18 rfl rfl)
theorem dX1_season_43 : decode cX1_season 43 = .ok (.getfield 34, 3) := dk_180 0 34 (dk_at dksX1_season_1 19 rfl rfl)
theorem dX1_season_46 : decode cX1_season 46 = .ok (.aload_n 0, 1) := dk_42 (dk_at dksX1_season_1 22 rfl rfl)
theorem dX1_season_47 : decode cX1_season 47 = .ok (.getfield 30, 3) := dk_180 0 30 (dk_at dksX1_season_2 0 rfl rfl)
theorem dX1_season_50 : decode cX1_season 50 = .ok (.invokevirtual 135, 3) := dk_182 0 135 (dk_at dksX1_season_2 3 rfl rfl)
theorem dX1_season_53 : decode cX1_season 53 = .ok (.iconst 0, 1) := dk_3 (dk_at dksX1_season_2 6 rfl rfl)
theorem dX1_season_54 : decode cX1_season 54 = .ok (.istore 8, 2) := dk_54 8 (dk_at dksX1_season_2 7 rfl rfl)
theorem dX1_season_56 : decode cX1_season 56 = .ok (.iload 8, 2) := dk_21 8 (dk_at dksX1_season_2 9 rfl rfl)
theorem dX1_season_58 : decode cX1_season 58 = .ok (.iconst 2, 1) := dk_5 (dk_at dksX1_season_2 11 rfl rfl)
theorem dX1_season_59 : decode cX1_season 59 = .ok (.if_icmp .ge 57, 3) := dk_162 0 57 (dk_at dksX1_season_2 12 rfl rfl)
theorem dX1_season_62 : decode cX1_season 62 = .ok (.aload_n 0, 1) := dk_42 (dk_at dksX1_season_2 15 rfl rfl)
theorem dX1_season_63 : decode cX1_season 63 = .ok (.getfield 10, 3) := dk_180 0 10 (dk_at dksX1_season_2 16 rfl rfl)
theorem dX1_season_66 : decode cX1_season 66 = .ok (.getfield 77, 3) := dk_180 0 77 (dk_at dksX1_season_2 19 rfl rfl)
theorem dX1_season_69 : decode cX1_season 69 = .ok (.ifCond .le 47, 3) := dk_158 0 47 (dk_at dksX1_season_3 0 rfl rfl)
theorem dX1_season_72 : decode cX1_season 72 = .ok (.aload_n 0, 1) := dk_42 (dk_at dksX1_season_3 3 rfl rfl)
theorem dX1_season_73 : decode cX1_season 73 = .ok (.aload_n 0, 1) := dk_42 (dk_at dksX1_season_3 4 rfl rfl)
theorem dX1_season_74 : decode cX1_season 74 = .ok (.getfield 10, 3) := dk_180 0 10 (dk_at dksX1_season_3 5 rfl rfl)
theorem dX1_season_77 : decode cX1_season 77 = .ok (.getfield 77, 3) := dk_180 0 77 (dk_at dksX1_season_3 8 rfl rfl)
theorem dX1_season_80 : decode cX1_season 80 = .ok (.invokevirtual 302, 3) := dk_182 1 46 (dk_at dksX1_season_3 11 rfl rfl)
theorem dX1_season_83 : decode cX1_season 83 = .ok (.istore 9, 2) := dk_54 9 (dk_at dksX1_season_3 14 rfl rfl)
theorem dX1_season_85 : decode cX1_season 85 = .ok (.aload_n 0, 1) := dk_42 (dk_at dksX1_season_3 16 rfl rfl)
theorem dX1_season_86 : decode cX1_season 86 = .ok (.bipush 30, 2) := dk_16 30 (dk_at dksX1_season_3 17 rfl rfl)
theorem dX1_season_88 : decode cX1_season 88 = .ok (.invokevirtual 302, 3) := dk_182 1 46 (dk_at dksX1_season_3 19 rfl rfl)
theorem dX1_season_91 : decode cX1_season 91 = .ok (.istore 10, 2) := dk_54 10 (dk_at dksX1_season_3 22 rfl rfl)
theorem dX1_season_93 : decode cX1_season 93 = .ok (.aload_n 0, 1) := dk_42 (dk_at dksX1_season_4 0 rfl rfl)
theorem dX1_season_94 : decode cX1_season 94 = .ok (.getfield 34, 3) := dk_180 0 34 (dk_at dksX1_season_4 1 rfl rfl)
theorem dX1_season_97 : decode cX1_season 97 = .ok (.iload 9, 2) := dk_21 9 (dk_at dksX1_season_4 4 rfl rfl)
theorem dX1_season_99 : decode cX1_season 99 = .ok (.iload 10, 2) := dk_21 10 (dk_at dksX1_season_4 6 rfl rfl)
theorem dX1_season_101 : decode cX1_season 101 = .ok (.aload_n 0, 1) := dk_42 (dk_at dksX1_season_4 8 rfl rfl)
theorem dX1_season_102 : decode cX1_season 102 = .ok (.bipush 6, 2) := dk_16 6 (dk_at dksX1_season_4 9 rfl rfl)
theorem dX1_season_104 : decode cX1_season 104 = .ok (.invokevirtual 302, 3) := dk_182 1 46 (dk_at dksX1_season_4 11 rfl rfl)
theorem dX1_season_107 : decode cX1_season 107 = .ok (.invokevirtual 247, 3) := dk_182 0 247 (dk_at dksX1_season_4 14 rfl rfl)
theorem dX1_season_110 : decode cX1_season 110 = .ok (.iinc 8 1, 3) := dk_132 8 1 (dk_at dksX1_season_4 17 rfl rfl)
theorem dX1_season_113 : decode cX1_season 113 = .ok (.goto (-57), 3) := dk_167 255 199 (dk_at dksX1_season_4 20 rfl rfl)
theorem dX1_season_116 : decode cX1_season 116 = .ok (.aload_n 0, 1) := dk_42 (dk_at dksX1_season_4 23 rfl rfl)
theorem dX1_season_117 : decode cX1_season 117 = .ok (.getfield 42, 3) := dk_180 0 42 (dk_at dksX1_season_5 0 rfl rfl)
theorem dX1_season_120 : decode cX1_season 120 = .ok (.invokevirtual 139, 3) := dk_182 0 139 (dk_at dksX1_season_5 3 rfl rfl)
theorem dX1_season_123 : decode cX1_season 123 = .ok (.istore 8, 2) := dk_54 8 (dk_at dksX1_season_5 6 rfl rfl)
theorem dX1_season_125 : decode cX1_season 125 = .ok (.iload 4, 2) := dk_21 4 (dk_at dksX1_season_5 8 rfl rfl)
theorem dX1_season_127 : decode cX1_season 127 = .ok (.iload 8, 2) := dk_21 8 (dk_at dksX1_season_5 10 rfl rfl)
theorem dX1_season_129 : decode cX1_season 129 = .ok (.iadd, 1) := dk_96 (dk_at dksX1_season_5 12 rfl rfl)
theorem dX1_season_130 : decode cX1_season 130 = .ok (.istore 4, 2) := dk_54 4 (dk_at dksX1_season_5 13 rfl rfl)
theorem dX1_season_132 : decode cX1_season 132 = .ok (.iload 7, 2) := dk_21 7 (dk_at dksX1_season_5 15 rfl rfl)
theorem dX1_season_134 : decode cX1_season 134 = .ok (.ifCond .ne 8, 3) := dk_154 0 8 (dk_at dksX1_season_5 17 rfl rfl)
theorem dX1_season_137 : decode cX1_season 137 = .ok (.iload 8, 2) := dk_21 8 (dk_at dksX1_season_5 20 rfl rfl)
theorem dX1_season_139 : decode cX1_season 139 = .ok (.goto 10, 3) := dk_167 0 10 (dk_at dksX1_season_6 0 rfl rfl)
theorem dX1_season_142 : decode cX1_season 142 = .ok (.iload 5, 2) := dk_21 5 (dk_at dksX1_season_6 3 rfl rfl)
theorem dX1_season_144 : decode cX1_season 144 = .ok (.iload 8, 2) := dk_21 8 (dk_at dksX1_season_6 5 rfl rfl)
theorem dX1_season_146 : decode cX1_season 146 = .ok (.invokestatic 226, 3) := dk_184 0 226 (dk_at dksX1_season_6 7 rfl rfl)
theorem dX1_season_149 : decode cX1_season 149 = .ok (.istore 5, 2) := dk_54 5 (dk_at dksX1_season_6 10 rfl rfl)
theorem dX1_season_151 : decode cX1_season 151 = .ok (.iload 8, 2) := dk_21 8 (dk_at dksX1_season_6 12 rfl rfl)
theorem dX1_season_153 : decode cX1_season 153 = .ok (.aload_n 0, 1) := dk_42 (dk_at dksX1_season_6 14 rfl rfl)
theorem dX1_season_154 : decode cX1_season 154 = .ok (.invokevirtual 84, 3) := dk_182 0 84 (dk_at dksX1_season_6 15 rfl rfl)
theorem dX1_season_157 : decode cX1_season 157 = .ok (.if_icmp .ne 6, 3) := dk_160 0 6 (dk_at dksX1_season_6 18 rfl rfl)
theorem dX1_season_160 : decode cX1_season 160 = .ok (.iinc 6 1, 3) := dk_132 6 1 (dk_at dksX1_season_6 21 rfl rfl)
theorem dX1_season_163 : decode cX1_season 163 = .ok (.iinc 7 1, 3) := dk_132 7 1 (dk_at dksX1_season_7 0 rfl rfl)
theorem dX1_season_166 : decode cX1_season 166 = .ok (.goto (-130), 3) := dk_167 255 126 (dk_at dksX1_season_7 3 rfl rfl)
theorem dX1_season_169 : decode cX1_season 169 = .ok (.iload_n 3, 1) := dk_29 (dk_at dksX1_season_7 6 rfl rfl)
theorem dX1_season_170 : decode cX1_season 170 = .ok (.ifCond .ne 8, 3) := dk_154 0 8 (dk_at dksX1_season_7 7 rfl rfl)
theorem dX1_season_173 : decode cX1_season 173 = .ok (.iload 4, 2) := dk_21 4 (dk_at dksX1_season_7 10 rfl rfl)
theorem dX1_season_175 : decode cX1_season 175 = .ok (.goto 15, 3) := dk_167 0 15 (dk_at dksX1_season_7 12 rfl rfl)
theorem dX1_season_178 : decode cX1_season 178 = .ok (.iload_n 3, 1) := dk_29 (dk_at dksX1_season_7 15 rfl rfl)
theorem dX1_season_179 : decode cX1_season 179 = .ok (.iconst 1, 1) := dk_4 (dk_at dksX1_season_7 16 rfl rfl)
theorem dX1_season_180 : decode cX1_season 180 = .ok (.if_icmp .ne 8, 3) := dk_160 0 8 (dk_at dksX1_season_7 17 rfl rfl)
theorem dX1_season_183 : decode cX1_season 183 = .ok (.iload 5, 2) := dk_21 5 (dk_at dksX1_season_7 20 rfl rfl)
theorem dX1_season_185 : decode cX1_season 185 = .ok (.goto 5, 3) := dk_167 0 5 (dk_at dksX1_season_8 0 rfl rfl)
theorem dX1_season_188 : decode cX1_season 188 = .ok (.iload 6, 2) := dk_21 6 (dk_at dksX1_season_8 3 rfl rfl)
theorem dX1_season_190 : decode cX1_season 190 = .ok (.ireturn, 1) := dk_172 (dk_at dksX1_season_8 5 rfl rfl)
abbrev cX1_draw : ByteArray := prog_1_method_47_code
def yX1_draw : MethodName := ⟨RX1, "draw", "(I)I"⟩
def dkwX1_draw_1 : List UInt8 := [17, 127, 255, 126, 27, 112, 172]
abbrev dktX1_draw_1 : List UInt8 := dkwX1_draw_1 ++ []
def dkwX1_draw_0 : List UInt8 := [42, 42, 180, 1, 42, 19, 1, 45, 104, 17, 48, 57, 96, 181, 1, 42, 42, 180, 1, 42, 16, 16, 122]
abbrev dktX1_draw_0 : List UInt8 := dkwX1_draw_0 ++ dktX1_draw_1
theorem dksX1_draw_0 : cX1_draw.data.toList.drop 0 = dktX1_draw_0 := by decide +kernel
theorem dksX1_draw_1 : cX1_draw.data.toList.drop 23 = dktX1_draw_1 := dk_seg dksX1_draw_0 23 rfl rfl
theorem dX1_draw_0 : decode cX1_draw 0 = .ok (.aload_n 0, 1) := dk_42 (dk_at dksX1_draw_0 0 rfl rfl)
theorem dX1_draw_1 : decode cX1_draw 1 = .ok (.aload_n 0, 1) := dk_42 (dk_at dksX1_draw_0 1 rfl rfl)
theorem dX1_draw_2 : decode cX1_draw 2 = .ok (.getfield 298, 3) := dk_180 1 42 (dk_at dksX1_draw_0 2 rfl rfl)
theorem dX1_draw_5 : decode cX1_draw 5 = .ok (.ldc_w 301, 3) := dk_19 1 45 (dk_at dksX1_draw_0 5 rfl rfl)
theorem dX1_draw_8 : decode cX1_draw 8 = .ok (.imul, 1) := dk_104 (dk_at dksX1_draw_0 8 rfl rfl)
theorem dX1_draw_9 : decode cX1_draw 9 = .ok (.sipush 12345, 3) := dk_17 48 57 (dk_at dksX1_draw_0 9 rfl rfl)
theorem dX1_draw_12 : decode cX1_draw 12 = .ok (.iadd, 1) := dk_96 (dk_at dksX1_draw_0 12 rfl rfl)
theorem dX1_draw_13 : decode cX1_draw 13 = .ok (.putfield 298, 3) := dk_181 1 42 (dk_at dksX1_draw_0 13 rfl rfl)
theorem dX1_draw_16 : decode cX1_draw 16 = .ok (.aload_n 0, 1) := dk_42 (dk_at dksX1_draw_0 16 rfl rfl)
theorem dX1_draw_17 : decode cX1_draw 17 = .ok (.getfield 298, 3) := dk_180 1 42 (dk_at dksX1_draw_0 17 rfl rfl)
theorem dX1_draw_20 : decode cX1_draw 20 = .ok (.bipush 16, 2) := dk_16 16 (dk_at dksX1_draw_0 20 rfl rfl)
theorem dX1_draw_22 : decode cX1_draw 22 = .ok (.ishr, 1) := dk_122 (dk_at dksX1_draw_0 22 rfl rfl)
theorem dX1_draw_23 : decode cX1_draw 23 = .ok (.sipush 32767, 3) := dk_17 127 255 (dk_at dksX1_draw_1 0 rfl rfl)
theorem dX1_draw_26 : decode cX1_draw 26 = .ok (.iand, 1) := dk_126 (dk_at dksX1_draw_1 3 rfl rfl)
theorem dX1_draw_27 : decode cX1_draw 27 = .ok (.iload_n 1, 1) := dk_27 (dk_at dksX1_draw_1 4 rfl rfl)
theorem dX1_draw_28 : decode cX1_draw 28 = .ok (.irem, 1) := dk_112 (dk_at dksX1_draw_1 5 rfl rfl)
theorem dX1_draw_29 : decode cX1_draw 29 = .ok (.ireturn, 1) := dk_172 (dk_at dksX1_draw_1 6 rfl rfl)
theorem q106 : (Jvm.Cond.initialized "ApartBench") ∈ lw_all := lw_g (lw_at lw_m1 1 rfl) rfl
theorem q148 : (Jvm.Cond.instantiable "ApartBench" (11 : Nat)) ∈ lw_all := lw_g (lw_at lw_m1 43 rfl) rfl
theorem q150 : (Jvm.Cond.instanceMethod ({ cls := "ApartBench", name := "<init>", desc := "()V" } : Jvm.MethodName)) ∈ lw_all := lw_g (lw_at lw_m1 45 rfl) rfl
theorem q151 : (Jvm.Cond.code ({ cls := "ApartBench", name := "<init>", desc := "()V" } : Jvm.MethodName) prog_1_method_1_code (1 : Nat) (Option.none : Option Jvm.ClassFile.FieldType)) ∈ lw_all := lw_g (lw_at lw_m1 46 rfl) rfl
theorem q152 : (Jvm.Cond.methodLink "ApartBench" (1 : Nat) ({ cls := "java/lang/Object", name := "<init>", desc := "()V" } : Jvm.MethodName)) ∈ lw_all := lw_g (lw_at lw_m1 47 rfl) rfl
theorem q155 : (Jvm.Cond.classLink "ApartBench" (7 : Nat) "ApartBench$Land") ∈ lw_all := lw_g (lw_at lw_m1 50 rfl) rfl
theorem q157 : (Jvm.Cond.methodLinkNest "ApartBench" (9 : Nat) ({ cls := "ApartBench$Land", name := "<init>", desc := "()V" } : Jvm.MethodName) "ApartBench") ∈ lw_tbl := lw_at lw_m1 52 rfl
theorem q525 : (Jvm.Cond.fieldLinkNest "ApartBench" (77 : Nat) "ApartBench$Land" "towns" "I" "ApartBench") ∈ lw_tbl := lw_at lw_m2 180 rfl
theorem q528 : (Jvm.Cond.fieldLinkNest "ApartBench" (146 : Nat) "ApartBench$Land" "roads" "I" "ApartBench") ∈ lw_tbl := lw_at lw_m2 183 rfl
theorem q531 : (Jvm.Cond.fieldLinkNest "ApartBench" (149 : Nat) "ApartBench$Land" "gossip" "I" "ApartBench") ∈ lw_tbl := lw_at lw_m2 186 rfl
theorem q541 : (Jvm.Cond.fieldLinkNest "ApartBench" (86 : Nat) "ApartBench$Land" "judges" "Ljava/util/ArrayList;" "ApartBench") ∈ lw_tbl := lw_at lw_m2 196 rfl
theorem q545 : (Jvm.Cond.fieldLinkNest "ApartBench" (67 : Nat) "ApartBench$Land" "cases" "Ljava/util/ArrayList;" "ApartBench") ∈ lw_tbl := lw_at lw_m2 200 rfl
theorem q571 : (Jvm.Cond.classLink "ApartBench" (16 : Nat) "ApartBench$Book") ∈ lw_all := lw_g (lw_at lw_m2 226 rfl) rfl
theorem q573 : (Jvm.Cond.methodLink "ApartBench" (18 : Nat) ({ cls := "ApartBench$Book", name := "<init>", desc := "()V" } : Jvm.MethodName)) ∈ lw_all := lw_g (lw_at lw_m2 228 rfl) rfl
theorem q585 : (Jvm.Cond.fieldLinkNest "ApartBench" (183 : Nat) "ApartBench$State" "day" "[I" "ApartBench") ∈ lw_tbl := lw_at lw_m3 0 rfl
theorem q588 : (Jvm.Cond.fieldLinkNest "ApartBench" (231 : Nat) "ApartBench$State" "word" "[I" "ApartBench") ∈ lw_tbl := lw_at lw_m3 3 rfl
theorem q594 : (Jvm.Cond.fieldLinkNest "ApartBench" (152 : Nat) "ApartBench$State" "inns" "I" "ApartBench") ∈ lw_tbl := lw_at lw_m3 9 rfl
theorem q597 : (Jvm.Cond.fieldLinkNest "ApartBench" (155 : Nat) "ApartBench$State" "words" "I" "ApartBench") ∈ lw_tbl := lw_at lw_m3 12 rfl
theorem q599 : (Jvm.Cond.fieldLinkNest "ApartBench" (158 : Nat) "ApartBench$State" "feasts" "I" "ApartBench") ∈ lw_tbl := lw_at lw_m3 14 rfl
theorem q602 : (Jvm.Cond.fieldLinkNest "ApartBench" (161 : Nat) "ApartBench$State" "floods" "I" "ApartBench") ∈ lw_tbl := lw_at lw_m3 17 rfl
theorem q605 : (Jvm.Cond.fieldLinkNest "ApartBench" (252 : Nat) "ApartBench$State" "back" "I" "ApartBench") ∈ lw_tbl := lw_at lw_m3 20 rfl
theorem q608 : (Jvm.Cond.fieldLinkNest "ApartBench" (280 : Nat) "ApartBench$State" "turned" "I" "ApartBench") ∈ lw_tbl := lw_at lw_m3 23 rfl
theorem q611 : (Jvm.Cond.fieldLinkNest "ApartBench" (270 : Nat) "ApartBench$State" "mules" "I" "ApartBench") ∈ lw_tbl := lw_at lw_m3 26 rfl
theorem q614 : (Jvm.Cond.fieldLinkNest "ApartBench" (267 : Nat) "ApartBench$State" "muleOf" "I" "ApartBench") ∈ lw_tbl := lw_at lw_m3 29 rfl
theorem q667 : (Jvm.Cond.selects "ApartBench" ({ cls := "java/lang/Object", name := "getClass", desc := "()Ljava/lang/Class;" } : Jvm.MethodName) ({ cls := "java/lang/Object", name := "getClass", desc := "()Ljava/lang/Class;" } : Jvm.MethodName)) ∈ lw_all := lw_g (lw_at lw_m3 82 rfl) rfl
theorem q698 : (Jvm.Cond.fieldLinkNest "ApartBench" (26 : Nat) "ApartBench$Book" "now" "LApartBench$State;" "ApartBench") ∈ lw_tbl := lw_at lw_m3 113 rfl
theorem q700 : (Jvm.Cond.fieldLinkNest "ApartBench" (249 : Nat) "ApartBench$Book" "ahead" "Ljava/util/ArrayList;" "ApartBench") ∈ lw_tbl := lw_at lw_m3 115 rfl
theorem q702 : (Jvm.Cond.fieldLinkNest "ApartBench" (283 : Nat) "ApartBench$Book" "seenOf" "[I" "ApartBench") ∈ lw_tbl := lw_at lw_m3 117 rfl
theorem q704 : (Jvm.Cond.fieldLinkNest "ApartBench" (286 : Nat) "ApartBench$Book" "seenBy" "[I" "ApartBench") ∈ lw_tbl := lw_at lw_m3 119 rfl
theorem q706 : (Jvm.Cond.fieldLinkNest "ApartBench" (118 : Nat) "ApartBench$Book" "refused" "[I" "ApartBench") ∈ lw_tbl := lw_at lw_m3 121 rfl
theorem q708 : (Jvm.Cond.fieldLinkNest "ApartBench" (289 : Nat) "ApartBench$Book" "seenVoid" "[Z" "ApartBench") ∈ lw_tbl := lw_at lw_m3 123 rfl
theorem q710 : (Jvm.Cond.fieldLinkNest "ApartBench" (125 : Nat) "ApartBench$Book" "acts" "I" "ApartBench") ∈ lw_tbl := lw_at lw_m3 125 rfl
theorem q712 : (Jvm.Cond.fieldLinkNest "ApartBench" (128 : Nat) "ApartBench$Book" "seen" "I" "ApartBench") ∈ lw_tbl := lw_at lw_m3 127 rfl
theorem q731 : (Jvm.Cond.classLink "ApartBench" (31 : Nat) "ApartBench$State") ∈ lw_all := lw_g (lw_at lw_m3 146 rfl) rfl
theorem q732 : (Jvm.Cond.methodLinkNest "ApartBench" (33 : Nat) ({ cls := "ApartBench$State", name := "<init>", desc := "()V" } : Jvm.MethodName) "ApartBench") ∈ lw_tbl := lw_at lw_m3 147 rfl
theorem q733 : (Jvm.Cond.classLink "ApartBench" (37 : Nat) "ApartBench$Trial") ∈ lw_all := lw_g (lw_at lw_m3 148 rfl) rfl
theorem q735 : (Jvm.Cond.methodLink "ApartBench" (39 : Nat) ({ cls := "ApartBench$Trial", name := "<init>", desc := "(LApartBench$Land;LApartBench$State;)V" } : Jvm.MethodName)) ∈ lw_all := lw_g (lw_at lw_m3 150 rfl) rfl
theorem q742 : (Jvm.Cond.fieldLinkNest "ApartBench" (194 : Nat) "ApartBench$Trial" "stopTown" "[I" "ApartBench") ∈ lw_tbl := lw_at lw_m3 157 rfl
theorem q744 : (Jvm.Cond.fieldLinkNest "ApartBench" (191 : Nat) "ApartBench$Trial" "stopDay" "[I" "ApartBench") ∈ lw_tbl := lw_at lw_m3 159 rfl
theorem q746 : (Jvm.Cond.fieldLinkNest "ApartBench" (204 : Nat) "ApartBench$Trial" "said" "[I" "ApartBench") ∈ lw_tbl := lw_at lw_m3 161 rfl
theorem q748 : (Jvm.Cond.fieldLinkNest "ApartBench" (207 : Nat) "ApartBench$Trial" "saidOn" "[I" "ApartBench") ∈ lw_tbl := lw_at lw_m3 163 rfl
theorem q750 : (Jvm.Cond.fieldLinkNest "ApartBench" (210 : Nat) "ApartBench$Trial" "saidIn" "[I" "ApartBench") ∈ lw_tbl := lw_at lw_m3 165 rfl
theorem q752 : (Jvm.Cond.fieldLinkNest "ApartBench" (217 : Nat) "ApartBench$Trial" "met" "[I" "ApartBench") ∈ lw_tbl := lw_at lw_m3 167 rfl
theorem q754 : (Jvm.Cond.fieldLinkNest "ApartBench" (220 : Nat) "ApartBench$Trial" "guiltyOn" "[I" "ApartBench") ∈ lw_tbl := lw_at lw_m3 169 rfl
theorem q756 : (Jvm.Cond.fieldLinkNest "ApartBench" (223 : Nat) "ApartBench$Trial" "guiltyBy" "[I" "ApartBench") ∈ lw_tbl := lw_at lw_m3 171 rfl
theorem q758 : (Jvm.Cond.fieldLinkNest "ApartBench" (213 : Nat) "ApartBench$Trial" "isVoid" "[Z" "ApartBench") ∈ lw_tbl := lw_at lw_m3 173 rfl
theorem q782 : (Jvm.Cond.methodLink "ApartBench" (54 : Nat) ({ cls := "ApartBench$Land", name := "measures", desc := "()V" } : Jvm.MethodName)) ∈ lw_all := lw_g (lw_at lw_m3 197 rfl) rfl
theorem q787 : (Jvm.Cond.methodLink "ApartBench" (57 : Nat) ({ cls := "ApartBench$State", name := "begins", desc := "(LApartBench$Land;)V" } : Jvm.MethodName)) ∈ lw_all := lw_g (lw_at lw_m3 202 rfl) rfl
theorem q810 : (Jvm.Cond.fieldLink "ApartBench" (10 : Nat) "ApartBench" "land" "LApartBench$Land;") ∈ lw_all := lw_g (lw_at lw_m3 225 rfl) rfl
theorem q811 : (Jvm.Cond.fieldLink "ApartBench" (19 : Nat) "ApartBench" "book" "LApartBench$Book;") ∈ lw_all := lw_g (lw_at lw_m3 226 rfl) rfl
theorem q812 : (Jvm.Cond.fieldLink "ApartBench" (23 : Nat) "ApartBench" "image" "LApartBench$Book;") ∈ lw_all := lw_g (lw_at lw_m3 227 rfl) rfl
theorem q813 : (Jvm.Cond.fieldLink "ApartBench" (30 : Nat) "ApartBench" "now" "LApartBench$State;") ∈ lw_all := lw_g (lw_at lw_m3 228 rfl) rfl
theorem q814 : (Jvm.Cond.fieldLink "ApartBench" (34 : Nat) "ApartBench" "tried" "LApartBench$State;") ∈ lw_all := lw_g (lw_at lw_m3 229 rfl) rfl
theorem q815 : (Jvm.Cond.fieldLink "ApartBench" (42 : Nat) "ApartBench" "trial" "LApartBench$Trial;") ∈ lw_all := lw_g (lw_at lw_m3 230 rfl) rfl
theorem q816 : (Jvm.Cond.fieldLink "ApartBench" (131 : Nat) "ApartBench" "hasImage" "Z") ∈ lw_all := lw_g (lw_at lw_m3 231 rfl) rfl
theorem q817 : (Jvm.Cond.fieldLink "ApartBench" (46 : Nat) "ApartBench" "tape" "[B") ∈ lw_all := lw_g (lw_at lw_m3 232 rfl) rfl
theorem q818 : (Jvm.Cond.fieldLink "ApartBench" (95 : Nat) "ApartBench" "taped" "I") ∈ lw_all := lw_g (lw_at lw_m3 233 rfl) rfl
theorem q819 : (Jvm.Cond.fieldLink "ApartBench" (50 : Nat) "ApartBench" "faultPlace" "I") ∈ lw_all := lw_g (lw_at lw_m3 234 rfl) rfl
theorem q820 : (Jvm.Cond.fieldLink "ApartBench" (298 : Nat) "ApartBench" "its" "I") ∈ lw_all := lw_g (lw_at lw_m3 235 rfl) rfl
theorem q821 : (Jvm.Cond.lays "ApartBench" "ApartBench" "land" "LApartBench$Land;") ∈ lw_all := lw_g (lw_at lw_m3 236 rfl) rfl
theorem q822 : (Jvm.Cond.soleField "ApartBench" "land") ∈ lw_all := lw_g (lw_at lw_m3 237 rfl) rfl
theorem q823 : (Jvm.Cond.laysFinal "ApartBench" "ApartBench" "book" "LApartBench$Book;") ∈ lw_all := lw_g (lw_at lw_m3 238 rfl) rfl
theorem q824 : (Jvm.Cond.soleField "ApartBench" "book") ∈ lw_all := lw_g (lw_at lw_m3 239 rfl) rfl
theorem q825 : (Jvm.Cond.laysFinal "ApartBench" "ApartBench" "image" "LApartBench$Book;") ∈ lw_all := lw_g (lw_at lw_m4 0 rfl) rfl
theorem q826 : (Jvm.Cond.soleField "ApartBench" "image") ∈ lw_all := lw_g (lw_at lw_m4 1 rfl) rfl
theorem q827 : (Jvm.Cond.laysFinal "ApartBench" "ApartBench" "now" "LApartBench$State;") ∈ lw_all := lw_g (lw_at lw_m4 2 rfl) rfl
theorem q828 : (Jvm.Cond.soleField "ApartBench" "now") ∈ lw_all := lw_g (lw_at lw_m4 3 rfl) rfl
theorem q829 : (Jvm.Cond.laysFinal "ApartBench" "ApartBench" "tried" "LApartBench$State;") ∈ lw_all := lw_g (lw_at lw_m4 4 rfl) rfl
theorem q830 : (Jvm.Cond.soleField "ApartBench" "tried") ∈ lw_all := lw_g (lw_at lw_m4 5 rfl) rfl
theorem q831 : (Jvm.Cond.lays "ApartBench" "ApartBench" "trial" "LApartBench$Trial;") ∈ lw_all := lw_g (lw_at lw_m4 6 rfl) rfl
theorem q832 : (Jvm.Cond.soleField "ApartBench" "trial") ∈ lw_all := lw_g (lw_at lw_m4 7 rfl) rfl
theorem q833 : (Jvm.Cond.lays "ApartBench" "ApartBench" "hasImage" "Z") ∈ lw_all := lw_g (lw_at lw_m4 8 rfl) rfl
theorem q834 : (Jvm.Cond.soleField "ApartBench" "hasImage") ∈ lw_all := lw_g (lw_at lw_m4 9 rfl) rfl
theorem q835 : (Jvm.Cond.laysFinal "ApartBench" "ApartBench" "tape" "[B") ∈ lw_all := lw_g (lw_at lw_m4 10 rfl) rfl
theorem q836 : (Jvm.Cond.soleField "ApartBench" "tape") ∈ lw_all := lw_g (lw_at lw_m4 11 rfl) rfl
theorem q837 : (Jvm.Cond.lays "ApartBench" "ApartBench" "taped" "I") ∈ lw_all := lw_g (lw_at lw_m4 12 rfl) rfl
theorem q838 : (Jvm.Cond.soleField "ApartBench" "taped") ∈ lw_all := lw_g (lw_at lw_m4 13 rfl) rfl
theorem q839 : (Jvm.Cond.lays "ApartBench" "ApartBench" "faultPlace" "I") ∈ lw_all := lw_g (lw_at lw_m4 14 rfl) rfl
theorem q840 : (Jvm.Cond.soleField "ApartBench" "faultPlace") ∈ lw_all := lw_g (lw_at lw_m4 15 rfl) rfl
theorem q841 : (Jvm.Cond.lays "ApartBench" "ApartBench" "its" "I") ∈ lw_all := lw_g (lw_at lw_m4 16 rfl) rfl
theorem q842 : (Jvm.Cond.soleField "ApartBench" "its") ∈ lw_all := lw_g (lw_at lw_m4 17 rfl) rfl
theorem q843 : (Jvm.Cond.superclass "ApartBench" "java/lang/Object") ∈ lw_all := lw_g (lw_at lw_m4 18 rfl) rfl
theorem q845 : (Jvm.Cond.instanceMethod ({ cls := "ApartBench", name := "feed", desc := "(IIIII)I" } : Jvm.MethodName)) ∈ lw_all := lw_g (lw_at lw_m4 20 rfl) rfl
theorem q846 : (Jvm.Cond.selects "ApartBench" ({ cls := "ApartBench", name := "feed", desc := "(IIIII)I" } : Jvm.MethodName) ({ cls := "ApartBench", name := "feed", desc := "(IIIII)I" } : Jvm.MethodName)) ∈ lw_all := lw_g (lw_at lw_m4 21 rfl) rfl
theorem q847 : (Jvm.Cond.code ({ cls := "ApartBench", name := "feed", desc := "(IIIII)I" } : Jvm.MethodName) prog_1_method_9_code (6 : Nat) (Option.some Jvm.ClassFile.FieldType.int)) ∈ lw_all := lw_g (lw_at lw_m4 22 rfl) rfl
theorem q848 : (Jvm.Cond.methodLink "ApartBench" (98 : Nat) ({ cls := "ApartBench", name := "lay", desc := "(I)V" } : Jvm.MethodName)) ∈ lw_all := lw_g (lw_at lw_m4 23 rfl) rfl
theorem q849 : (Jvm.Cond.privateMethod ({ cls := "ApartBench", name := "lay", desc := "(I)V" } : Jvm.MethodName)) ∈ lw_tbl := lw_at lw_m4 24 rfl
theorem q850 : (Jvm.Cond.instanceMethod ({ cls := "ApartBench", name := "lay", desc := "(I)V" } : Jvm.MethodName)) ∈ lw_all := lw_g (lw_at lw_m4 25 rfl) rfl
theorem q851 : (Jvm.Cond.code ({ cls := "ApartBench", name := "lay", desc := "(I)V" } : Jvm.MethodName) prog_1_method_10_code (3 : Nat) (Option.none : Option Jvm.ClassFile.FieldType)) ∈ lw_all := lw_g (lw_at lw_m4 26 rfl) rfl
theorem q853 : (Jvm.Cond.instanceMethod ({ cls := "ApartBench", name := "fault", desc := "()I" } : Jvm.MethodName)) ∈ lw_all := lw_g (lw_at lw_m4 28 rfl) rfl
theorem q854 : (Jvm.Cond.selects "ApartBench" ({ cls := "ApartBench", name := "fault", desc := "()I" } : Jvm.MethodName) ({ cls := "ApartBench", name := "fault", desc := "()I" } : Jvm.MethodName)) ∈ lw_all := lw_g (lw_at lw_m4 29 rfl) rfl
theorem q855 : (Jvm.Cond.code ({ cls := "ApartBench", name := "fault", desc := "()I" } : Jvm.MethodName) prog_1_method_12_code (1 : Nat) (Option.some Jvm.ClassFile.FieldType.int)) ∈ lw_all := lw_g (lw_at lw_m4 30 rfl) rfl
theorem q857 : (Jvm.Cond.instanceMethod ({ cls := "ApartBench", name := "undo", desc := "()I" } : Jvm.MethodName)) ∈ lw_all := lw_g (lw_at lw_m4 32 rfl) rfl
theorem q858 : (Jvm.Cond.selects "ApartBench" ({ cls := "ApartBench", name := "undo", desc := "()I" } : Jvm.MethodName) ({ cls := "ApartBench", name := "undo", desc := "()I" } : Jvm.MethodName)) ∈ lw_all := lw_g (lw_at lw_m4 33 rfl) rfl
theorem q859 : (Jvm.Cond.code ({ cls := "ApartBench", name := "undo", desc := "()I" } : Jvm.MethodName) prog_1_method_30_code (1 : Nat) (Option.some Jvm.ClassFile.FieldType.int)) ∈ lw_all := lw_g (lw_at lw_m4 34 rfl) rfl
theorem q860 : (Jvm.Cond.methodLink "ApartBench" (89 : Nat) ({ cls := "java/util/ArrayList", name := "get", desc := "(I)Ljava/lang/Object;" } : Jvm.MethodName)) ∈ lw_all := lw_g (lw_at lw_m4 35 rfl) rfl
theorem q861 : (Jvm.Cond.methodLink "ApartBench" (135 : Nat) ({ cls := "ApartBench$State", name := "like", desc := "(LApartBench$State;)V" } : Jvm.MethodName)) ∈ lw_all := lw_g (lw_at lw_m4 36 rfl) rfl
theorem q867 : (Jvm.Cond.instanceMethod ({ cls := "ApartBench", name := "forget", desc := "()I" } : Jvm.MethodName)) ∈ lw_all := lw_g (lw_at lw_m4 42 rfl) rfl
theorem q868 : (Jvm.Cond.selects "ApartBench" ({ cls := "ApartBench", name := "forget", desc := "()I" } : Jvm.MethodName) ({ cls := "ApartBench", name := "forget", desc := "()I" } : Jvm.MethodName)) ∈ lw_all := lw_g (lw_at lw_m4 43 rfl) rfl
theorem q869 : (Jvm.Cond.code ({ cls := "ApartBench", name := "forget", desc := "()I" } : Jvm.MethodName) prog_1_method_42_code (1 : Nat) (Option.some Jvm.ClassFile.FieldType.int)) ∈ lw_all := lw_g (lw_at lw_m4 44 rfl) rfl
theorem q871 : (Jvm.Cond.instanceMethod ({ cls := "ApartBench", name := "image", desc := "()V" } : Jvm.MethodName)) ∈ lw_all := lw_g (lw_at lw_m4 46 rfl) rfl
theorem q872 : (Jvm.Cond.selects "ApartBench" ({ cls := "ApartBench", name := "image", desc := "()V" } : Jvm.MethodName) ({ cls := "ApartBench", name := "image", desc := "()V" } : Jvm.MethodName)) ∈ lw_all := lw_g (lw_at lw_m4 47 rfl) rfl
theorem q873 : (Jvm.Cond.code ({ cls := "ApartBench", name := "image", desc := "()V" } : Jvm.MethodName) prog_1_method_49_code (1 : Nat) (Option.none : Option Jvm.ClassFile.FieldType)) ∈ lw_all := lw_g (lw_at lw_m4 48 rfl) rfl
theorem q874 : (Jvm.Cond.methodLink "ApartBench" (305 : Nat) ({ cls := "ApartBench$Book", name := "like", desc := "(LApartBench$Book;)V" } : Jvm.MethodName)) ∈ lw_all := lw_g (lw_at lw_m4 49 rfl) rfl
theorem q882 : (Jvm.Cond.instanceMethod ({ cls := "ApartBench", name := "restore", desc := "()Z" } : Jvm.MethodName)) ∈ lw_all := lw_g (lw_at lw_m4 57 rfl) rfl
theorem q883 : (Jvm.Cond.selects "ApartBench" ({ cls := "ApartBench", name := "restore", desc := "()Z" } : Jvm.MethodName) ({ cls := "ApartBench", name := "restore", desc := "()Z" } : Jvm.MethodName)) ∈ lw_all := lw_g (lw_at lw_m4 58 rfl) rfl
theorem q884 : (Jvm.Cond.code ({ cls := "ApartBench", name := "restore", desc := "()Z" } : Jvm.MethodName) prog_1_method_50_code (1 : Nat) (Option.some Jvm.ClassFile.FieldType.boolean)) ∈ lw_all := lw_g (lw_at lw_m4 59 rfl) rfl
theorem q890 : (Jvm.Cond.instanceMethod ({ cls := "ApartBench", name := "land", desc := "(I)I" } : Jvm.MethodName)) ∈ lw_all := lw_g (lw_at lw_m4 65 rfl) rfl
theorem q891 : (Jvm.Cond.selects "ApartBench" ({ cls := "ApartBench", name := "land", desc := "(I)I" } : Jvm.MethodName) ({ cls := "ApartBench", name := "land", desc := "(I)I" } : Jvm.MethodName)) ∈ lw_all := lw_g (lw_at lw_m4 66 rfl) rfl
theorem q892 : (Jvm.Cond.codeWith ({ cls := "ApartBench", name := "land", desc := "(I)I" } : Jvm.MethodName) prog_1_method_11_code (3 : Nat) (Option.some Jvm.ClassFile.FieldType.int) [((30 : Nat), (49 : Nat), (52 : Nat), (113 : Nat))]) ∈ lw_all := lw_g (lw_at lw_m4 67 rfl) rfl
theorem q893 : (Jvm.Cond.classLink "ApartBench" (113 : Nat) "ApartBench$Fault") ∈ lw_all := lw_g (lw_at lw_m4 68 rfl) rfl
theorem q894 : (Jvm.Cond.methodLink "ApartBench" (102 : Nat) ({ cls := "ApartBench", name := "right", desc := "(Z)V" } : Jvm.MethodName)) ∈ lw_all := lw_g (lw_at lw_m4 69 rfl) rfl
theorem q895 : (Jvm.Cond.static ({ cls := "ApartBench", name := "right", desc := "(Z)V" } : Jvm.MethodName)) ∈ lw_all := lw_g (lw_at lw_m4 70 rfl) rfl
theorem q896 : (Jvm.Cond.code ({ cls := "ApartBench", name := "right", desc := "(Z)V" } : Jvm.MethodName) prog_1_method_2_code (1 : Nat) (Option.none : Option Jvm.ClassFile.FieldType)) ∈ lw_all := lw_g (lw_at lw_m4 71 rfl) rfl
theorem q897 : (Jvm.Cond.classLink "ApartBench" (61 : Nat) "java/lang/IllegalArgumentException") ∈ lw_all := lw_g (lw_at lw_m4 72 rfl) rfl
theorem q898 : (Jvm.Cond.methodLink "ApartBench" (63 : Nat) ({ cls := "java/lang/IllegalArgumentException", name := "<init>", desc := "()V" } : Jvm.MethodName)) ∈ lw_all := lw_g (lw_at lw_m4 73 rfl) rfl
theorem q908 : (Jvm.Cond.classLink "ApartBench" (105 : Nat) "ApartBench$Reader") ∈ lw_all := lw_g (lw_at lw_m4 83 rfl) rfl
theorem q910 : (Jvm.Cond.methodLink "ApartBench" (107 : Nat) ({ cls := "ApartBench$Reader", name := "<init>", desc := "([BI)V" } : Jvm.MethodName)) ∈ lw_all := lw_g (lw_at lw_m4 85 rfl) rfl
theorem q1010 : (Jvm.Cond.methodLink "ApartBench" (110 : Nat) ({ cls := "ApartBench$Reader", name := "land", desc := "()LApartBench$Land;" } : Jvm.MethodName)) ∈ lw_all := lw_g (lw_at lw_m4 185 rfl) rfl
theorem q1046 : (Jvm.Cond.fieldLinkNest "ApartBench" (122 : Nat) "ApartBench$Fault" "kind" "I" "ApartBench") ∈ lw_tbl := lw_at lw_m4 221 rfl
theorem q1048 : (Jvm.Cond.fieldLinkNest "ApartBench" (115 : Nat) "ApartBench$Fault" "place" "I" "ApartBench") ∈ lw_tbl := lw_at lw_m4 223 rfl
theorem q1223 : (Jvm.Cond.fieldLink "ApartBench" (186 : Nat) "ApartBench$Judge" "harsh" "I") ∈ lw_all := lw_g (lw_at lw_m5 158 rfl) rfl
theorem q1256 : (Jvm.Cond.instanceMethod ({ cls := "ApartBench", name := "count", desc := "(I)I" } : Jvm.MethodName)) ∈ lw_all := lw_g (lw_at lw_m5 191 rfl) rfl
theorem q1257 : (Jvm.Cond.selects "ApartBench" ({ cls := "ApartBench", name := "count", desc := "(I)I" } : Jvm.MethodName) ({ cls := "ApartBench", name := "count", desc := "(I)I" } : Jvm.MethodName)) ∈ lw_all := lw_g (lw_at lw_m5 192 rfl) rfl
theorem q1258 : (Jvm.Cond.code ({ cls := "ApartBench", name := "count", desc := "(I)I" } : Jvm.MethodName) prog_1_method_14_code (2 : Nat) (Option.some Jvm.ClassFile.FieldType.int)) ∈ lw_all := lw_g (lw_at lw_m5 193 rfl) rfl
theorem q1259 : (Jvm.Cond.methodLink "ApartBench" (142 : Nat) ({ cls := "ApartBench", name := "within", desc := "(III)Z" } : Jvm.MethodName)) ∈ lw_all := lw_g (lw_at lw_m5 194 rfl) rfl
theorem q1260 : (Jvm.Cond.static ({ cls := "ApartBench", name := "within", desc := "(III)Z" } : Jvm.MethodName)) ∈ lw_all := lw_g (lw_at lw_m5 195 rfl) rfl
theorem q1261 : (Jvm.Cond.code ({ cls := "ApartBench", name := "within", desc := "(III)Z" } : Jvm.MethodName) prog_1_method_4_code (3 : Nat) (Option.some Jvm.ClassFile.FieldType.boolean)) ∈ lw_all := lw_g (lw_at lw_m5 196 rfl) rfl
theorem q1262 : (Jvm.Cond.methodLink "ApartBench" (80 : Nat) ({ cls := "ApartBench", name := "there", desc := "(Z)V" } : Jvm.MethodName)) ∈ lw_all := lw_g (lw_at lw_m5 197 rfl) rfl
theorem q1263 : (Jvm.Cond.static ({ cls := "ApartBench", name := "there", desc := "(Z)V" } : Jvm.MethodName)) ∈ lw_all := lw_g (lw_at lw_m5 198 rfl) rfl
theorem q1264 : (Jvm.Cond.code ({ cls := "ApartBench", name := "there", desc := "(Z)V" } : Jvm.MethodName) prog_1_method_3_code (1 : Nat) (Option.none : Option Jvm.ClassFile.FieldType)) ∈ lw_all := lw_g (lw_at lw_m5 199 rfl) rfl
theorem q1265 : (Jvm.Cond.classLink "ApartBench" (64 : Nat) "java/util/NoSuchElementException") ∈ lw_all := lw_g (lw_at lw_m5 200 rfl) rfl
theorem q1274 : (Jvm.Cond.methodLink "ApartBench" (66 : Nat) ({ cls := "java/util/NoSuchElementException", name := "<init>", desc := "()V" } : Jvm.MethodName)) ∈ lw_all := lw_g (lw_at lw_m5 209 rfl) rfl
theorem q1280 : (Jvm.Cond.methodLink "ApartBench" (71 : Nat) ({ cls := "java/util/ArrayList", name := "size", desc := "()I" } : Jvm.MethodName)) ∈ lw_all := lw_g (lw_at lw_m5 215 rfl) rfl
theorem q1281 : (Jvm.Cond.methodLink "ApartBench" (84 : Nat) ({ cls := "ApartBench", name := "cases", desc := "()I" } : Jvm.MethodName)) ∈ lw_all := lw_g (lw_at lw_m5 216 rfl) rfl
theorem q1282 : (Jvm.Cond.privateMethod ({ cls := "ApartBench", name := "cases", desc := "()I" } : Jvm.MethodName)) ∈ lw_tbl := lw_at lw_m5 217 rfl
theorem q1283 : (Jvm.Cond.instanceMethod ({ cls := "ApartBench", name := "cases", desc := "()I" } : Jvm.MethodName)) ∈ lw_all := lw_g (lw_at lw_m5 218 rfl) rfl
theorem q1284 : (Jvm.Cond.code ({ cls := "ApartBench", name := "cases", desc := "()I" } : Jvm.MethodName) prog_1_method_5_code (1 : Nat) (Option.some Jvm.ClassFile.FieldType.int)) ∈ lw_all := lw_g (lw_at lw_m5 219 rfl) rfl
theorem q1285 : (Jvm.Cond.methodLink "ApartBench" (164 : Nat) ({ cls := "ApartBench", name := "tries", desc := "()I" } : Jvm.MethodName)) ∈ lw_all := lw_g (lw_at lw_m5 220 rfl) rfl
theorem q1286 : (Jvm.Cond.privateMethod ({ cls := "ApartBench", name := "tries", desc := "()I" } : Jvm.MethodName)) ∈ lw_tbl := lw_at lw_m5 221 rfl
theorem q1287 : (Jvm.Cond.instanceMethod ({ cls := "ApartBench", name := "tries", desc := "()I" } : Jvm.MethodName)) ∈ lw_all := lw_g (lw_at lw_m5 222 rfl) rfl
theorem q1288 : (Jvm.Cond.code ({ cls := "ApartBench", name := "tries", desc := "()I" } : Jvm.MethodName) prog_1_method_13_code (1 : Nat) (Option.some Jvm.ClassFile.FieldType.int)) ∈ lw_all := lw_g (lw_at lw_m5 223 rfl) rfl
theorem q1289 : (Jvm.Cond.methodLink "ApartBench" (139 : Nat) ({ cls := "ApartBench$Trial", name := "all", desc := "()I" } : Jvm.MethodName)) ∈ lw_all := lw_g (lw_at lw_m5 224 rfl) rfl
theorem q1445 : (Jvm.Cond.instanceMethod ({ cls := "ApartBench", name := "far", desc := "(III)I" } : Jvm.MethodName)) ∈ lw_all := lw_g (lw_at lw_m6 140 rfl) rfl
theorem q1446 : (Jvm.Cond.selects "ApartBench" ({ cls := "ApartBench", name := "far", desc := "(III)I" } : Jvm.MethodName) ({ cls := "ApartBench", name := "far", desc := "(III)I" } : Jvm.MethodName)) ∈ lw_all := lw_g (lw_at lw_m6 141 rfl) rfl
theorem q1447 : (Jvm.Cond.code ({ cls := "ApartBench", name := "far", desc := "(III)I" } : Jvm.MethodName) prog_1_method_15_code (5 : Nat) (Option.some Jvm.ClassFile.FieldType.int)) ∈ lw_all := lw_g (lw_at lw_m6 142 rfl) rfl
theorem q1448 : (Jvm.Cond.methodLink "ApartBench" (167 : Nat) ({ cls := "ApartBench", name := "townAt", desc := "(I)V" } : Jvm.MethodName)) ∈ lw_all := lw_g (lw_at lw_m6 143 rfl) rfl
theorem q1449 : (Jvm.Cond.privateMethod ({ cls := "ApartBench", name := "townAt", desc := "(I)V" } : Jvm.MethodName)) ∈ lw_tbl := lw_at lw_m6 144 rfl
theorem q1450 : (Jvm.Cond.instanceMethod ({ cls := "ApartBench", name := "townAt", desc := "(I)V" } : Jvm.MethodName)) ∈ lw_all := lw_g (lw_at lw_m6 145 rfl) rfl
theorem q1451 : (Jvm.Cond.code ({ cls := "ApartBench", name := "townAt", desc := "(I)V" } : Jvm.MethodName) prog_1_method_6_code (2 : Nat) (Option.none : Option Jvm.ClassFile.FieldType)) ∈ lw_all := lw_g (lw_at lw_m6 146 rfl) rfl
theorem q1452 : (Jvm.Cond.methodLink "ApartBench" (170 : Nat) ({ cls := "ApartBench$Land", name := "far", desc := "(II)I" } : Jvm.MethodName)) ∈ lw_all := lw_g (lw_at lw_m6 147 rfl) rfl
theorem q1453 : (Jvm.Cond.methodLink "ApartBench" (174 : Nat) ({ cls := "ApartBench$Land", name := "news", desc := "(II)I" } : Jvm.MethodName)) ∈ lw_all := lw_g (lw_at lw_m6 148 rfl) rfl
theorem q1458 : (Jvm.Cond.instanceMethod ({ cls := "ApartBench", name := "judge", desc := "(II)I" } : Jvm.MethodName)) ∈ lw_all := lw_g (lw_at lw_m6 153 rfl) rfl
theorem q1459 : (Jvm.Cond.selects "ApartBench" ({ cls := "ApartBench", name := "judge", desc := "(II)I" } : Jvm.MethodName) ({ cls := "ApartBench", name := "judge", desc := "(II)I" } : Jvm.MethodName)) ∈ lw_all := lw_g (lw_at lw_m6 154 rfl) rfl
theorem q1460 : (Jvm.Cond.code ({ cls := "ApartBench", name := "judge", desc := "(II)I" } : Jvm.MethodName) prog_1_method_16_code (4 : Nat) (Option.some Jvm.ClassFile.FieldType.int)) ∈ lw_all := lw_g (lw_at lw_m6 155 rfl) rfl
theorem q1461 : (Jvm.Cond.methodLink "ApartBench" (177 : Nat) ({ cls := "ApartBench", name := "judgeAt", desc := "(I)LApartBench$Judge;" } : Jvm.MethodName)) ∈ lw_all := lw_g (lw_at lw_m6 156 rfl) rfl
theorem q1462 : (Jvm.Cond.privateMethod ({ cls := "ApartBench", name := "judgeAt", desc := "(I)LApartBench$Judge;" } : Jvm.MethodName)) ∈ lw_tbl := lw_at lw_m6 157 rfl
theorem q1463 : (Jvm.Cond.instanceMethod ({ cls := "ApartBench", name := "judgeAt", desc := "(I)LApartBench$Judge;" } : Jvm.MethodName)) ∈ lw_all := lw_g (lw_at lw_m6 158 rfl) rfl
theorem q1464 : (Jvm.Cond.code ({ cls := "ApartBench", name := "judgeAt", desc := "(I)LApartBench$Judge;" } : Jvm.MethodName) prog_1_method_8_code (2 : Nat) (Option.some (Jvm.ClassFile.FieldType.object "ApartBench$Judge"))) ∈ lw_all := lw_g (lw_at lw_m6 159 rfl) rfl
theorem q1465 : (Jvm.Cond.classLink "ApartBench" (93 : Nat) "ApartBench$Judge") ∈ lw_all := lw_g (lw_at lw_m6 160 rfl) rfl
theorem q1466 : (Jvm.Cond.methodLink "ApartBench" (181 : Nat) ({ cls := "ApartBench$Judge", name := "kind", desc := "()I" } : Jvm.MethodName)) ∈ lw_all := lw_g (lw_at lw_m6 161 rfl) rfl
theorem q1479 : (Jvm.Cond.methodLink "ApartBench" (189 : Nat) ({ cls := "ApartBench$Judge", name := "towns", desc := "()I" } : Jvm.MethodName)) ∈ lw_all := lw_g (lw_at lw_m6 174 rfl) rfl
theorem q1484 : (Jvm.Cond.instanceMethod ({ cls := "ApartBench", name := "stop", desc := "(III)I" } : Jvm.MethodName)) ∈ lw_all := lw_g (lw_at lw_m6 179 rfl) rfl
theorem q1485 : (Jvm.Cond.selects "ApartBench" ({ cls := "ApartBench", name := "stop", desc := "(III)I" } : Jvm.MethodName) ({ cls := "ApartBench", name := "stop", desc := "(III)I" } : Jvm.MethodName)) ∈ lw_all := lw_g (lw_at lw_m6 180 rfl) rfl
theorem q1486 : (Jvm.Cond.code ({ cls := "ApartBench", name := "stop", desc := "(III)I" } : Jvm.MethodName) prog_1_method_17_code (5 : Nat) (Option.some Jvm.ClassFile.FieldType.int)) ∈ lw_all := lw_g (lw_at lw_m6 181 rfl) rfl
theorem q1491 : (Jvm.Cond.instanceMethod ({ cls := "ApartBench", name := "where", desc := "(II)I" } : Jvm.MethodName)) ∈ lw_all := lw_g (lw_at lw_m6 186 rfl) rfl
theorem q1492 : (Jvm.Cond.selects "ApartBench" ({ cls := "ApartBench", name := "where", desc := "(II)I" } : Jvm.MethodName) ({ cls := "ApartBench", name := "where", desc := "(II)I" } : Jvm.MethodName)) ∈ lw_all := lw_g (lw_at lw_m6 187 rfl) rfl
theorem q1493 : (Jvm.Cond.code ({ cls := "ApartBench", name := "where", desc := "(II)I" } : Jvm.MethodName) prog_1_method_18_code (3 : Nat) (Option.some Jvm.ClassFile.FieldType.int)) ∈ lw_all := lw_g (lw_at lw_m6 188 rfl) rfl
theorem q1494 : (Jvm.Cond.methodLink "ApartBench" (197 : Nat) ({ cls := "ApartBench$Trial", name := "at", desc := "(II)I" } : Jvm.MethodName)) ∈ lw_all := lw_g (lw_at lw_m6 189 rfl) rfl
theorem q1499 : (Jvm.Cond.instanceMethod ({ cls := "ApartBench", name := "proof", desc := "(II)I" } : Jvm.MethodName)) ∈ lw_all := lw_g (lw_at lw_m6 194 rfl) rfl
theorem q1500 : (Jvm.Cond.selects "ApartBench" ({ cls := "ApartBench", name := "proof", desc := "(II)I" } : Jvm.MethodName) ({ cls := "ApartBench", name := "proof", desc := "(II)I" } : Jvm.MethodName)) ∈ lw_all := lw_g (lw_at lw_m6 195 rfl) rfl
theorem q1501 : (Jvm.Cond.code ({ cls := "ApartBench", name := "proof", desc := "(II)I" } : Jvm.MethodName) prog_1_method_19_code (3 : Nat) (Option.some Jvm.ClassFile.FieldType.int)) ∈ lw_all := lw_g (lw_at lw_m6 196 rfl) rfl
theorem q1502 : (Jvm.Cond.methodLink "ApartBench" (200 : Nat) ({ cls := "ApartBench", name := "caseAt", desc := "(I)V" } : Jvm.MethodName)) ∈ lw_all := lw_g (lw_at lw_m6 197 rfl) rfl
theorem q1503 : (Jvm.Cond.privateMethod ({ cls := "ApartBench", name := "caseAt", desc := "(I)V" } : Jvm.MethodName)) ∈ lw_tbl := lw_at lw_m6 198 rfl
theorem q1504 : (Jvm.Cond.instanceMethod ({ cls := "ApartBench", name := "caseAt", desc := "(I)V" } : Jvm.MethodName)) ∈ lw_all := lw_g (lw_at lw_m6 199 rfl) rfl
theorem q1505 : (Jvm.Cond.code ({ cls := "ApartBench", name := "caseAt", desc := "(I)V" } : Jvm.MethodName) prog_1_method_7_code (2 : Nat) (Option.none : Option Jvm.ClassFile.FieldType)) ∈ lw_all := lw_g (lw_at lw_m6 200 rfl) rfl
theorem q1506 : (Jvm.Cond.classLink "ApartBench" (203 : Nat) "[I") ∈ lw_all := lw_g (lw_at lw_m6 201 rfl) rfl
theorem q1511 : (Jvm.Cond.instanceMethod ({ cls := "ApartBench", name := "said", desc := "(III)I" } : Jvm.MethodName)) ∈ lw_all := lw_g (lw_at lw_m6 206 rfl) rfl
theorem q1512 : (Jvm.Cond.selects "ApartBench" ({ cls := "ApartBench", name := "said", desc := "(III)I" } : Jvm.MethodName) ({ cls := "ApartBench", name := "said", desc := "(III)I" } : Jvm.MethodName)) ∈ lw_all := lw_g (lw_at lw_m6 207 rfl) rfl
theorem q1513 : (Jvm.Cond.code ({ cls := "ApartBench", name := "said", desc := "(III)I" } : Jvm.MethodName) prog_1_method_20_code (5 : Nat) (Option.some Jvm.ClassFile.FieldType.int)) ∈ lw_all := lw_g (lw_at lw_m6 208 rfl) rfl
theorem q1518 : (Jvm.Cond.instanceMethod ({ cls := "ApartBench", name := "met", desc := "(II)I" } : Jvm.MethodName)) ∈ lw_all := lw_g (lw_at lw_m6 213 rfl) rfl
theorem q1519 : (Jvm.Cond.selects "ApartBench" ({ cls := "ApartBench", name := "met", desc := "(II)I" } : Jvm.MethodName) ({ cls := "ApartBench", name := "met", desc := "(II)I" } : Jvm.MethodName)) ∈ lw_all := lw_g (lw_at lw_m6 214 rfl) rfl
theorem q1520 : (Jvm.Cond.code ({ cls := "ApartBench", name := "met", desc := "(II)I" } : Jvm.MethodName) prog_1_method_21_code (4 : Nat) (Option.some Jvm.ClassFile.FieldType.int)) ∈ lw_all := lw_g (lw_at lw_m6 215 rfl) rfl
theorem q1525 : (Jvm.Cond.instanceMethod ({ cls := "ApartBench", name := "guilty", desc := "(II)I" } : Jvm.MethodName)) ∈ lw_all := lw_g (lw_at lw_m6 220 rfl) rfl
theorem q1526 : (Jvm.Cond.selects "ApartBench" ({ cls := "ApartBench", name := "guilty", desc := "(II)I" } : Jvm.MethodName) ({ cls := "ApartBench", name := "guilty", desc := "(II)I" } : Jvm.MethodName)) ∈ lw_all := lw_g (lw_at lw_m6 221 rfl) rfl
theorem q1527 : (Jvm.Cond.code ({ cls := "ApartBench", name := "guilty", desc := "(II)I" } : Jvm.MethodName) prog_1_method_22_code (3 : Nat) (Option.some Jvm.ClassFile.FieldType.int)) ∈ lw_all := lw_g (lw_at lw_m6 222 rfl) rfl
theorem q1532 : (Jvm.Cond.instanceMethod ({ cls := "ApartBench", name := "news", desc := "(II)I" } : Jvm.MethodName)) ∈ lw_all := lw_g (lw_at lw_m6 227 rfl) rfl
theorem q1533 : (Jvm.Cond.selects "ApartBench" ({ cls := "ApartBench", name := "news", desc := "(II)I" } : Jvm.MethodName) ({ cls := "ApartBench", name := "news", desc := "(II)I" } : Jvm.MethodName)) ∈ lw_all := lw_g (lw_at lw_m6 228 rfl) rfl
theorem q1534 : (Jvm.Cond.code ({ cls := "ApartBench", name := "news", desc := "(II)I" } : Jvm.MethodName) prog_1_method_23_code (6 : Nat) (Option.some Jvm.ClassFile.FieldType.int)) ∈ lw_all := lw_g (lw_at lw_m6 229 rfl) rfl
theorem q1535 : (Jvm.Cond.methodLink "ApartBench" (226 : Nat) ({ cls := "java/lang/Math", name := "min", desc := "(II)I" } : Jvm.MethodName)) ∈ lw_all := lw_g (lw_at lw_m6 230 rfl) rfl
theorem q1540 : (Jvm.Cond.instanceMethod ({ cls := "ApartBench", name := "start", desc := "(II)I" } : Jvm.MethodName)) ∈ lw_all := lw_g (lw_at lw_m6 235 rfl) rfl
theorem q1541 : (Jvm.Cond.selects "ApartBench" ({ cls := "ApartBench", name := "start", desc := "(II)I" } : Jvm.MethodName) ({ cls := "ApartBench", name := "start", desc := "(II)I" } : Jvm.MethodName)) ∈ lw_all := lw_g (lw_at lw_m6 236 rfl) rfl
theorem q1542 : (Jvm.Cond.code ({ cls := "ApartBench", name := "start", desc := "(II)I" } : Jvm.MethodName) prog_1_method_25_code (4 : Nat) (Option.some Jvm.ClassFile.FieldType.int)) ∈ lw_all := lw_g (lw_at lw_m6 237 rfl) rfl
theorem q1543 : (Jvm.Cond.methodLink "ApartBench" (234 : Nat) ({ cls := "ApartBench", name := "refuses", desc := "(I)I" } : Jvm.MethodName)) ∈ lw_all := lw_g (lw_at lw_m6 238 rfl) rfl
theorem q1544 : (Jvm.Cond.privateMethod ({ cls := "ApartBench", name := "refuses", desc := "(I)I" } : Jvm.MethodName)) ∈ lw_tbl := lw_at lw_m6 239 rfl
theorem q1545 : (Jvm.Cond.instanceMethod ({ cls := "ApartBench", name := "refuses", desc := "(I)I" } : Jvm.MethodName)) ∈ lw_all := lw_g (lw_at lw_m7 0 rfl) rfl
theorem q1546 : (Jvm.Cond.code ({ cls := "ApartBench", name := "refuses", desc := "(I)I" } : Jvm.MethodName) prog_1_method_24_code (2 : Nat) (Option.some Jvm.ClassFile.FieldType.int)) ∈ lw_all := lw_g (lw_at lw_m7 1 rfl) rfl
theorem q1547 : (Jvm.Cond.methodLink "ApartBench" (238 : Nat) ({ cls := "ApartBench$Book", name := "keeps", desc := "()V" } : Jvm.MethodName)) ∈ lw_all := lw_g (lw_at lw_m7 2 rfl) rfl
theorem q1564 : (Jvm.Cond.instanceMethod ({ cls := "ApartBench", name := "inn", desc := "(IZ)Z" } : Jvm.MethodName)) ∈ lw_all := lw_g (lw_at lw_m7 19 rfl) rfl
theorem q1565 : (Jvm.Cond.selects "ApartBench" ({ cls := "ApartBench", name := "inn", desc := "(IZ)Z" } : Jvm.MethodName) ({ cls := "ApartBench", name := "inn", desc := "(IZ)Z" } : Jvm.MethodName)) ∈ lw_all := lw_g (lw_at lw_m7 20 rfl) rfl
theorem q1566 : (Jvm.Cond.code ({ cls := "ApartBench", name := "inn", desc := "(IZ)Z" } : Jvm.MethodName) prog_1_method_26_code (3 : Nat) (Option.some Jvm.ClassFile.FieldType.boolean)) ∈ lw_all := lw_g (lw_at lw_m7 21 rfl) rfl
theorem q1571 : (Jvm.Cond.instanceMethod ({ cls := "ApartBench", name := "word", desc := "(III)I" } : Jvm.MethodName)) ∈ lw_all := lw_g (lw_at lw_m7 26 rfl) rfl
theorem q1572 : (Jvm.Cond.selects "ApartBench" ({ cls := "ApartBench", name := "word", desc := "(III)I" } : Jvm.MethodName) ({ cls := "ApartBench", name := "word", desc := "(III)I" } : Jvm.MethodName)) ∈ lw_all := lw_g (lw_at lw_m7 27 rfl) rfl
theorem q1573 : (Jvm.Cond.code ({ cls := "ApartBench", name := "word", desc := "(III)I" } : Jvm.MethodName) prog_1_method_27_code (4 : Nat) (Option.some Jvm.ClassFile.FieldType.int)) ∈ lw_all := lw_g (lw_at lw_m7 28 rfl) rfl
theorem q1574 : (Jvm.Cond.methodLink "ApartBench" (241 : Nat) ({ cls := "ApartBench$State", name := "sends", desc := "(III)V" } : Jvm.MethodName)) ∈ lw_all := lw_g (lw_at lw_m7 29 rfl) rfl
theorem q1585 : (Jvm.Cond.instanceMethod ({ cls := "ApartBench", name := "feast", desc := "(III)I" } : Jvm.MethodName)) ∈ lw_all := lw_g (lw_at lw_m7 40 rfl) rfl
theorem q1586 : (Jvm.Cond.selects "ApartBench" ({ cls := "ApartBench", name := "feast", desc := "(III)I" } : Jvm.MethodName) ({ cls := "ApartBench", name := "feast", desc := "(III)I" } : Jvm.MethodName)) ∈ lw_all := lw_g (lw_at lw_m7 41 rfl) rfl
theorem q1587 : (Jvm.Cond.code ({ cls := "ApartBench", name := "feast", desc := "(III)I" } : Jvm.MethodName) prog_1_method_28_code (4 : Nat) (Option.some Jvm.ClassFile.FieldType.int)) ∈ lw_all := lw_g (lw_at lw_m7 42 rfl) rfl
theorem q1588 : (Jvm.Cond.methodLink "ApartBench" (245 : Nat) ({ cls := "ApartBench$State", name := "feasts", desc := "(III)V" } : Jvm.MethodName)) ∈ lw_all := lw_g (lw_at lw_m7 43 rfl) rfl
theorem q1596 : (Jvm.Cond.instanceMethod ({ cls := "ApartBench", name := "flood", desc := "(III)I" } : Jvm.MethodName)) ∈ lw_all := lw_g (lw_at lw_m7 51 rfl) rfl
theorem q1597 : (Jvm.Cond.selects "ApartBench" ({ cls := "ApartBench", name := "flood", desc := "(III)I" } : Jvm.MethodName) ({ cls := "ApartBench", name := "flood", desc := "(III)I" } : Jvm.MethodName)) ∈ lw_all := lw_g (lw_at lw_m7 52 rfl) rfl
theorem q1598 : (Jvm.Cond.code ({ cls := "ApartBench", name := "flood", desc := "(III)I" } : Jvm.MethodName) prog_1_method_29_code (4 : Nat) (Option.some Jvm.ClassFile.FieldType.int)) ∈ lw_all := lw_g (lw_at lw_m7 53 rfl) rfl
theorem q1599 : (Jvm.Cond.methodLink "ApartBench" (247 : Nat) ({ cls := "ApartBench$State", name := "floods", desc := "(III)V" } : Jvm.MethodName)) ∈ lw_all := lw_g (lw_at lw_m7 54 rfl) rfl
theorem q1607 : (Jvm.Cond.instanceMethod ({ cls := "ApartBench", name := "burn", desc := "(I)I" } : Jvm.MethodName)) ∈ lw_all := lw_g (lw_at lw_m7 62 rfl) rfl
theorem q1608 : (Jvm.Cond.selects "ApartBench" ({ cls := "ApartBench", name := "burn", desc := "(I)I" } : Jvm.MethodName) ({ cls := "ApartBench", name := "burn", desc := "(I)I" } : Jvm.MethodName)) ∈ lw_all := lw_g (lw_at lw_m7 63 rfl) rfl
theorem q1609 : (Jvm.Cond.code ({ cls := "ApartBench", name := "burn", desc := "(I)I" } : Jvm.MethodName) prog_1_method_31_code (6 : Nat) (Option.some Jvm.ClassFile.FieldType.int)) ∈ lw_all := lw_g (lw_at lw_m7 64 rfl) rfl
theorem q1614 : (Jvm.Cond.instanceMethod ({ cls := "ApartBench", name := "when", desc := "(II)I" } : Jvm.MethodName)) ∈ lw_all := lw_g (lw_at lw_m7 69 rfl) rfl
theorem q1615 : (Jvm.Cond.selects "ApartBench" ({ cls := "ApartBench", name := "when", desc := "(II)I" } : Jvm.MethodName) ({ cls := "ApartBench", name := "when", desc := "(II)I" } : Jvm.MethodName)) ∈ lw_all := lw_g (lw_at lw_m7 70 rfl) rfl
theorem q1616 : (Jvm.Cond.code ({ cls := "ApartBench", name := "when", desc := "(II)I" } : Jvm.MethodName) prog_1_method_32_code (7 : Nat) (Option.some Jvm.ClassFile.FieldType.int)) ∈ lw_all := lw_g (lw_at lw_m7 71 rfl) rfl
theorem q1621 : (Jvm.Cond.instanceMethod ({ cls := "ApartBench", name := "round", desc := "(I)I" } : Jvm.MethodName)) ∈ lw_all := lw_g (lw_at lw_m7 76 rfl) rfl
theorem q1622 : (Jvm.Cond.selects "ApartBench" ({ cls := "ApartBench", name := "round", desc := "(I)I" } : Jvm.MethodName) ({ cls := "ApartBench", name := "round", desc := "(I)I" } : Jvm.MethodName)) ∈ lw_all := lw_g (lw_at lw_m7 77 rfl) rfl
theorem q1623 : (Jvm.Cond.code ({ cls := "ApartBench", name := "round", desc := "(I)I" } : Jvm.MethodName) prog_1_method_33_code (3 : Nat) (Option.some Jvm.ClassFile.FieldType.int)) ∈ lw_all := lw_g (lw_at lw_m7 78 rfl) rfl
theorem q1628 : (Jvm.Cond.instanceMethod ({ cls := "ApartBench", name := "free", desc := "(II)I" } : Jvm.MethodName)) ∈ lw_all := lw_g (lw_at lw_m7 83 rfl) rfl
theorem q1629 : (Jvm.Cond.selects "ApartBench" ({ cls := "ApartBench", name := "free", desc := "(II)I" } : Jvm.MethodName) ({ cls := "ApartBench", name := "free", desc := "(II)I" } : Jvm.MethodName)) ∈ lw_all := lw_g (lw_at lw_m7 84 rfl) rfl
theorem q1630 : (Jvm.Cond.code ({ cls := "ApartBench", name := "free", desc := "(II)I" } : Jvm.MethodName) prog_1_method_36_code (5 : Nat) (Option.some Jvm.ClassFile.FieldType.int)) ∈ lw_all := lw_g (lw_at lw_m7 85 rfl) rfl
theorem q1631 : (Jvm.Cond.methodLink "ApartBench" (259 : Nat) ({ cls := "ApartBench", name := "isGuiltyNow", desc := "(I)Z" } : Jvm.MethodName)) ∈ lw_all := lw_g (lw_at lw_m7 86 rfl) rfl
theorem q1632 : (Jvm.Cond.privateMethod ({ cls := "ApartBench", name := "isGuiltyNow", desc := "(I)Z" } : Jvm.MethodName)) ∈ lw_tbl := lw_at lw_m7 87 rfl
theorem q1633 : (Jvm.Cond.instanceMethod ({ cls := "ApartBench", name := "isGuiltyNow", desc := "(I)Z" } : Jvm.MethodName)) ∈ lw_all := lw_g (lw_at lw_m7 88 rfl) rfl
theorem q1634 : (Jvm.Cond.code ({ cls := "ApartBench", name := "isGuiltyNow", desc := "(I)Z" } : Jvm.MethodName) prog_1_method_35_code (2 : Nat) (Option.some Jvm.ClassFile.FieldType.boolean)) ∈ lw_all := lw_g (lw_at lw_m7 89 rfl) rfl
theorem q1635 : (Jvm.Cond.methodLink "ApartBench" (255 : Nat) ({ cls := "ApartBench", name := "isGuilty", desc := "(I)Z" } : Jvm.MethodName)) ∈ lw_all := lw_g (lw_at lw_m7 90 rfl) rfl
theorem q1636 : (Jvm.Cond.privateMethod ({ cls := "ApartBench", name := "isGuilty", desc := "(I)Z" } : Jvm.MethodName)) ∈ lw_tbl := lw_at lw_m7 91 rfl
theorem q1637 : (Jvm.Cond.instanceMethod ({ cls := "ApartBench", name := "isGuilty", desc := "(I)Z" } : Jvm.MethodName)) ∈ lw_all := lw_g (lw_at lw_m7 92 rfl) rfl
theorem q1638 : (Jvm.Cond.code ({ cls := "ApartBench", name := "isGuilty", desc := "(I)Z" } : Jvm.MethodName) prog_1_method_34_code (2 : Nat) (Option.some Jvm.ClassFile.FieldType.boolean)) ∈ lw_all := lw_g (lw_at lw_m7 93 rfl) rfl
theorem q1643 : (Jvm.Cond.instanceMethod ({ cls := "ApartBench", name := "mercy", desc := "(I)I" } : Jvm.MethodName)) ∈ lw_all := lw_g (lw_at lw_m7 98 rfl) rfl
theorem q1644 : (Jvm.Cond.selects "ApartBench" ({ cls := "ApartBench", name := "mercy", desc := "(I)I" } : Jvm.MethodName) ({ cls := "ApartBench", name := "mercy", desc := "(I)I" } : Jvm.MethodName)) ∈ lw_all := lw_g (lw_at lw_m7 99 rfl) rfl
theorem q1645 : (Jvm.Cond.code ({ cls := "ApartBench", name := "mercy", desc := "(I)I" } : Jvm.MethodName) prog_1_method_37_code (4 : Nat) (Option.some Jvm.ClassFile.FieldType.int)) ∈ lw_all := lw_g (lw_at lw_m7 100 rfl) rfl
theorem q1646 : (Jvm.Cond.methodLink "ApartBench" (262 : Nat) ({ cls := "java/lang/Integer", name := "bitCount", desc := "(I)I" } : Jvm.MethodName)) ∈ lw_all := lw_g (lw_at lw_m7 101 rfl) rfl
theorem q1652 : (Jvm.Cond.methodLink "ApartBench" (273 : Nat) ({ cls := "ApartBench", name := "reaches", desc := "(I)Z" } : Jvm.MethodName)) ∈ lw_all := lw_g (lw_at lw_m7 107 rfl) rfl
theorem q1653 : (Jvm.Cond.privateMethod ({ cls := "ApartBench", name := "reaches", desc := "(I)Z" } : Jvm.MethodName)) ∈ lw_tbl := lw_at lw_m7 108 rfl
theorem q1654 : (Jvm.Cond.instanceMethod ({ cls := "ApartBench", name := "reaches", desc := "(I)Z" } : Jvm.MethodName)) ∈ lw_all := lw_g (lw_at lw_m7 109 rfl) rfl
theorem q1655 : (Jvm.Cond.code ({ cls := "ApartBench", name := "reaches", desc := "(I)Z" } : Jvm.MethodName) prog_1_method_38_code (3 : Nat) (Option.some Jvm.ClassFile.FieldType.boolean)) ∈ lw_all := lw_g (lw_at lw_m7 110 rfl) rfl
theorem q1656 : (Jvm.Cond.methodLink "ApartBench" (276 : Nat) ({ cls := "ApartBench$Judge", name := "hears", desc := "()Z" } : Jvm.MethodName)) ∈ lw_all := lw_g (lw_at lw_m7 111 rfl) rfl
theorem q1661 : (Jvm.Cond.instanceMethod ({ cls := "ApartBench", name := "deaf", desc := "(I)I" } : Jvm.MethodName)) ∈ lw_all := lw_g (lw_at lw_m7 116 rfl) rfl
theorem q1662 : (Jvm.Cond.selects "ApartBench" ({ cls := "ApartBench", name := "deaf", desc := "(I)I" } : Jvm.MethodName) ({ cls := "ApartBench", name := "deaf", desc := "(I)I" } : Jvm.MethodName)) ∈ lw_all := lw_g (lw_at lw_m7 117 rfl) rfl
theorem q1663 : (Jvm.Cond.code ({ cls := "ApartBench", name := "deaf", desc := "(I)I" } : Jvm.MethodName) prog_1_method_39_code (2 : Nat) (Option.some Jvm.ClassFile.FieldType.int)) ∈ lw_all := lw_g (lw_at lw_m7 118 rfl) rfl
theorem q1668 : (Jvm.Cond.instanceMethod ({ cls := "ApartBench", name := "soonest", desc := "(I)I" } : Jvm.MethodName)) ∈ lw_all := lw_g (lw_at lw_m7 123 rfl) rfl
theorem q1669 : (Jvm.Cond.selects "ApartBench" ({ cls := "ApartBench", name := "soonest", desc := "(I)I" } : Jvm.MethodName) ({ cls := "ApartBench", name := "soonest", desc := "(I)I" } : Jvm.MethodName)) ∈ lw_all := lw_g (lw_at lw_m7 124 rfl) rfl
theorem q1670 : (Jvm.Cond.code ({ cls := "ApartBench", name := "soonest", desc := "(I)I" } : Jvm.MethodName) prog_1_method_40_code (5 : Nat) (Option.some Jvm.ClassFile.FieldType.int)) ∈ lw_all := lw_g (lw_at lw_m7 125 rfl) rfl
theorem q1675 : (Jvm.Cond.instanceMethod ({ cls := "ApartBench", name := "see", desc := "(IIZ)I" } : Jvm.MethodName)) ∈ lw_all := lw_g (lw_at lw_m7 130 rfl) rfl
theorem q1676 : (Jvm.Cond.selects "ApartBench" ({ cls := "ApartBench", name := "see", desc := "(IIZ)I" } : Jvm.MethodName) ({ cls := "ApartBench", name := "see", desc := "(IIZ)I" } : Jvm.MethodName)) ∈ lw_all := lw_g (lw_at lw_m7 131 rfl) rfl
theorem q1677 : (Jvm.Cond.code ({ cls := "ApartBench", name := "see", desc := "(IIZ)I" } : Jvm.MethodName) prog_1_method_41_code (5 : Nat) (Option.some Jvm.ClassFile.FieldType.int)) ∈ lw_all := lw_g (lw_at lw_m7 132 rfl) rfl
theorem q1682 : (Jvm.Cond.instanceMethod ({ cls := "ApartBench", name := "sent", desc := "(II)I" } : Jvm.MethodName)) ∈ lw_all := lw_g (lw_at lw_m7 137 rfl) rfl
theorem q1683 : (Jvm.Cond.selects "ApartBench" ({ cls := "ApartBench", name := "sent", desc := "(II)I" } : Jvm.MethodName) ({ cls := "ApartBench", name := "sent", desc := "(II)I" } : Jvm.MethodName)) ∈ lw_all := lw_g (lw_at lw_m7 138 rfl) rfl
theorem q1684 : (Jvm.Cond.code ({ cls := "ApartBench", name := "sent", desc := "(II)I" } : Jvm.MethodName) prog_1_method_44_code (7 : Nat) (Option.some Jvm.ClassFile.FieldType.int)) ∈ lw_all := lw_g (lw_at lw_m7 139 rfl) rfl
theorem q1685 : (Jvm.Cond.methodLink "ApartBench" (292 : Nat) ({ cls := "ApartBench", name := "isSeen", desc := "()Z" } : Jvm.MethodName)) ∈ lw_all := lw_g (lw_at lw_m7 140 rfl) rfl
theorem q1686 : (Jvm.Cond.privateMethod ({ cls := "ApartBench", name := "isSeen", desc := "()Z" } : Jvm.MethodName)) ∈ lw_tbl := lw_at lw_m7 141 rfl
theorem q1687 : (Jvm.Cond.instanceMethod ({ cls := "ApartBench", name := "isSeen", desc := "()Z" } : Jvm.MethodName)) ∈ lw_all := lw_g (lw_at lw_m7 142 rfl) rfl
theorem q1688 : (Jvm.Cond.code ({ cls := "ApartBench", name := "isSeen", desc := "()Z" } : Jvm.MethodName) prog_1_method_43_code (2 : Nat) (Option.some Jvm.ClassFile.FieldType.boolean)) ∈ lw_all := lw_g (lw_at lw_m7 143 rfl) rfl
theorem q1693 : (Jvm.Cond.instanceMethod ({ cls := "ApartBench", name := "game", desc := "(II)I" } : Jvm.MethodName)) ∈ lw_all := lw_g (lw_at lw_m7 148 rfl) rfl
theorem q1694 : (Jvm.Cond.selects "ApartBench" ({ cls := "ApartBench", name := "game", desc := "(II)I" } : Jvm.MethodName) ({ cls := "ApartBench", name := "game", desc := "(II)I" } : Jvm.MethodName)) ∈ lw_all := lw_g (lw_at lw_m7 149 rfl) rfl
theorem q1695 : (Jvm.Cond.code ({ cls := "ApartBench", name := "game", desc := "(II)I" } : Jvm.MethodName) prog_1_method_46_code (10 : Nat) (Option.some Jvm.ClassFile.FieldType.int)) ∈ lw_all := lw_g (lw_at lw_m7 150 rfl) rfl
theorem q1696 : (Jvm.Cond.methodLink "ApartBench" (295 : Nat) ({ cls := "ApartBench", name := "wins", desc := "(III)Z" } : Jvm.MethodName)) ∈ lw_all := lw_g (lw_at lw_m7 151 rfl) rfl
theorem q1697 : (Jvm.Cond.privateMethod ({ cls := "ApartBench", name := "wins", desc := "(III)Z" } : Jvm.MethodName)) ∈ lw_tbl := lw_at lw_m7 152 rfl
theorem q1698 : (Jvm.Cond.instanceMethod ({ cls := "ApartBench", name := "wins", desc := "(III)Z" } : Jvm.MethodName)) ∈ lw_all := lw_g (lw_at lw_m7 153 rfl) rfl
theorem q1699 : (Jvm.Cond.code ({ cls := "ApartBench", name := "wins", desc := "(III)Z" } : Jvm.MethodName) prog_1_method_45_code (4 : Nat) (Option.some Jvm.ClassFile.FieldType.boolean)) ∈ lw_all := lw_g (lw_at lw_m7 154 rfl) rfl
theorem q1704 : (Jvm.Cond.instanceMethod ({ cls := "ApartBench", name := "season", desc := "(III)I" } : Jvm.MethodName)) ∈ lw_all := lw_g (lw_at lw_m7 159 rfl) rfl
theorem q1705 : (Jvm.Cond.selects "ApartBench" ({ cls := "ApartBench", name := "season", desc := "(III)I" } : Jvm.MethodName) ({ cls := "ApartBench", name := "season", desc := "(III)I" } : Jvm.MethodName)) ∈ lw_all := lw_g (lw_at lw_m7 160 rfl) rfl
theorem q1706 : (Jvm.Cond.code ({ cls := "ApartBench", name := "season", desc := "(III)I" } : Jvm.MethodName) prog_1_method_48_code (11 : Nat) (Option.some Jvm.ClassFile.FieldType.int)) ∈ lw_all := lw_g (lw_at lw_m7 161 rfl) rfl
theorem q1707 : (Jvm.Cond.methodLink "ApartBench" (302 : Nat) ({ cls := "ApartBench", name := "draw", desc := "(I)I" } : Jvm.MethodName)) ∈ lw_all := lw_g (lw_at lw_m7 162 rfl) rfl
theorem q1708 : (Jvm.Cond.privateMethod ({ cls := "ApartBench", name := "draw", desc := "(I)I" } : Jvm.MethodName)) ∈ lw_tbl := lw_at lw_m7 163 rfl
theorem q1709 : (Jvm.Cond.instanceMethod ({ cls := "ApartBench", name := "draw", desc := "(I)I" } : Jvm.MethodName)) ∈ lw_all := lw_g (lw_at lw_m7 164 rfl) rfl
theorem q1710 : (Jvm.Cond.code ({ cls := "ApartBench", name := "draw", desc := "(I)I" } : Jvm.MethodName) prog_1_method_47_code (2 : Nat) (Option.some Jvm.ClassFile.FieldType.int)) ∈ lw_all := lw_g (lw_at lw_m7 165 rfl) rfl
theorem q1711 : (Jvm.Cond.constant "ApartBench" (301 : Nat) (1103515245 : Int32)) ∈ lw_all := lw_g (lw_at lw_m7 166 rfl) rfl
theorem q2349 : (Jvm.Cond.castable "ApartBench" "java/lang/Object") ∈ lw_tbl := lw_at lw_m10 84 rfl
theorem in_X1 : ∀ w ∈ wsX10, w ∈ lw_all := lw_in wsX10 [821, 823, 825, 827, 829, 831, 833, 835, 837, 839, 841] (by decide +kernel) (by decide +kernel)

/-! ApartBench$Land -/
set_option maxRecDepth 100000
def RX2 : String := "ApartBench$Land"
def TX2 : u_T := fun k => match k with
  | 0 => ("ApartBench$Land", "towns", "I", false)
  | 1 => ("ApartBench$Land", "roads", "I", false)
  | 2 => ("ApartBench$Land", "gossip", "I", false)
  | 3 => ("ApartBench$Land", "inns", "I", false)
  | 4 => ("ApartBench$Land", "road", "[I", true)
  | 5 => ("ApartBench$Land", "far", "[I", true)
  | 6 => ("ApartBench$Land", "judges", "Ljava/util/ArrayList;", true)
  | 7 => ("ApartBench$Land", "cases", "Ljava/util/ArrayList;", true)
  | 8 => ("ApartBench$Land", "law", "LApartBench$Expr;", false)
  | _ => ("ApartBench$Land", "view", "LApartBench$View;", true)
def tyX2 : Nat → FieldType := fun k => match k with
  | 0 => .int
  | 1 => .int
  | 2 => .int
  | 3 => .int
  | 4 => .array .int
  | 5 => .array .int
  | 6 => .object "java/util/ArrayList"
  | 7 => .object "java/util/ArrayList"
  | 8 => .object "ApartBench$Expr"
  | _ => .object "ApartBench$View"
abbrev wsX20 : List Cond := u_ws RX2 TX2 10
theorem nmX2 : ∀ a, a < 10 → ∀ b, b < 10 → a ≠ b → (TX2 a).2.1 ≠ (TX2 b).2.1 := by decide +kernel
theorem tyX2_ok : ∀ k, k < 10 → parseFieldDescriptor (TX2 k).2.2.1 = some (tyX2 k) := by decide +kernel
abbrev cX2_init : ByteArray := prog_8_method_1_code
def yX2_init : MethodName := ⟨RX2, "<init>", "()V"⟩
def dkwX2_init_2 : List UInt8 := [181, 0, 31, 42, 187, 0, 34, 89, 183, 0, 36, 181, 0, 37, 177]
abbrev dktX2_init_2 : List UInt8 := dkwX2_init_2 ++ []
def dkwX2_init_1 : List UInt8 := [181, 0, 19, 42, 187, 0, 22, 89, 4, 183, 0, 24, 181, 0, 27, 42, 187, 0, 22, 89, 4, 183, 0, 24]
abbrev dktX2_init_1 : List UInt8 := dkwX2_init_1 ++ dktX2_init_2
def dkwX2_init_0 : List UInt8 := [42, 183, 0, 3, 42, 16, 10, 181, 0, 9, 42, 16, 81, 188, 10, 181, 0, 15, 42, 16, 81, 188, 10]
abbrev dktX2_init_0 : List UInt8 := dkwX2_init_0 ++ dktX2_init_1
theorem dksX2_init_0 : cX2_init.data.toList.drop 0 = dktX2_init_0 := by decide +kernel
theorem dksX2_init_1 : cX2_init.data.toList.drop 23 = dktX2_init_1 := dk_seg dksX2_init_0 23 rfl rfl
theorem dksX2_init_2 : cX2_init.data.toList.drop 47 = dktX2_init_2 := dk_seg dksX2_init_1 24 rfl rfl
theorem dX2_init_0 : decode cX2_init 0 = .ok (.aload_n 0, 1) := dk_42 (dk_at dksX2_init_0 0 rfl rfl)
theorem dX2_init_1 : decode cX2_init 1 = .ok (.invokespecial 3, 3) := dk_183 0 3 (dk_at dksX2_init_0 1 rfl rfl)
theorem dX2_init_4 : decode cX2_init 4 = .ok (.aload_n 0, 1) := dk_42 (dk_at dksX2_init_0 4 rfl rfl)
theorem dX2_init_5 : decode cX2_init 5 = .ok (.bipush 10, 2) := dk_16 10 (dk_at dksX2_init_0 5 rfl rfl)
theorem dX2_init_7 : decode cX2_init 7 = .ok (.putfield 9, 3) := dk_181 0 9 (dk_at dksX2_init_0 7 rfl rfl)
theorem dX2_init_10 : decode cX2_init 10 = .ok (.aload_n 0, 1) := dk_42 (dk_at dksX2_init_0 10 rfl rfl)
theorem dX2_init_11 : decode cX2_init 11 = .ok (.bipush 81, 2) := dk_16 81 (dk_at dksX2_init_0 11 rfl rfl)
theorem dX2_init_13 : decode cX2_init 13 = .ok (.newarray .int, 2) := dk_188_10 (dk_at dksX2_init_0 13 rfl rfl)
theorem dX2_init_15 : decode cX2_init 15 = .ok (.putfield 15, 3) := dk_181 0 15 (dk_at dksX2_init_0 15 rfl rfl)
theorem dX2_init_18 : decode cX2_init 18 = .ok (.aload_n 0, 1) := dk_42 (dk_at dksX2_init_0 18 rfl rfl)
theorem dX2_init_19 : decode cX2_init 19 = .ok (.bipush 81, 2) := dk_16 81 (dk_at dksX2_init_0 19 rfl rfl)
theorem dX2_init_21 : decode cX2_init 21 = .ok (.newarray .int, 2) := dk_188_10 (dk_at dksX2_init_0 21 rfl rfl)
theorem dX2_init_23 : decode cX2_init 23 = .ok (.putfield 19, 3) := dk_181 0 19 (dk_at dksX2_init_1 0 rfl rfl)
theorem dX2_init_26 : decode cX2_init 26 = .ok (.aload_n 0, 1) := dk_42 (dk_at dksX2_init_1 3 rfl rfl)
theorem dX2_init_27 : decode cX2_init 27 = .ok (.new 22, 3) := dk_187 0 22 (dk_at dksX2_init_1 4 rfl rfl)
theorem dX2_init_30 : decode cX2_init 30 = .ok (.dup, 1) := dk_89 (dk_at dksX2_init_1 7 rfl rfl)
theorem dX2_init_31 : decode cX2_init 31 = .ok (.iconst 1, 1) := dk_4 (dk_at dksX2_init_1 8 rfl rfl)
theorem dX2_init_32 : decode cX2_init 32 = .ok (.invokespecial 24, 3) := dk_183 0 24 (dk_at dksX2_init_1 9 rfl rfl)
theorem dX2_init_35 : decode cX2_init 35 = .ok (.putfield 27, 3) := dk_181 0 27 (dk_at dksX2_init_1 12 rfl rfl)
theorem dX2_init_38 : decode cX2_init 38 = .ok (.aload_n 0, 1) := dk_42 (dk_at dksX2_init_1 15 rfl rfl)
theorem dX2_init_39 : decode cX2_init 39 = .ok (.new 22, 3) := dk_187 0 22 (dk_at dksX2_init_1 16 rfl rfl)
theorem dX2_init_42 : decode cX2_init 42 = .ok (.dup, 1) := dk_89 (dk_at dksX2_init_1 19 rfl rfl)
theorem dX2_init_43 : decode cX2_init 43 = .ok (.iconst 1, 1) := dk_4 (dk_at dksX2_init_1 20 rfl rfl)
theorem dX2_init_44 : decode cX2_init 44 = .ok (.invokespecial 24, 3) := dk_183 0 24 (dk_at dksX2_init_1 21 rfl rfl)
theorem dX2_init_47 : decode cX2_init 47 = .ok (.putfield 31, 3) := dk_181 0 31 (dk_at dksX2_init_2 0 rfl rfl)
theorem dX2_init_50 : decode cX2_init 50 = .ok (.aload_n 0, 1) := dk_42 (dk_at dksX2_init_2 3 rfl rfl)
theorem dX2_init_51 : decode cX2_init 51 = .ok (.new 34, 3) := dk_187 0 34 (dk_at dksX2_init_2 4 rfl rfl)
theorem dX2_init_54 : decode cX2_init 54 = .ok (.dup, 1) := dk_89 (dk_at dksX2_init_2 7 rfl rfl)
theorem dX2_init_55 : decode cX2_init 55 = .ok (.invokespecial 36, 3) := dk_183 0 36 (dk_at dksX2_init_2 8 rfl rfl)
theorem dX2_init_58 : decode cX2_init 58 = .ok (.putfield 37, 3) := dk_181 0 37 (dk_at dksX2_init_2 11 rfl rfl)
theorem dX2_init_61 : decode cX2_init 61 = .ok (.return_, 1) := dk_177 (dk_at dksX2_init_2 14 rfl rfl)
abbrev cX2_measures : ByteArray := prog_8_method_2_code
def yX2_measures : MethodName := ⟨RX2, "measures", "()V"⟩
def dkwX2_measures_6 : List UInt8 := [167, 255, 181, 132, 1, 1, 167, 255, 165, 177]
abbrev dktX2_measures_6 : List UInt8 := dkwX2_measures_6 ++ []
def dkwX2_measures_5 : List UInt8 := [180, 0, 19, 16, 9, 27, 104, 29, 96, 46, 96, 184, 0, 44, 79, 132, 3, 1, 167, 255, 197, 132, 2, 1]
abbrev dktX2_measures_5 : List UInt8 := dkwX2_measures_5 ++ dktX2_measures_6
def dkwX2_measures_4 : List UInt8 := [180, 0, 19, 16, 9, 28, 104, 29, 96, 46, 42, 180, 0, 19, 16, 9, 28, 104, 27, 96, 46, 42]
abbrev dktX2_measures_4 : List UInt8 := dkwX2_measures_4 ++ dktX2_measures_5
def dkwX2_measures_3 : List UInt8 := [162, 0, 73, 3, 62, 29, 42, 180, 0, 41, 162, 0, 57, 42, 180, 0, 19, 16, 9, 28, 104, 29, 96, 42]
abbrev dktX2_measures_3 : List UInt8 := dkwX2_measures_3 ++ dktX2_measures_4
def dkwX2_measures_2 : List UInt8 := [132, 1, 1, 167, 255, 209, 3, 60, 27, 42, 180, 0, 41, 162, 0, 89, 3, 61, 28, 42, 180, 0, 41]
abbrev dktX2_measures_2 : List UInt8 := dkwX2_measures_2 ++ dktX2_measures_3
def dkwX2_measures_1 : List UInt8 := [42, 180, 0, 15, 27, 46, 158, 0, 12, 42, 180, 0, 15, 27, 46, 167, 0, 6, 17, 39, 15, 79]
abbrev dktX2_measures_1 : List UInt8 := dkwX2_measures_1 ++ dktX2_measures_2
def dkwX2_measures_0 : List UInt8 := [3, 60, 27, 16, 81, 162, 0, 47, 42, 180, 0, 19, 27, 27, 16, 10, 112, 154, 0, 7, 3, 167, 0, 24]
abbrev dktX2_measures_0 : List UInt8 := dkwX2_measures_0 ++ dktX2_measures_1
theorem dksX2_measures_0 : cX2_measures.data.toList.drop 0 = dktX2_measures_0 := by decide +kernel
theorem dksX2_measures_1 : cX2_measures.data.toList.drop 24 = dktX2_measures_1 := dk_seg dksX2_measures_0 24 rfl rfl
theorem dksX2_measures_2 : cX2_measures.data.toList.drop 46 = dktX2_measures_2 := dk_seg dksX2_measures_1 22 rfl rfl
theorem dksX2_measures_3 : cX2_measures.data.toList.drop 69 = dktX2_measures_3 := dk_seg dksX2_measures_2 23 rfl rfl
theorem dksX2_measures_4 : cX2_measures.data.toList.drop 93 = dktX2_measures_4 := dk_seg dksX2_measures_3 24 rfl rfl
theorem dksX2_measures_5 : cX2_measures.data.toList.drop 115 = dktX2_measures_5 := dk_seg dksX2_measures_4 22 rfl rfl
theorem dksX2_measures_6 : cX2_measures.data.toList.drop 139 = dktX2_measures_6 := dk_seg dksX2_measures_5 24 rfl rfl
theorem dX2_measures_0 : decode cX2_measures 0 = .ok (.iconst 0, 1) := dk_3 (dk_at dksX2_measures_0 0 rfl rfl)
theorem dX2_measures_1 : decode cX2_measures 1 = .ok (.istore_n 1, 1) := dk_60 (dk_at dksX2_measures_0 1 rfl rfl)
theorem dX2_measures_2 : decode cX2_measures 2 = .ok (.iload_n 1, 1) := dk_27 (dk_at dksX2_measures_0 2 rfl rfl)
theorem dX2_measures_3 : decode cX2_measures 3 = .ok (.bipush 81, 2) := dk_16 81 (dk_at dksX2_measures_0 3 rfl rfl)
theorem dX2_measures_5 : decode cX2_measures 5 = .ok (.if_icmp .ge 47, 3) := dk_162 0 47 (dk_at dksX2_measures_0 5 rfl rfl)
theorem dX2_measures_8 : decode cX2_measures 8 = .ok (.aload_n 0, 1) := dk_42 (dk_at dksX2_measures_0 8 rfl rfl)
theorem dX2_measures_9 : decode cX2_measures 9 = .ok (.getfield 19, 3) := dk_180 0 19 (dk_at dksX2_measures_0 9 rfl rfl)
theorem dX2_measures_12 : decode cX2_measures 12 = .ok (.iload_n 1, 1) := dk_27 (dk_at dksX2_measures_0 12 rfl rfl)
theorem dX2_measures_13 : decode cX2_measures 13 = .ok (.iload_n 1, 1) := dk_27 (dk_at dksX2_measures_0 13 rfl rfl)
theorem dX2_measures_14 : decode cX2_measures 14 = .ok (.bipush 10, 2) := dk_16 10 (dk_at dksX2_measures_0 14 rfl rfl)
theorem dX2_measures_16 : decode cX2_measures 16 = .ok (.irem, 1) := dk_112 (dk_at dksX2_measures_0 16 rfl rfl)
theorem dX2_measures_17 : decode cX2_measures 17 = .ok (.ifCond .ne 7, 3) := dk_154 0 7 (dk_at dksX2_measures_0 17 rfl rfl)
theorem dX2_measures_20 : decode cX2_measures 20 = .ok (.iconst 0, 1) := dk_3 (dk_at dksX2_measures_0 20 rfl rfl)
theorem dX2_measures_21 : decode cX2_measures 21 = .ok (.goto 24, 3) := dk_167 0 24 (dk_at dksX2_measures_0 21 rfl rfl)
theorem dX2_measures_24 : decode cX2_measures 24 = .ok (.aload_n 0, 1) := dk_42 (dk_at dksX2_measures_1 0 rfl rfl)
theorem dX2_measures_25 : decode cX2_measures 25 = .ok (.getfield 15, 3) := dk_180 0 15 (dk_at dksX2_measures_1 1 rfl rfl)
theorem dX2_measures_28 : decode cX2_measures 28 = .ok (.iload_n 1, 1) := dk_27 (dk_at dksX2_measures_1 4 rfl rfl)
theorem dX2_measures_29 : decode cX2_measures 29 = .ok (.iaload, 1) := dk_46 (dk_at dksX2_measures_1 5 rfl rfl)
theorem dX2_measures_30 : decode cX2_measures 30 = .ok (.ifCond .le 12, 3) := dk_158 0 12 (dk_at dksX2_measures_1 6 rfl rfl)
theorem dX2_measures_33 : decode cX2_measures 33 = .ok (.aload_n 0, 1) := dk_42 (dk_at dksX2_measures_1 9 rfl rfl)
theorem dX2_measures_34 : decode cX2_measures 34 = .ok (.getfield 15, 3) := dk_180 0 15 (dk_at dksX2_measures_1 10 rfl rfl)
theorem dX2_measures_37 : decode cX2_measures 37 = .ok (.iload_n 1, 1) := dk_27 (dk_at dksX2_measures_1 13 rfl rfl)
theorem dX2_measures_38 : decode cX2_measures 38 = .ok (.iaload, 1) := dk_46 (dk_at dksX2_measures_1 14 rfl rfl)
theorem dX2_measures_39 : decode cX2_measures 39 = .ok (.goto 6, 3) := dk_167 0 6 (dk_at dksX2_measures_1 15 rfl rfl)
theorem dX2_measures_42 : decode cX2_measures 42 = .ok (.sipush 9999, 3) := dk_17 39 15 (dk_at dksX2_measures_1 18 rfl rfl)
theorem dX2_measures_45 : decode cX2_measures 45 = .ok (.iastore, 1) := dk_79 (dk_at dksX2_measures_1 21 rfl rfl)
theorem dX2_measures_46 : decode cX2_measures 46 = .ok (.iinc 1 1, 3) := dk_132 1 1 (dk_at dksX2_measures_2 0 rfl rfl)
theorem dX2_measures_49 : decode cX2_measures 49 = .ok (.goto (-47), 3) := dk_167 255 209 (dk_at dksX2_measures_2 3 rfl rfl)
theorem dX2_measures_52 : decode cX2_measures 52 = .ok (.iconst 0, 1) := dk_3 (dk_at dksX2_measures_2 6 rfl rfl)
theorem dX2_measures_53 : decode cX2_measures 53 = .ok (.istore_n 1, 1) := dk_60 (dk_at dksX2_measures_2 7 rfl rfl)
theorem dX2_measures_54 : decode cX2_measures 54 = .ok (.iload_n 1, 1) := dk_27 (dk_at dksX2_measures_2 8 rfl rfl)
theorem dX2_measures_55 : decode cX2_measures 55 = .ok (.aload_n 0, 1) := dk_42 (dk_at dksX2_measures_2 9 rfl rfl)
theorem dX2_measures_56 : decode cX2_measures 56 = .ok (.getfield 41, 3) := dk_180 0 41 (dk_at dksX2_measures_2 10 rfl rfl)
theorem dX2_measures_59 : decode cX2_measures 59 = .ok (.if_icmp .ge 89, 3) := dk_162 0 89 (dk_at dksX2_measures_2 13 rfl rfl)
theorem dX2_measures_62 : decode cX2_measures 62 = .ok (.iconst 0, 1) := dk_3 (dk_at dksX2_measures_2 16 rfl rfl)
theorem dX2_measures_63 : decode cX2_measures 63 = .ok (.istore_n 2, 1) := dk_61 (dk_at dksX2_measures_2 17 rfl rfl)
theorem dX2_measures_64 : decode cX2_measures 64 = .ok (.iload_n 2, 1) := dk_28 (dk_at dksX2_measures_2 18 rfl rfl)
theorem dX2_measures_65 : decode cX2_measures 65 = .ok (.aload_n 0, 1) := dk_42 (dk_at dksX2_measures_2 19 rfl rfl)
theorem dX2_measures_66 : decode cX2_measures 66 = .ok (.getfield 41, 3) := dk_180 0 41 (dk_at dksX2_measures_2 20 rfl rfl)
theorem dX2_measures_69 : decode cX2_measures 69 = .ok (.if_icmp .ge 73, 3) := dk_162 0 73 (dk_at dksX2_measures_3 0 rfl rfl)
theorem dX2_measures_72 : decode cX2_measures 72 = .ok (.iconst 0, 1) := dk_3 (dk_at dksX2_measures_3 3 rfl rfl)
theorem dX2_measures_73 : decode cX2_measures 73 = .ok (.istore_n 3, 1) := dk_62 (dk_at dksX2_measures_3 4 rfl rfl)
theorem dX2_measures_74 : decode cX2_measures 74 = .ok (.iload_n 3, 1) := dk_29 (dk_at dksX2_measures_3 5 rfl rfl)
theorem dX2_measures_75 : decode cX2_measures 75 = .ok (.aload_n 0, 1) := dk_42 (dk_at dksX2_measures_3 6 rfl rfl)
theorem dX2_measures_76 : decode cX2_measures 76 = .ok (.getfield 41, 3) := dk_180 0 41 (dk_at dksX2_measures_3 7 rfl rfl)
theorem dX2_measures_79 : decode cX2_measures 79 = .ok (.if_icmp .ge 57, 3) := dk_162 0 57 (dk_at dksX2_measures_3 10 rfl rfl)
theorem dX2_measures_82 : decode cX2_measures 82 = .ok (.aload_n 0, 1) := dk_42 (dk_at dksX2_measures_3 13 rfl rfl)
theorem dX2_measures_83 : decode cX2_measures 83 = .ok (.getfield 19, 3) := dk_180 0 19 (dk_at dksX2_measures_3 14 rfl rfl)
theorem dX2_measures_86 : decode cX2_measures 86 = .ok (.bipush 9, 2) := dk_16 9 (dk_at dksX2_measures_3 17 rfl rfl)
theorem dX2_measures_88 : decode cX2_measures 88 = .ok (.iload_n 2, 1) := dk_28 (dk_at dksX2_measures_3 19 rfl rfl)
theorem dX2_measures_89 : decode cX2_measures 89 = .ok (.imul, 1) := dk_104 (dk_at dksX2_measures_3 20 rfl rfl)
theorem dX2_measures_90 : decode cX2_measures 90 = .ok (.iload_n 3, 1) := dk_29 (dk_at dksX2_measures_3 21 rfl rfl)
theorem dX2_measures_91 : decode cX2_measures 91 = .ok (.iadd, 1) := dk_96 (dk_at dksX2_measures_3 22 rfl rfl)
theorem dX2_measures_92 : decode cX2_measures 92 = .ok (.aload_n 0, 1) := dk_42 (dk_at dksX2_measures_3 23 rfl rfl)
theorem dX2_measures_93 : decode cX2_measures 93 = .ok (.getfield 19, 3) := dk_180 0 19 (dk_at dksX2_measures_4 0 rfl rfl)
theorem dX2_measures_96 : decode cX2_measures 96 = .ok (.bipush 9, 2) := dk_16 9 (dk_at dksX2_measures_4 3 rfl rfl)
theorem dX2_measures_98 : decode cX2_measures 98 = .ok (.iload_n 2, 1) := dk_28 (dk_at dksX2_measures_4 5 rfl rfl)
theorem dX2_measures_99 : decode cX2_measures 99 = .ok (.imul, 1) := dk_104 (dk_at dksX2_measures_4 6 rfl rfl)
theorem dX2_measures_100 : decode cX2_measures 100 = .ok (.iload_n 3, 1) := dk_29 (dk_at dksX2_measures_4 7 rfl rfl)
theorem dX2_measures_101 : decode cX2_measures 101 = .ok (.iadd, 1) := dk_96 (dk_at dksX2_measures_4 8 rfl rfl)
theorem dX2_measures_102 : decode cX2_measures 102 = .ok (.iaload, 1) := dk_46 (dk_at dksX2_measures_4 9 rfl rfl)
theorem dX2_measures_103 : decode cX2_measures 103 = .ok (.aload_n 0, 1) := dk_42 (dk_at dksX2_measures_4 10 rfl rfl)
theorem dX2_measures_104 : decode cX2_measures 104 = .ok (.getfield 19, 3) := dk_180 0 19 (dk_at dksX2_measures_4 11 rfl rfl)
theorem dX2_measures_107 : decode cX2_measures 107 = .ok (.bipush 9, 2) := dk_16 9 (dk_at dksX2_measures_4 14 rfl rfl)
theorem dX2_measures_109 : decode cX2_measures 109 = .ok (.iload_n 2, 1) := dk_28 (dk_at dksX2_measures_4 16 rfl rfl)
theorem dX2_measures_110 : decode cX2_measures 110 = .ok (.imul, 1) := dk_104 (dk_at dksX2_measures_4 17 rfl rfl)
theorem dX2_measures_111 : decode cX2_measures 111 = .ok (.iload_n 1, 1) := dk_27 (dk_at dksX2_measures_4 18 rfl rfl)
theorem dX2_measures_112 : decode cX2_measures 112 = .ok (.iadd, 1) := dk_96 (dk_at dksX2_measures_4 19 rfl rfl)
theorem dX2_measures_113 : decode cX2_measures 113 = .ok (.iaload, 1) := dk_46 (dk_at dksX2_measures_4 20 rfl rfl)
theorem dX2_measures_114 : decode cX2_measures 114 = .ok (.aload_n 0, 1) := dk_42 (dk_at dksX2_measures_4 21 rfl rfl)
theorem dX2_measures_115 : decode cX2_measures 115 = .ok (.getfield 19, 3) := dk_180 0 19 (dk_at dksX2_measures_5 0 rfl rfl)
theorem dX2_measures_118 : decode cX2_measures 118 = .ok (.bipush 9, 2) := dk_16 9 (dk_at dksX2_measures_5 3 rfl rfl)
theorem dX2_measures_120 : decode cX2_measures 120 = .ok (.iload_n 1, 1) := dk_27 (dk_at dksX2_measures_5 5 rfl rfl)
theorem dX2_measures_121 : decode cX2_measures 121 = .ok (.imul, 1) := dk_104 (dk_at dksX2_measures_5 6 rfl rfl)
theorem dX2_measures_122 : decode cX2_measures 122 = .ok (.iload_n 3, 1) := dk_29 (dk_at dksX2_measures_5 7 rfl rfl)
theorem dX2_measures_123 : decode cX2_measures 123 = .ok (.iadd, 1) := dk_96 (dk_at dksX2_measures_5 8 rfl rfl)
theorem dX2_measures_124 : decode cX2_measures 124 = .ok (.iaload, 1) := dk_46 (dk_at dksX2_measures_5 9 rfl rfl)
theorem dX2_measures_125 : decode cX2_measures 125 = .ok (.iadd, 1) := dk_96 (dk_at dksX2_measures_5 10 rfl rfl)
theorem dX2_measures_126 : decode cX2_measures 126 = .ok (.invokestatic 44, 3) := dk_184 0 44 (dk_at dksX2_measures_5 11 rfl rfl)
theorem dX2_measures_129 : decode cX2_measures 129 = .ok (.iastore, 1) := dk_79 (dk_at dksX2_measures_5 14 rfl rfl)
theorem dX2_measures_130 : decode cX2_measures 130 = .ok (.iinc 3 1, 3) := dk_132 3 1 (dk_at dksX2_measures_5 15 rfl rfl)
theorem dX2_measures_133 : decode cX2_measures 133 = .ok (.goto (-59), 3) := dk_167 255 197 (dk_at dksX2_measures_5 18 rfl rfl)
theorem dX2_measures_136 : decode cX2_measures 136 = .ok (.iinc 2 1, 3) := dk_132 2 1 (dk_at dksX2_measures_5 21 rfl rfl)
theorem dX2_measures_139 : decode cX2_measures 139 = .ok (.goto (-75), 3) := dk_167 255 181 (dk_at dksX2_measures_6 0 rfl rfl)
theorem dX2_measures_142 : decode cX2_measures 142 = .ok (.iinc 1 1, 3) := dk_132 1 1 (dk_at dksX2_measures_6 3 rfl rfl)
theorem dX2_measures_145 : decode cX2_measures 145 = .ok (.goto (-91), 3) := dk_167 255 165 (dk_at dksX2_measures_6 6 rfl rfl)
theorem dX2_measures_148 : decode cX2_measures 148 = .ok (.return_, 1) := dk_177 (dk_at dksX2_measures_6 9 rfl rfl)
abbrev cX2_byLaw : ByteArray := prog_8_method_5_code
def yX2_byLaw : MethodName := ⟨RX2, "byLaw", "(LApartBench$Judge;IIII)Z"⟩
def dkwX2_byLaw_4 : List UInt8 := [158, 0, 7, 4, 167, 0, 4, 3, 172]
abbrev dktX2_byLaw_4 : List UInt8 := dkwX2_byLaw_4 ++ []
def dkwX2_byLaw_3 : List UInt8 := [180, 0, 37, 178, 0, 80, 21, 5, 182, 0, 62, 42, 180, 0, 52, 42, 180, 0, 37, 182, 0, 83]
abbrev dktX2_byLaw_3 : List UInt8 := dkwX2_byLaw_3 ++ dktX2_byLaw_4
def dkwX2_byLaw_2 : List UInt8 := [180, 0, 37, 178, 0, 74, 29, 182, 0, 62, 42, 180, 0, 37, 178, 0, 77, 21, 4, 182, 0, 62, 42]
abbrev dktX2_byLaw_2 : List UInt8 := dkwX2_byLaw_2 ++ dktX2_byLaw_3
def dkwX2_byLaw_1 : List UInt8 := [178, 0, 56, 28, 182, 0, 62, 42, 180, 0, 37, 178, 0, 66, 43, 180, 0, 69, 182, 0, 62, 42]
abbrev dktX2_byLaw_1 : List UInt8 := dkwX2_byLaw_1 ++ dktX2_byLaw_2
def dkwX2_byLaw_0 : List UInt8 := [42, 180, 0, 52, 199, 0, 14, 28, 7, 164, 0, 7, 4, 167, 0, 4, 3, 172, 42, 180, 0, 37]
abbrev dktX2_byLaw_0 : List UInt8 := dkwX2_byLaw_0 ++ dktX2_byLaw_1
theorem dksX2_byLaw_0 : cX2_byLaw.data.toList.drop 0 = dktX2_byLaw_0 := by decide +kernel
theorem dksX2_byLaw_1 : cX2_byLaw.data.toList.drop 22 = dktX2_byLaw_1 := dk_seg dksX2_byLaw_0 22 rfl rfl
theorem dksX2_byLaw_2 : cX2_byLaw.data.toList.drop 44 = dktX2_byLaw_2 := dk_seg dksX2_byLaw_1 22 rfl rfl
theorem dksX2_byLaw_3 : cX2_byLaw.data.toList.drop 67 = dktX2_byLaw_3 := dk_seg dksX2_byLaw_2 23 rfl rfl
theorem dksX2_byLaw_4 : cX2_byLaw.data.toList.drop 89 = dktX2_byLaw_4 := dk_seg dksX2_byLaw_3 22 rfl rfl
theorem dX2_byLaw_0 : decode cX2_byLaw 0 = .ok (.aload_n 0, 1) := dk_42 (dk_at dksX2_byLaw_0 0 rfl rfl)
theorem dX2_byLaw_1 : decode cX2_byLaw 1 = .ok (.getfield 52, 3) := dk_180 0 52 (dk_at dksX2_byLaw_0 1 rfl rfl)
theorem dX2_byLaw_4 : decode cX2_byLaw 4 = .ok (.ifnonnull 14, 3) := dk_199 0 14 (dk_at dksX2_byLaw_0 4 rfl rfl)
theorem dX2_byLaw_7 : decode cX2_byLaw 7 = .ok (.iload_n 2, 1) := dk_28 (dk_at dksX2_byLaw_0 7 rfl rfl)
theorem dX2_byLaw_8 : decode cX2_byLaw 8 = .ok (.iconst 4, 1) := dk_7 (dk_at dksX2_byLaw_0 8 rfl rfl)
theorem dX2_byLaw_9 : decode cX2_byLaw 9 = .ok (.if_icmp .le 7, 3) := dk_164 0 7 (dk_at dksX2_byLaw_0 9 rfl rfl)
theorem dX2_byLaw_12 : decode cX2_byLaw 12 = .ok (.iconst 1, 1) := dk_4 (dk_at dksX2_byLaw_0 12 rfl rfl)
theorem dX2_byLaw_13 : decode cX2_byLaw 13 = .ok (.goto 4, 3) := dk_167 0 4 (dk_at dksX2_byLaw_0 13 rfl rfl)
theorem dX2_byLaw_16 : decode cX2_byLaw 16 = .ok (.iconst 0, 1) := dk_3 (dk_at dksX2_byLaw_0 16 rfl rfl)
theorem dX2_byLaw_17 : decode cX2_byLaw 17 = .ok (.ireturn, 1) := dk_172 (dk_at dksX2_byLaw_0 17 rfl rfl)
theorem dX2_byLaw_18 : decode cX2_byLaw 18 = .ok (.aload_n 0, 1) := dk_42 (dk_at dksX2_byLaw_0 18 rfl rfl)
theorem dX2_byLaw_19 : decode cX2_byLaw 19 = .ok (.getfield 37, 3) := dk_180 0 37 (dk_at dksX2_byLaw_0 19 rfl rfl)
theorem dX2_byLaw_22 : decode cX2_byLaw 22 = .ok (.getstatic 56, 3) := dk_178 0 56 (dk_at dksX2_byLaw_1 0 rfl rfl)
theorem dX2_byLaw_25 : decode cX2_byLaw 25 = .ok (.iload_n 2, 1) := dk_28 (dk_at dksX2_byLaw_1 3 rfl rfl)
theorem dX2_byLaw_26 : decode cX2_byLaw 26 = .ok (.invokevirtual 62, 3) := dk_182 0 62 (dk_at dksX2_byLaw_1 4 rfl rfl)
theorem dX2_byLaw_29 : decode cX2_byLaw 29 = .ok (.aload_n 0, 1) := dk_42 (dk_at dksX2_byLaw_1 7 rfl rfl)
theorem dX2_byLaw_30 : decode cX2_byLaw 30 = .ok (.getfield 37, 3) := dk_180 0 37 (dk_at dksX2_byLaw_1 8 rfl rfl)
theorem dX2_byLaw_33 : decode cX2_byLaw 33 = .ok (.getstatic 66, 3) := dk_178 0 66 (dk_at dksX2_byLaw_1 11 rfl rfl)
theorem dX2_byLaw_36 : decode cX2_byLaw 36 = .ok (.aload_n 1, 1) := dk_43 (dk_at dksX2_byLaw_1 14 rfl rfl)
theorem dX2_byLaw_37 : decode cX2_byLaw 37 = .ok (.getfield 69, 3) := dk_180 0 69 (dk_at dksX2_byLaw_1 15 rfl rfl)
theorem dX2_byLaw_40 : decode cX2_byLaw 40 = .ok (.invokevirtual 62, 3) := dk_182 0 62 (dk_at dksX2_byLaw_1 18 rfl rfl)
theorem dX2_byLaw_43 : decode cX2_byLaw 43 = .ok (.aload_n 0, 1) := dk_42 (dk_at dksX2_byLaw_1 21 rfl rfl)
theorem dX2_byLaw_44 : decode cX2_byLaw 44 = .ok (.getfield 37, 3) := dk_180 0 37 (dk_at dksX2_byLaw_2 0 rfl rfl)
theorem dX2_byLaw_47 : decode cX2_byLaw 47 = .ok (.getstatic 74, 3) := dk_178 0 74 (dk_at dksX2_byLaw_2 3 rfl rfl)
theorem dX2_byLaw_50 : decode cX2_byLaw 50 = .ok (.iload_n 3, 1) := dk_29 (dk_at dksX2_byLaw_2 6 rfl rfl)
theorem dX2_byLaw_51 : decode cX2_byLaw 51 = .ok (.invokevirtual 62, 3) := dk_182 0 62 (dk_at dksX2_byLaw_2 7 rfl rfl)
theorem dX2_byLaw_54 : decode cX2_byLaw 54 = .ok (.aload_n 0, 1) := dk_42 (dk_at dksX2_byLaw_2 10 rfl rfl)
theorem dX2_byLaw_55 : decode cX2_byLaw 55 = .ok (.getfield 37, 3) := dk_180 0 37 (dk_at dksX2_byLaw_2 11 rfl rfl)
theorem dX2_byLaw_58 : decode cX2_byLaw 58 = .ok (.getstatic 77, 3) := dk_178 0 77 (dk_at dksX2_byLaw_2 14 rfl rfl)
theorem dX2_byLaw_61 : decode cX2_byLaw 61 = .ok (.iload 4, 2) := dk_21 4 (dk_at dksX2_byLaw_2 17 rfl rfl)
theorem dX2_byLaw_63 : decode cX2_byLaw 63 = .ok (.invokevirtual 62, 3) := dk_182 0 62 (dk_at dksX2_byLaw_2 19 rfl rfl)
theorem dX2_byLaw_66 : decode cX2_byLaw 66 = .ok (.aload_n 0, 1) := dk_42 (dk_at dksX2_byLaw_2 22 rfl rfl)
theorem dX2_byLaw_67 : decode cX2_byLaw 67 = .ok (.getfield 37, 3) := dk_180 0 37 (dk_at dksX2_byLaw_3 0 rfl rfl)
theorem dX2_byLaw_70 : decode cX2_byLaw 70 = .ok (.getstatic 80, 3) := dk_178 0 80 (dk_at dksX2_byLaw_3 3 rfl rfl)
theorem dX2_byLaw_73 : decode cX2_byLaw 73 = .ok (.iload 5, 2) := dk_21 5 (dk_at dksX2_byLaw_3 6 rfl rfl)
theorem dX2_byLaw_75 : decode cX2_byLaw 75 = .ok (.invokevirtual 62, 3) := dk_182 0 62 (dk_at dksX2_byLaw_3 8 rfl rfl)
theorem dX2_byLaw_78 : decode cX2_byLaw 78 = .ok (.aload_n 0, 1) := dk_42 (dk_at dksX2_byLaw_3 11 rfl rfl)
theorem dX2_byLaw_79 : decode cX2_byLaw 79 = .ok (.getfield 52, 3) := dk_180 0 52 (dk_at dksX2_byLaw_3 12 rfl rfl)
theorem dX2_byLaw_82 : decode cX2_byLaw 82 = .ok (.aload_n 0, 1) := dk_42 (dk_at dksX2_byLaw_3 15 rfl rfl)
theorem dX2_byLaw_83 : decode cX2_byLaw 83 = .ok (.getfield 37, 3) := dk_180 0 37 (dk_at dksX2_byLaw_3 16 rfl rfl)
theorem dX2_byLaw_86 : decode cX2_byLaw 86 = .ok (.invokevirtual 83, 3) := dk_182 0 83 (dk_at dksX2_byLaw_3 19 rfl rfl)
theorem dX2_byLaw_89 : decode cX2_byLaw 89 = .ok (.ifCond .le 7, 3) := dk_158 0 7 (dk_at dksX2_byLaw_4 0 rfl rfl)
theorem dX2_byLaw_92 : decode cX2_byLaw 92 = .ok (.iconst 1, 1) := dk_4 (dk_at dksX2_byLaw_4 3 rfl rfl)
theorem dX2_byLaw_93 : decode cX2_byLaw 93 = .ok (.goto 4, 3) := dk_167 0 4 (dk_at dksX2_byLaw_4 4 rfl rfl)
theorem dX2_byLaw_96 : decode cX2_byLaw 96 = .ok (.iconst 0, 1) := dk_3 (dk_at dksX2_byLaw_4 7 rfl rfl)
theorem dX2_byLaw_97 : decode cX2_byLaw 97 = .ok (.ireturn, 1) := dk_172 (dk_at dksX2_byLaw_4 8 rfl rfl)
abbrev cX2_far : ByteArray := prog_8_method_3_code
def yX2_far : MethodName := ⟨RX2, "far", "(II)I"⟩
def dkwX2_far_0 : List UInt8 := [42, 180, 0, 19, 16, 9, 27, 104, 28, 96, 46, 172]
abbrev dktX2_far_0 : List UInt8 := dkwX2_far_0 ++ []
theorem dksX2_far_0 : cX2_far.data.toList.drop 0 = dktX2_far_0 := by decide +kernel
theorem dX2_far_0 : decode cX2_far 0 = .ok (.aload_n 0, 1) := dk_42 (dk_at dksX2_far_0 0 rfl rfl)
theorem dX2_far_1 : decode cX2_far 1 = .ok (.getfield 19, 3) := dk_180 0 19 (dk_at dksX2_far_0 1 rfl rfl)
theorem dX2_far_4 : decode cX2_far 4 = .ok (.bipush 9, 2) := dk_16 9 (dk_at dksX2_far_0 4 rfl rfl)
theorem dX2_far_6 : decode cX2_far 6 = .ok (.iload_n 1, 1) := dk_27 (dk_at dksX2_far_0 6 rfl rfl)
theorem dX2_far_7 : decode cX2_far 7 = .ok (.imul, 1) := dk_104 (dk_at dksX2_far_0 7 rfl rfl)
theorem dX2_far_8 : decode cX2_far 8 = .ok (.iload_n 2, 1) := dk_28 (dk_at dksX2_far_0 8 rfl rfl)
theorem dX2_far_9 : decode cX2_far 9 = .ok (.iadd, 1) := dk_96 (dk_at dksX2_far_0 9 rfl rfl)
theorem dX2_far_10 : decode cX2_far 10 = .ok (.iaload, 1) := dk_46 (dk_at dksX2_far_0 10 rfl rfl)
theorem dX2_far_11 : decode cX2_far 11 = .ok (.ireturn, 1) := dk_172 (dk_at dksX2_far_0 11 rfl rfl)
abbrev cX2_news : ByteArray := prog_8_method_4_code
def yX2_news : MethodName := ⟨RX2, "news", "(II)I"⟩
def dkwX2_news_1 : List UInt8 := [42, 180, 0, 9, 104, 16, 9, 96, 16, 10, 108, 172]
abbrev dktX2_news_1 : List UInt8 := dkwX2_news_1 ++ []
def dkwX2_news_0 : List UInt8 := [42, 27, 28, 182, 0, 50, 17, 39, 15, 161, 0, 9, 17, 39, 15, 167, 0, 20, 42, 27, 28, 182, 0, 50]
abbrev dktX2_news_0 : List UInt8 := dkwX2_news_0 ++ dktX2_news_1
theorem dksX2_news_0 : cX2_news.data.toList.drop 0 = dktX2_news_0 := by decide +kernel
theorem dksX2_news_1 : cX2_news.data.toList.drop 24 = dktX2_news_1 := dk_seg dksX2_news_0 24 rfl rfl
theorem dX2_news_0 : decode cX2_news 0 = .ok (.aload_n 0, 1) := dk_42 (dk_at dksX2_news_0 0 rfl rfl)
theorem dX2_news_1 : decode cX2_news 1 = .ok (.iload_n 1, 1) := dk_27 (dk_at dksX2_news_0 1 rfl rfl)
theorem dX2_news_2 : decode cX2_news 2 = .ok (.iload_n 2, 1) := dk_28 (dk_at dksX2_news_0 2 rfl rfl)
theorem dX2_news_3 : decode cX2_news 3 = .ok (.invokevirtual 50, 3) := dk_182 0 50 (dk_at dksX2_news_0 3 rfl rfl)
theorem dX2_news_6 : decode cX2_news 6 = .ok (.sipush 9999, 3) := dk_17 39 15 (dk_at dksX2_news_0 6 rfl rfl)
theorem dX2_news_9 : decode cX2_news 9 = .ok (.if_icmp .lt 9, 3) := dk_161 0 9 (dk_at dksX2_news_0 9 rfl rfl)
theorem dX2_news_12 : decode cX2_news 12 = .ok (.sipush 9999, 3) := dk_17 39 15 (dk_at dksX2_news_0 12 rfl rfl)
theorem dX2_news_15 : decode cX2_news 15 = .ok (.goto 20, 3) := dk_167 0 20 (dk_at dksX2_news_0 15 rfl rfl)
theorem dX2_news_18 : decode cX2_news 18 = .ok (.aload_n 0, 1) := dk_42 (dk_at dksX2_news_0 18 rfl rfl)
theorem dX2_news_19 : decode cX2_news 19 = .ok (.iload_n 1, 1) := dk_27 (dk_at dksX2_news_0 19 rfl rfl)
theorem dX2_news_20 : decode cX2_news 20 = .ok (.iload_n 2, 1) := dk_28 (dk_at dksX2_news_0 20 rfl rfl)
theorem dX2_news_21 : decode cX2_news 21 = .ok (.invokevirtual 50, 3) := dk_182 0 50 (dk_at dksX2_news_0 21 rfl rfl)
theorem dX2_news_24 : decode cX2_news 24 = .ok (.aload_n 0, 1) := dk_42 (dk_at dksX2_news_1 0 rfl rfl)
theorem dX2_news_25 : decode cX2_news 25 = .ok (.getfield 9, 3) := dk_180 0 9 (dk_at dksX2_news_1 1 rfl rfl)
theorem dX2_news_28 : decode cX2_news 28 = .ok (.imul, 1) := dk_104 (dk_at dksX2_news_1 4 rfl rfl)
theorem dX2_news_29 : decode cX2_news 29 = .ok (.bipush 9, 2) := dk_16 9 (dk_at dksX2_news_1 5 rfl rfl)
theorem dX2_news_31 : decode cX2_news 31 = .ok (.iadd, 1) := dk_96 (dk_at dksX2_news_1 7 rfl rfl)
theorem dX2_news_32 : decode cX2_news 32 = .ok (.bipush 10, 2) := dk_16 10 (dk_at dksX2_news_1 8 rfl rfl)
theorem dX2_news_34 : decode cX2_news 34 = .ok (.idiv, 1) := dk_108 (dk_at dksX2_news_1 10 rfl rfl)
theorem dX2_news_35 : decode cX2_news 35 = .ok (.ireturn, 1) := dk_172 (dk_at dksX2_news_1 11 rfl rfl)
theorem q107 : (Jvm.Cond.initialized "ApartBench$Land") ∈ lw_all := lw_g (lw_at lw_m1 2 rfl) rfl
theorem q156 : (Jvm.Cond.instantiable "ApartBench$Land" (10 : Nat)) ∈ lw_all := lw_g (lw_at lw_m1 51 rfl) rfl
theorem q158 : (Jvm.Cond.instanceMethod ({ cls := "ApartBench$Land", name := "<init>", desc := "()V" } : Jvm.MethodName)) ∈ lw_all := lw_g (lw_at lw_m1 53 rfl) rfl
theorem q159 : (Jvm.Cond.code ({ cls := "ApartBench$Land", name := "<init>", desc := "()V" } : Jvm.MethodName) prog_8_method_1_code (1 : Nat) (Option.none : Option Jvm.ClassFile.FieldType)) ∈ lw_all := lw_g (lw_at lw_m1 54 rfl) rfl
theorem q160 : (Jvm.Cond.methodLink "ApartBench$Land" (3 : Nat) ({ cls := "java/lang/Object", name := "<init>", desc := "()V" } : Jvm.MethodName)) ∈ lw_all := lw_g (lw_at lw_m1 55 rfl) rfl
theorem q161 : (Jvm.Cond.classLink "ApartBench$Land" (22 : Nat) "java/util/ArrayList") ∈ lw_all := lw_g (lw_at lw_m1 56 rfl) rfl
theorem q163 : (Jvm.Cond.methodLink "ApartBench$Land" (24 : Nat) ({ cls := "java/util/ArrayList", name := "<init>", desc := "(I)V" } : Jvm.MethodName)) ∈ lw_all := lw_g (lw_at lw_m1 58 rfl) rfl
theorem q502 : (Jvm.Cond.classLink "ApartBench$Land" (34 : Nat) "ApartBench$View") ∈ lw_all := lw_g (lw_at lw_m2 157 rfl) rfl
theorem q504 : (Jvm.Cond.methodLinkNest "ApartBench$Land" (36 : Nat) ({ cls := "ApartBench$View", name := "<init>", desc := "()V" } : Jvm.MethodName) "ApartBench") ∈ lw_tbl := lw_at lw_m2 159 rfl
theorem q524 : (Jvm.Cond.fieldLink "ApartBench$Land" (41 : Nat) "ApartBench$Land" "towns" "I") ∈ lw_all := lw_g (lw_at lw_m2 179 rfl) rfl
theorem q529 : (Jvm.Cond.fieldLink "ApartBench$Land" (9 : Nat) "ApartBench$Land" "gossip" "I") ∈ lw_all := lw_g (lw_at lw_m2 184 rfl) rfl
theorem q534 : (Jvm.Cond.fieldLink "ApartBench$Land" (15 : Nat) "ApartBench$Land" "road" "[I") ∈ lw_all := lw_g (lw_at lw_m2 189 rfl) rfl
theorem q537 : (Jvm.Cond.fieldLink "ApartBench$Land" (19 : Nat) "ApartBench$Land" "far" "[I") ∈ lw_all := lw_g (lw_at lw_m2 192 rfl) rfl
theorem q538 : (Jvm.Cond.fieldLink "ApartBench$Land" (27 : Nat) "ApartBench$Land" "judges" "Ljava/util/ArrayList;") ∈ lw_all := lw_g (lw_at lw_m2 193 rfl) rfl
theorem q543 : (Jvm.Cond.fieldLink "ApartBench$Land" (31 : Nat) "ApartBench$Land" "cases" "Ljava/util/ArrayList;") ∈ lw_all := lw_g (lw_at lw_m2 198 rfl) rfl
theorem q547 : (Jvm.Cond.fieldLink "ApartBench$Land" (52 : Nat) "ApartBench$Land" "law" "LApartBench$Expr;") ∈ lw_all := lw_g (lw_at lw_m2 202 rfl) rfl
theorem q549 : (Jvm.Cond.fieldLink "ApartBench$Land" (37 : Nat) "ApartBench$Land" "view" "LApartBench$View;") ∈ lw_all := lw_g (lw_at lw_m2 204 rfl) rfl
theorem q550 : (Jvm.Cond.lays "ApartBench$Land" "ApartBench$Land" "towns" "I") ∈ lw_all := lw_g (lw_at lw_m2 205 rfl) rfl
theorem q551 : (Jvm.Cond.soleField "ApartBench$Land" "towns") ∈ lw_all := lw_g (lw_at lw_m2 206 rfl) rfl
theorem q552 : (Jvm.Cond.lays "ApartBench$Land" "ApartBench$Land" "roads" "I") ∈ lw_all := lw_g (lw_at lw_m2 207 rfl) rfl
theorem q553 : (Jvm.Cond.soleField "ApartBench$Land" "roads") ∈ lw_all := lw_g (lw_at lw_m2 208 rfl) rfl
theorem q554 : (Jvm.Cond.lays "ApartBench$Land" "ApartBench$Land" "gossip" "I") ∈ lw_all := lw_g (lw_at lw_m2 209 rfl) rfl
theorem q555 : (Jvm.Cond.soleField "ApartBench$Land" "gossip") ∈ lw_all := lw_g (lw_at lw_m2 210 rfl) rfl
theorem q556 : (Jvm.Cond.lays "ApartBench$Land" "ApartBench$Land" "inns" "I") ∈ lw_all := lw_g (lw_at lw_m2 211 rfl) rfl
theorem q557 : (Jvm.Cond.soleField "ApartBench$Land" "inns") ∈ lw_all := lw_g (lw_at lw_m2 212 rfl) rfl
theorem q558 : (Jvm.Cond.laysFinal "ApartBench$Land" "ApartBench$Land" "road" "[I") ∈ lw_all := lw_g (lw_at lw_m2 213 rfl) rfl
theorem q559 : (Jvm.Cond.soleField "ApartBench$Land" "road") ∈ lw_all := lw_g (lw_at lw_m2 214 rfl) rfl
theorem q560 : (Jvm.Cond.laysFinal "ApartBench$Land" "ApartBench$Land" "far" "[I") ∈ lw_all := lw_g (lw_at lw_m2 215 rfl) rfl
theorem q561 : (Jvm.Cond.soleField "ApartBench$Land" "far") ∈ lw_all := lw_g (lw_at lw_m2 216 rfl) rfl
theorem q562 : (Jvm.Cond.laysFinal "ApartBench$Land" "ApartBench$Land" "judges" "Ljava/util/ArrayList;") ∈ lw_all := lw_g (lw_at lw_m2 217 rfl) rfl
theorem q563 : (Jvm.Cond.soleField "ApartBench$Land" "judges") ∈ lw_all := lw_g (lw_at lw_m2 218 rfl) rfl
theorem q564 : (Jvm.Cond.laysFinal "ApartBench$Land" "ApartBench$Land" "cases" "Ljava/util/ArrayList;") ∈ lw_all := lw_g (lw_at lw_m2 219 rfl) rfl
theorem q565 : (Jvm.Cond.soleField "ApartBench$Land" "cases") ∈ lw_all := lw_g (lw_at lw_m2 220 rfl) rfl
theorem q566 : (Jvm.Cond.lays "ApartBench$Land" "ApartBench$Land" "law" "LApartBench$Expr;") ∈ lw_all := lw_g (lw_at lw_m2 221 rfl) rfl
theorem q567 : (Jvm.Cond.soleField "ApartBench$Land" "law") ∈ lw_all := lw_g (lw_at lw_m2 222 rfl) rfl
theorem q568 : (Jvm.Cond.laysFinal "ApartBench$Land" "ApartBench$Land" "view" "LApartBench$View;") ∈ lw_all := lw_g (lw_at lw_m2 223 rfl) rfl
theorem q569 : (Jvm.Cond.soleField "ApartBench$Land" "view") ∈ lw_all := lw_g (lw_at lw_m2 224 rfl) rfl
theorem q570 : (Jvm.Cond.superclass "ApartBench$Land" "java/lang/Object") ∈ lw_all := lw_g (lw_at lw_m2 225 rfl) rfl
theorem q673 : (Jvm.Cond.selects "ApartBench$Land" ({ cls := "java/lang/Object", name := "getClass", desc := "()Ljava/lang/Class;" } : Jvm.MethodName) ({ cls := "java/lang/Object", name := "getClass", desc := "()Ljava/lang/Class;" } : Jvm.MethodName)) ∈ lw_all := lw_g (lw_at lw_m3 88 rfl) rfl
theorem q783 : (Jvm.Cond.instanceMethod ({ cls := "ApartBench$Land", name := "measures", desc := "()V" } : Jvm.MethodName)) ∈ lw_all := lw_g (lw_at lw_m3 198 rfl) rfl
theorem q784 : (Jvm.Cond.selects "ApartBench$Land" ({ cls := "ApartBench$Land", name := "measures", desc := "()V" } : Jvm.MethodName) ({ cls := "ApartBench$Land", name := "measures", desc := "()V" } : Jvm.MethodName)) ∈ lw_all := lw_g (lw_at lw_m3 199 rfl) rfl
theorem q785 : (Jvm.Cond.code ({ cls := "ApartBench$Land", name := "measures", desc := "()V" } : Jvm.MethodName) prog_8_method_2_code (4 : Nat) (Option.none : Option Jvm.ClassFile.FieldType)) ∈ lw_all := lw_g (lw_at lw_m3 200 rfl) rfl
theorem q786 : (Jvm.Cond.methodLink "ApartBench$Land" (44 : Nat) ({ cls := "java/lang/Math", name := "min", desc := "(II)I" } : Jvm.MethodName)) ∈ lw_all := lw_g (lw_at lw_m3 201 rfl) rfl
theorem q1222 : (Jvm.Cond.fieldLink "ApartBench$Land" (69 : Nat) "ApartBench$Judge" "harsh" "I") ∈ lw_all := lw_g (lw_at lw_m5 157 rfl) rfl
theorem q1344 : (Jvm.Cond.instanceMethod ({ cls := "ApartBench$Land", name := "byLaw", desc := "(LApartBench$Judge;IIII)Z" } : Jvm.MethodName)) ∈ lw_all := lw_g (lw_at lw_m6 39 rfl) rfl
theorem q1345 : (Jvm.Cond.selects "ApartBench$Land" ({ cls := "ApartBench$Land", name := "byLaw", desc := "(LApartBench$Judge;IIII)Z" } : Jvm.MethodName) ({ cls := "ApartBench$Land", name := "byLaw", desc := "(LApartBench$Judge;IIII)Z" } : Jvm.MethodName)) ∈ lw_all := lw_g (lw_at lw_m6 40 rfl) rfl
theorem q1346 : (Jvm.Cond.code ({ cls := "ApartBench$Land", name := "byLaw", desc := "(LApartBench$Judge;IIII)Z" } : Jvm.MethodName) prog_8_method_5_code (6 : Nat) (Option.some Jvm.ClassFile.FieldType.boolean)) ∈ lw_all := lw_g (lw_at lw_m6 41 rfl) rfl
theorem q1347 : (Jvm.Cond.fieldLink "ApartBench$Land" (56 : Nat) "ApartBench$Value" "PROOF" "LApartBench$Value;") ∈ lw_all := lw_g (lw_at lw_m6 42 rfl) rfl
theorem q1348 : (Jvm.Cond.methodLink "ApartBench$Land" (62 : Nat) ({ cls := "ApartBench$View", name := "sees", desc := "(LApartBench$Value;I)V" } : Jvm.MethodName)) ∈ lw_all := lw_g (lw_at lw_m6 43 rfl) rfl
theorem q1358 : (Jvm.Cond.fieldLink "ApartBench$Land" (66 : Nat) "ApartBench$Value" "HARSH" "LApartBench$Value;") ∈ lw_all := lw_g (lw_at lw_m6 53 rfl) rfl
theorem q1359 : (Jvm.Cond.fieldLink "ApartBench$Land" (74 : Nat) "ApartBench$Value" "DAY" "LApartBench$Value;") ∈ lw_all := lw_g (lw_at lw_m6 54 rfl) rfl
theorem q1360 : (Jvm.Cond.fieldLink "ApartBench$Land" (77 : Nat) "ApartBench$Value" "TOWN" "LApartBench$Value;") ∈ lw_all := lw_g (lw_at lw_m6 55 rfl) rfl
theorem q1361 : (Jvm.Cond.fieldLink "ApartBench$Land" (80 : Nat) "ApartBench$Value" "SAID" "LApartBench$Value;") ∈ lw_all := lw_g (lw_at lw_m6 56 rfl) rfl
theorem q1362 : (Jvm.Cond.methodLink "ApartBench$Land" (83 : Nat) ({ cls := "ApartBench$Expr", name := "by", desc := "(LApartBench$View;)I" } : Jvm.MethodName)) ∈ lw_all := lw_g (lw_at lw_m6 57 rfl) rfl
theorem q1399 : (Jvm.Cond.instanceMethod ({ cls := "ApartBench$Land", name := "far", desc := "(II)I" } : Jvm.MethodName)) ∈ lw_all := lw_g (lw_at lw_m6 94 rfl) rfl
theorem q1400 : (Jvm.Cond.selects "ApartBench$Land" ({ cls := "ApartBench$Land", name := "far", desc := "(II)I" } : Jvm.MethodName) ({ cls := "ApartBench$Land", name := "far", desc := "(II)I" } : Jvm.MethodName)) ∈ lw_all := lw_g (lw_at lw_m6 95 rfl) rfl
theorem q1401 : (Jvm.Cond.code ({ cls := "ApartBench$Land", name := "far", desc := "(II)I" } : Jvm.MethodName) prog_8_method_3_code (3 : Nat) (Option.some Jvm.ClassFile.FieldType.int)) ∈ lw_all := lw_g (lw_at lw_m6 96 rfl) rfl
theorem q1425 : (Jvm.Cond.instanceMethod ({ cls := "ApartBench$Land", name := "news", desc := "(II)I" } : Jvm.MethodName)) ∈ lw_all := lw_g (lw_at lw_m6 120 rfl) rfl
theorem q1426 : (Jvm.Cond.selects "ApartBench$Land" ({ cls := "ApartBench$Land", name := "news", desc := "(II)I" } : Jvm.MethodName) ({ cls := "ApartBench$Land", name := "news", desc := "(II)I" } : Jvm.MethodName)) ∈ lw_all := lw_g (lw_at lw_m6 121 rfl) rfl
theorem q1427 : (Jvm.Cond.code ({ cls := "ApartBench$Land", name := "news", desc := "(II)I" } : Jvm.MethodName) prog_8_method_4_code (3 : Nat) (Option.some Jvm.ClassFile.FieldType.int)) ∈ lw_all := lw_g (lw_at lw_m6 122 rfl) rfl
theorem q1428 : (Jvm.Cond.methodLink "ApartBench$Land" (50 : Nat) ({ cls := "ApartBench$Land", name := "far", desc := "(II)I" } : Jvm.MethodName)) ∈ lw_all := lw_g (lw_at lw_m6 123 rfl) rfl
theorem q2350 : (Jvm.Cond.castable "ApartBench$Land" "java/lang/Object") ∈ lw_tbl := lw_at lw_m10 85 rfl
theorem in_X2 : ∀ w ∈ wsX20, w ∈ lw_all := lw_in wsX20 [550, 552, 554, 556, 558, 560, 562, 564, 566, 568] (by decide +kernel) (by decide +kernel)

/-! ApartBench$View -/
set_option maxRecDepth 100000
def RX3 : String := "ApartBench$View"
def TX3 : u_T := fun k => match k with
  | _ => ("ApartBench$View", "of", "[I", true)
def tyX3 : Nat → FieldType := fun k => match k with
  | _ => .array .int
abbrev wsX30 : List Cond := u_ws RX3 TX3 1
theorem nmX3 : ∀ a, a < 1 → ∀ b, b < 1 → a ≠ b → (TX3 a).2.1 ≠ (TX3 b).2.1 := by decide +kernel
theorem tyX3_ok : ∀ k, k < 1 → parseFieldDescriptor (TX3 k).2.2.1 = some (tyX3 k) := by decide +kernel
abbrev cX3_init : ByteArray := prog_17_method_1_code
def yX3_init : MethodName := ⟨RX3, "<init>", "()V"⟩
def dkwX3_init_0 : List UInt8 := [42, 183, 0, 1, 42, 184, 0, 7, 190, 188, 10, 181, 0, 13, 177]
abbrev dktX3_init_0 : List UInt8 := dkwX3_init_0 ++ []
theorem dksX3_init_0 : cX3_init.data.toList.drop 0 = dktX3_init_0 := by decide +kernel
theorem dX3_init_0 : decode cX3_init 0 = .ok (.aload_n 0, 1) := dk_42 (dk_at dksX3_init_0 0 rfl rfl)
theorem dX3_init_1 : decode cX3_init 1 = .ok (.invokespecial 1, 3) := dk_183 0 1 (dk_at dksX3_init_0 1 rfl rfl)
theorem dX3_init_4 : decode cX3_init 4 = .ok (.aload_n 0, 1) := dk_42 (dk_at dksX3_init_0 4 rfl rfl)
theorem dX3_init_5 : decode cX3_init 5 = .ok (.invokestatic 7, 3) := dk_184 0 7 (dk_at dksX3_init_0 5 rfl rfl)
theorem dX3_init_8 : decode cX3_init 8 = .ok (.arraylength, 1) := dk_190 (dk_at dksX3_init_0 8 rfl rfl)
theorem dX3_init_9 : decode cX3_init 9 = .ok (.newarray .int, 2) := dk_188_10 (dk_at dksX3_init_0 9 rfl rfl)
theorem dX3_init_11 : decode cX3_init 11 = .ok (.putfield 13, 3) := dk_181 0 13 (dk_at dksX3_init_0 11 rfl rfl)
theorem dX3_init_14 : decode cX3_init 14 = .ok (.return_, 1) := dk_177 (dk_at dksX3_init_0 14 rfl rfl)
abbrev cX3_sees : ByteArray := prog_17_method_2_code
def yX3_sees : MethodName := ⟨RX3, "sees", "(LApartBench$Value;I)V"⟩
def dkwX3_sees_0 : List UInt8 := [42, 180, 0, 13, 43, 182, 0, 19, 28, 79, 177]
abbrev dktX3_sees_0 : List UInt8 := dkwX3_sees_0 ++ []
theorem dksX3_sees_0 : cX3_sees.data.toList.drop 0 = dktX3_sees_0 := by decide +kernel
theorem dX3_sees_0 : decode cX3_sees 0 = .ok (.aload_n 0, 1) := dk_42 (dk_at dksX3_sees_0 0 rfl rfl)
theorem dX3_sees_1 : decode cX3_sees 1 = .ok (.getfield 13, 3) := dk_180 0 13 (dk_at dksX3_sees_0 1 rfl rfl)
theorem dX3_sees_4 : decode cX3_sees 4 = .ok (.aload_n 1, 1) := dk_43 (dk_at dksX3_sees_0 4 rfl rfl)
theorem dX3_sees_5 : decode cX3_sees 5 = .ok (.invokevirtual 19, 3) := dk_182 0 19 (dk_at dksX3_sees_0 5 rfl rfl)
theorem dX3_sees_8 : decode cX3_sees 8 = .ok (.iload_n 2, 1) := dk_28 (dk_at dksX3_sees_0 8 rfl rfl)
theorem dX3_sees_9 : decode cX3_sees 9 = .ok (.iastore, 1) := dk_79 (dk_at dksX3_sees_0 9 rfl rfl)
theorem dX3_sees_10 : decode cX3_sees 10 = .ok (.return_, 1) := dk_177 (dk_at dksX3_sees_0 10 rfl rfl)
theorem q127 : (Jvm.Cond.initialized "ApartBench$View") ∈ lw_all := lw_g (lw_at lw_m1 22 rfl) rfl
theorem q503 : (Jvm.Cond.instantiable "ApartBench$View" (1 : Nat)) ∈ lw_all := lw_g (lw_at lw_m2 158 rfl) rfl
theorem q505 : (Jvm.Cond.instanceMethod ({ cls := "ApartBench$View", name := "<init>", desc := "()V" } : Jvm.MethodName)) ∈ lw_all := lw_g (lw_at lw_m2 160 rfl) rfl
theorem q506 : (Jvm.Cond.code ({ cls := "ApartBench$View", name := "<init>", desc := "()V" } : Jvm.MethodName) prog_17_method_1_code (1 : Nat) (Option.none : Option Jvm.ClassFile.FieldType)) ∈ lw_all := lw_g (lw_at lw_m2 161 rfl) rfl
theorem q507 : (Jvm.Cond.methodLink "ApartBench$View" (1 : Nat) ({ cls := "java/lang/Object", name := "<init>", desc := "()V" } : Jvm.MethodName)) ∈ lw_all := lw_g (lw_at lw_m2 162 rfl) rfl
theorem q508 : (Jvm.Cond.methodLink "ApartBench$View" (7 : Nat) ({ cls := "ApartBench$Value", name := "values", desc := "()[LApartBench$Value;" } : Jvm.MethodName)) ∈ lw_all := lw_g (lw_at lw_m2 163 rfl) rfl
theorem q519 : (Jvm.Cond.fieldLink "ApartBench$View" (13 : Nat) "ApartBench$View" "of" "[I") ∈ lw_all := lw_g (lw_at lw_m2 174 rfl) rfl
theorem q521 : (Jvm.Cond.laysFinal "ApartBench$View" "ApartBench$View" "of" "[I") ∈ lw_all := lw_g (lw_at lw_m2 176 rfl) rfl
theorem q522 : (Jvm.Cond.soleField "ApartBench$View" "of") ∈ lw_all := lw_g (lw_at lw_m2 177 rfl) rfl
theorem q523 : (Jvm.Cond.superclass "ApartBench$View" "java/lang/Object") ∈ lw_all := lw_g (lw_at lw_m2 178 rfl) rfl
theorem q682 : (Jvm.Cond.selects "ApartBench$View" ({ cls := "java/lang/Object", name := "getClass", desc := "()Ljava/lang/Class;" } : Jvm.MethodName) ({ cls := "java/lang/Object", name := "getClass", desc := "()Ljava/lang/Class;" } : Jvm.MethodName)) ∈ lw_all := lw_g (lw_at lw_m3 97 rfl) rfl
theorem q1349 : (Jvm.Cond.instanceMethod ({ cls := "ApartBench$View", name := "sees", desc := "(LApartBench$Value;I)V" } : Jvm.MethodName)) ∈ lw_all := lw_g (lw_at lw_m6 44 rfl) rfl
theorem q1350 : (Jvm.Cond.selects "ApartBench$View" ({ cls := "ApartBench$View", name := "sees", desc := "(LApartBench$Value;I)V" } : Jvm.MethodName) ({ cls := "ApartBench$View", name := "sees", desc := "(LApartBench$Value;I)V" } : Jvm.MethodName)) ∈ lw_all := lw_g (lw_at lw_m6 45 rfl) rfl
theorem q1351 : (Jvm.Cond.code ({ cls := "ApartBench$View", name := "sees", desc := "(LApartBench$Value;I)V" } : Jvm.MethodName) prog_17_method_2_code (3 : Nat) (Option.none : Option Jvm.ClassFile.FieldType)) ∈ lw_all := lw_g (lw_at lw_m6 46 rfl) rfl
theorem q1352 : (Jvm.Cond.methodLink "ApartBench$View" (19 : Nat) ({ cls := "ApartBench$Value", name := "ordinal", desc := "()I" } : Jvm.MethodName)) ∈ lw_all := lw_g (lw_at lw_m6 47 rfl) rfl
theorem q2354 : (Jvm.Cond.castable "ApartBench$View" "java/lang/Object") ∈ lw_tbl := lw_at lw_m10 89 rfl
theorem in_X3 : ∀ w ∈ wsX30, w ∈ lw_all := lw_in wsX30 [521] (by decide +kernel) (by decide +kernel)

/-! ApartBench$Value -/
set_option maxRecDepth 100000
def RX4 : String := "ApartBench$Value"
abbrev cX4_values : ByteArray := prog_16_method_1_code
def yX4_values : MethodName := ⟨RX4, "values", "()[LApartBench$Value;"⟩
def dkwX4_values_0 : List UInt8 := [178, 0, 19, 182, 0, 23, 192, 0, 24, 176]
abbrev dktX4_values_0 : List UInt8 := dkwX4_values_0 ++ []
theorem dksX4_values_0 : cX4_values.data.toList.drop 0 = dktX4_values_0 := by decide +kernel
theorem dX4_values_0 : decode cX4_values 0 = .ok (.getstatic 19, 3) := dk_178 0 19 (dk_at dksX4_values_0 0 rfl rfl)
theorem dX4_values_3 : decode cX4_values 3 = .ok (.invokevirtual 23, 3) := dk_182 0 23 (dk_at dksX4_values_0 3 rfl rfl)
theorem dX4_values_6 : decode cX4_values 6 = .ok (.checkcast 24, 3) := dk_192 0 24 (dk_at dksX4_values_0 6 rfl rfl)
theorem dX4_values_9 : decode cX4_values 9 = .ok (.areturn, 1) := dk_176 (dk_at dksX4_values_0 9 rfl rfl)
theorem q129 : (Jvm.Cond.initialized "ApartBench$Value") ∈ lw_all := lw_g (lw_at lw_m1 24 rfl) rfl
theorem q509 : (Jvm.Cond.static ({ cls := "ApartBench$Value", name := "values", desc := "()[LApartBench$Value;" } : Jvm.MethodName)) ∈ lw_all := lw_g (lw_at lw_m2 164 rfl) rfl
theorem q510 : (Jvm.Cond.code ({ cls := "ApartBench$Value", name := "values", desc := "()[LApartBench$Value;" } : Jvm.MethodName) prog_16_method_1_code (0 : Nat) (Option.some (Jvm.ClassFile.FieldType.array (Jvm.ClassFile.FieldType.object "ApartBench$Value")))) ∈ lw_all := lw_g (lw_at lw_m2 165 rfl) rfl
theorem q511 : (Jvm.Cond.fieldLink "ApartBench$Value" (19 : Nat) "ApartBench$Value" "$VALUES" "[LApartBench$Value;") ∈ lw_all := lw_g (lw_at lw_m2 166 rfl) rfl
theorem q512 : (Jvm.Cond.laysStatic "ApartBench$Value" "$VALUES" "[LApartBench$Value;") ∈ lw_tbl := lw_at lw_m2 167 rfl
theorem q513 : (Jvm.Cond.methodLink "ApartBench$Value" (23 : Nat) ({ cls := "[LApartBench$Value;", name := "clone", desc := "()Ljava/lang/Object;" } : Jvm.MethodName)) ∈ lw_all := lw_g (lw_at lw_m2 168 rfl) rfl
theorem q518 : (Jvm.Cond.classLink "ApartBench$Value" (24 : Nat) "[LApartBench$Value;") ∈ lw_all := lw_g (lw_at lw_m2 173 rfl) rfl
theorem q681 : (Jvm.Cond.selects "ApartBench$Value" ({ cls := "java/lang/Object", name := "getClass", desc := "()Ljava/lang/Class;" } : Jvm.MethodName) ({ cls := "java/lang/Object", name := "getClass", desc := "()Ljava/lang/Class;" } : Jvm.MethodName)) ∈ lw_all := lw_g (lw_at lw_m3 96 rfl) rfl
theorem q1124 : (Jvm.Cond.laysStatic "ApartBench$Value" "PROOF" "LApartBench$Value;") ∈ lw_tbl := lw_at lw_m5 59 rfl
theorem q1127 : (Jvm.Cond.laysStatic "ApartBench$Value" "HARSH" "LApartBench$Value;") ∈ lw_tbl := lw_at lw_m5 62 rfl
theorem q1130 : (Jvm.Cond.laysStatic "ApartBench$Value" "DAY" "LApartBench$Value;") ∈ lw_tbl := lw_at lw_m5 65 rfl
theorem q1132 : (Jvm.Cond.laysStatic "ApartBench$Value" "TOWN" "LApartBench$Value;") ∈ lw_tbl := lw_at lw_m5 67 rfl
theorem q1135 : (Jvm.Cond.laysStatic "ApartBench$Value" "SAID" "LApartBench$Value;") ∈ lw_tbl := lw_at lw_m5 70 rfl
theorem q1353 : (Jvm.Cond.sameMethod "ApartBench$Value" "java/lang/Enum" "ordinal" "()I") ∈ lw_all := lw_g (lw_at lw_m6 48 rfl) rfl
theorem q1355 : (Jvm.Cond.selects "ApartBench$Value" ({ cls := "ApartBench$Value", name := "ordinal", desc := "()I" } : Jvm.MethodName) ({ cls := "java/lang/Enum", name := "ordinal", desc := "()I" } : Jvm.MethodName)) ∈ lw_all := lw_g (lw_at lw_m6 50 rfl) rfl
theorem q2347 : (Jvm.Cond.castable "ApartBench$Value" "java/lang/Object") ∈ lw_tbl := lw_at lw_m10 82 rfl

/-! ApartBench$Book -/
set_option maxRecDepth 100000
def RX5 : String := "ApartBench$Book"
def TX5 : u_T := fun k => match k with
  | 0 => ("ApartBench$Book", "now", "LApartBench$State;", true)
  | 1 => ("ApartBench$Book", "ahead", "Ljava/util/ArrayList;", true)
  | 2 => ("ApartBench$Book", "seenOf", "[I", true)
  | 3 => ("ApartBench$Book", "seenBy", "[I", true)
  | 4 => ("ApartBench$Book", "refused", "[I", true)
  | 5 => ("ApartBench$Book", "seenVoid", "[Z", true)
  | 6 => ("ApartBench$Book", "acts", "I", false)
  | _ => ("ApartBench$Book", "seen", "I", false)
def tyX5 : Nat → FieldType := fun k => match k with
  | 0 => .object "ApartBench$State"
  | 1 => .object "java/util/ArrayList"
  | 2 => .array .int
  | 3 => .array .int
  | 4 => .array .int
  | 5 => .array .boolean
  | 6 => .int
  | _ => .int
abbrev wsX50 : List Cond := u_ws RX5 TX5 8
theorem nmX5 : ∀ a, a < 8 → ∀ b, b < 8 → a ≠ b → (TX5 a).2.1 ≠ (TX5 b).2.1 := by decide +kernel
theorem tyX5_ok : ∀ k, k < 8 → parseFieldDescriptor (TX5 k).2.2.1 = some (tyX5 k) := by decide +kernel
abbrev cX5_init : ByteArray := prog_2_method_1_code
def yX5_init : MethodName := ⟨RX5, "<init>", "()V"⟩
def dkwX5_init_3 : List UInt8 := [180, 0, 23, 187, 0, 9, 89, 183, 0, 11, 182, 0, 41, 87, 132, 1, 1, 167, 255, 232, 177]
abbrev dktX5_init_3 : List UInt8 := dkwX5_init_3 ++ []
def dkwX5_init_2 : List UInt8 := [188, 10, 181, 0, 34, 42, 16, 8, 188, 4, 181, 0, 37, 3, 60, 27, 16, 40, 162, 0, 24, 42]
abbrev dktX5_init_2 : List UInt8 := dkwX5_init_2 ++ dktX5_init_3
def dkwX5_init_1 : List UInt8 := [183, 0, 20, 181, 0, 23, 42, 16, 8, 188, 10, 181, 0, 27, 42, 16, 8, 188, 10, 181, 0, 31, 42, 6]
abbrev dktX5_init_1 : List UInt8 := dkwX5_init_1 ++ dktX5_init_2
def dkwX5_init_0 : List UInt8 := [42, 183, 0, 3, 42, 187, 0, 9, 89, 183, 0, 11, 181, 0, 12, 42, 187, 0, 18, 89, 16, 40]
abbrev dktX5_init_0 : List UInt8 := dkwX5_init_0 ++ dktX5_init_1
theorem dksX5_init_0 : cX5_init.data.toList.drop 0 = dktX5_init_0 := by decide +kernel
theorem dksX5_init_1 : cX5_init.data.toList.drop 22 = dktX5_init_1 := dk_seg dksX5_init_0 22 rfl rfl
theorem dksX5_init_2 : cX5_init.data.toList.drop 46 = dktX5_init_2 := dk_seg dksX5_init_1 24 rfl rfl
theorem dksX5_init_3 : cX5_init.data.toList.drop 68 = dktX5_init_3 := dk_seg dksX5_init_2 22 rfl rfl
theorem dX5_init_0 : decode cX5_init 0 = .ok (.aload_n 0, 1) := dk_42 (dk_at dksX5_init_0 0 rfl rfl)
theorem dX5_init_1 : decode cX5_init 1 = .ok (.invokespecial 3, 3) := dk_183 0 3 (dk_at dksX5_init_0 1 rfl rfl)
theorem dX5_init_4 : decode cX5_init 4 = .ok (.aload_n 0, 1) := dk_42 (dk_at dksX5_init_0 4 rfl rfl)
theorem dX5_init_5 : decode cX5_init 5 = .ok (.new 9, 3) := dk_187 0 9 (dk_at dksX5_init_0 5 rfl rfl)
theorem dX5_init_8 : decode cX5_init 8 = .ok (.dup, 1) := dk_89 (dk_at dksX5_init_0 8 rfl rfl)
theorem dX5_init_9 : decode cX5_init 9 = .ok (.invokespecial 11, 3) := dk_183 0 11 (dk_at dksX5_init_0 9 rfl rfl)
theorem dX5_init_12 : decode cX5_init 12 = .ok (.putfield 12, 3) := dk_181 0 12 (dk_at dksX5_init_0 12 rfl rfl)
theorem dX5_init_15 : decode cX5_init 15 = .ok (.aload_n 0, 1) := dk_42 (dk_at dksX5_init_0 15 rfl rfl)
theorem dX5_init_16 : decode cX5_init 16 = .ok (.new 18, 3) := dk_187 0 18 (dk_at dksX5_init_0 16 rfl rfl)
theorem dX5_init_19 : decode cX5_init 19 = .ok (.dup, 1) := dk_89 (dk_at dksX5_init_0 19 rfl rfl)
theorem dX5_init_20 : decode cX5_init 20 = .ok (.bipush 40, 2) := dk_16 40 (dk_at dksX5_init_0 20 rfl rfl)
theorem dX5_init_22 : decode cX5_init 22 = .ok (.invokespecial 20, 3) := dk_183 0 20 (dk_at dksX5_init_1 0 rfl rfl)
theorem dX5_init_25 : decode cX5_init 25 = .ok (.putfield 23, 3) := dk_181 0 23 (dk_at dksX5_init_1 3 rfl rfl)
theorem dX5_init_28 : decode cX5_init 28 = .ok (.aload_n 0, 1) := dk_42 (dk_at dksX5_init_1 6 rfl rfl)
theorem dX5_init_29 : decode cX5_init 29 = .ok (.bipush 8, 2) := dk_16 8 (dk_at dksX5_init_1 7 rfl rfl)
theorem dX5_init_31 : decode cX5_init 31 = .ok (.newarray .int, 2) := dk_188_10 (dk_at dksX5_init_1 9 rfl rfl)
theorem dX5_init_33 : decode cX5_init 33 = .ok (.putfield 27, 3) := dk_181 0 27 (dk_at dksX5_init_1 11 rfl rfl)
theorem dX5_init_36 : decode cX5_init 36 = .ok (.aload_n 0, 1) := dk_42 (dk_at dksX5_init_1 14 rfl rfl)
theorem dX5_init_37 : decode cX5_init 37 = .ok (.bipush 8, 2) := dk_16 8 (dk_at dksX5_init_1 15 rfl rfl)
theorem dX5_init_39 : decode cX5_init 39 = .ok (.newarray .int, 2) := dk_188_10 (dk_at dksX5_init_1 17 rfl rfl)
theorem dX5_init_41 : decode cX5_init 41 = .ok (.putfield 31, 3) := dk_181 0 31 (dk_at dksX5_init_1 19 rfl rfl)
theorem dX5_init_44 : decode cX5_init 44 = .ok (.aload_n 0, 1) := dk_42 (dk_at dksX5_init_1 22 rfl rfl)
theorem dX5_init_45 : decode cX5_init 45 = .ok (.iconst 3, 1) := dk_6 (dk_at dksX5_init_1 23 rfl rfl)
theorem dX5_init_46 : decode cX5_init 46 = .ok (.newarray .int, 2) := dk_188_10 (dk_at dksX5_init_2 0 rfl rfl)
theorem dX5_init_48 : decode cX5_init 48 = .ok (.putfield 34, 3) := dk_181 0 34 (dk_at dksX5_init_2 2 rfl rfl)
theorem dX5_init_51 : decode cX5_init 51 = .ok (.aload_n 0, 1) := dk_42 (dk_at dksX5_init_2 5 rfl rfl)
theorem dX5_init_52 : decode cX5_init 52 = .ok (.bipush 8, 2) := dk_16 8 (dk_at dksX5_init_2 6 rfl rfl)
theorem dX5_init_54 : decode cX5_init 54 = .ok (.newarray .boolean, 2) := dk_188_4 (dk_at dksX5_init_2 8 rfl rfl)
theorem dX5_init_56 : decode cX5_init 56 = .ok (.putfield 37, 3) := dk_181 0 37 (dk_at dksX5_init_2 10 rfl rfl)
theorem dX5_init_59 : decode cX5_init 59 = .ok (.iconst 0, 1) := dk_3 (dk_at dksX5_init_2 13 rfl rfl)
theorem dX5_init_60 : decode cX5_init 60 = .ok (.istore_n 1, 1) := dk_60 (dk_at dksX5_init_2 14 rfl rfl)
theorem dX5_init_61 : decode cX5_init 61 = .ok (.iload_n 1, 1) := dk_27 (dk_at dksX5_init_2 15 rfl rfl)
theorem dX5_init_62 : decode cX5_init 62 = .ok (.bipush 40, 2) := dk_16 40 (dk_at dksX5_init_2 16 rfl rfl)
theorem dX5_init_64 : decode cX5_init 64 = .ok (.if_icmp .ge 24, 3) := dk_162 0 24 (dk_at dksX5_init_2 18 rfl rfl)
theorem dX5_init_67 : decode cX5_init 67 = .ok (.aload_n 0, 1) := dk_42 (dk_at dksX5_init_2 21 rfl rfl)
theorem dX5_init_68 : decode cX5_init 68 = .ok (.getfield 23, 3) := dk_180 0 23 (dk_at dksX5_init_3 0 rfl rfl)
theorem dX5_init_71 : decode cX5_init 71 = .ok (.new 9, 3) := dk_187 0 9 (dk_at dksX5_init_3 3 rfl rfl)
theorem dX5_init_74 : decode cX5_init 74 = .ok (.dup, 1) := dk_89 (dk_at dksX5_init_3 6 rfl rfl)
theorem dX5_init_75 : decode cX5_init 75 = .ok (.invokespecial 11, 3) := dk_183 0 11 (dk_at dksX5_init_3 7 rfl rfl)
theorem dX5_init_78 : decode cX5_init 78 = .ok (.invokevirtual 41, 3) := dk_182 0 41 (dk_at dksX5_init_3 10 rfl rfl)
theorem dX5_init_81 : decode cX5_init 81 = .ok (.pop, 1) := dk_87 (dk_at dksX5_init_3 13 rfl rfl)
theorem dX5_init_82 : decode cX5_init 82 = .ok (.iinc 1 1, 3) := dk_132 1 1 (dk_at dksX5_init_3 14 rfl rfl)
theorem dX5_init_85 : decode cX5_init 85 = .ok (.goto (-24), 3) := dk_167 255 232 (dk_at dksX5_init_3 17 rfl rfl)
theorem dX5_init_88 : decode cX5_init 88 = .ok (.return_, 1) := dk_177 (dk_at dksX5_init_3 20 rfl rfl)
abbrev cX5_like : ByteArray := prog_2_method_3_code
def yX5_like : MethodName := ⟨RX5, "like", "(LApartBench$Book;)V"⟩
def dkwX5_like_5 : List UInt8 := [43, 180, 0, 45, 181, 0, 45, 42, 43, 180, 0, 66, 181, 0, 66, 177]
abbrev dktX5_like_5 : List UInt8 := dkwX5_like_5 ++ []
def dkwX5_like_4 : List UInt8 := [16, 8, 184, 0, 60, 43, 180, 0, 34, 3, 42, 180, 0, 34, 3, 42, 180, 0, 34, 190, 184, 0, 60, 42]
abbrev dktX5_like_4 : List UInt8 := dkwX5_like_4 ++ dktX5_like_5
def dkwX5_like_3 : List UInt8 := [180, 0, 31, 3, 42, 180, 0, 31, 3, 16, 8, 184, 0, 60, 43, 180, 0, 37, 3, 42, 180, 0, 37, 3]
abbrev dktX5_like_3 : List UInt8 := dkwX5_like_3 ++ dktX5_like_4
def dkwX5_like_2 : List UInt8 := [132, 2, 1, 167, 255, 220, 43, 180, 0, 27, 3, 42, 180, 0, 27, 3, 16, 8, 184, 0, 60, 43]
abbrev dktX5_like_2 : List UInt8 := dkwX5_like_2 ++ dktX5_like_3
def dkwX5_like_1 : List UInt8 := [180, 0, 23, 28, 182, 0, 53, 192, 0, 9, 43, 180, 0, 23, 28, 182, 0, 53, 192, 0, 9, 182, 0, 56]
abbrev dktX5_like_1 : List UInt8 := dkwX5_like_1 ++ dktX5_like_2
def dkwX5_like_0 : List UInt8 := [42, 180, 0, 12, 43, 180, 0, 12, 182, 0, 56, 3, 61, 28, 43, 180, 0, 45, 162, 0, 34, 42]
abbrev dktX5_like_0 : List UInt8 := dkwX5_like_0 ++ dktX5_like_1
theorem dksX5_like_0 : cX5_like.data.toList.drop 0 = dktX5_like_0 := by decide +kernel
theorem dksX5_like_1 : cX5_like.data.toList.drop 22 = dktX5_like_1 := dk_seg dksX5_like_0 22 rfl rfl
theorem dksX5_like_2 : cX5_like.data.toList.drop 46 = dktX5_like_2 := dk_seg dksX5_like_1 24 rfl rfl
theorem dksX5_like_3 : cX5_like.data.toList.drop 68 = dktX5_like_3 := dk_seg dksX5_like_2 22 rfl rfl
theorem dksX5_like_4 : cX5_like.data.toList.drop 92 = dktX5_like_4 := dk_seg dksX5_like_3 24 rfl rfl
theorem dksX5_like_5 : cX5_like.data.toList.drop 116 = dktX5_like_5 := dk_seg dksX5_like_4 24 rfl rfl
theorem dX5_like_0 : decode cX5_like 0 = .ok (.aload_n 0, 1) := dk_42 (dk_at dksX5_like_0 0 rfl rfl)
theorem dX5_like_1 : decode cX5_like 1 = .ok (.getfield 12, 3) := dk_180 0 12 (dk_at dksX5_like_0 1 rfl rfl)
theorem dX5_like_4 : decode cX5_like 4 = .ok (.aload_n 1, 1) := dk_43 (dk_at dksX5_like_0 4 rfl rfl)
theorem dX5_like_5 : decode cX5_like 5 = .ok (.getfield 12, 3) := dk_180 0 12 (dk_at dksX5_like_0 5 rfl rfl)
theorem dX5_like_8 : decode cX5_like 8 = .ok (.invokevirtual 56, 3) := dk_182 0 56 (dk_at dksX5_like_0 8 rfl rfl)
theorem dX5_like_11 : decode cX5_like 11 = .ok (.iconst 0, 1) := dk_3 (dk_at dksX5_like_0 11 rfl rfl)
theorem dX5_like_12 : decode cX5_like 12 = .ok (.istore_n 2, 1) := dk_61 (dk_at dksX5_like_0 12 rfl rfl)
theorem dX5_like_13 : decode cX5_like 13 = .ok (.iload_n 2, 1) := dk_28 (dk_at dksX5_like_0 13 rfl rfl)
theorem dX5_like_14 : decode cX5_like 14 = .ok (.aload_n 1, 1) := dk_43 (dk_at dksX5_like_0 14 rfl rfl)
theorem dX5_like_15 : decode cX5_like 15 = .ok (.getfield 45, 3) := dk_180 0 45 (dk_at dksX5_like_0 15 rfl rfl)
theorem dX5_like_18 : decode cX5_like 18 = .ok (.if_icmp .ge 34, 3) := dk_162 0 34 (dk_at dksX5_like_0 18 rfl rfl)
theorem dX5_like_21 : decode cX5_like 21 = .ok (.aload_n 0, 1) := dk_42 (dk_at dksX5_like_0 21 rfl rfl)
theorem dX5_like_22 : decode cX5_like 22 = .ok (.getfield 23, 3) := dk_180 0 23 (dk_at dksX5_like_1 0 rfl rfl)
theorem dX5_like_25 : decode cX5_like 25 = .ok (.iload_n 2, 1) := dk_28 (dk_at dksX5_like_1 3 rfl rfl)
theorem dX5_like_26 : decode cX5_like 26 = .ok (.invokevirtual 53, 3) := dk_182 0 53 (dk_at dksX5_like_1 4 rfl rfl)
theorem dX5_like_29 : decode cX5_like 29 = .ok (.checkcast 9, 3) := dk_192 0 9 (dk_at dksX5_like_1 7 rfl rfl)
theorem dX5_like_32 : decode cX5_like 32 = .ok (.aload_n 1, 1) := dk_43 (dk_at dksX5_like_1 10 rfl rfl)
theorem dX5_like_33 : decode cX5_like 33 = .ok (.getfield 23, 3) := dk_180 0 23 (dk_at dksX5_like_1 11 rfl rfl)
theorem dX5_like_36 : decode cX5_like 36 = .ok (.iload_n 2, 1) := dk_28 (dk_at dksX5_like_1 14 rfl rfl)
theorem dX5_like_37 : decode cX5_like 37 = .ok (.invokevirtual 53, 3) := dk_182 0 53 (dk_at dksX5_like_1 15 rfl rfl)
theorem dX5_like_40 : decode cX5_like 40 = .ok (.checkcast 9, 3) := dk_192 0 9 (dk_at dksX5_like_1 18 rfl rfl)
theorem dX5_like_43 : decode cX5_like 43 = .ok (.invokevirtual 56, 3) := dk_182 0 56 (dk_at dksX5_like_1 21 rfl rfl)
theorem dX5_like_46 : decode cX5_like 46 = .ok (.iinc 2 1, 3) := dk_132 2 1 (dk_at dksX5_like_2 0 rfl rfl)
theorem dX5_like_49 : decode cX5_like 49 = .ok (.goto (-36), 3) := dk_167 255 220 (dk_at dksX5_like_2 3 rfl rfl)
theorem dX5_like_52 : decode cX5_like 52 = .ok (.aload_n 1, 1) := dk_43 (dk_at dksX5_like_2 6 rfl rfl)
theorem dX5_like_53 : decode cX5_like 53 = .ok (.getfield 27, 3) := dk_180 0 27 (dk_at dksX5_like_2 7 rfl rfl)
theorem dX5_like_56 : decode cX5_like 56 = .ok (.iconst 0, 1) := dk_3 (dk_at dksX5_like_2 10 rfl rfl)
theorem dX5_like_57 : decode cX5_like 57 = .ok (.aload_n 0, 1) := dk_42 (dk_at dksX5_like_2 11 rfl rfl)
theorem dX5_like_58 : decode cX5_like 58 = .ok (.getfield 27, 3) := dk_180 0 27 (dk_at dksX5_like_2 12 rfl rfl)
theorem dX5_like_61 : decode cX5_like 61 = .ok (.iconst 0, 1) := dk_3 (dk_at dksX5_like_2 15 rfl rfl)
theorem dX5_like_62 : decode cX5_like 62 = .ok (.bipush 8, 2) := dk_16 8 (dk_at dksX5_like_2 16 rfl rfl)
theorem dX5_like_64 : decode cX5_like 64 = .ok (.invokestatic 60, 3) := dk_184 0 60 (dk_at dksX5_like_2 18 rfl rfl)
theorem dX5_like_67 : decode cX5_like 67 = .ok (.aload_n 1, 1) := dk_43 (dk_at dksX5_like_2 21 rfl rfl)
theorem dX5_like_68 : decode cX5_like 68 = .ok (.getfield 31, 3) := dk_180 0 31 (dk_at dksX5_like_3 0 rfl rfl)
theorem dX5_like_71 : decode cX5_like 71 = .ok (.iconst 0, 1) := dk_3 (dk_at dksX5_like_3 3 rfl rfl)
theorem dX5_like_72 : decode cX5_like 72 = .ok (.aload_n 0, 1) := dk_42 (dk_at dksX5_like_3 4 rfl rfl)
theorem dX5_like_73 : decode cX5_like 73 = .ok (.getfield 31, 3) := dk_180 0 31 (dk_at dksX5_like_3 5 rfl rfl)
theorem dX5_like_76 : decode cX5_like 76 = .ok (.iconst 0, 1) := dk_3 (dk_at dksX5_like_3 8 rfl rfl)
theorem dX5_like_77 : decode cX5_like 77 = .ok (.bipush 8, 2) := dk_16 8 (dk_at dksX5_like_3 9 rfl rfl)
theorem dX5_like_79 : decode cX5_like 79 = .ok (.invokestatic 60, 3) := dk_184 0 60 (dk_at dksX5_like_3 11 rfl rfl)
theorem dX5_like_82 : decode cX5_like 82 = .ok (.aload_n 1, 1) := dk_43 (dk_at dksX5_like_3 14 rfl rfl)
theorem dX5_like_83 : decode cX5_like 83 = .ok (.getfield 37, 3) := dk_180 0 37 (dk_at dksX5_like_3 15 rfl rfl)
theorem dX5_like_86 : decode cX5_like 86 = .ok (.iconst 0, 1) := dk_3 (dk_at dksX5_like_3 18 rfl rfl)
theorem dX5_like_87 : decode cX5_like 87 = .ok (.aload_n 0, 1) := dk_42 (dk_at dksX5_like_3 19 rfl rfl)
theorem dX5_like_88 : decode cX5_like 88 = .ok (.getfield 37, 3) := dk_180 0 37 (dk_at dksX5_like_3 20 rfl rfl)
theorem dX5_like_91 : decode cX5_like 91 = .ok (.iconst 0, 1) := dk_3 (dk_at dksX5_like_3 23 rfl rfl)
theorem dX5_like_92 : decode cX5_like 92 = .ok (.bipush 8, 2) := dk_16 8 (dk_at dksX5_like_4 0 rfl rfl)
theorem dX5_like_94 : decode cX5_like 94 = .ok (.invokestatic 60, 3) := dk_184 0 60 (dk_at dksX5_like_4 2 rfl rfl)
theorem dX5_like_97 : decode cX5_like 97 = .ok (.aload_n 1, 1) := dk_43 (dk_at dksX5_like_4 5 rfl rfl)
theorem dX5_like_98 : decode cX5_like 98 = .ok (.getfield 34, 3) := dk_180 0 34 (dk_at dksX5_like_4 6 rfl rfl)
theorem dX5_like_101 : decode cX5_like 101 = .ok (.iconst 0, 1) := dk_3 (dk_at dksX5_like_4 9 rfl rfl)
theorem dX5_like_102 : decode cX5_like 102 = .ok (.aload_n 0, 1) := dk_42 (dk_at dksX5_like_4 10 rfl rfl)
theorem dX5_like_103 : decode cX5_like 103 = .ok (.getfield 34, 3) := dk_180 0 34 (dk_at dksX5_like_4 11 rfl rfl)
theorem dX5_like_106 : decode cX5_like 106 = .ok (.iconst 0, 1) := dk_3 (dk_at dksX5_like_4 14 rfl rfl)
theorem dX5_like_107 : decode cX5_like 107 = .ok (.aload_n 0, 1) := dk_42 (dk_at dksX5_like_4 15 rfl rfl)
theorem dX5_like_108 : decode cX5_like 108 = .ok (.getfield 34, 3) := dk_180 0 34 (dk_at dksX5_like_4 16 rfl rfl)
theorem dX5_like_111 : decode cX5_like 111 = .ok (.arraylength, 1) := dk_190 (dk_at dksX5_like_4 19 rfl rfl)
theorem dX5_like_112 : decode cX5_like 112 = .ok (.invokestatic 60, 3) := dk_184 0 60 (dk_at dksX5_like_4 20 rfl rfl)
theorem dX5_like_115 : decode cX5_like 115 = .ok (.aload_n 0, 1) := dk_42 (dk_at dksX5_like_4 23 rfl rfl)
theorem dX5_like_116 : decode cX5_like 116 = .ok (.aload_n 1, 1) := dk_43 (dk_at dksX5_like_5 0 rfl rfl)
theorem dX5_like_117 : decode cX5_like 117 = .ok (.getfield 45, 3) := dk_180 0 45 (dk_at dksX5_like_5 1 rfl rfl)
theorem dX5_like_120 : decode cX5_like 120 = .ok (.putfield 45, 3) := dk_181 0 45 (dk_at dksX5_like_5 4 rfl rfl)
theorem dX5_like_123 : decode cX5_like 123 = .ok (.aload_n 0, 1) := dk_42 (dk_at dksX5_like_5 7 rfl rfl)
theorem dX5_like_124 : decode cX5_like 124 = .ok (.aload_n 1, 1) := dk_43 (dk_at dksX5_like_5 8 rfl rfl)
theorem dX5_like_125 : decode cX5_like 125 = .ok (.getfield 66, 3) := dk_180 0 66 (dk_at dksX5_like_5 9 rfl rfl)
theorem dX5_like_128 : decode cX5_like 128 = .ok (.putfield 66, 3) := dk_181 0 66 (dk_at dksX5_like_5 12 rfl rfl)
theorem dX5_like_131 : decode cX5_like 131 = .ok (.return_, 1) := dk_177 (dk_at dksX5_like_5 15 rfl rfl)
abbrev cX5_keeps : ByteArray := prog_2_method_2_code
def yX5_keeps : MethodName := ⟨RX5, "keeps", "()V"⟩
def dkwX5_keeps_2 : List UInt8 := [182, 0, 53, 192, 0, 9, 42, 180, 0, 12, 182, 0, 56, 42, 89, 180, 0, 45, 4, 96, 181, 0, 45, 177]
abbrev dktX5_keeps_2 : List UInt8 := dkwX5_keeps_2 ++ []
def dkwX5_keeps_1 : List UInt8 := [182, 0, 41, 87, 42, 89, 180, 0, 45, 4, 100, 181, 0, 45, 42, 180, 0, 23, 42, 180, 0, 45]
abbrev dktX5_keeps_1 : List UInt8 := dkwX5_keeps_1 ++ dktX5_keeps_2
def dkwX5_keeps_0 : List UInt8 := [42, 180, 0, 45, 16, 40, 160, 0, 32, 42, 180, 0, 23, 42, 180, 0, 23, 3, 182, 0, 49, 192, 0, 9]
abbrev dktX5_keeps_0 : List UInt8 := dkwX5_keeps_0 ++ dktX5_keeps_1
theorem dksX5_keeps_0 : cX5_keeps.data.toList.drop 0 = dktX5_keeps_0 := by decide +kernel
theorem dksX5_keeps_1 : cX5_keeps.data.toList.drop 24 = dktX5_keeps_1 := dk_seg dksX5_keeps_0 24 rfl rfl
theorem dksX5_keeps_2 : cX5_keeps.data.toList.drop 46 = dktX5_keeps_2 := dk_seg dksX5_keeps_1 22 rfl rfl
theorem dX5_keeps_0 : decode cX5_keeps 0 = .ok (.aload_n 0, 1) := dk_42 (dk_at dksX5_keeps_0 0 rfl rfl)
theorem dX5_keeps_1 : decode cX5_keeps 1 = .ok (.getfield 45, 3) := dk_180 0 45 (dk_at dksX5_keeps_0 1 rfl rfl)
theorem dX5_keeps_4 : decode cX5_keeps 4 = .ok (.bipush 40, 2) := dk_16 40 (dk_at dksX5_keeps_0 4 rfl rfl)
theorem dX5_keeps_6 : decode cX5_keeps 6 = .ok (.if_icmp .ne 32, 3) := dk_160 0 32 (dk_at dksX5_keeps_0 6 rfl rfl)
theorem dX5_keeps_9 : decode cX5_keeps 9 = .ok (.aload_n 0, 1) := dk_42 (dk_at dksX5_keeps_0 9 rfl rfl)
theorem dX5_keeps_10 : decode cX5_keeps 10 = .ok (.getfield 23, 3) := dk_180 0 23 (dk_at dksX5_keeps_0 10 rfl rfl)
theorem dX5_keeps_13 : decode cX5_keeps 13 = .ok (.aload_n 0, 1) := dk_42 (dk_at dksX5_keeps_0 13 rfl rfl)
theorem dX5_keeps_14 : decode cX5_keeps 14 = .ok (.getfield 23, 3) := dk_180 0 23 (dk_at dksX5_keeps_0 14 rfl rfl)
theorem dX5_keeps_17 : decode cX5_keeps 17 = .ok (.iconst 0, 1) := dk_3 (dk_at dksX5_keeps_0 17 rfl rfl)
theorem dX5_keeps_18 : decode cX5_keeps 18 = .ok (.invokevirtual 49, 3) := dk_182 0 49 (dk_at dksX5_keeps_0 18 rfl rfl)
theorem dX5_keeps_21 : decode cX5_keeps 21 = .ok (.checkcast 9, 3) := dk_192 0 9 (dk_at dksX5_keeps_0 21 rfl rfl)
theorem dX5_keeps_24 : decode cX5_keeps 24 = .ok (.invokevirtual 41, 3) := dk_182 0 41 (dk_at dksX5_keeps_1 0 rfl rfl)
theorem dX5_keeps_27 : decode cX5_keeps 27 = .ok (.pop, 1) := dk_87 (dk_at dksX5_keeps_1 3 rfl rfl)
theorem dX5_keeps_28 : decode cX5_keeps 28 = .ok (.aload_n 0, 1) := dk_42 (dk_at dksX5_keeps_1 4 rfl rfl)
theorem dX5_keeps_29 : decode cX5_keeps 29 = .ok (.dup, 1) := dk_89 (dk_at dksX5_keeps_1 5 rfl rfl)
theorem dX5_keeps_30 : decode cX5_keeps 30 = .ok (.getfield 45, 3) := dk_180 0 45 (dk_at dksX5_keeps_1 6 rfl rfl)
theorem dX5_keeps_33 : decode cX5_keeps 33 = .ok (.iconst 1, 1) := dk_4 (dk_at dksX5_keeps_1 9 rfl rfl)
theorem dX5_keeps_34 : decode cX5_keeps 34 = .ok (.isub, 1) := dk_100 (dk_at dksX5_keeps_1 10 rfl rfl)
theorem dX5_keeps_35 : decode cX5_keeps 35 = .ok (.putfield 45, 3) := dk_181 0 45 (dk_at dksX5_keeps_1 11 rfl rfl)
theorem dX5_keeps_38 : decode cX5_keeps 38 = .ok (.aload_n 0, 1) := dk_42 (dk_at dksX5_keeps_1 14 rfl rfl)
theorem dX5_keeps_39 : decode cX5_keeps 39 = .ok (.getfield 23, 3) := dk_180 0 23 (dk_at dksX5_keeps_1 15 rfl rfl)
theorem dX5_keeps_42 : decode cX5_keeps 42 = .ok (.aload_n 0, 1) := dk_42 (dk_at dksX5_keeps_1 18 rfl rfl)
theorem dX5_keeps_43 : decode cX5_keeps 43 = .ok (.getfield 45, 3) := dk_180 0 45 (dk_at dksX5_keeps_1 19 rfl rfl)
theorem dX5_keeps_46 : decode cX5_keeps 46 = .ok (.invokevirtual 53, 3) := dk_182 0 53 (dk_at dksX5_keeps_2 0 rfl rfl)
theorem dX5_keeps_49 : decode cX5_keeps 49 = .ok (.checkcast 9, 3) := dk_192 0 9 (dk_at dksX5_keeps_2 3 rfl rfl)
theorem dX5_keeps_52 : decode cX5_keeps 52 = .ok (.aload_n 0, 1) := dk_42 (dk_at dksX5_keeps_2 6 rfl rfl)
theorem dX5_keeps_53 : decode cX5_keeps 53 = .ok (.getfield 12, 3) := dk_180 0 12 (dk_at dksX5_keeps_2 7 rfl rfl)
theorem dX5_keeps_56 : decode cX5_keeps 56 = .ok (.invokevirtual 56, 3) := dk_182 0 56 (dk_at dksX5_keeps_2 10 rfl rfl)
theorem dX5_keeps_59 : decode cX5_keeps 59 = .ok (.aload_n 0, 1) := dk_42 (dk_at dksX5_keeps_2 13 rfl rfl)
theorem dX5_keeps_60 : decode cX5_keeps 60 = .ok (.dup, 1) := dk_89 (dk_at dksX5_keeps_2 14 rfl rfl)
theorem dX5_keeps_61 : decode cX5_keeps 61 = .ok (.getfield 45, 3) := dk_180 0 45 (dk_at dksX5_keeps_2 15 rfl rfl)
theorem dX5_keeps_64 : decode cX5_keeps 64 = .ok (.iconst 1, 1) := dk_4 (dk_at dksX5_keeps_2 18 rfl rfl)
theorem dX5_keeps_65 : decode cX5_keeps 65 = .ok (.iadd, 1) := dk_96 (dk_at dksX5_keeps_2 19 rfl rfl)
theorem dX5_keeps_66 : decode cX5_keeps 66 = .ok (.putfield 45, 3) := dk_181 0 45 (dk_at dksX5_keeps_2 20 rfl rfl)
theorem dX5_keeps_69 : decode cX5_keeps 69 = .ok (.return_, 1) := dk_177 (dk_at dksX5_keeps_2 23 rfl rfl)
theorem q130 : (Jvm.Cond.initialized "ApartBench$Book") ∈ lw_all := lw_g (lw_at lw_m1 25 rfl) rfl
theorem q572 : (Jvm.Cond.instantiable "ApartBench$Book" (8 : Nat)) ∈ lw_all := lw_g (lw_at lw_m2 227 rfl) rfl
theorem q574 : (Jvm.Cond.instanceMethod ({ cls := "ApartBench$Book", name := "<init>", desc := "()V" } : Jvm.MethodName)) ∈ lw_all := lw_g (lw_at lw_m2 229 rfl) rfl
theorem q575 : (Jvm.Cond.code ({ cls := "ApartBench$Book", name := "<init>", desc := "()V" } : Jvm.MethodName) prog_2_method_1_code (2 : Nat) (Option.none : Option Jvm.ClassFile.FieldType)) ∈ lw_all := lw_g (lw_at lw_m2 230 rfl) rfl
theorem q576 : (Jvm.Cond.methodLink "ApartBench$Book" (3 : Nat) ({ cls := "java/lang/Object", name := "<init>", desc := "()V" } : Jvm.MethodName)) ∈ lw_all := lw_g (lw_at lw_m2 231 rfl) rfl
theorem q577 : (Jvm.Cond.classLink "ApartBench$Book" (9 : Nat) "ApartBench$State") ∈ lw_all := lw_g (lw_at lw_m2 232 rfl) rfl
theorem q579 : (Jvm.Cond.methodLinkNest "ApartBench$Book" (11 : Nat) ({ cls := "ApartBench$State", name := "<init>", desc := "()V" } : Jvm.MethodName) "ApartBench") ∈ lw_tbl := lw_at lw_m2 234 rfl
theorem q640 : (Jvm.Cond.classLink "ApartBench$Book" (18 : Nat) "java/util/ArrayList") ∈ lw_all := lw_g (lw_at lw_m3 55 rfl) rfl
theorem q641 : (Jvm.Cond.methodLink "ApartBench$Book" (20 : Nat) ({ cls := "java/util/ArrayList", name := "<init>", desc := "(I)V" } : Jvm.MethodName)) ∈ lw_all := lw_g (lw_at lw_m3 56 rfl) rfl
theorem q642 : (Jvm.Cond.methodLink "ApartBench$Book" (41 : Nat) ({ cls := "java/util/ArrayList", name := "add", desc := "(Ljava/lang/Object;)Z" } : Jvm.MethodName)) ∈ lw_all := lw_g (lw_at lw_m3 57 rfl) rfl
theorem q668 : (Jvm.Cond.selects "ApartBench$Book" ({ cls := "java/lang/Object", name := "getClass", desc := "()Ljava/lang/Class;" } : Jvm.MethodName) ({ cls := "java/lang/Object", name := "getClass", desc := "()Ljava/lang/Class;" } : Jvm.MethodName)) ∈ lw_all := lw_g (lw_at lw_m3 83 rfl) rfl
theorem q697 : (Jvm.Cond.fieldLink "ApartBench$Book" (12 : Nat) "ApartBench$Book" "now" "LApartBench$State;") ∈ lw_all := lw_g (lw_at lw_m3 112 rfl) rfl
theorem q699 : (Jvm.Cond.fieldLink "ApartBench$Book" (23 : Nat) "ApartBench$Book" "ahead" "Ljava/util/ArrayList;") ∈ lw_all := lw_g (lw_at lw_m3 114 rfl) rfl
theorem q701 : (Jvm.Cond.fieldLink "ApartBench$Book" (27 : Nat) "ApartBench$Book" "seenOf" "[I") ∈ lw_all := lw_g (lw_at lw_m3 116 rfl) rfl
theorem q703 : (Jvm.Cond.fieldLink "ApartBench$Book" (31 : Nat) "ApartBench$Book" "seenBy" "[I") ∈ lw_all := lw_g (lw_at lw_m3 118 rfl) rfl
theorem q705 : (Jvm.Cond.fieldLink "ApartBench$Book" (34 : Nat) "ApartBench$Book" "refused" "[I") ∈ lw_all := lw_g (lw_at lw_m3 120 rfl) rfl
theorem q707 : (Jvm.Cond.fieldLink "ApartBench$Book" (37 : Nat) "ApartBench$Book" "seenVoid" "[Z") ∈ lw_all := lw_g (lw_at lw_m3 122 rfl) rfl
theorem q709 : (Jvm.Cond.fieldLink "ApartBench$Book" (45 : Nat) "ApartBench$Book" "acts" "I") ∈ lw_all := lw_g (lw_at lw_m3 124 rfl) rfl
theorem q711 : (Jvm.Cond.fieldLink "ApartBench$Book" (66 : Nat) "ApartBench$Book" "seen" "I") ∈ lw_all := lw_g (lw_at lw_m3 126 rfl) rfl
theorem q713 : (Jvm.Cond.laysFinal "ApartBench$Book" "ApartBench$Book" "now" "LApartBench$State;") ∈ lw_all := lw_g (lw_at lw_m3 128 rfl) rfl
theorem q714 : (Jvm.Cond.soleField "ApartBench$Book" "now") ∈ lw_all := lw_g (lw_at lw_m3 129 rfl) rfl
theorem q715 : (Jvm.Cond.laysFinal "ApartBench$Book" "ApartBench$Book" "ahead" "Ljava/util/ArrayList;") ∈ lw_all := lw_g (lw_at lw_m3 130 rfl) rfl
theorem q716 : (Jvm.Cond.soleField "ApartBench$Book" "ahead") ∈ lw_all := lw_g (lw_at lw_m3 131 rfl) rfl
theorem q717 : (Jvm.Cond.laysFinal "ApartBench$Book" "ApartBench$Book" "seenOf" "[I") ∈ lw_all := lw_g (lw_at lw_m3 132 rfl) rfl
theorem q718 : (Jvm.Cond.soleField "ApartBench$Book" "seenOf") ∈ lw_all := lw_g (lw_at lw_m3 133 rfl) rfl
theorem q719 : (Jvm.Cond.laysFinal "ApartBench$Book" "ApartBench$Book" "seenBy" "[I") ∈ lw_all := lw_g (lw_at lw_m3 134 rfl) rfl
theorem q720 : (Jvm.Cond.soleField "ApartBench$Book" "seenBy") ∈ lw_all := lw_g (lw_at lw_m3 135 rfl) rfl
theorem q721 : (Jvm.Cond.laysFinal "ApartBench$Book" "ApartBench$Book" "refused" "[I") ∈ lw_all := lw_g (lw_at lw_m3 136 rfl) rfl
theorem q722 : (Jvm.Cond.soleField "ApartBench$Book" "refused") ∈ lw_all := lw_g (lw_at lw_m3 137 rfl) rfl
theorem q723 : (Jvm.Cond.laysFinal "ApartBench$Book" "ApartBench$Book" "seenVoid" "[Z") ∈ lw_all := lw_g (lw_at lw_m3 138 rfl) rfl
theorem q724 : (Jvm.Cond.soleField "ApartBench$Book" "seenVoid") ∈ lw_all := lw_g (lw_at lw_m3 139 rfl) rfl
theorem q725 : (Jvm.Cond.lays "ApartBench$Book" "ApartBench$Book" "acts" "I") ∈ lw_all := lw_g (lw_at lw_m3 140 rfl) rfl
theorem q726 : (Jvm.Cond.soleField "ApartBench$Book" "acts") ∈ lw_all := lw_g (lw_at lw_m3 141 rfl) rfl
theorem q727 : (Jvm.Cond.lays "ApartBench$Book" "ApartBench$Book" "seen" "I") ∈ lw_all := lw_g (lw_at lw_m3 142 rfl) rfl
theorem q728 : (Jvm.Cond.soleField "ApartBench$Book" "seen") ∈ lw_all := lw_g (lw_at lw_m3 143 rfl) rfl
theorem q729 : (Jvm.Cond.superclass "ApartBench$Book" "java/lang/Object") ∈ lw_all := lw_g (lw_at lw_m3 144 rfl) rfl
theorem q875 : (Jvm.Cond.instanceMethod ({ cls := "ApartBench$Book", name := "like", desc := "(LApartBench$Book;)V" } : Jvm.MethodName)) ∈ lw_all := lw_g (lw_at lw_m4 50 rfl) rfl
theorem q876 : (Jvm.Cond.selects "ApartBench$Book" ({ cls := "ApartBench$Book", name := "like", desc := "(LApartBench$Book;)V" } : Jvm.MethodName) ({ cls := "ApartBench$Book", name := "like", desc := "(LApartBench$Book;)V" } : Jvm.MethodName)) ∈ lw_all := lw_g (lw_at lw_m4 51 rfl) rfl
theorem q877 : (Jvm.Cond.code ({ cls := "ApartBench$Book", name := "like", desc := "(LApartBench$Book;)V" } : Jvm.MethodName) prog_2_method_3_code (3 : Nat) (Option.none : Option Jvm.ClassFile.FieldType)) ∈ lw_all := lw_g (lw_at lw_m4 52 rfl) rfl
theorem q878 : (Jvm.Cond.methodLink "ApartBench$Book" (56 : Nat) ({ cls := "ApartBench$State", name := "like", desc := "(LApartBench$State;)V" } : Jvm.MethodName)) ∈ lw_all := lw_g (lw_at lw_m4 53 rfl) rfl
theorem q879 : (Jvm.Cond.methodLink "ApartBench$Book" (53 : Nat) ({ cls := "java/util/ArrayList", name := "get", desc := "(I)Ljava/lang/Object;" } : Jvm.MethodName)) ∈ lw_all := lw_g (lw_at lw_m4 54 rfl) rfl
theorem q880 : (Jvm.Cond.methodLink "ApartBench$Book" (60 : Nat) ({ cls := "java/lang/System", name := "arraycopy", desc := "(Ljava/lang/Object;ILjava/lang/Object;II)V" } : Jvm.MethodName)) ∈ lw_all := lw_g (lw_at lw_m4 55 rfl) rfl
theorem q1548 : (Jvm.Cond.instanceMethod ({ cls := "ApartBench$Book", name := "keeps", desc := "()V" } : Jvm.MethodName)) ∈ lw_all := lw_g (lw_at lw_m7 3 rfl) rfl
theorem q1549 : (Jvm.Cond.selects "ApartBench$Book" ({ cls := "ApartBench$Book", name := "keeps", desc := "()V" } : Jvm.MethodName) ({ cls := "ApartBench$Book", name := "keeps", desc := "()V" } : Jvm.MethodName)) ∈ lw_all := lw_g (lw_at lw_m7 4 rfl) rfl
theorem q1550 : (Jvm.Cond.code ({ cls := "ApartBench$Book", name := "keeps", desc := "()V" } : Jvm.MethodName) prog_2_method_2_code (1 : Nat) (Option.none : Option Jvm.ClassFile.FieldType)) ∈ lw_all := lw_g (lw_at lw_m7 5 rfl) rfl
theorem q1551 : (Jvm.Cond.methodLink "ApartBench$Book" (49 : Nat) ({ cls := "java/util/ArrayList", name := "remove", desc := "(I)Ljava/lang/Object;" } : Jvm.MethodName)) ∈ lw_all := lw_g (lw_at lw_m7 6 rfl) rfl
theorem q2355 : (Jvm.Cond.castable "ApartBench$Book" "java/lang/Object") ∈ lw_tbl := lw_at lw_m10 90 rfl
theorem in_X5 : ∀ w ∈ wsX50, w ∈ lw_all := lw_in wsX50 [713, 715, 717, 719, 721, 723, 725, 727] (by decide +kernel) (by decide +kernel)

/-! ApartBench$State -/
set_option maxRecDepth 100000
def RX6 : String := "ApartBench$State"
def TX6 : u_T := fun k => match k with
  | 0 => ("ApartBench$State", "day", "[I", true)
  | 1 => ("ApartBench$State", "word", "[I", true)
  | 2 => ("ApartBench$State", "feast", "[I", true)
  | 3 => ("ApartBench$State", "flood", "[I", true)
  | 4 => ("ApartBench$State", "inns", "I", false)
  | 5 => ("ApartBench$State", "words", "I", false)
  | 6 => ("ApartBench$State", "feasts", "I", false)
  | 7 => ("ApartBench$State", "floods", "I", false)
  | 8 => ("ApartBench$State", "back", "I", false)
  | 9 => ("ApartBench$State", "turned", "I", false)
  | 10 => ("ApartBench$State", "mules", "I", false)
  | _ => ("ApartBench$State", "muleOf", "I", false)
def tyX6 : Nat → FieldType := fun k => match k with
  | 0 => .array .int
  | 1 => .array .int
  | 2 => .array .int
  | 3 => .array .int
  | 4 => .int
  | 5 => .int
  | 6 => .int
  | 7 => .int
  | 8 => .int
  | 9 => .int
  | 10 => .int
  | _ => .int
abbrev wsX60 : List Cond := u_ws RX6 TX6 12
theorem nmX6 : ∀ a, a < 12 → ∀ b, b < 12 → a ≠ b → (TX6 a).2.1 ≠ (TX6 b).2.1 := by decide +kernel
theorem tyX6_ok : ∀ k, k < 12 → parseFieldDescriptor (TX6 k).2.2.1 = some (tyX6 k) := by decide +kernel
abbrev cX6_init : ByteArray := prog_13_method_1_code
def yX6_init : MethodName := ⟨RX6, "<init>", "()V"⟩
def dkwX6_init_1 : List UInt8 := [181, 0, 18, 42, 16, 18, 188, 10, 181, 0, 21, 177]
abbrev dktX6_init_1 : List UInt8 := dkwX6_init_1 ++ []
def dkwX6_init_0 : List UInt8 := [42, 183, 0, 3, 42, 8, 188, 10, 181, 0, 9, 42, 16, 15, 188, 10, 181, 0, 15, 42, 16, 12, 188, 10]
abbrev dktX6_init_0 : List UInt8 := dkwX6_init_0 ++ dktX6_init_1
theorem dksX6_init_0 : cX6_init.data.toList.drop 0 = dktX6_init_0 := by decide +kernel
theorem dksX6_init_1 : cX6_init.data.toList.drop 24 = dktX6_init_1 := dk_seg dksX6_init_0 24 rfl rfl
theorem dX6_init_0 : decode cX6_init 0 = .ok (.aload_n 0, 1) := dk_42 (dk_at dksX6_init_0 0 rfl rfl)
theorem dX6_init_1 : decode cX6_init 1 = .ok (.invokespecial 3, 3) := dk_183 0 3 (dk_at dksX6_init_0 1 rfl rfl)
theorem dX6_init_4 : decode cX6_init 4 = .ok (.aload_n 0, 1) := dk_42 (dk_at dksX6_init_0 4 rfl rfl)
theorem dX6_init_5 : decode cX6_init 5 = .ok (.iconst 5, 1) := dk_8 (dk_at dksX6_init_0 5 rfl rfl)
theorem dX6_init_6 : decode cX6_init 6 = .ok (.newarray .int, 2) := dk_188_10 (dk_at dksX6_init_0 6 rfl rfl)
theorem dX6_init_8 : decode cX6_init 8 = .ok (.putfield 9, 3) := dk_181 0 9 (dk_at dksX6_init_0 8 rfl rfl)
theorem dX6_init_11 : decode cX6_init 11 = .ok (.aload_n 0, 1) := dk_42 (dk_at dksX6_init_0 11 rfl rfl)
theorem dX6_init_12 : decode cX6_init 12 = .ok (.bipush 15, 2) := dk_16 15 (dk_at dksX6_init_0 12 rfl rfl)
theorem dX6_init_14 : decode cX6_init 14 = .ok (.newarray .int, 2) := dk_188_10 (dk_at dksX6_init_0 14 rfl rfl)
theorem dX6_init_16 : decode cX6_init 16 = .ok (.putfield 15, 3) := dk_181 0 15 (dk_at dksX6_init_0 16 rfl rfl)
theorem dX6_init_19 : decode cX6_init 19 = .ok (.aload_n 0, 1) := dk_42 (dk_at dksX6_init_0 19 rfl rfl)
theorem dX6_init_20 : decode cX6_init 20 = .ok (.bipush 12, 2) := dk_16 12 (dk_at dksX6_init_0 20 rfl rfl)
theorem dX6_init_22 : decode cX6_init 22 = .ok (.newarray .int, 2) := dk_188_10 (dk_at dksX6_init_0 22 rfl rfl)
theorem dX6_init_24 : decode cX6_init 24 = .ok (.putfield 18, 3) := dk_181 0 18 (dk_at dksX6_init_1 0 rfl rfl)
theorem dX6_init_27 : decode cX6_init 27 = .ok (.aload_n 0, 1) := dk_42 (dk_at dksX6_init_1 3 rfl rfl)
theorem dX6_init_28 : decode cX6_init 28 = .ok (.bipush 18, 2) := dk_16 18 (dk_at dksX6_init_1 4 rfl rfl)
theorem dX6_init_30 : decode cX6_init 30 = .ok (.newarray .int, 2) := dk_188_10 (dk_at dksX6_init_1 6 rfl rfl)
theorem dX6_init_32 : decode cX6_init 32 = .ok (.putfield 21, 3) := dk_181 0 21 (dk_at dksX6_init_1 8 rfl rfl)
theorem dX6_init_35 : decode cX6_init 35 = .ok (.return_, 1) := dk_177 (dk_at dksX6_init_1 11 rfl rfl)
abbrev cX6_begins : ByteArray := prog_13_method_2_code
def yX6_begins : MethodName := ⟨RX6, "begins", "(LApartBench$Land;)V"⟩
def dkwX6_begins_3 : List UInt8 := [181, 0, 61, 42, 3, 181, 0, 64, 42, 2, 181, 0, 67, 177]
abbrev dktX6_begins_3 : List UInt8 := dkwX6_begins_3 ++ []
def dkwX6_begins_2 : List UInt8 := [42, 3, 181, 0, 49, 42, 3, 181, 0, 52, 42, 3, 181, 0, 55, 42, 3, 181, 0, 58, 42, 3]
abbrev dktX6_begins_2 : List UInt8 := dkwX6_begins_2 ++ dktX6_begins_3
def dkwX6_begins_1 : List UInt8 := [182, 0, 36, 192, 0, 40, 180, 0, 42, 79, 132, 2, 1, 167, 255, 222, 42, 43, 180, 0, 45, 181, 0, 48]
abbrev dktX6_begins_1 : List UInt8 := dkwX6_begins_1 ++ dktX6_begins_2
def dkwX6_begins_0 : List UInt8 := [3, 61, 28, 43, 180, 0, 24, 182, 0, 30, 162, 0, 29, 42, 180, 0, 9, 28, 43, 180, 0, 24, 28]
abbrev dktX6_begins_0 : List UInt8 := dkwX6_begins_0 ++ dktX6_begins_1
theorem dksX6_begins_0 : cX6_begins.data.toList.drop 0 = dktX6_begins_0 := by decide +kernel
theorem dksX6_begins_1 : cX6_begins.data.toList.drop 23 = dktX6_begins_1 := dk_seg dksX6_begins_0 23 rfl rfl
theorem dksX6_begins_2 : cX6_begins.data.toList.drop 47 = dktX6_begins_2 := dk_seg dksX6_begins_1 24 rfl rfl
theorem dksX6_begins_3 : cX6_begins.data.toList.drop 69 = dktX6_begins_3 := dk_seg dksX6_begins_2 22 rfl rfl
theorem dX6_begins_0 : decode cX6_begins 0 = .ok (.iconst 0, 1) := dk_3 (dk_at dksX6_begins_0 0 rfl rfl)
theorem dX6_begins_1 : decode cX6_begins 1 = .ok (.istore_n 2, 1) := dk_61 (dk_at dksX6_begins_0 1 rfl rfl)
theorem dX6_begins_2 : decode cX6_begins 2 = .ok (.iload_n 2, 1) := dk_28 (dk_at dksX6_begins_0 2 rfl rfl)
theorem dX6_begins_3 : decode cX6_begins 3 = .ok (.aload_n 1, 1) := dk_43 (dk_at dksX6_begins_0 3 rfl rfl)
theorem dX6_begins_4 : decode cX6_begins 4 = .ok (.getfield 24, 3) := dk_180 0 24 (dk_at dksX6_begins_0 4 rfl rfl)
theorem dX6_begins_7 : decode cX6_begins 7 = .ok (.invokevirtual 30, 3) := dk_182 0 30 (dk_at dksX6_begins_0 7 rfl rfl)
theorem dX6_begins_10 : decode cX6_begins 10 = .ok (.if_icmp .ge 29, 3) := dk_162 0 29 (dk_at dksX6_begins_0 10 rfl rfl)
theorem dX6_begins_13 : decode cX6_begins 13 = .ok (.aload_n 0, 1) := dk_42 (dk_at dksX6_begins_0 13 rfl rfl)
theorem dX6_begins_14 : decode cX6_begins 14 = .ok (.getfield 9, 3) := dk_180 0 9 (dk_at dksX6_begins_0 14 rfl rfl)
theorem dX6_begins_17 : decode cX6_begins 17 = .ok (.iload_n 2, 1) := dk_28 (dk_at dksX6_begins_0 17 rfl rfl)
theorem dX6_begins_18 : decode cX6_begins 18 = .ok (.aload_n 1, 1) := dk_43 (dk_at dksX6_begins_0 18 rfl rfl)
theorem dX6_begins_19 : decode cX6_begins 19 = .ok (.getfield 24, 3) := dk_180 0 24 (dk_at dksX6_begins_0 19 rfl rfl)
theorem dX6_begins_22 : decode cX6_begins 22 = .ok (.iload_n 2, 1) := dk_28 (dk_at dksX6_begins_0 22 rfl rfl)
theorem dX6_begins_23 : decode cX6_begins 23 = .ok (.invokevirtual 36, 3) := dk_182 0 36 (dk_at dksX6_begins_1 0 rfl rfl)
theorem dX6_begins_26 : decode cX6_begins 26 = .ok (.checkcast 40, 3) := dk_192 0 40 (dk_at dksX6_begins_1 3 rfl rfl)
theorem dX6_begins_29 : decode cX6_begins 29 = .ok (.getfield 42, 3) := dk_180 0 42 (dk_at dksX6_begins_1 6 rfl rfl)
theorem dX6_begins_32 : decode cX6_begins 32 = .ok (.iastore, 1) := dk_79 (dk_at dksX6_begins_1 9 rfl rfl)
theorem dX6_begins_33 : decode cX6_begins 33 = .ok (.iinc 2 1, 3) := dk_132 2 1 (dk_at dksX6_begins_1 10 rfl rfl)
theorem dX6_begins_36 : decode cX6_begins 36 = .ok (.goto (-34), 3) := dk_167 255 222 (dk_at dksX6_begins_1 13 rfl rfl)
theorem dX6_begins_39 : decode cX6_begins 39 = .ok (.aload_n 0, 1) := dk_42 (dk_at dksX6_begins_1 16 rfl rfl)
theorem dX6_begins_40 : decode cX6_begins 40 = .ok (.aload_n 1, 1) := dk_43 (dk_at dksX6_begins_1 17 rfl rfl)
theorem dX6_begins_41 : decode cX6_begins 41 = .ok (.getfield 45, 3) := dk_180 0 45 (dk_at dksX6_begins_1 18 rfl rfl)
theorem dX6_begins_44 : decode cX6_begins 44 = .ok (.putfield 48, 3) := dk_181 0 48 (dk_at dksX6_begins_1 21 rfl rfl)
theorem dX6_begins_47 : decode cX6_begins 47 = .ok (.aload_n 0, 1) := dk_42 (dk_at dksX6_begins_2 0 rfl rfl)
theorem dX6_begins_48 : decode cX6_begins 48 = .ok (.iconst 0, 1) := dk_3 (dk_at dksX6_begins_2 1 rfl rfl)
theorem dX6_begins_49 : decode cX6_begins 49 = .ok (.putfield 49, 3) := dk_181 0 49 (dk_at dksX6_begins_2 2 rfl rfl)
theorem dX6_begins_52 : decode cX6_begins 52 = .ok (.aload_n 0, 1) := dk_42 (dk_at dksX6_begins_2 5 rfl rfl)
theorem dX6_begins_53 : decode cX6_begins 53 = .ok (.iconst 0, 1) := dk_3 (dk_at dksX6_begins_2 6 rfl rfl)
theorem dX6_begins_54 : decode cX6_begins 54 = .ok (.putfield 52, 3) := dk_181 0 52 (dk_at dksX6_begins_2 7 rfl rfl)
theorem dX6_begins_57 : decode cX6_begins 57 = .ok (.aload_n 0, 1) := dk_42 (dk_at dksX6_begins_2 10 rfl rfl)
theorem dX6_begins_58 : decode cX6_begins 58 = .ok (.iconst 0, 1) := dk_3 (dk_at dksX6_begins_2 11 rfl rfl)
theorem dX6_begins_59 : decode cX6_begins 59 = .ok (.putfield 55, 3) := dk_181 0 55 (dk_at dksX6_begins_2 12 rfl rfl)
theorem dX6_begins_62 : decode cX6_begins 62 = .ok (.aload_n 0, 1) := dk_42 (dk_at dksX6_begins_2 15 rfl rfl)
theorem dX6_begins_63 : decode cX6_begins 63 = .ok (.iconst 0, 1) := dk_3 (dk_at dksX6_begins_2 16 rfl rfl)
theorem dX6_begins_64 : decode cX6_begins 64 = .ok (.putfield 58, 3) := dk_181 0 58 (dk_at dksX6_begins_2 17 rfl rfl)
theorem dX6_begins_67 : decode cX6_begins 67 = .ok (.aload_n 0, 1) := dk_42 (dk_at dksX6_begins_2 20 rfl rfl)
theorem dX6_begins_68 : decode cX6_begins 68 = .ok (.iconst 0, 1) := dk_3 (dk_at dksX6_begins_2 21 rfl rfl)
theorem dX6_begins_69 : decode cX6_begins 69 = .ok (.putfield 61, 3) := dk_181 0 61 (dk_at dksX6_begins_3 0 rfl rfl)
theorem dX6_begins_72 : decode cX6_begins 72 = .ok (.aload_n 0, 1) := dk_42 (dk_at dksX6_begins_3 3 rfl rfl)
theorem dX6_begins_73 : decode cX6_begins 73 = .ok (.iconst 0, 1) := dk_3 (dk_at dksX6_begins_3 4 rfl rfl)
theorem dX6_begins_74 : decode cX6_begins 74 = .ok (.putfield 64, 3) := dk_181 0 64 (dk_at dksX6_begins_3 5 rfl rfl)
theorem dX6_begins_77 : decode cX6_begins 77 = .ok (.aload_n 0, 1) := dk_42 (dk_at dksX6_begins_3 8 rfl rfl)
theorem dX6_begins_78 : decode cX6_begins 78 = .ok (.iconst (-1), 1) := dk_2 (dk_at dksX6_begins_3 9 rfl rfl)
theorem dX6_begins_79 : decode cX6_begins 79 = .ok (.putfield 67, 3) := dk_181 0 67 (dk_at dksX6_begins_3 10 rfl rfl)
theorem dX6_begins_82 : decode cX6_begins 82 = .ok (.return_, 1) := dk_177 (dk_at dksX6_begins_3 13 rfl rfl)
abbrev cX6_like : ByteArray := prog_13_method_3_code
def yX6_like : MethodName := ⟨RX6, "like", "(LApartBench$State;)V"⟩
def dkwX6_like_5 : List UInt8 := [180, 0, 64, 181, 0, 64, 42, 43, 180, 0, 67, 181, 0, 67, 177]
abbrev dktX6_like_5 : List UInt8 := dkwX6_like_5 ++ []
def dkwX6_like_4 : List UInt8 := [180, 0, 55, 181, 0, 55, 42, 43, 180, 0, 58, 181, 0, 58, 42, 43, 180, 0, 61, 181, 0, 61, 42, 43]
abbrev dktX6_like_4 : List UInt8 := dkwX6_like_4 ++ dktX6_like_5
def dkwX6_like_3 : List UInt8 := [180, 0, 48, 181, 0, 48, 42, 43, 180, 0, 49, 181, 0, 49, 42, 43, 180, 0, 52, 181, 0, 52, 42, 43]
abbrev dktX6_like_3 : List UInt8 := dkwX6_like_3 ++ dktX6_like_4
def dkwX6_like_2 : List UInt8 := [184, 0, 70, 43, 180, 0, 21, 3, 42, 180, 0, 21, 3, 42, 180, 0, 21, 190, 184, 0, 70, 42, 43]
abbrev dktX6_like_2 : List UInt8 := dkwX6_like_2 ++ dktX6_like_3
def dkwX6_like_1 : List UInt8 := [42, 180, 0, 15, 190, 184, 0, 70, 43, 180, 0, 18, 3, 42, 180, 0, 18, 3, 42, 180, 0, 18, 190]
abbrev dktX6_like_1 : List UInt8 := dkwX6_like_1 ++ dktX6_like_2
def dkwX6_like_0 : List UInt8 := [43, 180, 0, 9, 3, 42, 180, 0, 9, 3, 8, 184, 0, 70, 43, 180, 0, 15, 3, 42, 180, 0, 15, 3]
abbrev dktX6_like_0 : List UInt8 := dkwX6_like_0 ++ dktX6_like_1
theorem dksX6_like_0 : cX6_like.data.toList.drop 0 = dktX6_like_0 := by decide +kernel
theorem dksX6_like_1 : cX6_like.data.toList.drop 24 = dktX6_like_1 := dk_seg dksX6_like_0 24 rfl rfl
theorem dksX6_like_2 : cX6_like.data.toList.drop 47 = dktX6_like_2 := dk_seg dksX6_like_1 23 rfl rfl
theorem dksX6_like_3 : cX6_like.data.toList.drop 70 = dktX6_like_3 := dk_seg dksX6_like_2 23 rfl rfl
theorem dksX6_like_4 : cX6_like.data.toList.drop 94 = dktX6_like_4 := dk_seg dksX6_like_3 24 rfl rfl
theorem dksX6_like_5 : cX6_like.data.toList.drop 118 = dktX6_like_5 := dk_seg dksX6_like_4 24 rfl rfl
theorem dX6_like_0 : decode cX6_like 0 = .ok (.aload_n 1, 1) := dk_43 (dk_at dksX6_like_0 0 rfl rfl)
theorem dX6_like_1 : decode cX6_like 1 = .ok (.getfield 9, 3) := dk_180 0 9 (dk_at dksX6_like_0 1 rfl rfl)
theorem dX6_like_4 : decode cX6_like 4 = .ok (.iconst 0, 1) := dk_3 (dk_at dksX6_like_0 4 rfl rfl)
theorem dX6_like_5 : decode cX6_like 5 = .ok (.aload_n 0, 1) := dk_42 (dk_at dksX6_like_0 5 rfl rfl)
theorem dX6_like_6 : decode cX6_like 6 = .ok (.getfield 9, 3) := dk_180 0 9 (dk_at dksX6_like_0 6 rfl rfl)
theorem dX6_like_9 : decode cX6_like 9 = .ok (.iconst 0, 1) := dk_3 (dk_at dksX6_like_0 9 rfl rfl)
theorem dX6_like_10 : decode cX6_like 10 = .ok (.iconst 5, 1) := dk_8 (dk_at dksX6_like_0 10 rfl rfl)
theorem dX6_like_11 : decode cX6_like 11 = .ok (.invokestatic 70, 3) := dk_184 0 70 (dk_at dksX6_like_0 11 rfl rfl)
theorem dX6_like_14 : decode cX6_like 14 = .ok (.aload_n 1, 1) := dk_43 (dk_at dksX6_like_0 14 rfl rfl)
theorem dX6_like_15 : decode cX6_like 15 = .ok (.getfield 15, 3) := dk_180 0 15 (dk_at dksX6_like_0 15 rfl rfl)
theorem dX6_like_18 : decode cX6_like 18 = .ok (.iconst 0, 1) := dk_3 (dk_at dksX6_like_0 18 rfl rfl)
theorem dX6_like_19 : decode cX6_like 19 = .ok (.aload_n 0, 1) := dk_42 (dk_at dksX6_like_0 19 rfl rfl)
theorem dX6_like_20 : decode cX6_like 20 = .ok (.getfield 15, 3) := dk_180 0 15 (dk_at dksX6_like_0 20 rfl rfl)
theorem dX6_like_23 : decode cX6_like 23 = .ok (.iconst 0, 1) := dk_3 (dk_at dksX6_like_0 23 rfl rfl)
theorem dX6_like_24 : decode cX6_like 24 = .ok (.aload_n 0, 1) := dk_42 (dk_at dksX6_like_1 0 rfl rfl)
theorem dX6_like_25 : decode cX6_like 25 = .ok (.getfield 15, 3) := dk_180 0 15 (dk_at dksX6_like_1 1 rfl rfl)
theorem dX6_like_28 : decode cX6_like 28 = .ok (.arraylength, 1) := dk_190 (dk_at dksX6_like_1 4 rfl rfl)
theorem dX6_like_29 : decode cX6_like 29 = .ok (.invokestatic 70, 3) := dk_184 0 70 (dk_at dksX6_like_1 5 rfl rfl)
theorem dX6_like_32 : decode cX6_like 32 = .ok (.aload_n 1, 1) := dk_43 (dk_at dksX6_like_1 8 rfl rfl)
theorem dX6_like_33 : decode cX6_like 33 = .ok (.getfield 18, 3) := dk_180 0 18 (dk_at dksX6_like_1 9 rfl rfl)
theorem dX6_like_36 : decode cX6_like 36 = .ok (.iconst 0, 1) := dk_3 (dk_at dksX6_like_1 12 rfl rfl)
theorem dX6_like_37 : decode cX6_like 37 = .ok (.aload_n 0, 1) := dk_42 (dk_at dksX6_like_1 13 rfl rfl)
theorem dX6_like_38 : decode cX6_like 38 = .ok (.getfield 18, 3) := dk_180 0 18 (dk_at dksX6_like_1 14 rfl rfl)
theorem dX6_like_41 : decode cX6_like 41 = .ok (.iconst 0, 1) := dk_3 (dk_at dksX6_like_1 17 rfl rfl)
theorem dX6_like_42 : decode cX6_like 42 = .ok (.aload_n 0, 1) := dk_42 (dk_at dksX6_like_1 18 rfl rfl)
theorem dX6_like_43 : decode cX6_like 43 = .ok (.getfield 18, 3) := dk_180 0 18 (dk_at dksX6_like_1 19 rfl rfl)
theorem dX6_like_46 : decode cX6_like 46 = .ok (.arraylength, 1) := dk_190 (dk_at dksX6_like_1 22 rfl rfl)
theorem dX6_like_47 : decode cX6_like 47 = .ok (.invokestatic 70, 3) := dk_184 0 70 (dk_at dksX6_like_2 0 rfl rfl)
theorem dX6_like_50 : decode cX6_like 50 = .ok (.aload_n 1, 1) := dk_43 (dk_at dksX6_like_2 3 rfl rfl)
theorem dX6_like_51 : decode cX6_like 51 = .ok (.getfield 21, 3) := dk_180 0 21 (dk_at dksX6_like_2 4 rfl rfl)
theorem dX6_like_54 : decode cX6_like 54 = .ok (.iconst 0, 1) := dk_3 (dk_at dksX6_like_2 7 rfl rfl)
theorem dX6_like_55 : decode cX6_like 55 = .ok (.aload_n 0, 1) := dk_42 (dk_at dksX6_like_2 8 rfl rfl)
theorem dX6_like_56 : decode cX6_like 56 = .ok (.getfield 21, 3) := dk_180 0 21 (dk_at dksX6_like_2 9 rfl rfl)
theorem dX6_like_59 : decode cX6_like 59 = .ok (.iconst 0, 1) := dk_3 (dk_at dksX6_like_2 12 rfl rfl)
theorem dX6_like_60 : decode cX6_like 60 = .ok (.aload_n 0, 1) := dk_42 (dk_at dksX6_like_2 13 rfl rfl)
theorem dX6_like_61 : decode cX6_like 61 = .ok (.getfield 21, 3) := dk_180 0 21 (dk_at dksX6_like_2 14 rfl rfl)
theorem dX6_like_64 : decode cX6_like 64 = .ok (.arraylength, 1) := dk_190 (dk_at dksX6_like_2 17 rfl rfl)
theorem dX6_like_65 : decode cX6_like 65 = .ok (.invokestatic 70, 3) := dk_184 0 70 (dk_at dksX6_like_2 18 rfl rfl)
theorem dX6_like_68 : decode cX6_like 68 = .ok (.aload_n 0, 1) := dk_42 (dk_at dksX6_like_2 21 rfl rfl)
theorem dX6_like_69 : decode cX6_like 69 = .ok (.aload_n 1, 1) := dk_43 (dk_at dksX6_like_2 22 rfl rfl)
theorem dX6_like_70 : decode cX6_like 70 = .ok (.getfield 48, 3) := dk_180 0 48 (dk_at dksX6_like_3 0 rfl rfl)
theorem dX6_like_73 : decode cX6_like 73 = .ok (.putfield 48, 3) := dk_181 0 48 (dk_at dksX6_like_3 3 rfl rfl)
theorem dX6_like_76 : decode cX6_like 76 = .ok (.aload_n 0, 1) := dk_42 (dk_at dksX6_like_3 6 rfl rfl)
theorem dX6_like_77 : decode cX6_like 77 = .ok (.aload_n 1, 1) := dk_43 (dk_at dksX6_like_3 7 rfl rfl)
theorem dX6_like_78 : decode cX6_like 78 = .ok (.getfield 49, 3) := dk_180 0 49 (dk_at dksX6_like_3 8 rfl rfl)
theorem dX6_like_81 : decode cX6_like 81 = .ok (.putfield 49, 3) := dk_181 0 49 (dk_at dksX6_like_3 11 rfl rfl)
theorem dX6_like_84 : decode cX6_like 84 = .ok (.aload_n 0, 1) := dk_42 (dk_at dksX6_like_3 14 rfl rfl)
theorem dX6_like_85 : decode cX6_like 85 = .ok (.aload_n 1, 1) := dk_43 (dk_at dksX6_like_3 15 rfl rfl)
theorem dX6_like_86 : decode cX6_like 86 = .ok (.getfield 52, 3) := dk_180 0 52 (dk_at dksX6_like_3 16 rfl rfl)
theorem dX6_like_89 : decode cX6_like 89 = .ok (.putfield 52, 3) := dk_181 0 52 (dk_at dksX6_like_3 19 rfl rfl)
theorem dX6_like_92 : decode cX6_like 92 = .ok (.aload_n 0, 1) := dk_42 (dk_at dksX6_like_3 22 rfl rfl)
theorem dX6_like_93 : decode cX6_like 93 = .ok (.aload_n 1, 1) := dk_43 (dk_at dksX6_like_3 23 rfl rfl)
theorem dX6_like_94 : decode cX6_like 94 = .ok (.getfield 55, 3) := dk_180 0 55 (dk_at dksX6_like_4 0 rfl rfl)
theorem dX6_like_97 : decode cX6_like 97 = .ok (.putfield 55, 3) := dk_181 0 55 (dk_at dksX6_like_4 3 rfl rfl)
theorem dX6_like_100 : decode cX6_like 100 = .ok (.aload_n 0, 1) := dk_42 (dk_at dksX6_like_4 6 rfl rfl)
theorem dX6_like_101 : decode cX6_like 101 = .ok (.aload_n 1, 1) := dk_43 (dk_at dksX6_like_4 7 rfl rfl)
theorem dX6_like_102 : decode cX6_like 102 = .ok (.getfield 58, 3) := dk_180 0 58 (dk_at dksX6_like_4 8 rfl rfl)
theorem dX6_like_105 : decode cX6_like 105 = .ok (.putfield 58, 3) := dk_181 0 58 (dk_at dksX6_like_4 11 rfl rfl)
theorem dX6_like_108 : decode cX6_like 108 = .ok (.aload_n 0, 1) := dk_42 (dk_at dksX6_like_4 14 rfl rfl)
theorem dX6_like_109 : decode cX6_like 109 = .ok (.aload_n 1, 1) := dk_43 (dk_at dksX6_like_4 15 rfl rfl)
theorem dX6_like_110 : decode cX6_like 110 = .ok (.getfield 61, 3) := dk_180 0 61 (dk_at dksX6_like_4 16 rfl rfl)
theorem dX6_like_113 : decode cX6_like 113 = .ok (.putfield 61, 3) := dk_181 0 61 (dk_at dksX6_like_4 19 rfl rfl)
theorem dX6_like_116 : decode cX6_like 116 = .ok (.aload_n 0, 1) := dk_42 (dk_at dksX6_like_4 22 rfl rfl)
theorem dX6_like_117 : decode cX6_like 117 = .ok (.aload_n 1, 1) := dk_43 (dk_at dksX6_like_4 23 rfl rfl)
theorem dX6_like_118 : decode cX6_like 118 = .ok (.getfield 64, 3) := dk_180 0 64 (dk_at dksX6_like_5 0 rfl rfl)
theorem dX6_like_121 : decode cX6_like 121 = .ok (.putfield 64, 3) := dk_181 0 64 (dk_at dksX6_like_5 3 rfl rfl)
theorem dX6_like_124 : decode cX6_like 124 = .ok (.aload_n 0, 1) := dk_42 (dk_at dksX6_like_5 6 rfl rfl)
theorem dX6_like_125 : decode cX6_like 125 = .ok (.aload_n 1, 1) := dk_43 (dk_at dksX6_like_5 7 rfl rfl)
theorem dX6_like_126 : decode cX6_like 126 = .ok (.getfield 67, 3) := dk_180 0 67 (dk_at dksX6_like_5 8 rfl rfl)
theorem dX6_like_129 : decode cX6_like 129 = .ok (.putfield 67, 3) := dk_181 0 67 (dk_at dksX6_like_5 11 rfl rfl)
theorem dX6_like_132 : decode cX6_like 132 = .ok (.return_, 1) := dk_177 (dk_at dksX6_like_5 14 rfl rfl)
abbrev cX6_isFeast : ByteArray := prog_13_method_8_code
def yX6_isFeast : MethodName := ⟨RX6, "isFeast", "(II)Z"⟩
def dkwX6_isFeast_2 : List UInt8 := [163, 0, 5, 4, 172, 132, 3, 1, 167, 255, 203, 3, 172]
abbrev dktX6_isFeast_2 : List UInt8 := dkwX6_isFeast_2 ++ []
def dkwX6_isFeast_1 : List UInt8 := [180, 0, 18, 6, 29, 104, 4, 96, 46, 161, 0, 19, 28, 42, 180, 0, 18, 6, 29, 104, 5, 96, 46]
abbrev dktX6_isFeast_1 : List UInt8 := dkwX6_isFeast_1 ++ dktX6_isFeast_2
def dkwX6_isFeast_0 : List UInt8 := [3, 62, 29, 42, 180, 0, 52, 162, 0, 51, 42, 180, 0, 18, 6, 29, 104, 46, 27, 160, 0, 33, 28, 42]
abbrev dktX6_isFeast_0 : List UInt8 := dkwX6_isFeast_0 ++ dktX6_isFeast_1
theorem dksX6_isFeast_0 : cX6_isFeast.data.toList.drop 0 = dktX6_isFeast_0 := by decide +kernel
theorem dksX6_isFeast_1 : cX6_isFeast.data.toList.drop 24 = dktX6_isFeast_1 := dk_seg dksX6_isFeast_0 24 rfl rfl
theorem dksX6_isFeast_2 : cX6_isFeast.data.toList.drop 47 = dktX6_isFeast_2 := dk_seg dksX6_isFeast_1 23 rfl rfl
theorem dX6_isFeast_0 : decode cX6_isFeast 0 = .ok (.iconst 0, 1) := dk_3 (dk_at dksX6_isFeast_0 0 rfl rfl)
theorem dX6_isFeast_1 : decode cX6_isFeast 1 = .ok (.istore_n 3, 1) := dk_62 (dk_at dksX6_isFeast_0 1 rfl rfl)
theorem dX6_isFeast_2 : decode cX6_isFeast 2 = .ok (.iload_n 3, 1) := dk_29 (dk_at dksX6_isFeast_0 2 rfl rfl)
theorem dX6_isFeast_3 : decode cX6_isFeast 3 = .ok (.aload_n 0, 1) := dk_42 (dk_at dksX6_isFeast_0 3 rfl rfl)
theorem dX6_isFeast_4 : decode cX6_isFeast 4 = .ok (.getfield 52, 3) := dk_180 0 52 (dk_at dksX6_isFeast_0 4 rfl rfl)
theorem dX6_isFeast_7 : decode cX6_isFeast 7 = .ok (.if_icmp .ge 51, 3) := dk_162 0 51 (dk_at dksX6_isFeast_0 7 rfl rfl)
theorem dX6_isFeast_10 : decode cX6_isFeast 10 = .ok (.aload_n 0, 1) := dk_42 (dk_at dksX6_isFeast_0 10 rfl rfl)
theorem dX6_isFeast_11 : decode cX6_isFeast 11 = .ok (.getfield 18, 3) := dk_180 0 18 (dk_at dksX6_isFeast_0 11 rfl rfl)
theorem dX6_isFeast_14 : decode cX6_isFeast 14 = .ok (.iconst 3, 1) := dk_6 (dk_at dksX6_isFeast_0 14 rfl rfl)
theorem dX6_isFeast_15 : decode cX6_isFeast 15 = .ok (.iload_n 3, 1) := dk_29 (dk_at dksX6_isFeast_0 15 rfl rfl)
theorem dX6_isFeast_16 : decode cX6_isFeast 16 = .ok (.imul, 1) := dk_104 (dk_at dksX6_isFeast_0 16 rfl rfl)
theorem dX6_isFeast_17 : decode cX6_isFeast 17 = .ok (.iaload, 1) := dk_46 (dk_at dksX6_isFeast_0 17 rfl rfl)
theorem dX6_isFeast_18 : decode cX6_isFeast 18 = .ok (.iload_n 1, 1) := dk_27 (dk_at dksX6_isFeast_0 18 rfl rfl)
theorem dX6_isFeast_19 : decode cX6_isFeast 19 = .ok (.if_icmp .ne 33, 3) := dk_160 0 33 (dk_at dksX6_isFeast_0 19 rfl rfl)
theorem dX6_isFeast_22 : decode cX6_isFeast 22 = .ok (.iload_n 2, 1) := dk_28 (dk_at dksX6_isFeast_0 22 rfl rfl)
theorem dX6_isFeast_23 : decode cX6_isFeast 23 = .ok (.aload_n 0, 1) := dk_42 (dk_at dksX6_isFeast_0 23 rfl rfl)
theorem dX6_isFeast_24 : decode cX6_isFeast 24 = .ok (.getfield 18, 3) := dk_180 0 18 (dk_at dksX6_isFeast_1 0 rfl rfl)
theorem dX6_isFeast_27 : decode cX6_isFeast 27 = .ok (.iconst 3, 1) := dk_6 (dk_at dksX6_isFeast_1 3 rfl rfl)
theorem dX6_isFeast_28 : decode cX6_isFeast 28 = .ok (.iload_n 3, 1) := dk_29 (dk_at dksX6_isFeast_1 4 rfl rfl)
theorem dX6_isFeast_29 : decode cX6_isFeast 29 = .ok (.imul, 1) := dk_104 (dk_at dksX6_isFeast_1 5 rfl rfl)
theorem dX6_isFeast_30 : decode cX6_isFeast 30 = .ok (.iconst 1, 1) := dk_4 (dk_at dksX6_isFeast_1 6 rfl rfl)
theorem dX6_isFeast_31 : decode cX6_isFeast 31 = .ok (.iadd, 1) := dk_96 (dk_at dksX6_isFeast_1 7 rfl rfl)
theorem dX6_isFeast_32 : decode cX6_isFeast 32 = .ok (.iaload, 1) := dk_46 (dk_at dksX6_isFeast_1 8 rfl rfl)
theorem dX6_isFeast_33 : decode cX6_isFeast 33 = .ok (.if_icmp .lt 19, 3) := dk_161 0 19 (dk_at dksX6_isFeast_1 9 rfl rfl)
theorem dX6_isFeast_36 : decode cX6_isFeast 36 = .ok (.iload_n 2, 1) := dk_28 (dk_at dksX6_isFeast_1 12 rfl rfl)
theorem dX6_isFeast_37 : decode cX6_isFeast 37 = .ok (.aload_n 0, 1) := dk_42 (dk_at dksX6_isFeast_1 13 rfl rfl)
theorem dX6_isFeast_38 : decode cX6_isFeast 38 = .ok (.getfield 18, 3) := dk_180 0 18 (dk_at dksX6_isFeast_1 14 rfl rfl)
theorem dX6_isFeast_41 : decode cX6_isFeast 41 = .ok (.iconst 3, 1) := dk_6 (dk_at dksX6_isFeast_1 17 rfl rfl)
theorem dX6_isFeast_42 : decode cX6_isFeast 42 = .ok (.iload_n 3, 1) := dk_29 (dk_at dksX6_isFeast_1 18 rfl rfl)
theorem dX6_isFeast_43 : decode cX6_isFeast 43 = .ok (.imul, 1) := dk_104 (dk_at dksX6_isFeast_1 19 rfl rfl)
theorem dX6_isFeast_44 : decode cX6_isFeast 44 = .ok (.iconst 2, 1) := dk_5 (dk_at dksX6_isFeast_1 20 rfl rfl)
theorem dX6_isFeast_45 : decode cX6_isFeast 45 = .ok (.iadd, 1) := dk_96 (dk_at dksX6_isFeast_1 21 rfl rfl)
theorem dX6_isFeast_46 : decode cX6_isFeast 46 = .ok (.iaload, 1) := dk_46 (dk_at dksX6_isFeast_1 22 rfl rfl)
theorem dX6_isFeast_47 : decode cX6_isFeast 47 = .ok (.if_icmp .gt 5, 3) := dk_163 0 5 (dk_at dksX6_isFeast_2 0 rfl rfl)
theorem dX6_isFeast_50 : decode cX6_isFeast 50 = .ok (.iconst 1, 1) := dk_4 (dk_at dksX6_isFeast_2 3 rfl rfl)
theorem dX6_isFeast_51 : decode cX6_isFeast 51 = .ok (.ireturn, 1) := dk_172 (dk_at dksX6_isFeast_2 4 rfl rfl)
theorem dX6_isFeast_52 : decode cX6_isFeast 52 = .ok (.iinc 3 1, 3) := dk_132 3 1 (dk_at dksX6_isFeast_2 5 rfl rfl)
theorem dX6_isFeast_55 : decode cX6_isFeast 55 = .ok (.goto (-53), 3) := dk_167 255 203 (dk_at dksX6_isFeast_2 8 rfl rfl)
theorem dX6_isFeast_58 : decode cX6_isFeast 58 = .ok (.iconst 0, 1) := dk_3 (dk_at dksX6_isFeast_2 11 rfl rfl)
theorem dX6_isFeast_59 : decode cX6_isFeast 59 = .ok (.ireturn, 1) := dk_172 (dk_at dksX6_isFeast_2 12 rfl rfl)
abbrev cX6_sends : ByteArray := prog_13_method_5_code
def yX6_sends : MethodName := ⟨RX6, "sends", "(III)V"⟩
def dkwX6_sends_1 : List UInt8 := [177]
abbrev dktX6_sends_1 : List UInt8 := dkwX6_sends_1 ++ []
def dkwX6_sends_0 : List UInt8 := [42, 180, 0, 15, 42, 180, 0, 49, 27, 28, 29, 184, 0, 76, 42, 89, 180, 0, 49, 4, 96, 181, 0, 49]
abbrev dktX6_sends_0 : List UInt8 := dkwX6_sends_0 ++ dktX6_sends_1
theorem dksX6_sends_0 : cX6_sends.data.toList.drop 0 = dktX6_sends_0 := by decide +kernel
theorem dksX6_sends_1 : cX6_sends.data.toList.drop 24 = dktX6_sends_1 := dk_seg dksX6_sends_0 24 rfl rfl
theorem dX6_sends_0 : decode cX6_sends 0 = .ok (.aload_n 0, 1) := dk_42 (dk_at dksX6_sends_0 0 rfl rfl)
theorem dX6_sends_1 : decode cX6_sends 1 = .ok (.getfield 15, 3) := dk_180 0 15 (dk_at dksX6_sends_0 1 rfl rfl)
theorem dX6_sends_4 : decode cX6_sends 4 = .ok (.aload_n 0, 1) := dk_42 (dk_at dksX6_sends_0 4 rfl rfl)
theorem dX6_sends_5 : decode cX6_sends 5 = .ok (.getfield 49, 3) := dk_180 0 49 (dk_at dksX6_sends_0 5 rfl rfl)
theorem dX6_sends_8 : decode cX6_sends 8 = .ok (.iload_n 1, 1) := dk_27 (dk_at dksX6_sends_0 8 rfl rfl)
theorem dX6_sends_9 : decode cX6_sends 9 = .ok (.iload_n 2, 1) := dk_28 (dk_at dksX6_sends_0 9 rfl rfl)
theorem dX6_sends_10 : decode cX6_sends 10 = .ok (.iload_n 3, 1) := dk_29 (dk_at dksX6_sends_0 10 rfl rfl)
theorem dX6_sends_11 : decode cX6_sends 11 = .ok (.invokestatic 76, 3) := dk_184 0 76 (dk_at dksX6_sends_0 11 rfl rfl)
theorem dX6_sends_14 : decode cX6_sends 14 = .ok (.aload_n 0, 1) := dk_42 (dk_at dksX6_sends_0 14 rfl rfl)
theorem dX6_sends_15 : decode cX6_sends 15 = .ok (.dup, 1) := dk_89 (dk_at dksX6_sends_0 15 rfl rfl)
theorem dX6_sends_16 : decode cX6_sends 16 = .ok (.getfield 49, 3) := dk_180 0 49 (dk_at dksX6_sends_0 16 rfl rfl)
theorem dX6_sends_19 : decode cX6_sends 19 = .ok (.iconst 1, 1) := dk_4 (dk_at dksX6_sends_0 19 rfl rfl)
theorem dX6_sends_20 : decode cX6_sends 20 = .ok (.iadd, 1) := dk_96 (dk_at dksX6_sends_0 20 rfl rfl)
theorem dX6_sends_21 : decode cX6_sends 21 = .ok (.putfield 49, 3) := dk_181 0 49 (dk_at dksX6_sends_0 21 rfl rfl)
theorem dX6_sends_24 : decode cX6_sends 24 = .ok (.return_, 1) := dk_177 (dk_at dksX6_sends_1 0 rfl rfl)
abbrev cX6_puts : ByteArray := prog_13_method_4_code
def yX6_puts : MethodName := ⟨RX6, "puts", "([IIIII)V"⟩
def dkwX6_puts_0 : List UInt8 := [42, 6, 27, 104, 28, 79, 42, 6, 27, 104, 4, 96, 29, 79, 42, 6, 27, 104, 5, 96, 21, 4, 79, 177]
abbrev dktX6_puts_0 : List UInt8 := dkwX6_puts_0 ++ []
theorem dksX6_puts_0 : cX6_puts.data.toList.drop 0 = dktX6_puts_0 := by decide +kernel
theorem dX6_puts_0 : decode cX6_puts 0 = .ok (.aload_n 0, 1) := dk_42 (dk_at dksX6_puts_0 0 rfl rfl)
theorem dX6_puts_1 : decode cX6_puts 1 = .ok (.iconst 3, 1) := dk_6 (dk_at dksX6_puts_0 1 rfl rfl)
theorem dX6_puts_2 : decode cX6_puts 2 = .ok (.iload_n 1, 1) := dk_27 (dk_at dksX6_puts_0 2 rfl rfl)
theorem dX6_puts_3 : decode cX6_puts 3 = .ok (.imul, 1) := dk_104 (dk_at dksX6_puts_0 3 rfl rfl)
theorem dX6_puts_4 : decode cX6_puts 4 = .ok (.iload_n 2, 1) := dk_28 (dk_at dksX6_puts_0 4 rfl rfl)
theorem dX6_puts_5 : decode cX6_puts 5 = .ok (.iastore, 1) := dk_79 (dk_at dksX6_puts_0 5 rfl rfl)
theorem dX6_puts_6 : decode cX6_puts 6 = .ok (.aload_n 0, 1) := dk_42 (dk_at dksX6_puts_0 6 rfl rfl)
theorem dX6_puts_7 : decode cX6_puts 7 = .ok (.iconst 3, 1) := dk_6 (dk_at dksX6_puts_0 7 rfl rfl)
theorem dX6_puts_8 : decode cX6_puts 8 = .ok (.iload_n 1, 1) := dk_27 (dk_at dksX6_puts_0 8 rfl rfl)
theorem dX6_puts_9 : decode cX6_puts 9 = .ok (.imul, 1) := dk_104 (dk_at dksX6_puts_0 9 rfl rfl)
theorem dX6_puts_10 : decode cX6_puts 10 = .ok (.iconst 1, 1) := dk_4 (dk_at dksX6_puts_0 10 rfl rfl)
theorem dX6_puts_11 : decode cX6_puts 11 = .ok (.iadd, 1) := dk_96 (dk_at dksX6_puts_0 11 rfl rfl)
theorem dX6_puts_12 : decode cX6_puts 12 = .ok (.iload_n 3, 1) := dk_29 (dk_at dksX6_puts_0 12 rfl rfl)
theorem dX6_puts_13 : decode cX6_puts 13 = .ok (.iastore, 1) := dk_79 (dk_at dksX6_puts_0 13 rfl rfl)
theorem dX6_puts_14 : decode cX6_puts 14 = .ok (.aload_n 0, 1) := dk_42 (dk_at dksX6_puts_0 14 rfl rfl)
theorem dX6_puts_15 : decode cX6_puts 15 = .ok (.iconst 3, 1) := dk_6 (dk_at dksX6_puts_0 15 rfl rfl)
theorem dX6_puts_16 : decode cX6_puts 16 = .ok (.iload_n 1, 1) := dk_27 (dk_at dksX6_puts_0 16 rfl rfl)
theorem dX6_puts_17 : decode cX6_puts 17 = .ok (.imul, 1) := dk_104 (dk_at dksX6_puts_0 17 rfl rfl)
theorem dX6_puts_18 : decode cX6_puts 18 = .ok (.iconst 2, 1) := dk_5 (dk_at dksX6_puts_0 18 rfl rfl)
theorem dX6_puts_19 : decode cX6_puts 19 = .ok (.iadd, 1) := dk_96 (dk_at dksX6_puts_0 19 rfl rfl)
theorem dX6_puts_20 : decode cX6_puts 20 = .ok (.iload 4, 2) := dk_21 4 (dk_at dksX6_puts_0 20 rfl rfl)
theorem dX6_puts_22 : decode cX6_puts 22 = .ok (.iastore, 1) := dk_79 (dk_at dksX6_puts_0 22 rfl rfl)
theorem dX6_puts_23 : decode cX6_puts 23 = .ok (.return_, 1) := dk_177 (dk_at dksX6_puts_0 23 rfl rfl)
abbrev cX6_feasts : ByteArray := prog_13_method_6_code
def yX6_feasts : MethodName := ⟨RX6, "feasts", "(III)V"⟩
def dkwX6_feasts_1 : List UInt8 := [177]
abbrev dktX6_feasts_1 : List UInt8 := dkwX6_feasts_1 ++ []
def dkwX6_feasts_0 : List UInt8 := [42, 180, 0, 18, 42, 180, 0, 52, 27, 28, 29, 184, 0, 76, 42, 89, 180, 0, 52, 4, 96, 181, 0, 52]
abbrev dktX6_feasts_0 : List UInt8 := dkwX6_feasts_0 ++ dktX6_feasts_1
theorem dksX6_feasts_0 : cX6_feasts.data.toList.drop 0 = dktX6_feasts_0 := by decide +kernel
theorem dksX6_feasts_1 : cX6_feasts.data.toList.drop 24 = dktX6_feasts_1 := dk_seg dksX6_feasts_0 24 rfl rfl
theorem dX6_feasts_0 : decode cX6_feasts 0 = .ok (.aload_n 0, 1) := dk_42 (dk_at dksX6_feasts_0 0 rfl rfl)
theorem dX6_feasts_1 : decode cX6_feasts 1 = .ok (.getfield 18, 3) := dk_180 0 18 (dk_at dksX6_feasts_0 1 rfl rfl)
theorem dX6_feasts_4 : decode cX6_feasts 4 = .ok (.aload_n 0, 1) := dk_42 (dk_at dksX6_feasts_0 4 rfl rfl)
theorem dX6_feasts_5 : decode cX6_feasts 5 = .ok (.getfield 52, 3) := dk_180 0 52 (dk_at dksX6_feasts_0 5 rfl rfl)
theorem dX6_feasts_8 : decode cX6_feasts 8 = .ok (.iload_n 1, 1) := dk_27 (dk_at dksX6_feasts_0 8 rfl rfl)
theorem dX6_feasts_9 : decode cX6_feasts 9 = .ok (.iload_n 2, 1) := dk_28 (dk_at dksX6_feasts_0 9 rfl rfl)
theorem dX6_feasts_10 : decode cX6_feasts 10 = .ok (.iload_n 3, 1) := dk_29 (dk_at dksX6_feasts_0 10 rfl rfl)
theorem dX6_feasts_11 : decode cX6_feasts 11 = .ok (.invokestatic 76, 3) := dk_184 0 76 (dk_at dksX6_feasts_0 11 rfl rfl)
theorem dX6_feasts_14 : decode cX6_feasts 14 = .ok (.aload_n 0, 1) := dk_42 (dk_at dksX6_feasts_0 14 rfl rfl)
theorem dX6_feasts_15 : decode cX6_feasts 15 = .ok (.dup, 1) := dk_89 (dk_at dksX6_feasts_0 15 rfl rfl)
theorem dX6_feasts_16 : decode cX6_feasts 16 = .ok (.getfield 52, 3) := dk_180 0 52 (dk_at dksX6_feasts_0 16 rfl rfl)
theorem dX6_feasts_19 : decode cX6_feasts 19 = .ok (.iconst 1, 1) := dk_4 (dk_at dksX6_feasts_0 19 rfl rfl)
theorem dX6_feasts_20 : decode cX6_feasts 20 = .ok (.iadd, 1) := dk_96 (dk_at dksX6_feasts_0 20 rfl rfl)
theorem dX6_feasts_21 : decode cX6_feasts 21 = .ok (.putfield 52, 3) := dk_181 0 52 (dk_at dksX6_feasts_0 21 rfl rfl)
theorem dX6_feasts_24 : decode cX6_feasts 24 = .ok (.return_, 1) := dk_177 (dk_at dksX6_feasts_1 0 rfl rfl)
abbrev cX6_floods : ByteArray := prog_13_method_7_code
def yX6_floods : MethodName := ⟨RX6, "floods", "(III)V"⟩
def dkwX6_floods_1 : List UInt8 := [177]
abbrev dktX6_floods_1 : List UInt8 := dkwX6_floods_1 ++ []
def dkwX6_floods_0 : List UInt8 := [42, 180, 0, 21, 42, 180, 0, 55, 27, 28, 29, 184, 0, 76, 42, 89, 180, 0, 55, 4, 96, 181, 0, 55]
abbrev dktX6_floods_0 : List UInt8 := dkwX6_floods_0 ++ dktX6_floods_1
theorem dksX6_floods_0 : cX6_floods.data.toList.drop 0 = dktX6_floods_0 := by decide +kernel
theorem dksX6_floods_1 : cX6_floods.data.toList.drop 24 = dktX6_floods_1 := dk_seg dksX6_floods_0 24 rfl rfl
theorem dX6_floods_0 : decode cX6_floods 0 = .ok (.aload_n 0, 1) := dk_42 (dk_at dksX6_floods_0 0 rfl rfl)
theorem dX6_floods_1 : decode cX6_floods 1 = .ok (.getfield 21, 3) := dk_180 0 21 (dk_at dksX6_floods_0 1 rfl rfl)
theorem dX6_floods_4 : decode cX6_floods 4 = .ok (.aload_n 0, 1) := dk_42 (dk_at dksX6_floods_0 4 rfl rfl)
theorem dX6_floods_5 : decode cX6_floods 5 = .ok (.getfield 55, 3) := dk_180 0 55 (dk_at dksX6_floods_0 5 rfl rfl)
theorem dX6_floods_8 : decode cX6_floods 8 = .ok (.iload_n 1, 1) := dk_27 (dk_at dksX6_floods_0 8 rfl rfl)
theorem dX6_floods_9 : decode cX6_floods 9 = .ok (.iload_n 2, 1) := dk_28 (dk_at dksX6_floods_0 9 rfl rfl)
theorem dX6_floods_10 : decode cX6_floods 10 = .ok (.iload_n 3, 1) := dk_29 (dk_at dksX6_floods_0 10 rfl rfl)
theorem dX6_floods_11 : decode cX6_floods 11 = .ok (.invokestatic 76, 3) := dk_184 0 76 (dk_at dksX6_floods_0 11 rfl rfl)
theorem dX6_floods_14 : decode cX6_floods 14 = .ok (.aload_n 0, 1) := dk_42 (dk_at dksX6_floods_0 14 rfl rfl)
theorem dX6_floods_15 : decode cX6_floods 15 = .ok (.dup, 1) := dk_89 (dk_at dksX6_floods_0 15 rfl rfl)
theorem dX6_floods_16 : decode cX6_floods 16 = .ok (.getfield 55, 3) := dk_180 0 55 (dk_at dksX6_floods_0 16 rfl rfl)
theorem dX6_floods_19 : decode cX6_floods 19 = .ok (.iconst 1, 1) := dk_4 (dk_at dksX6_floods_0 19 rfl rfl)
theorem dX6_floods_20 : decode cX6_floods 20 = .ok (.iadd, 1) := dk_96 (dk_at dksX6_floods_0 20 rfl rfl)
theorem dX6_floods_21 : decode cX6_floods 21 = .ok (.putfield 55, 3) := dk_181 0 55 (dk_at dksX6_floods_0 21 rfl rfl)
theorem dX6_floods_24 : decode cX6_floods 24 = .ok (.return_, 1) := dk_177 (dk_at dksX6_floods_1 0 rfl rfl)
theorem q131 : (Jvm.Cond.initialized "ApartBench$State") ∈ lw_all := lw_g (lw_at lw_m1 26 rfl) rfl
theorem q532 : (Jvm.Cond.fieldLinkNest "ApartBench$State" (45 : Nat) "ApartBench$Land" "inns" "I" "ApartBench") ∈ lw_tbl := lw_at lw_m2 187 rfl
theorem q539 : (Jvm.Cond.fieldLinkNest "ApartBench$State" (24 : Nat) "ApartBench$Land" "judges" "Ljava/util/ArrayList;" "ApartBench") ∈ lw_tbl := lw_at lw_m2 194 rfl
theorem q578 : (Jvm.Cond.instantiable "ApartBench$State" (12 : Nat)) ∈ lw_all := lw_g (lw_at lw_m2 233 rfl) rfl
theorem q580 : (Jvm.Cond.instanceMethod ({ cls := "ApartBench$State", name := "<init>", desc := "()V" } : Jvm.MethodName)) ∈ lw_all := lw_g (lw_at lw_m2 235 rfl) rfl
theorem q581 : (Jvm.Cond.code ({ cls := "ApartBench$State", name := "<init>", desc := "()V" } : Jvm.MethodName) prog_13_method_1_code (1 : Nat) (Option.none : Option Jvm.ClassFile.FieldType)) ∈ lw_all := lw_g (lw_at lw_m2 236 rfl) rfl
theorem q582 : (Jvm.Cond.methodLink "ApartBench$State" (3 : Nat) ({ cls := "java/lang/Object", name := "<init>", desc := "()V" } : Jvm.MethodName)) ∈ lw_all := lw_g (lw_at lw_m2 237 rfl) rfl
theorem q583 : (Jvm.Cond.fieldLink "ApartBench$State" (9 : Nat) "ApartBench$State" "day" "[I") ∈ lw_all := lw_g (lw_at lw_m2 238 rfl) rfl
theorem q586 : (Jvm.Cond.fieldLink "ApartBench$State" (15 : Nat) "ApartBench$State" "word" "[I") ∈ lw_all := lw_g (lw_at lw_m3 1 rfl) rfl
theorem q589 : (Jvm.Cond.fieldLink "ApartBench$State" (18 : Nat) "ApartBench$State" "feast" "[I") ∈ lw_all := lw_g (lw_at lw_m3 4 rfl) rfl
theorem q590 : (Jvm.Cond.fieldLink "ApartBench$State" (21 : Nat) "ApartBench$State" "flood" "[I") ∈ lw_all := lw_g (lw_at lw_m3 5 rfl) rfl
theorem q592 : (Jvm.Cond.fieldLink "ApartBench$State" (48 : Nat) "ApartBench$State" "inns" "I") ∈ lw_all := lw_g (lw_at lw_m3 7 rfl) rfl
theorem q595 : (Jvm.Cond.fieldLink "ApartBench$State" (49 : Nat) "ApartBench$State" "words" "I") ∈ lw_all := lw_g (lw_at lw_m3 10 rfl) rfl
theorem q598 : (Jvm.Cond.fieldLink "ApartBench$State" (52 : Nat) "ApartBench$State" "feasts" "I") ∈ lw_all := lw_g (lw_at lw_m3 13 rfl) rfl
theorem q600 : (Jvm.Cond.fieldLink "ApartBench$State" (55 : Nat) "ApartBench$State" "floods" "I") ∈ lw_all := lw_g (lw_at lw_m3 15 rfl) rfl
theorem q603 : (Jvm.Cond.fieldLink "ApartBench$State" (58 : Nat) "ApartBench$State" "back" "I") ∈ lw_all := lw_g (lw_at lw_m3 18 rfl) rfl
theorem q606 : (Jvm.Cond.fieldLink "ApartBench$State" (61 : Nat) "ApartBench$State" "turned" "I") ∈ lw_all := lw_g (lw_at lw_m3 21 rfl) rfl
theorem q609 : (Jvm.Cond.fieldLink "ApartBench$State" (64 : Nat) "ApartBench$State" "mules" "I") ∈ lw_all := lw_g (lw_at lw_m3 24 rfl) rfl
theorem q612 : (Jvm.Cond.fieldLink "ApartBench$State" (67 : Nat) "ApartBench$State" "muleOf" "I") ∈ lw_all := lw_g (lw_at lw_m3 27 rfl) rfl
theorem q615 : (Jvm.Cond.laysFinal "ApartBench$State" "ApartBench$State" "day" "[I") ∈ lw_all := lw_g (lw_at lw_m3 30 rfl) rfl
theorem q616 : (Jvm.Cond.soleField "ApartBench$State" "day") ∈ lw_all := lw_g (lw_at lw_m3 31 rfl) rfl
theorem q617 : (Jvm.Cond.laysFinal "ApartBench$State" "ApartBench$State" "word" "[I") ∈ lw_all := lw_g (lw_at lw_m3 32 rfl) rfl
theorem q618 : (Jvm.Cond.soleField "ApartBench$State" "word") ∈ lw_all := lw_g (lw_at lw_m3 33 rfl) rfl
theorem q619 : (Jvm.Cond.laysFinal "ApartBench$State" "ApartBench$State" "feast" "[I") ∈ lw_all := lw_g (lw_at lw_m3 34 rfl) rfl
theorem q620 : (Jvm.Cond.soleField "ApartBench$State" "feast") ∈ lw_all := lw_g (lw_at lw_m3 35 rfl) rfl
theorem q621 : (Jvm.Cond.laysFinal "ApartBench$State" "ApartBench$State" "flood" "[I") ∈ lw_all := lw_g (lw_at lw_m3 36 rfl) rfl
theorem q622 : (Jvm.Cond.soleField "ApartBench$State" "flood") ∈ lw_all := lw_g (lw_at lw_m3 37 rfl) rfl
theorem q623 : (Jvm.Cond.lays "ApartBench$State" "ApartBench$State" "inns" "I") ∈ lw_all := lw_g (lw_at lw_m3 38 rfl) rfl
theorem q624 : (Jvm.Cond.soleField "ApartBench$State" "inns") ∈ lw_all := lw_g (lw_at lw_m3 39 rfl) rfl
theorem q625 : (Jvm.Cond.lays "ApartBench$State" "ApartBench$State" "words" "I") ∈ lw_all := lw_g (lw_at lw_m3 40 rfl) rfl
theorem q626 : (Jvm.Cond.soleField "ApartBench$State" "words") ∈ lw_all := lw_g (lw_at lw_m3 41 rfl) rfl
theorem q627 : (Jvm.Cond.lays "ApartBench$State" "ApartBench$State" "feasts" "I") ∈ lw_all := lw_g (lw_at lw_m3 42 rfl) rfl
theorem q628 : (Jvm.Cond.soleField "ApartBench$State" "feasts") ∈ lw_all := lw_g (lw_at lw_m3 43 rfl) rfl
theorem q629 : (Jvm.Cond.lays "ApartBench$State" "ApartBench$State" "floods" "I") ∈ lw_all := lw_g (lw_at lw_m3 44 rfl) rfl
theorem q630 : (Jvm.Cond.soleField "ApartBench$State" "floods") ∈ lw_all := lw_g (lw_at lw_m3 45 rfl) rfl
theorem q631 : (Jvm.Cond.lays "ApartBench$State" "ApartBench$State" "back" "I") ∈ lw_all := lw_g (lw_at lw_m3 46 rfl) rfl
theorem q632 : (Jvm.Cond.soleField "ApartBench$State" "back") ∈ lw_all := lw_g (lw_at lw_m3 47 rfl) rfl
theorem q633 : (Jvm.Cond.lays "ApartBench$State" "ApartBench$State" "turned" "I") ∈ lw_all := lw_g (lw_at lw_m3 48 rfl) rfl
theorem q634 : (Jvm.Cond.soleField "ApartBench$State" "turned") ∈ lw_all := lw_g (lw_at lw_m3 49 rfl) rfl
theorem q635 : (Jvm.Cond.lays "ApartBench$State" "ApartBench$State" "mules" "I") ∈ lw_all := lw_g (lw_at lw_m3 50 rfl) rfl
theorem q636 : (Jvm.Cond.soleField "ApartBench$State" "mules") ∈ lw_all := lw_g (lw_at lw_m3 51 rfl) rfl
theorem q637 : (Jvm.Cond.lays "ApartBench$State" "ApartBench$State" "muleOf" "I") ∈ lw_all := lw_g (lw_at lw_m3 52 rfl) rfl
theorem q638 : (Jvm.Cond.soleField "ApartBench$State" "muleOf") ∈ lw_all := lw_g (lw_at lw_m3 53 rfl) rfl
theorem q639 : (Jvm.Cond.superclass "ApartBench$State" "java/lang/Object") ∈ lw_all := lw_g (lw_at lw_m3 54 rfl) rfl
theorem q678 : (Jvm.Cond.selects "ApartBench$State" ({ cls := "java/lang/Object", name := "getClass", desc := "()Ljava/lang/Class;" } : Jvm.MethodName) ({ cls := "java/lang/Object", name := "getClass", desc := "()Ljava/lang/Class;" } : Jvm.MethodName)) ∈ lw_all := lw_g (lw_at lw_m3 93 rfl) rfl
theorem q788 : (Jvm.Cond.instanceMethod ({ cls := "ApartBench$State", name := "begins", desc := "(LApartBench$Land;)V" } : Jvm.MethodName)) ∈ lw_all := lw_g (lw_at lw_m3 203 rfl) rfl
theorem q789 : (Jvm.Cond.selects "ApartBench$State" ({ cls := "ApartBench$State", name := "begins", desc := "(LApartBench$Land;)V" } : Jvm.MethodName) ({ cls := "ApartBench$State", name := "begins", desc := "(LApartBench$Land;)V" } : Jvm.MethodName)) ∈ lw_all := lw_g (lw_at lw_m3 204 rfl) rfl
theorem q790 : (Jvm.Cond.code ({ cls := "ApartBench$State", name := "begins", desc := "(LApartBench$Land;)V" } : Jvm.MethodName) prog_13_method_2_code (3 : Nat) (Option.none : Option Jvm.ClassFile.FieldType)) ∈ lw_all := lw_g (lw_at lw_m3 205 rfl) rfl
theorem q791 : (Jvm.Cond.methodLink "ApartBench$State" (30 : Nat) ({ cls := "java/util/ArrayList", name := "size", desc := "()I" } : Jvm.MethodName)) ∈ lw_all := lw_g (lw_at lw_m3 206 rfl) rfl
theorem q795 : (Jvm.Cond.methodLink "ApartBench$State" (36 : Nat) ({ cls := "java/util/ArrayList", name := "get", desc := "(I)Ljava/lang/Object;" } : Jvm.MethodName)) ∈ lw_all := lw_g (lw_at lw_m3 210 rfl) rfl
theorem q809 : (Jvm.Cond.classLink "ApartBench$State" (40 : Nat) "ApartBench$Judge") ∈ lw_all := lw_g (lw_at lw_m3 224 rfl) rfl
theorem q862 : (Jvm.Cond.instanceMethod ({ cls := "ApartBench$State", name := "like", desc := "(LApartBench$State;)V" } : Jvm.MethodName)) ∈ lw_all := lw_g (lw_at lw_m4 37 rfl) rfl
theorem q863 : (Jvm.Cond.selects "ApartBench$State" ({ cls := "ApartBench$State", name := "like", desc := "(LApartBench$State;)V" } : Jvm.MethodName) ({ cls := "ApartBench$State", name := "like", desc := "(LApartBench$State;)V" } : Jvm.MethodName)) ∈ lw_all := lw_g (lw_at lw_m4 38 rfl) rfl
theorem q864 : (Jvm.Cond.code ({ cls := "ApartBench$State", name := "like", desc := "(LApartBench$State;)V" } : Jvm.MethodName) prog_13_method_3_code (2 : Nat) (Option.none : Option Jvm.ClassFile.FieldType)) ∈ lw_all := lw_g (lw_at lw_m4 39 rfl) rfl
theorem q865 : (Jvm.Cond.methodLink "ApartBench$State" (70 : Nat) ({ cls := "java/lang/System", name := "arraycopy", desc := "(Ljava/lang/Object;ILjava/lang/Object;II)V" } : Jvm.MethodName)) ∈ lw_all := lw_g (lw_at lw_m4 40 rfl) rfl
theorem q1220 : (Jvm.Cond.fieldLink "ApartBench$State" (42 : Nat) "ApartBench$Judge" "day" "I") ∈ lw_all := lw_g (lw_at lw_m5 155 rfl) rfl
theorem q1331 : (Jvm.Cond.instanceMethod ({ cls := "ApartBench$State", name := "isFeast", desc := "(II)Z" } : Jvm.MethodName)) ∈ lw_all := lw_g (lw_at lw_m6 26 rfl) rfl
theorem q1332 : (Jvm.Cond.selects "ApartBench$State" ({ cls := "ApartBench$State", name := "isFeast", desc := "(II)Z" } : Jvm.MethodName) ({ cls := "ApartBench$State", name := "isFeast", desc := "(II)Z" } : Jvm.MethodName)) ∈ lw_all := lw_g (lw_at lw_m6 27 rfl) rfl
theorem q1333 : (Jvm.Cond.code ({ cls := "ApartBench$State", name := "isFeast", desc := "(II)Z" } : Jvm.MethodName) prog_13_method_8_code (4 : Nat) (Option.some Jvm.ClassFile.FieldType.boolean)) ∈ lw_all := lw_g (lw_at lw_m6 28 rfl) rfl
theorem q1575 : (Jvm.Cond.instanceMethod ({ cls := "ApartBench$State", name := "sends", desc := "(III)V" } : Jvm.MethodName)) ∈ lw_all := lw_g (lw_at lw_m7 30 rfl) rfl
theorem q1576 : (Jvm.Cond.selects "ApartBench$State" ({ cls := "ApartBench$State", name := "sends", desc := "(III)V" } : Jvm.MethodName) ({ cls := "ApartBench$State", name := "sends", desc := "(III)V" } : Jvm.MethodName)) ∈ lw_all := lw_g (lw_at lw_m7 31 rfl) rfl
theorem q1577 : (Jvm.Cond.code ({ cls := "ApartBench$State", name := "sends", desc := "(III)V" } : Jvm.MethodName) prog_13_method_5_code (4 : Nat) (Option.none : Option Jvm.ClassFile.FieldType)) ∈ lw_all := lw_g (lw_at lw_m7 32 rfl) rfl
theorem q1578 : (Jvm.Cond.methodLink "ApartBench$State" (76 : Nat) ({ cls := "ApartBench$State", name := "puts", desc := "([IIIII)V" } : Jvm.MethodName)) ∈ lw_all := lw_g (lw_at lw_m7 33 rfl) rfl
theorem q1579 : (Jvm.Cond.static ({ cls := "ApartBench$State", name := "puts", desc := "([IIIII)V" } : Jvm.MethodName)) ∈ lw_all := lw_g (lw_at lw_m7 34 rfl) rfl
theorem q1580 : (Jvm.Cond.code ({ cls := "ApartBench$State", name := "puts", desc := "([IIIII)V" } : Jvm.MethodName) prog_13_method_4_code (5 : Nat) (Option.none : Option Jvm.ClassFile.FieldType)) ∈ lw_all := lw_g (lw_at lw_m7 35 rfl) rfl
theorem q1589 : (Jvm.Cond.instanceMethod ({ cls := "ApartBench$State", name := "feasts", desc := "(III)V" } : Jvm.MethodName)) ∈ lw_all := lw_g (lw_at lw_m7 44 rfl) rfl
theorem q1590 : (Jvm.Cond.selects "ApartBench$State" ({ cls := "ApartBench$State", name := "feasts", desc := "(III)V" } : Jvm.MethodName) ({ cls := "ApartBench$State", name := "feasts", desc := "(III)V" } : Jvm.MethodName)) ∈ lw_all := lw_g (lw_at lw_m7 45 rfl) rfl
theorem q1591 : (Jvm.Cond.code ({ cls := "ApartBench$State", name := "feasts", desc := "(III)V" } : Jvm.MethodName) prog_13_method_6_code (4 : Nat) (Option.none : Option Jvm.ClassFile.FieldType)) ∈ lw_all := lw_g (lw_at lw_m7 46 rfl) rfl
theorem q1600 : (Jvm.Cond.instanceMethod ({ cls := "ApartBench$State", name := "floods", desc := "(III)V" } : Jvm.MethodName)) ∈ lw_all := lw_g (lw_at lw_m7 55 rfl) rfl
theorem q1601 : (Jvm.Cond.selects "ApartBench$State" ({ cls := "ApartBench$State", name := "floods", desc := "(III)V" } : Jvm.MethodName) ({ cls := "ApartBench$State", name := "floods", desc := "(III)V" } : Jvm.MethodName)) ∈ lw_all := lw_g (lw_at lw_m7 56 rfl) rfl
theorem q1602 : (Jvm.Cond.code ({ cls := "ApartBench$State", name := "floods", desc := "(III)V" } : Jvm.MethodName) prog_13_method_7_code (4 : Nat) (Option.none : Option Jvm.ClassFile.FieldType)) ∈ lw_all := lw_g (lw_at lw_m7 57 rfl) rfl
theorem q2356 : (Jvm.Cond.castable "ApartBench$State" "java/lang/Object") ∈ lw_tbl := lw_at lw_m10 91 rfl
theorem in_X6 : ∀ w ∈ wsX60, w ∈ lw_all := lw_in wsX60 [615, 617, 619, 621, 623, 625, 627, 629, 631, 633, 635, 637] (by decide +kernel) (by decide +kernel)

/-! ApartBench$Trial -/
set_option maxRecDepth 100000
def RX7 : String := "ApartBench$Trial"
def TX7 : u_T := fun k => match k with
  | 0 => ("ApartBench$Trial", "land", "LApartBench$Land;", true)
  | 1 => ("ApartBench$Trial", "state", "LApartBench$State;", true)
  | 2 => ("ApartBench$Trial", "stopTown", "[I", true)
  | 3 => ("ApartBench$Trial", "stopDay", "[I", true)
  | 4 => ("ApartBench$Trial", "said", "[I", true)
  | 5 => ("ApartBench$Trial", "saidOn", "[I", true)
  | 6 => ("ApartBench$Trial", "saidIn", "[I", true)
  | 7 => ("ApartBench$Trial", "met", "[I", true)
  | 8 => ("ApartBench$Trial", "guiltyOn", "[I", true)
  | 9 => ("ApartBench$Trial", "guiltyBy", "[I", true)
  | _ => ("ApartBench$Trial", "isVoid", "[Z", true)
def tyX7 : Nat → FieldType := fun k => match k with
  | 0 => .object "ApartBench$Land"
  | 1 => .object "ApartBench$State"
  | 2 => .array .int
  | 3 => .array .int
  | 4 => .array .int
  | 5 => .array .int
  | 6 => .array .int
  | 7 => .array .int
  | 8 => .array .int
  | 9 => .array .int
  | _ => .array .boolean
abbrev wsX70 : List Cond := u_ws RX7 TX7 11
theorem nmX7 : ∀ a, a < 11 → ∀ b, b < 11 → a ≠ b → (TX7 a).2.1 ≠ (TX7 b).2.1 := by decide +kernel
theorem tyX7_ok : ∀ k, k < 11 → parseFieldDescriptor (TX7 k).2.2.1 = some (tyX7 k) := by decide +kernel
abbrev cX7_init : ByteArray := prog_15_method_1_code
def yX7_init : MethodName := ⟨RX7, "<init>", "(LApartBench$Land;LApartBench$State;)V"⟩
def dkwX7_init_3 : List UInt8 := [188, 4, 181, 0, 36, 42, 43, 181, 0, 40, 42, 44, 181, 0, 44, 177]
abbrev dktX7_init_3 : List UInt8 := dkwX7_init_3 ++ []
def dkwX7_init_2 : List UInt8 := [188, 10, 181, 0, 27, 42, 16, 6, 188, 10, 181, 0, 30, 42, 16, 6, 188, 10, 181, 0, 33, 42, 16, 30]
abbrev dktX7_init_2 : List UInt8 := dkwX7_init_2 ++ dktX7_init_3
def dkwX7_init_1 : List UInt8 := [188, 10, 181, 0, 18, 42, 16, 30, 188, 10, 181, 0, 21, 42, 16, 30, 188, 10, 181, 0, 24, 42, 16, 25]
abbrev dktX7_init_1 : List UInt8 := dkwX7_init_1 ++ dktX7_init_2
def dkwX7_init_0 : List UInt8 := [42, 183, 0, 3, 42, 16, 35, 188, 10, 181, 0, 9, 42, 16, 35, 188, 10, 181, 0, 15, 42, 16, 30]
abbrev dktX7_init_0 : List UInt8 := dkwX7_init_0 ++ dktX7_init_1
theorem dksX7_init_0 : cX7_init.data.toList.drop 0 = dktX7_init_0 := by decide +kernel
theorem dksX7_init_1 : cX7_init.data.toList.drop 23 = dktX7_init_1 := dk_seg dksX7_init_0 23 rfl rfl
theorem dksX7_init_2 : cX7_init.data.toList.drop 47 = dktX7_init_2 := dk_seg dksX7_init_1 24 rfl rfl
theorem dksX7_init_3 : cX7_init.data.toList.drop 71 = dktX7_init_3 := dk_seg dksX7_init_2 24 rfl rfl
theorem dX7_init_0 : decode cX7_init 0 = .ok (.aload_n 0, 1) := dk_42 (dk_at dksX7_init_0 0 rfl rfl)
theorem dX7_init_1 : decode cX7_init 1 = .ok (.invokespecial 3, 3) := dk_183 0 3 (dk_at dksX7_init_0 1 rfl rfl)
theorem dX7_init_4 : decode cX7_init 4 = .ok (.aload_n 0, 1) := dk_42 (dk_at dksX7_init_0 4 rfl rfl)
theorem dX7_init_5 : decode cX7_init 5 = .ok (.bipush 35, 2) := dk_16 35 (dk_at dksX7_init_0 5 rfl rfl)
theorem dX7_init_7 : decode cX7_init 7 = .ok (.newarray .int, 2) := dk_188_10 (dk_at dksX7_init_0 7 rfl rfl)
theorem dX7_init_9 : decode cX7_init 9 = .ok (.putfield 9, 3) := dk_181 0 9 (dk_at dksX7_init_0 9 rfl rfl)
theorem dX7_init_12 : decode cX7_init 12 = .ok (.aload_n 0, 1) := dk_42 (dk_at dksX7_init_0 12 rfl rfl)
theorem dX7_init_13 : decode cX7_init 13 = .ok (.bipush 35, 2) := dk_16 35 (dk_at dksX7_init_0 13 rfl rfl)
theorem dX7_init_15 : decode cX7_init 15 = .ok (.newarray .int, 2) := dk_188_10 (dk_at dksX7_init_0 15 rfl rfl)
theorem dX7_init_17 : decode cX7_init 17 = .ok (.putfield 15, 3) := dk_181 0 15 (dk_at dksX7_init_0 17 rfl rfl)
theorem dX7_init_20 : decode cX7_init 20 = .ok (.aload_n 0, 1) := dk_42 (dk_at dksX7_init_0 20 rfl rfl)
theorem dX7_init_21 : decode cX7_init 21 = .ok (.bipush 30, 2) := dk_16 30 (dk_at dksX7_init_0 21 rfl rfl)
theorem dX7_init_23 : decode cX7_init 23 = .ok (.newarray .int, 2) := dk_188_10 (dk_at dksX7_init_1 0 rfl rfl)
theorem dX7_init_25 : decode cX7_init 25 = .ok (.putfield 18, 3) := dk_181 0 18 (dk_at dksX7_init_1 2 rfl rfl)
theorem dX7_init_28 : decode cX7_init 28 = .ok (.aload_n 0, 1) := dk_42 (dk_at dksX7_init_1 5 rfl rfl)
theorem dX7_init_29 : decode cX7_init 29 = .ok (.bipush 30, 2) := dk_16 30 (dk_at dksX7_init_1 6 rfl rfl)
theorem dX7_init_31 : decode cX7_init 31 = .ok (.newarray .int, 2) := dk_188_10 (dk_at dksX7_init_1 8 rfl rfl)
theorem dX7_init_33 : decode cX7_init 33 = .ok (.putfield 21, 3) := dk_181 0 21 (dk_at dksX7_init_1 10 rfl rfl)
theorem dX7_init_36 : decode cX7_init 36 = .ok (.aload_n 0, 1) := dk_42 (dk_at dksX7_init_1 13 rfl rfl)
theorem dX7_init_37 : decode cX7_init 37 = .ok (.bipush 30, 2) := dk_16 30 (dk_at dksX7_init_1 14 rfl rfl)
theorem dX7_init_39 : decode cX7_init 39 = .ok (.newarray .int, 2) := dk_188_10 (dk_at dksX7_init_1 16 rfl rfl)
theorem dX7_init_41 : decode cX7_init 41 = .ok (.putfield 24, 3) := dk_181 0 24 (dk_at dksX7_init_1 18 rfl rfl)
theorem dX7_init_44 : decode cX7_init 44 = .ok (.aload_n 0, 1) := dk_42 (dk_at dksX7_init_1 21 rfl rfl)
theorem dX7_init_45 : decode cX7_init 45 = .ok (.bipush 25, 2) := dk_16 25 (dk_at dksX7_init_1 22 rfl rfl)
theorem dX7_init_47 : decode cX7_init 47 = .ok (.newarray .int, 2) := dk_188_10 (dk_at dksX7_init_2 0 rfl rfl)
theorem dX7_init_49 : decode cX7_init 49 = .ok (.putfield 27, 3) := dk_181 0 27 (dk_at dksX7_init_2 2 rfl rfl)
theorem dX7_init_52 : decode cX7_init 52 = .ok (.aload_n 0, 1) := dk_42 (dk_at dksX7_init_2 5 rfl rfl)
theorem dX7_init_53 : decode cX7_init 53 = .ok (.bipush 6, 2) := dk_16 6 (dk_at dksX7_init_2 6 rfl rfl)
theorem dX7_init_55 : decode cX7_init 55 = .ok (.newarray .int, 2) := dk_188_10 (dk_at dksX7_init_2 8 rfl rfl)
theorem dX7_init_57 : decode cX7_init 57 = .ok (.putfield 30, 3) := dk_181 0 30 (dk_at dksX7_init_2 10 rfl rfl)
theorem dX7_init_60 : decode cX7_init 60 = .ok (.aload_n 0, 1) := dk_42 (dk_at dksX7_init_2 13 rfl rfl)
theorem dX7_init_61 : decode cX7_init 61 = .ok (.bipush 6, 2) := dk_16 6 (dk_at dksX7_init_2 14 rfl rfl)
theorem dX7_init_63 : decode cX7_init 63 = .ok (.newarray .int, 2) := dk_188_10 (dk_at dksX7_init_2 16 rfl rfl)
theorem dX7_init_65 : decode cX7_init 65 = .ok (.putfield 33, 3) := dk_181 0 33 (dk_at dksX7_init_2 18 rfl rfl)
theorem dX7_init_68 : decode cX7_init 68 = .ok (.aload_n 0, 1) := dk_42 (dk_at dksX7_init_2 21 rfl rfl)
theorem dX7_init_69 : decode cX7_init 69 = .ok (.bipush 30, 2) := dk_16 30 (dk_at dksX7_init_2 22 rfl rfl)
theorem dX7_init_71 : decode cX7_init 71 = .ok (.newarray .boolean, 2) := dk_188_4 (dk_at dksX7_init_3 0 rfl rfl)
theorem dX7_init_73 : decode cX7_init 73 = .ok (.putfield 36, 3) := dk_181 0 36 (dk_at dksX7_init_3 2 rfl rfl)
theorem dX7_init_76 : decode cX7_init 76 = .ok (.aload_n 0, 1) := dk_42 (dk_at dksX7_init_3 5 rfl rfl)
theorem dX7_init_77 : decode cX7_init 77 = .ok (.aload_n 1, 1) := dk_43 (dk_at dksX7_init_3 6 rfl rfl)
theorem dX7_init_78 : decode cX7_init 78 = .ok (.putfield 40, 3) := dk_181 0 40 (dk_at dksX7_init_3 7 rfl rfl)
theorem dX7_init_81 : decode cX7_init 81 = .ok (.aload_n 0, 1) := dk_42 (dk_at dksX7_init_3 10 rfl rfl)
theorem dX7_init_82 : decode cX7_init 82 = .ok (.aload_n 2, 1) := dk_44 (dk_at dksX7_init_3 11 rfl rfl)
theorem dX7_init_83 : decode cX7_init 83 = .ok (.putfield 44, 3) := dk_181 0 44 (dk_at dksX7_init_3 12 rfl rfl)
theorem dX7_init_86 : decode cX7_init 86 = .ok (.return_, 1) := dk_177 (dk_at dksX7_init_3 15 rfl rfl)
abbrev cX7_all : ByteArray := prog_15_method_17_code
def yX7_all : MethodName := ⟨RX7, "all", "()I"⟩
def dkwX7_all_12 : List UInt8 := [167, 255, 126, 27, 172]
abbrev dktX7_all_12 : List UInt8 := dkwX7_all_12 ++ []
def dkwX7_all_11 : List UInt8 := [29, 79, 42, 180, 0, 33, 28, 21, 4, 79, 132, 1, 1, 132, 3, 1, 167, 255, 202, 132, 2, 1]
abbrev dktX7_all_11 : List UInt8 := dkwX7_all_11 ++ dktX7_all_12
def dkwX7_all_10 : List UInt8 := [160, 0, 43, 42, 28, 29, 182, 0, 178, 54, 4, 21, 4, 154, 0, 6, 167, 0, 21, 42, 180, 0, 30, 28]
abbrev dktX7_all_10 : List UInt8 := dkwX7_all_10 ++ dktX7_all_11
def dkwX7_all_9 : List UInt8 := [180, 0, 33, 28, 3, 79, 3, 62, 29, 17, 0, 140, 162, 0, 53, 42, 180, 0, 30, 28, 46, 2]
abbrev dktX7_all_9 : List UInt8 := dkwX7_all_9 ++ dktX7_all_10
def dkwX7_all_8 : List UInt8 := [29, 96, 42, 28, 29, 182, 0, 175, 84, 132, 3, 1, 167, 255, 215, 42, 180, 0, 30, 28, 2, 79, 42]
abbrev dktX7_all_8 : List UInt8 := dkwX7_all_8 ++ dktX7_all_9
def dkwX7_all_7 : List UInt8 := [162, 0, 39, 42, 180, 0, 18, 8, 28, 104, 29, 96, 46, 2, 159, 0, 19, 42, 180, 0, 36, 8, 28, 104]
abbrev dktX7_all_7 : List UInt8 := dkwX7_all_7 ++ dktX7_all_8
def dkwX7_all_6 : List UInt8 := [167, 255, 202, 3, 60, 3, 61, 28, 42, 182, 0, 101, 162, 0, 128, 3, 62, 29, 42, 182, 0, 72]
abbrev dktX7_all_6 : List UInt8 := dkwX7_all_6 ++ dktX7_all_7
def dkwX7_all_5 : List UInt8 := [17, 39, 15, 167, 0, 9, 42, 27, 28, 182, 0, 172, 79, 132, 2, 1, 167, 255, 218, 132, 1, 1]
abbrev dktX7_all_5 : List UInt8 := dkwX7_all_5 ++ dktX7_all_6
def dkwX7_all_4 : List UInt8 := [28, 42, 182, 0, 72, 162, 0, 36, 42, 180, 0, 27, 8, 27, 104, 28, 96, 27, 28, 160, 0, 9]
abbrev dktX7_all_4 : List UInt8 := dkwX7_all_4 ++ dktX7_all_5
def dkwX7_all_3 : List UInt8 := [132, 2, 1, 167, 255, 239, 132, 1, 1, 167, 255, 224, 3, 60, 27, 42, 182, 0, 72, 162, 0, 52, 3, 61]
abbrev dktX7_all_3 : List UInt8 := dkwX7_all_3 ++ dktX7_all_4
def dkwX7_all_2 : List UInt8 := [27, 17, 0, 140, 162, 0, 31, 3, 61, 28, 42, 182, 0, 72, 162, 0, 15, 42, 28, 27, 182, 0, 169]
abbrev dktX7_all_2 : List UInt8 := dkwX7_all_2 ++ dktX7_all_3
def dkwX7_all_1 : List UInt8 := [2, 79, 42, 180, 0, 24, 27, 2, 79, 42, 180, 0, 36, 27, 3, 84, 132, 1, 1, 167, 255, 219, 3, 60]
abbrev dktX7_all_1 : List UInt8 := dkwX7_all_1 ++ dktX7_all_2
def dkwX7_all_0 : List UInt8 := [42, 182, 0, 166, 3, 60, 27, 16, 30, 162, 0, 37, 42, 180, 0, 18, 27, 2, 79, 42, 180, 0, 21, 27]
abbrev dktX7_all_0 : List UInt8 := dkwX7_all_0 ++ dktX7_all_1
theorem dksX7_all_0 : cX7_all.data.toList.drop 0 = dktX7_all_0 := by decide +kernel
theorem dksX7_all_1 : cX7_all.data.toList.drop 24 = dktX7_all_1 := dk_seg dksX7_all_0 24 rfl rfl
theorem dksX7_all_2 : cX7_all.data.toList.drop 48 = dktX7_all_2 := dk_seg dksX7_all_1 24 rfl rfl
theorem dksX7_all_3 : cX7_all.data.toList.drop 71 = dktX7_all_3 := dk_seg dksX7_all_2 23 rfl rfl
theorem dksX7_all_4 : cX7_all.data.toList.drop 95 = dktX7_all_4 := dk_seg dksX7_all_3 24 rfl rfl
theorem dksX7_all_5 : cX7_all.data.toList.drop 117 = dktX7_all_5 := dk_seg dksX7_all_4 22 rfl rfl
theorem dksX7_all_6 : cX7_all.data.toList.drop 139 = dktX7_all_6 := dk_seg dksX7_all_5 22 rfl rfl
theorem dksX7_all_7 : cX7_all.data.toList.drop 161 = dktX7_all_7 := dk_seg dksX7_all_6 22 rfl rfl
theorem dksX7_all_8 : cX7_all.data.toList.drop 185 = dktX7_all_8 := dk_seg dksX7_all_7 24 rfl rfl
theorem dksX7_all_9 : cX7_all.data.toList.drop 208 = dktX7_all_9 := dk_seg dksX7_all_8 23 rfl rfl
theorem dksX7_all_10 : cX7_all.data.toList.drop 230 = dktX7_all_10 := dk_seg dksX7_all_9 22 rfl rfl
theorem dksX7_all_11 : cX7_all.data.toList.drop 254 = dktX7_all_11 := dk_seg dksX7_all_10 24 rfl rfl
theorem dksX7_all_12 : cX7_all.data.toList.drop 276 = dktX7_all_12 := dk_seg dksX7_all_11 22 rfl rfl
theorem dX7_all_0 : decode cX7_all 0 = .ok (.aload_n 0, 1) := dk_42 (dk_at dksX7_all_0 0 rfl rfl)
theorem dX7_all_1 : decode cX7_all 1 = .ok (.invokevirtual 166, 3) := dk_182 0 166 (dk_at dksX7_all_0 1 rfl rfl)
theorem dX7_all_4 : decode cX7_all 4 = .ok (.iconst 0, 1) := dk_3 (dk_at dksX7_all_0 4 rfl rfl)
theorem dX7_all_5 : decode cX7_all 5 = .ok (.istore_n 1, 1) := dk_60 (dk_at dksX7_all_0 5 rfl rfl)
theorem dX7_all_6 : decode cX7_all 6 = .ok (.iload_n 1, 1) := dk_27 (dk_at dksX7_all_0 6 rfl rfl)
theorem dX7_all_7 : decode cX7_all 7 = .ok (.bipush 30, 2) := dk_16 30 (dk_at dksX7_all_0 7 rfl rfl)
theorem dX7_all_9 : decode cX7_all 9 = .ok (.if_icmp .ge 37, 3) := dk_162 0 37 (dk_at dksX7_all_0 9 rfl rfl)
theorem dX7_all_12 : decode cX7_all 12 = .ok (.aload_n 0, 1) := dk_42 (dk_at dksX7_all_0 12 rfl rfl)
theorem dX7_all_13 : decode cX7_all 13 = .ok (.getfield 18, 3) := dk_180 0 18 (dk_at dksX7_all_0 13 rfl rfl)
theorem dX7_all_16 : decode cX7_all 16 = .ok (.iload_n 1, 1) := dk_27 (dk_at dksX7_all_0 16 rfl rfl)
theorem dX7_all_17 : decode cX7_all 17 = .ok (.iconst (-1), 1) := dk_2 (dk_at dksX7_all_0 17 rfl rfl)
theorem dX7_all_18 : decode cX7_all 18 = .ok (.iastore, 1) := dk_79 (dk_at dksX7_all_0 18 rfl rfl)
theorem dX7_all_19 : decode cX7_all 19 = .ok (.aload_n 0, 1) := dk_42 (dk_at dksX7_all_0 19 rfl rfl)
theorem dX7_all_20 : decode cX7_all 20 = .ok (.getfield 21, 3) := dk_180 0 21 (dk_at dksX7_all_0 20 rfl rfl)
theorem dX7_all_23 : decode cX7_all 23 = .ok (.iload_n 1, 1) := dk_27 (dk_at dksX7_all_0 23 rfl rfl)
theorem dX7_all_24 : decode cX7_all 24 = .ok (.iconst (-1), 1) := dk_2 (dk_at dksX7_all_1 0 rfl rfl)
theorem dX7_all_25 : decode cX7_all 25 = .ok (.iastore, 1) := dk_79 (dk_at dksX7_all_1 1 rfl rfl)
theorem dX7_all_26 : decode cX7_all 26 = .ok (.aload_n 0, 1) := dk_42 (dk_at dksX7_all_1 2 rfl rfl)
theorem dX7_all_27 : decode cX7_all 27 = .ok (.getfield 24, 3) := dk_180 0 24 (dk_at dksX7_all_1 3 rfl rfl)
theorem dX7_all_30 : decode cX7_all 30 = .ok (.iload_n 1, 1) := dk_27 (dk_at dksX7_all_1 6 rfl rfl)
theorem dX7_all_31 : decode cX7_all 31 = .ok (.iconst (-1), 1) := dk_2 (dk_at dksX7_all_1 7 rfl rfl)
theorem dX7_all_32 : decode cX7_all 32 = .ok (.iastore, 1) := dk_79 (dk_at dksX7_all_1 8 rfl rfl)
theorem dX7_all_33 : decode cX7_all 33 = .ok (.aload_n 0, 1) := dk_42 (dk_at dksX7_all_1 9 rfl rfl)
theorem dX7_all_34 : decode cX7_all 34 = .ok (.getfield 36, 3) := dk_180 0 36 (dk_at dksX7_all_1 10 rfl rfl)
theorem dX7_all_37 : decode cX7_all 37 = .ok (.iload_n 1, 1) := dk_27 (dk_at dksX7_all_1 13 rfl rfl)
theorem dX7_all_38 : decode cX7_all 38 = .ok (.iconst 0, 1) := dk_3 (dk_at dksX7_all_1 14 rfl rfl)
theorem dX7_all_39 : decode cX7_all 39 = .ok (.bastore, 1) := dk_84 (dk_at dksX7_all_1 15 rfl rfl)
theorem dX7_all_40 : decode cX7_all 40 = .ok (.iinc 1 1, 3) := dk_132 1 1 (dk_at dksX7_all_1 16 rfl rfl)
theorem dX7_all_43 : decode cX7_all 43 = .ok (.goto (-37), 3) := dk_167 255 219 (dk_at dksX7_all_1 19 rfl rfl)
theorem dX7_all_46 : decode cX7_all 46 = .ok (.iconst 0, 1) := dk_3 (dk_at dksX7_all_1 22 rfl rfl)
theorem dX7_all_47 : decode cX7_all 47 = .ok (.istore_n 1, 1) := dk_60 (dk_at dksX7_all_1 23 rfl rfl)
theorem dX7_all_48 : decode cX7_all 48 = .ok (.iload_n 1, 1) := dk_27 (dk_at dksX7_all_2 0 rfl rfl)
theorem dX7_all_49 : decode cX7_all 49 = .ok (.sipush 140, 3) := dk_17 0 140 (dk_at dksX7_all_2 1 rfl rfl)
theorem dX7_all_52 : decode cX7_all 52 = .ok (.if_icmp .ge 31, 3) := dk_162 0 31 (dk_at dksX7_all_2 4 rfl rfl)
theorem dX7_all_55 : decode cX7_all 55 = .ok (.iconst 0, 1) := dk_3 (dk_at dksX7_all_2 7 rfl rfl)
theorem dX7_all_56 : decode cX7_all 56 = .ok (.istore_n 2, 1) := dk_61 (dk_at dksX7_all_2 8 rfl rfl)
theorem dX7_all_57 : decode cX7_all 57 = .ok (.iload_n 2, 1) := dk_28 (dk_at dksX7_all_2 9 rfl rfl)
theorem dX7_all_58 : decode cX7_all 58 = .ok (.aload_n 0, 1) := dk_42 (dk_at dksX7_all_2 10 rfl rfl)
theorem dX7_all_59 : decode cX7_all 59 = .ok (.invokevirtual 72, 3) := dk_182 0 72 (dk_at dksX7_all_2 11 rfl rfl)
theorem dX7_all_62 : decode cX7_all 62 = .ok (.if_icmp .ge 15, 3) := dk_162 0 15 (dk_at dksX7_all_2 14 rfl rfl)
theorem dX7_all_65 : decode cX7_all 65 = .ok (.aload_n 0, 1) := dk_42 (dk_at dksX7_all_2 17 rfl rfl)
theorem dX7_all_66 : decode cX7_all 66 = .ok (.iload_n 2, 1) := dk_28 (dk_at dksX7_all_2 18 rfl rfl)
theorem dX7_all_67 : decode cX7_all 67 = .ok (.iload_n 1, 1) := dk_27 (dk_at dksX7_all_2 19 rfl rfl)
theorem dX7_all_68 : decode cX7_all 68 = .ok (.invokevirtual 169, 3) := dk_182 0 169 (dk_at dksX7_all_2 20 rfl rfl)
theorem dX7_all_71 : decode cX7_all 71 = .ok (.iinc 2 1, 3) := dk_132 2 1 (dk_at dksX7_all_3 0 rfl rfl)
theorem dX7_all_74 : decode cX7_all 74 = .ok (.goto (-17), 3) := dk_167 255 239 (dk_at dksX7_all_3 3 rfl rfl)
theorem dX7_all_77 : decode cX7_all 77 = .ok (.iinc 1 1, 3) := dk_132 1 1 (dk_at dksX7_all_3 6 rfl rfl)
theorem dX7_all_80 : decode cX7_all 80 = .ok (.goto (-32), 3) := dk_167 255 224 (dk_at dksX7_all_3 9 rfl rfl)
theorem dX7_all_83 : decode cX7_all 83 = .ok (.iconst 0, 1) := dk_3 (dk_at dksX7_all_3 12 rfl rfl)
theorem dX7_all_84 : decode cX7_all 84 = .ok (.istore_n 1, 1) := dk_60 (dk_at dksX7_all_3 13 rfl rfl)
theorem dX7_all_85 : decode cX7_all 85 = .ok (.iload_n 1, 1) := dk_27 (dk_at dksX7_all_3 14 rfl rfl)
theorem dX7_all_86 : decode cX7_all 86 = .ok (.aload_n 0, 1) := dk_42 (dk_at dksX7_all_3 15 rfl rfl)
theorem dX7_all_87 : decode cX7_all 87 = .ok (.invokevirtual 72, 3) := dk_182 0 72 (dk_at dksX7_all_3 16 rfl rfl)
theorem dX7_all_90 : decode cX7_all 90 = .ok (.if_icmp .ge 52, 3) := dk_162 0 52 (dk_at dksX7_all_3 19 rfl rfl)
theorem dX7_all_93 : decode cX7_all 93 = .ok (.iconst 0, 1) := dk_3 (dk_at dksX7_all_3 22 rfl rfl)
theorem dX7_all_94 : decode cX7_all 94 = .ok (.istore_n 2, 1) := dk_61 (dk_at dksX7_all_3 23 rfl rfl)
theorem dX7_all_95 : decode cX7_all 95 = .ok (.iload_n 2, 1) := dk_28 (dk_at dksX7_all_4 0 rfl rfl)
theorem dX7_all_96 : decode cX7_all 96 = .ok (.aload_n 0, 1) := dk_42 (dk_at dksX7_all_4 1 rfl rfl)
theorem dX7_all_97 : decode cX7_all 97 = .ok (.invokevirtual 72, 3) := dk_182 0 72 (dk_at dksX7_all_4 2 rfl rfl)
theorem dX7_all_100 : decode cX7_all 100 = .ok (.if_icmp .ge 36, 3) := dk_162 0 36 (dk_at dksX7_all_4 5 rfl rfl)
theorem dX7_all_103 : decode cX7_all 103 = .ok (.aload_n 0, 1) := dk_42 (dk_at dksX7_all_4 8 rfl rfl)
theorem dX7_all_104 : decode cX7_all 104 = .ok (.getfield 27, 3) := dk_180 0 27 (dk_at dksX7_all_4 9 rfl rfl)
theorem dX7_all_107 : decode cX7_all 107 = .ok (.iconst 5, 1) := dk_8 (dk_at dksX7_all_4 12 rfl rfl)
theorem dX7_all_108 : decode cX7_all 108 = .ok (.iload_n 1, 1) := dk_27 (dk_at dksX7_all_4 13 rfl rfl)
theorem dX7_all_109 : decode cX7_all 109 = .ok (.imul, 1) := dk_104 (dk_at dksX7_all_4 14 rfl rfl)
theorem dX7_all_110 : decode cX7_all 110 = .ok (.iload_n 2, 1) := dk_28 (dk_at dksX7_all_4 15 rfl rfl)
theorem dX7_all_111 : decode cX7_all 111 = .ok (.iadd, 1) := dk_96 (dk_at dksX7_all_4 16 rfl rfl)
theorem dX7_all_112 : decode cX7_all 112 = .ok (.iload_n 1, 1) := dk_27 (dk_at dksX7_all_4 17 rfl rfl)
theorem dX7_all_113 : decode cX7_all 113 = .ok (.iload_n 2, 1) := dk_28 (dk_at dksX7_all_4 18 rfl rfl)
theorem dX7_all_114 : decode cX7_all 114 = .ok (.if_icmp .ne 9, 3) := dk_160 0 9 (dk_at dksX7_all_4 19 rfl rfl)
theorem dX7_all_117 : decode cX7_all 117 = .ok (.sipush 9999, 3) := dk_17 39 15 (dk_at dksX7_all_5 0 rfl rfl)
theorem dX7_all_120 : decode cX7_all 120 = .ok (.goto 9, 3) := dk_167 0 9 (dk_at dksX7_all_5 3 rfl rfl)
theorem dX7_all_123 : decode cX7_all 123 = .ok (.aload_n 0, 1) := dk_42 (dk_at dksX7_all_5 6 rfl rfl)
theorem dX7_all_124 : decode cX7_all 124 = .ok (.iload_n 1, 1) := dk_27 (dk_at dksX7_all_5 7 rfl rfl)
theorem dX7_all_125 : decode cX7_all 125 = .ok (.iload_n 2, 1) := dk_28 (dk_at dksX7_all_5 8 rfl rfl)
theorem dX7_all_126 : decode cX7_all 126 = .ok (.invokevirtual 172, 3) := dk_182 0 172 (dk_at dksX7_all_5 9 rfl rfl)
theorem dX7_all_129 : decode cX7_all 129 = .ok (.iastore, 1) := dk_79 (dk_at dksX7_all_5 12 rfl rfl)
theorem dX7_all_130 : decode cX7_all 130 = .ok (.iinc 2 1, 3) := dk_132 2 1 (dk_at dksX7_all_5 13 rfl rfl)
theorem dX7_all_133 : decode cX7_all 133 = .ok (.goto (-38), 3) := dk_167 255 218 (dk_at dksX7_all_5 16 rfl rfl)
theorem dX7_all_136 : decode cX7_all 136 = .ok (.iinc 1 1, 3) := dk_132 1 1 (dk_at dksX7_all_5 19 rfl rfl)
theorem dX7_all_139 : decode cX7_all 139 = .ok (.goto (-54), 3) := dk_167 255 202 (dk_at dksX7_all_6 0 rfl rfl)
theorem dX7_all_142 : decode cX7_all 142 = .ok (.iconst 0, 1) := dk_3 (dk_at dksX7_all_6 3 rfl rfl)
theorem dX7_all_143 : decode cX7_all 143 = .ok (.istore_n 1, 1) := dk_60 (dk_at dksX7_all_6 4 rfl rfl)
theorem dX7_all_144 : decode cX7_all 144 = .ok (.iconst 0, 1) := dk_3 (dk_at dksX7_all_6 5 rfl rfl)
theorem dX7_all_145 : decode cX7_all 145 = .ok (.istore_n 2, 1) := dk_61 (dk_at dksX7_all_6 6 rfl rfl)
theorem dX7_all_146 : decode cX7_all 146 = .ok (.iload_n 2, 1) := dk_28 (dk_at dksX7_all_6 7 rfl rfl)
theorem dX7_all_147 : decode cX7_all 147 = .ok (.aload_n 0, 1) := dk_42 (dk_at dksX7_all_6 8 rfl rfl)
theorem dX7_all_148 : decode cX7_all 148 = .ok (.invokevirtual 101, 3) := dk_182 0 101 (dk_at dksX7_all_6 9 rfl rfl)
theorem dX7_all_151 : decode cX7_all 151 = .ok (.if_icmp .ge 128, 3) := dk_162 0 128 (dk_at dksX7_all_6 12 rfl rfl)
theorem dX7_all_154 : decode cX7_all 154 = .ok (.iconst 0, 1) := dk_3 (dk_at dksX7_all_6 15 rfl rfl)
theorem dX7_all_155 : decode cX7_all 155 = .ok (.istore_n 3, 1) := dk_62 (dk_at dksX7_all_6 16 rfl rfl)
theorem dX7_all_156 : decode cX7_all 156 = .ok (.iload_n 3, 1) := dk_29 (dk_at dksX7_all_6 17 rfl rfl)
theorem dX7_all_157 : decode cX7_all 157 = .ok (.aload_n 0, 1) := dk_42 (dk_at dksX7_all_6 18 rfl rfl)
theorem dX7_all_158 : decode cX7_all 158 = .ok (.invokevirtual 72, 3) := dk_182 0 72 (dk_at dksX7_all_6 19 rfl rfl)
theorem dX7_all_161 : decode cX7_all 161 = .ok (.if_icmp .ge 39, 3) := dk_162 0 39 (dk_at dksX7_all_7 0 rfl rfl)
theorem dX7_all_164 : decode cX7_all 164 = .ok (.aload_n 0, 1) := dk_42 (dk_at dksX7_all_7 3 rfl rfl)
theorem dX7_all_165 : decode cX7_all 165 = .ok (.getfield 18, 3) := dk_180 0 18 (dk_at dksX7_all_7 4 rfl rfl)
theorem dX7_all_168 : decode cX7_all 168 = .ok (.iconst 5, 1) := dk_8 (dk_at dksX7_all_7 7 rfl rfl)
theorem dX7_all_169 : decode cX7_all 169 = .ok (.iload_n 2, 1) := dk_28 (dk_at dksX7_all_7 8 rfl rfl)
theorem dX7_all_170 : decode cX7_all 170 = .ok (.imul, 1) := dk_104 (dk_at dksX7_all_7 9 rfl rfl)
theorem dX7_all_171 : decode cX7_all 171 = .ok (.iload_n 3, 1) := dk_29 (dk_at dksX7_all_7 10 rfl rfl)
theorem dX7_all_172 : decode cX7_all 172 = .ok (.iadd, 1) := dk_96 (dk_at dksX7_all_7 11 rfl rfl)
theorem dX7_all_173 : decode cX7_all 173 = .ok (.iaload, 1) := dk_46 (dk_at dksX7_all_7 12 rfl rfl)
theorem dX7_all_174 : decode cX7_all 174 = .ok (.iconst (-1), 1) := dk_2 (dk_at dksX7_all_7 13 rfl rfl)
theorem dX7_all_175 : decode cX7_all 175 = .ok (.if_icmp .eq 19, 3) := dk_159 0 19 (dk_at dksX7_all_7 14 rfl rfl)
theorem dX7_all_178 : decode cX7_all 178 = .ok (.aload_n 0, 1) := dk_42 (dk_at dksX7_all_7 17 rfl rfl)
theorem dX7_all_179 : decode cX7_all 179 = .ok (.getfield 36, 3) := dk_180 0 36 (dk_at dksX7_all_7 18 rfl rfl)
theorem dX7_all_182 : decode cX7_all 182 = .ok (.iconst 5, 1) := dk_8 (dk_at dksX7_all_7 21 rfl rfl)
theorem dX7_all_183 : decode cX7_all 183 = .ok (.iload_n 2, 1) := dk_28 (dk_at dksX7_all_7 22 rfl rfl)
theorem dX7_all_184 : decode cX7_all 184 = .ok (.imul, 1) := dk_104 (dk_at dksX7_all_7 23 rfl rfl)
theorem dX7_all_185 : decode cX7_all 185 = .ok (.iload_n 3, 1) := dk_29 (dk_at dksX7_all_8 0 rfl rfl)
theorem dX7_all_186 : decode cX7_all 186 = .ok (.iadd, 1) := dk_96 (dk_at dksX7_all_8 1 rfl rfl)
theorem dX7_all_187 : decode cX7_all 187 = .ok (.aload_n 0, 1) := dk_42 (dk_at dksX7_all_8 2 rfl rfl)
theorem dX7_all_188 : decode cX7_all 188 = .ok (.iload_n 2, 1) := dk_28 (dk_at dksX7_all_8 3 rfl rfl)
theorem dX7_all_189 : decode cX7_all 189 = .ok (.iload_n 3, 1) := dk_29 (dk_at dksX7_all_8 4 rfl rfl)
theorem dX7_all_190 : decode cX7_all 190 = .ok (.invokevirtual 175, 3) := dk_182 0 175 (dk_at dksX7_all_8 5 rfl rfl)
theorem dX7_all_193 : decode cX7_all 193 = .ok (.bastore, 1) := dk_84 (dk_at dksX7_all_8 8 rfl rfl)
theorem dX7_all_194 : decode cX7_all 194 = .ok (.iinc 3 1, 3) := dk_132 3 1 (dk_at dksX7_all_8 9 rfl rfl)
theorem dX7_all_197 : decode cX7_all 197 = .ok (.goto (-41), 3) := dk_167 255 215 (dk_at dksX7_all_8 12 rfl rfl)
theorem dX7_all_200 : decode cX7_all 200 = .ok (.aload_n 0, 1) := dk_42 (dk_at dksX7_all_8 15 rfl rfl)
theorem dX7_all_201 : decode cX7_all 201 = .ok (.getfield 30, 3) := dk_180 0 30 (dk_at dksX7_all_8 16 rfl rfl)
theorem dX7_all_204 : decode cX7_all 204 = .ok (.iload_n 2, 1) := dk_28 (dk_at dksX7_all_8 19 rfl rfl)
theorem dX7_all_205 : decode cX7_all 205 = .ok (.iconst (-1), 1) := dk_2 (dk_at dksX7_all_8 20 rfl rfl)
theorem dX7_all_206 : decode cX7_all 206 = .ok (.iastore, 1) := dk_79 (dk_at dksX7_all_8 21 rfl rfl)
theorem dX7_all_207 : decode cX7_all 207 = .ok (.aload_n 0, 1) := dk_42 (dk_at dksX7_all_8 22 rfl rfl)
theorem dX7_all_208 : decode cX7_all 208 = .ok (.getfield 33, 3) := dk_180 0 33 (dk_at dksX7_all_9 0 rfl rfl)
theorem dX7_all_211 : decode cX7_all 211 = .ok (.iload_n 2, 1) := dk_28 (dk_at dksX7_all_9 3 rfl rfl)
theorem dX7_all_212 : decode cX7_all 212 = .ok (.iconst 0, 1) := dk_3 (dk_at dksX7_all_9 4 rfl rfl)
theorem dX7_all_213 : decode cX7_all 213 = .ok (.iastore, 1) := dk_79 (dk_at dksX7_all_9 5 rfl rfl)
theorem dX7_all_214 : decode cX7_all 214 = .ok (.iconst 0, 1) := dk_3 (dk_at dksX7_all_9 6 rfl rfl)
theorem dX7_all_215 : decode cX7_all 215 = .ok (.istore_n 3, 1) := dk_62 (dk_at dksX7_all_9 7 rfl rfl)
theorem dX7_all_216 : decode cX7_all 216 = .ok (.iload_n 3, 1) := dk_29 (dk_at dksX7_all_9 8 rfl rfl)
theorem dX7_all_217 : decode cX7_all 217 = .ok (.sipush 140, 3) := dk_17 0 140 (dk_at dksX7_all_9 9 rfl rfl)
theorem dX7_all_220 : decode cX7_all 220 = .ok (.if_icmp .ge 53, 3) := dk_162 0 53 (dk_at dksX7_all_9 12 rfl rfl)
theorem dX7_all_223 : decode cX7_all 223 = .ok (.aload_n 0, 1) := dk_42 (dk_at dksX7_all_9 15 rfl rfl)
theorem dX7_all_224 : decode cX7_all 224 = .ok (.getfield 30, 3) := dk_180 0 30 (dk_at dksX7_all_9 16 rfl rfl)
theorem dX7_all_227 : decode cX7_all 227 = .ok (.iload_n 2, 1) := dk_28 (dk_at dksX7_all_9 19 rfl rfl)
theorem dX7_all_228 : decode cX7_all 228 = .ok (.iaload, 1) := dk_46 (dk_at dksX7_all_9 20 rfl rfl)
theorem dX7_all_229 : decode cX7_all 229 = .ok (.iconst (-1), 1) := dk_2 (dk_at dksX7_all_9 21 rfl rfl)
theorem dX7_all_230 : decode cX7_all 230 = .ok (.if_icmp .ne 43, 3) := dk_160 0 43 (dk_at dksX7_all_10 0 rfl rfl)
theorem dX7_all_233 : decode cX7_all 233 = .ok (.aload_n 0, 1) := dk_42 (dk_at dksX7_all_10 3 rfl rfl)
theorem dX7_all_234 : decode cX7_all 234 = .ok (.iload_n 2, 1) := dk_28 (dk_at dksX7_all_10 4 rfl rfl)
theorem dX7_all_235 : decode cX7_all 235 = .ok (.iload_n 3, 1) := dk_29 (dk_at dksX7_all_10 5 rfl rfl)
theorem dX7_all_236 : decode cX7_all 236 = .ok (.invokevirtual 178, 3) := dk_182 0 178 (dk_at dksX7_all_10 6 rfl rfl)
theorem dX7_all_239 : decode cX7_all 239 = .ok (.istore 4, 2) := dk_54 4 (dk_at dksX7_all_10 9 rfl rfl)
theorem dX7_all_241 : decode cX7_all 241 = .ok (.iload 4, 2) := dk_21 4 (dk_at dksX7_all_10 11 rfl rfl)
theorem dX7_all_243 : decode cX7_all 243 = .ok (.ifCond .ne 6, 3) := dk_154 0 6 (dk_at dksX7_all_10 13 rfl rfl)
theorem dX7_all_246 : decode cX7_all 246 = .ok (.goto 21, 3) := dk_167 0 21 (dk_at dksX7_all_10 16 rfl rfl)
theorem dX7_all_249 : decode cX7_all 249 = .ok (.aload_n 0, 1) := dk_42 (dk_at dksX7_all_10 19 rfl rfl)
theorem dX7_all_250 : decode cX7_all 250 = .ok (.getfield 30, 3) := dk_180 0 30 (dk_at dksX7_all_10 20 rfl rfl)
theorem dX7_all_253 : decode cX7_all 253 = .ok (.iload_n 2, 1) := dk_28 (dk_at dksX7_all_10 23 rfl rfl)
theorem dX7_all_254 : decode cX7_all 254 = .ok (.iload_n 3, 1) := dk_29 (dk_at dksX7_all_11 0 rfl rfl)
theorem dX7_all_255 : decode cX7_all 255 = .ok (.iastore, 1) := dk_79 (dk_at dksX7_all_11 1 rfl rfl)
theorem dX7_all_256 : decode cX7_all 256 = .ok (.aload_n 0, 1) := dk_42 (dk_at dksX7_all_11 2 rfl rfl)
theorem dX7_all_257 : decode cX7_all 257 = .ok (.getfield 33, 3) := dk_180 0 33 (dk_at dksX7_all_11 3 rfl rfl)
theorem dX7_all_260 : decode cX7_all 260 = .ok (.iload_n 2, 1) := dk_28 (dk_at dksX7_all_11 6 rfl rfl)
theorem dX7_all_261 : decode cX7_all 261 = .ok (.iload 4, 2) := dk_21 4 (dk_at dksX7_all_11 7 rfl rfl)
theorem dX7_all_263 : decode cX7_all 263 = .ok (.iastore, 1) := dk_79 (dk_at dksX7_all_11 9 rfl rfl)
theorem dX7_all_264 : decode cX7_all 264 = .ok (.iinc 1 1, 3) := dk_132 1 1 (dk_at dksX7_all_11 10 rfl rfl)
theorem dX7_all_267 : decode cX7_all 267 = .ok (.iinc 3 1, 3) := dk_132 3 1 (dk_at dksX7_all_11 13 rfl rfl)
theorem dX7_all_270 : decode cX7_all 270 = .ok (.goto (-54), 3) := dk_167 255 202 (dk_at dksX7_all_11 16 rfl rfl)
theorem dX7_all_273 : decode cX7_all 273 = .ok (.iinc 2 1, 3) := dk_132 2 1 (dk_at dksX7_all_11 19 rfl rfl)
theorem dX7_all_276 : decode cX7_all 276 = .ok (.goto (-130), 3) := dk_167 255 126 (dk_at dksX7_all_12 0 rfl rfl)
theorem dX7_all_279 : decode cX7_all 279 = .ok (.iload_n 1, 1) := dk_27 (dk_at dksX7_all_12 3 rfl rfl)
theorem dX7_all_280 : decode cX7_all 280 = .ok (.ireturn, 1) := dk_172 (dk_at dksX7_all_12 4 rfl rfl)
abbrev cX7_goes : ByteArray := prog_15_method_5_code
def yX7_goes : MethodName := ⟨RX7, "goes", "()V"⟩
def dkwX7_goes_6 : List UInt8 := [132, 4, 1, 167, 255, 158, 132, 1, 1, 167, 255, 110, 177]
abbrev dktX7_goes_6 : List UInt8 := dkwX7_goes_6 ++ []
def dkwX7_goes_5 : List UInt8 := [16, 7, 27, 104, 21, 4, 96, 21, 5, 79, 42, 180, 0, 15, 16, 7, 27, 104, 21, 4, 96, 29, 79]
abbrev dktX7_goes_5 : List UInt8 := dkwX7_goes_5 ++ dktX7_goes_6
def dkwX7_goes_4 : List UInt8 := [180, 0, 9, 16, 7, 27, 104, 21, 4, 96, 4, 100, 46, 104, 21, 5, 96, 46, 96, 62, 42, 180, 0, 9]
abbrev dktX7_goes_4 : List UInt8 := dkwX7_goes_4 ++ dktX7_goes_5
def dkwX7_goes_3 : List UInt8 := [28, 182, 0, 86, 54, 5, 21, 4, 158, 0, 34, 29, 42, 180, 0, 40, 180, 0, 90, 16, 9, 42]
abbrev dktX7_goes_3 : List UInt8 := dkwX7_goes_3 ++ dktX7_goes_4
def dkwX7_goes_2 : List UInt8 := [42, 27, 182, 0, 83, 162, 0, 94, 42, 180, 0, 40, 180, 0, 48, 27, 182, 0, 63, 192, 0, 67, 21, 4]
abbrev dktX7_goes_2 : List UInt8 := dkwX7_goes_2 ++ dktX7_goes_3
def dkwX7_goes_1 : List UInt8 := [160, 0, 7, 4, 167, 0, 4, 3, 61, 42, 180, 0, 44, 180, 0, 80, 27, 46, 62, 3, 54, 4, 21, 4]
abbrev dktX7_goes_1 : List UInt8 := dkwX7_goes_1 ++ dktX7_goes_2
def dkwX7_goes_0 : List UInt8 := [3, 60, 27, 42, 182, 0, 72, 162, 0, 144, 42, 180, 0, 44, 180, 0, 74, 27, 122, 4, 126, 4]
abbrev dktX7_goes_0 : List UInt8 := dkwX7_goes_0 ++ dktX7_goes_1
theorem dksX7_goes_0 : cX7_goes.data.toList.drop 0 = dktX7_goes_0 := by decide +kernel
theorem dksX7_goes_1 : cX7_goes.data.toList.drop 22 = dktX7_goes_1 := dk_seg dksX7_goes_0 22 rfl rfl
theorem dksX7_goes_2 : cX7_goes.data.toList.drop 46 = dktX7_goes_2 := dk_seg dksX7_goes_1 24 rfl rfl
theorem dksX7_goes_3 : cX7_goes.data.toList.drop 70 = dktX7_goes_3 := dk_seg dksX7_goes_2 24 rfl rfl
theorem dksX7_goes_4 : cX7_goes.data.toList.drop 92 = dktX7_goes_4 := dk_seg dksX7_goes_3 22 rfl rfl
theorem dksX7_goes_5 : cX7_goes.data.toList.drop 116 = dktX7_goes_5 := dk_seg dksX7_goes_4 24 rfl rfl
theorem dksX7_goes_6 : cX7_goes.data.toList.drop 139 = dktX7_goes_6 := dk_seg dksX7_goes_5 23 rfl rfl
theorem dX7_goes_0 : decode cX7_goes 0 = .ok (.iconst 0, 1) := dk_3 (dk_at dksX7_goes_0 0 rfl rfl)
theorem dX7_goes_1 : decode cX7_goes 1 = .ok (.istore_n 1, 1) := dk_60 (dk_at dksX7_goes_0 1 rfl rfl)
theorem dX7_goes_2 : decode cX7_goes 2 = .ok (.iload_n 1, 1) := dk_27 (dk_at dksX7_goes_0 2 rfl rfl)
theorem dX7_goes_3 : decode cX7_goes 3 = .ok (.aload_n 0, 1) := dk_42 (dk_at dksX7_goes_0 3 rfl rfl)
theorem dX7_goes_4 : decode cX7_goes 4 = .ok (.invokevirtual 72, 3) := dk_182 0 72 (dk_at dksX7_goes_0 4 rfl rfl)
theorem dX7_goes_7 : decode cX7_goes 7 = .ok (.if_icmp .ge 144, 3) := dk_162 0 144 (dk_at dksX7_goes_0 7 rfl rfl)
theorem dX7_goes_10 : decode cX7_goes 10 = .ok (.aload_n 0, 1) := dk_42 (dk_at dksX7_goes_0 10 rfl rfl)
theorem dX7_goes_11 : decode cX7_goes 11 = .ok (.getfield 44, 3) := dk_180 0 44 (dk_at dksX7_goes_0 11 rfl rfl)
theorem dX7_goes_14 : decode cX7_goes 14 = .ok (.getfield 74, 3) := dk_180 0 74 (dk_at dksX7_goes_0 14 rfl rfl)
theorem dX7_goes_17 : decode cX7_goes 17 = .ok (.iload_n 1, 1) := dk_27 (dk_at dksX7_goes_0 17 rfl rfl)
theorem dX7_goes_18 : decode cX7_goes 18 = .ok (.ishr, 1) := dk_122 (dk_at dksX7_goes_0 18 rfl rfl)
theorem dX7_goes_19 : decode cX7_goes 19 = .ok (.iconst 1, 1) := dk_4 (dk_at dksX7_goes_0 19 rfl rfl)
theorem dX7_goes_20 : decode cX7_goes 20 = .ok (.iand, 1) := dk_126 (dk_at dksX7_goes_0 20 rfl rfl)
theorem dX7_goes_21 : decode cX7_goes 21 = .ok (.iconst 1, 1) := dk_4 (dk_at dksX7_goes_0 21 rfl rfl)
theorem dX7_goes_22 : decode cX7_goes 22 = .ok (.if_icmp .ne 7, 3) := dk_160 0 7 (dk_at dksX7_goes_1 0 rfl rfl)
theorem dX7_goes_25 : decode cX7_goes 25 = .ok (.iconst 1, 1) := dk_4 (dk_at dksX7_goes_1 3 rfl rfl)
theorem dX7_goes_26 : decode cX7_goes 26 = .ok (.goto 4, 3) := dk_167 0 4 (dk_at dksX7_goes_1 4 rfl rfl)
theorem dX7_goes_29 : decode cX7_goes 29 = .ok (.iconst 0, 1) := dk_3 (dk_at dksX7_goes_1 7 rfl rfl)
theorem dX7_goes_30 : decode cX7_goes 30 = .ok (.istore_n 2, 1) := dk_61 (dk_at dksX7_goes_1 8 rfl rfl)
theorem dX7_goes_31 : decode cX7_goes 31 = .ok (.aload_n 0, 1) := dk_42 (dk_at dksX7_goes_1 9 rfl rfl)
theorem dX7_goes_32 : decode cX7_goes 32 = .ok (.getfield 44, 3) := dk_180 0 44 (dk_at dksX7_goes_1 10 rfl rfl)
theorem dX7_goes_35 : decode cX7_goes 35 = .ok (.getfield 80, 3) := dk_180 0 80 (dk_at dksX7_goes_1 13 rfl rfl)
theorem dX7_goes_38 : decode cX7_goes 38 = .ok (.iload_n 1, 1) := dk_27 (dk_at dksX7_goes_1 16 rfl rfl)
theorem dX7_goes_39 : decode cX7_goes 39 = .ok (.iaload, 1) := dk_46 (dk_at dksX7_goes_1 17 rfl rfl)
theorem dX7_goes_40 : decode cX7_goes 40 = .ok (.istore_n 3, 1) := dk_62 (dk_at dksX7_goes_1 18 rfl rfl)
theorem dX7_goes_41 : decode cX7_goes 41 = .ok (.iconst 0, 1) := dk_3 (dk_at dksX7_goes_1 19 rfl rfl)
theorem dX7_goes_42 : decode cX7_goes 42 = .ok (.istore 4, 2) := dk_54 4 (dk_at dksX7_goes_1 20 rfl rfl)
theorem dX7_goes_44 : decode cX7_goes 44 = .ok (.iload 4, 2) := dk_21 4 (dk_at dksX7_goes_1 22 rfl rfl)
theorem dX7_goes_46 : decode cX7_goes 46 = .ok (.aload_n 0, 1) := dk_42 (dk_at dksX7_goes_2 0 rfl rfl)
theorem dX7_goes_47 : decode cX7_goes 47 = .ok (.iload_n 1, 1) := dk_27 (dk_at dksX7_goes_2 1 rfl rfl)
theorem dX7_goes_48 : decode cX7_goes 48 = .ok (.invokevirtual 83, 3) := dk_182 0 83 (dk_at dksX7_goes_2 2 rfl rfl)
theorem dX7_goes_51 : decode cX7_goes 51 = .ok (.if_icmp .ge 94, 3) := dk_162 0 94 (dk_at dksX7_goes_2 5 rfl rfl)
theorem dX7_goes_54 : decode cX7_goes 54 = .ok (.aload_n 0, 1) := dk_42 (dk_at dksX7_goes_2 8 rfl rfl)
theorem dX7_goes_55 : decode cX7_goes 55 = .ok (.getfield 40, 3) := dk_180 0 40 (dk_at dksX7_goes_2 9 rfl rfl)
theorem dX7_goes_58 : decode cX7_goes 58 = .ok (.getfield 48, 3) := dk_180 0 48 (dk_at dksX7_goes_2 12 rfl rfl)
theorem dX7_goes_61 : decode cX7_goes 61 = .ok (.iload_n 1, 1) := dk_27 (dk_at dksX7_goes_2 15 rfl rfl)
theorem dX7_goes_62 : decode cX7_goes 62 = .ok (.invokevirtual 63, 3) := dk_182 0 63 (dk_at dksX7_goes_2 16 rfl rfl)
theorem dX7_goes_65 : decode cX7_goes 65 = .ok (.checkcast 67, 3) := dk_192 0 67 (dk_at dksX7_goes_2 19 rfl rfl)
theorem dX7_goes_68 : decode cX7_goes 68 = .ok (.iload 4, 2) := dk_21 4 (dk_at dksX7_goes_2 22 rfl rfl)
theorem dX7_goes_70 : decode cX7_goes 70 = .ok (.iload_n 2, 1) := dk_28 (dk_at dksX7_goes_3 0 rfl rfl)
theorem dX7_goes_71 : decode cX7_goes 71 = .ok (.invokevirtual 86, 3) := dk_182 0 86 (dk_at dksX7_goes_3 1 rfl rfl)
theorem dX7_goes_74 : decode cX7_goes 74 = .ok (.istore 5, 2) := dk_54 5 (dk_at dksX7_goes_3 4 rfl rfl)
theorem dX7_goes_76 : decode cX7_goes 76 = .ok (.iload 4, 2) := dk_21 4 (dk_at dksX7_goes_3 6 rfl rfl)
theorem dX7_goes_78 : decode cX7_goes 78 = .ok (.ifCond .le 34, 3) := dk_158 0 34 (dk_at dksX7_goes_3 8 rfl rfl)
theorem dX7_goes_81 : decode cX7_goes 81 = .ok (.iload_n 3, 1) := dk_29 (dk_at dksX7_goes_3 11 rfl rfl)
theorem dX7_goes_82 : decode cX7_goes 82 = .ok (.aload_n 0, 1) := dk_42 (dk_at dksX7_goes_3 12 rfl rfl)
theorem dX7_goes_83 : decode cX7_goes 83 = .ok (.getfield 40, 3) := dk_180 0 40 (dk_at dksX7_goes_3 13 rfl rfl)
theorem dX7_goes_86 : decode cX7_goes 86 = .ok (.getfield 90, 3) := dk_180 0 90 (dk_at dksX7_goes_3 16 rfl rfl)
theorem dX7_goes_89 : decode cX7_goes 89 = .ok (.bipush 9, 2) := dk_16 9 (dk_at dksX7_goes_3 19 rfl rfl)
theorem dX7_goes_91 : decode cX7_goes 91 = .ok (.aload_n 0, 1) := dk_42 (dk_at dksX7_goes_3 21 rfl rfl)
theorem dX7_goes_92 : decode cX7_goes 92 = .ok (.getfield 9, 3) := dk_180 0 9 (dk_at dksX7_goes_4 0 rfl rfl)
theorem dX7_goes_95 : decode cX7_goes 95 = .ok (.bipush 7, 2) := dk_16 7 (dk_at dksX7_goes_4 3 rfl rfl)
theorem dX7_goes_97 : decode cX7_goes 97 = .ok (.iload_n 1, 1) := dk_27 (dk_at dksX7_goes_4 5 rfl rfl)
theorem dX7_goes_98 : decode cX7_goes 98 = .ok (.imul, 1) := dk_104 (dk_at dksX7_goes_4 6 rfl rfl)
theorem dX7_goes_99 : decode cX7_goes 99 = .ok (.iload 4, 2) := dk_21 4 (dk_at dksX7_goes_4 7 rfl rfl)
theorem dX7_goes_101 : decode cX7_goes 101 = .ok (.iadd, 1) := dk_96 (dk_at dksX7_goes_4 9 rfl rfl)
theorem dX7_goes_102 : decode cX7_goes 102 = .ok (.iconst 1, 1) := dk_4 (dk_at dksX7_goes_4 10 rfl rfl)
theorem dX7_goes_103 : decode cX7_goes 103 = .ok (.isub, 1) := dk_100 (dk_at dksX7_goes_4 11 rfl rfl)
theorem dX7_goes_104 : decode cX7_goes 104 = .ok (.iaload, 1) := dk_46 (dk_at dksX7_goes_4 12 rfl rfl)
theorem dX7_goes_105 : decode cX7_goes 105 = .ok (.imul, 1) := dk_104 (dk_at dksX7_goes_4 13 rfl rfl)
theorem dX7_goes_106 : decode cX7_goes 106 = .ok (.iload 5, 2) := dk_21 5 (dk_at dksX7_goes_4 14 rfl rfl)
theorem dX7_goes_108 : decode cX7_goes 108 = .ok (.iadd, 1) := dk_96 (dk_at dksX7_goes_4 16 rfl rfl)
theorem dX7_goes_109 : decode cX7_goes 109 = .ok (.iaload, 1) := dk_46 (dk_at dksX7_goes_4 17 rfl rfl)
theorem dX7_goes_110 : decode cX7_goes 110 = .ok (.iadd, 1) := dk_96 (dk_at dksX7_goes_4 18 rfl rfl)
theorem dX7_goes_111 : decode cX7_goes 111 = .ok (.istore_n 3, 1) := dk_62 (dk_at dksX7_goes_4 19 rfl rfl)
theorem dX7_goes_112 : decode cX7_goes 112 = .ok (.aload_n 0, 1) := dk_42 (dk_at dksX7_goes_4 20 rfl rfl)
theorem dX7_goes_113 : decode cX7_goes 113 = .ok (.getfield 9, 3) := dk_180 0 9 (dk_at dksX7_goes_4 21 rfl rfl)
theorem dX7_goes_116 : decode cX7_goes 116 = .ok (.bipush 7, 2) := dk_16 7 (dk_at dksX7_goes_5 0 rfl rfl)
theorem dX7_goes_118 : decode cX7_goes 118 = .ok (.iload_n 1, 1) := dk_27 (dk_at dksX7_goes_5 2 rfl rfl)
theorem dX7_goes_119 : decode cX7_goes 119 = .ok (.imul, 1) := dk_104 (dk_at dksX7_goes_5 3 rfl rfl)
theorem dX7_goes_120 : decode cX7_goes 120 = .ok (.iload 4, 2) := dk_21 4 (dk_at dksX7_goes_5 4 rfl rfl)
theorem dX7_goes_122 : decode cX7_goes 122 = .ok (.iadd, 1) := dk_96 (dk_at dksX7_goes_5 6 rfl rfl)
theorem dX7_goes_123 : decode cX7_goes 123 = .ok (.iload 5, 2) := dk_21 5 (dk_at dksX7_goes_5 7 rfl rfl)
theorem dX7_goes_125 : decode cX7_goes 125 = .ok (.iastore, 1) := dk_79 (dk_at dksX7_goes_5 9 rfl rfl)
theorem dX7_goes_126 : decode cX7_goes 126 = .ok (.aload_n 0, 1) := dk_42 (dk_at dksX7_goes_5 10 rfl rfl)
theorem dX7_goes_127 : decode cX7_goes 127 = .ok (.getfield 15, 3) := dk_180 0 15 (dk_at dksX7_goes_5 11 rfl rfl)
theorem dX7_goes_130 : decode cX7_goes 130 = .ok (.bipush 7, 2) := dk_16 7 (dk_at dksX7_goes_5 14 rfl rfl)
theorem dX7_goes_132 : decode cX7_goes 132 = .ok (.iload_n 1, 1) := dk_27 (dk_at dksX7_goes_5 16 rfl rfl)
theorem dX7_goes_133 : decode cX7_goes 133 = .ok (.imul, 1) := dk_104 (dk_at dksX7_goes_5 17 rfl rfl)
theorem dX7_goes_134 : decode cX7_goes 134 = .ok (.iload 4, 2) := dk_21 4 (dk_at dksX7_goes_5 18 rfl rfl)
theorem dX7_goes_136 : decode cX7_goes 136 = .ok (.iadd, 1) := dk_96 (dk_at dksX7_goes_5 20 rfl rfl)
theorem dX7_goes_137 : decode cX7_goes 137 = .ok (.iload_n 3, 1) := dk_29 (dk_at dksX7_goes_5 21 rfl rfl)
theorem dX7_goes_138 : decode cX7_goes 138 = .ok (.iastore, 1) := dk_79 (dk_at dksX7_goes_5 22 rfl rfl)
theorem dX7_goes_139 : decode cX7_goes 139 = .ok (.iinc 4 1, 3) := dk_132 4 1 (dk_at dksX7_goes_6 0 rfl rfl)
theorem dX7_goes_142 : decode cX7_goes 142 = .ok (.goto (-98), 3) := dk_167 255 158 (dk_at dksX7_goes_6 3 rfl rfl)
theorem dX7_goes_145 : decode cX7_goes 145 = .ok (.iinc 1 1, 3) := dk_132 1 1 (dk_at dksX7_goes_6 6 rfl rfl)
theorem dX7_goes_148 : decode cX7_goes 148 = .ok (.goto (-146), 3) := dk_167 255 110 (dk_at dksX7_goes_6 9 rfl rfl)
theorem dX7_goes_151 : decode cX7_goes 151 = .ok (.return_, 1) := dk_177 (dk_at dksX7_goes_6 12 rfl rfl)
abbrev cX7_judges : ByteArray := prog_15_method_2_code
def yX7_judges : MethodName := ⟨RX7, "judges", "()I"⟩
def dkwX7_judges_0 : List UInt8 := [42, 180, 0, 40, 180, 0, 48, 182, 0, 54, 172]
abbrev dktX7_judges_0 : List UInt8 := dkwX7_judges_0 ++ []
theorem dksX7_judges_0 : cX7_judges.data.toList.drop 0 = dktX7_judges_0 := by decide +kernel
theorem dX7_judges_0 : decode cX7_judges 0 = .ok (.aload_n 0, 1) := dk_42 (dk_at dksX7_judges_0 0 rfl rfl)
theorem dX7_judges_1 : decode cX7_judges 1 = .ok (.getfield 40, 3) := dk_180 0 40 (dk_at dksX7_judges_0 1 rfl rfl)
theorem dX7_judges_4 : decode cX7_judges 4 = .ok (.getfield 48, 3) := dk_180 0 48 (dk_at dksX7_judges_0 4 rfl rfl)
theorem dX7_judges_7 : decode cX7_judges 7 = .ok (.invokevirtual 54, 3) := dk_182 0 54 (dk_at dksX7_judges_0 7 rfl rfl)
theorem dX7_judges_10 : decode cX7_judges 10 = .ok (.ireturn, 1) := dk_172 (dk_at dksX7_judges_0 10 rfl rfl)
abbrev cX7_towns : ByteArray := prog_15_method_4_code
def yX7_towns : MethodName := ⟨RX7, "towns", "(I)I"⟩
def dkwX7_towns_0 : List UInt8 := [42, 180, 0, 40, 180, 0, 48, 27, 182, 0, 63, 192, 0, 67, 182, 0, 69, 172]
abbrev dktX7_towns_0 : List UInt8 := dkwX7_towns_0 ++ []
theorem dksX7_towns_0 : cX7_towns.data.toList.drop 0 = dktX7_towns_0 := by decide +kernel
theorem dX7_towns_0 : decode cX7_towns 0 = .ok (.aload_n 0, 1) := dk_42 (dk_at dksX7_towns_0 0 rfl rfl)
theorem dX7_towns_1 : decode cX7_towns 1 = .ok (.getfield 40, 3) := dk_180 0 40 (dk_at dksX7_towns_0 1 rfl rfl)
theorem dX7_towns_4 : decode cX7_towns 4 = .ok (.getfield 48, 3) := dk_180 0 48 (dk_at dksX7_towns_0 4 rfl rfl)
theorem dX7_towns_7 : decode cX7_towns 7 = .ok (.iload_n 1, 1) := dk_27 (dk_at dksX7_towns_0 7 rfl rfl)
theorem dX7_towns_8 : decode cX7_towns 8 = .ok (.invokevirtual 63, 3) := dk_182 0 63 (dk_at dksX7_towns_0 8 rfl rfl)
theorem dX7_towns_11 : decode cX7_towns 11 = .ok (.checkcast 67, 3) := dk_192 0 67 (dk_at dksX7_towns_0 11 rfl rfl)
theorem dX7_towns_14 : decode cX7_towns 14 = .ok (.invokevirtual 69, 3) := dk_182 0 69 (dk_at dksX7_towns_0 14 rfl rfl)
theorem dX7_towns_17 : decode cX7_towns 17 = .ok (.ireturn, 1) := dk_172 (dk_at dksX7_towns_0 17 rfl rfl)
abbrev cX7_hears : ByteArray := prog_15_method_8_code
def yX7_hears : MethodName := ⟨RX7, "hears", "(II)V"⟩
def dkwX7_hears_6 : List UInt8 := [42, 180, 0, 21, 21, 6, 28, 79, 42, 180, 0, 24, 21, 6, 29, 79, 132, 4, 1, 167, 255, 125, 177]
abbrev dktX7_hears_6 : List UInt8 := dkwX7_hears_6 ++ []
def dkwX7_hears_5 : List UInt8 := [28, 29, 42, 21, 4, 28, 182, 0, 104, 182, 0, 107, 182, 0, 111, 153, 0, 7, 4, 167, 0, 4, 3, 79]
abbrev dktX7_hears_5 : List UInt8 := dkwX7_hears_5 ++ dktX7_hears_6
def dkwX7_hears_4 : List UInt8 := [182, 0, 63, 192, 0, 67, 58, 7, 42, 180, 0, 18, 21, 6, 25, 7, 42, 180, 0, 40, 25, 7, 21, 5]
abbrev dktX7_hears_4 : List UInt8 := dkwX7_hears_4 ++ dktX7_hears_5
def dkwX7_hears_3 : List UInt8 := [42, 180, 0, 18, 21, 6, 46, 2, 159, 0, 6, 167, 0, 75, 42, 180, 0, 40, 180, 0, 48, 27]
abbrev dktX7_hears_3 : List UInt8 := dkwX7_hears_3 ++ dktX7_hears_4
def dkwX7_hears_2 : List UInt8 := [182, 0, 63, 192, 0, 103, 29, 46, 54, 5, 8, 21, 4, 104, 27, 96, 54, 6, 21, 5, 2, 159, 0, 89]
abbrev dktX7_hears_2 : List UInt8 := dkwX7_hears_2 ++ dktX7_hears_3
def dkwX7_hears_1 : List UInt8 := [177, 3, 54, 4, 21, 4, 42, 182, 0, 101, 162, 0, 128, 42, 180, 0, 40, 180, 0, 60, 21, 4]
abbrev dktX7_hears_1 : List UInt8 := dkwX7_hears_1 ++ dktX7_hears_2
def dkwX7_hears_0 : List UInt8 := [42, 27, 28, 182, 0, 93, 62, 29, 2, 159, 0, 15, 42, 180, 0, 44, 29, 28, 182, 0, 97, 153, 0, 4]
abbrev dktX7_hears_0 : List UInt8 := dkwX7_hears_0 ++ dktX7_hears_1
theorem dksX7_hears_0 : cX7_hears.data.toList.drop 0 = dktX7_hears_0 := by decide +kernel
theorem dksX7_hears_1 : cX7_hears.data.toList.drop 24 = dktX7_hears_1 := dk_seg dksX7_hears_0 24 rfl rfl
theorem dksX7_hears_2 : cX7_hears.data.toList.drop 46 = dktX7_hears_2 := dk_seg dksX7_hears_1 22 rfl rfl
theorem dksX7_hears_3 : cX7_hears.data.toList.drop 70 = dktX7_hears_3 := dk_seg dksX7_hears_2 24 rfl rfl
theorem dksX7_hears_4 : cX7_hears.data.toList.drop 92 = dktX7_hears_4 := dk_seg dksX7_hears_3 22 rfl rfl
theorem dksX7_hears_5 : cX7_hears.data.toList.drop 116 = dktX7_hears_5 := dk_seg dksX7_hears_4 24 rfl rfl
theorem dksX7_hears_6 : cX7_hears.data.toList.drop 140 = dktX7_hears_6 := dk_seg dksX7_hears_5 24 rfl rfl
theorem dX7_hears_0 : decode cX7_hears 0 = .ok (.aload_n 0, 1) := dk_42 (dk_at dksX7_hears_0 0 rfl rfl)
theorem dX7_hears_1 : decode cX7_hears 1 = .ok (.iload_n 1, 1) := dk_27 (dk_at dksX7_hears_0 1 rfl rfl)
theorem dX7_hears_2 : decode cX7_hears 2 = .ok (.iload_n 2, 1) := dk_28 (dk_at dksX7_hears_0 2 rfl rfl)
theorem dX7_hears_3 : decode cX7_hears 3 = .ok (.invokevirtual 93, 3) := dk_182 0 93 (dk_at dksX7_hears_0 3 rfl rfl)
theorem dX7_hears_6 : decode cX7_hears 6 = .ok (.istore_n 3, 1) := dk_62 (dk_at dksX7_hears_0 6 rfl rfl)
theorem dX7_hears_7 : decode cX7_hears 7 = .ok (.iload_n 3, 1) := dk_29 (dk_at dksX7_hears_0 7 rfl rfl)
theorem dX7_hears_8 : decode cX7_hears 8 = .ok (.iconst (-1), 1) := dk_2 (dk_at dksX7_hears_0 8 rfl rfl)
theorem dX7_hears_9 : decode cX7_hears 9 = .ok (.if_icmp .eq 15, 3) := dk_159 0 15 (dk_at dksX7_hears_0 9 rfl rfl)
theorem dX7_hears_12 : decode cX7_hears 12 = .ok (.aload_n 0, 1) := dk_42 (dk_at dksX7_hears_0 12 rfl rfl)
theorem dX7_hears_13 : decode cX7_hears 13 = .ok (.getfield 44, 3) := dk_180 0 44 (dk_at dksX7_hears_0 13 rfl rfl)
theorem dX7_hears_16 : decode cX7_hears 16 = .ok (.iload_n 3, 1) := dk_29 (dk_at dksX7_hears_0 16 rfl rfl)
theorem dX7_hears_17 : decode cX7_hears 17 = .ok (.iload_n 2, 1) := dk_28 (dk_at dksX7_hears_0 17 rfl rfl)
theorem dX7_hears_18 : decode cX7_hears 18 = .ok (.invokevirtual 97, 3) := dk_182 0 97 (dk_at dksX7_hears_0 18 rfl rfl)
theorem dX7_hears_21 : decode cX7_hears 21 = .ok (.ifCond .eq 4, 3) := dk_153 0 4 (dk_at dksX7_hears_0 21 rfl rfl)
theorem dX7_hears_24 : decode cX7_hears 24 = .ok (.return_, 1) := dk_177 (dk_at dksX7_hears_1 0 rfl rfl)
theorem dX7_hears_25 : decode cX7_hears 25 = .ok (.iconst 0, 1) := dk_3 (dk_at dksX7_hears_1 1 rfl rfl)
theorem dX7_hears_26 : decode cX7_hears 26 = .ok (.istore 4, 2) := dk_54 4 (dk_at dksX7_hears_1 2 rfl rfl)
theorem dX7_hears_28 : decode cX7_hears 28 = .ok (.iload 4, 2) := dk_21 4 (dk_at dksX7_hears_1 4 rfl rfl)
theorem dX7_hears_30 : decode cX7_hears 30 = .ok (.aload_n 0, 1) := dk_42 (dk_at dksX7_hears_1 6 rfl rfl)
theorem dX7_hears_31 : decode cX7_hears 31 = .ok (.invokevirtual 101, 3) := dk_182 0 101 (dk_at dksX7_hears_1 7 rfl rfl)
theorem dX7_hears_34 : decode cX7_hears 34 = .ok (.if_icmp .ge 128, 3) := dk_162 0 128 (dk_at dksX7_hears_1 10 rfl rfl)
theorem dX7_hears_37 : decode cX7_hears 37 = .ok (.aload_n 0, 1) := dk_42 (dk_at dksX7_hears_1 13 rfl rfl)
theorem dX7_hears_38 : decode cX7_hears 38 = .ok (.getfield 40, 3) := dk_180 0 40 (dk_at dksX7_hears_1 14 rfl rfl)
theorem dX7_hears_41 : decode cX7_hears 41 = .ok (.getfield 60, 3) := dk_180 0 60 (dk_at dksX7_hears_1 17 rfl rfl)
theorem dX7_hears_44 : decode cX7_hears 44 = .ok (.iload 4, 2) := dk_21 4 (dk_at dksX7_hears_1 20 rfl rfl)
theorem dX7_hears_46 : decode cX7_hears 46 = .ok (.invokevirtual 63, 3) := dk_182 0 63 (dk_at dksX7_hears_2 0 rfl rfl)
theorem dX7_hears_49 : decode cX7_hears 49 = .ok (.checkcast 103, 3) := dk_192 0 103 (dk_at dksX7_hears_2 3 rfl rfl)
theorem dX7_hears_52 : decode cX7_hears 52 = .ok (.iload_n 3, 1) := dk_29 (dk_at dksX7_hears_2 6 rfl rfl)
theorem dX7_hears_53 : decode cX7_hears 53 = .ok (.iaload, 1) := dk_46 (dk_at dksX7_hears_2 7 rfl rfl)
theorem dX7_hears_54 : decode cX7_hears 54 = .ok (.istore 5, 2) := dk_54 5 (dk_at dksX7_hears_2 8 rfl rfl)
theorem dX7_hears_56 : decode cX7_hears 56 = .ok (.iconst 5, 1) := dk_8 (dk_at dksX7_hears_2 10 rfl rfl)
theorem dX7_hears_57 : decode cX7_hears 57 = .ok (.iload 4, 2) := dk_21 4 (dk_at dksX7_hears_2 11 rfl rfl)
theorem dX7_hears_59 : decode cX7_hears 59 = .ok (.imul, 1) := dk_104 (dk_at dksX7_hears_2 13 rfl rfl)
theorem dX7_hears_60 : decode cX7_hears 60 = .ok (.iload_n 1, 1) := dk_27 (dk_at dksX7_hears_2 14 rfl rfl)
theorem dX7_hears_61 : decode cX7_hears 61 = .ok (.iadd, 1) := dk_96 (dk_at dksX7_hears_2 15 rfl rfl)
theorem dX7_hears_62 : decode cX7_hears 62 = .ok (.istore 6, 2) := dk_54 6 (dk_at dksX7_hears_2 16 rfl rfl)
theorem dX7_hears_64 : decode cX7_hears 64 = .ok (.iload 5, 2) := dk_21 5 (dk_at dksX7_hears_2 18 rfl rfl)
theorem dX7_hears_66 : decode cX7_hears 66 = .ok (.iconst (-1), 1) := dk_2 (dk_at dksX7_hears_2 20 rfl rfl)
theorem dX7_hears_67 : decode cX7_hears 67 = .ok (.if_icmp .eq 89, 3) := dk_159 0 89 (dk_at dksX7_hears_2 21 rfl rfl)
theorem dX7_hears_70 : decode cX7_hears 70 = .ok (.aload_n 0, 1) := dk_42 (dk_at dksX7_hears_3 0 rfl rfl)
theorem dX7_hears_71 : decode cX7_hears 71 = .ok (.getfield 18, 3) := dk_180 0 18 (dk_at dksX7_hears_3 1 rfl rfl)
theorem dX7_hears_74 : decode cX7_hears 74 = .ok (.iload 6, 2) := dk_21 6 (dk_at dksX7_hears_3 4 rfl rfl)
theorem dX7_hears_76 : decode cX7_hears 76 = .ok (.iaload, 1) := dk_46 (dk_at dksX7_hears_3 6 rfl rfl)
theorem dX7_hears_77 : decode cX7_hears 77 = .ok (.iconst (-1), 1) := dk_2 (dk_at dksX7_hears_3 7 rfl rfl)
theorem dX7_hears_78 : decode cX7_hears 78 = .ok (.if_icmp .eq 6, 3) := dk_159 0 6 (dk_at dksX7_hears_3 8 rfl rfl)
theorem dX7_hears_81 : decode cX7_hears 81 = .ok (.goto 75, 3) := dk_167 0 75 (dk_at dksX7_hears_3 11 rfl rfl)
theorem dX7_hears_84 : decode cX7_hears 84 = .ok (.aload_n 0, 1) := dk_42 (dk_at dksX7_hears_3 14 rfl rfl)
theorem dX7_hears_85 : decode cX7_hears 85 = .ok (.getfield 40, 3) := dk_180 0 40 (dk_at dksX7_hears_3 15 rfl rfl)
theorem dX7_hears_88 : decode cX7_hears 88 = .ok (.getfield 48, 3) := dk_180 0 48 (dk_at dksX7_hears_3 18 rfl rfl)
theorem dX7_hears_91 : decode cX7_hears 91 = .ok (.iload_n 1, 1) := dk_27 (dk_at dksX7_hears_3 21 rfl rfl)
theorem dX7_hears_92 : decode cX7_hears 92 = .ok (.invokevirtual 63, 3) := dk_182 0 63 (dk_at dksX7_hears_4 0 rfl rfl)
theorem dX7_hears_95 : decode cX7_hears 95 = .ok (.checkcast 67, 3) := dk_192 0 67 (dk_at dksX7_hears_4 3 rfl rfl)
theorem dX7_hears_98 : decode cX7_hears 98 = .ok (.astore 7, 2) := dk_58 7 (dk_at dksX7_hears_4 6 rfl rfl)
theorem dX7_hears_100 : decode cX7_hears 100 = .ok (.aload_n 0, 1) := dk_42 (dk_at dksX7_hears_4 8 rfl rfl)
theorem dX7_hears_101 : decode cX7_hears 101 = .ok (.getfield 18, 3) := dk_180 0 18 (dk_at dksX7_hears_4 9 rfl rfl)
theorem dX7_hears_104 : decode cX7_hears 104 = .ok (.iload 6, 2) := dk_21 6 (dk_at dksX7_hears_4 12 rfl rfl)
theorem dX7_hears_106 : decode cX7_hears 106 = .ok (.aload 7, 2) := dk_25 7 (dk_at dksX7_hears_4 14 rfl rfl)
theorem dX7_hears_108 : decode cX7_hears 108 = .ok (.aload_n 0, 1) := dk_42 (dk_at dksX7_hears_4 16 rfl rfl)
theorem dX7_hears_109 : decode cX7_hears 109 = .ok (.getfield 40, 3) := dk_180 0 40 (dk_at dksX7_hears_4 17 rfl rfl)
theorem dX7_hears_112 : decode cX7_hears 112 = .ok (.aload 7, 2) := dk_25 7 (dk_at dksX7_hears_4 20 rfl rfl)
theorem dX7_hears_114 : decode cX7_hears 114 = .ok (.iload 5, 2) := dk_21 5 (dk_at dksX7_hears_4 22 rfl rfl)
theorem dX7_hears_116 : decode cX7_hears 116 = .ok (.iload_n 2, 1) := dk_28 (dk_at dksX7_hears_5 0 rfl rfl)
theorem dX7_hears_117 : decode cX7_hears 117 = .ok (.iload_n 3, 1) := dk_29 (dk_at dksX7_hears_5 1 rfl rfl)
theorem dX7_hears_118 : decode cX7_hears 118 = .ok (.aload_n 0, 1) := dk_42 (dk_at dksX7_hears_5 2 rfl rfl)
theorem dX7_hears_119 : decode cX7_hears 119 = .ok (.iload 4, 2) := dk_21 4 (dk_at dksX7_hears_5 3 rfl rfl)
theorem dX7_hears_121 : decode cX7_hears 121 = .ok (.iload_n 2, 1) := dk_28 (dk_at dksX7_hears_5 5 rfl rfl)
theorem dX7_hears_122 : decode cX7_hears 122 = .ok (.invokevirtual 104, 3) := dk_182 0 104 (dk_at dksX7_hears_5 6 rfl rfl)
theorem dX7_hears_125 : decode cX7_hears 125 = .ok (.invokevirtual 107, 3) := dk_182 0 107 (dk_at dksX7_hears_5 9 rfl rfl)
theorem dX7_hears_128 : decode cX7_hears 128 = .ok (.invokevirtual 111, 3) := dk_182 0 111 (dk_at dksX7_hears_5 12 rfl rfl)
theorem dX7_hears_131 : decode cX7_hears 131 = .ok (.ifCond .eq 7, 3) := dk_153 0 7 (dk_at dksX7_hears_5 15 rfl rfl)
theorem dX7_hears_134 : decode cX7_hears 134 = .ok (.iconst 1, 1) := dk_4 (dk_at dksX7_hears_5 18 rfl rfl)
theorem dX7_hears_135 : decode cX7_hears 135 = .ok (.goto 4, 3) := dk_167 0 4 (dk_at dksX7_hears_5 19 rfl rfl)
theorem dX7_hears_138 : decode cX7_hears 138 = .ok (.iconst 0, 1) := dk_3 (dk_at dksX7_hears_5 22 rfl rfl)
theorem dX7_hears_139 : decode cX7_hears 139 = .ok (.iastore, 1) := dk_79 (dk_at dksX7_hears_5 23 rfl rfl)
theorem dX7_hears_140 : decode cX7_hears 140 = .ok (.aload_n 0, 1) := dk_42 (dk_at dksX7_hears_6 0 rfl rfl)
theorem dX7_hears_141 : decode cX7_hears 141 = .ok (.getfield 21, 3) := dk_180 0 21 (dk_at dksX7_hears_6 1 rfl rfl)
theorem dX7_hears_144 : decode cX7_hears 144 = .ok (.iload 6, 2) := dk_21 6 (dk_at dksX7_hears_6 4 rfl rfl)
theorem dX7_hears_146 : decode cX7_hears 146 = .ok (.iload_n 2, 1) := dk_28 (dk_at dksX7_hears_6 6 rfl rfl)
theorem dX7_hears_147 : decode cX7_hears 147 = .ok (.iastore, 1) := dk_79 (dk_at dksX7_hears_6 7 rfl rfl)
theorem dX7_hears_148 : decode cX7_hears 148 = .ok (.aload_n 0, 1) := dk_42 (dk_at dksX7_hears_6 8 rfl rfl)
theorem dX7_hears_149 : decode cX7_hears 149 = .ok (.getfield 24, 3) := dk_180 0 24 (dk_at dksX7_hears_6 9 rfl rfl)
theorem dX7_hears_152 : decode cX7_hears 152 = .ok (.iload 6, 2) := dk_21 6 (dk_at dksX7_hears_6 12 rfl rfl)
theorem dX7_hears_154 : decode cX7_hears 154 = .ok (.iload_n 3, 1) := dk_29 (dk_at dksX7_hears_6 14 rfl rfl)
theorem dX7_hears_155 : decode cX7_hears 155 = .ok (.iastore, 1) := dk_79 (dk_at dksX7_hears_6 15 rfl rfl)
theorem dX7_hears_156 : decode cX7_hears 156 = .ok (.iinc 4 1, 3) := dk_132 4 1 (dk_at dksX7_hears_6 16 rfl rfl)
theorem dX7_hears_159 : decode cX7_hears 159 = .ok (.goto (-131), 3) := dk_167 255 125 (dk_at dksX7_hears_6 19 rfl rfl)
theorem dX7_hears_162 : decode cX7_hears 162 = .ok (.return_, 1) := dk_177 (dk_at dksX7_hears_6 22 rfl rfl)
abbrev cX7_at : ByteArray := prog_15_method_6_code
def yX7_at : MethodName := ⟨RX7, "at", "(II)I"⟩
def dkwX7_at_1 : List UInt8 := [160, 0, 15, 42, 180, 0, 9, 16, 7, 27, 104, 29, 96, 46, 172, 132, 3, 1, 167, 255, 217, 2, 172]
abbrev dktX7_at_1 : List UInt8 := dkwX7_at_1 ++ []
def dkwX7_at_0 : List UInt8 := [3, 62, 29, 42, 27, 182, 0, 83, 162, 0, 36, 42, 180, 0, 15, 16, 7, 27, 104, 29, 96, 46, 28]
abbrev dktX7_at_0 : List UInt8 := dkwX7_at_0 ++ dktX7_at_1
theorem dksX7_at_0 : cX7_at.data.toList.drop 0 = dktX7_at_0 := by decide +kernel
theorem dksX7_at_1 : cX7_at.data.toList.drop 23 = dktX7_at_1 := dk_seg dksX7_at_0 23 rfl rfl
theorem dX7_at_0 : decode cX7_at 0 = .ok (.iconst 0, 1) := dk_3 (dk_at dksX7_at_0 0 rfl rfl)
theorem dX7_at_1 : decode cX7_at 1 = .ok (.istore_n 3, 1) := dk_62 (dk_at dksX7_at_0 1 rfl rfl)
theorem dX7_at_2 : decode cX7_at 2 = .ok (.iload_n 3, 1) := dk_29 (dk_at dksX7_at_0 2 rfl rfl)
theorem dX7_at_3 : decode cX7_at 3 = .ok (.aload_n 0, 1) := dk_42 (dk_at dksX7_at_0 3 rfl rfl)
theorem dX7_at_4 : decode cX7_at 4 = .ok (.iload_n 1, 1) := dk_27 (dk_at dksX7_at_0 4 rfl rfl)
theorem dX7_at_5 : decode cX7_at 5 = .ok (.invokevirtual 83, 3) := dk_182 0 83 (dk_at dksX7_at_0 5 rfl rfl)
theorem dX7_at_8 : decode cX7_at 8 = .ok (.if_icmp .ge 36, 3) := dk_162 0 36 (dk_at dksX7_at_0 8 rfl rfl)
theorem dX7_at_11 : decode cX7_at 11 = .ok (.aload_n 0, 1) := dk_42 (dk_at dksX7_at_0 11 rfl rfl)
theorem dX7_at_12 : decode cX7_at 12 = .ok (.getfield 15, 3) := dk_180 0 15 (dk_at dksX7_at_0 12 rfl rfl)
theorem dX7_at_15 : decode cX7_at 15 = .ok (.bipush 7, 2) := dk_16 7 (dk_at dksX7_at_0 15 rfl rfl)
theorem dX7_at_17 : decode cX7_at 17 = .ok (.iload_n 1, 1) := dk_27 (dk_at dksX7_at_0 17 rfl rfl)
theorem dX7_at_18 : decode cX7_at 18 = .ok (.imul, 1) := dk_104 (dk_at dksX7_at_0 18 rfl rfl)
theorem dX7_at_19 : decode cX7_at 19 = .ok (.iload_n 3, 1) := dk_29 (dk_at dksX7_at_0 19 rfl rfl)
theorem dX7_at_20 : decode cX7_at 20 = .ok (.iadd, 1) := dk_96 (dk_at dksX7_at_0 20 rfl rfl)
theorem dX7_at_21 : decode cX7_at 21 = .ok (.iaload, 1) := dk_46 (dk_at dksX7_at_0 21 rfl rfl)
theorem dX7_at_22 : decode cX7_at 22 = .ok (.iload_n 2, 1) := dk_28 (dk_at dksX7_at_0 22 rfl rfl)
theorem dX7_at_23 : decode cX7_at 23 = .ok (.if_icmp .ne 15, 3) := dk_160 0 15 (dk_at dksX7_at_1 0 rfl rfl)
theorem dX7_at_26 : decode cX7_at 26 = .ok (.aload_n 0, 1) := dk_42 (dk_at dksX7_at_1 3 rfl rfl)
theorem dX7_at_27 : decode cX7_at 27 = .ok (.getfield 9, 3) := dk_180 0 9 (dk_at dksX7_at_1 4 rfl rfl)
theorem dX7_at_30 : decode cX7_at 30 = .ok (.bipush 7, 2) := dk_16 7 (dk_at dksX7_at_1 7 rfl rfl)
theorem dX7_at_32 : decode cX7_at 32 = .ok (.iload_n 1, 1) := dk_27 (dk_at dksX7_at_1 9 rfl rfl)
theorem dX7_at_33 : decode cX7_at 33 = .ok (.imul, 1) := dk_104 (dk_at dksX7_at_1 10 rfl rfl)
theorem dX7_at_34 : decode cX7_at 34 = .ok (.iload_n 3, 1) := dk_29 (dk_at dksX7_at_1 11 rfl rfl)
theorem dX7_at_35 : decode cX7_at 35 = .ok (.iadd, 1) := dk_96 (dk_at dksX7_at_1 12 rfl rfl)
theorem dX7_at_36 : decode cX7_at 36 = .ok (.iaload, 1) := dk_46 (dk_at dksX7_at_1 13 rfl rfl)
theorem dX7_at_37 : decode cX7_at 37 = .ok (.ireturn, 1) := dk_172 (dk_at dksX7_at_1 14 rfl rfl)
theorem dX7_at_38 : decode cX7_at 38 = .ok (.iinc 3 1, 3) := dk_132 3 1 (dk_at dksX7_at_1 15 rfl rfl)
theorem dX7_at_41 : decode cX7_at 41 = .ok (.goto (-39), 3) := dk_167 255 217 (dk_at dksX7_at_1 18 rfl rfl)
theorem dX7_at_44 : decode cX7_at 44 = .ok (.iconst (-1), 1) := dk_2 (dk_at dksX7_at_1 21 rfl rfl)
theorem dX7_at_45 : decode cX7_at 45 = .ok (.ireturn, 1) := dk_172 (dk_at dksX7_at_1 22 rfl rfl)
abbrev cX7_cases : ByteArray := prog_15_method_3_code
def yX7_cases : MethodName := ⟨RX7, "cases", "()I"⟩
def dkwX7_cases_0 : List UInt8 := [42, 180, 0, 40, 180, 0, 60, 182, 0, 54, 172]
abbrev dktX7_cases_0 : List UInt8 := dkwX7_cases_0 ++ []
theorem dksX7_cases_0 : cX7_cases.data.toList.drop 0 = dktX7_cases_0 := by decide +kernel
theorem dX7_cases_0 : decode cX7_cases 0 = .ok (.aload_n 0, 1) := dk_42 (dk_at dksX7_cases_0 0 rfl rfl)
theorem dX7_cases_1 : decode cX7_cases 1 = .ok (.getfield 40, 3) := dk_180 0 40 (dk_at dksX7_cases_0 1 rfl rfl)
theorem dX7_cases_4 : decode cX7_cases 4 = .ok (.getfield 60, 3) := dk_180 0 60 (dk_at dksX7_cases_0 4 rfl rfl)
theorem dX7_cases_7 : decode cX7_cases 7 = .ok (.invokevirtual 54, 3) := dk_182 0 54 (dk_at dksX7_cases_0 7 rfl rfl)
theorem dX7_cases_10 : decode cX7_cases 10 = .ok (.ireturn, 1) := dk_172 (dk_at dksX7_cases_0 10 rfl rfl)
abbrev cX7_saidAhead : ByteArray := prog_15_method_7_code
def yX7_saidAhead : MethodName := ⟨RX7, "saidAhead", "(II)I"⟩
def dkwX7_saidAhead_2 : List UInt8 := [132, 4, 1, 167, 255, 211, 29, 172]
abbrev dktX7_saidAhead_2 : List UInt8 := dkwX7_saidAhead_2 ++ []
def dkwX7_saidAhead_1 : List UInt8 := [46, 2, 159, 0, 21, 42, 180, 0, 21, 8, 27, 104, 21, 4, 96, 46, 28, 162, 0, 6, 132, 3, 1]
abbrev dktX7_saidAhead_1 : List UInt8 := dkwX7_saidAhead_1 ++ dktX7_saidAhead_2
def dkwX7_saidAhead_0 : List UInt8 := [3, 62, 3, 54, 4, 21, 4, 42, 182, 0, 72, 162, 0, 42, 42, 180, 0, 18, 8, 27, 104, 21, 4, 96]
abbrev dktX7_saidAhead_0 : List UInt8 := dkwX7_saidAhead_0 ++ dktX7_saidAhead_1
theorem dksX7_saidAhead_0 : cX7_saidAhead.data.toList.drop 0 = dktX7_saidAhead_0 := by decide +kernel
theorem dksX7_saidAhead_1 : cX7_saidAhead.data.toList.drop 24 = dktX7_saidAhead_1 := dk_seg dksX7_saidAhead_0 24 rfl rfl
theorem dksX7_saidAhead_2 : cX7_saidAhead.data.toList.drop 47 = dktX7_saidAhead_2 := dk_seg dksX7_saidAhead_1 23 rfl rfl
theorem dX7_saidAhead_0 : decode cX7_saidAhead 0 = .ok (.iconst 0, 1) := dk_3 (dk_at dksX7_saidAhead_0 0 rfl rfl)
theorem dX7_saidAhead_1 : decode cX7_saidAhead 1 = .ok (.istore_n 3, 1) := dk_62 (dk_at dksX7_saidAhead_0 1 rfl rfl)
theorem dX7_saidAhead_2 : decode cX7_saidAhead 2 = .ok (.iconst 0, 1) := dk_3 (dk_at dksX7_saidAhead_0 2 rfl rfl)
theorem dX7_saidAhead_3 : decode cX7_saidAhead 3 = .ok (.istore 4, 2) := dk_54 4 (dk_at dksX7_saidAhead_0 3 rfl rfl)
theorem dX7_saidAhead_5 : decode cX7_saidAhead 5 = .ok (.iload 4, 2) := dk_21 4 (dk_at dksX7_saidAhead_0 5 rfl rfl)
theorem dX7_saidAhead_7 : decode cX7_saidAhead 7 = .ok (.aload_n 0, 1) := dk_42 (dk_at dksX7_saidAhead_0 7 rfl rfl)
theorem dX7_saidAhead_8 : decode cX7_saidAhead 8 = .ok (.invokevirtual 72, 3) := dk_182 0 72 (dk_at dksX7_saidAhead_0 8 rfl rfl)
theorem dX7_saidAhead_11 : decode cX7_saidAhead 11 = .ok (.if_icmp .ge 42, 3) := dk_162 0 42 (dk_at dksX7_saidAhead_0 11 rfl rfl)
theorem dX7_saidAhead_14 : decode cX7_saidAhead 14 = .ok (.aload_n 0, 1) := dk_42 (dk_at dksX7_saidAhead_0 14 rfl rfl)
theorem dX7_saidAhead_15 : decode cX7_saidAhead 15 = .ok (.getfield 18, 3) := dk_180 0 18 (dk_at dksX7_saidAhead_0 15 rfl rfl)
theorem dX7_saidAhead_18 : decode cX7_saidAhead 18 = .ok (.iconst 5, 1) := dk_8 (dk_at dksX7_saidAhead_0 18 rfl rfl)
theorem dX7_saidAhead_19 : decode cX7_saidAhead 19 = .ok (.iload_n 1, 1) := dk_27 (dk_at dksX7_saidAhead_0 19 rfl rfl)
theorem dX7_saidAhead_20 : decode cX7_saidAhead 20 = .ok (.imul, 1) := dk_104 (dk_at dksX7_saidAhead_0 20 rfl rfl)
theorem dX7_saidAhead_21 : decode cX7_saidAhead 21 = .ok (.iload 4, 2) := dk_21 4 (dk_at dksX7_saidAhead_0 21 rfl rfl)
theorem dX7_saidAhead_23 : decode cX7_saidAhead 23 = .ok (.iadd, 1) := dk_96 (dk_at dksX7_saidAhead_0 23 rfl rfl)
theorem dX7_saidAhead_24 : decode cX7_saidAhead 24 = .ok (.iaload, 1) := dk_46 (dk_at dksX7_saidAhead_1 0 rfl rfl)
theorem dX7_saidAhead_25 : decode cX7_saidAhead 25 = .ok (.iconst (-1), 1) := dk_2 (dk_at dksX7_saidAhead_1 1 rfl rfl)
theorem dX7_saidAhead_26 : decode cX7_saidAhead 26 = .ok (.if_icmp .eq 21, 3) := dk_159 0 21 (dk_at dksX7_saidAhead_1 2 rfl rfl)
theorem dX7_saidAhead_29 : decode cX7_saidAhead 29 = .ok (.aload_n 0, 1) := dk_42 (dk_at dksX7_saidAhead_1 5 rfl rfl)
theorem dX7_saidAhead_30 : decode cX7_saidAhead 30 = .ok (.getfield 21, 3) := dk_180 0 21 (dk_at dksX7_saidAhead_1 6 rfl rfl)
theorem dX7_saidAhead_33 : decode cX7_saidAhead 33 = .ok (.iconst 5, 1) := dk_8 (dk_at dksX7_saidAhead_1 9 rfl rfl)
theorem dX7_saidAhead_34 : decode cX7_saidAhead 34 = .ok (.iload_n 1, 1) := dk_27 (dk_at dksX7_saidAhead_1 10 rfl rfl)
theorem dX7_saidAhead_35 : decode cX7_saidAhead 35 = .ok (.imul, 1) := dk_104 (dk_at dksX7_saidAhead_1 11 rfl rfl)
theorem dX7_saidAhead_36 : decode cX7_saidAhead 36 = .ok (.iload 4, 2) := dk_21 4 (dk_at dksX7_saidAhead_1 12 rfl rfl)
theorem dX7_saidAhead_38 : decode cX7_saidAhead 38 = .ok (.iadd, 1) := dk_96 (dk_at dksX7_saidAhead_1 14 rfl rfl)
theorem dX7_saidAhead_39 : decode cX7_saidAhead 39 = .ok (.iaload, 1) := dk_46 (dk_at dksX7_saidAhead_1 15 rfl rfl)
theorem dX7_saidAhead_40 : decode cX7_saidAhead 40 = .ok (.iload_n 2, 1) := dk_28 (dk_at dksX7_saidAhead_1 16 rfl rfl)
theorem dX7_saidAhead_41 : decode cX7_saidAhead 41 = .ok (.if_icmp .ge 6, 3) := dk_162 0 6 (dk_at dksX7_saidAhead_1 17 rfl rfl)
theorem dX7_saidAhead_44 : decode cX7_saidAhead 44 = .ok (.iinc 3 1, 3) := dk_132 3 1 (dk_at dksX7_saidAhead_1 20 rfl rfl)
theorem dX7_saidAhead_47 : decode cX7_saidAhead 47 = .ok (.iinc 4 1, 3) := dk_132 4 1 (dk_at dksX7_saidAhead_2 0 rfl rfl)
theorem dX7_saidAhead_50 : decode cX7_saidAhead 50 = .ok (.goto (-45), 3) := dk_167 255 211 (dk_at dksX7_saidAhead_2 3 rfl rfl)
theorem dX7_saidAhead_53 : decode cX7_saidAhead 53 = .ok (.iload_n 3, 1) := dk_29 (dk_at dksX7_saidAhead_2 6 rfl rfl)
theorem dX7_saidAhead_54 : decode cX7_saidAhead 54 = .ok (.ireturn, 1) := dk_172 (dk_at dksX7_saidAhead_2 7 rfl rfl)
abbrev cX7_meets : ByteArray := prog_15_method_13_code
def yX7_meets : MethodName := ⟨RX7, "meets", "(II)I"⟩
def dkwX7_meets_4 : List UInt8 := [132, 3, 1, 167, 255, 161, 17, 39, 15, 172]
abbrev dktX7_meets_4 : List UInt8 := dkwX7_meets_4 ++ []
def dkwX7_meets_3 : List UInt8 := [4, 126, 4, 159, 0, 16, 42, 21, 5, 21, 6, 21, 4, 182, 0, 156, 153, 0, 6, 21, 4, 172]
abbrev dktX7_meets_3 : List UInt8 := dkwX7_meets_3 ++ dktX7_meets_4
def dkwX7_meets_2 : List UInt8 := [2, 160, 0, 6, 167, 0, 42, 21, 5, 21, 6, 160, 0, 19, 42, 180, 0, 44, 180, 0, 153, 21, 5, 122]
abbrev dktX7_meets_2 : List UInt8 := dkwX7_meets_2 ++ dktX7_meets_3
def dkwX7_meets_1 : List UInt8 := [42, 180, 0, 9, 16, 7, 27, 104, 29, 96, 46, 54, 5, 42, 28, 21, 4, 182, 0, 93, 54, 6, 21, 6]
abbrev dktX7_meets_1 : List UInt8 := dkwX7_meets_1 ++ dktX7_meets_2
def dkwX7_meets_0 : List UInt8 := [3, 62, 29, 42, 27, 182, 0, 83, 162, 0, 92, 42, 180, 0, 15, 16, 7, 27, 104, 29, 96, 46, 54, 4]
abbrev dktX7_meets_0 : List UInt8 := dkwX7_meets_0 ++ dktX7_meets_1
theorem dksX7_meets_0 : cX7_meets.data.toList.drop 0 = dktX7_meets_0 := by decide +kernel
theorem dksX7_meets_1 : cX7_meets.data.toList.drop 24 = dktX7_meets_1 := dk_seg dksX7_meets_0 24 rfl rfl
theorem dksX7_meets_2 : cX7_meets.data.toList.drop 48 = dktX7_meets_2 := dk_seg dksX7_meets_1 24 rfl rfl
theorem dksX7_meets_3 : cX7_meets.data.toList.drop 72 = dktX7_meets_3 := dk_seg dksX7_meets_2 24 rfl rfl
theorem dksX7_meets_4 : cX7_meets.data.toList.drop 94 = dktX7_meets_4 := dk_seg dksX7_meets_3 22 rfl rfl
theorem dX7_meets_0 : decode cX7_meets 0 = .ok (.iconst 0, 1) := dk_3 (dk_at dksX7_meets_0 0 rfl rfl)
theorem dX7_meets_1 : decode cX7_meets 1 = .ok (.istore_n 3, 1) := dk_62 (dk_at dksX7_meets_0 1 rfl rfl)
theorem dX7_meets_2 : decode cX7_meets 2 = .ok (.iload_n 3, 1) := dk_29 (dk_at dksX7_meets_0 2 rfl rfl)
theorem dX7_meets_3 : decode cX7_meets 3 = .ok (.aload_n 0, 1) := dk_42 (dk_at dksX7_meets_0 3 rfl rfl)
theorem dX7_meets_4 : decode cX7_meets 4 = .ok (.iload_n 1, 1) := dk_27 (dk_at dksX7_meets_0 4 rfl rfl)
theorem dX7_meets_5 : decode cX7_meets 5 = .ok (.invokevirtual 83, 3) := dk_182 0 83 (dk_at dksX7_meets_0 5 rfl rfl)
theorem dX7_meets_8 : decode cX7_meets 8 = .ok (.if_icmp .ge 92, 3) := dk_162 0 92 (dk_at dksX7_meets_0 8 rfl rfl)
theorem dX7_meets_11 : decode cX7_meets 11 = .ok (.aload_n 0, 1) := dk_42 (dk_at dksX7_meets_0 11 rfl rfl)
theorem dX7_meets_12 : decode cX7_meets 12 = .ok (.getfield 15, 3) := dk_180 0 15 (dk_at dksX7_meets_0 12 rfl rfl)
theorem dX7_meets_15 : decode cX7_meets 15 = .ok (.bipush 7, 2) := dk_16 7 (dk_at dksX7_meets_0 15 rfl rfl)
theorem dX7_meets_17 : decode cX7_meets 17 = .ok (.iload_n 1, 1) := dk_27 (dk_at dksX7_meets_0 17 rfl rfl)
theorem dX7_meets_18 : decode cX7_meets 18 = .ok (.imul, 1) := dk_104 (dk_at dksX7_meets_0 18 rfl rfl)
theorem dX7_meets_19 : decode cX7_meets 19 = .ok (.iload_n 3, 1) := dk_29 (dk_at dksX7_meets_0 19 rfl rfl)
theorem dX7_meets_20 : decode cX7_meets 20 = .ok (.iadd, 1) := dk_96 (dk_at dksX7_meets_0 20 rfl rfl)
theorem dX7_meets_21 : decode cX7_meets 21 = .ok (.iaload, 1) := dk_46 (dk_at dksX7_meets_0 21 rfl rfl)
theorem dX7_meets_22 : decode cX7_meets 22 = .ok (.istore 4, 2) := dk_54 4 (dk_at dksX7_meets_0 22 rfl rfl)
theorem dX7_meets_24 : decode cX7_meets 24 = .ok (.aload_n 0, 1) := dk_42 (dk_at dksX7_meets_1 0 rfl rfl)
theorem dX7_meets_25 : decode cX7_meets 25 = .ok (.getfield 9, 3) := dk_180 0 9 (dk_at dksX7_meets_1 1 rfl rfl)
theorem dX7_meets_28 : decode cX7_meets 28 = .ok (.bipush 7, 2) := dk_16 7 (dk_at dksX7_meets_1 4 rfl rfl)
theorem dX7_meets_30 : decode cX7_meets 30 = .ok (.iload_n 1, 1) := dk_27 (dk_at dksX7_meets_1 6 rfl rfl)
theorem dX7_meets_31 : decode cX7_meets 31 = .ok (.imul, 1) := dk_104 (dk_at dksX7_meets_1 7 rfl rfl)
theorem dX7_meets_32 : decode cX7_meets 32 = .ok (.iload_n 3, 1) := dk_29 (dk_at dksX7_meets_1 8 rfl rfl)
theorem dX7_meets_33 : decode cX7_meets 33 = .ok (.iadd, 1) := dk_96 (dk_at dksX7_meets_1 9 rfl rfl)
theorem dX7_meets_34 : decode cX7_meets 34 = .ok (.iaload, 1) := dk_46 (dk_at dksX7_meets_1 10 rfl rfl)
theorem dX7_meets_35 : decode cX7_meets 35 = .ok (.istore 5, 2) := dk_54 5 (dk_at dksX7_meets_1 11 rfl rfl)
theorem dX7_meets_37 : decode cX7_meets 37 = .ok (.aload_n 0, 1) := dk_42 (dk_at dksX7_meets_1 13 rfl rfl)
theorem dX7_meets_38 : decode cX7_meets 38 = .ok (.iload_n 2, 1) := dk_28 (dk_at dksX7_meets_1 14 rfl rfl)
theorem dX7_meets_39 : decode cX7_meets 39 = .ok (.iload 4, 2) := dk_21 4 (dk_at dksX7_meets_1 15 rfl rfl)
theorem dX7_meets_41 : decode cX7_meets 41 = .ok (.invokevirtual 93, 3) := dk_182 0 93 (dk_at dksX7_meets_1 17 rfl rfl)
theorem dX7_meets_44 : decode cX7_meets 44 = .ok (.istore 6, 2) := dk_54 6 (dk_at dksX7_meets_1 20 rfl rfl)
theorem dX7_meets_46 : decode cX7_meets 46 = .ok (.iload 6, 2) := dk_21 6 (dk_at dksX7_meets_1 22 rfl rfl)
theorem dX7_meets_48 : decode cX7_meets 48 = .ok (.iconst (-1), 1) := dk_2 (dk_at dksX7_meets_2 0 rfl rfl)
theorem dX7_meets_49 : decode cX7_meets 49 = .ok (.if_icmp .ne 6, 3) := dk_160 0 6 (dk_at dksX7_meets_2 1 rfl rfl)
theorem dX7_meets_52 : decode cX7_meets 52 = .ok (.goto 42, 3) := dk_167 0 42 (dk_at dksX7_meets_2 4 rfl rfl)
theorem dX7_meets_55 : decode cX7_meets 55 = .ok (.iload 5, 2) := dk_21 5 (dk_at dksX7_meets_2 7 rfl rfl)
theorem dX7_meets_57 : decode cX7_meets 57 = .ok (.iload 6, 2) := dk_21 6 (dk_at dksX7_meets_2 9 rfl rfl)
theorem dX7_meets_59 : decode cX7_meets 59 = .ok (.if_icmp .ne 19, 3) := dk_160 0 19 (dk_at dksX7_meets_2 11 rfl rfl)
theorem dX7_meets_62 : decode cX7_meets 62 = .ok (.aload_n 0, 1) := dk_42 (dk_at dksX7_meets_2 14 rfl rfl)
theorem dX7_meets_63 : decode cX7_meets 63 = .ok (.getfield 44, 3) := dk_180 0 44 (dk_at dksX7_meets_2 15 rfl rfl)
theorem dX7_meets_66 : decode cX7_meets 66 = .ok (.getfield 153, 3) := dk_180 0 153 (dk_at dksX7_meets_2 18 rfl rfl)
theorem dX7_meets_69 : decode cX7_meets 69 = .ok (.iload 5, 2) := dk_21 5 (dk_at dksX7_meets_2 21 rfl rfl)
theorem dX7_meets_71 : decode cX7_meets 71 = .ok (.ishr, 1) := dk_122 (dk_at dksX7_meets_2 23 rfl rfl)
theorem dX7_meets_72 : decode cX7_meets 72 = .ok (.iconst 1, 1) := dk_4 (dk_at dksX7_meets_3 0 rfl rfl)
theorem dX7_meets_73 : decode cX7_meets 73 = .ok (.iand, 1) := dk_126 (dk_at dksX7_meets_3 1 rfl rfl)
theorem dX7_meets_74 : decode cX7_meets 74 = .ok (.iconst 1, 1) := dk_4 (dk_at dksX7_meets_3 2 rfl rfl)
theorem dX7_meets_75 : decode cX7_meets 75 = .ok (.if_icmp .eq 16, 3) := dk_159 0 16 (dk_at dksX7_meets_3 3 rfl rfl)
theorem dX7_meets_78 : decode cX7_meets 78 = .ok (.aload_n 0, 1) := dk_42 (dk_at dksX7_meets_3 6 rfl rfl)
theorem dX7_meets_79 : decode cX7_meets 79 = .ok (.iload 5, 2) := dk_21 5 (dk_at dksX7_meets_3 7 rfl rfl)
theorem dX7_meets_81 : decode cX7_meets 81 = .ok (.iload 6, 2) := dk_21 6 (dk_at dksX7_meets_3 9 rfl rfl)
theorem dX7_meets_83 : decode cX7_meets 83 = .ok (.iload 4, 2) := dk_21 4 (dk_at dksX7_meets_3 11 rfl rfl)
theorem dX7_meets_85 : decode cX7_meets 85 = .ok (.invokevirtual 156, 3) := dk_182 0 156 (dk_at dksX7_meets_3 13 rfl rfl)
theorem dX7_meets_88 : decode cX7_meets 88 = .ok (.ifCond .eq 6, 3) := dk_153 0 6 (dk_at dksX7_meets_3 16 rfl rfl)
theorem dX7_meets_91 : decode cX7_meets 91 = .ok (.iload 4, 2) := dk_21 4 (dk_at dksX7_meets_3 19 rfl rfl)
theorem dX7_meets_93 : decode cX7_meets 93 = .ok (.ireturn, 1) := dk_172 (dk_at dksX7_meets_3 21 rfl rfl)
theorem dX7_meets_94 : decode cX7_meets 94 = .ok (.iinc 3 1, 3) := dk_132 3 1 (dk_at dksX7_meets_4 0 rfl rfl)
theorem dX7_meets_97 : decode cX7_meets 97 = .ok (.goto (-95), 3) := dk_167 255 161 (dk_at dksX7_meets_4 3 rfl rfl)
theorem dX7_meets_100 : decode cX7_meets 100 = .ok (.sipush 9999, 3) := dk_17 39 15 (dk_at dksX7_meets_4 6 rfl rfl)
theorem dX7_meets_103 : decode cX7_meets 103 = .ok (.ireturn, 1) := dk_172 (dk_at dksX7_meets_4 9 rfl rfl)
abbrev cX7_isFlooded : ByteArray := prog_15_method_12_code
def yX7_isFlooded : MethodName := ⟨RX7, "isFlooded", "(III)Z"⟩
def dkwX7_isFlooded_4 : List UInt8 := [5, 96, 46, 163, 0, 5, 4, 172, 132, 4, 1, 167, 255, 153, 3, 172]
abbrev dktX7_isFlooded_4 : List UInt8 := dkwX7_isFlooded_4 ++ []
def dkwX7_isFlooded_3 : List UInt8 := [163, 0, 32, 42, 180, 0, 40, 28, 21, 5, 182, 0, 150, 42, 180, 0, 44, 180, 0, 147, 6, 21, 4, 104]
abbrev dktX7_isFlooded_3 : List UInt8 := dkwX7_isFlooded_3 ++ dktX7_isFlooded_4
def dkwX7_isFlooded_2 : List UInt8 := [42, 180, 0, 40, 27, 21, 5, 182, 0, 150, 42, 180, 0, 44, 180, 0, 147, 6, 21, 4, 104, 5, 96, 46]
abbrev dktX7_isFlooded_2 : List UInt8 := dkwX7_isFlooded_2 ++ dktX7_isFlooded_3
def dkwX7_isFlooded_1 : List UInt8 := [21, 4, 104, 46, 54, 5, 42, 180, 0, 44, 180, 0, 147, 6, 21, 4, 104, 4, 96, 46, 29, 160, 0, 59]
abbrev dktX7_isFlooded_1 : List UInt8 := dkwX7_isFlooded_1 ++ dktX7_isFlooded_2
def dkwX7_isFlooded_0 : List UInt8 := [3, 54, 4, 21, 4, 42, 180, 0, 44, 180, 0, 144, 162, 0, 97, 42, 180, 0, 44, 180, 0, 147, 6]
abbrev dktX7_isFlooded_0 : List UInt8 := dkwX7_isFlooded_0 ++ dktX7_isFlooded_1
theorem dksX7_isFlooded_0 : cX7_isFlooded.data.toList.drop 0 = dktX7_isFlooded_0 := by decide +kernel
theorem dksX7_isFlooded_1 : cX7_isFlooded.data.toList.drop 23 = dktX7_isFlooded_1 := dk_seg dksX7_isFlooded_0 23 rfl rfl
theorem dksX7_isFlooded_2 : cX7_isFlooded.data.toList.drop 47 = dktX7_isFlooded_2 := dk_seg dksX7_isFlooded_1 24 rfl rfl
theorem dksX7_isFlooded_3 : cX7_isFlooded.data.toList.drop 71 = dktX7_isFlooded_3 := dk_seg dksX7_isFlooded_2 24 rfl rfl
theorem dksX7_isFlooded_4 : cX7_isFlooded.data.toList.drop 95 = dktX7_isFlooded_4 := dk_seg dksX7_isFlooded_3 24 rfl rfl
theorem dX7_isFlooded_0 : decode cX7_isFlooded 0 = .ok (.iconst 0, 1) := dk_3 (dk_at dksX7_isFlooded_0 0 rfl rfl)
theorem dX7_isFlooded_1 : decode cX7_isFlooded 1 = .ok (.istore 4, 2) := dk_54 4 (dk_at dksX7_isFlooded_0 1 rfl rfl)
theorem dX7_isFlooded_3 : decode cX7_isFlooded 3 = .ok (.iload 4, 2) := dk_21 4 (dk_at dksX7_isFlooded_0 3 rfl rfl)
theorem dX7_isFlooded_5 : decode cX7_isFlooded 5 = .ok (.aload_n 0, 1) := dk_42 (dk_at dksX7_isFlooded_0 5 rfl rfl)
theorem dX7_isFlooded_6 : decode cX7_isFlooded 6 = .ok (.getfield 44, 3) := dk_180 0 44 (dk_at dksX7_isFlooded_0 6 rfl rfl)
theorem dX7_isFlooded_9 : decode cX7_isFlooded 9 = .ok (.getfield 144, 3) := dk_180 0 144 (dk_at dksX7_isFlooded_0 9 rfl rfl)
theorem dX7_isFlooded_12 : decode cX7_isFlooded 12 = .ok (.if_icmp .ge 97, 3) := dk_162 0 97 (dk_at dksX7_isFlooded_0 12 rfl rfl)
theorem dX7_isFlooded_15 : decode cX7_isFlooded 15 = .ok (.aload_n 0, 1) := dk_42 (dk_at dksX7_isFlooded_0 15 rfl rfl)
theorem dX7_isFlooded_16 : decode cX7_isFlooded 16 = .ok (.getfield 44, 3) := dk_180 0 44 (dk_at dksX7_isFlooded_0 16 rfl rfl)
theorem dX7_isFlooded_19 : decode cX7_isFlooded 19 = .ok (.getfield 147, 3) := dk_180 0 147 (dk_at dksX7_isFlooded_0 19 rfl rfl)
theorem dX7_isFlooded_22 : decode cX7_isFlooded 22 = .ok (.iconst 3, 1) := dk_6 (dk_at dksX7_isFlooded_0 22 rfl rfl)
theorem dX7_isFlooded_23 : decode cX7_isFlooded 23 = .ok (.iload 4, 2) := dk_21 4 (dk_at dksX7_isFlooded_1 0 rfl rfl)
theorem dX7_isFlooded_25 : decode cX7_isFlooded 25 = .ok (.imul, 1) := dk_104 (dk_at dksX7_isFlooded_1 2 rfl rfl)
theorem dX7_isFlooded_26 : decode cX7_isFlooded 26 = .ok (.iaload, 1) := dk_46 (dk_at dksX7_isFlooded_1 3 rfl rfl)
theorem dX7_isFlooded_27 : decode cX7_isFlooded 27 = .ok (.istore 5, 2) := dk_54 5 (dk_at dksX7_isFlooded_1 4 rfl rfl)
theorem dX7_isFlooded_29 : decode cX7_isFlooded 29 = .ok (.aload_n 0, 1) := dk_42 (dk_at dksX7_isFlooded_1 6 rfl rfl)
theorem dX7_isFlooded_30 : decode cX7_isFlooded 30 = .ok (.getfield 44, 3) := dk_180 0 44 (dk_at dksX7_isFlooded_1 7 rfl rfl)
theorem dX7_isFlooded_33 : decode cX7_isFlooded 33 = .ok (.getfield 147, 3) := dk_180 0 147 (dk_at dksX7_isFlooded_1 10 rfl rfl)
theorem dX7_isFlooded_36 : decode cX7_isFlooded 36 = .ok (.iconst 3, 1) := dk_6 (dk_at dksX7_isFlooded_1 13 rfl rfl)
theorem dX7_isFlooded_37 : decode cX7_isFlooded 37 = .ok (.iload 4, 2) := dk_21 4 (dk_at dksX7_isFlooded_1 14 rfl rfl)
theorem dX7_isFlooded_39 : decode cX7_isFlooded 39 = .ok (.imul, 1) := dk_104 (dk_at dksX7_isFlooded_1 16 rfl rfl)
theorem dX7_isFlooded_40 : decode cX7_isFlooded 40 = .ok (.iconst 1, 1) := dk_4 (dk_at dksX7_isFlooded_1 17 rfl rfl)
theorem dX7_isFlooded_41 : decode cX7_isFlooded 41 = .ok (.iadd, 1) := dk_96 (dk_at dksX7_isFlooded_1 18 rfl rfl)
theorem dX7_isFlooded_42 : decode cX7_isFlooded 42 = .ok (.iaload, 1) := dk_46 (dk_at dksX7_isFlooded_1 19 rfl rfl)
theorem dX7_isFlooded_43 : decode cX7_isFlooded 43 = .ok (.iload_n 3, 1) := dk_29 (dk_at dksX7_isFlooded_1 20 rfl rfl)
theorem dX7_isFlooded_44 : decode cX7_isFlooded 44 = .ok (.if_icmp .ne 59, 3) := dk_160 0 59 (dk_at dksX7_isFlooded_1 21 rfl rfl)
theorem dX7_isFlooded_47 : decode cX7_isFlooded 47 = .ok (.aload_n 0, 1) := dk_42 (dk_at dksX7_isFlooded_2 0 rfl rfl)
theorem dX7_isFlooded_48 : decode cX7_isFlooded 48 = .ok (.getfield 40, 3) := dk_180 0 40 (dk_at dksX7_isFlooded_2 1 rfl rfl)
theorem dX7_isFlooded_51 : decode cX7_isFlooded 51 = .ok (.iload_n 1, 1) := dk_27 (dk_at dksX7_isFlooded_2 4 rfl rfl)
theorem dX7_isFlooded_52 : decode cX7_isFlooded 52 = .ok (.iload 5, 2) := dk_21 5 (dk_at dksX7_isFlooded_2 5 rfl rfl)
theorem dX7_isFlooded_54 : decode cX7_isFlooded 54 = .ok (.invokevirtual 150, 3) := dk_182 0 150 (dk_at dksX7_isFlooded_2 7 rfl rfl)
theorem dX7_isFlooded_57 : decode cX7_isFlooded 57 = .ok (.aload_n 0, 1) := dk_42 (dk_at dksX7_isFlooded_2 10 rfl rfl)
theorem dX7_isFlooded_58 : decode cX7_isFlooded 58 = .ok (.getfield 44, 3) := dk_180 0 44 (dk_at dksX7_isFlooded_2 11 rfl rfl)
theorem dX7_isFlooded_61 : decode cX7_isFlooded 61 = .ok (.getfield 147, 3) := dk_180 0 147 (dk_at dksX7_isFlooded_2 14 rfl rfl)
theorem dX7_isFlooded_64 : decode cX7_isFlooded 64 = .ok (.iconst 3, 1) := dk_6 (dk_at dksX7_isFlooded_2 17 rfl rfl)
theorem dX7_isFlooded_65 : decode cX7_isFlooded 65 = .ok (.iload 4, 2) := dk_21 4 (dk_at dksX7_isFlooded_2 18 rfl rfl)
theorem dX7_isFlooded_67 : decode cX7_isFlooded 67 = .ok (.imul, 1) := dk_104 (dk_at dksX7_isFlooded_2 20 rfl rfl)
theorem dX7_isFlooded_68 : decode cX7_isFlooded 68 = .ok (.iconst 2, 1) := dk_5 (dk_at dksX7_isFlooded_2 21 rfl rfl)
theorem dX7_isFlooded_69 : decode cX7_isFlooded 69 = .ok (.iadd, 1) := dk_96 (dk_at dksX7_isFlooded_2 22 rfl rfl)
theorem dX7_isFlooded_70 : decode cX7_isFlooded 70 = .ok (.iaload, 1) := dk_46 (dk_at dksX7_isFlooded_2 23 rfl rfl)
theorem dX7_isFlooded_71 : decode cX7_isFlooded 71 = .ok (.if_icmp .gt 32, 3) := dk_163 0 32 (dk_at dksX7_isFlooded_3 0 rfl rfl)
theorem dX7_isFlooded_74 : decode cX7_isFlooded 74 = .ok (.aload_n 0, 1) := dk_42 (dk_at dksX7_isFlooded_3 3 rfl rfl)
theorem dX7_isFlooded_75 : decode cX7_isFlooded 75 = .ok (.getfield 40, 3) := dk_180 0 40 (dk_at dksX7_isFlooded_3 4 rfl rfl)
theorem dX7_isFlooded_78 : decode cX7_isFlooded 78 = .ok (.iload_n 2, 1) := dk_28 (dk_at dksX7_isFlooded_3 7 rfl rfl)
theorem dX7_isFlooded_79 : decode cX7_isFlooded 79 = .ok (.iload 5, 2) := dk_21 5 (dk_at dksX7_isFlooded_3 8 rfl rfl)
theorem dX7_isFlooded_81 : decode cX7_isFlooded 81 = .ok (.invokevirtual 150, 3) := dk_182 0 150 (dk_at dksX7_isFlooded_3 10 rfl rfl)
theorem dX7_isFlooded_84 : decode cX7_isFlooded 84 = .ok (.aload_n 0, 1) := dk_42 (dk_at dksX7_isFlooded_3 13 rfl rfl)
theorem dX7_isFlooded_85 : decode cX7_isFlooded 85 = .ok (.getfield 44, 3) := dk_180 0 44 (dk_at dksX7_isFlooded_3 14 rfl rfl)
theorem dX7_isFlooded_88 : decode cX7_isFlooded 88 = .ok (.getfield 147, 3) := dk_180 0 147 (dk_at dksX7_isFlooded_3 17 rfl rfl)
theorem dX7_isFlooded_91 : decode cX7_isFlooded 91 = .ok (.iconst 3, 1) := dk_6 (dk_at dksX7_isFlooded_3 20 rfl rfl)
theorem dX7_isFlooded_92 : decode cX7_isFlooded 92 = .ok (.iload 4, 2) := dk_21 4 (dk_at dksX7_isFlooded_3 21 rfl rfl)
theorem dX7_isFlooded_94 : decode cX7_isFlooded 94 = .ok (.imul, 1) := dk_104 (dk_at dksX7_isFlooded_3 23 rfl rfl)
theorem dX7_isFlooded_95 : decode cX7_isFlooded 95 = .ok (.iconst 2, 1) := dk_5 (dk_at dksX7_isFlooded_4 0 rfl rfl)
theorem dX7_isFlooded_96 : decode cX7_isFlooded 96 = .ok (.iadd, 1) := dk_96 (dk_at dksX7_isFlooded_4 1 rfl rfl)
theorem dX7_isFlooded_97 : decode cX7_isFlooded 97 = .ok (.iaload, 1) := dk_46 (dk_at dksX7_isFlooded_4 2 rfl rfl)
theorem dX7_isFlooded_98 : decode cX7_isFlooded 98 = .ok (.if_icmp .gt 5, 3) := dk_163 0 5 (dk_at dksX7_isFlooded_4 3 rfl rfl)
theorem dX7_isFlooded_101 : decode cX7_isFlooded 101 = .ok (.iconst 1, 1) := dk_4 (dk_at dksX7_isFlooded_4 6 rfl rfl)
theorem dX7_isFlooded_102 : decode cX7_isFlooded 102 = .ok (.ireturn, 1) := dk_172 (dk_at dksX7_isFlooded_4 7 rfl rfl)
theorem dX7_isFlooded_103 : decode cX7_isFlooded 103 = .ok (.iinc 4 1, 3) := dk_132 4 1 (dk_at dksX7_isFlooded_4 8 rfl rfl)
theorem dX7_isFlooded_106 : decode cX7_isFlooded 106 = .ok (.goto (-103), 3) := dk_167 255 153 (dk_at dksX7_isFlooded_4 11 rfl rfl)
theorem dX7_isFlooded_109 : decode cX7_isFlooded 109 = .ok (.iconst 0, 1) := dk_3 (dk_at dksX7_isFlooded_4 14 rfl rfl)
theorem dX7_isFlooded_110 : decode cX7_isFlooded 110 = .ok (.ireturn, 1) := dk_172 (dk_at dksX7_isFlooded_4 15 rfl rfl)
abbrev cX7_isVoided : ByteArray := prog_15_method_11_code
def yX7_isVoided : MethodName := ⟨RX7, "isVoided", "(II)Z"⟩
def dkwX7_isVoided_8 : List UInt8 := [5, 96, 46, 182, 0, 134, 153, 0, 5, 4, 172, 132, 4, 1, 167, 255, 186, 3, 172]
abbrev dktX7_isVoided_8 : List UInt8 := dkwX7_isVoided_8 ++ []
def dkwX7_isVoided_7 : List UInt8 := [180, 0, 44, 180, 0, 141, 6, 21, 4, 104, 4, 96, 46, 42, 180, 0, 44, 180, 0, 141, 6, 21, 4, 104]
abbrev dktX7_isVoided_7 : List UInt8 := dkwX7_isVoided_7 ++ dktX7_isVoided_8
def dkwX7_isVoided_6 : List UInt8 := [162, 0, 64, 42, 180, 0, 44, 180, 0, 141, 6, 21, 4, 104, 46, 27, 160, 0, 42, 42, 28, 29, 42]
abbrev dktX7_isVoided_6 : List UInt8 := dkwX7_isVoided_6 ++ dktX7_isVoided_7
def dkwX7_isVoided_5 : List UInt8 := [153, 0, 5, 4, 172, 132, 4, 1, 167, 255, 183, 3, 54, 4, 21, 4, 42, 180, 0, 44, 180, 0, 138]
abbrev dktX7_isVoided_5 : List UInt8 := dkwX7_isVoided_5 ++ dktX7_isVoided_6
def dkwX7_isVoided_4 : List UInt8 := [29, 162, 0, 28, 42, 28, 29, 42, 180, 0, 24, 21, 5, 46, 42, 180, 0, 21, 21, 5, 46, 182, 0, 134]
abbrev dktX7_isVoided_4 : List UInt8 := dkwX7_isVoided_4 ++ dktX7_isVoided_5
def dkwX7_isVoided_3 : List UInt8 := [21, 4, 28, 159, 0, 50, 42, 180, 0, 18, 21, 5, 46, 2, 159, 0, 39, 42, 180, 0, 21, 21, 5, 46]
abbrev dktX7_isVoided_3 : List UInt8 := dkwX7_isVoided_3 ++ dktX7_isVoided_4
def dkwX7_isVoided_2 : List UInt8 := [96, 46, 62, 3, 54, 4, 21, 4, 42, 182, 0, 72, 162, 0, 70, 8, 27, 104, 21, 4, 96, 54, 5]
abbrev dktX7_isVoided_2 : List UInt8 := dkwX7_isVoided_2 ++ dktX7_isVoided_3
def dkwX7_isVoided_1 : List UInt8 := [180, 0, 44, 180, 0, 131, 28, 122, 4, 126, 4, 160, 0, 5, 4, 172, 42, 180, 0, 21, 8, 27, 104, 28]
abbrev dktX7_isVoided_1 : List UInt8 := dkwX7_isVoided_1 ++ dktX7_isVoided_2
def dkwX7_isVoided_0 : List UInt8 := [42, 28, 182, 0, 125, 154, 0, 5, 3, 172, 42, 180, 0, 44, 180, 0, 128, 27, 160, 0, 20, 42]
abbrev dktX7_isVoided_0 : List UInt8 := dkwX7_isVoided_0 ++ dktX7_isVoided_1
theorem dksX7_isVoided_0 : cX7_isVoided.data.toList.drop 0 = dktX7_isVoided_0 := by decide +kernel
theorem dksX7_isVoided_1 : cX7_isVoided.data.toList.drop 22 = dktX7_isVoided_1 := dk_seg dksX7_isVoided_0 22 rfl rfl
theorem dksX7_isVoided_2 : cX7_isVoided.data.toList.drop 46 = dktX7_isVoided_2 := dk_seg dksX7_isVoided_1 24 rfl rfl
theorem dksX7_isVoided_3 : cX7_isVoided.data.toList.drop 69 = dktX7_isVoided_3 := dk_seg dksX7_isVoided_2 23 rfl rfl
theorem dksX7_isVoided_4 : cX7_isVoided.data.toList.drop 93 = dktX7_isVoided_4 := dk_seg dksX7_isVoided_3 24 rfl rfl
theorem dksX7_isVoided_5 : cX7_isVoided.data.toList.drop 117 = dktX7_isVoided_5 := dk_seg dksX7_isVoided_4 24 rfl rfl
theorem dksX7_isVoided_6 : cX7_isVoided.data.toList.drop 140 = dktX7_isVoided_6 := dk_seg dksX7_isVoided_5 23 rfl rfl
theorem dksX7_isVoided_7 : cX7_isVoided.data.toList.drop 163 = dktX7_isVoided_7 := dk_seg dksX7_isVoided_6 23 rfl rfl
theorem dksX7_isVoided_8 : cX7_isVoided.data.toList.drop 187 = dktX7_isVoided_8 := dk_seg dksX7_isVoided_7 24 rfl rfl
theorem dX7_isVoided_0 : decode cX7_isVoided 0 = .ok (.aload_n 0, 1) := dk_42 (dk_at dksX7_isVoided_0 0 rfl rfl)
theorem dX7_isVoided_1 : decode cX7_isVoided 1 = .ok (.iload_n 2, 1) := dk_28 (dk_at dksX7_isVoided_0 1 rfl rfl)
theorem dX7_isVoided_2 : decode cX7_isVoided 2 = .ok (.invokevirtual 125, 3) := dk_182 0 125 (dk_at dksX7_isVoided_0 2 rfl rfl)
theorem dX7_isVoided_5 : decode cX7_isVoided 5 = .ok (.ifCond .ne 5, 3) := dk_154 0 5 (dk_at dksX7_isVoided_0 5 rfl rfl)
theorem dX7_isVoided_8 : decode cX7_isVoided 8 = .ok (.iconst 0, 1) := dk_3 (dk_at dksX7_isVoided_0 8 rfl rfl)
theorem dX7_isVoided_9 : decode cX7_isVoided 9 = .ok (.ireturn, 1) := dk_172 (dk_at dksX7_isVoided_0 9 rfl rfl)
theorem dX7_isVoided_10 : decode cX7_isVoided 10 = .ok (.aload_n 0, 1) := dk_42 (dk_at dksX7_isVoided_0 10 rfl rfl)
theorem dX7_isVoided_11 : decode cX7_isVoided 11 = .ok (.getfield 44, 3) := dk_180 0 44 (dk_at dksX7_isVoided_0 11 rfl rfl)
theorem dX7_isVoided_14 : decode cX7_isVoided 14 = .ok (.getfield 128, 3) := dk_180 0 128 (dk_at dksX7_isVoided_0 14 rfl rfl)
theorem dX7_isVoided_17 : decode cX7_isVoided 17 = .ok (.iload_n 1, 1) := dk_27 (dk_at dksX7_isVoided_0 17 rfl rfl)
theorem dX7_isVoided_18 : decode cX7_isVoided 18 = .ok (.if_icmp .ne 20, 3) := dk_160 0 20 (dk_at dksX7_isVoided_0 18 rfl rfl)
theorem dX7_isVoided_21 : decode cX7_isVoided 21 = .ok (.aload_n 0, 1) := dk_42 (dk_at dksX7_isVoided_0 21 rfl rfl)
theorem dX7_isVoided_22 : decode cX7_isVoided 22 = .ok (.getfield 44, 3) := dk_180 0 44 (dk_at dksX7_isVoided_1 0 rfl rfl)
theorem dX7_isVoided_25 : decode cX7_isVoided 25 = .ok (.getfield 131, 3) := dk_180 0 131 (dk_at dksX7_isVoided_1 3 rfl rfl)
theorem dX7_isVoided_28 : decode cX7_isVoided 28 = .ok (.iload_n 2, 1) := dk_28 (dk_at dksX7_isVoided_1 6 rfl rfl)
theorem dX7_isVoided_29 : decode cX7_isVoided 29 = .ok (.ishr, 1) := dk_122 (dk_at dksX7_isVoided_1 7 rfl rfl)
theorem dX7_isVoided_30 : decode cX7_isVoided 30 = .ok (.iconst 1, 1) := dk_4 (dk_at dksX7_isVoided_1 8 rfl rfl)
theorem dX7_isVoided_31 : decode cX7_isVoided 31 = .ok (.iand, 1) := dk_126 (dk_at dksX7_isVoided_1 9 rfl rfl)
theorem dX7_isVoided_32 : decode cX7_isVoided 32 = .ok (.iconst 1, 1) := dk_4 (dk_at dksX7_isVoided_1 10 rfl rfl)
theorem dX7_isVoided_33 : decode cX7_isVoided 33 = .ok (.if_icmp .ne 5, 3) := dk_160 0 5 (dk_at dksX7_isVoided_1 11 rfl rfl)
theorem dX7_isVoided_36 : decode cX7_isVoided 36 = .ok (.iconst 1, 1) := dk_4 (dk_at dksX7_isVoided_1 14 rfl rfl)
theorem dX7_isVoided_37 : decode cX7_isVoided 37 = .ok (.ireturn, 1) := dk_172 (dk_at dksX7_isVoided_1 15 rfl rfl)
theorem dX7_isVoided_38 : decode cX7_isVoided 38 = .ok (.aload_n 0, 1) := dk_42 (dk_at dksX7_isVoided_1 16 rfl rfl)
theorem dX7_isVoided_39 : decode cX7_isVoided 39 = .ok (.getfield 21, 3) := dk_180 0 21 (dk_at dksX7_isVoided_1 17 rfl rfl)
theorem dX7_isVoided_42 : decode cX7_isVoided 42 = .ok (.iconst 5, 1) := dk_8 (dk_at dksX7_isVoided_1 20 rfl rfl)
theorem dX7_isVoided_43 : decode cX7_isVoided 43 = .ok (.iload_n 1, 1) := dk_27 (dk_at dksX7_isVoided_1 21 rfl rfl)
theorem dX7_isVoided_44 : decode cX7_isVoided 44 = .ok (.imul, 1) := dk_104 (dk_at dksX7_isVoided_1 22 rfl rfl)
theorem dX7_isVoided_45 : decode cX7_isVoided 45 = .ok (.iload_n 2, 1) := dk_28 (dk_at dksX7_isVoided_1 23 rfl rfl)
theorem dX7_isVoided_46 : decode cX7_isVoided 46 = .ok (.iadd, 1) := dk_96 (dk_at dksX7_isVoided_2 0 rfl rfl)
theorem dX7_isVoided_47 : decode cX7_isVoided 47 = .ok (.iaload, 1) := dk_46 (dk_at dksX7_isVoided_2 1 rfl rfl)
theorem dX7_isVoided_48 : decode cX7_isVoided 48 = .ok (.istore_n 3, 1) := dk_62 (dk_at dksX7_isVoided_2 2 rfl rfl)
theorem dX7_isVoided_49 : decode cX7_isVoided 49 = .ok (.iconst 0, 1) := dk_3 (dk_at dksX7_isVoided_2 3 rfl rfl)
theorem dX7_isVoided_50 : decode cX7_isVoided 50 = .ok (.istore 4, 2) := dk_54 4 (dk_at dksX7_isVoided_2 4 rfl rfl)
theorem dX7_isVoided_52 : decode cX7_isVoided 52 = .ok (.iload 4, 2) := dk_21 4 (dk_at dksX7_isVoided_2 6 rfl rfl)
theorem dX7_isVoided_54 : decode cX7_isVoided 54 = .ok (.aload_n 0, 1) := dk_42 (dk_at dksX7_isVoided_2 8 rfl rfl)
theorem dX7_isVoided_55 : decode cX7_isVoided 55 = .ok (.invokevirtual 72, 3) := dk_182 0 72 (dk_at dksX7_isVoided_2 9 rfl rfl)
theorem dX7_isVoided_58 : decode cX7_isVoided 58 = .ok (.if_icmp .ge 70, 3) := dk_162 0 70 (dk_at dksX7_isVoided_2 12 rfl rfl)
theorem dX7_isVoided_61 : decode cX7_isVoided 61 = .ok (.iconst 5, 1) := dk_8 (dk_at dksX7_isVoided_2 15 rfl rfl)
theorem dX7_isVoided_62 : decode cX7_isVoided 62 = .ok (.iload_n 1, 1) := dk_27 (dk_at dksX7_isVoided_2 16 rfl rfl)
theorem dX7_isVoided_63 : decode cX7_isVoided 63 = .ok (.imul, 1) := dk_104 (dk_at dksX7_isVoided_2 17 rfl rfl)
theorem dX7_isVoided_64 : decode cX7_isVoided 64 = .ok (.iload 4, 2) := dk_21 4 (dk_at dksX7_isVoided_2 18 rfl rfl)
theorem dX7_isVoided_66 : decode cX7_isVoided 66 = .ok (.iadd, 1) := dk_96 (dk_at dksX7_isVoided_2 20 rfl rfl)
theorem dX7_isVoided_67 : decode cX7_isVoided 67 = .ok (.istore 5, 2) := dk_54 5 (dk_at dksX7_isVoided_2 21 rfl rfl)
theorem dX7_isVoided_69 : decode cX7_isVoided 69 = .ok (.iload 4, 2) := dk_21 4 (dk_at dksX7_isVoided_3 0 rfl rfl)
theorem dX7_isVoided_71 : decode cX7_isVoided 71 = .ok (.iload_n 2, 1) := dk_28 (dk_at dksX7_isVoided_3 2 rfl rfl)
theorem dX7_isVoided_72 : decode cX7_isVoided 72 = .ok (.if_icmp .eq 50, 3) := dk_159 0 50 (dk_at dksX7_isVoided_3 3 rfl rfl)
theorem dX7_isVoided_75 : decode cX7_isVoided 75 = .ok (.aload_n 0, 1) := dk_42 (dk_at dksX7_isVoided_3 6 rfl rfl)
theorem dX7_isVoided_76 : decode cX7_isVoided 76 = .ok (.getfield 18, 3) := dk_180 0 18 (dk_at dksX7_isVoided_3 7 rfl rfl)
theorem dX7_isVoided_79 : decode cX7_isVoided 79 = .ok (.iload 5, 2) := dk_21 5 (dk_at dksX7_isVoided_3 10 rfl rfl)
theorem dX7_isVoided_81 : decode cX7_isVoided 81 = .ok (.iaload, 1) := dk_46 (dk_at dksX7_isVoided_3 12 rfl rfl)
theorem dX7_isVoided_82 : decode cX7_isVoided 82 = .ok (.iconst (-1), 1) := dk_2 (dk_at dksX7_isVoided_3 13 rfl rfl)
theorem dX7_isVoided_83 : decode cX7_isVoided 83 = .ok (.if_icmp .eq 39, 3) := dk_159 0 39 (dk_at dksX7_isVoided_3 14 rfl rfl)
theorem dX7_isVoided_86 : decode cX7_isVoided 86 = .ok (.aload_n 0, 1) := dk_42 (dk_at dksX7_isVoided_3 17 rfl rfl)
theorem dX7_isVoided_87 : decode cX7_isVoided 87 = .ok (.getfield 21, 3) := dk_180 0 21 (dk_at dksX7_isVoided_3 18 rfl rfl)
theorem dX7_isVoided_90 : decode cX7_isVoided 90 = .ok (.iload 5, 2) := dk_21 5 (dk_at dksX7_isVoided_3 21 rfl rfl)
theorem dX7_isVoided_92 : decode cX7_isVoided 92 = .ok (.iaload, 1) := dk_46 (dk_at dksX7_isVoided_3 23 rfl rfl)
theorem dX7_isVoided_93 : decode cX7_isVoided 93 = .ok (.iload_n 3, 1) := dk_29 (dk_at dksX7_isVoided_4 0 rfl rfl)
theorem dX7_isVoided_94 : decode cX7_isVoided 94 = .ok (.if_icmp .ge 28, 3) := dk_162 0 28 (dk_at dksX7_isVoided_4 1 rfl rfl)
theorem dX7_isVoided_97 : decode cX7_isVoided 97 = .ok (.aload_n 0, 1) := dk_42 (dk_at dksX7_isVoided_4 4 rfl rfl)
theorem dX7_isVoided_98 : decode cX7_isVoided 98 = .ok (.iload_n 2, 1) := dk_28 (dk_at dksX7_isVoided_4 5 rfl rfl)
theorem dX7_isVoided_99 : decode cX7_isVoided 99 = .ok (.iload_n 3, 1) := dk_29 (dk_at dksX7_isVoided_4 6 rfl rfl)
theorem dX7_isVoided_100 : decode cX7_isVoided 100 = .ok (.aload_n 0, 1) := dk_42 (dk_at dksX7_isVoided_4 7 rfl rfl)
theorem dX7_isVoided_101 : decode cX7_isVoided 101 = .ok (.getfield 24, 3) := dk_180 0 24 (dk_at dksX7_isVoided_4 8 rfl rfl)
theorem dX7_isVoided_104 : decode cX7_isVoided 104 = .ok (.iload 5, 2) := dk_21 5 (dk_at dksX7_isVoided_4 11 rfl rfl)
theorem dX7_isVoided_106 : decode cX7_isVoided 106 = .ok (.iaload, 1) := dk_46 (dk_at dksX7_isVoided_4 13 rfl rfl)
theorem dX7_isVoided_107 : decode cX7_isVoided 107 = .ok (.aload_n 0, 1) := dk_42 (dk_at dksX7_isVoided_4 14 rfl rfl)
theorem dX7_isVoided_108 : decode cX7_isVoided 108 = .ok (.getfield 21, 3) := dk_180 0 21 (dk_at dksX7_isVoided_4 15 rfl rfl)
theorem dX7_isVoided_111 : decode cX7_isVoided 111 = .ok (.iload 5, 2) := dk_21 5 (dk_at dksX7_isVoided_4 18 rfl rfl)
theorem dX7_isVoided_113 : decode cX7_isVoided 113 = .ok (.iaload, 1) := dk_46 (dk_at dksX7_isVoided_4 20 rfl rfl)
theorem dX7_isVoided_114 : decode cX7_isVoided 114 = .ok (.invokevirtual 134, 3) := dk_182 0 134 (dk_at dksX7_isVoided_4 21 rfl rfl)
theorem dX7_isVoided_117 : decode cX7_isVoided 117 = .ok (.ifCond .eq 5, 3) := dk_153 0 5 (dk_at dksX7_isVoided_5 0 rfl rfl)
theorem dX7_isVoided_120 : decode cX7_isVoided 120 = .ok (.iconst 1, 1) := dk_4 (dk_at dksX7_isVoided_5 3 rfl rfl)
theorem dX7_isVoided_121 : decode cX7_isVoided 121 = .ok (.ireturn, 1) := dk_172 (dk_at dksX7_isVoided_5 4 rfl rfl)
theorem dX7_isVoided_122 : decode cX7_isVoided 122 = .ok (.iinc 4 1, 3) := dk_132 4 1 (dk_at dksX7_isVoided_5 5 rfl rfl)
theorem dX7_isVoided_125 : decode cX7_isVoided 125 = .ok (.goto (-73), 3) := dk_167 255 183 (dk_at dksX7_isVoided_5 8 rfl rfl)
theorem dX7_isVoided_128 : decode cX7_isVoided 128 = .ok (.iconst 0, 1) := dk_3 (dk_at dksX7_isVoided_5 11 rfl rfl)
theorem dX7_isVoided_129 : decode cX7_isVoided 129 = .ok (.istore 4, 2) := dk_54 4 (dk_at dksX7_isVoided_5 12 rfl rfl)
theorem dX7_isVoided_131 : decode cX7_isVoided 131 = .ok (.iload 4, 2) := dk_21 4 (dk_at dksX7_isVoided_5 14 rfl rfl)
theorem dX7_isVoided_133 : decode cX7_isVoided 133 = .ok (.aload_n 0, 1) := dk_42 (dk_at dksX7_isVoided_5 16 rfl rfl)
theorem dX7_isVoided_134 : decode cX7_isVoided 134 = .ok (.getfield 44, 3) := dk_180 0 44 (dk_at dksX7_isVoided_5 17 rfl rfl)
theorem dX7_isVoided_137 : decode cX7_isVoided 137 = .ok (.getfield 138, 3) := dk_180 0 138 (dk_at dksX7_isVoided_5 20 rfl rfl)
theorem dX7_isVoided_140 : decode cX7_isVoided 140 = .ok (.if_icmp .ge 64, 3) := dk_162 0 64 (dk_at dksX7_isVoided_6 0 rfl rfl)
theorem dX7_isVoided_143 : decode cX7_isVoided 143 = .ok (.aload_n 0, 1) := dk_42 (dk_at dksX7_isVoided_6 3 rfl rfl)
theorem dX7_isVoided_144 : decode cX7_isVoided 144 = .ok (.getfield 44, 3) := dk_180 0 44 (dk_at dksX7_isVoided_6 4 rfl rfl)
theorem dX7_isVoided_147 : decode cX7_isVoided 147 = .ok (.getfield 141, 3) := dk_180 0 141 (dk_at dksX7_isVoided_6 7 rfl rfl)
theorem dX7_isVoided_150 : decode cX7_isVoided 150 = .ok (.iconst 3, 1) := dk_6 (dk_at dksX7_isVoided_6 10 rfl rfl)
theorem dX7_isVoided_151 : decode cX7_isVoided 151 = .ok (.iload 4, 2) := dk_21 4 (dk_at dksX7_isVoided_6 11 rfl rfl)
theorem dX7_isVoided_153 : decode cX7_isVoided 153 = .ok (.imul, 1) := dk_104 (dk_at dksX7_isVoided_6 13 rfl rfl)
theorem dX7_isVoided_154 : decode cX7_isVoided 154 = .ok (.iaload, 1) := dk_46 (dk_at dksX7_isVoided_6 14 rfl rfl)
theorem dX7_isVoided_155 : decode cX7_isVoided 155 = .ok (.iload_n 1, 1) := dk_27 (dk_at dksX7_isVoided_6 15 rfl rfl)
theorem dX7_isVoided_156 : decode cX7_isVoided 156 = .ok (.if_icmp .ne 42, 3) := dk_160 0 42 (dk_at dksX7_isVoided_6 16 rfl rfl)
theorem dX7_isVoided_159 : decode cX7_isVoided 159 = .ok (.aload_n 0, 1) := dk_42 (dk_at dksX7_isVoided_6 19 rfl rfl)
theorem dX7_isVoided_160 : decode cX7_isVoided 160 = .ok (.iload_n 2, 1) := dk_28 (dk_at dksX7_isVoided_6 20 rfl rfl)
theorem dX7_isVoided_161 : decode cX7_isVoided 161 = .ok (.iload_n 3, 1) := dk_29 (dk_at dksX7_isVoided_6 21 rfl rfl)
theorem dX7_isVoided_162 : decode cX7_isVoided 162 = .ok (.aload_n 0, 1) := dk_42 (dk_at dksX7_isVoided_6 22 rfl rfl)
theorem dX7_isVoided_163 : decode cX7_isVoided 163 = .ok (.getfield 44, 3) := dk_180 0 44 (dk_at dksX7_isVoided_7 0 rfl rfl)
theorem dX7_isVoided_166 : decode cX7_isVoided 166 = .ok (.getfield 141, 3) := dk_180 0 141 (dk_at dksX7_isVoided_7 3 rfl rfl)
theorem dX7_isVoided_169 : decode cX7_isVoided 169 = .ok (.iconst 3, 1) := dk_6 (dk_at dksX7_isVoided_7 6 rfl rfl)
theorem dX7_isVoided_170 : decode cX7_isVoided 170 = .ok (.iload 4, 2) := dk_21 4 (dk_at dksX7_isVoided_7 7 rfl rfl)
theorem dX7_isVoided_172 : decode cX7_isVoided 172 = .ok (.imul, 1) := dk_104 (dk_at dksX7_isVoided_7 9 rfl rfl)
theorem dX7_isVoided_173 : decode cX7_isVoided 173 = .ok (.iconst 1, 1) := dk_4 (dk_at dksX7_isVoided_7 10 rfl rfl)
theorem dX7_isVoided_174 : decode cX7_isVoided 174 = .ok (.iadd, 1) := dk_96 (dk_at dksX7_isVoided_7 11 rfl rfl)
theorem dX7_isVoided_175 : decode cX7_isVoided 175 = .ok (.iaload, 1) := dk_46 (dk_at dksX7_isVoided_7 12 rfl rfl)
theorem dX7_isVoided_176 : decode cX7_isVoided 176 = .ok (.aload_n 0, 1) := dk_42 (dk_at dksX7_isVoided_7 13 rfl rfl)
theorem dX7_isVoided_177 : decode cX7_isVoided 177 = .ok (.getfield 44, 3) := dk_180 0 44 (dk_at dksX7_isVoided_7 14 rfl rfl)
theorem dX7_isVoided_180 : decode cX7_isVoided 180 = .ok (.getfield 141, 3) := dk_180 0 141 (dk_at dksX7_isVoided_7 17 rfl rfl)
theorem dX7_isVoided_183 : decode cX7_isVoided 183 = .ok (.iconst 3, 1) := dk_6 (dk_at dksX7_isVoided_7 20 rfl rfl)
theorem dX7_isVoided_184 : decode cX7_isVoided 184 = .ok (.iload 4, 2) := dk_21 4 (dk_at dksX7_isVoided_7 21 rfl rfl)
theorem dX7_isVoided_186 : decode cX7_isVoided 186 = .ok (.imul, 1) := dk_104 (dk_at dksX7_isVoided_7 23 rfl rfl)
theorem dX7_isVoided_187 : decode cX7_isVoided 187 = .ok (.iconst 2, 1) := dk_5 (dk_at dksX7_isVoided_8 0 rfl rfl)
theorem dX7_isVoided_188 : decode cX7_isVoided 188 = .ok (.iadd, 1) := dk_96 (dk_at dksX7_isVoided_8 1 rfl rfl)
theorem dX7_isVoided_189 : decode cX7_isVoided 189 = .ok (.iaload, 1) := dk_46 (dk_at dksX7_isVoided_8 2 rfl rfl)
theorem dX7_isVoided_190 : decode cX7_isVoided 190 = .ok (.invokevirtual 134, 3) := dk_182 0 134 (dk_at dksX7_isVoided_8 3 rfl rfl)
theorem dX7_isVoided_193 : decode cX7_isVoided 193 = .ok (.ifCond .eq 5, 3) := dk_153 0 5 (dk_at dksX7_isVoided_8 6 rfl rfl)
theorem dX7_isVoided_196 : decode cX7_isVoided 196 = .ok (.iconst 1, 1) := dk_4 (dk_at dksX7_isVoided_8 9 rfl rfl)
theorem dX7_isVoided_197 : decode cX7_isVoided 197 = .ok (.ireturn, 1) := dk_172 (dk_at dksX7_isVoided_8 10 rfl rfl)
theorem dX7_isVoided_198 : decode cX7_isVoided 198 = .ok (.iinc 4 1, 3) := dk_132 4 1 (dk_at dksX7_isVoided_8 11 rfl rfl)
theorem dX7_isVoided_201 : decode cX7_isVoided 201 = .ok (.goto (-70), 3) := dk_167 255 186 (dk_at dksX7_isVoided_8 14 rfl rfl)
theorem dX7_isVoided_204 : decode cX7_isVoided 204 = .ok (.iconst 0, 1) := dk_3 (dk_at dksX7_isVoided_8 17 rfl rfl)
theorem dX7_isVoided_205 : decode cX7_isVoided 205 = .ok (.ireturn, 1) := dk_172 (dk_at dksX7_isVoided_8 18 rfl rfl)
abbrev cX7_hears_2 : ByteArray := prog_15_method_9_code
def yX7_hears_2 : MethodName := ⟨RX7, "hears", "(I)Z"⟩
def dkwX7_hears_2_1 : List UInt8 := [27, 122, 4, 126, 4, 160, 0, 7, 4, 167, 0, 4, 3, 159, 0, 7, 4, 167, 0, 4, 3, 172]
abbrev dktX7_hears_2_1 : List UInt8 := dkwX7_hears_2_1 ++ []
def dkwX7_hears_2_0 : List UInt8 := [42, 180, 0, 40, 180, 0, 48, 27, 182, 0, 63, 192, 0, 67, 182, 0, 115, 42, 180, 0, 44, 180, 0, 119]
abbrev dktX7_hears_2_0 : List UInt8 := dkwX7_hears_2_0 ++ dktX7_hears_2_1
theorem dksX7_hears_2_0 : cX7_hears_2.data.toList.drop 0 = dktX7_hears_2_0 := by decide +kernel
theorem dksX7_hears_2_1 : cX7_hears_2.data.toList.drop 24 = dktX7_hears_2_1 := dk_seg dksX7_hears_2_0 24 rfl rfl
theorem dX7_hears_2_0 : decode cX7_hears_2 0 = .ok (.aload_n 0, 1) := dk_42 (dk_at dksX7_hears_2_0 0 rfl rfl)
theorem dX7_hears_2_1 : decode cX7_hears_2 1 = .ok (.getfield 40, 3) := dk_180 0 40 (dk_at dksX7_hears_2_0 1 rfl rfl)
theorem dX7_hears_2_4 : decode cX7_hears_2 4 = .ok (.getfield 48, 3) := dk_180 0 48 (dk_at dksX7_hears_2_0 4 rfl rfl)
theorem dX7_hears_2_7 : decode cX7_hears_2 7 = .ok (.iload_n 1, 1) := dk_27 (dk_at dksX7_hears_2_0 7 rfl rfl)
theorem dX7_hears_2_8 : decode cX7_hears_2 8 = .ok (.invokevirtual 63, 3) := dk_182 0 63 (dk_at dksX7_hears_2_0 8 rfl rfl)
theorem dX7_hears_2_11 : decode cX7_hears_2 11 = .ok (.checkcast 67, 3) := dk_192 0 67 (dk_at dksX7_hears_2_0 11 rfl rfl)
theorem dX7_hears_2_14 : decode cX7_hears_2 14 = .ok (.invokevirtual 115, 3) := dk_182 0 115 (dk_at dksX7_hears_2_0 14 rfl rfl)
theorem dX7_hears_2_17 : decode cX7_hears_2 17 = .ok (.aload_n 0, 1) := dk_42 (dk_at dksX7_hears_2_0 17 rfl rfl)
theorem dX7_hears_2_18 : decode cX7_hears_2 18 = .ok (.getfield 44, 3) := dk_180 0 44 (dk_at dksX7_hears_2_0 18 rfl rfl)
theorem dX7_hears_2_21 : decode cX7_hears_2 21 = .ok (.getfield 119, 3) := dk_180 0 119 (dk_at dksX7_hears_2_0 21 rfl rfl)
theorem dX7_hears_2_24 : decode cX7_hears_2 24 = .ok (.iload_n 1, 1) := dk_27 (dk_at dksX7_hears_2_1 0 rfl rfl)
theorem dX7_hears_2_25 : decode cX7_hears_2 25 = .ok (.ishr, 1) := dk_122 (dk_at dksX7_hears_2_1 1 rfl rfl)
theorem dX7_hears_2_26 : decode cX7_hears_2 26 = .ok (.iconst 1, 1) := dk_4 (dk_at dksX7_hears_2_1 2 rfl rfl)
theorem dX7_hears_2_27 : decode cX7_hears_2 27 = .ok (.iand, 1) := dk_126 (dk_at dksX7_hears_2_1 3 rfl rfl)
theorem dX7_hears_2_28 : decode cX7_hears_2 28 = .ok (.iconst 1, 1) := dk_4 (dk_at dksX7_hears_2_1 4 rfl rfl)
theorem dX7_hears_2_29 : decode cX7_hears_2 29 = .ok (.if_icmp .ne 7, 3) := dk_160 0 7 (dk_at dksX7_hears_2_1 5 rfl rfl)
theorem dX7_hears_2_32 : decode cX7_hears_2 32 = .ok (.iconst 1, 1) := dk_4 (dk_at dksX7_hears_2_1 8 rfl rfl)
theorem dX7_hears_2_33 : decode cX7_hears_2 33 = .ok (.goto 4, 3) := dk_167 0 4 (dk_at dksX7_hears_2_1 9 rfl rfl)
theorem dX7_hears_2_36 : decode cX7_hears_2 36 = .ok (.iconst 0, 1) := dk_3 (dk_at dksX7_hears_2_1 12 rfl rfl)
theorem dX7_hears_2_37 : decode cX7_hears_2 37 = .ok (.if_icmp .eq 7, 3) := dk_159 0 7 (dk_at dksX7_hears_2_1 13 rfl rfl)
theorem dX7_hears_2_40 : decode cX7_hears_2 40 = .ok (.iconst 1, 1) := dk_4 (dk_at dksX7_hears_2_1 16 rfl rfl)
theorem dX7_hears_2_41 : decode cX7_hears_2 41 = .ok (.goto 4, 3) := dk_167 0 4 (dk_at dksX7_hears_2_1 17 rfl rfl)
theorem dX7_hears_2_44 : decode cX7_hears_2 44 = .ok (.iconst 0, 1) := dk_3 (dk_at dksX7_hears_2_1 20 rfl rfl)
theorem dX7_hears_2_45 : decode cX7_hears_2 45 = .ok (.ireturn, 1) := dk_172 (dk_at dksX7_hears_2_1 21 rfl rfl)
abbrev cX7_isReached : ByteArray := prog_15_method_10_code
def yX7_isReached : MethodName := ⟨RX7, "isReached", "(IIII)Z"⟩
def dkwX7_isReached_2 : List UInt8 := [21, 5, 96, 46, 182, 0, 122, 96, 21, 6, 163, 0, 5, 4, 172, 132, 5, 1, 167, 255, 193, 3, 172]
abbrev dktX7_isReached_2 : List UInt8 := dkwX7_isReached_2 ++ []
def dkwX7_isReached_1 : List UInt8 := [46, 54, 6, 21, 6, 28, 163, 0, 33, 21, 4, 42, 180, 0, 40, 29, 42, 180, 0, 9, 16, 7, 27, 104]
abbrev dktX7_isReached_1 : List UInt8 := dkwX7_isReached_1 ++ dktX7_isReached_2
def dkwX7_isReached_0 : List UInt8 := [3, 54, 5, 21, 5, 42, 27, 182, 0, 83, 162, 0, 59, 42, 180, 0, 15, 16, 7, 27, 104, 21, 5, 96]
abbrev dktX7_isReached_0 : List UInt8 := dkwX7_isReached_0 ++ dktX7_isReached_1
theorem dksX7_isReached_0 : cX7_isReached.data.toList.drop 0 = dktX7_isReached_0 := by decide +kernel
theorem dksX7_isReached_1 : cX7_isReached.data.toList.drop 24 = dktX7_isReached_1 := dk_seg dksX7_isReached_0 24 rfl rfl
theorem dksX7_isReached_2 : cX7_isReached.data.toList.drop 48 = dktX7_isReached_2 := dk_seg dksX7_isReached_1 24 rfl rfl
theorem dX7_isReached_0 : decode cX7_isReached 0 = .ok (.iconst 0, 1) := dk_3 (dk_at dksX7_isReached_0 0 rfl rfl)
theorem dX7_isReached_1 : decode cX7_isReached 1 = .ok (.istore 5, 2) := dk_54 5 (dk_at dksX7_isReached_0 1 rfl rfl)
theorem dX7_isReached_3 : decode cX7_isReached 3 = .ok (.iload 5, 2) := dk_21 5 (dk_at dksX7_isReached_0 3 rfl rfl)
theorem dX7_isReached_5 : decode cX7_isReached 5 = .ok (.aload_n 0, 1) := dk_42 (dk_at dksX7_isReached_0 5 rfl rfl)
theorem dX7_isReached_6 : decode cX7_isReached 6 = .ok (.iload_n 1, 1) := dk_27 (dk_at dksX7_isReached_0 6 rfl rfl)
theorem dX7_isReached_7 : decode cX7_isReached 7 = .ok (.invokevirtual 83, 3) := dk_182 0 83 (dk_at dksX7_isReached_0 7 rfl rfl)
theorem dX7_isReached_10 : decode cX7_isReached 10 = .ok (.if_icmp .ge 59, 3) := dk_162 0 59 (dk_at dksX7_isReached_0 10 rfl rfl)
theorem dX7_isReached_13 : decode cX7_isReached 13 = .ok (.aload_n 0, 1) := dk_42 (dk_at dksX7_isReached_0 13 rfl rfl)
theorem dX7_isReached_14 : decode cX7_isReached 14 = .ok (.getfield 15, 3) := dk_180 0 15 (dk_at dksX7_isReached_0 14 rfl rfl)
theorem dX7_isReached_17 : decode cX7_isReached 17 = .ok (.bipush 7, 2) := dk_16 7 (dk_at dksX7_isReached_0 17 rfl rfl)
theorem dX7_isReached_19 : decode cX7_isReached 19 = .ok (.iload_n 1, 1) := dk_27 (dk_at dksX7_isReached_0 19 rfl rfl)
theorem dX7_isReached_20 : decode cX7_isReached 20 = .ok (.imul, 1) := dk_104 (dk_at dksX7_isReached_0 20 rfl rfl)
theorem dX7_isReached_21 : decode cX7_isReached 21 = .ok (.iload 5, 2) := dk_21 5 (dk_at dksX7_isReached_0 21 rfl rfl)
theorem dX7_isReached_23 : decode cX7_isReached 23 = .ok (.iadd, 1) := dk_96 (dk_at dksX7_isReached_0 23 rfl rfl)
theorem dX7_isReached_24 : decode cX7_isReached 24 = .ok (.iaload, 1) := dk_46 (dk_at dksX7_isReached_1 0 rfl rfl)
theorem dX7_isReached_25 : decode cX7_isReached 25 = .ok (.istore 6, 2) := dk_54 6 (dk_at dksX7_isReached_1 1 rfl rfl)
theorem dX7_isReached_27 : decode cX7_isReached 27 = .ok (.iload 6, 2) := dk_21 6 (dk_at dksX7_isReached_1 3 rfl rfl)
theorem dX7_isReached_29 : decode cX7_isReached 29 = .ok (.iload_n 2, 1) := dk_28 (dk_at dksX7_isReached_1 5 rfl rfl)
theorem dX7_isReached_30 : decode cX7_isReached 30 = .ok (.if_icmp .gt 33, 3) := dk_163 0 33 (dk_at dksX7_isReached_1 6 rfl rfl)
theorem dX7_isReached_33 : decode cX7_isReached 33 = .ok (.iload 4, 2) := dk_21 4 (dk_at dksX7_isReached_1 9 rfl rfl)
theorem dX7_isReached_35 : decode cX7_isReached 35 = .ok (.aload_n 0, 1) := dk_42 (dk_at dksX7_isReached_1 11 rfl rfl)
theorem dX7_isReached_36 : decode cX7_isReached 36 = .ok (.getfield 40, 3) := dk_180 0 40 (dk_at dksX7_isReached_1 12 rfl rfl)
theorem dX7_isReached_39 : decode cX7_isReached 39 = .ok (.iload_n 3, 1) := dk_29 (dk_at dksX7_isReached_1 15 rfl rfl)
theorem dX7_isReached_40 : decode cX7_isReached 40 = .ok (.aload_n 0, 1) := dk_42 (dk_at dksX7_isReached_1 16 rfl rfl)
theorem dX7_isReached_41 : decode cX7_isReached 41 = .ok (.getfield 9, 3) := dk_180 0 9 (dk_at dksX7_isReached_1 17 rfl rfl)
theorem dX7_isReached_44 : decode cX7_isReached 44 = .ok (.bipush 7, 2) := dk_16 7 (dk_at dksX7_isReached_1 20 rfl rfl)
theorem dX7_isReached_46 : decode cX7_isReached 46 = .ok (.iload_n 1, 1) := dk_27 (dk_at dksX7_isReached_1 22 rfl rfl)
theorem dX7_isReached_47 : decode cX7_isReached 47 = .ok (.imul, 1) := dk_104 (dk_at dksX7_isReached_1 23 rfl rfl)
theorem dX7_isReached_48 : decode cX7_isReached 48 = .ok (.iload 5, 2) := dk_21 5 (dk_at dksX7_isReached_2 0 rfl rfl)
theorem dX7_isReached_50 : decode cX7_isReached 50 = .ok (.iadd, 1) := dk_96 (dk_at dksX7_isReached_2 2 rfl rfl)
theorem dX7_isReached_51 : decode cX7_isReached 51 = .ok (.iaload, 1) := dk_46 (dk_at dksX7_isReached_2 3 rfl rfl)
theorem dX7_isReached_52 : decode cX7_isReached 52 = .ok (.invokevirtual 122, 3) := dk_182 0 122 (dk_at dksX7_isReached_2 4 rfl rfl)
theorem dX7_isReached_55 : decode cX7_isReached 55 = .ok (.iadd, 1) := dk_96 (dk_at dksX7_isReached_2 7 rfl rfl)
theorem dX7_isReached_56 : decode cX7_isReached 56 = .ok (.iload 6, 2) := dk_21 6 (dk_at dksX7_isReached_2 8 rfl rfl)
theorem dX7_isReached_58 : decode cX7_isReached 58 = .ok (.if_icmp .gt 5, 3) := dk_163 0 5 (dk_at dksX7_isReached_2 10 rfl rfl)
theorem dX7_isReached_61 : decode cX7_isReached 61 = .ok (.iconst 1, 1) := dk_4 (dk_at dksX7_isReached_2 13 rfl rfl)
theorem dX7_isReached_62 : decode cX7_isReached 62 = .ok (.ireturn, 1) := dk_172 (dk_at dksX7_isReached_2 14 rfl rfl)
theorem dX7_isReached_63 : decode cX7_isReached 63 = .ok (.iinc 5 1, 3) := dk_132 5 1 (dk_at dksX7_isReached_2 15 rfl rfl)
theorem dX7_isReached_66 : decode cX7_isReached 66 = .ok (.goto (-63), 3) := dk_167 255 193 (dk_at dksX7_isReached_2 18 rfl rfl)
theorem dX7_isReached_69 : decode cX7_isReached 69 = .ok (.iconst 0, 1) := dk_3 (dk_at dksX7_isReached_2 21 rfl rfl)
theorem dX7_isReached_70 : decode cX7_isReached 70 = .ok (.ireturn, 1) := dk_172 (dk_at dksX7_isReached_2 22 rfl rfl)
abbrev cX7_three : ByteArray := prog_15_method_16_code
def yX7_three : MethodName := ⟨RX7, "three", "(II)I"⟩
def dkwX7_three_6 : List UInt8 := [3, 172]
abbrev dktX7_three_6 : List UInt8 := dkwX7_three_6 ++ []
def dkwX7_three_5 : List UInt8 := [4, 21, 5, 120, 128, 172, 132, 5, 1, 167, 255, 194, 132, 4, 1, 167, 255, 137, 132, 3, 1, 167, 255, 118]
abbrev dktX7_three_5 : List UInt8 := dkwX7_three_5 ++ dktX7_three_6
def dkwX7_three_4 : List UInt8 := [153, 0, 30, 42, 27, 21, 4, 21, 5, 28, 182, 0, 163, 153, 0, 17, 4, 29, 120, 4, 21, 4, 120, 128]
abbrev dktX7_three_4 : List UInt8 := dkwX7_three_4 ++ dktX7_three_5
def dkwX7_three_3 : List UInt8 := [162, 0, 59, 42, 27, 21, 5, 28, 182, 0, 160, 153, 0, 42, 42, 27, 29, 21, 5, 28, 182, 0, 163]
abbrev dktX7_three_3 : List UInt8 := dkwX7_three_3 ++ dktX7_three_4
def dkwX7_three_2 : List UInt8 := [21, 4, 28, 182, 0, 163, 154, 0, 6, 167, 0, 74, 21, 4, 4, 96, 54, 5, 21, 5, 42, 182, 0, 72]
abbrev dktX7_three_2 : List UInt8 := dkwX7_three_2 ++ dktX7_three_3
def dkwX7_three_1 : List UInt8 := [42, 27, 29, 28, 182, 0, 160, 153, 0, 100, 42, 27, 21, 4, 28, 182, 0, 160, 153, 0, 89, 42, 27, 29]
abbrev dktX7_three_1 : List UInt8 := dkwX7_three_1 ++ dktX7_three_2
def dkwX7_three_0 : List UInt8 := [3, 62, 29, 42, 182, 0, 72, 162, 0, 136, 29, 4, 96, 54, 4, 21, 4, 42, 182, 0, 72, 162, 0, 116]
abbrev dktX7_three_0 : List UInt8 := dkwX7_three_0 ++ dktX7_three_1
theorem dksX7_three_0 : cX7_three.data.toList.drop 0 = dktX7_three_0 := by decide +kernel
theorem dksX7_three_1 : cX7_three.data.toList.drop 24 = dktX7_three_1 := dk_seg dksX7_three_0 24 rfl rfl
theorem dksX7_three_2 : cX7_three.data.toList.drop 48 = dktX7_three_2 := dk_seg dksX7_three_1 24 rfl rfl
theorem dksX7_three_3 : cX7_three.data.toList.drop 72 = dktX7_three_3 := dk_seg dksX7_three_2 24 rfl rfl
theorem dksX7_three_4 : cX7_three.data.toList.drop 95 = dktX7_three_4 := dk_seg dksX7_three_3 23 rfl rfl
theorem dksX7_three_5 : cX7_three.data.toList.drop 119 = dktX7_three_5 := dk_seg dksX7_three_4 24 rfl rfl
theorem dksX7_three_6 : cX7_three.data.toList.drop 143 = dktX7_three_6 := dk_seg dksX7_three_5 24 rfl rfl
theorem dX7_three_0 : decode cX7_three 0 = .ok (.iconst 0, 1) := dk_3 (dk_at dksX7_three_0 0 rfl rfl)
theorem dX7_three_1 : decode cX7_three 1 = .ok (.istore_n 3, 1) := dk_62 (dk_at dksX7_three_0 1 rfl rfl)
theorem dX7_three_2 : decode cX7_three 2 = .ok (.iload_n 3, 1) := dk_29 (dk_at dksX7_three_0 2 rfl rfl)
theorem dX7_three_3 : decode cX7_three 3 = .ok (.aload_n 0, 1) := dk_42 (dk_at dksX7_three_0 3 rfl rfl)
theorem dX7_three_4 : decode cX7_three 4 = .ok (.invokevirtual 72, 3) := dk_182 0 72 (dk_at dksX7_three_0 4 rfl rfl)
theorem dX7_three_7 : decode cX7_three 7 = .ok (.if_icmp .ge 136, 3) := dk_162 0 136 (dk_at dksX7_three_0 7 rfl rfl)
theorem dX7_three_10 : decode cX7_three 10 = .ok (.iload_n 3, 1) := dk_29 (dk_at dksX7_three_0 10 rfl rfl)
theorem dX7_three_11 : decode cX7_three 11 = .ok (.iconst 1, 1) := dk_4 (dk_at dksX7_three_0 11 rfl rfl)
theorem dX7_three_12 : decode cX7_three 12 = .ok (.iadd, 1) := dk_96 (dk_at dksX7_three_0 12 rfl rfl)
theorem dX7_three_13 : decode cX7_three 13 = .ok (.istore 4, 2) := dk_54 4 (dk_at dksX7_three_0 13 rfl rfl)
theorem dX7_three_15 : decode cX7_three 15 = .ok (.iload 4, 2) := dk_21 4 (dk_at dksX7_three_0 15 rfl rfl)
theorem dX7_three_17 : decode cX7_three 17 = .ok (.aload_n 0, 1) := dk_42 (dk_at dksX7_three_0 17 rfl rfl)
theorem dX7_three_18 : decode cX7_three 18 = .ok (.invokevirtual 72, 3) := dk_182 0 72 (dk_at dksX7_three_0 18 rfl rfl)
theorem dX7_three_21 : decode cX7_three 21 = .ok (.if_icmp .ge 116, 3) := dk_162 0 116 (dk_at dksX7_three_0 21 rfl rfl)
theorem dX7_three_24 : decode cX7_three 24 = .ok (.aload_n 0, 1) := dk_42 (dk_at dksX7_three_1 0 rfl rfl)
theorem dX7_three_25 : decode cX7_three 25 = .ok (.iload_n 1, 1) := dk_27 (dk_at dksX7_three_1 1 rfl rfl)
theorem dX7_three_26 : decode cX7_three 26 = .ok (.iload_n 3, 1) := dk_29 (dk_at dksX7_three_1 2 rfl rfl)
theorem dX7_three_27 : decode cX7_three 27 = .ok (.iload_n 2, 1) := dk_28 (dk_at dksX7_three_1 3 rfl rfl)
theorem dX7_three_28 : decode cX7_three 28 = .ok (.invokevirtual 160, 3) := dk_182 0 160 (dk_at dksX7_three_1 4 rfl rfl)
theorem dX7_three_31 : decode cX7_three 31 = .ok (.ifCond .eq 100, 3) := dk_153 0 100 (dk_at dksX7_three_1 7 rfl rfl)
theorem dX7_three_34 : decode cX7_three 34 = .ok (.aload_n 0, 1) := dk_42 (dk_at dksX7_three_1 10 rfl rfl)
theorem dX7_three_35 : decode cX7_three 35 = .ok (.iload_n 1, 1) := dk_27 (dk_at dksX7_three_1 11 rfl rfl)
theorem dX7_three_36 : decode cX7_three 36 = .ok (.iload 4, 2) := dk_21 4 (dk_at dksX7_three_1 12 rfl rfl)
theorem dX7_three_38 : decode cX7_three 38 = .ok (.iload_n 2, 1) := dk_28 (dk_at dksX7_three_1 14 rfl rfl)
theorem dX7_three_39 : decode cX7_three 39 = .ok (.invokevirtual 160, 3) := dk_182 0 160 (dk_at dksX7_three_1 15 rfl rfl)
theorem dX7_three_42 : decode cX7_three 42 = .ok (.ifCond .eq 89, 3) := dk_153 0 89 (dk_at dksX7_three_1 18 rfl rfl)
theorem dX7_three_45 : decode cX7_three 45 = .ok (.aload_n 0, 1) := dk_42 (dk_at dksX7_three_1 21 rfl rfl)
theorem dX7_three_46 : decode cX7_three 46 = .ok (.iload_n 1, 1) := dk_27 (dk_at dksX7_three_1 22 rfl rfl)
theorem dX7_three_47 : decode cX7_three 47 = .ok (.iload_n 3, 1) := dk_29 (dk_at dksX7_three_1 23 rfl rfl)
theorem dX7_three_48 : decode cX7_three 48 = .ok (.iload 4, 2) := dk_21 4 (dk_at dksX7_three_2 0 rfl rfl)
theorem dX7_three_50 : decode cX7_three 50 = .ok (.iload_n 2, 1) := dk_28 (dk_at dksX7_three_2 2 rfl rfl)
theorem dX7_three_51 : decode cX7_three 51 = .ok (.invokevirtual 163, 3) := dk_182 0 163 (dk_at dksX7_three_2 3 rfl rfl)
theorem dX7_three_54 : decode cX7_three 54 = .ok (.ifCond .ne 6, 3) := dk_154 0 6 (dk_at dksX7_three_2 6 rfl rfl)
theorem dX7_three_57 : decode cX7_three 57 = .ok (.goto 74, 3) := dk_167 0 74 (dk_at dksX7_three_2 9 rfl rfl)
theorem dX7_three_60 : decode cX7_three 60 = .ok (.iload 4, 2) := dk_21 4 (dk_at dksX7_three_2 12 rfl rfl)
theorem dX7_three_62 : decode cX7_three 62 = .ok (.iconst 1, 1) := dk_4 (dk_at dksX7_three_2 14 rfl rfl)
theorem dX7_three_63 : decode cX7_three 63 = .ok (.iadd, 1) := dk_96 (dk_at dksX7_three_2 15 rfl rfl)
theorem dX7_three_64 : decode cX7_three 64 = .ok (.istore 5, 2) := dk_54 5 (dk_at dksX7_three_2 16 rfl rfl)
theorem dX7_three_66 : decode cX7_three 66 = .ok (.iload 5, 2) := dk_21 5 (dk_at dksX7_three_2 18 rfl rfl)
theorem dX7_three_68 : decode cX7_three 68 = .ok (.aload_n 0, 1) := dk_42 (dk_at dksX7_three_2 20 rfl rfl)
theorem dX7_three_69 : decode cX7_three 69 = .ok (.invokevirtual 72, 3) := dk_182 0 72 (dk_at dksX7_three_2 21 rfl rfl)
theorem dX7_three_72 : decode cX7_three 72 = .ok (.if_icmp .ge 59, 3) := dk_162 0 59 (dk_at dksX7_three_3 0 rfl rfl)
theorem dX7_three_75 : decode cX7_three 75 = .ok (.aload_n 0, 1) := dk_42 (dk_at dksX7_three_3 3 rfl rfl)
theorem dX7_three_76 : decode cX7_three 76 = .ok (.iload_n 1, 1) := dk_27 (dk_at dksX7_three_3 4 rfl rfl)
theorem dX7_three_77 : decode cX7_three 77 = .ok (.iload 5, 2) := dk_21 5 (dk_at dksX7_three_3 5 rfl rfl)
theorem dX7_three_79 : decode cX7_three 79 = .ok (.iload_n 2, 1) := dk_28 (dk_at dksX7_three_3 7 rfl rfl)
theorem dX7_three_80 : decode cX7_three 80 = .ok (.invokevirtual 160, 3) := dk_182 0 160 (dk_at dksX7_three_3 8 rfl rfl)
theorem dX7_three_83 : decode cX7_three 83 = .ok (.ifCond .eq 42, 3) := dk_153 0 42 (dk_at dksX7_three_3 11 rfl rfl)
theorem dX7_three_86 : decode cX7_three 86 = .ok (.aload_n 0, 1) := dk_42 (dk_at dksX7_three_3 14 rfl rfl)
theorem dX7_three_87 : decode cX7_three 87 = .ok (.iload_n 1, 1) := dk_27 (dk_at dksX7_three_3 15 rfl rfl)
theorem dX7_three_88 : decode cX7_three 88 = .ok (.iload_n 3, 1) := dk_29 (dk_at dksX7_three_3 16 rfl rfl)
theorem dX7_three_89 : decode cX7_three 89 = .ok (.iload 5, 2) := dk_21 5 (dk_at dksX7_three_3 17 rfl rfl)
theorem dX7_three_91 : decode cX7_three 91 = .ok (.iload_n 2, 1) := dk_28 (dk_at dksX7_three_3 19 rfl rfl)
theorem dX7_three_92 : decode cX7_three 92 = .ok (.invokevirtual 163, 3) := dk_182 0 163 (dk_at dksX7_three_3 20 rfl rfl)
theorem dX7_three_95 : decode cX7_three 95 = .ok (.ifCond .eq 30, 3) := dk_153 0 30 (dk_at dksX7_three_4 0 rfl rfl)
theorem dX7_three_98 : decode cX7_three 98 = .ok (.aload_n 0, 1) := dk_42 (dk_at dksX7_three_4 3 rfl rfl)
theorem dX7_three_99 : decode cX7_three 99 = .ok (.iload_n 1, 1) := dk_27 (dk_at dksX7_three_4 4 rfl rfl)
theorem dX7_three_100 : decode cX7_three 100 = .ok (.iload 4, 2) := dk_21 4 (dk_at dksX7_three_4 5 rfl rfl)
theorem dX7_three_102 : decode cX7_three 102 = .ok (.iload 5, 2) := dk_21 5 (dk_at dksX7_three_4 7 rfl rfl)
theorem dX7_three_104 : decode cX7_three 104 = .ok (.iload_n 2, 1) := dk_28 (dk_at dksX7_three_4 9 rfl rfl)
theorem dX7_three_105 : decode cX7_three 105 = .ok (.invokevirtual 163, 3) := dk_182 0 163 (dk_at dksX7_three_4 10 rfl rfl)
theorem dX7_three_108 : decode cX7_three 108 = .ok (.ifCond .eq 17, 3) := dk_153 0 17 (dk_at dksX7_three_4 13 rfl rfl)
theorem dX7_three_111 : decode cX7_three 111 = .ok (.iconst 1, 1) := dk_4 (dk_at dksX7_three_4 16 rfl rfl)
theorem dX7_three_112 : decode cX7_three 112 = .ok (.iload_n 3, 1) := dk_29 (dk_at dksX7_three_4 17 rfl rfl)
theorem dX7_three_113 : decode cX7_three 113 = .ok (.ishl, 1) := dk_120 (dk_at dksX7_three_4 18 rfl rfl)
theorem dX7_three_114 : decode cX7_three 114 = .ok (.iconst 1, 1) := dk_4 (dk_at dksX7_three_4 19 rfl rfl)
theorem dX7_three_115 : decode cX7_three 115 = .ok (.iload 4, 2) := dk_21 4 (dk_at dksX7_three_4 20 rfl rfl)
theorem dX7_three_117 : decode cX7_three 117 = .ok (.ishl, 1) := dk_120 (dk_at dksX7_three_4 22 rfl rfl)
theorem dX7_three_118 : decode cX7_three 118 = .ok (.ior, 1) := dk_128 (dk_at dksX7_three_4 23 rfl rfl)
theorem dX7_three_119 : decode cX7_three 119 = .ok (.iconst 1, 1) := dk_4 (dk_at dksX7_three_5 0 rfl rfl)
theorem dX7_three_120 : decode cX7_three 120 = .ok (.iload 5, 2) := dk_21 5 (dk_at dksX7_three_5 1 rfl rfl)
theorem dX7_three_122 : decode cX7_three 122 = .ok (.ishl, 1) := dk_120 (dk_at dksX7_three_5 3 rfl rfl)
theorem dX7_three_123 : decode cX7_three 123 = .ok (.ior, 1) := dk_128 (dk_at dksX7_three_5 4 rfl rfl)
theorem dX7_three_124 : decode cX7_three 124 = .ok (.ireturn, 1) := dk_172 (dk_at dksX7_three_5 5 rfl rfl)
theorem dX7_three_125 : decode cX7_three 125 = .ok (.iinc 5 1, 3) := dk_132 5 1 (dk_at dksX7_three_5 6 rfl rfl)
theorem dX7_three_128 : decode cX7_three 128 = .ok (.goto (-62), 3) := dk_167 255 194 (dk_at dksX7_three_5 9 rfl rfl)
theorem dX7_three_131 : decode cX7_three 131 = .ok (.iinc 4 1, 3) := dk_132 4 1 (dk_at dksX7_three_5 12 rfl rfl)
theorem dX7_three_134 : decode cX7_three 134 = .ok (.goto (-119), 3) := dk_167 255 137 (dk_at dksX7_three_5 15 rfl rfl)
theorem dX7_three_137 : decode cX7_three 137 = .ok (.iinc 3 1, 3) := dk_132 3 1 (dk_at dksX7_three_5 18 rfl rfl)
theorem dX7_three_140 : decode cX7_three 140 = .ok (.goto (-138), 3) := dk_167 255 118 (dk_at dksX7_three_5 21 rfl rfl)
theorem dX7_three_143 : decode cX7_three 143 = .ok (.iconst 0, 1) := dk_3 (dk_at dksX7_three_6 0 rfl rfl)
theorem dX7_three_144 : decode cX7_three 144 = .ok (.ireturn, 1) := dk_172 (dk_at dksX7_three_6 1 rfl rfl)
abbrev cX7_isOne : ByteArray := prog_15_method_14_code
def yX7_isOne : MethodName := ⟨RX7, "isOne", "(III)Z"⟩
def dkwX7_isOne_1 : List UInt8 := [51, 154, 0, 18, 42, 180, 0, 21, 21, 4, 46, 29, 163, 0, 7, 4, 167, 0, 4, 3, 172]
abbrev dktX7_isOne_1 : List UInt8 := dkwX7_isOne_1 ++ []
def dkwX7_isOne_0 : List UInt8 := [8, 27, 104, 28, 96, 54, 4, 42, 180, 0, 18, 21, 4, 46, 4, 160, 0, 28, 42, 180, 0, 36, 21, 4]
abbrev dktX7_isOne_0 : List UInt8 := dkwX7_isOne_0 ++ dktX7_isOne_1
theorem dksX7_isOne_0 : cX7_isOne.data.toList.drop 0 = dktX7_isOne_0 := by decide +kernel
theorem dksX7_isOne_1 : cX7_isOne.data.toList.drop 24 = dktX7_isOne_1 := dk_seg dksX7_isOne_0 24 rfl rfl
theorem dX7_isOne_0 : decode cX7_isOne 0 = .ok (.iconst 5, 1) := dk_8 (dk_at dksX7_isOne_0 0 rfl rfl)
theorem dX7_isOne_1 : decode cX7_isOne 1 = .ok (.iload_n 1, 1) := dk_27 (dk_at dksX7_isOne_0 1 rfl rfl)
theorem dX7_isOne_2 : decode cX7_isOne 2 = .ok (.imul, 1) := dk_104 (dk_at dksX7_isOne_0 2 rfl rfl)
theorem dX7_isOne_3 : decode cX7_isOne 3 = .ok (.iload_n 2, 1) := dk_28 (dk_at dksX7_isOne_0 3 rfl rfl)
theorem dX7_isOne_4 : decode cX7_isOne 4 = .ok (.iadd, 1) := dk_96 (dk_at dksX7_isOne_0 4 rfl rfl)
theorem dX7_isOne_5 : decode cX7_isOne 5 = .ok (.istore 4, 2) := dk_54 4 (dk_at dksX7_isOne_0 5 rfl rfl)
theorem dX7_isOne_7 : decode cX7_isOne 7 = .ok (.aload_n 0, 1) := dk_42 (dk_at dksX7_isOne_0 7 rfl rfl)
theorem dX7_isOne_8 : decode cX7_isOne 8 = .ok (.getfield 18, 3) := dk_180 0 18 (dk_at dksX7_isOne_0 8 rfl rfl)
theorem dX7_isOne_11 : decode cX7_isOne 11 = .ok (.iload 4, 2) := dk_21 4 (dk_at dksX7_isOne_0 11 rfl rfl)
theorem dX7_isOne_13 : decode cX7_isOne 13 = .ok (.iaload, 1) := dk_46 (dk_at dksX7_isOne_0 13 rfl rfl)
theorem dX7_isOne_14 : decode cX7_isOne 14 = .ok (.iconst 1, 1) := dk_4 (dk_at dksX7_isOne_0 14 rfl rfl)
theorem dX7_isOne_15 : decode cX7_isOne 15 = .ok (.if_icmp .ne 28, 3) := dk_160 0 28 (dk_at dksX7_isOne_0 15 rfl rfl)
theorem dX7_isOne_18 : decode cX7_isOne 18 = .ok (.aload_n 0, 1) := dk_42 (dk_at dksX7_isOne_0 18 rfl rfl)
theorem dX7_isOne_19 : decode cX7_isOne 19 = .ok (.getfield 36, 3) := dk_180 0 36 (dk_at dksX7_isOne_0 19 rfl rfl)
theorem dX7_isOne_22 : decode cX7_isOne 22 = .ok (.iload 4, 2) := dk_21 4 (dk_at dksX7_isOne_0 22 rfl rfl)
theorem dX7_isOne_24 : decode cX7_isOne 24 = .ok (.baload, 1) := dk_51 (dk_at dksX7_isOne_1 0 rfl rfl)
theorem dX7_isOne_25 : decode cX7_isOne 25 = .ok (.ifCond .ne 18, 3) := dk_154 0 18 (dk_at dksX7_isOne_1 1 rfl rfl)
theorem dX7_isOne_28 : decode cX7_isOne 28 = .ok (.aload_n 0, 1) := dk_42 (dk_at dksX7_isOne_1 4 rfl rfl)
theorem dX7_isOne_29 : decode cX7_isOne 29 = .ok (.getfield 21, 3) := dk_180 0 21 (dk_at dksX7_isOne_1 5 rfl rfl)
theorem dX7_isOne_32 : decode cX7_isOne 32 = .ok (.iload 4, 2) := dk_21 4 (dk_at dksX7_isOne_1 8 rfl rfl)
theorem dX7_isOne_34 : decode cX7_isOne 34 = .ok (.iaload, 1) := dk_46 (dk_at dksX7_isOne_1 10 rfl rfl)
theorem dX7_isOne_35 : decode cX7_isOne 35 = .ok (.iload_n 3, 1) := dk_29 (dk_at dksX7_isOne_1 11 rfl rfl)
theorem dX7_isOne_36 : decode cX7_isOne 36 = .ok (.if_icmp .gt 7, 3) := dk_163 0 7 (dk_at dksX7_isOne_1 12 rfl rfl)
theorem dX7_isOne_39 : decode cX7_isOne 39 = .ok (.iconst 1, 1) := dk_4 (dk_at dksX7_isOne_1 15 rfl rfl)
theorem dX7_isOne_40 : decode cX7_isOne 40 = .ok (.goto 4, 3) := dk_167 0 4 (dk_at dksX7_isOne_1 16 rfl rfl)
theorem dX7_isOne_43 : decode cX7_isOne 43 = .ok (.iconst 0, 1) := dk_3 (dk_at dksX7_isOne_1 19 rfl rfl)
theorem dX7_isOne_44 : decode cX7_isOne 44 = .ok (.ireturn, 1) := dk_172 (dk_at dksX7_isOne_1 20 rfl rfl)
abbrev cX7_areApart : ByteArray := prog_15_method_15_code
def yX7_areApart : MethodName := ⟨RX7, "areApart", "(IIII)Z"⟩
def dkwX7_areApart_1 : List UInt8 := [180, 0, 27, 8, 28, 104, 29, 96, 46, 21, 4, 164, 0, 7, 4, 167, 0, 4, 3, 172]
abbrev dktX7_areApart_1 : List UInt8 := dkwX7_areApart_1 ++ []
def dkwX7_areApart_0 : List UInt8 := [42, 180, 0, 24, 8, 27, 104, 28, 96, 46, 42, 180, 0, 24, 8, 27, 104, 29, 96, 46, 159, 0, 22, 42]
abbrev dktX7_areApart_0 : List UInt8 := dkwX7_areApart_0 ++ dktX7_areApart_1
theorem dksX7_areApart_0 : cX7_areApart.data.toList.drop 0 = dktX7_areApart_0 := by decide +kernel
theorem dksX7_areApart_1 : cX7_areApart.data.toList.drop 24 = dktX7_areApart_1 := dk_seg dksX7_areApart_0 24 rfl rfl
theorem dX7_areApart_0 : decode cX7_areApart 0 = .ok (.aload_n 0, 1) := dk_42 (dk_at dksX7_areApart_0 0 rfl rfl)
theorem dX7_areApart_1 : decode cX7_areApart 1 = .ok (.getfield 24, 3) := dk_180 0 24 (dk_at dksX7_areApart_0 1 rfl rfl)
theorem dX7_areApart_4 : decode cX7_areApart 4 = .ok (.iconst 5, 1) := dk_8 (dk_at dksX7_areApart_0 4 rfl rfl)
theorem dX7_areApart_5 : decode cX7_areApart 5 = .ok (.iload_n 1, 1) := dk_27 (dk_at dksX7_areApart_0 5 rfl rfl)
theorem dX7_areApart_6 : decode cX7_areApart 6 = .ok (.imul, 1) := dk_104 (dk_at dksX7_areApart_0 6 rfl rfl)
theorem dX7_areApart_7 : decode cX7_areApart 7 = .ok (.iload_n 2, 1) := dk_28 (dk_at dksX7_areApart_0 7 rfl rfl)
theorem dX7_areApart_8 : decode cX7_areApart 8 = .ok (.iadd, 1) := dk_96 (dk_at dksX7_areApart_0 8 rfl rfl)
theorem dX7_areApart_9 : decode cX7_areApart 9 = .ok (.iaload, 1) := dk_46 (dk_at dksX7_areApart_0 9 rfl rfl)
theorem dX7_areApart_10 : decode cX7_areApart 10 = .ok (.aload_n 0, 1) := dk_42 (dk_at dksX7_areApart_0 10 rfl rfl)
theorem dX7_areApart_11 : decode cX7_areApart 11 = .ok (.getfield 24, 3) := dk_180 0 24 (dk_at dksX7_areApart_0 11 rfl rfl)
theorem dX7_areApart_14 : decode cX7_areApart 14 = .ok (.iconst 5, 1) := dk_8 (dk_at dksX7_areApart_0 14 rfl rfl)
theorem dX7_areApart_15 : decode cX7_areApart 15 = .ok (.iload_n 1, 1) := dk_27 (dk_at dksX7_areApart_0 15 rfl rfl)
theorem dX7_areApart_16 : decode cX7_areApart 16 = .ok (.imul, 1) := dk_104 (dk_at dksX7_areApart_0 16 rfl rfl)
theorem dX7_areApart_17 : decode cX7_areApart 17 = .ok (.iload_n 3, 1) := dk_29 (dk_at dksX7_areApart_0 17 rfl rfl)
theorem dX7_areApart_18 : decode cX7_areApart 18 = .ok (.iadd, 1) := dk_96 (dk_at dksX7_areApart_0 18 rfl rfl)
theorem dX7_areApart_19 : decode cX7_areApart 19 = .ok (.iaload, 1) := dk_46 (dk_at dksX7_areApart_0 19 rfl rfl)
theorem dX7_areApart_20 : decode cX7_areApart 20 = .ok (.if_icmp .eq 22, 3) := dk_159 0 22 (dk_at dksX7_areApart_0 20 rfl rfl)
theorem dX7_areApart_23 : decode cX7_areApart 23 = .ok (.aload_n 0, 1) := dk_42 (dk_at dksX7_areApart_0 23 rfl rfl)
theorem dX7_areApart_24 : decode cX7_areApart 24 = .ok (.getfield 27, 3) := dk_180 0 27 (dk_at dksX7_areApart_1 0 rfl rfl)
theorem dX7_areApart_27 : decode cX7_areApart 27 = .ok (.iconst 5, 1) := dk_8 (dk_at dksX7_areApart_1 3 rfl rfl)
theorem dX7_areApart_28 : decode cX7_areApart 28 = .ok (.iload_n 2, 1) := dk_28 (dk_at dksX7_areApart_1 4 rfl rfl)
theorem dX7_areApart_29 : decode cX7_areApart 29 = .ok (.imul, 1) := dk_104 (dk_at dksX7_areApart_1 5 rfl rfl)
theorem dX7_areApart_30 : decode cX7_areApart 30 = .ok (.iload_n 3, 1) := dk_29 (dk_at dksX7_areApart_1 6 rfl rfl)
theorem dX7_areApart_31 : decode cX7_areApart 31 = .ok (.iadd, 1) := dk_96 (dk_at dksX7_areApart_1 7 rfl rfl)
theorem dX7_areApart_32 : decode cX7_areApart 32 = .ok (.iaload, 1) := dk_46 (dk_at dksX7_areApart_1 8 rfl rfl)
theorem dX7_areApart_33 : decode cX7_areApart 33 = .ok (.iload 4, 2) := dk_21 4 (dk_at dksX7_areApart_1 9 rfl rfl)
theorem dX7_areApart_35 : decode cX7_areApart 35 = .ok (.if_icmp .le 7, 3) := dk_164 0 7 (dk_at dksX7_areApart_1 11 rfl rfl)
theorem dX7_areApart_38 : decode cX7_areApart 38 = .ok (.iconst 1, 1) := dk_4 (dk_at dksX7_areApart_1 14 rfl rfl)
theorem dX7_areApart_39 : decode cX7_areApart 39 = .ok (.goto 4, 3) := dk_167 0 4 (dk_at dksX7_areApart_1 15 rfl rfl)
theorem dX7_areApart_42 : decode cX7_areApart 42 = .ok (.iconst 0, 1) := dk_3 (dk_at dksX7_areApart_1 18 rfl rfl)
theorem dX7_areApart_43 : decode cX7_areApart 43 = .ok (.ireturn, 1) := dk_172 (dk_at dksX7_areApart_1 19 rfl rfl)
theorem q132 : (Jvm.Cond.initialized "ApartBench$Trial") ∈ lw_all := lw_g (lw_at lw_m1 27 rfl) rfl
theorem q535 : (Jvm.Cond.fieldLinkNest "ApartBench$Trial" (90 : Nat) "ApartBench$Land" "road" "[I" "ApartBench") ∈ lw_tbl := lw_at lw_m2 190 rfl
theorem q540 : (Jvm.Cond.fieldLinkNest "ApartBench$Trial" (48 : Nat) "ApartBench$Land" "judges" "Ljava/util/ArrayList;" "ApartBench") ∈ lw_tbl := lw_at lw_m2 195 rfl
theorem q544 : (Jvm.Cond.fieldLinkNest "ApartBench$Trial" (60 : Nat) "ApartBench$Land" "cases" "Ljava/util/ArrayList;" "ApartBench") ∈ lw_tbl := lw_at lw_m2 199 rfl
theorem q584 : (Jvm.Cond.fieldLinkNest "ApartBench$Trial" (80 : Nat) "ApartBench$State" "day" "[I" "ApartBench") ∈ lw_tbl := lw_at lw_m2 239 rfl
theorem q587 : (Jvm.Cond.fieldLinkNest "ApartBench$Trial" (141 : Nat) "ApartBench$State" "word" "[I" "ApartBench") ∈ lw_tbl := lw_at lw_m3 2 rfl
theorem q591 : (Jvm.Cond.fieldLinkNest "ApartBench$Trial" (147 : Nat) "ApartBench$State" "flood" "[I" "ApartBench") ∈ lw_tbl := lw_at lw_m3 6 rfl
theorem q593 : (Jvm.Cond.fieldLinkNest "ApartBench$Trial" (153 : Nat) "ApartBench$State" "inns" "I" "ApartBench") ∈ lw_tbl := lw_at lw_m3 8 rfl
theorem q596 : (Jvm.Cond.fieldLinkNest "ApartBench$Trial" (138 : Nat) "ApartBench$State" "words" "I" "ApartBench") ∈ lw_tbl := lw_at lw_m3 11 rfl
theorem q601 : (Jvm.Cond.fieldLinkNest "ApartBench$Trial" (144 : Nat) "ApartBench$State" "floods" "I" "ApartBench") ∈ lw_tbl := lw_at lw_m3 16 rfl
theorem q604 : (Jvm.Cond.fieldLinkNest "ApartBench$Trial" (74 : Nat) "ApartBench$State" "back" "I" "ApartBench") ∈ lw_tbl := lw_at lw_m3 19 rfl
theorem q607 : (Jvm.Cond.fieldLinkNest "ApartBench$Trial" (119 : Nat) "ApartBench$State" "turned" "I" "ApartBench") ∈ lw_tbl := lw_at lw_m3 22 rfl
theorem q610 : (Jvm.Cond.fieldLinkNest "ApartBench$Trial" (131 : Nat) "ApartBench$State" "mules" "I" "ApartBench") ∈ lw_tbl := lw_at lw_m3 25 rfl
theorem q613 : (Jvm.Cond.fieldLinkNest "ApartBench$Trial" (128 : Nat) "ApartBench$State" "muleOf" "I" "ApartBench") ∈ lw_tbl := lw_at lw_m3 28 rfl
theorem q680 : (Jvm.Cond.selects "ApartBench$Trial" ({ cls := "java/lang/Object", name := "getClass", desc := "()Ljava/lang/Class;" } : Jvm.MethodName) ({ cls := "java/lang/Object", name := "getClass", desc := "()Ljava/lang/Class;" } : Jvm.MethodName)) ∈ lw_all := lw_g (lw_at lw_m3 95 rfl) rfl
theorem q734 : (Jvm.Cond.instantiable "ApartBench$Trial" (11 : Nat)) ∈ lw_all := lw_g (lw_at lw_m3 149 rfl) rfl
theorem q736 : (Jvm.Cond.instanceMethod ({ cls := "ApartBench$Trial", name := "<init>", desc := "(LApartBench$Land;LApartBench$State;)V" } : Jvm.MethodName)) ∈ lw_all := lw_g (lw_at lw_m3 151 rfl) rfl
theorem q737 : (Jvm.Cond.code ({ cls := "ApartBench$Trial", name := "<init>", desc := "(LApartBench$Land;LApartBench$State;)V" } : Jvm.MethodName) prog_15_method_1_code (3 : Nat) (Option.none : Option Jvm.ClassFile.FieldType)) ∈ lw_all := lw_g (lw_at lw_m3 152 rfl) rfl
theorem q738 : (Jvm.Cond.methodLink "ApartBench$Trial" (3 : Nat) ({ cls := "java/lang/Object", name := "<init>", desc := "()V" } : Jvm.MethodName)) ∈ lw_all := lw_g (lw_at lw_m3 153 rfl) rfl
theorem q739 : (Jvm.Cond.fieldLink "ApartBench$Trial" (40 : Nat) "ApartBench$Trial" "land" "LApartBench$Land;") ∈ lw_all := lw_g (lw_at lw_m3 154 rfl) rfl
theorem q740 : (Jvm.Cond.fieldLink "ApartBench$Trial" (44 : Nat) "ApartBench$Trial" "state" "LApartBench$State;") ∈ lw_all := lw_g (lw_at lw_m3 155 rfl) rfl
theorem q741 : (Jvm.Cond.fieldLink "ApartBench$Trial" (9 : Nat) "ApartBench$Trial" "stopTown" "[I") ∈ lw_all := lw_g (lw_at lw_m3 156 rfl) rfl
theorem q743 : (Jvm.Cond.fieldLink "ApartBench$Trial" (15 : Nat) "ApartBench$Trial" "stopDay" "[I") ∈ lw_all := lw_g (lw_at lw_m3 158 rfl) rfl
theorem q745 : (Jvm.Cond.fieldLink "ApartBench$Trial" (18 : Nat) "ApartBench$Trial" "said" "[I") ∈ lw_all := lw_g (lw_at lw_m3 160 rfl) rfl
theorem q747 : (Jvm.Cond.fieldLink "ApartBench$Trial" (21 : Nat) "ApartBench$Trial" "saidOn" "[I") ∈ lw_all := lw_g (lw_at lw_m3 162 rfl) rfl
theorem q749 : (Jvm.Cond.fieldLink "ApartBench$Trial" (24 : Nat) "ApartBench$Trial" "saidIn" "[I") ∈ lw_all := lw_g (lw_at lw_m3 164 rfl) rfl
theorem q751 : (Jvm.Cond.fieldLink "ApartBench$Trial" (27 : Nat) "ApartBench$Trial" "met" "[I") ∈ lw_all := lw_g (lw_at lw_m3 166 rfl) rfl
theorem q753 : (Jvm.Cond.fieldLink "ApartBench$Trial" (30 : Nat) "ApartBench$Trial" "guiltyOn" "[I") ∈ lw_all := lw_g (lw_at lw_m3 168 rfl) rfl
theorem q755 : (Jvm.Cond.fieldLink "ApartBench$Trial" (33 : Nat) "ApartBench$Trial" "guiltyBy" "[I") ∈ lw_all := lw_g (lw_at lw_m3 170 rfl) rfl
theorem q757 : (Jvm.Cond.fieldLink "ApartBench$Trial" (36 : Nat) "ApartBench$Trial" "isVoid" "[Z") ∈ lw_all := lw_g (lw_at lw_m3 172 rfl) rfl
theorem q759 : (Jvm.Cond.laysFinal "ApartBench$Trial" "ApartBench$Trial" "land" "LApartBench$Land;") ∈ lw_all := lw_g (lw_at lw_m3 174 rfl) rfl
theorem q760 : (Jvm.Cond.soleField "ApartBench$Trial" "land") ∈ lw_all := lw_g (lw_at lw_m3 175 rfl) rfl
theorem q761 : (Jvm.Cond.laysFinal "ApartBench$Trial" "ApartBench$Trial" "state" "LApartBench$State;") ∈ lw_all := lw_g (lw_at lw_m3 176 rfl) rfl
theorem q762 : (Jvm.Cond.soleField "ApartBench$Trial" "state") ∈ lw_all := lw_g (lw_at lw_m3 177 rfl) rfl
theorem q763 : (Jvm.Cond.laysFinal "ApartBench$Trial" "ApartBench$Trial" "stopTown" "[I") ∈ lw_all := lw_g (lw_at lw_m3 178 rfl) rfl
theorem q764 : (Jvm.Cond.soleField "ApartBench$Trial" "stopTown") ∈ lw_all := lw_g (lw_at lw_m3 179 rfl) rfl
theorem q765 : (Jvm.Cond.laysFinal "ApartBench$Trial" "ApartBench$Trial" "stopDay" "[I") ∈ lw_all := lw_g (lw_at lw_m3 180 rfl) rfl
theorem q766 : (Jvm.Cond.soleField "ApartBench$Trial" "stopDay") ∈ lw_all := lw_g (lw_at lw_m3 181 rfl) rfl
theorem q767 : (Jvm.Cond.laysFinal "ApartBench$Trial" "ApartBench$Trial" "said" "[I") ∈ lw_all := lw_g (lw_at lw_m3 182 rfl) rfl
theorem q768 : (Jvm.Cond.soleField "ApartBench$Trial" "said") ∈ lw_all := lw_g (lw_at lw_m3 183 rfl) rfl
theorem q769 : (Jvm.Cond.laysFinal "ApartBench$Trial" "ApartBench$Trial" "saidOn" "[I") ∈ lw_all := lw_g (lw_at lw_m3 184 rfl) rfl
theorem q770 : (Jvm.Cond.soleField "ApartBench$Trial" "saidOn") ∈ lw_all := lw_g (lw_at lw_m3 185 rfl) rfl
theorem q771 : (Jvm.Cond.laysFinal "ApartBench$Trial" "ApartBench$Trial" "saidIn" "[I") ∈ lw_all := lw_g (lw_at lw_m3 186 rfl) rfl
theorem q772 : (Jvm.Cond.soleField "ApartBench$Trial" "saidIn") ∈ lw_all := lw_g (lw_at lw_m3 187 rfl) rfl
theorem q773 : (Jvm.Cond.laysFinal "ApartBench$Trial" "ApartBench$Trial" "met" "[I") ∈ lw_all := lw_g (lw_at lw_m3 188 rfl) rfl
theorem q774 : (Jvm.Cond.soleField "ApartBench$Trial" "met") ∈ lw_all := lw_g (lw_at lw_m3 189 rfl) rfl
theorem q775 : (Jvm.Cond.laysFinal "ApartBench$Trial" "ApartBench$Trial" "guiltyOn" "[I") ∈ lw_all := lw_g (lw_at lw_m3 190 rfl) rfl
theorem q776 : (Jvm.Cond.soleField "ApartBench$Trial" "guiltyOn") ∈ lw_all := lw_g (lw_at lw_m3 191 rfl) rfl
theorem q777 : (Jvm.Cond.laysFinal "ApartBench$Trial" "ApartBench$Trial" "guiltyBy" "[I") ∈ lw_all := lw_g (lw_at lw_m3 192 rfl) rfl
theorem q778 : (Jvm.Cond.soleField "ApartBench$Trial" "guiltyBy") ∈ lw_all := lw_g (lw_at lw_m3 193 rfl) rfl
theorem q779 : (Jvm.Cond.laysFinal "ApartBench$Trial" "ApartBench$Trial" "isVoid" "[Z") ∈ lw_all := lw_g (lw_at lw_m3 194 rfl) rfl
theorem q780 : (Jvm.Cond.soleField "ApartBench$Trial" "isVoid") ∈ lw_all := lw_g (lw_at lw_m3 195 rfl) rfl
theorem q781 : (Jvm.Cond.superclass "ApartBench$Trial" "java/lang/Object") ∈ lw_all := lw_g (lw_at lw_m3 196 rfl) rfl
theorem q1290 : (Jvm.Cond.instanceMethod ({ cls := "ApartBench$Trial", name := "all", desc := "()I" } : Jvm.MethodName)) ∈ lw_all := lw_g (lw_at lw_m5 225 rfl) rfl
theorem q1291 : (Jvm.Cond.selects "ApartBench$Trial" ({ cls := "ApartBench$Trial", name := "all", desc := "()I" } : Jvm.MethodName) ({ cls := "ApartBench$Trial", name := "all", desc := "()I" } : Jvm.MethodName)) ∈ lw_all := lw_g (lw_at lw_m5 226 rfl) rfl
theorem q1292 : (Jvm.Cond.code ({ cls := "ApartBench$Trial", name := "all", desc := "()I" } : Jvm.MethodName) prog_15_method_17_code (5 : Nat) (Option.some Jvm.ClassFile.FieldType.int)) ∈ lw_all := lw_g (lw_at lw_m5 227 rfl) rfl
theorem q1293 : (Jvm.Cond.methodLink "ApartBench$Trial" (166 : Nat) ({ cls := "ApartBench$Trial", name := "goes", desc := "()V" } : Jvm.MethodName)) ∈ lw_all := lw_g (lw_at lw_m5 228 rfl) rfl
theorem q1294 : (Jvm.Cond.privateMethod ({ cls := "ApartBench$Trial", name := "goes", desc := "()V" } : Jvm.MethodName)) ∈ lw_tbl := lw_at lw_m5 229 rfl
theorem q1295 : (Jvm.Cond.instanceMethod ({ cls := "ApartBench$Trial", name := "goes", desc := "()V" } : Jvm.MethodName)) ∈ lw_all := lw_g (lw_at lw_m5 230 rfl) rfl
theorem q1296 : (Jvm.Cond.code ({ cls := "ApartBench$Trial", name := "goes", desc := "()V" } : Jvm.MethodName) prog_15_method_5_code (6 : Nat) (Option.none : Option Jvm.ClassFile.FieldType)) ∈ lw_all := lw_g (lw_at lw_m5 231 rfl) rfl
theorem q1297 : (Jvm.Cond.methodLink "ApartBench$Trial" (72 : Nat) ({ cls := "ApartBench$Trial", name := "judges", desc := "()I" } : Jvm.MethodName)) ∈ lw_all := lw_g (lw_at lw_m5 232 rfl) rfl
theorem q1298 : (Jvm.Cond.privateMethod ({ cls := "ApartBench$Trial", name := "judges", desc := "()I" } : Jvm.MethodName)) ∈ lw_tbl := lw_at lw_m5 233 rfl
theorem q1299 : (Jvm.Cond.instanceMethod ({ cls := "ApartBench$Trial", name := "judges", desc := "()I" } : Jvm.MethodName)) ∈ lw_all := lw_g (lw_at lw_m5 234 rfl) rfl
theorem q1300 : (Jvm.Cond.code ({ cls := "ApartBench$Trial", name := "judges", desc := "()I" } : Jvm.MethodName) prog_15_method_2_code (1 : Nat) (Option.some Jvm.ClassFile.FieldType.int)) ∈ lw_all := lw_g (lw_at lw_m5 235 rfl) rfl
theorem q1301 : (Jvm.Cond.methodLink "ApartBench$Trial" (54 : Nat) ({ cls := "java/util/ArrayList", name := "size", desc := "()I" } : Jvm.MethodName)) ∈ lw_all := lw_g (lw_at lw_m5 236 rfl) rfl
theorem q1302 : (Jvm.Cond.methodLink "ApartBench$Trial" (83 : Nat) ({ cls := "ApartBench$Trial", name := "towns", desc := "(I)I" } : Jvm.MethodName)) ∈ lw_all := lw_g (lw_at lw_m5 237 rfl) rfl
theorem q1303 : (Jvm.Cond.privateMethod ({ cls := "ApartBench$Trial", name := "towns", desc := "(I)I" } : Jvm.MethodName)) ∈ lw_tbl := lw_at lw_m5 238 rfl
theorem q1304 : (Jvm.Cond.instanceMethod ({ cls := "ApartBench$Trial", name := "towns", desc := "(I)I" } : Jvm.MethodName)) ∈ lw_all := lw_g (lw_at lw_m5 239 rfl) rfl
theorem q1305 : (Jvm.Cond.code ({ cls := "ApartBench$Trial", name := "towns", desc := "(I)I" } : Jvm.MethodName) prog_15_method_4_code (2 : Nat) (Option.some Jvm.ClassFile.FieldType.int)) ∈ lw_all := lw_g (lw_at lw_m6 0 rfl) rfl
theorem q1306 : (Jvm.Cond.methodLink "ApartBench$Trial" (63 : Nat) ({ cls := "java/util/ArrayList", name := "get", desc := "(I)Ljava/lang/Object;" } : Jvm.MethodName)) ∈ lw_all := lw_g (lw_at lw_m6 1 rfl) rfl
theorem q1307 : (Jvm.Cond.classLink "ApartBench$Trial" (67 : Nat) "ApartBench$Judge") ∈ lw_all := lw_g (lw_at lw_m6 2 rfl) rfl
theorem q1308 : (Jvm.Cond.methodLink "ApartBench$Trial" (69 : Nat) ({ cls := "ApartBench$Judge", name := "towns", desc := "()I" } : Jvm.MethodName)) ∈ lw_all := lw_g (lw_at lw_m6 3 rfl) rfl
theorem q1315 : (Jvm.Cond.methodLink "ApartBench$Trial" (86 : Nat) ({ cls := "ApartBench$Judge", name := "town", desc := "(IZ)I" } : Jvm.MethodName)) ∈ lw_all := lw_g (lw_at lw_m6 10 rfl) rfl
theorem q1322 : (Jvm.Cond.methodLink "ApartBench$Trial" (169 : Nat) ({ cls := "ApartBench$Trial", name := "hears", desc := "(II)V" } : Jvm.MethodName)) ∈ lw_all := lw_g (lw_at lw_m6 17 rfl) rfl
theorem q1323 : (Jvm.Cond.privateMethod ({ cls := "ApartBench$Trial", name := "hears", desc := "(II)V" } : Jvm.MethodName)) ∈ lw_tbl := lw_at lw_m6 18 rfl
theorem q1324 : (Jvm.Cond.instanceMethod ({ cls := "ApartBench$Trial", name := "hears", desc := "(II)V" } : Jvm.MethodName)) ∈ lw_all := lw_g (lw_at lw_m6 19 rfl) rfl
theorem q1325 : (Jvm.Cond.code ({ cls := "ApartBench$Trial", name := "hears", desc := "(II)V" } : Jvm.MethodName) prog_15_method_8_code (8 : Nat) (Option.none : Option Jvm.ClassFile.FieldType)) ∈ lw_all := lw_g (lw_at lw_m6 20 rfl) rfl
theorem q1326 : (Jvm.Cond.methodLink "ApartBench$Trial" (93 : Nat) ({ cls := "ApartBench$Trial", name := "at", desc := "(II)I" } : Jvm.MethodName)) ∈ lw_all := lw_g (lw_at lw_m6 21 rfl) rfl
theorem q1327 : (Jvm.Cond.instanceMethod ({ cls := "ApartBench$Trial", name := "at", desc := "(II)I" } : Jvm.MethodName)) ∈ lw_all := lw_g (lw_at lw_m6 22 rfl) rfl
theorem q1328 : (Jvm.Cond.selects "ApartBench$Trial" ({ cls := "ApartBench$Trial", name := "at", desc := "(II)I" } : Jvm.MethodName) ({ cls := "ApartBench$Trial", name := "at", desc := "(II)I" } : Jvm.MethodName)) ∈ lw_all := lw_g (lw_at lw_m6 23 rfl) rfl
theorem q1329 : (Jvm.Cond.code ({ cls := "ApartBench$Trial", name := "at", desc := "(II)I" } : Jvm.MethodName) prog_15_method_6_code (4 : Nat) (Option.some Jvm.ClassFile.FieldType.int)) ∈ lw_all := lw_g (lw_at lw_m6 24 rfl) rfl
theorem q1330 : (Jvm.Cond.methodLink "ApartBench$Trial" (97 : Nat) ({ cls := "ApartBench$State", name := "isFeast", desc := "(II)Z" } : Jvm.MethodName)) ∈ lw_all := lw_g (lw_at lw_m6 25 rfl) rfl
theorem q1334 : (Jvm.Cond.methodLink "ApartBench$Trial" (101 : Nat) ({ cls := "ApartBench$Trial", name := "cases", desc := "()I" } : Jvm.MethodName)) ∈ lw_all := lw_g (lw_at lw_m6 29 rfl) rfl
theorem q1335 : (Jvm.Cond.privateMethod ({ cls := "ApartBench$Trial", name := "cases", desc := "()I" } : Jvm.MethodName)) ∈ lw_tbl := lw_at lw_m6 30 rfl
theorem q1336 : (Jvm.Cond.instanceMethod ({ cls := "ApartBench$Trial", name := "cases", desc := "()I" } : Jvm.MethodName)) ∈ lw_all := lw_g (lw_at lw_m6 31 rfl) rfl
theorem q1337 : (Jvm.Cond.code ({ cls := "ApartBench$Trial", name := "cases", desc := "()I" } : Jvm.MethodName) prog_15_method_3_code (1 : Nat) (Option.some Jvm.ClassFile.FieldType.int)) ∈ lw_all := lw_g (lw_at lw_m6 32 rfl) rfl
theorem q1338 : (Jvm.Cond.classLink "ApartBench$Trial" (103 : Nat) "[I") ∈ lw_all := lw_g (lw_at lw_m6 33 rfl) rfl
theorem q1339 : (Jvm.Cond.methodLink "ApartBench$Trial" (104 : Nat) ({ cls := "ApartBench$Trial", name := "saidAhead", desc := "(II)I" } : Jvm.MethodName)) ∈ lw_all := lw_g (lw_at lw_m6 34 rfl) rfl
theorem q1340 : (Jvm.Cond.privateMethod ({ cls := "ApartBench$Trial", name := "saidAhead", desc := "(II)I" } : Jvm.MethodName)) ∈ lw_tbl := lw_at lw_m6 35 rfl
theorem q1341 : (Jvm.Cond.instanceMethod ({ cls := "ApartBench$Trial", name := "saidAhead", desc := "(II)I" } : Jvm.MethodName)) ∈ lw_all := lw_g (lw_at lw_m6 36 rfl) rfl
theorem q1342 : (Jvm.Cond.code ({ cls := "ApartBench$Trial", name := "saidAhead", desc := "(II)I" } : Jvm.MethodName) prog_15_method_7_code (5 : Nat) (Option.some Jvm.ClassFile.FieldType.int)) ∈ lw_all := lw_g (lw_at lw_m6 37 rfl) rfl
theorem q1343 : (Jvm.Cond.methodLink "ApartBench$Trial" (107 : Nat) ({ cls := "ApartBench$Land", name := "byLaw", desc := "(LApartBench$Judge;IIII)Z" } : Jvm.MethodName)) ∈ lw_all := lw_g (lw_at lw_m6 38 rfl) rfl
theorem q1380 : (Jvm.Cond.methodLink "ApartBench$Trial" (111 : Nat) ({ cls := "ApartBench$Judge", name := "says", desc := "(Z)Z" } : Jvm.MethodName)) ∈ lw_all := lw_g (lw_at lw_m6 75 rfl) rfl
theorem q1390 : (Jvm.Cond.methodLink "ApartBench$Trial" (172 : Nat) ({ cls := "ApartBench$Trial", name := "meets", desc := "(II)I" } : Jvm.MethodName)) ∈ lw_all := lw_g (lw_at lw_m6 85 rfl) rfl
theorem q1391 : (Jvm.Cond.privateMethod ({ cls := "ApartBench$Trial", name := "meets", desc := "(II)I" } : Jvm.MethodName)) ∈ lw_tbl := lw_at lw_m6 86 rfl
theorem q1392 : (Jvm.Cond.instanceMethod ({ cls := "ApartBench$Trial", name := "meets", desc := "(II)I" } : Jvm.MethodName)) ∈ lw_all := lw_g (lw_at lw_m6 87 rfl) rfl
theorem q1393 : (Jvm.Cond.code ({ cls := "ApartBench$Trial", name := "meets", desc := "(II)I" } : Jvm.MethodName) prog_15_method_13_code (7 : Nat) (Option.some Jvm.ClassFile.FieldType.int)) ∈ lw_all := lw_g (lw_at lw_m6 88 rfl) rfl
theorem q1394 : (Jvm.Cond.methodLink "ApartBench$Trial" (156 : Nat) ({ cls := "ApartBench$Trial", name := "isFlooded", desc := "(III)Z" } : Jvm.MethodName)) ∈ lw_all := lw_g (lw_at lw_m6 89 rfl) rfl
theorem q1395 : (Jvm.Cond.privateMethod ({ cls := "ApartBench$Trial", name := "isFlooded", desc := "(III)Z" } : Jvm.MethodName)) ∈ lw_tbl := lw_at lw_m6 90 rfl
theorem q1396 : (Jvm.Cond.instanceMethod ({ cls := "ApartBench$Trial", name := "isFlooded", desc := "(III)Z" } : Jvm.MethodName)) ∈ lw_all := lw_g (lw_at lw_m6 91 rfl) rfl
theorem q1397 : (Jvm.Cond.code ({ cls := "ApartBench$Trial", name := "isFlooded", desc := "(III)Z" } : Jvm.MethodName) prog_15_method_12_code (6 : Nat) (Option.some Jvm.ClassFile.FieldType.boolean)) ∈ lw_all := lw_g (lw_at lw_m6 92 rfl) rfl
theorem q1398 : (Jvm.Cond.methodLink "ApartBench$Trial" (150 : Nat) ({ cls := "ApartBench$Land", name := "far", desc := "(II)I" } : Jvm.MethodName)) ∈ lw_all := lw_g (lw_at lw_m6 93 rfl) rfl
theorem q1402 : (Jvm.Cond.methodLink "ApartBench$Trial" (175 : Nat) ({ cls := "ApartBench$Trial", name := "isVoided", desc := "(II)Z" } : Jvm.MethodName)) ∈ lw_all := lw_g (lw_at lw_m6 97 rfl) rfl
theorem q1403 : (Jvm.Cond.privateMethod ({ cls := "ApartBench$Trial", name := "isVoided", desc := "(II)Z" } : Jvm.MethodName)) ∈ lw_tbl := lw_at lw_m6 98 rfl
theorem q1404 : (Jvm.Cond.instanceMethod ({ cls := "ApartBench$Trial", name := "isVoided", desc := "(II)Z" } : Jvm.MethodName)) ∈ lw_all := lw_g (lw_at lw_m6 99 rfl) rfl
theorem q1405 : (Jvm.Cond.code ({ cls := "ApartBench$Trial", name := "isVoided", desc := "(II)Z" } : Jvm.MethodName) prog_15_method_11_code (6 : Nat) (Option.some Jvm.ClassFile.FieldType.boolean)) ∈ lw_all := lw_g (lw_at lw_m6 100 rfl) rfl
theorem q1406 : (Jvm.Cond.methodLink "ApartBench$Trial" (125 : Nat) ({ cls := "ApartBench$Trial", name := "hears", desc := "(I)Z" } : Jvm.MethodName)) ∈ lw_all := lw_g (lw_at lw_m6 101 rfl) rfl
theorem q1407 : (Jvm.Cond.privateMethod ({ cls := "ApartBench$Trial", name := "hears", desc := "(I)Z" } : Jvm.MethodName)) ∈ lw_tbl := lw_at lw_m6 102 rfl
theorem q1408 : (Jvm.Cond.instanceMethod ({ cls := "ApartBench$Trial", name := "hears", desc := "(I)Z" } : Jvm.MethodName)) ∈ lw_all := lw_g (lw_at lw_m6 103 rfl) rfl
theorem q1409 : (Jvm.Cond.code ({ cls := "ApartBench$Trial", name := "hears", desc := "(I)Z" } : Jvm.MethodName) prog_15_method_9_code (2 : Nat) (Option.some Jvm.ClassFile.FieldType.boolean)) ∈ lw_all := lw_g (lw_at lw_m6 104 rfl) rfl
theorem q1410 : (Jvm.Cond.methodLink "ApartBench$Trial" (115 : Nat) ({ cls := "ApartBench$Judge", name := "hears", desc := "()Z" } : Jvm.MethodName)) ∈ lw_all := lw_g (lw_at lw_m6 105 rfl) rfl
theorem q1420 : (Jvm.Cond.methodLink "ApartBench$Trial" (134 : Nat) ({ cls := "ApartBench$Trial", name := "isReached", desc := "(IIII)Z" } : Jvm.MethodName)) ∈ lw_all := lw_g (lw_at lw_m6 115 rfl) rfl
theorem q1421 : (Jvm.Cond.privateMethod ({ cls := "ApartBench$Trial", name := "isReached", desc := "(IIII)Z" } : Jvm.MethodName)) ∈ lw_tbl := lw_at lw_m6 116 rfl
theorem q1422 : (Jvm.Cond.instanceMethod ({ cls := "ApartBench$Trial", name := "isReached", desc := "(IIII)Z" } : Jvm.MethodName)) ∈ lw_all := lw_g (lw_at lw_m6 117 rfl) rfl
theorem q1423 : (Jvm.Cond.code ({ cls := "ApartBench$Trial", name := "isReached", desc := "(IIII)Z" } : Jvm.MethodName) prog_15_method_10_code (7 : Nat) (Option.some Jvm.ClassFile.FieldType.boolean)) ∈ lw_all := lw_g (lw_at lw_m6 118 rfl) rfl
theorem q1424 : (Jvm.Cond.methodLink "ApartBench$Trial" (122 : Nat) ({ cls := "ApartBench$Land", name := "news", desc := "(II)I" } : Jvm.MethodName)) ∈ lw_all := lw_g (lw_at lw_m6 119 rfl) rfl
theorem q1429 : (Jvm.Cond.methodLink "ApartBench$Trial" (178 : Nat) ({ cls := "ApartBench$Trial", name := "three", desc := "(II)I" } : Jvm.MethodName)) ∈ lw_all := lw_g (lw_at lw_m6 124 rfl) rfl
theorem q1430 : (Jvm.Cond.privateMethod ({ cls := "ApartBench$Trial", name := "three", desc := "(II)I" } : Jvm.MethodName)) ∈ lw_tbl := lw_at lw_m6 125 rfl
theorem q1431 : (Jvm.Cond.instanceMethod ({ cls := "ApartBench$Trial", name := "three", desc := "(II)I" } : Jvm.MethodName)) ∈ lw_all := lw_g (lw_at lw_m6 126 rfl) rfl
theorem q1432 : (Jvm.Cond.code ({ cls := "ApartBench$Trial", name := "three", desc := "(II)I" } : Jvm.MethodName) prog_15_method_16_code (6 : Nat) (Option.some Jvm.ClassFile.FieldType.int)) ∈ lw_all := lw_g (lw_at lw_m6 127 rfl) rfl
theorem q1433 : (Jvm.Cond.methodLink "ApartBench$Trial" (160 : Nat) ({ cls := "ApartBench$Trial", name := "isOne", desc := "(III)Z" } : Jvm.MethodName)) ∈ lw_all := lw_g (lw_at lw_m6 128 rfl) rfl
theorem q1434 : (Jvm.Cond.privateMethod ({ cls := "ApartBench$Trial", name := "isOne", desc := "(III)Z" } : Jvm.MethodName)) ∈ lw_tbl := lw_at lw_m6 129 rfl
theorem q1435 : (Jvm.Cond.instanceMethod ({ cls := "ApartBench$Trial", name := "isOne", desc := "(III)Z" } : Jvm.MethodName)) ∈ lw_all := lw_g (lw_at lw_m6 130 rfl) rfl
theorem q1436 : (Jvm.Cond.code ({ cls := "ApartBench$Trial", name := "isOne", desc := "(III)Z" } : Jvm.MethodName) prog_15_method_14_code (5 : Nat) (Option.some Jvm.ClassFile.FieldType.boolean)) ∈ lw_all := lw_g (lw_at lw_m6 131 rfl) rfl
theorem q1437 : (Jvm.Cond.methodLink "ApartBench$Trial" (163 : Nat) ({ cls := "ApartBench$Trial", name := "areApart", desc := "(IIII)Z" } : Jvm.MethodName)) ∈ lw_all := lw_g (lw_at lw_m6 132 rfl) rfl
theorem q1438 : (Jvm.Cond.privateMethod ({ cls := "ApartBench$Trial", name := "areApart", desc := "(IIII)Z" } : Jvm.MethodName)) ∈ lw_tbl := lw_at lw_m6 133 rfl
theorem q1439 : (Jvm.Cond.instanceMethod ({ cls := "ApartBench$Trial", name := "areApart", desc := "(IIII)Z" } : Jvm.MethodName)) ∈ lw_all := lw_g (lw_at lw_m6 134 rfl) rfl
theorem q1440 : (Jvm.Cond.code ({ cls := "ApartBench$Trial", name := "areApart", desc := "(IIII)Z" } : Jvm.MethodName) prog_15_method_15_code (5 : Nat) (Option.some Jvm.ClassFile.FieldType.boolean)) ∈ lw_all := lw_g (lw_at lw_m6 135 rfl) rfl
theorem q2357 : (Jvm.Cond.castable "ApartBench$Trial" "java/lang/Object") ∈ lw_tbl := lw_at lw_m10 92 rfl
theorem in_X7 : ∀ w ∈ wsX70, w ∈ lw_all := lw_in wsX70 [759, 761, 763, 765, 767, 769, 771, 773, 775, 777, 779] (by decide +kernel) (by decide +kernel)

