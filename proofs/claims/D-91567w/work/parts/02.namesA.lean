/-! DECODE ROWS BY BYTES: one lemma an opcode; a method's code is cut into short pieces once, and a row reads its own piece alone. -/
set_option maxRecDepth 100000
/-- the code has just these bytes from pc on -/
def DkAt (code : ByteArray) (pc : Nat) (bs : List UInt8) : Prop := ∀ (j : Nat) (b : UInt8), bs[j]? = some b → code.data.toList[pc + j]? = some b
/-- the piece W has the bytes bs from its place j on -/
def dkIn (W : List UInt8) (j : Nat) (bs : List UInt8) : Bool := decide ((W.drop j).take bs.length = bs)
theorem dk_seg {l W T : List UInt8} {o o2 : Nat} (h : l.drop o = W ++ T) (n : Nat) (hn : W.length = n) (ho : o + n = o2) : l.drop o2 = T := by
  subst ho
  rw [← List.drop_drop, h, List.drop_left' hn]
theorem dk_at {code : ByteArray} {W T bs : List UInt8} {o pc : Nat} (h : code.data.toList.drop o = W ++ T) (j : Nat) (hp : o + j = pc) (hw : dkIn W j bs = true) : DkAt code pc bs := by
  subst hp
  intro i b e
  have h1 := of_decide_eq_true hw
  have h2 : i < bs.length := (List.getElem?_eq_some_iff.mp e).1
  have h3 : W[j + i]? = some b := by
    rw [← h1, List.getElem?_take, if_pos h2, List.getElem?_drop] at e
    exact e
  have h4 : j + i < W.length := (List.getElem?_eq_some_iff.mp h3).1
  have h5 : (code.data.toList.drop o)[j + i]? = some b := by
    rw [h, List.getElem?_append_left h4]
    exact h3
  rw [List.getElem?_drop, ← Nat.add_assoc] at h5
  exact h5
theorem dk_u1 {A : ByteArray} {p : Nat} {b : UInt8} (h : A.data.toList[p]? = some b) : (Reader.u1 : Reader DecodeError Nat) A p = .ok (b.toNat, p + 1) := by
  obtain ⟨h1, h2⟩ := List.getElem?_eq_some_iff.mp h
  have h3 : p < A.size := by simpa using h1
  have h4 : A[p]'h3 = b := h2
  have e : (Reader.u1 : Reader DecodeError Nat) A p = (if h : p < A.size then .ok (A[p].toNat, p + 1) else .error (HasTruncated.truncated p)) := by
    show (do if h : p < A.size then do set (p + 1); Pure.pure A[p].toNat else MonadExcept.throw (HasTruncated.truncated p) : Reader DecodeError Nat) A p = _
    by_cases hi : p < A.size
    · rw [dif_pos hi, dif_pos hi]; rfl
    · rw [dif_neg hi, dif_neg hi]; rfl
  rw [e, dif_pos h3, h4]
theorem dk_bind {α β : Type} {r : Reader DecodeError α} {f : α → Reader DecodeError β} {A : ByteArray} {p s : Nat} {a : α} (h : r A p = .ok (a, s)) : (r >>= f) A p = f a A s := by
  show (do let (a, s) ← r A p; f a A s : Except DecodeError (β × Nat)) = _
  rw [h]
  rfl
theorem dk_map {α β : Type} {r : Reader DecodeError α} {g : α → β} {A : ByteArray} {p s : Nat} {a : α} (h : r A p = .ok (a, s)) : (g <$> r) A p = .ok (g a, s) := by
  show (do let (a, s) ← r A p; .ok (g a, s) : Except DecodeError (β × Nat)) = _
  rw [h]
  rfl
theorem dk_u2 {A : ByteArray} {p : Nat} {a b : UInt8} (h : A.data.toList[p]? = some a) (h2 : A.data.toList[p + 1]? = some b) : (Reader.u2 : Reader DecodeError Nat) A p = .ok (a.toNat * 256 + b.toNat, p + 2) := by
  show (Reader.u1 >>= fun hi => Reader.u1 >>= fun lo => Pure.pure (hi * 256 + lo) : Reader DecodeError Nat) A p = _
  rw [dk_bind (dk_u1 h), dk_bind (dk_u1 h2)]
  rfl
theorem dk_of {code : ByteArray} {pc n : Nat} {i : Instr} (h : Decoder.instr pc code pc = .ok (i, pc + n)) : decode code pc = .ok (i, n) := by
  have e : decode code pc = (match Decoder.instr pc code pc with | .error x => .error x | .ok (j, s) => .ok (j, s - pc)) := by
    show (do let (j, s) ← Decoder.instr pc code pc; Pure.pure (j, s - pc) : Except DecodeError (Instr × Nat)) = _
    cases Decoder.instr pc code pc <;> rfl
  rw [e, h]
  show Except.ok (i, pc + n - pc) = _
  rw [Nat.add_sub_cancel_left]
theorem dk_1 {code : ByteArray} {pc : Nat} (h : DkAt code pc [1]) : decode code pc = .ok (.aconst_null, 1) := dk_of ((dk_bind (dk_u1 (h 0 _ rfl))).trans rfl)
theorem dk_2 {code : ByteArray} {pc : Nat} (h : DkAt code pc [2]) : decode code pc = .ok (.iconst (-1), 1) := dk_of ((dk_bind (dk_u1 (h 0 _ rfl))).trans rfl)
theorem dk_3 {code : ByteArray} {pc : Nat} (h : DkAt code pc [3]) : decode code pc = .ok (.iconst 0, 1) := dk_of ((dk_bind (dk_u1 (h 0 _ rfl))).trans rfl)
theorem dk_4 {code : ByteArray} {pc : Nat} (h : DkAt code pc [4]) : decode code pc = .ok (.iconst 1, 1) := dk_of ((dk_bind (dk_u1 (h 0 _ rfl))).trans rfl)
theorem dk_5 {code : ByteArray} {pc : Nat} (h : DkAt code pc [5]) : decode code pc = .ok (.iconst 2, 1) := dk_of ((dk_bind (dk_u1 (h 0 _ rfl))).trans rfl)
theorem dk_6 {code : ByteArray} {pc : Nat} (h : DkAt code pc [6]) : decode code pc = .ok (.iconst 3, 1) := dk_of ((dk_bind (dk_u1 (h 0 _ rfl))).trans rfl)
theorem dk_7 {code : ByteArray} {pc : Nat} (h : DkAt code pc [7]) : decode code pc = .ok (.iconst 4, 1) := dk_of ((dk_bind (dk_u1 (h 0 _ rfl))).trans rfl)
theorem dk_8 {code : ByteArray} {pc : Nat} (h : DkAt code pc [8]) : decode code pc = .ok (.iconst 5, 1) := dk_of ((dk_bind (dk_u1 (h 0 _ rfl))).trans rfl)
theorem dk_9 {code : ByteArray} {pc : Nat} (h : DkAt code pc [9]) : decode code pc = .ok (.lconst 0, 1) := dk_of ((dk_bind (dk_u1 (h 0 _ rfl))).trans rfl)
theorem dk_16 {code : ByteArray} {pc : Nat} (a : UInt8) (h : DkAt code pc [16, a]) : decode code pc = .ok (.bipush (Reader.signed 8 a.toNat), 2) := dk_of ((dk_bind (dk_u1 (h 0 _ rfl))).trans ((dk_bind (dk_map (dk_u1 (h 1 _ rfl)))).trans rfl))
theorem dk_17 {code : ByteArray} {pc : Nat} (a b : UInt8) (h : DkAt code pc [17, a, b]) : decode code pc = .ok (.sipush (Reader.signed 16 (a.toNat * 256 + b.toNat)), 3) := dk_of ((dk_bind (dk_u1 (h 0 _ rfl))).trans ((dk_bind (dk_map (dk_u2 (h 1 _ rfl) (h 2 _ rfl)))).trans rfl))
theorem dk_18 {code : ByteArray} {pc : Nat} (a : UInt8) (h : DkAt code pc [18, a]) : decode code pc = .ok (.ldc a.toNat, 2) := dk_of ((dk_bind (dk_u1 (h 0 _ rfl))).trans ((dk_bind (dk_u1 (h 1 _ rfl))).trans rfl))
theorem dk_19 {code : ByteArray} {pc : Nat} (a b : UInt8) (h : DkAt code pc [19, a, b]) : decode code pc = .ok (.ldc_w (a.toNat * 256 + b.toNat), 3) := dk_of ((dk_bind (dk_u1 (h 0 _ rfl))).trans ((dk_bind (dk_u2 (h 1 _ rfl) (h 2 _ rfl))).trans rfl))
theorem dk_20 {code : ByteArray} {pc : Nat} (a b : UInt8) (h : DkAt code pc [20, a, b]) : decode code pc = .ok (.ldc2_w (a.toNat * 256 + b.toNat), 3) := dk_of ((dk_bind (dk_u1 (h 0 _ rfl))).trans ((dk_bind (dk_u2 (h 1 _ rfl) (h 2 _ rfl))).trans rfl))
theorem dk_21 {code : ByteArray} {pc : Nat} (a : UInt8) (h : DkAt code pc [21, a]) : decode code pc = .ok (.iload a.toNat, 2) := dk_of ((dk_bind (dk_u1 (h 0 _ rfl))).trans ((dk_bind (dk_u1 (h 1 _ rfl))).trans rfl))
theorem dk_22 {code : ByteArray} {pc : Nat} (a : UInt8) (h : DkAt code pc [22, a]) : decode code pc = .ok (.lload a.toNat, 2) := dk_of ((dk_bind (dk_u1 (h 0 _ rfl))).trans ((dk_bind (dk_u1 (h 1 _ rfl))).trans rfl))
theorem dk_25 {code : ByteArray} {pc : Nat} (a : UInt8) (h : DkAt code pc [25, a]) : decode code pc = .ok (.aload a.toNat, 2) := dk_of ((dk_bind (dk_u1 (h 0 _ rfl))).trans ((dk_bind (dk_u1 (h 1 _ rfl))).trans rfl))
theorem dk_26 {code : ByteArray} {pc : Nat} (h : DkAt code pc [26]) : decode code pc = .ok (.iload_n 0, 1) := dk_of ((dk_bind (dk_u1 (h 0 _ rfl))).trans rfl)
theorem dk_27 {code : ByteArray} {pc : Nat} (h : DkAt code pc [27]) : decode code pc = .ok (.iload_n 1, 1) := dk_of ((dk_bind (dk_u1 (h 0 _ rfl))).trans rfl)
theorem dk_28 {code : ByteArray} {pc : Nat} (h : DkAt code pc [28]) : decode code pc = .ok (.iload_n 2, 1) := dk_of ((dk_bind (dk_u1 (h 0 _ rfl))).trans rfl)
theorem dk_29 {code : ByteArray} {pc : Nat} (h : DkAt code pc [29]) : decode code pc = .ok (.iload_n 3, 1) := dk_of ((dk_bind (dk_u1 (h 0 _ rfl))).trans rfl)
theorem dk_32 {code : ByteArray} {pc : Nat} (h : DkAt code pc [32]) : decode code pc = .ok (.lload_n 2, 1) := dk_of ((dk_bind (dk_u1 (h 0 _ rfl))).trans rfl)
theorem dk_42 {code : ByteArray} {pc : Nat} (h : DkAt code pc [42]) : decode code pc = .ok (.aload_n 0, 1) := dk_of ((dk_bind (dk_u1 (h 0 _ rfl))).trans rfl)
theorem dk_43 {code : ByteArray} {pc : Nat} (h : DkAt code pc [43]) : decode code pc = .ok (.aload_n 1, 1) := dk_of ((dk_bind (dk_u1 (h 0 _ rfl))).trans rfl)
theorem dk_44 {code : ByteArray} {pc : Nat} (h : DkAt code pc [44]) : decode code pc = .ok (.aload_n 2, 1) := dk_of ((dk_bind (dk_u1 (h 0 _ rfl))).trans rfl)
theorem dk_45 {code : ByteArray} {pc : Nat} (h : DkAt code pc [45]) : decode code pc = .ok (.aload_n 3, 1) := dk_of ((dk_bind (dk_u1 (h 0 _ rfl))).trans rfl)
theorem dk_46 {code : ByteArray} {pc : Nat} (h : DkAt code pc [46]) : decode code pc = .ok (.iaload, 1) := dk_of ((dk_bind (dk_u1 (h 0 _ rfl))).trans rfl)
theorem dk_47 {code : ByteArray} {pc : Nat} (h : DkAt code pc [47]) : decode code pc = .ok (.laload, 1) := dk_of ((dk_bind (dk_u1 (h 0 _ rfl))).trans rfl)
theorem dk_50 {code : ByteArray} {pc : Nat} (h : DkAt code pc [50]) : decode code pc = .ok (.aaload, 1) := dk_of ((dk_bind (dk_u1 (h 0 _ rfl))).trans rfl)
theorem dk_51 {code : ByteArray} {pc : Nat} (h : DkAt code pc [51]) : decode code pc = .ok (.baload, 1) := dk_of ((dk_bind (dk_u1 (h 0 _ rfl))).trans rfl)
theorem dk_54 {code : ByteArray} {pc : Nat} (a : UInt8) (h : DkAt code pc [54, a]) : decode code pc = .ok (.istore a.toNat, 2) := dk_of ((dk_bind (dk_u1 (h 0 _ rfl))).trans ((dk_bind (dk_u1 (h 1 _ rfl))).trans rfl))
theorem dk_55 {code : ByteArray} {pc : Nat} (a : UInt8) (h : DkAt code pc [55, a]) : decode code pc = .ok (.lstore a.toNat, 2) := dk_of ((dk_bind (dk_u1 (h 0 _ rfl))).trans ((dk_bind (dk_u1 (h 1 _ rfl))).trans rfl))
theorem dk_58 {code : ByteArray} {pc : Nat} (a : UInt8) (h : DkAt code pc [58, a]) : decode code pc = .ok (.astore a.toNat, 2) := dk_of ((dk_bind (dk_u1 (h 0 _ rfl))).trans ((dk_bind (dk_u1 (h 1 _ rfl))).trans rfl))
theorem dk_60 {code : ByteArray} {pc : Nat} (h : DkAt code pc [60]) : decode code pc = .ok (.istore_n 1, 1) := dk_of ((dk_bind (dk_u1 (h 0 _ rfl))).trans rfl)
theorem dk_61 {code : ByteArray} {pc : Nat} (h : DkAt code pc [61]) : decode code pc = .ok (.istore_n 2, 1) := dk_of ((dk_bind (dk_u1 (h 0 _ rfl))).trans rfl)
theorem dk_62 {code : ByteArray} {pc : Nat} (h : DkAt code pc [62]) : decode code pc = .ok (.istore_n 3, 1) := dk_of ((dk_bind (dk_u1 (h 0 _ rfl))).trans rfl)
theorem dk_65 {code : ByteArray} {pc : Nat} (h : DkAt code pc [65]) : decode code pc = .ok (.lstore_n 2, 1) := dk_of ((dk_bind (dk_u1 (h 0 _ rfl))).trans rfl)
theorem dk_76 {code : ByteArray} {pc : Nat} (h : DkAt code pc [76]) : decode code pc = .ok (.astore_n 1, 1) := dk_of ((dk_bind (dk_u1 (h 0 _ rfl))).trans rfl)
theorem dk_77 {code : ByteArray} {pc : Nat} (h : DkAt code pc [77]) : decode code pc = .ok (.astore_n 2, 1) := dk_of ((dk_bind (dk_u1 (h 0 _ rfl))).trans rfl)
theorem dk_78 {code : ByteArray} {pc : Nat} (h : DkAt code pc [78]) : decode code pc = .ok (.astore_n 3, 1) := dk_of ((dk_bind (dk_u1 (h 0 _ rfl))).trans rfl)
theorem dk_79 {code : ByteArray} {pc : Nat} (h : DkAt code pc [79]) : decode code pc = .ok (.iastore, 1) := dk_of ((dk_bind (dk_u1 (h 0 _ rfl))).trans rfl)
theorem dk_80 {code : ByteArray} {pc : Nat} (h : DkAt code pc [80]) : decode code pc = .ok (.lastore, 1) := dk_of ((dk_bind (dk_u1 (h 0 _ rfl))).trans rfl)
theorem dk_83 {code : ByteArray} {pc : Nat} (h : DkAt code pc [83]) : decode code pc = .ok (.aastore, 1) := dk_of ((dk_bind (dk_u1 (h 0 _ rfl))).trans rfl)
theorem dk_84 {code : ByteArray} {pc : Nat} (h : DkAt code pc [84]) : decode code pc = .ok (.bastore, 1) := dk_of ((dk_bind (dk_u1 (h 0 _ rfl))).trans rfl)
theorem dk_87 {code : ByteArray} {pc : Nat} (h : DkAt code pc [87]) : decode code pc = .ok (.pop, 1) := dk_of ((dk_bind (dk_u1 (h 0 _ rfl))).trans rfl)
theorem dk_89 {code : ByteArray} {pc : Nat} (h : DkAt code pc [89]) : decode code pc = .ok (.dup, 1) := dk_of ((dk_bind (dk_u1 (h 0 _ rfl))).trans rfl)
theorem dk_90 {code : ByteArray} {pc : Nat} (h : DkAt code pc [90]) : decode code pc = .ok (.dup_x1, 1) := dk_of ((dk_bind (dk_u1 (h 0 _ rfl))).trans rfl)
theorem dk_92 {code : ByteArray} {pc : Nat} (h : DkAt code pc [92]) : decode code pc = .ok (.dup2, 1) := dk_of ((dk_bind (dk_u1 (h 0 _ rfl))).trans rfl)
theorem dk_96 {code : ByteArray} {pc : Nat} (h : DkAt code pc [96]) : decode code pc = .ok (.iadd, 1) := dk_of ((dk_bind (dk_u1 (h 0 _ rfl))).trans rfl)
theorem dk_97 {code : ByteArray} {pc : Nat} (h : DkAt code pc [97]) : decode code pc = .ok (.ladd, 1) := dk_of ((dk_bind (dk_u1 (h 0 _ rfl))).trans rfl)
theorem dk_100 {code : ByteArray} {pc : Nat} (h : DkAt code pc [100]) : decode code pc = .ok (.isub, 1) := dk_of ((dk_bind (dk_u1 (h 0 _ rfl))).trans rfl)
theorem dk_104 {code : ByteArray} {pc : Nat} (h : DkAt code pc [104]) : decode code pc = .ok (.imul, 1) := dk_of ((dk_bind (dk_u1 (h 0 _ rfl))).trans rfl)
theorem dk_105 {code : ByteArray} {pc : Nat} (h : DkAt code pc [105]) : decode code pc = .ok (.lmul, 1) := dk_of ((dk_bind (dk_u1 (h 0 _ rfl))).trans rfl)
theorem dk_108 {code : ByteArray} {pc : Nat} (h : DkAt code pc [108]) : decode code pc = .ok (.idiv, 1) := dk_of ((dk_bind (dk_u1 (h 0 _ rfl))).trans rfl)
theorem dk_109 {code : ByteArray} {pc : Nat} (h : DkAt code pc [109]) : decode code pc = .ok (.ldiv, 1) := dk_of ((dk_bind (dk_u1 (h 0 _ rfl))).trans rfl)
theorem dk_112 {code : ByteArray} {pc : Nat} (h : DkAt code pc [112]) : decode code pc = .ok (.irem, 1) := dk_of ((dk_bind (dk_u1 (h 0 _ rfl))).trans rfl)
theorem dk_116 {code : ByteArray} {pc : Nat} (h : DkAt code pc [116]) : decode code pc = .ok (.ineg, 1) := dk_of ((dk_bind (dk_u1 (h 0 _ rfl))).trans rfl)
theorem dk_120 {code : ByteArray} {pc : Nat} (h : DkAt code pc [120]) : decode code pc = .ok (.ishl, 1) := dk_of ((dk_bind (dk_u1 (h 0 _ rfl))).trans rfl)
theorem dk_122 {code : ByteArray} {pc : Nat} (h : DkAt code pc [122]) : decode code pc = .ok (.ishr, 1) := dk_of ((dk_bind (dk_u1 (h 0 _ rfl))).trans rfl)
theorem dk_126 {code : ByteArray} {pc : Nat} (h : DkAt code pc [126]) : decode code pc = .ok (.iand, 1) := dk_of ((dk_bind (dk_u1 (h 0 _ rfl))).trans rfl)
theorem dk_128 {code : ByteArray} {pc : Nat} (h : DkAt code pc [128]) : decode code pc = .ok (.ior, 1) := dk_of ((dk_bind (dk_u1 (h 0 _ rfl))).trans rfl)
theorem dk_132 {code : ByteArray} {pc : Nat} (a b : UInt8) (h : DkAt code pc [132, a, b]) : decode code pc = .ok (.iinc a.toNat (Reader.signed 8 b.toNat), 3) := dk_of ((dk_bind (dk_u1 (h 0 _ rfl))).trans ((dk_bind (dk_u1 (h 1 _ rfl))).trans ((dk_bind (dk_map (dk_u1 (h 2 _ rfl)))).trans rfl)))
theorem dk_133 {code : ByteArray} {pc : Nat} (h : DkAt code pc [133]) : decode code pc = .ok (.i2l, 1) := dk_of ((dk_bind (dk_u1 (h 0 _ rfl))).trans rfl)
theorem dk_145 {code : ByteArray} {pc : Nat} (h : DkAt code pc [145]) : decode code pc = .ok (.i2b, 1) := dk_of ((dk_bind (dk_u1 (h 0 _ rfl))).trans rfl)
theorem dk_146 {code : ByteArray} {pc : Nat} (h : DkAt code pc [146]) : decode code pc = .ok (.i2c, 1) := dk_of ((dk_bind (dk_u1 (h 0 _ rfl))).trans rfl)
theorem dk_148 {code : ByteArray} {pc : Nat} (h : DkAt code pc [148]) : decode code pc = .ok (.lcmp, 1) := dk_of ((dk_bind (dk_u1 (h 0 _ rfl))).trans rfl)
theorem dk_153 {code : ByteArray} {pc : Nat} (a b : UInt8) (h : DkAt code pc [153, a, b]) : decode code pc = .ok (.ifCond .eq (Reader.signed 16 (a.toNat * 256 + b.toNat)), 3) := dk_of ((dk_bind (dk_u1 (h 0 _ rfl))).trans ((dk_bind (dk_map (dk_u2 (h 1 _ rfl) (h 2 _ rfl)))).trans rfl))
theorem dk_154 {code : ByteArray} {pc : Nat} (a b : UInt8) (h : DkAt code pc [154, a, b]) : decode code pc = .ok (.ifCond .ne (Reader.signed 16 (a.toNat * 256 + b.toNat)), 3) := dk_of ((dk_bind (dk_u1 (h 0 _ rfl))).trans ((dk_bind (dk_map (dk_u2 (h 1 _ rfl) (h 2 _ rfl)))).trans rfl))
theorem dk_155 {code : ByteArray} {pc : Nat} (a b : UInt8) (h : DkAt code pc [155, a, b]) : decode code pc = .ok (.ifCond .lt (Reader.signed 16 (a.toNat * 256 + b.toNat)), 3) := dk_of ((dk_bind (dk_u1 (h 0 _ rfl))).trans ((dk_bind (dk_map (dk_u2 (h 1 _ rfl) (h 2 _ rfl)))).trans rfl))
theorem dk_156 {code : ByteArray} {pc : Nat} (a b : UInt8) (h : DkAt code pc [156, a, b]) : decode code pc = .ok (.ifCond .ge (Reader.signed 16 (a.toNat * 256 + b.toNat)), 3) := dk_of ((dk_bind (dk_u1 (h 0 _ rfl))).trans ((dk_bind (dk_map (dk_u2 (h 1 _ rfl) (h 2 _ rfl)))).trans rfl))
theorem dk_157 {code : ByteArray} {pc : Nat} (a b : UInt8) (h : DkAt code pc [157, a, b]) : decode code pc = .ok (.ifCond .gt (Reader.signed 16 (a.toNat * 256 + b.toNat)), 3) := dk_of ((dk_bind (dk_u1 (h 0 _ rfl))).trans ((dk_bind (dk_map (dk_u2 (h 1 _ rfl) (h 2 _ rfl)))).trans rfl))
theorem dk_158 {code : ByteArray} {pc : Nat} (a b : UInt8) (h : DkAt code pc [158, a, b]) : decode code pc = .ok (.ifCond .le (Reader.signed 16 (a.toNat * 256 + b.toNat)), 3) := dk_of ((dk_bind (dk_u1 (h 0 _ rfl))).trans ((dk_bind (dk_map (dk_u2 (h 1 _ rfl) (h 2 _ rfl)))).trans rfl))
theorem dk_159 {code : ByteArray} {pc : Nat} (a b : UInt8) (h : DkAt code pc [159, a, b]) : decode code pc = .ok (.if_icmp .eq (Reader.signed 16 (a.toNat * 256 + b.toNat)), 3) := dk_of ((dk_bind (dk_u1 (h 0 _ rfl))).trans ((dk_bind (dk_map (dk_u2 (h 1 _ rfl) (h 2 _ rfl)))).trans rfl))
theorem dk_160 {code : ByteArray} {pc : Nat} (a b : UInt8) (h : DkAt code pc [160, a, b]) : decode code pc = .ok (.if_icmp .ne (Reader.signed 16 (a.toNat * 256 + b.toNat)), 3) := dk_of ((dk_bind (dk_u1 (h 0 _ rfl))).trans ((dk_bind (dk_map (dk_u2 (h 1 _ rfl) (h 2 _ rfl)))).trans rfl))
theorem dk_161 {code : ByteArray} {pc : Nat} (a b : UInt8) (h : DkAt code pc [161, a, b]) : decode code pc = .ok (.if_icmp .lt (Reader.signed 16 (a.toNat * 256 + b.toNat)), 3) := dk_of ((dk_bind (dk_u1 (h 0 _ rfl))).trans ((dk_bind (dk_map (dk_u2 (h 1 _ rfl) (h 2 _ rfl)))).trans rfl))
theorem dk_162 {code : ByteArray} {pc : Nat} (a b : UInt8) (h : DkAt code pc [162, a, b]) : decode code pc = .ok (.if_icmp .ge (Reader.signed 16 (a.toNat * 256 + b.toNat)), 3) := dk_of ((dk_bind (dk_u1 (h 0 _ rfl))).trans ((dk_bind (dk_map (dk_u2 (h 1 _ rfl) (h 2 _ rfl)))).trans rfl))
theorem dk_163 {code : ByteArray} {pc : Nat} (a b : UInt8) (h : DkAt code pc [163, a, b]) : decode code pc = .ok (.if_icmp .gt (Reader.signed 16 (a.toNat * 256 + b.toNat)), 3) := dk_of ((dk_bind (dk_u1 (h 0 _ rfl))).trans ((dk_bind (dk_map (dk_u2 (h 1 _ rfl) (h 2 _ rfl)))).trans rfl))
theorem dk_164 {code : ByteArray} {pc : Nat} (a b : UInt8) (h : DkAt code pc [164, a, b]) : decode code pc = .ok (.if_icmp .le (Reader.signed 16 (a.toNat * 256 + b.toNat)), 3) := dk_of ((dk_bind (dk_u1 (h 0 _ rfl))).trans ((dk_bind (dk_map (dk_u2 (h 1 _ rfl) (h 2 _ rfl)))).trans rfl))
theorem dk_165 {code : ByteArray} {pc : Nat} (a b : UInt8) (h : DkAt code pc [165, a, b]) : decode code pc = .ok (.if_acmp .eq (Reader.signed 16 (a.toNat * 256 + b.toNat)), 3) := dk_of ((dk_bind (dk_u1 (h 0 _ rfl))).trans ((dk_bind (dk_map (dk_u2 (h 1 _ rfl) (h 2 _ rfl)))).trans rfl))
theorem dk_166 {code : ByteArray} {pc : Nat} (a b : UInt8) (h : DkAt code pc [166, a, b]) : decode code pc = .ok (.if_acmp .ne (Reader.signed 16 (a.toNat * 256 + b.toNat)), 3) := dk_of ((dk_bind (dk_u1 (h 0 _ rfl))).trans ((dk_bind (dk_map (dk_u2 (h 1 _ rfl) (h 2 _ rfl)))).trans rfl))
theorem dk_167 {code : ByteArray} {pc : Nat} (a b : UInt8) (h : DkAt code pc [167, a, b]) : decode code pc = .ok (.goto (Reader.signed 16 (a.toNat * 256 + b.toNat)), 3) := dk_of ((dk_bind (dk_u1 (h 0 _ rfl))).trans ((dk_bind (dk_map (dk_u2 (h 1 _ rfl) (h 2 _ rfl)))).trans rfl))
theorem dk_172 {code : ByteArray} {pc : Nat} (h : DkAt code pc [172]) : decode code pc = .ok (.ireturn, 1) := dk_of ((dk_bind (dk_u1 (h 0 _ rfl))).trans rfl)
theorem dk_173 {code : ByteArray} {pc : Nat} (h : DkAt code pc [173]) : decode code pc = .ok (.lreturn, 1) := dk_of ((dk_bind (dk_u1 (h 0 _ rfl))).trans rfl)
theorem dk_176 {code : ByteArray} {pc : Nat} (h : DkAt code pc [176]) : decode code pc = .ok (.areturn, 1) := dk_of ((dk_bind (dk_u1 (h 0 _ rfl))).trans rfl)
theorem dk_177 {code : ByteArray} {pc : Nat} (h : DkAt code pc [177]) : decode code pc = .ok (.return_, 1) := dk_of ((dk_bind (dk_u1 (h 0 _ rfl))).trans rfl)
theorem dk_178 {code : ByteArray} {pc : Nat} (a b : UInt8) (h : DkAt code pc [178, a, b]) : decode code pc = .ok (.getstatic (a.toNat * 256 + b.toNat), 3) := dk_of ((dk_bind (dk_u1 (h 0 _ rfl))).trans ((dk_bind (dk_u2 (h 1 _ rfl) (h 2 _ rfl))).trans rfl))
theorem dk_180 {code : ByteArray} {pc : Nat} (a b : UInt8) (h : DkAt code pc [180, a, b]) : decode code pc = .ok (.getfield (a.toNat * 256 + b.toNat), 3) := dk_of ((dk_bind (dk_u1 (h 0 _ rfl))).trans ((dk_bind (dk_u2 (h 1 _ rfl) (h 2 _ rfl))).trans rfl))
theorem dk_181 {code : ByteArray} {pc : Nat} (a b : UInt8) (h : DkAt code pc [181, a, b]) : decode code pc = .ok (.putfield (a.toNat * 256 + b.toNat), 3) := dk_of ((dk_bind (dk_u1 (h 0 _ rfl))).trans ((dk_bind (dk_u2 (h 1 _ rfl) (h 2 _ rfl))).trans rfl))
theorem dk_182 {code : ByteArray} {pc : Nat} (a b : UInt8) (h : DkAt code pc [182, a, b]) : decode code pc = .ok (.invokevirtual (a.toNat * 256 + b.toNat), 3) := dk_of ((dk_bind (dk_u1 (h 0 _ rfl))).trans ((dk_bind (dk_u2 (h 1 _ rfl) (h 2 _ rfl))).trans rfl))
theorem dk_183 {code : ByteArray} {pc : Nat} (a b : UInt8) (h : DkAt code pc [183, a, b]) : decode code pc = .ok (.invokespecial (a.toNat * 256 + b.toNat), 3) := dk_of ((dk_bind (dk_u1 (h 0 _ rfl))).trans ((dk_bind (dk_u2 (h 1 _ rfl) (h 2 _ rfl))).trans rfl))
theorem dk_184 {code : ByteArray} {pc : Nat} (a b : UInt8) (h : DkAt code pc [184, a, b]) : decode code pc = .ok (.invokestatic (a.toNat * 256 + b.toNat), 3) := dk_of ((dk_bind (dk_u1 (h 0 _ rfl))).trans ((dk_bind (dk_u2 (h 1 _ rfl) (h 2 _ rfl))).trans rfl))
theorem dk_187 {code : ByteArray} {pc : Nat} (a b : UInt8) (h : DkAt code pc [187, a, b]) : decode code pc = .ok (.new (a.toNat * 256 + b.toNat), 3) := dk_of ((dk_bind (dk_u1 (h 0 _ rfl))).trans ((dk_bind (dk_u2 (h 1 _ rfl) (h 2 _ rfl))).trans rfl))
theorem dk_188_4 {code : ByteArray} {pc : Nat} (h : DkAt code pc [188, 4]) : decode code pc = .ok (.newarray .boolean, 2) := dk_of ((dk_bind (dk_u1 (h 0 _ rfl))).trans ((dk_bind (dk_u1 (h 1 _ rfl))).trans rfl))
theorem dk_188_8 {code : ByteArray} {pc : Nat} (h : DkAt code pc [188, 8]) : decode code pc = .ok (.newarray .byte, 2) := dk_of ((dk_bind (dk_u1 (h 0 _ rfl))).trans ((dk_bind (dk_u1 (h 1 _ rfl))).trans rfl))
theorem dk_188_10 {code : ByteArray} {pc : Nat} (h : DkAt code pc [188, 10]) : decode code pc = .ok (.newarray .int, 2) := dk_of ((dk_bind (dk_u1 (h 0 _ rfl))).trans ((dk_bind (dk_u1 (h 1 _ rfl))).trans rfl))
theorem dk_188_11 {code : ByteArray} {pc : Nat} (h : DkAt code pc [188, 11]) : decode code pc = .ok (.newarray .long, 2) := dk_of ((dk_bind (dk_u1 (h 0 _ rfl))).trans ((dk_bind (dk_u1 (h 1 _ rfl))).trans rfl))
theorem dk_189 {code : ByteArray} {pc : Nat} (a b : UInt8) (h : DkAt code pc [189, a, b]) : decode code pc = .ok (.anewarray (a.toNat * 256 + b.toNat), 3) := dk_of ((dk_bind (dk_u1 (h 0 _ rfl))).trans ((dk_bind (dk_u2 (h 1 _ rfl) (h 2 _ rfl))).trans rfl))
theorem dk_190 {code : ByteArray} {pc : Nat} (h : DkAt code pc [190]) : decode code pc = .ok (.arraylength, 1) := dk_of ((dk_bind (dk_u1 (h 0 _ rfl))).trans rfl)
theorem dk_191 {code : ByteArray} {pc : Nat} (h : DkAt code pc [191]) : decode code pc = .ok (.athrow, 1) := dk_of ((dk_bind (dk_u1 (h 0 _ rfl))).trans rfl)
theorem dk_192 {code : ByteArray} {pc : Nat} (a b : UInt8) (h : DkAt code pc [192, a, b]) : decode code pc = .ok (.checkcast (a.toNat * 256 + b.toNat), 3) := dk_of ((dk_bind (dk_u1 (h 0 _ rfl))).trans ((dk_bind (dk_u2 (h 1 _ rfl) (h 2 _ rfl))).trans rfl))
theorem dk_198 {code : ByteArray} {pc : Nat} (a b : UInt8) (h : DkAt code pc [198, a, b]) : decode code pc = .ok (.ifnull (Reader.signed 16 (a.toNat * 256 + b.toNat)), 3) := dk_of ((dk_bind (dk_u1 (h 0 _ rfl))).trans ((dk_bind (dk_map (dk_u2 (h 1 _ rfl) (h 2 _ rfl)))).trans rfl))
theorem dk_199 {code : ByteArray} {pc : Nat} (a b : UInt8) (h : DkAt code pc [199, a, b]) : decode code pc = .ok (.ifnonnull (Reader.signed 16 (a.toNat * 256 + b.toNat)), 3) := dk_of ((dk_bind (dk_u1 (h 0 _ rfl))).trans ((dk_bind (dk_map (dk_u2 (h 1 _ rfl) (h 2 _ rfl)))).trans rfl))
/-! java/util/AbstractCollection -/
set_option maxRecDepth 100000
def RJ0 : String := "java/util/AbstractCollection"
abbrev cJ0_init : ByteArray := prog_37_method_1_code
def yJ0_init : MethodName := ⟨RJ0, "<init>", "()V"⟩
theorem dJ0_init_0 : decode cJ0_init 0 = .ok (.aload_n 0, 1) := by decide +kernel
theorem dJ0_init_1 : decode cJ0_init 1 = .ok (.invokespecial 1, 3) := by decide +kernel
theorem dJ0_init_4 : decode cJ0_init 4 = .ok (.return_, 1) := by decide +kernel
theorem q76 : (Jvm.Cond.initialized "java/util/AbstractCollection") ∈ lw_all := lw_g (lw_at lw_m1 4 rfl) rfl
theorem q164 : (Jvm.Cond.instanceMethod ({ cls := "java/util/AbstractCollection", name := "<init>", desc := "()V" } : Jvm.MethodName)) ∈ lw_all := lw_g (lw_at lw_m1 92 rfl) rfl
theorem q165 : (Jvm.Cond.code ({ cls := "java/util/AbstractCollection", name := "<init>", desc := "()V" } : Jvm.MethodName) prog_37_method_1_code (1 : Nat) (Option.none : Option Jvm.ClassFile.FieldType)) ∈ lw_all := lw_g (lw_at lw_m1 93 rfl) rfl
theorem q166 : (Jvm.Cond.methodLink "java/util/AbstractCollection" (1 : Nat) ({ cls := "java/lang/Object", name := "<init>", desc := "()V" } : Jvm.MethodName)) ∈ lw_all := lw_g (lw_at lw_m1 94 rfl) rfl
/-! java/util/AbstractList -/
set_option maxRecDepth 100000
def RJ1 : String := "java/util/AbstractList"
abbrev cJ1_init : ByteArray := prog_38_method_1_code
def yJ1_init : MethodName := ⟨RJ1, "<init>", "()V"⟩
def dkwJ1_init_0 : List UInt8 := [42, 183, 0, 1, 42, 3, 181, 0, 7, 177]
abbrev dktJ1_init_0 : List UInt8 := dkwJ1_init_0 ++ []
theorem dksJ1_init_0 : cJ1_init.data.toList.drop 0 = dktJ1_init_0 := by decide +kernel
theorem dJ1_init_0 : decode cJ1_init 0 = .ok (.aload_n 0, 1) := dk_42 (dk_at dksJ1_init_0 0 rfl rfl)
theorem dJ1_init_1 : decode cJ1_init 1 = .ok (.invokespecial 1, 3) := dk_183 0 1 (dk_at dksJ1_init_0 1 rfl rfl)
theorem dJ1_init_4 : decode cJ1_init 4 = .ok (.aload_n 0, 1) := dk_42 (dk_at dksJ1_init_0 4 rfl rfl)
theorem dJ1_init_5 : decode cJ1_init 5 = .ok (.iconst 0, 1) := dk_3 (dk_at dksJ1_init_0 5 rfl rfl)
theorem dJ1_init_6 : decode cJ1_init 6 = .ok (.putfield 7, 3) := dk_181 0 7 (dk_at dksJ1_init_0 6 rfl rfl)
theorem dJ1_init_9 : decode cJ1_init 9 = .ok (.return_, 1) := dk_177 (dk_at dksJ1_init_0 9 rfl rfl)
theorem q77 : (Jvm.Cond.initialized "java/util/AbstractList") ∈ lw_all := lw_g (lw_at lw_m1 5 rfl) rfl
theorem q161 : (Jvm.Cond.instanceMethod ({ cls := "java/util/AbstractList", name := "<init>", desc := "()V" } : Jvm.MethodName)) ∈ lw_all := lw_g (lw_at lw_m1 89 rfl) rfl
theorem q162 : (Jvm.Cond.code ({ cls := "java/util/AbstractList", name := "<init>", desc := "()V" } : Jvm.MethodName) prog_38_method_1_code (1 : Nat) (Option.none : Option Jvm.ClassFile.FieldType)) ∈ lw_all := lw_g (lw_at lw_m1 90 rfl) rfl
theorem q163 : (Jvm.Cond.methodLink "java/util/AbstractList" (1 : Nat) ({ cls := "java/util/AbstractCollection", name := "<init>", desc := "()V" } : Jvm.MethodName)) ∈ lw_all := lw_g (lw_at lw_m1 91 rfl) rfl
theorem q173 : (Jvm.Cond.fieldLink "java/util/AbstractList" (7 : Nat) "java/util/AbstractList" "modCount" "I") ∈ lw_all := lw_g (lw_at lw_m1 101 rfl) rfl
theorem q181 : (Jvm.Cond.soleField "java/util/AbstractList" "modCount") ∈ lw_all := lw_g (lw_at lw_m1 109 rfl) rfl
/-! java/lang/Math -/
set_option maxRecDepth 100000
def RJ10 : String := "java/lang/Math"
abbrev cJ10_max : ByteArray := prog_28_method_65_code
def yJ10_max : MethodName := ⟨RJ10, "max", "(II)I"⟩
def dkwJ10_max_0 : List UInt8 := [26, 27, 161, 0, 7, 26, 167, 0, 4, 27, 172]
abbrev dktJ10_max_0 : List UInt8 := dkwJ10_max_0 ++ []
theorem dksJ10_max_0 : cJ10_max.data.toList.drop 0 = dktJ10_max_0 := by decide +kernel
theorem dJ10_max_0 : decode cJ10_max 0 = .ok (.iload_n 0, 1) := dk_26 (dk_at dksJ10_max_0 0 rfl rfl)
theorem dJ10_max_1 : decode cJ10_max 1 = .ok (.iload_n 1, 1) := dk_27 (dk_at dksJ10_max_0 1 rfl rfl)
theorem dJ10_max_2 : decode cJ10_max 2 = .ok (.if_icmp .lt 7, 3) := dk_161 0 7 (dk_at dksJ10_max_0 2 rfl rfl)
theorem dJ10_max_5 : decode cJ10_max 5 = .ok (.iload_n 0, 1) := dk_26 (dk_at dksJ10_max_0 5 rfl rfl)
theorem dJ10_max_6 : decode cJ10_max 6 = .ok (.goto 4, 3) := dk_167 0 4 (dk_at dksJ10_max_0 6 rfl rfl)
theorem dJ10_max_9 : decode cJ10_max 9 = .ok (.iload_n 1, 1) := dk_27 (dk_at dksJ10_max_0 9 rfl rfl)
theorem dJ10_max_10 : decode cJ10_max 10 = .ok (.ireturn, 1) := dk_172 (dk_at dksJ10_max_0 10 rfl rfl)
abbrev cJ10_min : ByteArray := prog_28_method_69_code
def yJ10_min : MethodName := ⟨RJ10, "min", "(II)I"⟩
def dkwJ10_min_0 : List UInt8 := [26, 27, 163, 0, 7, 26, 167, 0, 4, 27, 172]
abbrev dktJ10_min_0 : List UInt8 := dkwJ10_min_0 ++ []
theorem dksJ10_min_0 : cJ10_min.data.toList.drop 0 = dktJ10_min_0 := by decide +kernel
theorem dJ10_min_0 : decode cJ10_min 0 = .ok (.iload_n 0, 1) := dk_26 (dk_at dksJ10_min_0 0 rfl rfl)
theorem dJ10_min_1 : decode cJ10_min 1 = .ok (.iload_n 1, 1) := dk_27 (dk_at dksJ10_min_0 1 rfl rfl)
theorem dJ10_min_2 : decode cJ10_min 2 = .ok (.if_icmp .gt 7, 3) := dk_163 0 7 (dk_at dksJ10_min_0 2 rfl rfl)
theorem dJ10_min_5 : decode cJ10_min 5 = .ok (.iload_n 0, 1) := dk_26 (dk_at dksJ10_min_0 5 rfl rfl)
theorem dJ10_min_6 : decode cJ10_min 6 = .ok (.goto 4, 3) := dk_167 0 4 (dk_at dksJ10_min_0 6 rfl rfl)
theorem dJ10_min_9 : decode cJ10_min 9 = .ok (.iload_n 1, 1) := dk_27 (dk_at dksJ10_min_0 9 rfl rfl)
theorem dJ10_min_10 : decode cJ10_min 10 = .ok (.ireturn, 1) := dk_172 (dk_at dksJ10_min_0 10 rfl rfl)
theorem q92 : (Jvm.Cond.initialized "java/lang/Math") ∈ lw_all := lw_g (lw_at lw_m1 20 rfl) rfl
theorem q634 : (Jvm.Cond.static ({ cls := "java/lang/Math", name := "max", desc := "(II)I" } : Jvm.MethodName)) ∈ lw_all := lw_g (lw_at lw_m3 82 rfl) rfl
theorem q635 : (Jvm.Cond.code ({ cls := "java/lang/Math", name := "max", desc := "(II)I" } : Jvm.MethodName) prog_28_method_65_code (2 : Nat) (Option.some Jvm.ClassFile.FieldType.int)) ∈ lw_all := lw_g (lw_at lw_m3 83 rfl) rfl
theorem q673 : (Jvm.Cond.static ({ cls := "java/lang/Math", name := "min", desc := "(II)I" } : Jvm.MethodName)) ∈ lw_all := lw_g (lw_at lw_m3 121 rfl) rfl
theorem q674 : (Jvm.Cond.code ({ cls := "java/lang/Math", name := "min", desc := "(II)I" } : Jvm.MethodName) prog_28_method_69_code (2 : Nat) (Option.some Jvm.ClassFile.FieldType.int)) ∈ lw_all := lw_g (lw_at lw_m3 122 rfl) rfl
/-! java/util/Arrays -/
set_option maxRecDepth 100000
def RJ11 : String := "java/util/Arrays"
abbrev cJ11_copyOf : ByteArray := prog_40_method_119_code
def yJ11_copyOf : MethodName := ⟨RJ11, "copyOf", "([Ljava/lang/Object;I)[Ljava/lang/Object;"⟩
def dkwJ11_copyOf_0 : List UInt8 := [42, 27, 42, 182, 0, 86, 184, 1, 44, 176]
abbrev dktJ11_copyOf_0 : List UInt8 := dkwJ11_copyOf_0 ++ []
theorem dksJ11_copyOf_0 : cJ11_copyOf.data.toList.drop 0 = dktJ11_copyOf_0 := by decide +kernel
theorem dJ11_copyOf_0 : decode cJ11_copyOf 0 = .ok (.aload_n 0, 1) := dk_42 (dk_at dksJ11_copyOf_0 0 rfl rfl)
theorem dJ11_copyOf_1 : decode cJ11_copyOf 1 = .ok (.iload_n 1, 1) := dk_27 (dk_at dksJ11_copyOf_0 1 rfl rfl)
theorem dJ11_copyOf_2 : decode cJ11_copyOf 2 = .ok (.aload_n 0, 1) := dk_42 (dk_at dksJ11_copyOf_0 2 rfl rfl)
theorem dJ11_copyOf_3 : decode cJ11_copyOf 3 = .ok (.invokevirtual 86, 3) := dk_182 0 86 (dk_at dksJ11_copyOf_0 3 rfl rfl)
theorem dJ11_copyOf_6 : decode cJ11_copyOf 6 = .ok (.invokestatic 300, 3) := dk_184 1 44 (dk_at dksJ11_copyOf_0 6 rfl rfl)
theorem dJ11_copyOf_9 : decode cJ11_copyOf 9 = .ok (.areturn, 1) := dk_176 (dk_at dksJ11_copyOf_0 9 rfl rfl)
abbrev cJ11_copyOf_2 : ByteArray := prog_40_method_120_code
def yJ11_copyOf_2 : MethodName := ⟨RJ11, "copyOf", "([Ljava/lang/Object;ILjava/lang/Class;)[Ljava/lang/Object;"⟩
def dkwJ11_copyOf_2_1 : List UInt8 := [78, 42, 3, 45, 3, 42, 190, 27, 184, 1, 48, 184, 0, 150, 45, 176]
abbrev dktJ11_copyOf_2_1 : List UInt8 := dkwJ11_copyOf_2_1 ++ []
def dkwJ11_copyOf_2_0 : List UInt8 := [44, 18, 110, 166, 0, 10, 27, 189, 0, 2, 167, 0, 14, 44, 182, 0, 90, 27, 184, 0, 95, 192, 0, 110]
abbrev dktJ11_copyOf_2_0 : List UInt8 := dkwJ11_copyOf_2_0 ++ dktJ11_copyOf_2_1
theorem dksJ11_copyOf_2_0 : cJ11_copyOf_2.data.toList.drop 0 = dktJ11_copyOf_2_0 := by decide +kernel
theorem dksJ11_copyOf_2_1 : cJ11_copyOf_2.data.toList.drop 24 = dktJ11_copyOf_2_1 := dk_seg dksJ11_copyOf_2_0 24 rfl rfl
theorem dJ11_copyOf_2_0 : decode cJ11_copyOf_2 0 = .ok (.aload_n 2, 1) := dk_44 (dk_at dksJ11_copyOf_2_0 0 rfl rfl)
theorem dJ11_copyOf_2_1 : decode cJ11_copyOf_2 1 = .ok (.ldc 110, 2) := dk_18 110 (dk_at dksJ11_copyOf_2_0 1 rfl rfl)
theorem dJ11_copyOf_2_3 : decode cJ11_copyOf_2 3 = .ok (.if_acmp .ne 10, 3) := dk_166 0 10 (dk_at dksJ11_copyOf_2_0 3 rfl rfl)
theorem dJ11_copyOf_2_6 : decode cJ11_copyOf_2 6 = .ok (.iload_n 1, 1) := dk_27 (dk_at dksJ11_copyOf_2_0 6 rfl rfl)
theorem dJ11_copyOf_2_7 : decode cJ11_copyOf_2 7 = .ok (.anewarray 2, 3) := dk_189 0 2 (dk_at dksJ11_copyOf_2_0 7 rfl rfl)
theorem dJ11_copyOf_2_10 : decode cJ11_copyOf_2 10 = .ok (.goto 14, 3) := dk_167 0 14 (dk_at dksJ11_copyOf_2_0 10 rfl rfl)
theorem dJ11_copyOf_2_13 : decode cJ11_copyOf_2 13 = .ok (.aload_n 2, 1) := dk_44 (dk_at dksJ11_copyOf_2_0 13 rfl rfl)
theorem dJ11_copyOf_2_14 : decode cJ11_copyOf_2 14 = .ok (.invokevirtual 90, 3) := dk_182 0 90 (dk_at dksJ11_copyOf_2_0 14 rfl rfl)
theorem dJ11_copyOf_2_17 : decode cJ11_copyOf_2 17 = .ok (.iload_n 1, 1) := dk_27 (dk_at dksJ11_copyOf_2_0 17 rfl rfl)
theorem dJ11_copyOf_2_18 : decode cJ11_copyOf_2 18 = .ok (.invokestatic 95, 3) := dk_184 0 95 (dk_at dksJ11_copyOf_2_0 18 rfl rfl)
theorem dJ11_copyOf_2_21 : decode cJ11_copyOf_2 21 = .ok (.checkcast 110, 3) := dk_192 0 110 (dk_at dksJ11_copyOf_2_0 21 rfl rfl)
theorem dJ11_copyOf_2_24 : decode cJ11_copyOf_2 24 = .ok (.astore_n 3, 1) := dk_78 (dk_at dksJ11_copyOf_2_1 0 rfl rfl)
theorem dJ11_copyOf_2_25 : decode cJ11_copyOf_2 25 = .ok (.aload_n 0, 1) := dk_42 (dk_at dksJ11_copyOf_2_1 1 rfl rfl)
theorem dJ11_copyOf_2_26 : decode cJ11_copyOf_2 26 = .ok (.iconst 0, 1) := dk_3 (dk_at dksJ11_copyOf_2_1 2 rfl rfl)
theorem dJ11_copyOf_2_27 : decode cJ11_copyOf_2 27 = .ok (.aload_n 3, 1) := dk_45 (dk_at dksJ11_copyOf_2_1 3 rfl rfl)
theorem dJ11_copyOf_2_28 : decode cJ11_copyOf_2 28 = .ok (.iconst 0, 1) := dk_3 (dk_at dksJ11_copyOf_2_1 4 rfl rfl)
theorem dJ11_copyOf_2_29 : decode cJ11_copyOf_2 29 = .ok (.aload_n 0, 1) := dk_42 (dk_at dksJ11_copyOf_2_1 5 rfl rfl)
theorem dJ11_copyOf_2_30 : decode cJ11_copyOf_2 30 = .ok (.arraylength, 1) := dk_190 (dk_at dksJ11_copyOf_2_1 6 rfl rfl)
theorem dJ11_copyOf_2_31 : decode cJ11_copyOf_2 31 = .ok (.iload_n 1, 1) := dk_27 (dk_at dksJ11_copyOf_2_1 7 rfl rfl)
theorem dJ11_copyOf_2_32 : decode cJ11_copyOf_2 32 = .ok (.invokestatic 304, 3) := dk_184 1 48 (dk_at dksJ11_copyOf_2_1 8 rfl rfl)
theorem dJ11_copyOf_2_35 : decode cJ11_copyOf_2 35 = .ok (.invokestatic 150, 3) := dk_184 0 150 (dk_at dksJ11_copyOf_2_1 11 rfl rfl)
theorem dJ11_copyOf_2_38 : decode cJ11_copyOf_2 38 = .ok (.aload_n 3, 1) := dk_45 (dk_at dksJ11_copyOf_2_1 14 rfl rfl)
theorem dJ11_copyOf_2_39 : decode cJ11_copyOf_2 39 = .ok (.areturn, 1) := dk_176 (dk_at dksJ11_copyOf_2_1 15 rfl rfl)
theorem q93 : (Jvm.Cond.initialized "java/util/Arrays") ∈ lw_all := lw_g (lw_at lw_m1 21 rfl) rfl
theorem q641 : (Jvm.Cond.static ({ cls := "java/util/Arrays", name := "copyOf", desc := "([Ljava/lang/Object;I)[Ljava/lang/Object;" } : Jvm.MethodName)) ∈ lw_all := lw_g (lw_at lw_m3 89 rfl) rfl
theorem q642 : (Jvm.Cond.code ({ cls := "java/util/Arrays", name := "copyOf", desc := "([Ljava/lang/Object;I)[Ljava/lang/Object;" } : Jvm.MethodName) prog_40_method_119_code (2 : Nat) (Option.some (Jvm.ClassFile.FieldType.array (Jvm.ClassFile.FieldType.object "java/lang/Object")))) ∈ lw_all := lw_g (lw_at lw_m3 90 rfl) rfl
theorem q643 : (Jvm.Cond.methodLink "java/util/Arrays" (86 : Nat) ({ cls := "java/lang/Object", name := "getClass", desc := "()Ljava/lang/Class;" } : Jvm.MethodName)) ∈ lw_all := lw_g (lw_at lw_m3 91 rfl) rfl
theorem q667 : (Jvm.Cond.methodLink "java/util/Arrays" (300 : Nat) ({ cls := "java/util/Arrays", name := "copyOf", desc := "([Ljava/lang/Object;ILjava/lang/Class;)[Ljava/lang/Object;" } : Jvm.MethodName)) ∈ lw_all := lw_g (lw_at lw_m3 115 rfl) rfl
theorem q668 : (Jvm.Cond.static ({ cls := "java/util/Arrays", name := "copyOf", desc := "([Ljava/lang/Object;ILjava/lang/Class;)[Ljava/lang/Object;" } : Jvm.MethodName)) ∈ lw_all := lw_g (lw_at lw_m3 116 rfl) rfl
theorem q669 : (Jvm.Cond.code ({ cls := "java/util/Arrays", name := "copyOf", desc := "([Ljava/lang/Object;ILjava/lang/Class;)[Ljava/lang/Object;" } : Jvm.MethodName) prog_40_method_120_code (4 : Nat) (Option.some (Jvm.ClassFile.FieldType.array (Jvm.ClassFile.FieldType.object "java/lang/Object")))) ∈ lw_all := lw_g (lw_at lw_m3 117 rfl) rfl
theorem q670 : (Jvm.Cond.classLink "java/util/Arrays" (110 : Nat) "[Ljava/lang/Object;") ∈ lw_all := lw_g (lw_at lw_m3 118 rfl) rfl
theorem q671 : (Jvm.Cond.classLink "java/util/Arrays" (2 : Nat) "java/lang/Object") ∈ lw_all := lw_g (lw_at lw_m3 119 rfl) rfl
theorem q672 : (Jvm.Cond.methodLink "java/util/Arrays" (304 : Nat) ({ cls := "java/lang/Math", name := "min", desc := "(II)I" } : Jvm.MethodName)) ∈ lw_all := lw_g (lw_at lw_m3 120 rfl) rfl
theorem q675 : (Jvm.Cond.methodLink "java/util/Arrays" (150 : Nat) ({ cls := "java/lang/System", name := "arraycopy", desc := "(Ljava/lang/Object;ILjava/lang/Object;II)V" } : Jvm.MethodName)) ∈ lw_all := lw_g (lw_at lw_m3 123 rfl) rfl
/-! java/util/Objects -/
set_option maxRecDepth 100000
def RJ12 : String := "java/util/Objects"
abbrev cJ12_checkIndex : ByteArray := prog_44_method_17_code
def yJ12_checkIndex : MethodName := ⟨RJ12, "checkIndex", "(II)I"⟩
def dkwJ12_checkIndex_0 : List UInt8 := [26, 27, 1, 184, 0, 105, 172]
abbrev dktJ12_checkIndex_0 : List UInt8 := dkwJ12_checkIndex_0 ++ []
theorem dksJ12_checkIndex_0 : cJ12_checkIndex.data.toList.drop 0 = dktJ12_checkIndex_0 := by decide +kernel
theorem dJ12_checkIndex_0 : decode cJ12_checkIndex 0 = .ok (.iload_n 0, 1) := dk_26 (dk_at dksJ12_checkIndex_0 0 rfl rfl)
theorem dJ12_checkIndex_1 : decode cJ12_checkIndex 1 = .ok (.iload_n 1, 1) := dk_27 (dk_at dksJ12_checkIndex_0 1 rfl rfl)
theorem dJ12_checkIndex_2 : decode cJ12_checkIndex 2 = .ok (.aconst_null, 1) := dk_1 (dk_at dksJ12_checkIndex_0 2 rfl rfl)
theorem dJ12_checkIndex_3 : decode cJ12_checkIndex 3 = .ok (.invokestatic 105, 3) := dk_184 0 105 (dk_at dksJ12_checkIndex_0 3 rfl rfl)
theorem dJ12_checkIndex_6 : decode cJ12_checkIndex 6 = .ok (.ireturn, 1) := dk_172 (dk_at dksJ12_checkIndex_0 6 rfl rfl)
theorem q96 : (Jvm.Cond.initialized "java/util/Objects") ∈ lw_all := lw_g (lw_at lw_m1 24 rfl) rfl
theorem q732 : (Jvm.Cond.static ({ cls := "java/util/Objects", name := "checkIndex", desc := "(II)I" } : Jvm.MethodName)) ∈ lw_all := lw_g (lw_at lw_m3 180 rfl) rfl
theorem q733 : (Jvm.Cond.code ({ cls := "java/util/Objects", name := "checkIndex", desc := "(II)I" } : Jvm.MethodName) prog_44_method_17_code (2 : Nat) (Option.some Jvm.ClassFile.FieldType.int)) ∈ lw_all := lw_g (lw_at lw_m3 181 rfl) rfl
theorem q734 : (Jvm.Cond.methodLink "java/util/Objects" (105 : Nat) ({ cls := "jdk/internal/util/Preconditions", name := "checkIndex", desc := "(IILjava/util/function/BiFunction;)I" } : Jvm.MethodName)) ∈ lw_all := lw_g (lw_at lw_m3 182 rfl) rfl
/-! java/lang/RuntimeException -/
set_option maxRecDepth 100000
def RJ13 : String := "java/lang/RuntimeException"
abbrev cJ13_init : ByteArray := prog_29_method_2_code
def yJ13_init : MethodName := ⟨RJ13, "<init>", "(Ljava/lang/String;)V"⟩
def dkwJ13_init_0 : List UInt8 := [42, 43, 183, 0, 7, 177]
abbrev dktJ13_init_0 : List UInt8 := dkwJ13_init_0 ++ []
theorem dksJ13_init_0 : cJ13_init.data.toList.drop 0 = dktJ13_init_0 := by decide +kernel
theorem dJ13_init_0 : decode cJ13_init 0 = .ok (.aload_n 0, 1) := dk_42 (dk_at dksJ13_init_0 0 rfl rfl)
theorem dJ13_init_1 : decode cJ13_init 1 = .ok (.aload_n 1, 1) := dk_43 (dk_at dksJ13_init_0 1 rfl rfl)
theorem dJ13_init_2 : decode cJ13_init 2 = .ok (.invokespecial 7, 3) := dk_183 0 7 (dk_at dksJ13_init_0 2 rfl rfl)
theorem dJ13_init_5 : decode cJ13_init 5 = .ok (.return_, 1) := dk_177 (dk_at dksJ13_init_0 5 rfl rfl)
abbrev cJ13_init_2 : ByteArray := prog_29_method_1_code
def yJ13_init_2 : MethodName := ⟨RJ13, "<init>", "()V"⟩
theorem dJ13_init_2_0 : decode cJ13_init_2 0 = .ok (.aload_n 0, 1) := by decide +kernel
theorem dJ13_init_2_1 : decode cJ13_init_2 1 = .ok (.invokespecial 1, 3) := by decide +kernel
theorem dJ13_init_2_4 : decode cJ13_init_2 4 = .ok (.return_, 1) := by decide +kernel
theorem q105 : (Jvm.Cond.initialized "java/lang/RuntimeException") ∈ lw_all := lw_g (lw_at lw_m1 33 rfl) rfl
theorem q1180 : (Jvm.Cond.instanceMethod ({ cls := "java/lang/RuntimeException", name := "<init>", desc := "(Ljava/lang/String;)V" } : Jvm.MethodName)) ∈ lw_all := lw_g (lw_at lw_m5 148 rfl) rfl
theorem q1181 : (Jvm.Cond.code ({ cls := "java/lang/RuntimeException", name := "<init>", desc := "(Ljava/lang/String;)V" } : Jvm.MethodName) prog_29_method_2_code (2 : Nat) (Option.none : Option Jvm.ClassFile.FieldType)) ∈ lw_all := lw_g (lw_at lw_m5 149 rfl) rfl
theorem q1182 : (Jvm.Cond.methodLink "java/lang/RuntimeException" (7 : Nat) ({ cls := "java/lang/Exception", name := "<init>", desc := "(Ljava/lang/String;)V" } : Jvm.MethodName)) ∈ lw_all := lw_g (lw_at lw_m5 150 rfl) rfl
theorem q1198 : (Jvm.Cond.declares ({ cls := "java/lang/RuntimeException", name := "<init>", desc := "()V" } : Jvm.MethodName)) ∈ lw_tbl := lw_at lw_m5 166 rfl
theorem q1199 : (Jvm.Cond.declares ({ cls := "java/lang/RuntimeException", name := "<init>", desc := "(Ljava/lang/String;)V" } : Jvm.MethodName)) ∈ lw_tbl := lw_at lw_m5 167 rfl
theorem q1224 : (Jvm.Cond.instanceMethod ({ cls := "java/lang/RuntimeException", name := "<init>", desc := "()V" } : Jvm.MethodName)) ∈ lw_all := lw_g (lw_at lw_m5 192 rfl) rfl
theorem q1225 : (Jvm.Cond.code ({ cls := "java/lang/RuntimeException", name := "<init>", desc := "()V" } : Jvm.MethodName) prog_29_method_1_code (1 : Nat) (Option.none : Option Jvm.ClassFile.FieldType)) ∈ lw_all := lw_g (lw_at lw_m5 193 rfl) rfl
theorem q1226 : (Jvm.Cond.methodLink "java/lang/RuntimeException" (1 : Nat) ({ cls := "java/lang/Exception", name := "<init>", desc := "()V" } : Jvm.MethodName)) ∈ lw_all := lw_g (lw_at lw_m5 194 rfl) rfl
/-! java/lang/IndexOutOfBoundsException -/
set_option maxRecDepth 100000
def RJ14 : String := "java/lang/IndexOutOfBoundsException"
def TJ14 : u_T := fun k => match k with
  | 0 => ("java/lang/Throwable", "cause", "Ljava/lang/Throwable;", false)
  | 1 => ("java/lang/Throwable", "stackTrace", "[Ljava/lang/StackTraceElement;", false)
  | 2 => ("java/lang/Throwable", "suppressedExceptions", "Ljava/util/List;", false)
  | 3 => ("java/lang/Throwable", "detailMessage", "Ljava/lang/String;", false)
  | 4 => ("java/lang/Throwable", "backtrace", "Ljava/lang/Object;", false)
  | _ => ("java/lang/Throwable", "depth", "I", false)
def tyJ14 : Nat → FieldType := fun k => match k with
  | 0 => .object "java/lang/Throwable"
  | 1 => .array (.object "java/lang/StackTraceElement")
  | 2 => .object "java/util/List"
  | 3 => .object "java/lang/String"
  | 4 => .object "java/lang/Object"
  | _ => .int
abbrev wsJ140 : List Cond := u_ws RJ14 TJ14 6
theorem nmJ14 : ∀ a, a < 6 → ∀ b, b < 6 → a ≠ b → (TJ14 a).2.1 ≠ (TJ14 b).2.1 := by decide +kernel
theorem tyJ14_ok : ∀ k, k < 6 → parseFieldDescriptor (TJ14 k).2.2.1 = some (tyJ14 k) := by decide +kernel
abbrev cJ14_init : ByteArray := prog_26_method_2_code
def yJ14_init : MethodName := ⟨RJ14, "<init>", "(Ljava/lang/String;)V"⟩
def dkwJ14_init_0 : List UInt8 := [42, 43, 183, 0, 7, 177]
abbrev dktJ14_init_0 : List UInt8 := dkwJ14_init_0 ++ []
theorem dksJ14_init_0 : cJ14_init.data.toList.drop 0 = dktJ14_init_0 := by decide +kernel
theorem dJ14_init_0 : decode cJ14_init 0 = .ok (.aload_n 0, 1) := dk_42 (dk_at dksJ14_init_0 0 rfl rfl)
theorem dJ14_init_1 : decode cJ14_init 1 = .ok (.aload_n 1, 1) := dk_43 (dk_at dksJ14_init_0 1 rfl rfl)
theorem dJ14_init_2 : decode cJ14_init 2 = .ok (.invokespecial 7, 3) := dk_183 0 7 (dk_at dksJ14_init_0 2 rfl rfl)
theorem dJ14_init_5 : decode cJ14_init 5 = .ok (.return_, 1) := dk_177 (dk_at dksJ14_init_0 5 rfl rfl)
abbrev cJ14_init_2 : ByteArray := prog_26_method_1_code
def yJ14_init_2 : MethodName := ⟨RJ14, "<init>", "()V"⟩
theorem dJ14_init_2_0 : decode cJ14_init_2 0 = .ok (.aload_n 0, 1) := by decide +kernel
theorem dJ14_init_2_1 : decode cJ14_init_2 1 = .ok (.invokespecial 1, 3) := by decide +kernel
theorem dJ14_init_2_4 : decode cJ14_init_2 4 = .ok (.return_, 1) := by decide +kernel
theorem q106 : (Jvm.Cond.initialized "java/lang/IndexOutOfBoundsException") ∈ lw_all := lw_g (lw_at lw_m1 34 rfl) rfl
theorem q506 : (Jvm.Cond.selects "java/lang/IndexOutOfBoundsException" ({ cls := "java/lang/Throwable", name := "fillInStackTrace", desc := "()Ljava/lang/Throwable;" } : Jvm.MethodName) ({ cls := "java/lang/Throwable", name := "fillInStackTrace", desc := "()Ljava/lang/Throwable;" } : Jvm.MethodName)) ∈ lw_all := lw_g (lw_at lw_m2 194 rfl) rfl
theorem q663 : (Jvm.Cond.selects "java/lang/IndexOutOfBoundsException" ({ cls := "java/lang/Object", name := "getClass", desc := "()Ljava/lang/Class;" } : Jvm.MethodName) ({ cls := "java/lang/Object", name := "getClass", desc := "()Ljava/lang/Class;" } : Jvm.MethodName)) ∈ lw_all := lw_g (lw_at lw_m3 111 rfl) rfl
theorem q1177 : (Jvm.Cond.instanceMethod ({ cls := "java/lang/IndexOutOfBoundsException", name := "<init>", desc := "(Ljava/lang/String;)V" } : Jvm.MethodName)) ∈ lw_all := lw_g (lw_at lw_m5 145 rfl) rfl
theorem q1178 : (Jvm.Cond.code ({ cls := "java/lang/IndexOutOfBoundsException", name := "<init>", desc := "(Ljava/lang/String;)V" } : Jvm.MethodName) prog_26_method_2_code (2 : Nat) (Option.none : Option Jvm.ClassFile.FieldType)) ∈ lw_all := lw_g (lw_at lw_m5 146 rfl) rfl
theorem q1179 : (Jvm.Cond.methodLink "java/lang/IndexOutOfBoundsException" (7 : Nat) ({ cls := "java/lang/RuntimeException", name := "<init>", desc := "(Ljava/lang/String;)V" } : Jvm.MethodName)) ∈ lw_all := lw_g (lw_at lw_m5 147 rfl) rfl
theorem q1196 : (Jvm.Cond.declares ({ cls := "java/lang/IndexOutOfBoundsException", name := "<init>", desc := "()V" } : Jvm.MethodName)) ∈ lw_tbl := lw_at lw_m5 164 rfl
theorem q1197 : (Jvm.Cond.declares ({ cls := "java/lang/IndexOutOfBoundsException", name := "<init>", desc := "(Ljava/lang/String;)V" } : Jvm.MethodName)) ∈ lw_tbl := lw_at lw_m5 165 rfl
theorem q1212 : (Jvm.Cond.instantiable "java/lang/IndexOutOfBoundsException" (6 : Nat)) ∈ lw_all := lw_g (lw_at lw_m5 180 rfl) rfl
theorem q1213 : (Jvm.Cond.castable "java/lang/IndexOutOfBoundsException" "java/lang/IndexOutOfBoundsException") ∈ lw_tbl := lw_at lw_m5 181 rfl
theorem q1214 : (Jvm.Cond.selects "java/lang/IndexOutOfBoundsException" ({ cls := "java/lang/Throwable", name := "fillInStackTrace", desc := "(I)Ljava/lang/Throwable;" } : Jvm.MethodName) ({ cls := "java/lang/Throwable", name := "fillInStackTrace", desc := "(I)Ljava/lang/Throwable;" } : Jvm.MethodName)) ∈ lw_all := lw_g (lw_at lw_m5 182 rfl) rfl
theorem q1215 : (Jvm.Cond.lays "java/lang/IndexOutOfBoundsException" "java/lang/Throwable" "cause" "Ljava/lang/Throwable;") ∈ lw_all := lw_g (lw_at lw_m5 183 rfl) rfl
theorem q1216 : (Jvm.Cond.lays "java/lang/IndexOutOfBoundsException" "java/lang/Throwable" "stackTrace" "[Ljava/lang/StackTraceElement;") ∈ lw_all := lw_g (lw_at lw_m5 184 rfl) rfl
theorem q1217 : (Jvm.Cond.lays "java/lang/IndexOutOfBoundsException" "java/lang/Throwable" "suppressedExceptions" "Ljava/util/List;") ∈ lw_all := lw_g (lw_at lw_m5 185 rfl) rfl
theorem q1218 : (Jvm.Cond.lays "java/lang/IndexOutOfBoundsException" "java/lang/Throwable" "detailMessage" "Ljava/lang/String;") ∈ lw_all := lw_g (lw_at lw_m5 186 rfl) rfl
theorem q1219 : (Jvm.Cond.lays "java/lang/IndexOutOfBoundsException" "java/lang/Throwable" "backtrace" "Ljava/lang/Object;") ∈ lw_all := lw_g (lw_at lw_m5 187 rfl) rfl
theorem q1221 : (Jvm.Cond.instanceMethod ({ cls := "java/lang/IndexOutOfBoundsException", name := "<init>", desc := "()V" } : Jvm.MethodName)) ∈ lw_all := lw_g (lw_at lw_m5 189 rfl) rfl
theorem q1222 : (Jvm.Cond.code ({ cls := "java/lang/IndexOutOfBoundsException", name := "<init>", desc := "()V" } : Jvm.MethodName) prog_26_method_1_code (1 : Nat) (Option.none : Option Jvm.ClassFile.FieldType)) ∈ lw_all := lw_g (lw_at lw_m5 190 rfl) rfl
theorem q1223 : (Jvm.Cond.methodLink "java/lang/IndexOutOfBoundsException" (1 : Nat) ({ cls := "java/lang/RuntimeException", name := "<init>", desc := "()V" } : Jvm.MethodName)) ∈ lw_all := lw_g (lw_at lw_m5 191 rfl) rfl
theorem q1230 : (Jvm.Cond.lays "java/lang/IndexOutOfBoundsException" "java/lang/Throwable" "depth" "I") ∈ lw_all := lw_g (lw_at lw_m5 198 rfl) rfl
theorem q1231 : (Jvm.Cond.superclass "java/lang/IndexOutOfBoundsException" "java/lang/RuntimeException") ∈ lw_all := lw_g (lw_at lw_m5 199 rfl) rfl
theorem q1747 : (Jvm.Cond.castable "java/lang/IndexOutOfBoundsException" "java/lang/Object") ∈ lw_tbl := lw_at lw_m7 235 rfl
theorem in_J14 : ∀ w ∈ wsJ140, w ∈ lw_all := lw_in wsJ140 [1215, 1216, 1217, 1218, 1219, 1230] (by decide +kernel) (by decide +kernel)
/-! java/lang/ArrayIndexOutOfBoundsException -/
set_option maxRecDepth 100000
def RJ15 : String := "java/lang/ArrayIndexOutOfBoundsException"
def TJ15 : u_T := fun k => match k with
  | 0 => ("java/lang/Throwable", "backtrace", "Ljava/lang/Object;", false)
  | 1 => ("java/lang/Throwable", "detailMessage", "Ljava/lang/String;", false)
  | 2 => ("java/lang/Throwable", "cause", "Ljava/lang/Throwable;", false)
  | 3 => ("java/lang/Throwable", "stackTrace", "[Ljava/lang/StackTraceElement;", false)
  | 4 => ("java/lang/Throwable", "depth", "I", false)
  | _ => ("java/lang/Throwable", "suppressedExceptions", "Ljava/util/List;", false)
def tyJ15 : Nat → FieldType := fun k => match k with
  | 0 => .object "java/lang/Object"
  | 1 => .object "java/lang/String"
  | 2 => .object "java/lang/Throwable"
  | 3 => .array (.object "java/lang/StackTraceElement")
  | 4 => .int
  | _ => .object "java/util/List"
abbrev wsJ150 : List Cond := u_ws RJ15 TJ15 6
theorem nmJ15 : ∀ a, a < 6 → ∀ b, b < 6 → a ≠ b → (TJ15 a).2.1 ≠ (TJ15 b).2.1 := by decide +kernel
theorem tyJ15_ok : ∀ k, k < 6 → parseFieldDescriptor (TJ15 k).2.2.1 = some (tyJ15 k) := by decide +kernel
abbrev cJ15_init : ByteArray := prog_21_method_2_code
def yJ15_init : MethodName := ⟨RJ15, "<init>", "(Ljava/lang/String;)V"⟩
def dkwJ15_init_0 : List UInt8 := [42, 43, 183, 0, 7, 177]
abbrev dktJ15_init_0 : List UInt8 := dkwJ15_init_0 ++ []
theorem dksJ15_init_0 : cJ15_init.data.toList.drop 0 = dktJ15_init_0 := by decide +kernel
theorem dJ15_init_0 : decode cJ15_init 0 = .ok (.aload_n 0, 1) := dk_42 (dk_at dksJ15_init_0 0 rfl rfl)
theorem dJ15_init_1 : decode cJ15_init 1 = .ok (.aload_n 1, 1) := dk_43 (dk_at dksJ15_init_0 1 rfl rfl)
theorem dJ15_init_2 : decode cJ15_init 2 = .ok (.invokespecial 7, 3) := dk_183 0 7 (dk_at dksJ15_init_0 2 rfl rfl)
theorem dJ15_init_5 : decode cJ15_init 5 = .ok (.return_, 1) := dk_177 (dk_at dksJ15_init_0 5 rfl rfl)
theorem q107 : (Jvm.Cond.initialized "java/lang/ArrayIndexOutOfBoundsException") ∈ lw_all := lw_g (lw_at lw_m1 35 rfl) rfl
theorem q505 : (Jvm.Cond.selects "java/lang/ArrayIndexOutOfBoundsException" ({ cls := "java/lang/Throwable", name := "fillInStackTrace", desc := "()Ljava/lang/Throwable;" } : Jvm.MethodName) ({ cls := "java/lang/Throwable", name := "fillInStackTrace", desc := "()Ljava/lang/Throwable;" } : Jvm.MethodName)) ∈ lw_all := lw_g (lw_at lw_m2 193 rfl) rfl
theorem q662 : (Jvm.Cond.selects "java/lang/ArrayIndexOutOfBoundsException" ({ cls := "java/lang/Object", name := "getClass", desc := "()Ljava/lang/Class;" } : Jvm.MethodName) ({ cls := "java/lang/Object", name := "getClass", desc := "()Ljava/lang/Class;" } : Jvm.MethodName)) ∈ lw_all := lw_g (lw_at lw_m3 110 rfl) rfl
theorem q1173 : (Jvm.Cond.instantiable "java/lang/ArrayIndexOutOfBoundsException" (6 : Nat)) ∈ lw_all := lw_g (lw_at lw_m5 141 rfl) rfl
theorem q1174 : (Jvm.Cond.instanceMethod ({ cls := "java/lang/ArrayIndexOutOfBoundsException", name := "<init>", desc := "(Ljava/lang/String;)V" } : Jvm.MethodName)) ∈ lw_all := lw_g (lw_at lw_m5 142 rfl) rfl
theorem q1175 : (Jvm.Cond.code ({ cls := "java/lang/ArrayIndexOutOfBoundsException", name := "<init>", desc := "(Ljava/lang/String;)V" } : Jvm.MethodName) prog_21_method_2_code (2 : Nat) (Option.none : Option Jvm.ClassFile.FieldType)) ∈ lw_all := lw_g (lw_at lw_m5 143 rfl) rfl
theorem q1176 : (Jvm.Cond.methodLink "java/lang/ArrayIndexOutOfBoundsException" (7 : Nat) ({ cls := "java/lang/IndexOutOfBoundsException", name := "<init>", desc := "(Ljava/lang/String;)V" } : Jvm.MethodName)) ∈ lw_all := lw_g (lw_at lw_m5 144 rfl) rfl
theorem q1188 : (Jvm.Cond.lays "java/lang/ArrayIndexOutOfBoundsException" "java/lang/Throwable" "backtrace" "Ljava/lang/Object;") ∈ lw_all := lw_g (lw_at lw_m5 156 rfl) rfl
theorem q1189 : (Jvm.Cond.lays "java/lang/ArrayIndexOutOfBoundsException" "java/lang/Throwable" "detailMessage" "Ljava/lang/String;") ∈ lw_all := lw_g (lw_at lw_m5 157 rfl) rfl
theorem q1190 : (Jvm.Cond.lays "java/lang/ArrayIndexOutOfBoundsException" "java/lang/Throwable" "cause" "Ljava/lang/Throwable;") ∈ lw_all := lw_g (lw_at lw_m5 158 rfl) rfl
theorem q1191 : (Jvm.Cond.lays "java/lang/ArrayIndexOutOfBoundsException" "java/lang/Throwable" "stackTrace" "[Ljava/lang/StackTraceElement;") ∈ lw_all := lw_g (lw_at lw_m5 159 rfl) rfl
theorem q1192 : (Jvm.Cond.lays "java/lang/ArrayIndexOutOfBoundsException" "java/lang/Throwable" "depth" "I") ∈ lw_all := lw_g (lw_at lw_m5 160 rfl) rfl
theorem q1193 : (Jvm.Cond.lays "java/lang/ArrayIndexOutOfBoundsException" "java/lang/Throwable" "suppressedExceptions" "Ljava/util/List;") ∈ lw_all := lw_g (lw_at lw_m5 161 rfl) rfl
theorem q1194 : (Jvm.Cond.superclass "java/lang/ArrayIndexOutOfBoundsException" "java/lang/IndexOutOfBoundsException") ∈ lw_all := lw_g (lw_at lw_m5 162 rfl) rfl
theorem q1195 : (Jvm.Cond.castable "java/lang/ArrayIndexOutOfBoundsException" "java/lang/ArrayIndexOutOfBoundsException") ∈ lw_tbl := lw_at lw_m5 163 rfl
theorem q1200 : (Jvm.Cond.selects "java/lang/ArrayIndexOutOfBoundsException" ({ cls := "java/lang/Throwable", name := "fillInStackTrace", desc := "(I)Ljava/lang/Throwable;" } : Jvm.MethodName) ({ cls := "java/lang/Throwable", name := "fillInStackTrace", desc := "(I)Ljava/lang/Throwable;" } : Jvm.MethodName)) ∈ lw_all := lw_g (lw_at lw_m5 168 rfl) rfl
theorem q1723 : (Jvm.Cond.castable "java/lang/ArrayIndexOutOfBoundsException" "java/lang/IndexOutOfBoundsException") ∈ lw_tbl := lw_at lw_m7 211 rfl
theorem q1746 : (Jvm.Cond.castable "java/lang/ArrayIndexOutOfBoundsException" "java/lang/Object") ∈ lw_tbl := lw_at lw_m7 234 rfl
theorem in_J15 : ∀ w ∈ wsJ150, w ∈ lw_all := lw_in wsJ150 [1188, 1189, 1190, 1191, 1192, 1193] (by decide +kernel) (by decide +kernel)
/-! java/util/NoSuchElementException -/
set_option maxRecDepth 100000
def RJ16 : String := "java/util/NoSuchElementException"
def TJ16 : u_T := fun k => match k with
  | 0 => ("java/lang/Throwable", "cause", "Ljava/lang/Throwable;", false)
  | 1 => ("java/lang/Throwable", "stackTrace", "[Ljava/lang/StackTraceElement;", false)
  | 2 => ("java/lang/Throwable", "suppressedExceptions", "Ljava/util/List;", false)
  | 3 => ("java/lang/Throwable", "detailMessage", "Ljava/lang/String;", false)
  | 4 => ("java/lang/Throwable", "backtrace", "Ljava/lang/Object;", false)
  | _ => ("java/lang/Throwable", "depth", "I", false)
def tyJ16 : Nat → FieldType := fun k => match k with
  | 0 => .object "java/lang/Throwable"
  | 1 => .array (.object "java/lang/StackTraceElement")
  | 2 => .object "java/util/List"
  | 3 => .object "java/lang/String"
  | 4 => .object "java/lang/Object"
  | _ => .int
abbrev wsJ160 : List Cond := u_ws RJ16 TJ16 6
theorem nmJ16 : ∀ a, a < 6 → ∀ b, b < 6 → a ≠ b → (TJ16 a).2.1 ≠ (TJ16 b).2.1 := by decide +kernel
theorem tyJ16_ok : ∀ k, k < 6 → parseFieldDescriptor (TJ16 k).2.2.1 = some (tyJ16 k) := by decide +kernel
abbrev cJ16_init : ByteArray := prog_43_method_1_code
def yJ16_init : MethodName := ⟨RJ16, "<init>", "()V"⟩
theorem dJ16_init_0 : decode cJ16_init 0 = .ok (.aload_n 0, 1) := by decide +kernel
theorem dJ16_init_1 : decode cJ16_init 1 = .ok (.invokespecial 1, 3) := by decide +kernel
theorem dJ16_init_4 : decode cJ16_init 4 = .ok (.return_, 1) := by decide +kernel
theorem q108 : (Jvm.Cond.initialized "java/util/NoSuchElementException") ∈ lw_all := lw_g (lw_at lw_m1 36 rfl) rfl
theorem q507 : (Jvm.Cond.selects "java/util/NoSuchElementException" ({ cls := "java/lang/Throwable", name := "fillInStackTrace", desc := "()Ljava/lang/Throwable;" } : Jvm.MethodName) ({ cls := "java/lang/Throwable", name := "fillInStackTrace", desc := "()Ljava/lang/Throwable;" } : Jvm.MethodName)) ∈ lw_all := lw_g (lw_at lw_m2 195 rfl) rfl
theorem q665 : (Jvm.Cond.selects "java/util/NoSuchElementException" ({ cls := "java/lang/Object", name := "getClass", desc := "()Ljava/lang/Class;" } : Jvm.MethodName) ({ cls := "java/lang/Object", name := "getClass", desc := "()Ljava/lang/Class;" } : Jvm.MethodName)) ∈ lw_all := lw_g (lw_at lw_m3 113 rfl) rfl
theorem q1233 : (Jvm.Cond.instantiable "java/util/NoSuchElementException" (6 : Nat)) ∈ lw_all := lw_g (lw_at lw_m5 201 rfl) rfl
theorem q1234 : (Jvm.Cond.castable "java/util/NoSuchElementException" "java/util/NoSuchElementException") ∈ lw_tbl := lw_at lw_m5 202 rfl
theorem q1235 : (Jvm.Cond.selects "java/util/NoSuchElementException" ({ cls := "java/lang/Throwable", name := "fillInStackTrace", desc := "(I)Ljava/lang/Throwable;" } : Jvm.MethodName) ({ cls := "java/lang/Throwable", name := "fillInStackTrace", desc := "(I)Ljava/lang/Throwable;" } : Jvm.MethodName)) ∈ lw_all := lw_g (lw_at lw_m5 203 rfl) rfl
theorem q1236 : (Jvm.Cond.lays "java/util/NoSuchElementException" "java/lang/Throwable" "cause" "Ljava/lang/Throwable;") ∈ lw_all := lw_g (lw_at lw_m5 204 rfl) rfl
theorem q1237 : (Jvm.Cond.lays "java/util/NoSuchElementException" "java/lang/Throwable" "stackTrace" "[Ljava/lang/StackTraceElement;") ∈ lw_all := lw_g (lw_at lw_m5 205 rfl) rfl
theorem q1238 : (Jvm.Cond.lays "java/util/NoSuchElementException" "java/lang/Throwable" "suppressedExceptions" "Ljava/util/List;") ∈ lw_all := lw_g (lw_at lw_m5 206 rfl) rfl
theorem q1239 : (Jvm.Cond.lays "java/util/NoSuchElementException" "java/lang/Throwable" "detailMessage" "Ljava/lang/String;") ∈ lw_all := lw_g (lw_at lw_m5 207 rfl) rfl
theorem q1240 : (Jvm.Cond.lays "java/util/NoSuchElementException" "java/lang/Throwable" "backtrace" "Ljava/lang/Object;") ∈ lw_all := lw_g (lw_at lw_m5 208 rfl) rfl
theorem q1242 : (Jvm.Cond.instanceMethod ({ cls := "java/util/NoSuchElementException", name := "<init>", desc := "()V" } : Jvm.MethodName)) ∈ lw_all := lw_g (lw_at lw_m5 210 rfl) rfl
theorem q1243 : (Jvm.Cond.code ({ cls := "java/util/NoSuchElementException", name := "<init>", desc := "()V" } : Jvm.MethodName) prog_43_method_1_code (1 : Nat) (Option.none : Option Jvm.ClassFile.FieldType)) ∈ lw_all := lw_g (lw_at lw_m5 211 rfl) rfl
theorem q1244 : (Jvm.Cond.methodLink "java/util/NoSuchElementException" (1 : Nat) ({ cls := "java/lang/RuntimeException", name := "<init>", desc := "()V" } : Jvm.MethodName)) ∈ lw_all := lw_g (lw_at lw_m5 212 rfl) rfl
theorem q1245 : (Jvm.Cond.lays "java/util/NoSuchElementException" "java/lang/Throwable" "depth" "I") ∈ lw_all := lw_g (lw_at lw_m5 213 rfl) rfl
theorem q1246 : (Jvm.Cond.superclass "java/util/NoSuchElementException" "java/lang/RuntimeException") ∈ lw_all := lw_g (lw_at lw_m5 214 rfl) rfl
theorem q1748 : (Jvm.Cond.castable "java/util/NoSuchElementException" "java/lang/Object") ∈ lw_tbl := lw_at lw_m7 236 rfl
theorem in_J16 : ∀ w ∈ wsJ160, w ∈ lw_all := lw_in wsJ160 [1236, 1237, 1238, 1239, 1240, 1245] (by decide +kernel) (by decide +kernel)
/-! java/lang/Object -/
set_option maxRecDepth 100000
def RJ17 : String := "java/lang/Object"
abbrev cJ17_init : ByteArray := object_method_1_code
def yJ17_init : MethodName := ⟨RJ17, "<init>", "()V"⟩
theorem dJ17_init_0 : decode cJ17_init 0 = .ok (.return_, 1) := by decide +kernel
theorem q115 : (Jvm.Cond.instanceMethod ({ cls := "java/lang/Object", name := "<init>", desc := "()V" } : Jvm.MethodName)) ∈ lw_all := lw_g (lw_at lw_m1 43 rfl) rfl
theorem q116 : (Jvm.Cond.code ({ cls := "java/lang/Object", name := "<init>", desc := "()V" } : Jvm.MethodName) object_method_1_code (1 : Nat) (Option.none : Option Jvm.ClassFile.FieldType)) ∈ lw_all := lw_g (lw_at lw_m1 44 rfl) rfl
theorem q644 : (Jvm.Cond.instanceMethod ({ cls := "java/lang/Object", name := "getClass", desc := "()Ljava/lang/Class;" } : Jvm.MethodName)) ∈ lw_all := lw_g (lw_at lw_m3 92 rfl) rfl
theorem q645 : (Jvm.Cond.sameMethod "java/lang/Object" "java/lang/Object" "getClass" "()Ljava/lang/Class;") ∈ lw_all := lw_g (lw_at lw_m3 93 rfl) rfl
theorem q666 : (Jvm.Cond.native ({ cls := "java/lang/Object", name := "getClass", desc := "()Ljava/lang/Class;" } : Jvm.MethodName)) ∈ lw_all := lw_g (lw_at lw_m3 114 rfl) rfl
theorem q1722 : (Jvm.Cond.initialized "java/lang/Object") ∈ lw_all := lw_g (lw_at lw_m7 210 rfl) rfl
theorem q1752 : (Jvm.Cond.declares ({ cls := "java/lang/Object", name := "getClass", desc := "()Ljava/lang/Class;" } : Jvm.MethodName)) ∈ lw_tbl := lw_at lw_m8 0 rfl
/-! java/util/ArrayList -/
set_option maxRecDepth 100000
def RJ2 : String := "java/util/ArrayList"
def TJ2 : u_T := fun k => match k with
  | 0 => ("java/util/AbstractList", "modCount", "I", false)
  | 1 => ("java/util/ArrayList", "elementData", "[Ljava/lang/Object;", false)
  | _ => ("java/util/ArrayList", "size", "I", false)
def tyJ2 : Nat → FieldType := fun k => match k with
  | 0 => .int
  | 1 => .array (.object "java/lang/Object")
  | _ => .int
abbrev wsJ20 : List Cond := u_ws RJ2 TJ2 3
theorem nmJ2 : ∀ a, a < 3 → ∀ b, b < 3 → a ≠ b → (TJ2 a).2.1 ≠ (TJ2 b).2.1 := by decide +kernel
theorem tyJ2_ok : ∀ k, k < 3 → parseFieldDescriptor (TJ2 k).2.2.1 = some (tyJ2 k) := by decide +kernel
abbrev cJ2_init : ByteArray := prog_39_method_1_code
def yJ2_init : MethodName := ⟨RJ2, "<init>", "(I)V"⟩
def dkwJ2_init_2 : List UInt8 := [182, 0, 25, 27, 182, 0, 29, 182, 0, 32, 183, 0, 36, 191, 177]
abbrev dktJ2_init_2 : List UInt8 := dkwJ2_init_2 ++ []
def dkwJ2_init_1 : List UInt8 := [178, 0, 15, 181, 0, 9, 167, 0, 30, 187, 0, 18, 89, 187, 0, 20, 89, 183, 0, 22, 18, 23]
abbrev dktJ2_init_1 : List UInt8 := dkwJ2_init_1 ++ dktJ2_init_2
def dkwJ2_init_0 : List UInt8 := [42, 183, 0, 1, 27, 158, 0, 14, 42, 27, 189, 0, 7, 181, 0, 9, 167, 0, 44, 27, 154, 0, 13, 42]
abbrev dktJ2_init_0 : List UInt8 := dkwJ2_init_0 ++ dktJ2_init_1
theorem dksJ2_init_0 : cJ2_init.data.toList.drop 0 = dktJ2_init_0 := by decide +kernel
theorem dksJ2_init_1 : cJ2_init.data.toList.drop 24 = dktJ2_init_1 := dk_seg dksJ2_init_0 24 rfl rfl
theorem dksJ2_init_2 : cJ2_init.data.toList.drop 46 = dktJ2_init_2 := dk_seg dksJ2_init_1 22 rfl rfl
theorem dJ2_init_0 : decode cJ2_init 0 = .ok (.aload_n 0, 1) := dk_42 (dk_at dksJ2_init_0 0 rfl rfl)
theorem dJ2_init_1 : decode cJ2_init 1 = .ok (.invokespecial 1, 3) := dk_183 0 1 (dk_at dksJ2_init_0 1 rfl rfl)
theorem dJ2_init_4 : decode cJ2_init 4 = .ok (.iload_n 1, 1) := dk_27 (dk_at dksJ2_init_0 4 rfl rfl)
theorem dJ2_init_5 : decode cJ2_init 5 = .ok (.ifCond .le 14, 3) := dk_158 0 14 (dk_at dksJ2_init_0 5 rfl rfl)
theorem dJ2_init_8 : decode cJ2_init 8 = .ok (.aload_n 0, 1) := dk_42 (dk_at dksJ2_init_0 8 rfl rfl)
theorem dJ2_init_9 : decode cJ2_init 9 = .ok (.iload_n 1, 1) := dk_27 (dk_at dksJ2_init_0 9 rfl rfl)
theorem dJ2_init_10 : decode cJ2_init 10 = .ok (.anewarray 7, 3) := dk_189 0 7 (dk_at dksJ2_init_0 10 rfl rfl)
theorem dJ2_init_13 : decode cJ2_init 13 = .ok (.putfield 9, 3) := dk_181 0 9 (dk_at dksJ2_init_0 13 rfl rfl)
theorem dJ2_init_16 : decode cJ2_init 16 = .ok (.goto 44, 3) := dk_167 0 44 (dk_at dksJ2_init_0 16 rfl rfl)
theorem dJ2_init_19 : decode cJ2_init 19 = .ok (.iload_n 1, 1) := dk_27 (dk_at dksJ2_init_0 19 rfl rfl)
theorem dJ2_init_20 : decode cJ2_init 20 = .ok (.ifCond .ne 13, 3) := dk_154 0 13 (dk_at dksJ2_init_0 20 rfl rfl)
theorem dJ2_init_23 : decode cJ2_init 23 = .ok (.aload_n 0, 1) := dk_42 (dk_at dksJ2_init_0 23 rfl rfl)
theorem dJ2_init_24 : decode cJ2_init 24 = .ok (.getstatic 15, 3) := dk_178 0 15 (dk_at dksJ2_init_1 0 rfl rfl)
theorem dJ2_init_27 : decode cJ2_init 27 = .ok (.putfield 9, 3) := dk_181 0 9 (dk_at dksJ2_init_1 3 rfl rfl)
theorem dJ2_init_30 : decode cJ2_init 30 = .ok (.goto 30, 3) := dk_167 0 30 (dk_at dksJ2_init_1 6 rfl rfl)
theorem dJ2_init_33 : decode cJ2_init 33 = .ok (.new 18, 3) := dk_187 0 18 (dk_at dksJ2_init_1 9 rfl rfl)
theorem dJ2_init_36 : decode cJ2_init 36 = .ok (.dup, 1) := dk_89 (dk_at dksJ2_init_1 12 rfl rfl)
theorem dJ2_init_37 : decode cJ2_init 37 = .ok (.new 20, 3) := dk_187 0 20 (dk_at dksJ2_init_1 13 rfl rfl)
theorem dJ2_init_40 : decode cJ2_init 40 = .ok (.dup, 1) := dk_89 (dk_at dksJ2_init_1 16 rfl rfl)
theorem dJ2_init_41 : decode cJ2_init 41 = .ok (.invokespecial 22, 3) := dk_183 0 22 (dk_at dksJ2_init_1 17 rfl rfl)
theorem dJ2_init_44 : decode cJ2_init 44 = .ok (.ldc 23, 2) := dk_18 23 (dk_at dksJ2_init_1 20 rfl rfl)
theorem dJ2_init_46 : decode cJ2_init 46 = .ok (.invokevirtual 25, 3) := dk_182 0 25 (dk_at dksJ2_init_2 0 rfl rfl)
theorem dJ2_init_49 : decode cJ2_init 49 = .ok (.iload_n 1, 1) := dk_27 (dk_at dksJ2_init_2 3 rfl rfl)
theorem dJ2_init_50 : decode cJ2_init 50 = .ok (.invokevirtual 29, 3) := dk_182 0 29 (dk_at dksJ2_init_2 4 rfl rfl)
theorem dJ2_init_53 : decode cJ2_init 53 = .ok (.invokevirtual 32, 3) := dk_182 0 32 (dk_at dksJ2_init_2 7 rfl rfl)
theorem dJ2_init_56 : decode cJ2_init 56 = .ok (.invokespecial 36, 3) := dk_183 0 36 (dk_at dksJ2_init_2 10 rfl rfl)
theorem dJ2_init_59 : decode cJ2_init 59 = .ok (.athrow, 1) := dk_191 (dk_at dksJ2_init_2 13 rfl rfl)
theorem dJ2_init_60 : decode cJ2_init 60 = .ok (.return_, 1) := dk_177 (dk_at dksJ2_init_2 14 rfl rfl)
abbrev cJ2_size : ByteArray := prog_39_method_8_code
def yJ2_size : MethodName := ⟨RJ2, "size", "()I"⟩
theorem dJ2_size_0 : decode cJ2_size 0 = .ok (.aload_n 0, 1) := by decide +kernel
theorem dJ2_size_1 : decode cJ2_size 1 = .ok (.getfield 48, 3) := by decide +kernel
theorem dJ2_size_4 : decode cJ2_size 4 = .ok (.ireturn, 1) := by decide +kernel
abbrev cJ2_add : ByteArray := prog_39_method_25_code
def yJ2_add : MethodName := ⟨RJ2, "add", "(Ljava/lang/Object;)Z"⟩
def dkwJ2_add_1 : List UInt8 := [172]
abbrev dktJ2_add_1 : List UInt8 := dkwJ2_add_1 ++ []
def dkwJ2_add_0 : List UInt8 := [42, 89, 180, 0, 63, 4, 96, 181, 0, 63, 42, 43, 42, 180, 0, 9, 42, 180, 0, 48, 182, 0, 131, 4]
abbrev dktJ2_add_0 : List UInt8 := dkwJ2_add_0 ++ dktJ2_add_1
theorem dksJ2_add_0 : cJ2_add.data.toList.drop 0 = dktJ2_add_0 := by decide +kernel
theorem dksJ2_add_1 : cJ2_add.data.toList.drop 24 = dktJ2_add_1 := dk_seg dksJ2_add_0 24 rfl rfl
theorem dJ2_add_0 : decode cJ2_add 0 = .ok (.aload_n 0, 1) := dk_42 (dk_at dksJ2_add_0 0 rfl rfl)
theorem dJ2_add_1 : decode cJ2_add 1 = .ok (.dup, 1) := dk_89 (dk_at dksJ2_add_0 1 rfl rfl)
theorem dJ2_add_2 : decode cJ2_add 2 = .ok (.getfield 63, 3) := dk_180 0 63 (dk_at dksJ2_add_0 2 rfl rfl)
theorem dJ2_add_5 : decode cJ2_add 5 = .ok (.iconst 1, 1) := dk_4 (dk_at dksJ2_add_0 5 rfl rfl)
theorem dJ2_add_6 : decode cJ2_add 6 = .ok (.iadd, 1) := dk_96 (dk_at dksJ2_add_0 6 rfl rfl)
theorem dJ2_add_7 : decode cJ2_add 7 = .ok (.putfield 63, 3) := dk_181 0 63 (dk_at dksJ2_add_0 7 rfl rfl)
theorem dJ2_add_10 : decode cJ2_add 10 = .ok (.aload_n 0, 1) := dk_42 (dk_at dksJ2_add_0 10 rfl rfl)
theorem dJ2_add_11 : decode cJ2_add 11 = .ok (.aload_n 1, 1) := dk_43 (dk_at dksJ2_add_0 11 rfl rfl)
theorem dJ2_add_12 : decode cJ2_add 12 = .ok (.aload_n 0, 1) := dk_42 (dk_at dksJ2_add_0 12 rfl rfl)
theorem dJ2_add_13 : decode cJ2_add 13 = .ok (.getfield 9, 3) := dk_180 0 9 (dk_at dksJ2_add_0 13 rfl rfl)
theorem dJ2_add_16 : decode cJ2_add 16 = .ok (.aload_n 0, 1) := dk_42 (dk_at dksJ2_add_0 16 rfl rfl)
theorem dJ2_add_17 : decode cJ2_add 17 = .ok (.getfield 48, 3) := dk_180 0 48 (dk_at dksJ2_add_0 17 rfl rfl)
theorem dJ2_add_20 : decode cJ2_add 20 = .ok (.invokevirtual 131, 3) := dk_182 0 131 (dk_at dksJ2_add_0 20 rfl rfl)
theorem dJ2_add_23 : decode cJ2_add 23 = .ok (.iconst 1, 1) := dk_4 (dk_at dksJ2_add_0 23 rfl rfl)
theorem dJ2_add_24 : decode cJ2_add 24 = .ok (.ireturn, 1) := dk_172 (dk_at dksJ2_add_1 0 rfl rfl)
abbrev cJ2_add_2 : ByteArray := prog_39_method_24_code
def yJ2_add_2 : MethodName := ⟨RJ2, "add", "(Ljava/lang/Object;[Ljava/lang/Object;I)V"⟩
def dkwJ2_add_2_0 : List UInt8 := [29, 44, 190, 160, 0, 8, 42, 182, 0, 129, 77, 44, 29, 43, 83, 42, 29, 4, 96, 181, 0, 48, 177]
abbrev dktJ2_add_2_0 : List UInt8 := dkwJ2_add_2_0 ++ []
theorem dksJ2_add_2_0 : cJ2_add_2.data.toList.drop 0 = dktJ2_add_2_0 := by decide +kernel
theorem dJ2_add_2_0 : decode cJ2_add_2 0 = .ok (.iload_n 3, 1) := dk_29 (dk_at dksJ2_add_2_0 0 rfl rfl)
theorem dJ2_add_2_1 : decode cJ2_add_2 1 = .ok (.aload_n 2, 1) := dk_44 (dk_at dksJ2_add_2_0 1 rfl rfl)
theorem dJ2_add_2_2 : decode cJ2_add_2 2 = .ok (.arraylength, 1) := dk_190 (dk_at dksJ2_add_2_0 2 rfl rfl)
theorem dJ2_add_2_3 : decode cJ2_add_2 3 = .ok (.if_icmp .ne 8, 3) := dk_160 0 8 (dk_at dksJ2_add_2_0 3 rfl rfl)
theorem dJ2_add_2_6 : decode cJ2_add_2 6 = .ok (.aload_n 0, 1) := dk_42 (dk_at dksJ2_add_2_0 6 rfl rfl)
theorem dJ2_add_2_7 : decode cJ2_add_2 7 = .ok (.invokevirtual 129, 3) := dk_182 0 129 (dk_at dksJ2_add_2_0 7 rfl rfl)
theorem dJ2_add_2_10 : decode cJ2_add_2 10 = .ok (.astore_n 2, 1) := dk_77 (dk_at dksJ2_add_2_0 10 rfl rfl)
theorem dJ2_add_2_11 : decode cJ2_add_2 11 = .ok (.aload_n 2, 1) := dk_44 (dk_at dksJ2_add_2_0 11 rfl rfl)
theorem dJ2_add_2_12 : decode cJ2_add_2 12 = .ok (.iload_n 3, 1) := dk_29 (dk_at dksJ2_add_2_0 12 rfl rfl)
theorem dJ2_add_2_13 : decode cJ2_add_2 13 = .ok (.aload_n 1, 1) := dk_43 (dk_at dksJ2_add_2_0 13 rfl rfl)
theorem dJ2_add_2_14 : decode cJ2_add_2 14 = .ok (.aastore, 1) := dk_83 (dk_at dksJ2_add_2_0 14 rfl rfl)
theorem dJ2_add_2_15 : decode cJ2_add_2 15 = .ok (.aload_n 0, 1) := dk_42 (dk_at dksJ2_add_2_0 15 rfl rfl)
theorem dJ2_add_2_16 : decode cJ2_add_2 16 = .ok (.iload_n 3, 1) := dk_29 (dk_at dksJ2_add_2_0 16 rfl rfl)
theorem dJ2_add_2_17 : decode cJ2_add_2 17 = .ok (.iconst 1, 1) := dk_4 (dk_at dksJ2_add_2_0 17 rfl rfl)
theorem dJ2_add_2_18 : decode cJ2_add_2 18 = .ok (.iadd, 1) := dk_96 (dk_at dksJ2_add_2_0 18 rfl rfl)
theorem dJ2_add_2_19 : decode cJ2_add_2 19 = .ok (.putfield 48, 3) := dk_181 0 48 (dk_at dksJ2_add_2_0 19 rfl rfl)
theorem dJ2_add_2_22 : decode cJ2_add_2 22 = .ok (.return_, 1) := dk_177 (dk_at dksJ2_add_2_0 22 rfl rfl)
abbrev cJ2_grow : ByteArray := prog_39_method_7_code
def yJ2_grow : MethodName := ⟨RJ2, "grow", "()[Ljava/lang/Object;"⟩
def dkwJ2_grow_0 : List UInt8 := [42, 42, 180, 0, 48, 4, 96, 182, 0, 69, 176]
abbrev dktJ2_grow_0 : List UInt8 := dkwJ2_grow_0 ++ []
theorem dksJ2_grow_0 : cJ2_grow.data.toList.drop 0 = dktJ2_grow_0 := by decide +kernel
theorem dJ2_grow_0 : decode cJ2_grow 0 = .ok (.aload_n 0, 1) := dk_42 (dk_at dksJ2_grow_0 0 rfl rfl)
theorem dJ2_grow_1 : decode cJ2_grow 1 = .ok (.aload_n 0, 1) := dk_42 (dk_at dksJ2_grow_0 1 rfl rfl)
theorem dJ2_grow_2 : decode cJ2_grow 2 = .ok (.getfield 48, 3) := dk_180 0 48 (dk_at dksJ2_grow_0 2 rfl rfl)
theorem dJ2_grow_5 : decode cJ2_grow 5 = .ok (.iconst 1, 1) := dk_4 (dk_at dksJ2_grow_0 5 rfl rfl)
theorem dJ2_grow_6 : decode cJ2_grow 6 = .ok (.iadd, 1) := dk_96 (dk_at dksJ2_grow_0 6 rfl rfl)
theorem dJ2_grow_7 : decode cJ2_grow 7 = .ok (.invokevirtual 69, 3) := dk_182 0 69 (dk_at dksJ2_grow_0 7 rfl rfl)
theorem dJ2_grow_10 : decode cJ2_grow 10 = .ok (.areturn, 1) := dk_176 (dk_at dksJ2_grow_0 10 rfl rfl)
abbrev cJ2_grow_2 : ByteArray := prog_39_method_6_code
def yJ2_grow_2 : MethodName := ⟨RJ2, "grow", "(I)[Ljava/lang/Object;"⟩
def dkwJ2_grow_2_2 : List UInt8 := [27, 184, 0, 79, 189, 0, 7, 90, 181, 0, 9, 176]
abbrev dktJ2_grow_2_2 : List UInt8 := dkwJ2_grow_2_2 ++ []
def dkwJ2_grow_2_1 : List UInt8 := [28, 4, 122, 184, 0, 73, 62, 42, 42, 180, 0, 9, 29, 184, 0, 66, 90, 181, 0, 9, 176, 42, 16, 10]
abbrev dktJ2_grow_2_1 : List UInt8 := dkwJ2_grow_2_1 ++ dktJ2_grow_2_2
def dkwJ2_grow_2_0 : List UInt8 := [42, 180, 0, 9, 190, 61, 28, 157, 0, 13, 42, 180, 0, 9, 178, 0, 39, 165, 0, 28, 28, 27, 28, 100]
abbrev dktJ2_grow_2_0 : List UInt8 := dkwJ2_grow_2_0 ++ dktJ2_grow_2_1
theorem dksJ2_grow_2_0 : cJ2_grow_2.data.toList.drop 0 = dktJ2_grow_2_0 := by decide +kernel
theorem dksJ2_grow_2_1 : cJ2_grow_2.data.toList.drop 24 = dktJ2_grow_2_1 := dk_seg dksJ2_grow_2_0 24 rfl rfl
theorem dksJ2_grow_2_2 : cJ2_grow_2.data.toList.drop 48 = dktJ2_grow_2_2 := dk_seg dksJ2_grow_2_1 24 rfl rfl
theorem dJ2_grow_2_0 : decode cJ2_grow_2 0 = .ok (.aload_n 0, 1) := dk_42 (dk_at dksJ2_grow_2_0 0 rfl rfl)
theorem dJ2_grow_2_1 : decode cJ2_grow_2 1 = .ok (.getfield 9, 3) := dk_180 0 9 (dk_at dksJ2_grow_2_0 1 rfl rfl)
theorem dJ2_grow_2_4 : decode cJ2_grow_2 4 = .ok (.arraylength, 1) := dk_190 (dk_at dksJ2_grow_2_0 4 rfl rfl)
theorem dJ2_grow_2_5 : decode cJ2_grow_2 5 = .ok (.istore_n 2, 1) := dk_61 (dk_at dksJ2_grow_2_0 5 rfl rfl)
theorem dJ2_grow_2_6 : decode cJ2_grow_2 6 = .ok (.iload_n 2, 1) := dk_28 (dk_at dksJ2_grow_2_0 6 rfl rfl)
theorem dJ2_grow_2_7 : decode cJ2_grow_2 7 = .ok (.ifCond .gt 13, 3) := dk_157 0 13 (dk_at dksJ2_grow_2_0 7 rfl rfl)
theorem dJ2_grow_2_10 : decode cJ2_grow_2 10 = .ok (.aload_n 0, 1) := dk_42 (dk_at dksJ2_grow_2_0 10 rfl rfl)
theorem dJ2_grow_2_11 : decode cJ2_grow_2 11 = .ok (.getfield 9, 3) := dk_180 0 9 (dk_at dksJ2_grow_2_0 11 rfl rfl)
theorem dJ2_grow_2_14 : decode cJ2_grow_2 14 = .ok (.getstatic 39, 3) := dk_178 0 39 (dk_at dksJ2_grow_2_0 14 rfl rfl)
theorem dJ2_grow_2_17 : decode cJ2_grow_2 17 = .ok (.if_acmp .eq 28, 3) := dk_165 0 28 (dk_at dksJ2_grow_2_0 17 rfl rfl)
theorem dJ2_grow_2_20 : decode cJ2_grow_2 20 = .ok (.iload_n 2, 1) := dk_28 (dk_at dksJ2_grow_2_0 20 rfl rfl)
theorem dJ2_grow_2_21 : decode cJ2_grow_2 21 = .ok (.iload_n 1, 1) := dk_27 (dk_at dksJ2_grow_2_0 21 rfl rfl)
theorem dJ2_grow_2_22 : decode cJ2_grow_2 22 = .ok (.iload_n 2, 1) := dk_28 (dk_at dksJ2_grow_2_0 22 rfl rfl)
theorem dJ2_grow_2_23 : decode cJ2_grow_2 23 = .ok (.isub, 1) := dk_100 (dk_at dksJ2_grow_2_0 23 rfl rfl)
theorem dJ2_grow_2_24 : decode cJ2_grow_2 24 = .ok (.iload_n 2, 1) := dk_28 (dk_at dksJ2_grow_2_1 0 rfl rfl)
theorem dJ2_grow_2_25 : decode cJ2_grow_2 25 = .ok (.iconst 1, 1) := dk_4 (dk_at dksJ2_grow_2_1 1 rfl rfl)
theorem dJ2_grow_2_26 : decode cJ2_grow_2 26 = .ok (.ishr, 1) := dk_122 (dk_at dksJ2_grow_2_1 2 rfl rfl)
theorem dJ2_grow_2_27 : decode cJ2_grow_2 27 = .ok (.invokestatic 73, 3) := dk_184 0 73 (dk_at dksJ2_grow_2_1 3 rfl rfl)
theorem dJ2_grow_2_30 : decode cJ2_grow_2 30 = .ok (.istore_n 3, 1) := dk_62 (dk_at dksJ2_grow_2_1 6 rfl rfl)
theorem dJ2_grow_2_31 : decode cJ2_grow_2 31 = .ok (.aload_n 0, 1) := dk_42 (dk_at dksJ2_grow_2_1 7 rfl rfl)
theorem dJ2_grow_2_32 : decode cJ2_grow_2 32 = .ok (.aload_n 0, 1) := dk_42 (dk_at dksJ2_grow_2_1 8 rfl rfl)
theorem dJ2_grow_2_33 : decode cJ2_grow_2 33 = .ok (.getfield 9, 3) := dk_180 0 9 (dk_at dksJ2_grow_2_1 9 rfl rfl)
theorem dJ2_grow_2_36 : decode cJ2_grow_2 36 = .ok (.iload_n 3, 1) := dk_29 (dk_at dksJ2_grow_2_1 12 rfl rfl)
theorem dJ2_grow_2_37 : decode cJ2_grow_2 37 = .ok (.invokestatic 66, 3) := dk_184 0 66 (dk_at dksJ2_grow_2_1 13 rfl rfl)
theorem dJ2_grow_2_40 : decode cJ2_grow_2 40 = .ok (.dup_x1, 1) := dk_90 (dk_at dksJ2_grow_2_1 16 rfl rfl)
theorem dJ2_grow_2_41 : decode cJ2_grow_2 41 = .ok (.putfield 9, 3) := dk_181 0 9 (dk_at dksJ2_grow_2_1 17 rfl rfl)
theorem dJ2_grow_2_44 : decode cJ2_grow_2 44 = .ok (.areturn, 1) := dk_176 (dk_at dksJ2_grow_2_1 20 rfl rfl)
theorem dJ2_grow_2_45 : decode cJ2_grow_2 45 = .ok (.aload_n 0, 1) := dk_42 (dk_at dksJ2_grow_2_1 21 rfl rfl)
theorem dJ2_grow_2_46 : decode cJ2_grow_2 46 = .ok (.bipush 10, 2) := dk_16 10 (dk_at dksJ2_grow_2_1 22 rfl rfl)
theorem dJ2_grow_2_48 : decode cJ2_grow_2 48 = .ok (.iload_n 1, 1) := dk_27 (dk_at dksJ2_grow_2_2 0 rfl rfl)
theorem dJ2_grow_2_49 : decode cJ2_grow_2 49 = .ok (.invokestatic 79, 3) := dk_184 0 79 (dk_at dksJ2_grow_2_2 1 rfl rfl)
theorem dJ2_grow_2_52 : decode cJ2_grow_2 52 = .ok (.anewarray 7, 3) := dk_189 0 7 (dk_at dksJ2_grow_2_2 4 rfl rfl)
theorem dJ2_grow_2_55 : decode cJ2_grow_2 55 = .ok (.dup_x1, 1) := dk_90 (dk_at dksJ2_grow_2_2 7 rfl rfl)
theorem dJ2_grow_2_56 : decode cJ2_grow_2 56 = .ok (.putfield 9, 3) := dk_181 0 9 (dk_at dksJ2_grow_2_2 8 rfl rfl)
theorem dJ2_grow_2_59 : decode cJ2_grow_2 59 = .ok (.areturn, 1) := dk_176 (dk_at dksJ2_grow_2_2 11 rfl rfl)
abbrev cJ2_get : ByteArray := prog_39_method_20_code
def yJ2_get : MethodName := ⟨RJ2, "get", "(I)Ljava/lang/Object;"⟩
def dkwJ2_get_0 : List UInt8 := [27, 42, 180, 0, 48, 184, 0, 118, 87, 42, 27, 182, 0, 123, 176]
abbrev dktJ2_get_0 : List UInt8 := dkwJ2_get_0 ++ []
theorem dksJ2_get_0 : cJ2_get.data.toList.drop 0 = dktJ2_get_0 := by decide +kernel
theorem dJ2_get_0 : decode cJ2_get 0 = .ok (.iload_n 1, 1) := dk_27 (dk_at dksJ2_get_0 0 rfl rfl)
theorem dJ2_get_1 : decode cJ2_get 1 = .ok (.aload_n 0, 1) := dk_42 (dk_at dksJ2_get_0 1 rfl rfl)
theorem dJ2_get_2 : decode cJ2_get 2 = .ok (.getfield 48, 3) := dk_180 0 48 (dk_at dksJ2_get_0 2 rfl rfl)
theorem dJ2_get_5 : decode cJ2_get 5 = .ok (.invokestatic 118, 3) := dk_184 0 118 (dk_at dksJ2_get_0 5 rfl rfl)
theorem dJ2_get_8 : decode cJ2_get 8 = .ok (.pop, 1) := dk_87 (dk_at dksJ2_get_0 8 rfl rfl)
theorem dJ2_get_9 : decode cJ2_get 9 = .ok (.aload_n 0, 1) := dk_42 (dk_at dksJ2_get_0 9 rfl rfl)
theorem dJ2_get_10 : decode cJ2_get 10 = .ok (.iload_n 1, 1) := dk_27 (dk_at dksJ2_get_0 10 rfl rfl)
theorem dJ2_get_11 : decode cJ2_get 11 = .ok (.invokevirtual 123, 3) := dk_182 0 123 (dk_at dksJ2_get_0 11 rfl rfl)
theorem dJ2_get_14 : decode cJ2_get 14 = .ok (.areturn, 1) := dk_176 (dk_at dksJ2_get_0 14 rfl rfl)
abbrev cJ2_elementData : ByteArray := prog_39_method_18_code
def yJ2_elementData : MethodName := ⟨RJ2, "elementData", "(I)Ljava/lang/Object;"⟩
def dkwJ2_elementData_0 : List UInt8 := [42, 180, 0, 9, 27, 50, 176]
abbrev dktJ2_elementData_0 : List UInt8 := dkwJ2_elementData_0 ++ []
theorem dksJ2_elementData_0 : cJ2_elementData.data.toList.drop 0 = dktJ2_elementData_0 := by decide +kernel
theorem dJ2_elementData_0 : decode cJ2_elementData 0 = .ok (.aload_n 0, 1) := dk_42 (dk_at dksJ2_elementData_0 0 rfl rfl)
theorem dJ2_elementData_1 : decode cJ2_elementData 1 = .ok (.getfield 9, 3) := dk_180 0 9 (dk_at dksJ2_elementData_0 1 rfl rfl)
theorem dJ2_elementData_4 : decode cJ2_elementData 4 = .ok (.iload_n 1, 1) := dk_27 (dk_at dksJ2_elementData_0 4 rfl rfl)
theorem dJ2_elementData_5 : decode cJ2_elementData 5 = .ok (.aaload, 1) := dk_50 (dk_at dksJ2_elementData_0 5 rfl rfl)
theorem dJ2_elementData_6 : decode cJ2_elementData 6 = .ok (.areturn, 1) := dk_176 (dk_at dksJ2_elementData_0 6 rfl rfl)
theorem q78 : (Jvm.Cond.initialized "java/util/ArrayList") ∈ lw_all := lw_g (lw_at lw_m1 6 rfl) rfl
theorem q156 : (Jvm.Cond.instantiable "java/util/ArrayList" (3 : Nat)) ∈ lw_all := lw_g (lw_at lw_m1 84 rfl) rfl
theorem q158 : (Jvm.Cond.instanceMethod ({ cls := "java/util/ArrayList", name := "<init>", desc := "(I)V" } : Jvm.MethodName)) ∈ lw_all := lw_g (lw_at lw_m1 86 rfl) rfl
theorem q159 : (Jvm.Cond.code ({ cls := "java/util/ArrayList", name := "<init>", desc := "(I)V" } : Jvm.MethodName) prog_39_method_1_code (2 : Nat) (Option.none : Option Jvm.ClassFile.FieldType)) ∈ lw_all := lw_g (lw_at lw_m1 87 rfl) rfl
theorem q160 : (Jvm.Cond.methodLink "java/util/ArrayList" (1 : Nat) ({ cls := "java/util/AbstractList", name := "<init>", desc := "()V" } : Jvm.MethodName)) ∈ lw_all := lw_g (lw_at lw_m1 88 rfl) rfl
theorem q167 : (Jvm.Cond.classLink "java/util/ArrayList" (7 : Nat) "java/lang/Object") ∈ lw_all := lw_g (lw_at lw_m1 95 rfl) rfl
theorem q169 : (Jvm.Cond.fieldLink "java/util/ArrayList" (15 : Nat) "java/util/ArrayList" "EMPTY_ELEMENTDATA" "[Ljava/lang/Object;") ∈ lw_all := lw_g (lw_at lw_m1 97 rfl) rfl
theorem q170 : (Jvm.Cond.laysStatic "java/util/ArrayList" "EMPTY_ELEMENTDATA" "[Ljava/lang/Object;") ∈ lw_tbl := lw_at lw_m1 98 rfl
theorem q171 : (Jvm.Cond.fieldLink "java/util/ArrayList" (9 : Nat) "java/util/ArrayList" "elementData" "[Ljava/lang/Object;") ∈ lw_all := lw_g (lw_at lw_m1 99 rfl) rfl
theorem q172 : (Jvm.Cond.fieldLink "java/util/ArrayList" (48 : Nat) "java/util/ArrayList" "size" "I") ∈ lw_all := lw_g (lw_at lw_m1 100 rfl) rfl
theorem q174 : (Jvm.Cond.fieldLink "java/util/ArrayList" (63 : Nat) "java/util/ArrayList" "modCount" "I") ∈ lw_all := lw_g (lw_at lw_m1 102 rfl) rfl
theorem q175 : (Jvm.Cond.sameField "java/util/ArrayList" "java/util/AbstractList" "modCount" "I") ∈ lw_all := lw_g (lw_at lw_m1 103 rfl) rfl
theorem q176 : (Jvm.Cond.lays "java/util/ArrayList" "java/util/ArrayList" "elementData" "[Ljava/lang/Object;") ∈ lw_all := lw_g (lw_at lw_m1 104 rfl) rfl
theorem q177 : (Jvm.Cond.soleField "java/util/ArrayList" "elementData") ∈ lw_all := lw_g (lw_at lw_m1 105 rfl) rfl
theorem q178 : (Jvm.Cond.lays "java/util/ArrayList" "java/util/ArrayList" "size" "I") ∈ lw_all := lw_g (lw_at lw_m1 106 rfl) rfl
theorem q179 : (Jvm.Cond.soleField "java/util/ArrayList" "size") ∈ lw_all := lw_g (lw_at lw_m1 107 rfl) rfl
theorem q180 : (Jvm.Cond.lays "java/util/ArrayList" "java/util/AbstractList" "modCount" "I") ∈ lw_all := lw_g (lw_at lw_m1 108 rfl) rfl
theorem q182 : (Jvm.Cond.superclass "java/util/ArrayList" "java/util/AbstractList") ∈ lw_all := lw_g (lw_at lw_m1 110 rfl) rfl
theorem q545 : (Jvm.Cond.instanceMethod ({ cls := "java/util/ArrayList", name := "size", desc := "()I" } : Jvm.MethodName)) ∈ lw_all := lw_g (lw_at lw_m2 233 rfl) rfl
theorem q546 : (Jvm.Cond.selects "java/util/ArrayList" ({ cls := "java/util/ArrayList", name := "size", desc := "()I" } : Jvm.MethodName) ({ cls := "java/util/ArrayList", name := "size", desc := "()I" } : Jvm.MethodName)) ∈ lw_all := lw_g (lw_at lw_m2 234 rfl) rfl
theorem q547 : (Jvm.Cond.code ({ cls := "java/util/ArrayList", name := "size", desc := "()I" } : Jvm.MethodName) prog_39_method_8_code (1 : Nat) (Option.some Jvm.ClassFile.FieldType.int)) ∈ lw_all := lw_g (lw_at lw_m2 235 rfl) rfl
theorem q613 : (Jvm.Cond.instanceMethod ({ cls := "java/util/ArrayList", name := "add", desc := "(Ljava/lang/Object;)Z" } : Jvm.MethodName)) ∈ lw_all := lw_g (lw_at lw_m3 61 rfl) rfl
theorem q614 : (Jvm.Cond.selects "java/util/ArrayList" ({ cls := "java/util/ArrayList", name := "add", desc := "(Ljava/lang/Object;)Z" } : Jvm.MethodName) ({ cls := "java/util/ArrayList", name := "add", desc := "(Ljava/lang/Object;)Z" } : Jvm.MethodName)) ∈ lw_all := lw_g (lw_at lw_m3 62 rfl) rfl
theorem q615 : (Jvm.Cond.code ({ cls := "java/util/ArrayList", name := "add", desc := "(Ljava/lang/Object;)Z" } : Jvm.MethodName) prog_39_method_25_code (2 : Nat) (Option.some Jvm.ClassFile.FieldType.boolean)) ∈ lw_all := lw_g (lw_at lw_m3 63 rfl) rfl
theorem q616 : (Jvm.Cond.methodLink "java/util/ArrayList" (131 : Nat) ({ cls := "java/util/ArrayList", name := "add", desc := "(Ljava/lang/Object;[Ljava/lang/Object;I)V" } : Jvm.MethodName)) ∈ lw_all := lw_g (lw_at lw_m3 64 rfl) rfl
theorem q617 : (Jvm.Cond.privateMethod ({ cls := "java/util/ArrayList", name := "add", desc := "(Ljava/lang/Object;[Ljava/lang/Object;I)V" } : Jvm.MethodName)) ∈ lw_tbl := lw_at lw_m3 65 rfl
theorem q618 : (Jvm.Cond.instanceMethod ({ cls := "java/util/ArrayList", name := "add", desc := "(Ljava/lang/Object;[Ljava/lang/Object;I)V" } : Jvm.MethodName)) ∈ lw_all := lw_g (lw_at lw_m3 66 rfl) rfl
theorem q619 : (Jvm.Cond.code ({ cls := "java/util/ArrayList", name := "add", desc := "(Ljava/lang/Object;[Ljava/lang/Object;I)V" } : Jvm.MethodName) prog_39_method_24_code (4 : Nat) (Option.none : Option Jvm.ClassFile.FieldType)) ∈ lw_all := lw_g (lw_at lw_m3 67 rfl) rfl
theorem q620 : (Jvm.Cond.methodLink "java/util/ArrayList" (129 : Nat) ({ cls := "java/util/ArrayList", name := "grow", desc := "()[Ljava/lang/Object;" } : Jvm.MethodName)) ∈ lw_all := lw_g (lw_at lw_m3 68 rfl) rfl
theorem q621 : (Jvm.Cond.privateMethod ({ cls := "java/util/ArrayList", name := "grow", desc := "()[Ljava/lang/Object;" } : Jvm.MethodName)) ∈ lw_tbl := lw_at lw_m3 69 rfl
theorem q622 : (Jvm.Cond.instanceMethod ({ cls := "java/util/ArrayList", name := "grow", desc := "()[Ljava/lang/Object;" } : Jvm.MethodName)) ∈ lw_all := lw_g (lw_at lw_m3 70 rfl) rfl
theorem q623 : (Jvm.Cond.code ({ cls := "java/util/ArrayList", name := "grow", desc := "()[Ljava/lang/Object;" } : Jvm.MethodName) prog_39_method_7_code (1 : Nat) (Option.some (Jvm.ClassFile.FieldType.array (Jvm.ClassFile.FieldType.object "java/lang/Object")))) ∈ lw_all := lw_g (lw_at lw_m3 71 rfl) rfl
theorem q624 : (Jvm.Cond.methodLink "java/util/ArrayList" (69 : Nat) ({ cls := "java/util/ArrayList", name := "grow", desc := "(I)[Ljava/lang/Object;" } : Jvm.MethodName)) ∈ lw_all := lw_g (lw_at lw_m3 72 rfl) rfl
theorem q625 : (Jvm.Cond.privateMethod ({ cls := "java/util/ArrayList", name := "grow", desc := "(I)[Ljava/lang/Object;" } : Jvm.MethodName)) ∈ lw_tbl := lw_at lw_m3 73 rfl
theorem q626 : (Jvm.Cond.instanceMethod ({ cls := "java/util/ArrayList", name := "grow", desc := "(I)[Ljava/lang/Object;" } : Jvm.MethodName)) ∈ lw_all := lw_g (lw_at lw_m3 74 rfl) rfl
theorem q627 : (Jvm.Cond.code ({ cls := "java/util/ArrayList", name := "grow", desc := "(I)[Ljava/lang/Object;" } : Jvm.MethodName) prog_39_method_6_code (4 : Nat) (Option.some (Jvm.ClassFile.FieldType.array (Jvm.ClassFile.FieldType.object "java/lang/Object")))) ∈ lw_all := lw_g (lw_at lw_m3 75 rfl) rfl
theorem q628 : (Jvm.Cond.fieldLink "java/util/ArrayList" (39 : Nat) "java/util/ArrayList" "DEFAULTCAPACITY_EMPTY_ELEMENTDATA" "[Ljava/lang/Object;") ∈ lw_all := lw_g (lw_at lw_m3 76 rfl) rfl
theorem q629 : (Jvm.Cond.laysStatic "java/util/ArrayList" "DEFAULTCAPACITY_EMPTY_ELEMENTDATA" "[Ljava/lang/Object;") ∈ lw_tbl := lw_at lw_m3 77 rfl
theorem q630 : (Jvm.Cond.methodLink "java/util/ArrayList" (73 : Nat) ({ cls := "jdk/internal/util/ArraysSupport", name := "newLength", desc := "(III)I" } : Jvm.MethodName)) ∈ lw_all := lw_g (lw_at lw_m3 78 rfl) rfl
theorem q640 : (Jvm.Cond.methodLink "java/util/ArrayList" (66 : Nat) ({ cls := "java/util/Arrays", name := "copyOf", desc := "([Ljava/lang/Object;I)[Ljava/lang/Object;" } : Jvm.MethodName)) ∈ lw_all := lw_g (lw_at lw_m3 88 rfl) rfl
theorem q664 : (Jvm.Cond.selects "java/util/ArrayList" ({ cls := "java/lang/Object", name := "getClass", desc := "()Ljava/lang/Class;" } : Jvm.MethodName) ({ cls := "java/lang/Object", name := "getClass", desc := "()Ljava/lang/Class;" } : Jvm.MethodName)) ∈ lw_all := lw_g (lw_at lw_m3 112 rfl) rfl
theorem q678 : (Jvm.Cond.methodLink "java/util/ArrayList" (79 : Nat) ({ cls := "java/lang/Math", name := "max", desc := "(II)I" } : Jvm.MethodName)) ∈ lw_all := lw_g (lw_at lw_m3 126 rfl) rfl
theorem q728 : (Jvm.Cond.instanceMethod ({ cls := "java/util/ArrayList", name := "get", desc := "(I)Ljava/lang/Object;" } : Jvm.MethodName)) ∈ lw_all := lw_g (lw_at lw_m3 176 rfl) rfl
theorem q729 : (Jvm.Cond.selects "java/util/ArrayList" ({ cls := "java/util/ArrayList", name := "get", desc := "(I)Ljava/lang/Object;" } : Jvm.MethodName) ({ cls := "java/util/ArrayList", name := "get", desc := "(I)Ljava/lang/Object;" } : Jvm.MethodName)) ∈ lw_all := lw_g (lw_at lw_m3 177 rfl) rfl
theorem q730 : (Jvm.Cond.code ({ cls := "java/util/ArrayList", name := "get", desc := "(I)Ljava/lang/Object;" } : Jvm.MethodName) prog_39_method_20_code (2 : Nat) (Option.some (Jvm.ClassFile.FieldType.object "java/lang/Object"))) ∈ lw_all := lw_g (lw_at lw_m3 178 rfl) rfl
theorem q731 : (Jvm.Cond.methodLink "java/util/ArrayList" (118 : Nat) ({ cls := "java/util/Objects", name := "checkIndex", desc := "(II)I" } : Jvm.MethodName)) ∈ lw_all := lw_g (lw_at lw_m3 179 rfl) rfl
theorem q735 : (Jvm.Cond.methodLink "java/util/ArrayList" (123 : Nat) ({ cls := "java/util/ArrayList", name := "elementData", desc := "(I)Ljava/lang/Object;" } : Jvm.MethodName)) ∈ lw_all := lw_g (lw_at lw_m3 183 rfl) rfl
theorem q736 : (Jvm.Cond.instanceMethod ({ cls := "java/util/ArrayList", name := "elementData", desc := "(I)Ljava/lang/Object;" } : Jvm.MethodName)) ∈ lw_all := lw_g (lw_at lw_m3 184 rfl) rfl
theorem q737 : (Jvm.Cond.selects "java/util/ArrayList" ({ cls := "java/util/ArrayList", name := "elementData", desc := "(I)Ljava/lang/Object;" } : Jvm.MethodName) ({ cls := "java/util/ArrayList", name := "elementData", desc := "(I)Ljava/lang/Object;" } : Jvm.MethodName)) ∈ lw_all := lw_g (lw_at lw_m3 185 rfl) rfl
theorem q738 : (Jvm.Cond.code ({ cls := "java/util/ArrayList", name := "elementData", desc := "(I)Ljava/lang/Object;" } : Jvm.MethodName) prog_39_method_18_code (2 : Nat) (Option.some (Jvm.ClassFile.FieldType.object "java/lang/Object"))) ∈ lw_all := lw_g (lw_at lw_m3 186 rfl) rfl
theorem q1732 : (Jvm.Cond.castable "java/util/ArrayList" "java/lang/Object") ∈ lw_tbl := lw_at lw_m7 220 rfl
theorem in_J2 : ∀ w ∈ wsJ20, w ∈ lw_all := lw_in wsJ20 [180, 176, 178] (by decide +kernel) (by decide +kernel)
/-! java/lang/String -/
set_option maxRecDepth 100000
def RJ3 : String := "java/lang/String"
def TJ3 : u_T := fun k => match k with
  | 0 => ("java/lang/String", "value", "[B", true)
  | _ => ("java/lang/String", "coder", "B", true)
def tyJ3 : Nat → FieldType := fun k => match k with
  | 0 => .array .byte
  | _ => .byte
abbrev wsJ30 : List Cond := u_ws RJ3 TJ3 2
theorem nmJ3 : ∀ a, a < 2 → ∀ b, b < 2 → a ≠ b → (TJ3 a).2.1 ≠ (TJ3 b).2.1 := by decide +kernel
theorem tyJ3_ok : ∀ k, k < 2 → parseFieldDescriptor (TJ3 k).2.2.1 = some (tyJ3 k) := by decide +kernel
abbrev cJ3_length : ByteArray := prog_30_method_54_code
def yJ3_length : MethodName := ⟨RJ3, "length", "()I"⟩
def dkwJ3_length_0 : List UInt8 := [42, 180, 0, 9, 190, 42, 182, 1, 79, 122, 172]
abbrev dktJ3_length_0 : List UInt8 := dkwJ3_length_0 ++ []
theorem dksJ3_length_0 : cJ3_length.data.toList.drop 0 = dktJ3_length_0 := by decide +kernel
theorem dJ3_length_0 : decode cJ3_length 0 = .ok (.aload_n 0, 1) := dk_42 (dk_at dksJ3_length_0 0 rfl rfl)
theorem dJ3_length_1 : decode cJ3_length 1 = .ok (.getfield 9, 3) := dk_180 0 9 (dk_at dksJ3_length_0 1 rfl rfl)
theorem dJ3_length_4 : decode cJ3_length 4 = .ok (.arraylength, 1) := dk_190 (dk_at dksJ3_length_0 4 rfl rfl)
theorem dJ3_length_5 : decode cJ3_length 5 = .ok (.aload_n 0, 1) := dk_42 (dk_at dksJ3_length_0 5 rfl rfl)
theorem dJ3_length_6 : decode cJ3_length 6 = .ok (.invokevirtual 335, 3) := dk_182 1 79 (dk_at dksJ3_length_0 6 rfl rfl)
theorem dJ3_length_9 : decode cJ3_length 9 = .ok (.ishr, 1) := dk_122 (dk_at dksJ3_length_0 9 rfl rfl)
theorem dJ3_length_10 : decode cJ3_length 10 = .ok (.ireturn, 1) := dk_172 (dk_at dksJ3_length_0 10 rfl rfl)
abbrev cJ3_coder : ByteArray := prog_30_method_152_code
def yJ3_coder : MethodName := ⟨RJ3, "coder", "()B"⟩
def dkwJ3_coder_0 : List UInt8 := [178, 0, 38, 153, 0, 10, 42, 180, 0, 15, 167, 0, 4, 4, 172]
abbrev dktJ3_coder_0 : List UInt8 := dkwJ3_coder_0 ++ []
theorem dksJ3_coder_0 : cJ3_coder.data.toList.drop 0 = dktJ3_coder_0 := by decide +kernel
theorem dJ3_coder_0 : decode cJ3_coder 0 = .ok (.getstatic 38, 3) := dk_178 0 38 (dk_at dksJ3_coder_0 0 rfl rfl)
theorem dJ3_coder_3 : decode cJ3_coder 3 = .ok (.ifCond .eq 10, 3) := dk_153 0 10 (dk_at dksJ3_coder_0 3 rfl rfl)
theorem dJ3_coder_6 : decode cJ3_coder 6 = .ok (.aload_n 0, 1) := dk_42 (dk_at dksJ3_coder_0 6 rfl rfl)
theorem dJ3_coder_7 : decode cJ3_coder 7 = .ok (.getfield 15, 3) := dk_180 0 15 (dk_at dksJ3_coder_0 7 rfl rfl)
theorem dJ3_coder_10 : decode cJ3_coder 10 = .ok (.goto 4, 3) := dk_167 0 4 (dk_at dksJ3_coder_0 10 rfl rfl)
theorem dJ3_coder_13 : decode cJ3_coder 13 = .ok (.iconst 1, 1) := dk_4 (dk_at dksJ3_coder_0 13 rfl rfl)
theorem dJ3_coder_14 : decode cJ3_coder 14 = .ok (.ireturn, 1) := dk_172 (dk_at dksJ3_coder_0 14 rfl rfl)
abbrev cJ3_charAt : ByteArray := prog_30_method_56_code
def yJ3_charAt : MethodName := ⟨RJ3, "charAt", "(I)C"⟩
def dkwJ3_charAt_1 : List UInt8 := [172]
abbrev dktJ3_charAt_1 : List UInt8 := dkwJ3_charAt_1 ++ []
def dkwJ3_charAt_0 : List UInt8 := [42, 182, 1, 236, 153, 0, 12, 42, 180, 0, 9, 27, 184, 1, 239, 172, 42, 180, 0, 9, 27, 184, 1, 242]
abbrev dktJ3_charAt_0 : List UInt8 := dkwJ3_charAt_0 ++ dktJ3_charAt_1
theorem dksJ3_charAt_0 : cJ3_charAt.data.toList.drop 0 = dktJ3_charAt_0 := by decide +kernel
theorem dksJ3_charAt_1 : cJ3_charAt.data.toList.drop 24 = dktJ3_charAt_1 := dk_seg dksJ3_charAt_0 24 rfl rfl
theorem dJ3_charAt_0 : decode cJ3_charAt 0 = .ok (.aload_n 0, 1) := dk_42 (dk_at dksJ3_charAt_0 0 rfl rfl)
theorem dJ3_charAt_1 : decode cJ3_charAt 1 = .ok (.invokevirtual 492, 3) := dk_182 1 236 (dk_at dksJ3_charAt_0 1 rfl rfl)
theorem dJ3_charAt_4 : decode cJ3_charAt 4 = .ok (.ifCond .eq 12, 3) := dk_153 0 12 (dk_at dksJ3_charAt_0 4 rfl rfl)
theorem dJ3_charAt_7 : decode cJ3_charAt 7 = .ok (.aload_n 0, 1) := dk_42 (dk_at dksJ3_charAt_0 7 rfl rfl)
theorem dJ3_charAt_8 : decode cJ3_charAt 8 = .ok (.getfield 9, 3) := dk_180 0 9 (dk_at dksJ3_charAt_0 8 rfl rfl)
theorem dJ3_charAt_11 : decode cJ3_charAt 11 = .ok (.iload_n 1, 1) := dk_27 (dk_at dksJ3_charAt_0 11 rfl rfl)
theorem dJ3_charAt_12 : decode cJ3_charAt 12 = .ok (.invokestatic 495, 3) := dk_184 1 239 (dk_at dksJ3_charAt_0 12 rfl rfl)
theorem dJ3_charAt_15 : decode cJ3_charAt 15 = .ok (.ireturn, 1) := dk_172 (dk_at dksJ3_charAt_0 15 rfl rfl)
theorem dJ3_charAt_16 : decode cJ3_charAt 16 = .ok (.aload_n 0, 1) := dk_42 (dk_at dksJ3_charAt_0 16 rfl rfl)
theorem dJ3_charAt_17 : decode cJ3_charAt 17 = .ok (.getfield 9, 3) := dk_180 0 9 (dk_at dksJ3_charAt_0 17 rfl rfl)
theorem dJ3_charAt_20 : decode cJ3_charAt 20 = .ok (.iload_n 1, 1) := dk_27 (dk_at dksJ3_charAt_0 20 rfl rfl)
theorem dJ3_charAt_21 : decode cJ3_charAt 21 = .ok (.invokestatic 498, 3) := dk_184 1 242 (dk_at dksJ3_charAt_0 21 rfl rfl)
theorem dJ3_charAt_24 : decode cJ3_charAt 24 = .ok (.ireturn, 1) := dk_172 (dk_at dksJ3_charAt_1 0 rfl rfl)
abbrev cJ3_isLatin1 : ByteArray := prog_30_method_154_code
def yJ3_isLatin1 : MethodName := ⟨RJ3, "isLatin1", "()Z"⟩
def dkwJ3_isLatin1_0 : List UInt8 := [178, 0, 38, 153, 0, 14, 42, 180, 0, 15, 154, 0, 7, 4, 167, 0, 4, 3, 172]
abbrev dktJ3_isLatin1_0 : List UInt8 := dkwJ3_isLatin1_0 ++ []
theorem dksJ3_isLatin1_0 : cJ3_isLatin1.data.toList.drop 0 = dktJ3_isLatin1_0 := by decide +kernel
theorem dJ3_isLatin1_0 : decode cJ3_isLatin1 0 = .ok (.getstatic 38, 3) := dk_178 0 38 (dk_at dksJ3_isLatin1_0 0 rfl rfl)
theorem dJ3_isLatin1_3 : decode cJ3_isLatin1 3 = .ok (.ifCond .eq 14, 3) := dk_153 0 14 (dk_at dksJ3_isLatin1_0 3 rfl rfl)
theorem dJ3_isLatin1_6 : decode cJ3_isLatin1 6 = .ok (.aload_n 0, 1) := dk_42 (dk_at dksJ3_isLatin1_0 6 rfl rfl)
theorem dJ3_isLatin1_7 : decode cJ3_isLatin1 7 = .ok (.getfield 15, 3) := dk_180 0 15 (dk_at dksJ3_isLatin1_0 7 rfl rfl)
theorem dJ3_isLatin1_10 : decode cJ3_isLatin1 10 = .ok (.ifCond .ne 7, 3) := dk_154 0 7 (dk_at dksJ3_isLatin1_0 10 rfl rfl)
theorem dJ3_isLatin1_13 : decode cJ3_isLatin1 13 = .ok (.iconst 1, 1) := dk_4 (dk_at dksJ3_isLatin1_0 13 rfl rfl)
theorem dJ3_isLatin1_14 : decode cJ3_isLatin1 14 = .ok (.goto 4, 3) := dk_167 0 4 (dk_at dksJ3_isLatin1_0 14 rfl rfl)
theorem dJ3_isLatin1_17 : decode cJ3_isLatin1 17 = .ok (.iconst 0, 1) := dk_3 (dk_at dksJ3_isLatin1_0 17 rfl rfl)
theorem dJ3_isLatin1_18 : decode cJ3_isLatin1 18 = .ok (.ireturn, 1) := dk_172 (dk_at dksJ3_isLatin1_0 18 rfl rfl)
abbrev cJ3_checkIndex : ByteArray := prog_30_method_155_code
def yJ3_checkIndex : MethodName := ⟨RJ3, "checkIndex", "(II)V"⟩
def dkwJ3_checkIndex_0 : List UInt8 := [26, 27, 178, 4, 29, 184, 4, 35, 87, 177]
abbrev dktJ3_checkIndex_0 : List UInt8 := dkwJ3_checkIndex_0 ++ []
theorem dksJ3_checkIndex_0 : cJ3_checkIndex.data.toList.drop 0 = dktJ3_checkIndex_0 := by decide +kernel
theorem dJ3_checkIndex_0 : decode cJ3_checkIndex 0 = .ok (.iload_n 0, 1) := dk_26 (dk_at dksJ3_checkIndex_0 0 rfl rfl)
theorem dJ3_checkIndex_1 : decode cJ3_checkIndex 1 = .ok (.iload_n 1, 1) := dk_27 (dk_at dksJ3_checkIndex_0 1 rfl rfl)
theorem dJ3_checkIndex_2 : decode cJ3_checkIndex 2 = .ok (.getstatic 1053, 3) := dk_178 4 29 (dk_at dksJ3_checkIndex_0 2 rfl rfl)
theorem dJ3_checkIndex_5 : decode cJ3_checkIndex 5 = .ok (.invokestatic 1059, 3) := dk_184 4 35 (dk_at dksJ3_checkIndex_0 5 rfl rfl)
theorem dJ3_checkIndex_8 : decode cJ3_checkIndex 8 = .ok (.pop, 1) := dk_87 (dk_at dksJ3_checkIndex_0 8 rfl rfl)
theorem dJ3_checkIndex_9 : decode cJ3_checkIndex 9 = .ok (.return_, 1) := dk_177 (dk_at dksJ3_checkIndex_0 9 rfl rfl)
theorem q83 : (Jvm.Cond.initialized "java/lang/String") ∈ lw_all := lw_g (lw_at lw_m1 11 rfl) rfl
theorem q419 : (Jvm.Cond.instanceMethod ({ cls := "java/lang/String", name := "length", desc := "()I" } : Jvm.MethodName)) ∈ lw_all := lw_g (lw_at lw_m2 107 rfl) rfl
theorem q420 : (Jvm.Cond.selects "java/lang/String" ({ cls := "java/lang/String", name := "length", desc := "()I" } : Jvm.MethodName) ({ cls := "java/lang/String", name := "length", desc := "()I" } : Jvm.MethodName)) ∈ lw_all := lw_g (lw_at lw_m2 108 rfl) rfl
theorem q421 : (Jvm.Cond.code ({ cls := "java/lang/String", name := "length", desc := "()I" } : Jvm.MethodName) prog_30_method_54_code (1 : Nat) (Option.some Jvm.ClassFile.FieldType.int)) ∈ lw_all := lw_g (lw_at lw_m2 109 rfl) rfl
theorem q422 : (Jvm.Cond.methodLink "java/lang/String" (335 : Nat) ({ cls := "java/lang/String", name := "coder", desc := "()B" } : Jvm.MethodName)) ∈ lw_all := lw_g (lw_at lw_m2 110 rfl) rfl
theorem q423 : (Jvm.Cond.instanceMethod ({ cls := "java/lang/String", name := "coder", desc := "()B" } : Jvm.MethodName)) ∈ lw_all := lw_g (lw_at lw_m2 111 rfl) rfl
theorem q424 : (Jvm.Cond.selects "java/lang/String" ({ cls := "java/lang/String", name := "coder", desc := "()B" } : Jvm.MethodName) ({ cls := "java/lang/String", name := "coder", desc := "()B" } : Jvm.MethodName)) ∈ lw_all := lw_g (lw_at lw_m2 112 rfl) rfl
theorem q425 : (Jvm.Cond.code ({ cls := "java/lang/String", name := "coder", desc := "()B" } : Jvm.MethodName) prog_30_method_152_code (1 : Nat) (Option.some Jvm.ClassFile.FieldType.byte)) ∈ lw_all := lw_g (lw_at lw_m2 113 rfl) rfl
theorem q426 : (Jvm.Cond.fieldLink "java/lang/String" (38 : Nat) "java/lang/String" "COMPACT_STRINGS" "Z") ∈ lw_all := lw_g (lw_at lw_m2 114 rfl) rfl
theorem q427 : (Jvm.Cond.laysStatic "java/lang/String" "COMPACT_STRINGS" "Z") ∈ lw_tbl := lw_at lw_m2 115 rfl
theorem q429 : (Jvm.Cond.instanceMethod ({ cls := "java/lang/String", name := "charAt", desc := "(I)C" } : Jvm.MethodName)) ∈ lw_all := lw_g (lw_at lw_m2 117 rfl) rfl
theorem q430 : (Jvm.Cond.selects "java/lang/String" ({ cls := "java/lang/String", name := "charAt", desc := "(I)C" } : Jvm.MethodName) ({ cls := "java/lang/String", name := "charAt", desc := "(I)C" } : Jvm.MethodName)) ∈ lw_all := lw_g (lw_at lw_m2 118 rfl) rfl
theorem q431 : (Jvm.Cond.code ({ cls := "java/lang/String", name := "charAt", desc := "(I)C" } : Jvm.MethodName) prog_30_method_56_code (2 : Nat) (Option.some Jvm.ClassFile.FieldType.char)) ∈ lw_all := lw_g (lw_at lw_m2 119 rfl) rfl
theorem q432 : (Jvm.Cond.methodLink "java/lang/String" (492 : Nat) ({ cls := "java/lang/String", name := "isLatin1", desc := "()Z" } : Jvm.MethodName)) ∈ lw_all := lw_g (lw_at lw_m2 120 rfl) rfl
theorem q433 : (Jvm.Cond.instanceMethod ({ cls := "java/lang/String", name := "isLatin1", desc := "()Z" } : Jvm.MethodName)) ∈ lw_all := lw_g (lw_at lw_m2 121 rfl) rfl
theorem q434 : (Jvm.Cond.selects "java/lang/String" ({ cls := "java/lang/String", name := "isLatin1", desc := "()Z" } : Jvm.MethodName) ({ cls := "java/lang/String", name := "isLatin1", desc := "()Z" } : Jvm.MethodName)) ∈ lw_all := lw_g (lw_at lw_m2 122 rfl) rfl
theorem q435 : (Jvm.Cond.code ({ cls := "java/lang/String", name := "isLatin1", desc := "()Z" } : Jvm.MethodName) prog_30_method_154_code (1 : Nat) (Option.some Jvm.ClassFile.FieldType.boolean)) ∈ lw_all := lw_g (lw_at lw_m2 123 rfl) rfl
theorem q436 : (Jvm.Cond.methodLink "java/lang/String" (495 : Nat) ({ cls := "java/lang/StringLatin1", name := "charAt", desc := "([BI)C" } : Jvm.MethodName)) ∈ lw_all := lw_g (lw_at lw_m2 124 rfl) rfl
theorem q440 : (Jvm.Cond.static ({ cls := "java/lang/String", name := "checkIndex", desc := "(II)V" } : Jvm.MethodName)) ∈ lw_all := lw_g (lw_at lw_m2 128 rfl) rfl
theorem q441 : (Jvm.Cond.code ({ cls := "java/lang/String", name := "checkIndex", desc := "(II)V" } : Jvm.MethodName) prog_30_method_155_code (2 : Nat) (Option.none : Option Jvm.ClassFile.FieldType)) ∈ lw_all := lw_g (lw_at lw_m2 129 rfl) rfl
theorem q442 : (Jvm.Cond.fieldLink "java/lang/String" (1053 : Nat) "jdk/internal/util/Preconditions" "SIOOBE_FORMATTER" "Ljava/util/function/BiFunction;") ∈ lw_all := lw_g (lw_at lw_m2 130 rfl) rfl
theorem q444 : (Jvm.Cond.methodLink "java/lang/String" (1059 : Nat) ({ cls := "jdk/internal/util/Preconditions", name := "checkIndex", desc := "(IILjava/util/function/BiFunction;)I" } : Jvm.MethodName)) ∈ lw_all := lw_g (lw_at lw_m2 132 rfl) rfl
theorem q447 : (Jvm.Cond.methodLink "java/lang/String" (498 : Nat) ({ cls := "java/lang/StringUTF16", name := "charAt", desc := "([BI)C" } : Jvm.MethodName)) ∈ lw_all := lw_g (lw_at lw_m2 135 rfl) rfl
theorem q1201 : (Jvm.Cond.instantiable "java/lang/String" (4 : Nat)) ∈ lw_all := lw_g (lw_at lw_m5 169 rfl) rfl
theorem q1202 : (Jvm.Cond.laysFinal "java/lang/String" "java/lang/String" "value" "[B") ∈ lw_all := lw_g (lw_at lw_m5 170 rfl) rfl
theorem q1203 : (Jvm.Cond.soleField "java/lang/String" "value") ∈ lw_all := lw_g (lw_at lw_m5 171 rfl) rfl
theorem q1204 : (Jvm.Cond.laysFinal "java/lang/String" "java/lang/String" "coder" "B") ∈ lw_all := lw_g (lw_at lw_m5 172 rfl) rfl
theorem q1205 : (Jvm.Cond.soleField "java/lang/String" "coder") ∈ lw_all := lw_g (lw_at lw_m5 173 rfl) rfl
theorem q1728 : (Jvm.Cond.castable "java/lang/String" "java/lang/Object") ∈ lw_tbl := lw_at lw_m7 216 rfl
theorem q1761 : (Jvm.Cond.fieldLink "java/lang/String" (9 : Nat) "java/lang/String" "value" "[B") ∈ lw_all := lw_g (lw_at lw_m8 9 rfl) rfl
theorem q1762 : (Jvm.Cond.fieldLink "java/lang/String" (15 : Nat) "java/lang/String" "coder" "B") ∈ lw_all := lw_g (lw_at lw_m8 10 rfl) rfl
theorem in_J3 : ∀ w ∈ wsJ30, w ∈ lw_all := lw_in wsJ30 [1202, 1204] (by decide +kernel) (by decide +kernel)
/-! java/lang/StringLatin1 -/
set_option maxRecDepth 100000
def RJ4 : String := "java/lang/StringLatin1"
abbrev cJ4_charAt : ByteArray := prog_31_method_2_code
def yJ4_charAt : MethodName := ⟨RJ4, "charAt", "([BI)C"⟩
def dkwJ4_charAt_0 : List UInt8 := [27, 42, 190, 184, 0, 9, 42, 27, 51, 17, 0, 255, 126, 146, 172]
abbrev dktJ4_charAt_0 : List UInt8 := dkwJ4_charAt_0 ++ []
theorem dksJ4_charAt_0 : cJ4_charAt.data.toList.drop 0 = dktJ4_charAt_0 := by decide +kernel
theorem dJ4_charAt_0 : decode cJ4_charAt 0 = .ok (.iload_n 1, 1) := dk_27 (dk_at dksJ4_charAt_0 0 rfl rfl)
theorem dJ4_charAt_1 : decode cJ4_charAt 1 = .ok (.aload_n 0, 1) := dk_42 (dk_at dksJ4_charAt_0 1 rfl rfl)
theorem dJ4_charAt_2 : decode cJ4_charAt 2 = .ok (.arraylength, 1) := dk_190 (dk_at dksJ4_charAt_0 2 rfl rfl)
theorem dJ4_charAt_3 : decode cJ4_charAt 3 = .ok (.invokestatic 9, 3) := dk_184 0 9 (dk_at dksJ4_charAt_0 3 rfl rfl)
theorem dJ4_charAt_6 : decode cJ4_charAt 6 = .ok (.aload_n 0, 1) := dk_42 (dk_at dksJ4_charAt_0 6 rfl rfl)
theorem dJ4_charAt_7 : decode cJ4_charAt 7 = .ok (.iload_n 1, 1) := dk_27 (dk_at dksJ4_charAt_0 7 rfl rfl)
theorem dJ4_charAt_8 : decode cJ4_charAt 8 = .ok (.baload, 1) := dk_51 (dk_at dksJ4_charAt_0 8 rfl rfl)
theorem dJ4_charAt_9 : decode cJ4_charAt 9 = .ok (.sipush 255, 3) := dk_17 0 255 (dk_at dksJ4_charAt_0 9 rfl rfl)
theorem dJ4_charAt_12 : decode cJ4_charAt 12 = .ok (.iand, 1) := dk_126 (dk_at dksJ4_charAt_0 12 rfl rfl)
theorem dJ4_charAt_13 : decode cJ4_charAt 13 = .ok (.i2c, 1) := dk_146 (dk_at dksJ4_charAt_0 13 rfl rfl)
theorem dJ4_charAt_14 : decode cJ4_charAt 14 = .ok (.ireturn, 1) := dk_172 (dk_at dksJ4_charAt_0 14 rfl rfl)
theorem q84 : (Jvm.Cond.initialized "java/lang/StringLatin1") ∈ lw_all := lw_g (lw_at lw_m1 12 rfl) rfl
theorem q437 : (Jvm.Cond.static ({ cls := "java/lang/StringLatin1", name := "charAt", desc := "([BI)C" } : Jvm.MethodName)) ∈ lw_all := lw_g (lw_at lw_m2 125 rfl) rfl
theorem q438 : (Jvm.Cond.code ({ cls := "java/lang/StringLatin1", name := "charAt", desc := "([BI)C" } : Jvm.MethodName) prog_31_method_2_code (2 : Nat) (Option.some Jvm.ClassFile.FieldType.char)) ∈ lw_all := lw_g (lw_at lw_m2 126 rfl) rfl
theorem q439 : (Jvm.Cond.methodLink "java/lang/StringLatin1" (9 : Nat) ({ cls := "java/lang/String", name := "checkIndex", desc := "(II)V" } : Jvm.MethodName)) ∈ lw_all := lw_g (lw_at lw_m2 127 rfl) rfl
/-! jdk/internal/util/Preconditions -/
set_option maxRecDepth 100000
def RJ5 : String := "jdk/internal/util/Preconditions"
abbrev cJ5_checkIndex : ByteArray := prog_48_method_11_code
def yJ5_checkIndex : MethodName := ⟨RJ5, "checkIndex", "(IILjava/util/function/BiFunction;)I"⟩
def dkwJ5_checkIndex_0 : List UInt8 := [26, 155, 0, 8, 26, 27, 161, 0, 10, 44, 26, 27, 184, 0, 95, 191, 26, 172]
abbrev dktJ5_checkIndex_0 : List UInt8 := dkwJ5_checkIndex_0 ++ []
theorem dksJ5_checkIndex_0 : cJ5_checkIndex.data.toList.drop 0 = dktJ5_checkIndex_0 := by decide +kernel
theorem dJ5_checkIndex_0 : decode cJ5_checkIndex 0 = .ok (.iload_n 0, 1) := dk_26 (dk_at dksJ5_checkIndex_0 0 rfl rfl)
theorem dJ5_checkIndex_1 : decode cJ5_checkIndex 1 = .ok (.ifCond .lt 8, 3) := dk_155 0 8 (dk_at dksJ5_checkIndex_0 1 rfl rfl)
theorem dJ5_checkIndex_4 : decode cJ5_checkIndex 4 = .ok (.iload_n 0, 1) := dk_26 (dk_at dksJ5_checkIndex_0 4 rfl rfl)
theorem dJ5_checkIndex_5 : decode cJ5_checkIndex 5 = .ok (.iload_n 1, 1) := dk_27 (dk_at dksJ5_checkIndex_0 5 rfl rfl)
theorem dJ5_checkIndex_6 : decode cJ5_checkIndex 6 = .ok (.if_icmp .lt 10, 3) := dk_161 0 10 (dk_at dksJ5_checkIndex_0 6 rfl rfl)
theorem dJ5_checkIndex_9 : decode cJ5_checkIndex 9 = .ok (.aload_n 2, 1) := dk_44 (dk_at dksJ5_checkIndex_0 9 rfl rfl)
theorem dJ5_checkIndex_10 : decode cJ5_checkIndex 10 = .ok (.iload_n 0, 1) := dk_26 (dk_at dksJ5_checkIndex_0 10 rfl rfl)
theorem dJ5_checkIndex_11 : decode cJ5_checkIndex 11 = .ok (.iload_n 1, 1) := dk_27 (dk_at dksJ5_checkIndex_0 11 rfl rfl)
theorem dJ5_checkIndex_12 : decode cJ5_checkIndex 12 = .ok (.invokestatic 95, 3) := dk_184 0 95 (dk_at dksJ5_checkIndex_0 12 rfl rfl)
theorem dJ5_checkIndex_15 : decode cJ5_checkIndex 15 = .ok (.athrow, 1) := dk_191 (dk_at dksJ5_checkIndex_0 15 rfl rfl)
theorem dJ5_checkIndex_16 : decode cJ5_checkIndex 16 = .ok (.iload_n 0, 1) := dk_26 (dk_at dksJ5_checkIndex_0 16 rfl rfl)
theorem dJ5_checkIndex_17 : decode cJ5_checkIndex 17 = .ok (.ireturn, 1) := dk_172 (dk_at dksJ5_checkIndex_0 17 rfl rfl)
theorem q85 : (Jvm.Cond.initialized "jdk/internal/util/Preconditions") ∈ lw_all := lw_g (lw_at lw_m1 13 rfl) rfl
theorem q443 : (Jvm.Cond.laysStatic "jdk/internal/util/Preconditions" "SIOOBE_FORMATTER" "Ljava/util/function/BiFunction;") ∈ lw_tbl := lw_at lw_m2 131 rfl
theorem q445 : (Jvm.Cond.static ({ cls := "jdk/internal/util/Preconditions", name := "checkIndex", desc := "(IILjava/util/function/BiFunction;)I" } : Jvm.MethodName)) ∈ lw_all := lw_g (lw_at lw_m2 133 rfl) rfl
theorem q446 : (Jvm.Cond.code ({ cls := "jdk/internal/util/Preconditions", name := "checkIndex", desc := "(IILjava/util/function/BiFunction;)I" } : Jvm.MethodName) prog_48_method_11_code (3 : Nat) (Option.some Jvm.ClassFile.FieldType.int)) ∈ lw_all := lw_g (lw_at lw_m2 134 rfl) rfl
/-! java/lang/StringUTF16 -/
set_option maxRecDepth 100000
def RJ6 : String := "java/lang/StringUTF16"
abbrev cJ6_charAt : ByteArray := prog_32_method_83_code
def yJ6_charAt : MethodName := ⟨RJ6, "charAt", "([BI)C"⟩
def dkwJ6_charAt_0 : List UInt8 := [27, 42, 184, 0, 67, 42, 27, 184, 0, 71, 172]
abbrev dktJ6_charAt_0 : List UInt8 := dkwJ6_charAt_0 ++ []
theorem dksJ6_charAt_0 : cJ6_charAt.data.toList.drop 0 = dktJ6_charAt_0 := by decide +kernel
theorem dJ6_charAt_0 : decode cJ6_charAt 0 = .ok (.iload_n 1, 1) := dk_27 (dk_at dksJ6_charAt_0 0 rfl rfl)
theorem dJ6_charAt_1 : decode cJ6_charAt 1 = .ok (.aload_n 0, 1) := dk_42 (dk_at dksJ6_charAt_0 1 rfl rfl)
theorem dJ6_charAt_2 : decode cJ6_charAt 2 = .ok (.invokestatic 67, 3) := dk_184 0 67 (dk_at dksJ6_charAt_0 2 rfl rfl)
theorem dJ6_charAt_5 : decode cJ6_charAt 5 = .ok (.aload_n 0, 1) := dk_42 (dk_at dksJ6_charAt_0 5 rfl rfl)
theorem dJ6_charAt_6 : decode cJ6_charAt 6 = .ok (.iload_n 1, 1) := dk_27 (dk_at dksJ6_charAt_0 6 rfl rfl)
theorem dJ6_charAt_7 : decode cJ6_charAt 7 = .ok (.invokestatic 71, 3) := dk_184 0 71 (dk_at dksJ6_charAt_0 7 rfl rfl)
theorem dJ6_charAt_10 : decode cJ6_charAt 10 = .ok (.ireturn, 1) := dk_172 (dk_at dksJ6_charAt_0 10 rfl rfl)
abbrev cJ6_checkIndex : ByteArray := prog_32_method_91_code
def yJ6_checkIndex : MethodName := ⟨RJ6, "checkIndex", "(I[B)V"⟩
def dkwJ6_checkIndex_0 : List UInt8 := [26, 43, 184, 0, 48, 184, 1, 158, 177]
abbrev dktJ6_checkIndex_0 : List UInt8 := dkwJ6_checkIndex_0 ++ []
theorem dksJ6_checkIndex_0 : cJ6_checkIndex.data.toList.drop 0 = dktJ6_checkIndex_0 := by decide +kernel
theorem dJ6_checkIndex_0 : decode cJ6_checkIndex 0 = .ok (.iload_n 0, 1) := dk_26 (dk_at dksJ6_checkIndex_0 0 rfl rfl)
theorem dJ6_checkIndex_1 : decode cJ6_checkIndex 1 = .ok (.aload_n 1, 1) := dk_43 (dk_at dksJ6_checkIndex_0 1 rfl rfl)
theorem dJ6_checkIndex_2 : decode cJ6_checkIndex 2 = .ok (.invokestatic 48, 3) := dk_184 0 48 (dk_at dksJ6_checkIndex_0 2 rfl rfl)
theorem dJ6_checkIndex_5 : decode cJ6_checkIndex 5 = .ok (.invokestatic 414, 3) := dk_184 1 158 (dk_at dksJ6_checkIndex_0 5 rfl rfl)
theorem dJ6_checkIndex_8 : decode cJ6_checkIndex 8 = .ok (.return_, 1) := dk_177 (dk_at dksJ6_checkIndex_0 8 rfl rfl)
abbrev cJ6_length : ByteArray := prog_32_method_6_code
def yJ6_length : MethodName := ⟨RJ6, "length", "([B)I"⟩
def dkwJ6_length_0 : List UInt8 := [42, 190, 4, 122, 172]
abbrev dktJ6_length_0 : List UInt8 := dkwJ6_length_0 ++ []
theorem dksJ6_length_0 : cJ6_length.data.toList.drop 0 = dktJ6_length_0 := by decide +kernel
theorem dJ6_length_0 : decode cJ6_length 0 = .ok (.aload_n 0, 1) := dk_42 (dk_at dksJ6_length_0 0 rfl rfl)
theorem dJ6_length_1 : decode cJ6_length 1 = .ok (.arraylength, 1) := dk_190 (dk_at dksJ6_length_0 1 rfl rfl)
theorem dJ6_length_2 : decode cJ6_length 2 = .ok (.iconst 1, 1) := dk_4 (dk_at dksJ6_length_0 2 rfl rfl)
theorem dJ6_length_3 : decode cJ6_length 3 = .ok (.ishr, 1) := dk_122 (dk_at dksJ6_length_0 3 rfl rfl)
theorem dJ6_length_4 : decode cJ6_length 4 = .ok (.ireturn, 1) := dk_172 (dk_at dksJ6_length_0 4 rfl rfl)
abbrev cJ6_getChar : ByteArray := prog_32_method_5_code
def yJ6_getChar : MethodName := ⟨RJ6, "getChar", "([BI)C"⟩
def dkwJ6_getChar_2 : List UInt8 := [51, 17, 0, 255, 126, 178, 0, 63, 120, 128, 146, 172]
abbrev dktJ6_getChar_2 : List UInt8 := dkwJ6_getChar_2 ++ []
def dkwJ6_getChar_1 : List UInt8 := [183, 0, 56, 191, 27, 4, 120, 60, 42, 27, 132, 1, 1, 51, 17, 0, 255, 126, 178, 0, 59, 120, 42, 27]
abbrev dktJ6_getChar_1 : List UInt8 := dkwJ6_getChar_1 ++ dktJ6_getChar_2
def dkwJ6_getChar_0 : List UInt8 := [178, 0, 44, 154, 0, 25, 27, 155, 0, 11, 27, 42, 184, 0, 48, 161, 0, 13, 187, 0, 52, 89, 18, 54]
abbrev dktJ6_getChar_0 : List UInt8 := dkwJ6_getChar_0 ++ dktJ6_getChar_1
theorem dksJ6_getChar_0 : cJ6_getChar.data.toList.drop 0 = dktJ6_getChar_0 := by decide +kernel
theorem dksJ6_getChar_1 : cJ6_getChar.data.toList.drop 24 = dktJ6_getChar_1 := dk_seg dksJ6_getChar_0 24 rfl rfl
theorem dksJ6_getChar_2 : cJ6_getChar.data.toList.drop 48 = dktJ6_getChar_2 := dk_seg dksJ6_getChar_1 24 rfl rfl
theorem dJ6_getChar_0 : decode cJ6_getChar 0 = .ok (.getstatic 44, 3) := dk_178 0 44 (dk_at dksJ6_getChar_0 0 rfl rfl)
theorem dJ6_getChar_3 : decode cJ6_getChar 3 = .ok (.ifCond .ne 25, 3) := dk_154 0 25 (dk_at dksJ6_getChar_0 3 rfl rfl)
theorem dJ6_getChar_6 : decode cJ6_getChar 6 = .ok (.iload_n 1, 1) := dk_27 (dk_at dksJ6_getChar_0 6 rfl rfl)
theorem dJ6_getChar_7 : decode cJ6_getChar 7 = .ok (.ifCond .lt 11, 3) := dk_155 0 11 (dk_at dksJ6_getChar_0 7 rfl rfl)
theorem dJ6_getChar_10 : decode cJ6_getChar 10 = .ok (.iload_n 1, 1) := dk_27 (dk_at dksJ6_getChar_0 10 rfl rfl)
theorem dJ6_getChar_11 : decode cJ6_getChar 11 = .ok (.aload_n 0, 1) := dk_42 (dk_at dksJ6_getChar_0 11 rfl rfl)
theorem dJ6_getChar_12 : decode cJ6_getChar 12 = .ok (.invokestatic 48, 3) := dk_184 0 48 (dk_at dksJ6_getChar_0 12 rfl rfl)
theorem dJ6_getChar_15 : decode cJ6_getChar 15 = .ok (.if_icmp .lt 13, 3) := dk_161 0 13 (dk_at dksJ6_getChar_0 15 rfl rfl)
theorem dJ6_getChar_18 : decode cJ6_getChar 18 = .ok (.new 52, 3) := dk_187 0 52 (dk_at dksJ6_getChar_0 18 rfl rfl)
theorem dJ6_getChar_21 : decode cJ6_getChar 21 = .ok (.dup, 1) := dk_89 (dk_at dksJ6_getChar_0 21 rfl rfl)
theorem dJ6_getChar_22 : decode cJ6_getChar 22 = .ok (.ldc 54, 2) := dk_18 54 (dk_at dksJ6_getChar_0 22 rfl rfl)
theorem dJ6_getChar_24 : decode cJ6_getChar 24 = .ok (.invokespecial 56, 3) := dk_183 0 56 (dk_at dksJ6_getChar_1 0 rfl rfl)
theorem dJ6_getChar_27 : decode cJ6_getChar 27 = .ok (.athrow, 1) := dk_191 (dk_at dksJ6_getChar_1 3 rfl rfl)
theorem dJ6_getChar_28 : decode cJ6_getChar 28 = .ok (.iload_n 1, 1) := dk_27 (dk_at dksJ6_getChar_1 4 rfl rfl)
theorem dJ6_getChar_29 : decode cJ6_getChar 29 = .ok (.iconst 1, 1) := dk_4 (dk_at dksJ6_getChar_1 5 rfl rfl)
theorem dJ6_getChar_30 : decode cJ6_getChar 30 = .ok (.ishl, 1) := dk_120 (dk_at dksJ6_getChar_1 6 rfl rfl)
theorem dJ6_getChar_31 : decode cJ6_getChar 31 = .ok (.istore_n 1, 1) := dk_60 (dk_at dksJ6_getChar_1 7 rfl rfl)
theorem dJ6_getChar_32 : decode cJ6_getChar 32 = .ok (.aload_n 0, 1) := dk_42 (dk_at dksJ6_getChar_1 8 rfl rfl)
theorem dJ6_getChar_33 : decode cJ6_getChar 33 = .ok (.iload_n 1, 1) := dk_27 (dk_at dksJ6_getChar_1 9 rfl rfl)
theorem dJ6_getChar_34 : decode cJ6_getChar 34 = .ok (.iinc 1 1, 3) := dk_132 1 1 (dk_at dksJ6_getChar_1 10 rfl rfl)
theorem dJ6_getChar_37 : decode cJ6_getChar 37 = .ok (.baload, 1) := dk_51 (dk_at dksJ6_getChar_1 13 rfl rfl)
theorem dJ6_getChar_38 : decode cJ6_getChar 38 = .ok (.sipush 255, 3) := dk_17 0 255 (dk_at dksJ6_getChar_1 14 rfl rfl)
theorem dJ6_getChar_41 : decode cJ6_getChar 41 = .ok (.iand, 1) := dk_126 (dk_at dksJ6_getChar_1 17 rfl rfl)
theorem dJ6_getChar_42 : decode cJ6_getChar 42 = .ok (.getstatic 59, 3) := dk_178 0 59 (dk_at dksJ6_getChar_1 18 rfl rfl)
theorem dJ6_getChar_45 : decode cJ6_getChar 45 = .ok (.ishl, 1) := dk_120 (dk_at dksJ6_getChar_1 21 rfl rfl)
theorem dJ6_getChar_46 : decode cJ6_getChar 46 = .ok (.aload_n 0, 1) := dk_42 (dk_at dksJ6_getChar_1 22 rfl rfl)
theorem dJ6_getChar_47 : decode cJ6_getChar 47 = .ok (.iload_n 1, 1) := dk_27 (dk_at dksJ6_getChar_1 23 rfl rfl)
theorem dJ6_getChar_48 : decode cJ6_getChar 48 = .ok (.baload, 1) := dk_51 (dk_at dksJ6_getChar_2 0 rfl rfl)
theorem dJ6_getChar_49 : decode cJ6_getChar 49 = .ok (.sipush 255, 3) := dk_17 0 255 (dk_at dksJ6_getChar_2 1 rfl rfl)
theorem dJ6_getChar_52 : decode cJ6_getChar 52 = .ok (.iand, 1) := dk_126 (dk_at dksJ6_getChar_2 4 rfl rfl)
theorem dJ6_getChar_53 : decode cJ6_getChar 53 = .ok (.getstatic 63, 3) := dk_178 0 63 (dk_at dksJ6_getChar_2 5 rfl rfl)
theorem dJ6_getChar_56 : decode cJ6_getChar 56 = .ok (.ishl, 1) := dk_120 (dk_at dksJ6_getChar_2 8 rfl rfl)
theorem dJ6_getChar_57 : decode cJ6_getChar 57 = .ok (.ior, 1) := dk_128 (dk_at dksJ6_getChar_2 9 rfl rfl)
theorem dJ6_getChar_58 : decode cJ6_getChar 58 = .ok (.i2c, 1) := dk_146 (dk_at dksJ6_getChar_2 10 rfl rfl)
theorem dJ6_getChar_59 : decode cJ6_getChar 59 = .ok (.ireturn, 1) := dk_172 (dk_at dksJ6_getChar_2 11 rfl rfl)
theorem q86 : (Jvm.Cond.initialized "java/lang/StringUTF16") ∈ lw_all := lw_g (lw_at lw_m1 14 rfl) rfl
theorem q448 : (Jvm.Cond.static ({ cls := "java/lang/StringUTF16", name := "charAt", desc := "([BI)C" } : Jvm.MethodName)) ∈ lw_all := lw_g (lw_at lw_m2 136 rfl) rfl
theorem q449 : (Jvm.Cond.code ({ cls := "java/lang/StringUTF16", name := "charAt", desc := "([BI)C" } : Jvm.MethodName) prog_32_method_83_code (2 : Nat) (Option.some Jvm.ClassFile.FieldType.char)) ∈ lw_all := lw_g (lw_at lw_m2 137 rfl) rfl
theorem q450 : (Jvm.Cond.methodLink "java/lang/StringUTF16" (67 : Nat) ({ cls := "java/lang/StringUTF16", name := "checkIndex", desc := "(I[B)V" } : Jvm.MethodName)) ∈ lw_all := lw_g (lw_at lw_m2 138 rfl) rfl
theorem q451 : (Jvm.Cond.static ({ cls := "java/lang/StringUTF16", name := "checkIndex", desc := "(I[B)V" } : Jvm.MethodName)) ∈ lw_all := lw_g (lw_at lw_m2 139 rfl) rfl
theorem q452 : (Jvm.Cond.code ({ cls := "java/lang/StringUTF16", name := "checkIndex", desc := "(I[B)V" } : Jvm.MethodName) prog_32_method_91_code (2 : Nat) (Option.none : Option Jvm.ClassFile.FieldType)) ∈ lw_all := lw_g (lw_at lw_m2 140 rfl) rfl
theorem q453 : (Jvm.Cond.methodLink "java/lang/StringUTF16" (48 : Nat) ({ cls := "java/lang/StringUTF16", name := "length", desc := "([B)I" } : Jvm.MethodName)) ∈ lw_all := lw_g (lw_at lw_m2 141 rfl) rfl
theorem q454 : (Jvm.Cond.static ({ cls := "java/lang/StringUTF16", name := "length", desc := "([B)I" } : Jvm.MethodName)) ∈ lw_all := lw_g (lw_at lw_m2 142 rfl) rfl
theorem q455 : (Jvm.Cond.code ({ cls := "java/lang/StringUTF16", name := "length", desc := "([B)I" } : Jvm.MethodName) prog_32_method_6_code (1 : Nat) (Option.some Jvm.ClassFile.FieldType.int)) ∈ lw_all := lw_g (lw_at lw_m2 143 rfl) rfl
theorem q456 : (Jvm.Cond.methodLink "java/lang/StringUTF16" (414 : Nat) ({ cls := "java/lang/String", name := "checkIndex", desc := "(II)V" } : Jvm.MethodName)) ∈ lw_all := lw_g (lw_at lw_m2 144 rfl) rfl
theorem q457 : (Jvm.Cond.methodLink "java/lang/StringUTF16" (71 : Nat) ({ cls := "java/lang/StringUTF16", name := "getChar", desc := "([BI)C" } : Jvm.MethodName)) ∈ lw_all := lw_g (lw_at lw_m2 145 rfl) rfl
theorem q458 : (Jvm.Cond.static ({ cls := "java/lang/StringUTF16", name := "getChar", desc := "([BI)C" } : Jvm.MethodName)) ∈ lw_all := lw_g (lw_at lw_m2 146 rfl) rfl
theorem q459 : (Jvm.Cond.code ({ cls := "java/lang/StringUTF16", name := "getChar", desc := "([BI)C" } : Jvm.MethodName) prog_32_method_5_code (2 : Nat) (Option.some Jvm.ClassFile.FieldType.char)) ∈ lw_all := lw_g (lw_at lw_m2 147 rfl) rfl
theorem q460 : (Jvm.Cond.fieldLink "java/lang/StringUTF16" (44 : Nat) "java/lang/StringUTF16" "$assertionsDisabled" "Z") ∈ lw_all := lw_g (lw_at lw_m2 148 rfl) rfl
theorem q461 : (Jvm.Cond.laysStatic "java/lang/StringUTF16" "$assertionsDisabled" "Z") ∈ lw_tbl := lw_at lw_m2 149 rfl
theorem q462 : (Jvm.Cond.fieldLink "java/lang/StringUTF16" (59 : Nat) "java/lang/StringUTF16" "HI_BYTE_SHIFT" "I") ∈ lw_all := lw_g (lw_at lw_m2 150 rfl) rfl
theorem q463 : (Jvm.Cond.laysStatic "java/lang/StringUTF16" "HI_BYTE_SHIFT" "I") ∈ lw_tbl := lw_at lw_m2 151 rfl
theorem q464 : (Jvm.Cond.fieldLink "java/lang/StringUTF16" (63 : Nat) "java/lang/StringUTF16" "LO_BYTE_SHIFT" "I") ∈ lw_all := lw_g (lw_at lw_m2 152 rfl) rfl
theorem q465 : (Jvm.Cond.laysStatic "java/lang/StringUTF16" "LO_BYTE_SHIFT" "I") ∈ lw_tbl := lw_at lw_m2 153 rfl
/-! java/lang/Throwable -/
set_option maxRecDepth 100000
def RJ7 : String := "java/lang/Throwable"
def TJ7 : u_T := fun k => match k with
  | 0 => ("java/lang/Throwable", "cause", "Ljava/lang/Throwable;", false)
  | 1 => ("java/lang/Throwable", "stackTrace", "[Ljava/lang/StackTraceElement;", false)
  | 2 => ("java/lang/Throwable", "suppressedExceptions", "Ljava/util/List;", false)
  | 3 => ("java/lang/Throwable", "detailMessage", "Ljava/lang/String;", false)
  | _ => ("java/lang/Throwable", "backtrace", "Ljava/lang/Object;", false)
def tyJ7 : Nat → FieldType := fun k => match k with
  | 0 => .object "java/lang/Throwable"
  | 1 => .array (.object "java/lang/StackTraceElement")
  | 2 => .object "java/util/List"
  | 3 => .object "java/lang/String"
  | _ => .object "java/lang/Object"
abbrev wsJ70 : List Cond := u_ws RJ7 TJ7 5
theorem nmJ7 : ∀ a, a < 5 → ∀ b, b < 5 → a ≠ b → (TJ7 a).2.1 ≠ (TJ7 b).2.1 := by decide +kernel
theorem tyJ7_ok : ∀ k, k < 5 → parseFieldDescriptor (TJ7 k).2.2.1 = some (tyJ7 k) := by decide +kernel
abbrev cJ7_init : ByteArray := prog_34_method_1_code
def yJ7_init : MethodName := ⟨RJ7, "<init>", "()V"⟩
def dkwJ7_init_1 : List UInt8 := [182, 0, 27, 87, 177]
abbrev dktJ7_init_1 : List UInt8 := dkwJ7_init_1 ++ []
def dkwJ7_init_0 : List UInt8 := [42, 183, 0, 1, 42, 42, 181, 0, 7, 42, 178, 0, 13, 181, 0, 17, 42, 178, 0, 20, 181, 0, 24, 42]
abbrev dktJ7_init_0 : List UInt8 := dkwJ7_init_0 ++ dktJ7_init_1
theorem dksJ7_init_0 : cJ7_init.data.toList.drop 0 = dktJ7_init_0 := by decide +kernel
theorem dksJ7_init_1 : cJ7_init.data.toList.drop 24 = dktJ7_init_1 := dk_seg dksJ7_init_0 24 rfl rfl
theorem dJ7_init_0 : decode cJ7_init 0 = .ok (.aload_n 0, 1) := dk_42 (dk_at dksJ7_init_0 0 rfl rfl)
theorem dJ7_init_1 : decode cJ7_init 1 = .ok (.invokespecial 1, 3) := dk_183 0 1 (dk_at dksJ7_init_0 1 rfl rfl)
theorem dJ7_init_4 : decode cJ7_init 4 = .ok (.aload_n 0, 1) := dk_42 (dk_at dksJ7_init_0 4 rfl rfl)
theorem dJ7_init_5 : decode cJ7_init 5 = .ok (.aload_n 0, 1) := dk_42 (dk_at dksJ7_init_0 5 rfl rfl)
theorem dJ7_init_6 : decode cJ7_init 6 = .ok (.putfield 7, 3) := dk_181 0 7 (dk_at dksJ7_init_0 6 rfl rfl)
theorem dJ7_init_9 : decode cJ7_init 9 = .ok (.aload_n 0, 1) := dk_42 (dk_at dksJ7_init_0 9 rfl rfl)
theorem dJ7_init_10 : decode cJ7_init 10 = .ok (.getstatic 13, 3) := dk_178 0 13 (dk_at dksJ7_init_0 10 rfl rfl)
theorem dJ7_init_13 : decode cJ7_init 13 = .ok (.putfield 17, 3) := dk_181 0 17 (dk_at dksJ7_init_0 13 rfl rfl)
theorem dJ7_init_16 : decode cJ7_init 16 = .ok (.aload_n 0, 1) := dk_42 (dk_at dksJ7_init_0 16 rfl rfl)
theorem dJ7_init_17 : decode cJ7_init 17 = .ok (.getstatic 20, 3) := dk_178 0 20 (dk_at dksJ7_init_0 17 rfl rfl)
theorem dJ7_init_20 : decode cJ7_init 20 = .ok (.putfield 24, 3) := dk_181 0 24 (dk_at dksJ7_init_0 20 rfl rfl)
theorem dJ7_init_23 : decode cJ7_init 23 = .ok (.aload_n 0, 1) := dk_42 (dk_at dksJ7_init_0 23 rfl rfl)
theorem dJ7_init_24 : decode cJ7_init 24 = .ok (.invokevirtual 27, 3) := dk_182 0 27 (dk_at dksJ7_init_1 0 rfl rfl)
theorem dJ7_init_27 : decode cJ7_init 27 = .ok (.pop, 1) := dk_87 (dk_at dksJ7_init_1 3 rfl rfl)
theorem dJ7_init_28 : decode cJ7_init 28 = .ok (.return_, 1) := dk_177 (dk_at dksJ7_init_1 4 rfl rfl)
abbrev cJ7_init_2 : ByteArray := prog_34_method_5_code
def yJ7_init_2 : MethodName := ⟨RJ7, "<init>", "(Ljava/lang/String;Ljava/lang/Throwable;ZZ)V"⟩
def dkwJ7_init_2_2 : List UInt8 := [44, 181, 0, 7, 29, 154, 0, 8, 42, 1, 181, 0, 24, 177]
abbrev dktJ7_init_2_2 : List UInt8 := dkwJ7_init_2_2 ++ []
def dkwJ7_init_2_1 : List UInt8 := [21, 4, 153, 0, 11, 42, 182, 0, 27, 87, 167, 0, 8, 42, 1, 181, 0, 17, 42, 43, 181, 0, 31, 42]
abbrev dktJ7_init_2_1 : List UInt8 := dkwJ7_init_2_1 ++ dktJ7_init_2_2
def dkwJ7_init_2_0 : List UInt8 := [42, 183, 0, 1, 42, 42, 181, 0, 7, 42, 178, 0, 13, 181, 0, 17, 42, 178, 0, 20, 181, 0, 24]
abbrev dktJ7_init_2_0 : List UInt8 := dkwJ7_init_2_0 ++ dktJ7_init_2_1
theorem dksJ7_init_2_0 : cJ7_init_2.data.toList.drop 0 = dktJ7_init_2_0 := by decide +kernel
theorem dksJ7_init_2_1 : cJ7_init_2.data.toList.drop 23 = dktJ7_init_2_1 := dk_seg dksJ7_init_2_0 23 rfl rfl
theorem dksJ7_init_2_2 : cJ7_init_2.data.toList.drop 47 = dktJ7_init_2_2 := dk_seg dksJ7_init_2_1 24 rfl rfl
theorem dJ7_init_2_0 : decode cJ7_init_2 0 = .ok (.aload_n 0, 1) := dk_42 (dk_at dksJ7_init_2_0 0 rfl rfl)
theorem dJ7_init_2_1 : decode cJ7_init_2 1 = .ok (.invokespecial 1, 3) := dk_183 0 1 (dk_at dksJ7_init_2_0 1 rfl rfl)
theorem dJ7_init_2_4 : decode cJ7_init_2 4 = .ok (.aload_n 0, 1) := dk_42 (dk_at dksJ7_init_2_0 4 rfl rfl)
theorem dJ7_init_2_5 : decode cJ7_init_2 5 = .ok (.aload_n 0, 1) := dk_42 (dk_at dksJ7_init_2_0 5 rfl rfl)
theorem dJ7_init_2_6 : decode cJ7_init_2 6 = .ok (.putfield 7, 3) := dk_181 0 7 (dk_at dksJ7_init_2_0 6 rfl rfl)
theorem dJ7_init_2_9 : decode cJ7_init_2 9 = .ok (.aload_n 0, 1) := dk_42 (dk_at dksJ7_init_2_0 9 rfl rfl)
theorem dJ7_init_2_10 : decode cJ7_init_2 10 = .ok (.getstatic 13, 3) := dk_178 0 13 (dk_at dksJ7_init_2_0 10 rfl rfl)
theorem dJ7_init_2_13 : decode cJ7_init_2 13 = .ok (.putfield 17, 3) := dk_181 0 17 (dk_at dksJ7_init_2_0 13 rfl rfl)
theorem dJ7_init_2_16 : decode cJ7_init_2 16 = .ok (.aload_n 0, 1) := dk_42 (dk_at dksJ7_init_2_0 16 rfl rfl)
theorem dJ7_init_2_17 : decode cJ7_init_2 17 = .ok (.getstatic 20, 3) := dk_178 0 20 (dk_at dksJ7_init_2_0 17 rfl rfl)
theorem dJ7_init_2_20 : decode cJ7_init_2 20 = .ok (.putfield 24, 3) := dk_181 0 24 (dk_at dksJ7_init_2_0 20 rfl rfl)
theorem dJ7_init_2_23 : decode cJ7_init_2 23 = .ok (.iload 4, 2) := dk_21 4 (dk_at dksJ7_init_2_1 0 rfl rfl)
theorem dJ7_init_2_25 : decode cJ7_init_2 25 = .ok (.ifCond .eq 11, 3) := dk_153 0 11 (dk_at dksJ7_init_2_1 2 rfl rfl)
theorem dJ7_init_2_28 : decode cJ7_init_2 28 = .ok (.aload_n 0, 1) := dk_42 (dk_at dksJ7_init_2_1 5 rfl rfl)
theorem dJ7_init_2_29 : decode cJ7_init_2 29 = .ok (.invokevirtual 27, 3) := dk_182 0 27 (dk_at dksJ7_init_2_1 6 rfl rfl)
theorem dJ7_init_2_32 : decode cJ7_init_2 32 = .ok (.pop, 1) := dk_87 (dk_at dksJ7_init_2_1 9 rfl rfl)
theorem dJ7_init_2_33 : decode cJ7_init_2 33 = .ok (.goto 8, 3) := dk_167 0 8 (dk_at dksJ7_init_2_1 10 rfl rfl)
theorem dJ7_init_2_36 : decode cJ7_init_2 36 = .ok (.aload_n 0, 1) := dk_42 (dk_at dksJ7_init_2_1 13 rfl rfl)
theorem dJ7_init_2_37 : decode cJ7_init_2 37 = .ok (.aconst_null, 1) := dk_1 (dk_at dksJ7_init_2_1 14 rfl rfl)
theorem dJ7_init_2_38 : decode cJ7_init_2 38 = .ok (.putfield 17, 3) := dk_181 0 17 (dk_at dksJ7_init_2_1 15 rfl rfl)
theorem dJ7_init_2_41 : decode cJ7_init_2 41 = .ok (.aload_n 0, 1) := dk_42 (dk_at dksJ7_init_2_1 18 rfl rfl)
theorem dJ7_init_2_42 : decode cJ7_init_2 42 = .ok (.aload_n 1, 1) := dk_43 (dk_at dksJ7_init_2_1 19 rfl rfl)
theorem dJ7_init_2_43 : decode cJ7_init_2 43 = .ok (.putfield 31, 3) := dk_181 0 31 (dk_at dksJ7_init_2_1 20 rfl rfl)
theorem dJ7_init_2_46 : decode cJ7_init_2 46 = .ok (.aload_n 0, 1) := dk_42 (dk_at dksJ7_init_2_1 23 rfl rfl)
theorem dJ7_init_2_47 : decode cJ7_init_2 47 = .ok (.aload_n 2, 1) := dk_44 (dk_at dksJ7_init_2_2 0 rfl rfl)
theorem dJ7_init_2_48 : decode cJ7_init_2 48 = .ok (.putfield 7, 3) := dk_181 0 7 (dk_at dksJ7_init_2_2 1 rfl rfl)
theorem dJ7_init_2_51 : decode cJ7_init_2 51 = .ok (.iload_n 3, 1) := dk_29 (dk_at dksJ7_init_2_2 4 rfl rfl)
theorem dJ7_init_2_52 : decode cJ7_init_2 52 = .ok (.ifCond .ne 8, 3) := dk_154 0 8 (dk_at dksJ7_init_2_2 5 rfl rfl)
theorem dJ7_init_2_55 : decode cJ7_init_2 55 = .ok (.aload_n 0, 1) := dk_42 (dk_at dksJ7_init_2_2 8 rfl rfl)
theorem dJ7_init_2_56 : decode cJ7_init_2 56 = .ok (.aconst_null, 1) := dk_1 (dk_at dksJ7_init_2_2 9 rfl rfl)
theorem dJ7_init_2_57 : decode cJ7_init_2 57 = .ok (.putfield 24, 3) := dk_181 0 24 (dk_at dksJ7_init_2_2 10 rfl rfl)
theorem dJ7_init_2_60 : decode cJ7_init_2 60 = .ok (.return_, 1) := dk_177 (dk_at dksJ7_init_2_2 13 rfl rfl)
abbrev cJ7_init_3 : ByteArray := prog_34_method_2_code
def yJ7_init_3 : MethodName := ⟨RJ7, "<init>", "(Ljava/lang/String;)V"⟩
def dkwJ7_init_3_1 : List UInt8 := [182, 0, 27, 87, 42, 43, 181, 0, 31, 177]
abbrev dktJ7_init_3_1 : List UInt8 := dkwJ7_init_3_1 ++ []
def dkwJ7_init_3_0 : List UInt8 := [42, 183, 0, 1, 42, 42, 181, 0, 7, 42, 178, 0, 13, 181, 0, 17, 42, 178, 0, 20, 181, 0, 24, 42]
abbrev dktJ7_init_3_0 : List UInt8 := dkwJ7_init_3_0 ++ dktJ7_init_3_1
theorem dksJ7_init_3_0 : cJ7_init_3.data.toList.drop 0 = dktJ7_init_3_0 := by decide +kernel
theorem dksJ7_init_3_1 : cJ7_init_3.data.toList.drop 24 = dktJ7_init_3_1 := dk_seg dksJ7_init_3_0 24 rfl rfl
theorem dJ7_init_3_0 : decode cJ7_init_3 0 = .ok (.aload_n 0, 1) := dk_42 (dk_at dksJ7_init_3_0 0 rfl rfl)
theorem dJ7_init_3_1 : decode cJ7_init_3 1 = .ok (.invokespecial 1, 3) := dk_183 0 1 (dk_at dksJ7_init_3_0 1 rfl rfl)
theorem dJ7_init_3_4 : decode cJ7_init_3 4 = .ok (.aload_n 0, 1) := dk_42 (dk_at dksJ7_init_3_0 4 rfl rfl)
theorem dJ7_init_3_5 : decode cJ7_init_3 5 = .ok (.aload_n 0, 1) := dk_42 (dk_at dksJ7_init_3_0 5 rfl rfl)
theorem dJ7_init_3_6 : decode cJ7_init_3 6 = .ok (.putfield 7, 3) := dk_181 0 7 (dk_at dksJ7_init_3_0 6 rfl rfl)
theorem dJ7_init_3_9 : decode cJ7_init_3 9 = .ok (.aload_n 0, 1) := dk_42 (dk_at dksJ7_init_3_0 9 rfl rfl)
theorem dJ7_init_3_10 : decode cJ7_init_3 10 = .ok (.getstatic 13, 3) := dk_178 0 13 (dk_at dksJ7_init_3_0 10 rfl rfl)
theorem dJ7_init_3_13 : decode cJ7_init_3 13 = .ok (.putfield 17, 3) := dk_181 0 17 (dk_at dksJ7_init_3_0 13 rfl rfl)
theorem dJ7_init_3_16 : decode cJ7_init_3 16 = .ok (.aload_n 0, 1) := dk_42 (dk_at dksJ7_init_3_0 16 rfl rfl)
theorem dJ7_init_3_17 : decode cJ7_init_3 17 = .ok (.getstatic 20, 3) := dk_178 0 20 (dk_at dksJ7_init_3_0 17 rfl rfl)
theorem dJ7_init_3_20 : decode cJ7_init_3 20 = .ok (.putfield 24, 3) := dk_181 0 24 (dk_at dksJ7_init_3_0 20 rfl rfl)
theorem dJ7_init_3_23 : decode cJ7_init_3 23 = .ok (.aload_n 0, 1) := dk_42 (dk_at dksJ7_init_3_0 23 rfl rfl)
theorem dJ7_init_3_24 : decode cJ7_init_3 24 = .ok (.invokevirtual 27, 3) := dk_182 0 27 (dk_at dksJ7_init_3_1 0 rfl rfl)
theorem dJ7_init_3_27 : decode cJ7_init_3 27 = .ok (.pop, 1) := dk_87 (dk_at dksJ7_init_3_1 3 rfl rfl)
theorem dJ7_init_3_28 : decode cJ7_init_3 28 = .ok (.aload_n 0, 1) := dk_42 (dk_at dksJ7_init_3_1 4 rfl rfl)
theorem dJ7_init_3_29 : decode cJ7_init_3 29 = .ok (.aload_n 1, 1) := dk_43 (dk_at dksJ7_init_3_1 5 rfl rfl)
theorem dJ7_init_3_30 : decode cJ7_init_3 30 = .ok (.putfield 31, 3) := dk_181 0 31 (dk_at dksJ7_init_3_1 6 rfl rfl)
theorem dJ7_init_3_33 : decode cJ7_init_3 33 = .ok (.return_, 1) := dk_177 (dk_at dksJ7_init_3_1 9 rfl rfl)
theorem q87 : (Jvm.Cond.initialized "java/lang/Throwable") ∈ lw_all := lw_g (lw_at lw_m1 15 rfl) rfl
theorem q479 : (Jvm.Cond.declares ({ cls := "java/lang/Throwable", name := "<init>", desc := "()V" } : Jvm.MethodName)) ∈ lw_tbl := lw_at lw_m2 167 rfl
theorem q480 : (Jvm.Cond.declares ({ cls := "java/lang/Throwable", name := "<init>", desc := "(Ljava/lang/String;)V" } : Jvm.MethodName)) ∈ lw_tbl := lw_at lw_m2 168 rfl
theorem q484 : (Jvm.Cond.lays "java/lang/Throwable" "java/lang/Throwable" "cause" "Ljava/lang/Throwable;") ∈ lw_all := lw_g (lw_at lw_m2 172 rfl) rfl
theorem q486 : (Jvm.Cond.lays "java/lang/Throwable" "java/lang/Throwable" "stackTrace" "[Ljava/lang/StackTraceElement;") ∈ lw_all := lw_g (lw_at lw_m2 174 rfl) rfl
theorem q488 : (Jvm.Cond.lays "java/lang/Throwable" "java/lang/Throwable" "suppressedExceptions" "Ljava/util/List;") ∈ lw_all := lw_g (lw_at lw_m2 176 rfl) rfl
theorem q490 : (Jvm.Cond.lays "java/lang/Throwable" "java/lang/Throwable" "detailMessage" "Ljava/lang/String;") ∈ lw_all := lw_g (lw_at lw_m2 178 rfl) rfl
theorem q492 : (Jvm.Cond.lays "java/lang/Throwable" "java/lang/Throwable" "backtrace" "Ljava/lang/Object;") ∈ lw_all := lw_g (lw_at lw_m2 180 rfl) rfl
theorem q493 : (Jvm.Cond.fieldLink "java/lang/Throwable" (198 : Nat) "java/lang/Throwable" "backtrace" "Ljava/lang/Object;") ∈ lw_all := lw_g (lw_at lw_m2 181 rfl) rfl
theorem q494 : (Jvm.Cond.superclass "java/lang/Throwable" "java/lang/Object") ∈ lw_all := lw_g (lw_at lw_m2 182 rfl) rfl
theorem q495 : (Jvm.Cond.instanceMethod ({ cls := "java/lang/Throwable", name := "<init>", desc := "()V" } : Jvm.MethodName)) ∈ lw_all := lw_g (lw_at lw_m2 183 rfl) rfl
theorem q496 : (Jvm.Cond.code ({ cls := "java/lang/Throwable", name := "<init>", desc := "()V" } : Jvm.MethodName) prog_34_method_1_code (1 : Nat) (Option.none : Option Jvm.ClassFile.FieldType)) ∈ lw_all := lw_g (lw_at lw_m2 184 rfl) rfl
theorem q497 : (Jvm.Cond.methodLink "java/lang/Throwable" (1 : Nat) ({ cls := "java/lang/Object", name := "<init>", desc := "()V" } : Jvm.MethodName)) ∈ lw_all := lw_g (lw_at lw_m2 185 rfl) rfl
theorem q498 : (Jvm.Cond.fieldLink "java/lang/Throwable" (13 : Nat) "java/lang/Throwable" "UNASSIGNED_STACK" "[Ljava/lang/StackTraceElement;") ∈ lw_all := lw_g (lw_at lw_m2 186 rfl) rfl
theorem q499 : (Jvm.Cond.laysStatic "java/lang/Throwable" "UNASSIGNED_STACK" "[Ljava/lang/StackTraceElement;") ∈ lw_tbl := lw_at lw_m2 187 rfl
theorem q500 : (Jvm.Cond.fieldLink "java/lang/Throwable" (20 : Nat) "java/lang/Throwable" "SUPPRESSED_SENTINEL" "Ljava/util/List;") ∈ lw_all := lw_g (lw_at lw_m2 188 rfl) rfl
theorem q501 : (Jvm.Cond.laysStatic "java/lang/Throwable" "SUPPRESSED_SENTINEL" "Ljava/util/List;") ∈ lw_tbl := lw_at lw_m2 189 rfl
theorem q502 : (Jvm.Cond.methodLink "java/lang/Throwable" (27 : Nat) ({ cls := "java/lang/Throwable", name := "fillInStackTrace", desc := "()Ljava/lang/Throwable;" } : Jvm.MethodName)) ∈ lw_all := lw_g (lw_at lw_m2 190 rfl) rfl
theorem q503 : (Jvm.Cond.instanceMethod ({ cls := "java/lang/Throwable", name := "fillInStackTrace", desc := "()Ljava/lang/Throwable;" } : Jvm.MethodName)) ∈ lw_all := lw_g (lw_at lw_m2 191 rfl) rfl
theorem q504 : (Jvm.Cond.sameMethod "java/lang/Throwable" "java/lang/Throwable" "fillInStackTrace" "()Ljava/lang/Throwable;") ∈ lw_all := lw_g (lw_at lw_m2 192 rfl) rfl
theorem q508 : (Jvm.Cond.codeSync ({ cls := "java/lang/Throwable", name := "fillInStackTrace", desc := "()Ljava/lang/Throwable;" } : Jvm.MethodName) prog_34_method_18_code (1 : Nat) (Option.some (Jvm.ClassFile.FieldType.object "java/lang/Throwable"))) ∈ lw_all := lw_g (lw_at lw_m2 196 rfl) rfl
theorem q509 : (Jvm.Cond.methodLink "java/lang/Throwable" (202 : Nat) ({ cls := "java/lang/Throwable", name := "fillInStackTrace", desc := "(I)Ljava/lang/Throwable;" } : Jvm.MethodName)) ∈ lw_all := lw_g (lw_at lw_m2 197 rfl) rfl
theorem q510 : (Jvm.Cond.privateMethod ({ cls := "java/lang/Throwable", name := "fillInStackTrace", desc := "(I)Ljava/lang/Throwable;" } : Jvm.MethodName)) ∈ lw_tbl := lw_at lw_m2 198 rfl
theorem q511 : (Jvm.Cond.instanceMethod ({ cls := "java/lang/Throwable", name := "fillInStackTrace", desc := "(I)Ljava/lang/Throwable;" } : Jvm.MethodName)) ∈ lw_all := lw_g (lw_at lw_m2 199 rfl) rfl
theorem q512 : (Jvm.Cond.instantiable "java/lang/Throwable" (6 : Nat)) ∈ lw_all := lw_g (lw_at lw_m2 200 rfl) rfl
theorem q513 : (Jvm.Cond.native ({ cls := "java/lang/Throwable", name := "fillInStackTrace", desc := "(I)Ljava/lang/Throwable;" } : Jvm.MethodName)) ∈ lw_all := lw_g (lw_at lw_m2 201 rfl) rfl
theorem q521 : (Jvm.Cond.instanceMethod ({ cls := "java/lang/Throwable", name := "<init>", desc := "(Ljava/lang/String;Ljava/lang/Throwable;ZZ)V" } : Jvm.MethodName)) ∈ lw_all := lw_g (lw_at lw_m2 209 rfl) rfl
theorem q522 : (Jvm.Cond.code ({ cls := "java/lang/Throwable", name := "<init>", desc := "(Ljava/lang/String;Ljava/lang/Throwable;ZZ)V" } : Jvm.MethodName) prog_34_method_5_code (5 : Nat) (Option.none : Option Jvm.ClassFile.FieldType)) ∈ lw_all := lw_g (lw_at lw_m2 210 rfl) rfl
theorem q527 : (Jvm.Cond.fieldLink "java/lang/Throwable" (198 : Nat) "java/lang/Throwable" "backtrace" "Ljava/lang/Object;") ∈ lw_all := lw_g (lw_at lw_m2 215 rfl) rfl
theorem q528 : (Jvm.Cond.fieldLink "java/lang/Throwable" (31 : Nat) "java/lang/Throwable" "detailMessage" "Ljava/lang/String;") ∈ lw_all := lw_g (lw_at lw_m2 216 rfl) rfl
theorem q529 : (Jvm.Cond.fieldLink "java/lang/Throwable" (7 : Nat) "java/lang/Throwable" "cause" "Ljava/lang/Throwable;") ∈ lw_all := lw_g (lw_at lw_m2 217 rfl) rfl
theorem q530 : (Jvm.Cond.fieldLink "java/lang/Throwable" (17 : Nat) "java/lang/Throwable" "stackTrace" "[Ljava/lang/StackTraceElement;") ∈ lw_all := lw_g (lw_at lw_m2 218 rfl) rfl
theorem q531 : (Jvm.Cond.fieldLink "java/lang/Throwable" (24 : Nat) "java/lang/Throwable" "suppressedExceptions" "Ljava/util/List;") ∈ lw_all := lw_g (lw_at lw_m2 219 rfl) rfl
theorem q536 : (Jvm.Cond.soleField "java/lang/Throwable" "backtrace") ∈ lw_all := lw_g (lw_at lw_m2 224 rfl) rfl
theorem q537 : (Jvm.Cond.soleField "java/lang/Throwable" "detailMessage") ∈ lw_all := lw_g (lw_at lw_m2 225 rfl) rfl
theorem q538 : (Jvm.Cond.soleField "java/lang/Throwable" "cause") ∈ lw_all := lw_g (lw_at lw_m2 226 rfl) rfl
theorem q539 : (Jvm.Cond.soleField "java/lang/Throwable" "stackTrace") ∈ lw_all := lw_g (lw_at lw_m2 227 rfl) rfl
theorem q541 : (Jvm.Cond.soleField "java/lang/Throwable" "depth") ∈ lw_all := lw_g (lw_at lw_m2 229 rfl) rfl
theorem q542 : (Jvm.Cond.soleField "java/lang/Throwable" "suppressedExceptions") ∈ lw_all := lw_g (lw_at lw_m2 230 rfl) rfl
theorem q1186 : (Jvm.Cond.instanceMethod ({ cls := "java/lang/Throwable", name := "<init>", desc := "(Ljava/lang/String;)V" } : Jvm.MethodName)) ∈ lw_all := lw_g (lw_at lw_m5 154 rfl) rfl
theorem q1187 : (Jvm.Cond.code ({ cls := "java/lang/Throwable", name := "<init>", desc := "(Ljava/lang/String;)V" } : Jvm.MethodName) prog_34_method_2_code (2 : Nat) (Option.none : Option Jvm.ClassFile.FieldType)) ∈ lw_all := lw_g (lw_at lw_m5 155 rfl) rfl
theorem q1721 : (Jvm.Cond.sameMethod "java/lang/Throwable" "java/lang/Throwable" "fillInStackTrace" "(I)Ljava/lang/Throwable;") ∈ lw_all := lw_g (lw_at lw_m7 209 rfl) rfl
theorem q1749 : (Jvm.Cond.castable "java/lang/Throwable" "java/lang/Object") ∈ lw_tbl := lw_at lw_m7 237 rfl
theorem in_J7 : ∀ w ∈ wsJ70, w ∈ lw_all := lw_in wsJ70 [484, 486, 488, 490, 492] (by decide +kernel) (by decide +kernel)
/-! java/lang/Exception -/
set_option maxRecDepth 100000
def RJ8 : String := "java/lang/Exception"
abbrev cJ8_init : ByteArray := prog_25_method_5_code
def yJ8_init : MethodName := ⟨RJ8, "<init>", "(Ljava/lang/String;Ljava/lang/Throwable;ZZ)V"⟩
def dkwJ8_init_0 : List UInt8 := [42, 43, 44, 29, 21, 4, 183, 0, 16, 177]
abbrev dktJ8_init_0 : List UInt8 := dkwJ8_init_0 ++ []
theorem dksJ8_init_0 : cJ8_init.data.toList.drop 0 = dktJ8_init_0 := by decide +kernel
theorem dJ8_init_0 : decode cJ8_init 0 = .ok (.aload_n 0, 1) := dk_42 (dk_at dksJ8_init_0 0 rfl rfl)
theorem dJ8_init_1 : decode cJ8_init 1 = .ok (.aload_n 1, 1) := dk_43 (dk_at dksJ8_init_0 1 rfl rfl)
theorem dJ8_init_2 : decode cJ8_init 2 = .ok (.aload_n 2, 1) := dk_44 (dk_at dksJ8_init_0 2 rfl rfl)
theorem dJ8_init_3 : decode cJ8_init 3 = .ok (.iload_n 3, 1) := dk_29 (dk_at dksJ8_init_0 3 rfl rfl)
theorem dJ8_init_4 : decode cJ8_init 4 = .ok (.iload 4, 2) := dk_21 4 (dk_at dksJ8_init_0 4 rfl rfl)
theorem dJ8_init_6 : decode cJ8_init 6 = .ok (.invokespecial 16, 3) := dk_183 0 16 (dk_at dksJ8_init_0 6 rfl rfl)
theorem dJ8_init_9 : decode cJ8_init 9 = .ok (.return_, 1) := dk_177 (dk_at dksJ8_init_0 9 rfl rfl)
abbrev cJ8_init_2 : ByteArray := prog_25_method_2_code
def yJ8_init_2 : MethodName := ⟨RJ8, "<init>", "(Ljava/lang/String;)V"⟩
def dkwJ8_init_2_0 : List UInt8 := [42, 43, 183, 0, 7, 177]
abbrev dktJ8_init_2_0 : List UInt8 := dkwJ8_init_2_0 ++ []
theorem dksJ8_init_2_0 : cJ8_init_2.data.toList.drop 0 = dktJ8_init_2_0 := by decide +kernel
theorem dJ8_init_2_0 : decode cJ8_init_2 0 = .ok (.aload_n 0, 1) := dk_42 (dk_at dksJ8_init_2_0 0 rfl rfl)
theorem dJ8_init_2_1 : decode cJ8_init_2 1 = .ok (.aload_n 1, 1) := dk_43 (dk_at dksJ8_init_2_0 1 rfl rfl)
theorem dJ8_init_2_2 : decode cJ8_init_2 2 = .ok (.invokespecial 7, 3) := dk_183 0 7 (dk_at dksJ8_init_2_0 2 rfl rfl)
theorem dJ8_init_2_5 : decode cJ8_init_2 5 = .ok (.return_, 1) := dk_177 (dk_at dksJ8_init_2_0 5 rfl rfl)
abbrev cJ8_init_3 : ByteArray := prog_25_method_1_code
def yJ8_init_3 : MethodName := ⟨RJ8, "<init>", "()V"⟩
theorem dJ8_init_3_0 : decode cJ8_init_3 0 = .ok (.aload_n 0, 1) := by decide +kernel
theorem dJ8_init_3_1 : decode cJ8_init_3 1 = .ok (.invokespecial 1, 3) := by decide +kernel
theorem dJ8_init_3_4 : decode cJ8_init_3 4 = .ok (.return_, 1) := by decide +kernel
theorem q88 : (Jvm.Cond.initialized "java/lang/Exception") ∈ lw_all := lw_g (lw_at lw_m1 16 rfl) rfl
theorem q477 : (Jvm.Cond.declares ({ cls := "java/lang/Exception", name := "<init>", desc := "()V" } : Jvm.MethodName)) ∈ lw_tbl := lw_at lw_m2 165 rfl
theorem q478 : (Jvm.Cond.declares ({ cls := "java/lang/Exception", name := "<init>", desc := "(Ljava/lang/String;)V" } : Jvm.MethodName)) ∈ lw_tbl := lw_at lw_m2 166 rfl
theorem q518 : (Jvm.Cond.instanceMethod ({ cls := "java/lang/Exception", name := "<init>", desc := "(Ljava/lang/String;Ljava/lang/Throwable;ZZ)V" } : Jvm.MethodName)) ∈ lw_all := lw_g (lw_at lw_m2 206 rfl) rfl
theorem q519 : (Jvm.Cond.code ({ cls := "java/lang/Exception", name := "<init>", desc := "(Ljava/lang/String;Ljava/lang/Throwable;ZZ)V" } : Jvm.MethodName) prog_25_method_5_code (5 : Nat) (Option.none : Option Jvm.ClassFile.FieldType)) ∈ lw_all := lw_g (lw_at lw_m2 207 rfl) rfl
theorem q520 : (Jvm.Cond.methodLink "java/lang/Exception" (16 : Nat) ({ cls := "java/lang/Throwable", name := "<init>", desc := "(Ljava/lang/String;Ljava/lang/Throwable;ZZ)V" } : Jvm.MethodName)) ∈ lw_all := lw_g (lw_at lw_m2 208 rfl) rfl
theorem q1183 : (Jvm.Cond.instanceMethod ({ cls := "java/lang/Exception", name := "<init>", desc := "(Ljava/lang/String;)V" } : Jvm.MethodName)) ∈ lw_all := lw_g (lw_at lw_m5 151 rfl) rfl
theorem q1184 : (Jvm.Cond.code ({ cls := "java/lang/Exception", name := "<init>", desc := "(Ljava/lang/String;)V" } : Jvm.MethodName) prog_25_method_2_code (2 : Nat) (Option.none : Option Jvm.ClassFile.FieldType)) ∈ lw_all := lw_g (lw_at lw_m5 152 rfl) rfl
theorem q1185 : (Jvm.Cond.methodLink "java/lang/Exception" (7 : Nat) ({ cls := "java/lang/Throwable", name := "<init>", desc := "(Ljava/lang/String;)V" } : Jvm.MethodName)) ∈ lw_all := lw_g (lw_at lw_m5 153 rfl) rfl
theorem q1227 : (Jvm.Cond.instanceMethod ({ cls := "java/lang/Exception", name := "<init>", desc := "()V" } : Jvm.MethodName)) ∈ lw_all := lw_g (lw_at lw_m5 195 rfl) rfl
theorem q1228 : (Jvm.Cond.code ({ cls := "java/lang/Exception", name := "<init>", desc := "()V" } : Jvm.MethodName) prog_25_method_1_code (1 : Nat) (Option.none : Option Jvm.ClassFile.FieldType)) ∈ lw_all := lw_g (lw_at lw_m5 196 rfl) rfl
theorem q1229 : (Jvm.Cond.methodLink "java/lang/Exception" (1 : Nat) ({ cls := "java/lang/Throwable", name := "<init>", desc := "()V" } : Jvm.MethodName)) ∈ lw_all := lw_g (lw_at lw_m5 197 rfl) rfl
/-! jdk/internal/util/ArraysSupport -/
set_option maxRecDepth 100000
def RJ9 : String := "jdk/internal/util/ArraysSupport"
abbrev cJ9_newLength : ByteArray := prog_47_method_27_code
def yJ9_newLength : MethodName := ⟨RJ9, "newLength", "(III)I"⟩
def dkwJ9_newLength_1 : List UInt8 := [184, 0, 201, 172]
abbrev dktJ9_newLength_1 : List UInt8 := dkwJ9_newLength_1 ++ []
def dkwJ9_newLength_0 : List UInt8 := [26, 27, 28, 184, 0, 194, 96, 62, 3, 29, 162, 0, 11, 29, 18, 200, 163, 0, 5, 29, 172, 26, 27]
abbrev dktJ9_newLength_0 : List UInt8 := dkwJ9_newLength_0 ++ dktJ9_newLength_1
theorem dksJ9_newLength_0 : cJ9_newLength.data.toList.drop 0 = dktJ9_newLength_0 := by decide +kernel
theorem dksJ9_newLength_1 : cJ9_newLength.data.toList.drop 23 = dktJ9_newLength_1 := dk_seg dksJ9_newLength_0 23 rfl rfl
theorem dJ9_newLength_0 : decode cJ9_newLength 0 = .ok (.iload_n 0, 1) := dk_26 (dk_at dksJ9_newLength_0 0 rfl rfl)
theorem dJ9_newLength_1 : decode cJ9_newLength 1 = .ok (.iload_n 1, 1) := dk_27 (dk_at dksJ9_newLength_0 1 rfl rfl)
theorem dJ9_newLength_2 : decode cJ9_newLength 2 = .ok (.iload_n 2, 1) := dk_28 (dk_at dksJ9_newLength_0 2 rfl rfl)
theorem dJ9_newLength_3 : decode cJ9_newLength 3 = .ok (.invokestatic 194, 3) := dk_184 0 194 (dk_at dksJ9_newLength_0 3 rfl rfl)
theorem dJ9_newLength_6 : decode cJ9_newLength 6 = .ok (.iadd, 1) := dk_96 (dk_at dksJ9_newLength_0 6 rfl rfl)
theorem dJ9_newLength_7 : decode cJ9_newLength 7 = .ok (.istore_n 3, 1) := dk_62 (dk_at dksJ9_newLength_0 7 rfl rfl)
theorem dJ9_newLength_8 : decode cJ9_newLength 8 = .ok (.iconst 0, 1) := dk_3 (dk_at dksJ9_newLength_0 8 rfl rfl)
theorem dJ9_newLength_9 : decode cJ9_newLength 9 = .ok (.iload_n 3, 1) := dk_29 (dk_at dksJ9_newLength_0 9 rfl rfl)
theorem dJ9_newLength_10 : decode cJ9_newLength 10 = .ok (.if_icmp .ge 11, 3) := dk_162 0 11 (dk_at dksJ9_newLength_0 10 rfl rfl)
theorem dJ9_newLength_13 : decode cJ9_newLength 13 = .ok (.iload_n 3, 1) := dk_29 (dk_at dksJ9_newLength_0 13 rfl rfl)
theorem dJ9_newLength_14 : decode cJ9_newLength 14 = .ok (.ldc 200, 2) := dk_18 200 (dk_at dksJ9_newLength_0 14 rfl rfl)
theorem dJ9_newLength_16 : decode cJ9_newLength 16 = .ok (.if_icmp .gt 5, 3) := dk_163 0 5 (dk_at dksJ9_newLength_0 16 rfl rfl)
theorem dJ9_newLength_19 : decode cJ9_newLength 19 = .ok (.iload_n 3, 1) := dk_29 (dk_at dksJ9_newLength_0 19 rfl rfl)
theorem dJ9_newLength_20 : decode cJ9_newLength 20 = .ok (.ireturn, 1) := dk_172 (dk_at dksJ9_newLength_0 20 rfl rfl)
theorem dJ9_newLength_21 : decode cJ9_newLength 21 = .ok (.iload_n 0, 1) := dk_26 (dk_at dksJ9_newLength_0 21 rfl rfl)
theorem dJ9_newLength_22 : decode cJ9_newLength 22 = .ok (.iload_n 1, 1) := dk_27 (dk_at dksJ9_newLength_0 22 rfl rfl)
theorem dJ9_newLength_23 : decode cJ9_newLength 23 = .ok (.invokestatic 201, 3) := dk_184 0 201 (dk_at dksJ9_newLength_1 0 rfl rfl)
theorem dJ9_newLength_26 : decode cJ9_newLength 26 = .ok (.ireturn, 1) := dk_172 (dk_at dksJ9_newLength_1 3 rfl rfl)
abbrev cJ9_hugeLength : ByteArray := prog_47_method_28_code
def yJ9_hugeLength : MethodName := ⟨RJ9, "hugeLength", "(II)I"⟩
def dkwJ9_hugeLength_2 : List UInt8 := [191, 28, 18, 200, 163, 0, 6, 18, 200, 172, 28, 172]
abbrev dktJ9_hugeLength_2 : List UInt8 := dkwJ9_hugeLength_2 ++ []
def dkwJ9_hugeLength_1 : List UInt8 := [26, 182, 0, 98, 18, 208, 182, 0, 94, 27, 182, 0, 98, 18, 210, 182, 0, 94, 182, 0, 101, 183, 0, 212]
abbrev dktJ9_hugeLength_1 : List UInt8 := dkwJ9_hugeLength_1 ++ dktJ9_hugeLength_2
def dkwJ9_hugeLength_0 : List UInt8 := [26, 27, 96, 61, 28, 156, 0, 44, 187, 0, 204, 89, 187, 0, 89, 89, 183, 0, 91, 18, 206, 182, 0, 94]
abbrev dktJ9_hugeLength_0 : List UInt8 := dkwJ9_hugeLength_0 ++ dktJ9_hugeLength_1
theorem dksJ9_hugeLength_0 : cJ9_hugeLength.data.toList.drop 0 = dktJ9_hugeLength_0 := by decide +kernel
theorem dksJ9_hugeLength_1 : cJ9_hugeLength.data.toList.drop 24 = dktJ9_hugeLength_1 := dk_seg dksJ9_hugeLength_0 24 rfl rfl
theorem dksJ9_hugeLength_2 : cJ9_hugeLength.data.toList.drop 48 = dktJ9_hugeLength_2 := dk_seg dksJ9_hugeLength_1 24 rfl rfl
theorem dJ9_hugeLength_0 : decode cJ9_hugeLength 0 = .ok (.iload_n 0, 1) := dk_26 (dk_at dksJ9_hugeLength_0 0 rfl rfl)
theorem dJ9_hugeLength_1 : decode cJ9_hugeLength 1 = .ok (.iload_n 1, 1) := dk_27 (dk_at dksJ9_hugeLength_0 1 rfl rfl)
theorem dJ9_hugeLength_2 : decode cJ9_hugeLength 2 = .ok (.iadd, 1) := dk_96 (dk_at dksJ9_hugeLength_0 2 rfl rfl)
theorem dJ9_hugeLength_3 : decode cJ9_hugeLength 3 = .ok (.istore_n 2, 1) := dk_61 (dk_at dksJ9_hugeLength_0 3 rfl rfl)
theorem dJ9_hugeLength_4 : decode cJ9_hugeLength 4 = .ok (.iload_n 2, 1) := dk_28 (dk_at dksJ9_hugeLength_0 4 rfl rfl)
theorem dJ9_hugeLength_5 : decode cJ9_hugeLength 5 = .ok (.ifCond .ge 44, 3) := dk_156 0 44 (dk_at dksJ9_hugeLength_0 5 rfl rfl)
theorem dJ9_hugeLength_8 : decode cJ9_hugeLength 8 = .ok (.new 204, 3) := dk_187 0 204 (dk_at dksJ9_hugeLength_0 8 rfl rfl)
theorem dJ9_hugeLength_11 : decode cJ9_hugeLength 11 = .ok (.dup, 1) := dk_89 (dk_at dksJ9_hugeLength_0 11 rfl rfl)
theorem dJ9_hugeLength_12 : decode cJ9_hugeLength 12 = .ok (.new 89, 3) := dk_187 0 89 (dk_at dksJ9_hugeLength_0 12 rfl rfl)
theorem dJ9_hugeLength_15 : decode cJ9_hugeLength 15 = .ok (.dup, 1) := dk_89 (dk_at dksJ9_hugeLength_0 15 rfl rfl)
theorem dJ9_hugeLength_16 : decode cJ9_hugeLength 16 = .ok (.invokespecial 91, 3) := dk_183 0 91 (dk_at dksJ9_hugeLength_0 16 rfl rfl)
theorem dJ9_hugeLength_19 : decode cJ9_hugeLength 19 = .ok (.ldc 206, 2) := dk_18 206 (dk_at dksJ9_hugeLength_0 19 rfl rfl)
theorem dJ9_hugeLength_21 : decode cJ9_hugeLength 21 = .ok (.invokevirtual 94, 3) := dk_182 0 94 (dk_at dksJ9_hugeLength_0 21 rfl rfl)
theorem dJ9_hugeLength_24 : decode cJ9_hugeLength 24 = .ok (.iload_n 0, 1) := dk_26 (dk_at dksJ9_hugeLength_1 0 rfl rfl)
theorem dJ9_hugeLength_25 : decode cJ9_hugeLength 25 = .ok (.invokevirtual 98, 3) := dk_182 0 98 (dk_at dksJ9_hugeLength_1 1 rfl rfl)
theorem dJ9_hugeLength_28 : decode cJ9_hugeLength 28 = .ok (.ldc 208, 2) := dk_18 208 (dk_at dksJ9_hugeLength_1 4 rfl rfl)
theorem dJ9_hugeLength_30 : decode cJ9_hugeLength 30 = .ok (.invokevirtual 94, 3) := dk_182 0 94 (dk_at dksJ9_hugeLength_1 6 rfl rfl)
theorem dJ9_hugeLength_33 : decode cJ9_hugeLength 33 = .ok (.iload_n 1, 1) := dk_27 (dk_at dksJ9_hugeLength_1 9 rfl rfl)
theorem dJ9_hugeLength_34 : decode cJ9_hugeLength 34 = .ok (.invokevirtual 98, 3) := dk_182 0 98 (dk_at dksJ9_hugeLength_1 10 rfl rfl)
theorem dJ9_hugeLength_37 : decode cJ9_hugeLength 37 = .ok (.ldc 210, 2) := dk_18 210 (dk_at dksJ9_hugeLength_1 13 rfl rfl)
theorem dJ9_hugeLength_39 : decode cJ9_hugeLength 39 = .ok (.invokevirtual 94, 3) := dk_182 0 94 (dk_at dksJ9_hugeLength_1 15 rfl rfl)
theorem dJ9_hugeLength_42 : decode cJ9_hugeLength 42 = .ok (.invokevirtual 101, 3) := dk_182 0 101 (dk_at dksJ9_hugeLength_1 18 rfl rfl)
theorem dJ9_hugeLength_45 : decode cJ9_hugeLength 45 = .ok (.invokespecial 212, 3) := dk_183 0 212 (dk_at dksJ9_hugeLength_1 21 rfl rfl)
theorem dJ9_hugeLength_48 : decode cJ9_hugeLength 48 = .ok (.athrow, 1) := dk_191 (dk_at dksJ9_hugeLength_2 0 rfl rfl)
theorem dJ9_hugeLength_49 : decode cJ9_hugeLength 49 = .ok (.iload_n 2, 1) := dk_28 (dk_at dksJ9_hugeLength_2 1 rfl rfl)
theorem dJ9_hugeLength_50 : decode cJ9_hugeLength 50 = .ok (.ldc 200, 2) := dk_18 200 (dk_at dksJ9_hugeLength_2 2 rfl rfl)
theorem dJ9_hugeLength_52 : decode cJ9_hugeLength 52 = .ok (.if_icmp .gt 6, 3) := dk_163 0 6 (dk_at dksJ9_hugeLength_2 4 rfl rfl)
theorem dJ9_hugeLength_55 : decode cJ9_hugeLength 55 = .ok (.ldc 200, 2) := dk_18 200 (dk_at dksJ9_hugeLength_2 7 rfl rfl)
theorem dJ9_hugeLength_57 : decode cJ9_hugeLength 57 = .ok (.ireturn, 1) := dk_172 (dk_at dksJ9_hugeLength_2 9 rfl rfl)
theorem dJ9_hugeLength_58 : decode cJ9_hugeLength 58 = .ok (.iload_n 2, 1) := dk_28 (dk_at dksJ9_hugeLength_2 10 rfl rfl)
theorem dJ9_hugeLength_59 : decode cJ9_hugeLength 59 = .ok (.ireturn, 1) := dk_172 (dk_at dksJ9_hugeLength_2 11 rfl rfl)
theorem q91 : (Jvm.Cond.initialized "jdk/internal/util/ArraysSupport") ∈ lw_all := lw_g (lw_at lw_m1 19 rfl) rfl
theorem q631 : (Jvm.Cond.static ({ cls := "jdk/internal/util/ArraysSupport", name := "newLength", desc := "(III)I" } : Jvm.MethodName)) ∈ lw_all := lw_g (lw_at lw_m3 79 rfl) rfl
theorem q632 : (Jvm.Cond.code ({ cls := "jdk/internal/util/ArraysSupport", name := "newLength", desc := "(III)I" } : Jvm.MethodName) prog_47_method_27_code (4 : Nat) (Option.some Jvm.ClassFile.FieldType.int)) ∈ lw_all := lw_g (lw_at lw_m3 80 rfl) rfl
theorem q633 : (Jvm.Cond.methodLink "jdk/internal/util/ArraysSupport" (194 : Nat) ({ cls := "java/lang/Math", name := "max", desc := "(II)I" } : Jvm.MethodName)) ∈ lw_all := lw_g (lw_at lw_m3 81 rfl) rfl
theorem q636 : (Jvm.Cond.constant "jdk/internal/util/ArraysSupport" (200 : Nat) (2147483639 : Int32)) ∈ lw_all := lw_g (lw_at lw_m3 84 rfl) rfl
theorem q637 : (Jvm.Cond.methodLink "jdk/internal/util/ArraysSupport" (201 : Nat) ({ cls := "jdk/internal/util/ArraysSupport", name := "hugeLength", desc := "(II)I" } : Jvm.MethodName)) ∈ lw_all := lw_g (lw_at lw_m3 85 rfl) rfl
theorem q638 : (Jvm.Cond.static ({ cls := "jdk/internal/util/ArraysSupport", name := "hugeLength", desc := "(II)I" } : Jvm.MethodName)) ∈ lw_all := lw_g (lw_at lw_m3 86 rfl) rfl
theorem q639 : (Jvm.Cond.code ({ cls := "jdk/internal/util/ArraysSupport", name := "hugeLength", desc := "(II)I" } : Jvm.MethodName) prog_47_method_28_code (3 : Nat) (Option.some Jvm.ClassFile.FieldType.int)) ∈ lw_all := lw_g (lw_at lw_m3 87 rfl) rfl
theorem q1753 : (Jvm.Cond.castable "[B" "java/lang/Object") ∈ lw_tbl := lw_at lw_m8 1 rfl
set_option maxRecDepth 100000
theorem q1757 : (Jvm.Cond.castable "[I" "java/lang/Object") ∈ lw_tbl := lw_at lw_m8 5 rfl
set_option maxRecDepth 100000
theorem q1759 : (Jvm.Cond.castable "[J" "java/lang/Object") ∈ lw_tbl := lw_at lw_m8 7 rfl
set_option maxRecDepth 100000
theorem q1750 : (Jvm.Cond.sameMethod "[Ljava/lang/Object;" "java/lang/Object" "getClass" "()Ljava/lang/Class;") ∈ lw_all := lw_g (lw_at lw_m7 238 rfl) rfl
set_option maxRecDepth 100000
theorem q1751 : (Jvm.Cond.selects "[Ljava/lang/Object;" ({ cls := "java/lang/Object", name := "getClass", desc := "()Ljava/lang/Class;" } : Jvm.MethodName) ({ cls := "java/lang/Object", name := "getClass", desc := "()Ljava/lang/Class;" } : Jvm.MethodName)) ∈ lw_all := lw_g (lw_at lw_m7 239 rfl) rfl
theorem q1754 : (Jvm.Cond.castable "[Ljava/lang/Object;" "java/lang/Object") ∈ lw_tbl := lw_at lw_m8 2 rfl
theorem q1760 : (Jvm.Cond.castable "[Ljava/lang/String;" "java/lang/Object") ∈ lw_tbl := lw_at lw_m8 8 rfl
set_option maxRecDepth 100000
theorem q1758 : (Jvm.Cond.castable "[Z" "java/lang/Object") ∈ lw_tbl := lw_at lw_m8 6 rfl
set_option maxRecDepth 100000
theorem q1755 : (Jvm.Cond.castable "[[I" "java/lang/Object") ∈ lw_tbl := lw_at lw_m8 3 rfl
set_option maxRecDepth 100000
theorem q1756 : (Jvm.Cond.castable "[[Z" "java/lang/Object") ∈ lw_tbl := lw_at lw_m8 4 rfl
set_option maxRecDepth 100000
theorem q94 : (Jvm.Cond.initialized "java/lang/System") ∈ lw_all := lw_g (lw_at lw_m1 22 rfl) rfl
set_option maxRecDepth 100000
theorem q676 : (Jvm.Cond.static ({ cls := "java/lang/System", name := "arraycopy", desc := "(Ljava/lang/Object;ILjava/lang/Object;II)V" } : Jvm.MethodName)) ∈ lw_all := lw_g (lw_at lw_m3 124 rfl) rfl
theorem q677 : (Jvm.Cond.native ({ cls := "java/lang/System", name := "arraycopy", desc := "(Ljava/lang/Object;ILjava/lang/Object;II)V" } : Jvm.MethodName)) ∈ lw_all := lw_g (lw_at lw_m3 125 rfl) rfl
theorem q148 : (Jvm.Cond.arrayClass Jvm.ClassFile.FieldType.byte) ∈ lw_all := lw_g (lw_at lw_m1 76 rfl) rfl
set_option maxRecDepth 100000
theorem q168 : (Jvm.Cond.arrayOver (Jvm.ClassFile.FieldType.object "java/lang/Object")) ∈ lw_tbl := lw_at lw_m1 96 rfl
theorem q217 : (Jvm.Cond.arrayOver (Jvm.ClassFile.FieldType.array Jvm.ClassFile.FieldType.int)) ∈ lw_tbl := lw_at lw_m1 145 rfl
theorem q225 : (Jvm.Cond.arrayOver (Jvm.ClassFile.FieldType.array Jvm.ClassFile.FieldType.boolean)) ∈ lw_tbl := lw_at lw_m1 153 rfl
theorem q249 : (Jvm.Cond.arrayClass Jvm.ClassFile.FieldType.int) ∈ lw_all := lw_g (lw_at lw_m1 177 rfl) rfl
theorem q250 : (Jvm.Cond.arrayClass Jvm.ClassFile.FieldType.boolean) ∈ lw_all := lw_g (lw_at lw_m1 178 rfl) rfl
theorem q1720 : (Jvm.Cond.arrayClass Jvm.ClassFile.FieldType.long) ∈ lw_all := lw_g (lw_at lw_m7 208 rfl) rfl
theorem q1778 : (Jvm.Cond.arrayOver (Jvm.ClassFile.FieldType.object "java/lang/String")) ∈ lw_tbl := lw_at lw_m8 26 rfl
/-! LifeRentsLaw -/
set_option maxRecDepth 100000
def RX0 : String := "LifeRentsLaw"
abbrev cX0_risk : ByteArray := method_3_code
def yX0_risk : MethodName := ⟨RX0, "risk", "(LLifeRents;I[J)I"⟩
def dkwX0_risk_0 : List UInt8 := [44, 3, 42, 27, 182, 0, 7, 80, 167, 0, 9, 78, 4, 172, 78, 5, 172, 3, 172]
abbrev dktX0_risk_0 : List UInt8 := dkwX0_risk_0 ++ []
theorem dksX0_risk_0 : cX0_risk.data.toList.drop 0 = dktX0_risk_0 := by decide +kernel
theorem dX0_risk_0 : decode cX0_risk 0 = .ok (.aload_n 2, 1) := dk_44 (dk_at dksX0_risk_0 0 rfl rfl)
theorem dX0_risk_1 : decode cX0_risk 1 = .ok (.iconst 0, 1) := dk_3 (dk_at dksX0_risk_0 1 rfl rfl)
theorem dX0_risk_2 : decode cX0_risk 2 = .ok (.aload_n 0, 1) := dk_42 (dk_at dksX0_risk_0 2 rfl rfl)
theorem dX0_risk_3 : decode cX0_risk 3 = .ok (.iload_n 1, 1) := dk_27 (dk_at dksX0_risk_0 3 rfl rfl)
theorem dX0_risk_4 : decode cX0_risk 4 = .ok (.invokevirtual 7, 3) := dk_182 0 7 (dk_at dksX0_risk_0 4 rfl rfl)
theorem dX0_risk_7 : decode cX0_risk 7 = .ok (.lastore, 1) := dk_80 (dk_at dksX0_risk_0 7 rfl rfl)
theorem dX0_risk_8 : decode cX0_risk 8 = .ok (.goto 9, 3) := dk_167 0 9 (dk_at dksX0_risk_0 8 rfl rfl)
theorem dX0_risk_11 : decode cX0_risk 11 = .ok (.astore_n 3, 1) := dk_78 (dk_at dksX0_risk_0 11 rfl rfl)
theorem dX0_risk_12 : decode cX0_risk 12 = .ok (.iconst 1, 1) := dk_4 (dk_at dksX0_risk_0 12 rfl rfl)
theorem dX0_risk_13 : decode cX0_risk 13 = .ok (.ireturn, 1) := dk_172 (dk_at dksX0_risk_0 13 rfl rfl)
theorem dX0_risk_14 : decode cX0_risk 14 = .ok (.astore_n 3, 1) := dk_78 (dk_at dksX0_risk_0 14 rfl rfl)
theorem dX0_risk_15 : decode cX0_risk 15 = .ok (.iconst 2, 1) := dk_5 (dk_at dksX0_risk_0 15 rfl rfl)
theorem dX0_risk_16 : decode cX0_risk 16 = .ok (.ireturn, 1) := dk_172 (dk_at dksX0_risk_0 16 rfl rfl)
theorem dX0_risk_17 : decode cX0_risk 17 = .ok (.iconst 0, 1) := dk_3 (dk_at dksX0_risk_0 17 rfl rfl)
theorem dX0_risk_18 : decode cX0_risk 18 = .ok (.ireturn, 1) := dk_172 (dk_at dksX0_risk_0 18 rfl rfl)
theorem q72 : (Jvm.Cond.initialized "LifeRentsLaw") ∈ lw_all := lw_g (lw_at lw_m1 0 rfl) rfl
theorem q109 : (Jvm.Cond.classLink "LifeRentsLaw" (8 : Nat) "LifeRents") ∈ lw_all := lw_g (lw_at lw_m1 37 rfl) rfl
theorem q111 : (Jvm.Cond.methodLink "LifeRentsLaw" (17 : Nat) ({ cls := "LifeRents", name := "<init>", desc := "()V" } : Jvm.MethodName)) ∈ lw_all := lw_g (lw_at lw_m1 39 rfl) rfl
theorem q381 : (Jvm.Cond.methodLink "LifeRentsLaw" (21 : Nat) ({ cls := "LifeRents", name := "feed", desc := "(IIIII)I" } : Jvm.MethodName)) ∈ lw_all := lw_g (lw_at lw_m2 69 rfl) rfl
theorem q389 : (Jvm.Cond.methodLink "LifeRentsLaw" (26 : Nat) ({ cls := "LifeRents", name := "acts", desc := "(I)I" } : Jvm.MethodName)) ∈ lw_all := lw_g (lw_at lw_m2 77 rfl) rfl
theorem q679 : (Jvm.Cond.methodLink "LifeRentsLaw" (31 : Nat) ({ cls := "LifeRents", name := "fault", desc := "(I)I" } : Jvm.MethodName)) ∈ lw_all := lw_g (lw_at lw_m3 127 rfl) rfl
theorem q683 : (Jvm.Cond.methodLink "LifeRentsLaw" (35 : Nat) ({ cls := "LifeRents", name := "halves", desc := "(I)I" } : Jvm.MethodName)) ∈ lw_all := lw_g (lw_at lw_m3 131 rfl) rfl
theorem q687 : (Jvm.Cond.methodLink "LifeRentsLaw" (39 : Nat) ({ cls := "LifeRents", name := "life", desc := "(II)I" } : Jvm.MethodName)) ∈ lw_all := lw_g (lw_at lw_m3 135 rfl) rfl
theorem q719 : (Jvm.Cond.methodLink "LifeRentsLaw" (44 : Nat) ({ cls := "LifeRents", name := "asks", desc := "(II)I" } : Jvm.MethodName)) ∈ lw_all := lw_g (lw_at lw_m3 167 rfl) rfl
theorem q767 : (Jvm.Cond.methodLink "LifeRentsLaw" (48 : Nat) ({ cls := "LifeRents", name := "rent", desc := "(IIII)I" } : Jvm.MethodName)) ∈ lw_all := lw_g (lw_at lw_m3 215 rfl) rfl
theorem q835 : (Jvm.Cond.methodLink "LifeRentsLaw" (53 : Nat) ({ cls := "LifeRents", name := "sell", desc := "(IIII)Z" } : Jvm.MethodName)) ∈ lw_all := lw_g (lw_at lw_m4 43 rfl) rfl
theorem q875 : (Jvm.Cond.methodLink "LifeRentsLaw" (58 : Nat) ({ cls := "LifeRents", name := "parts", desc := "(III)I" } : Jvm.MethodName)) ∈ lw_all := lw_g (lw_at lw_m4 83 rfl) rfl
theorem q882 : (Jvm.Cond.methodLink "LifeRentsLaw" (63 : Nat) ({ cls := "LifeRents", name := "note", desc := "(IIZ)I" } : Jvm.MethodName)) ∈ lw_all := lw_g (lw_at lw_m4 90 rfl) rfl
theorem q927 : (Jvm.Cond.methodLink "LifeRentsLaw" (68 : Nat) ({ cls := "LifeRents", name := "strike", desc := "(I)I" } : Jvm.MethodName)) ∈ lw_all := lw_g (lw_at lw_m4 135 rfl) rfl
theorem q942 : (Jvm.Cond.methodLink "LifeRentsLaw" (72 : Nat) ({ cls := "LifeRents", name := "dead", desc := "(II)I" } : Jvm.MethodName)) ∈ lw_all := lw_g (lw_at lw_m4 150 rfl) rfl
theorem q977 : (Jvm.Cond.methodLink "LifeRentsLaw" (76 : Nat) ({ cls := "LifeRents", name := "holds", desc := "(II)I" } : Jvm.MethodName)) ∈ lw_all := lw_g (lw_at lw_m4 185 rfl) rfl
theorem q992 : (Jvm.Cond.methodLink "LifeRentsLaw" (80 : Nat) ({ cls := "LifeRents", name := "paid", desc := "(III)I" } : Jvm.MethodName)) ∈ lw_all := lw_g (lw_at lw_m4 200 rfl) rfl
theorem q1033 : (Jvm.Cond.methodLink "LifeRentsLaw" (84 : Nat) ({ cls := "LifeRents", name := "got", desc := "(II)I" } : Jvm.MethodName)) ∈ lw_all := lw_g (lw_at lw_m5 1 rfl) rfl
theorem q1037 : (Jvm.Cond.methodLink "LifeRentsLaw" (88 : Nat) ({ cls := "LifeRents", name := "owed", desc := "(II)I" } : Jvm.MethodName)) ∈ lw_all := lw_g (lw_at lw_m5 5 rfl) rfl
theorem q1045 : (Jvm.Cond.methodLink "LifeRentsLaw" (92 : Nat) ({ cls := "LifeRents", name := "state", desc := "(II)I" } : Jvm.MethodName)) ∈ lw_all := lw_g (lw_at lw_m5 13 rfl) rfl
theorem q1049 : (Jvm.Cond.methodLink "LifeRentsLaw" (96 : Nat) ({ cls := "LifeRents", name := "sold", desc := "(III)Z" } : Jvm.MethodName)) ∈ lw_all := lw_g (lw_at lw_m5 17 rfl) rfl
theorem q1053 : (Jvm.Cond.methodLink "LifeRentsLaw" (101 : Nat) ({ cls := "LifeRents", name := "own", desc := "(IIII)I" } : Jvm.MethodName)) ∈ lw_all := lw_g (lw_at lw_m5 21 rfl) rfl
theorem q1082 : (Jvm.Cond.methodLink "LifeRentsLaw" (105 : Nat) ({ cls := "LifeRents", name := "worth", desc := "(III)I" } : Jvm.MethodName)) ∈ lw_all := lw_g (lw_at lw_m5 50 rfl) rfl
theorem q1107 : (Jvm.Cond.methodLink "LifeRentsLaw" (109 : Nat) ({ cls := "LifeRents", name := "names", desc := "(I)I" } : Jvm.MethodName)) ∈ lw_all := lw_g (lw_at lw_m5 75 rfl) rfl
theorem q1133 : (Jvm.Cond.methodLink "LifeRentsLaw" (113 : Nat) ({ cls := "LifeRents", name := "named", desc := "(I)I" } : Jvm.MethodName)) ∈ lw_all := lw_g (lw_at lw_m5 101 rfl) rfl
theorem q1137 : (Jvm.Cond.methodLink "LifeRentsLaw" (117 : Nat) ({ cls := "LifeRents", name := "look", desc := "(I)I" } : Jvm.MethodName)) ∈ lw_all := lw_g (lw_at lw_m5 105 rfl) rfl
theorem q1150 : (Jvm.Cond.methodLink "LifeRentsLaw" (131 : Nat) ({ cls := "LifeRents", name := "converts", desc := "(I)I" } : Jvm.MethodName)) ∈ lw_all := lw_g (lw_at lw_m5 118 rfl) rfl
theorem q1165 : (Jvm.Cond.methodLink "LifeRentsLaw" (135 : Nat) ({ cls := "LifeRents", name := "count", desc := "(I)I" } : Jvm.MethodName)) ∈ lw_all := lw_g (lw_at lw_m5 133 rfl) rfl
theorem q1169 : (Jvm.Cond.methodLink "LifeRentsLaw" (121 : Nat) ({ cls := "LifeRentsLaw", name := "risk", desc := "(LLifeRents;I[J)I" } : Jvm.MethodName)) ∈ lw_all := lw_g (lw_at lw_m5 137 rfl) rfl
theorem q1170 : (Jvm.Cond.static ({ cls := "LifeRentsLaw", name := "risk", desc := "(LLifeRents;I[J)I" } : Jvm.MethodName)) ∈ lw_all := lw_g (lw_at lw_m5 138 rfl) rfl
theorem q1171 : (Jvm.Cond.codeWith ({ cls := "LifeRentsLaw", name := "risk", desc := "(LLifeRents;I[J)I" } : Jvm.MethodName) method_3_code (4 : Nat) (Option.some Jvm.ClassFile.FieldType.int) [((0 : Nat), (8 : Nat), (11 : Nat), (13 : Nat)), ((0 : Nat), (8 : Nat), (14 : Nat), (15 : Nat))]) ∈ lw_all := lw_g (lw_at lw_m5 139 rfl) rfl
theorem q1172 : (Jvm.Cond.classLink "LifeRentsLaw" (13 : Nat) "java/lang/IndexOutOfBoundsException") ∈ lw_all := lw_g (lw_at lw_m5 140 rfl) rfl
theorem q1206 : (Jvm.Cond.classLink "LifeRentsLaw" (15 : Nat) "java/util/NoSuchElementException") ∈ lw_all := lw_g (lw_at lw_m5 174 rfl) rfl
theorem q1207 : (Jvm.Cond.methodLink "LifeRentsLaw" (7 : Nat) ({ cls := "LifeRents", name := "risk", desc := "(I)J" } : Jvm.MethodName)) ∈ lw_all := lw_g (lw_at lw_m5 175 rfl) rfl
theorem q1247 : (Jvm.Cond.classLink "LifeRentsLaw" (18 : Nat) "LifeRentsModel") ∈ lw_all := lw_g (lw_at lw_m5 215 rfl) rfl
theorem q1249 : (Jvm.Cond.methodLink "LifeRentsLaw" (20 : Nat) ({ cls := "LifeRentsModel", name := "<init>", desc := "()V" } : Jvm.MethodName)) ∈ lw_all := lw_g (lw_at lw_m5 217 rfl) rfl
theorem q1436 : (Jvm.Cond.methodLink "LifeRentsLaw" (127 : Nat) ({ cls := "LifeRentsModel", name := "thrown", desc := "()I" } : Jvm.MethodName)) ∈ lw_all := lw_g (lw_at lw_m6 164 rfl) rfl
theorem q1440 : (Jvm.Cond.methodLink "LifeRentsLaw" (25 : Nat) ({ cls := "LifeRentsModel", name := "feed", desc := "(IIIII)I" } : Jvm.MethodName)) ∈ lw_all := lw_g (lw_at lw_m6 168 rfl) rfl
theorem q1444 : (Jvm.Cond.methodLink "LifeRentsLaw" (30 : Nat) ({ cls := "LifeRentsModel", name := "acts", desc := "(I)I" } : Jvm.MethodName)) ∈ lw_all := lw_g (lw_at lw_m6 172 rfl) rfl
theorem q1496 : (Jvm.Cond.methodLink "LifeRentsLaw" (34 : Nat) ({ cls := "LifeRentsModel", name := "fault", desc := "(I)I" } : Jvm.MethodName)) ∈ lw_all := lw_g (lw_at lw_m6 224 rfl) rfl
theorem q1500 : (Jvm.Cond.methodLink "LifeRentsLaw" (38 : Nat) ({ cls := "LifeRentsModel", name := "halves", desc := "(I)I" } : Jvm.MethodName)) ∈ lw_all := lw_g (lw_at lw_m6 228 rfl) rfl
theorem q1507 : (Jvm.Cond.methodLink "LifeRentsLaw" (43 : Nat) ({ cls := "LifeRentsModel", name := "life", desc := "(II)I" } : Jvm.MethodName)) ∈ lw_all := lw_g (lw_at lw_m6 235 rfl) rfl
theorem q1511 : (Jvm.Cond.methodLink "LifeRentsLaw" (47 : Nat) ({ cls := "LifeRentsModel", name := "asks", desc := "(II)I" } : Jvm.MethodName)) ∈ lw_all := lw_g (lw_at lw_m6 239 rfl) rfl
theorem q1539 : (Jvm.Cond.methodLink "LifeRentsLaw" (52 : Nat) ({ cls := "LifeRentsModel", name := "rent", desc := "(IIII)I" } : Jvm.MethodName)) ∈ lw_all := lw_g (lw_at lw_m7 27 rfl) rfl
theorem q1546 : (Jvm.Cond.methodLink "LifeRentsLaw" (57 : Nat) ({ cls := "LifeRentsModel", name := "sell", desc := "(IIII)Z" } : Jvm.MethodName)) ∈ lw_all := lw_g (lw_at lw_m7 34 rfl) rfl
theorem q1558 : (Jvm.Cond.methodLink "LifeRentsLaw" (62 : Nat) ({ cls := "LifeRentsModel", name := "parts", desc := "(III)I" } : Jvm.MethodName)) ∈ lw_all := lw_g (lw_at lw_m7 46 rfl) rfl
theorem q1565 : (Jvm.Cond.methodLink "LifeRentsLaw" (67 : Nat) ({ cls := "LifeRentsModel", name := "note", desc := "(IIZ)I" } : Jvm.MethodName)) ∈ lw_all := lw_g (lw_at lw_m7 53 rfl) rfl
theorem q1573 : (Jvm.Cond.methodLink "LifeRentsLaw" (71 : Nat) ({ cls := "LifeRentsModel", name := "strike", desc := "(I)I" } : Jvm.MethodName)) ∈ lw_all := lw_g (lw_at lw_m7 61 rfl) rfl
theorem q1577 : (Jvm.Cond.methodLink "LifeRentsLaw" (75 : Nat) ({ cls := "LifeRentsModel", name := "dead", desc := "(II)I" } : Jvm.MethodName)) ∈ lw_all := lw_g (lw_at lw_m7 65 rfl) rfl
theorem q1585 : (Jvm.Cond.methodLink "LifeRentsLaw" (79 : Nat) ({ cls := "LifeRentsModel", name := "holds", desc := "(II)I" } : Jvm.MethodName)) ∈ lw_all := lw_g (lw_at lw_m7 73 rfl) rfl
theorem q1593 : (Jvm.Cond.methodLink "LifeRentsLaw" (83 : Nat) ({ cls := "LifeRentsModel", name := "paid", desc := "(III)I" } : Jvm.MethodName)) ∈ lw_all := lw_g (lw_at lw_m7 81 rfl) rfl
theorem q1617 : (Jvm.Cond.methodLink "LifeRentsLaw" (87 : Nat) ({ cls := "LifeRentsModel", name := "got", desc := "(II)I" } : Jvm.MethodName)) ∈ lw_all := lw_g (lw_at lw_m7 105 rfl) rfl
theorem q1621 : (Jvm.Cond.methodLink "LifeRentsLaw" (91 : Nat) ({ cls := "LifeRentsModel", name := "owed", desc := "(II)I" } : Jvm.MethodName)) ∈ lw_all := lw_g (lw_at lw_m7 109 rfl) rfl
theorem q1629 : (Jvm.Cond.methodLink "LifeRentsLaw" (95 : Nat) ({ cls := "LifeRentsModel", name := "state", desc := "(II)I" } : Jvm.MethodName)) ∈ lw_all := lw_g (lw_at lw_m7 117 rfl) rfl
theorem q1633 : (Jvm.Cond.methodLink "LifeRentsLaw" (100 : Nat) ({ cls := "LifeRentsModel", name := "sold", desc := "(III)Z" } : Jvm.MethodName)) ∈ lw_all := lw_g (lw_at lw_m7 121 rfl) rfl
theorem q1637 : (Jvm.Cond.methodLink "LifeRentsLaw" (104 : Nat) ({ cls := "LifeRentsModel", name := "own", desc := "(IIII)I" } : Jvm.MethodName)) ∈ lw_all := lw_g (lw_at lw_m7 125 rfl) rfl
theorem q1649 : (Jvm.Cond.methodLink "LifeRentsLaw" (108 : Nat) ({ cls := "LifeRentsModel", name := "worth", desc := "(III)I" } : Jvm.MethodName)) ∈ lw_all := lw_g (lw_at lw_m7 137 rfl) rfl
theorem q1680 : (Jvm.Cond.methodLink "LifeRentsLaw" (112 : Nat) ({ cls := "LifeRentsModel", name := "names", desc := "(I)I" } : Jvm.MethodName)) ∈ lw_all := lw_g (lw_at lw_m7 168 rfl) rfl
theorem q1686 : (Jvm.Cond.methodLink "LifeRentsLaw" (116 : Nat) ({ cls := "LifeRentsModel", name := "named", desc := "(I)I" } : Jvm.MethodName)) ∈ lw_all := lw_g (lw_at lw_m7 174 rfl) rfl
theorem q1690 : (Jvm.Cond.methodLink "LifeRentsLaw" (120 : Nat) ({ cls := "LifeRentsModel", name := "look", desc := "(I)I" } : Jvm.MethodName)) ∈ lw_all := lw_g (lw_at lw_m7 178 rfl) rfl
theorem q1698 : (Jvm.Cond.methodLink "LifeRentsLaw" (126 : Nat) ({ cls := "LifeRentsModel", name := "risk", desc := "(I)J" } : Jvm.MethodName)) ∈ lw_all := lw_g (lw_at lw_m7 186 rfl) rfl
theorem q1706 : (Jvm.Cond.methodLink "LifeRentsLaw" (134 : Nat) ({ cls := "LifeRentsModel", name := "converts", desc := "(I)I" } : Jvm.MethodName)) ∈ lw_all := lw_g (lw_at lw_m7 194 rfl) rfl
theorem q1716 : (Jvm.Cond.methodLink "LifeRentsLaw" (138 : Nat) ({ cls := "LifeRentsModel", name := "count", desc := "(I)I" } : Jvm.MethodName)) ∈ lw_all := lw_g (lw_at lw_m7 204 rfl) rfl
/-! LifeRents$Reader -/
set_option maxRecDepth 100000
def RX2 : String := "LifeRents$Reader"
def TX2 : u_T := fun k => match k with
  | 0 => ("LifeRents$Reader", "at", "I", false)
  | 1 => ("LifeRents$Reader", "size", "I", false)
  | 2 => ("LifeRents$Reader", "place", "I", false)
  | 3 => ("LifeRents$Reader", "sort", "I", false)
  | 4 => ("LifeRents$Reader", "value", "I", false)
  | 5 => ("LifeRents$Reader", "told", "I", false)
  | 6 => ("LifeRents$Reader", "acts", "LLifeRents$Acts;", false)
  | _ => ("LifeRents$Reader", "this$0", "LLifeRents;", true)
def tyX2 : Nat → FieldType := fun k => match k with
  | 0 => .int
  | 1 => .int
  | 2 => .int
  | 3 => .int
  | 4 => .int
  | 5 => .int
  | 6 => .object "LifeRents$Acts"
  | _ => .object "LifeRents"
abbrev wsX20 : List Cond := u_ws RX2 TX2 8
theorem nmX2 : ∀ a, a < 8 → ∀ b, b < 8 → a ≠ b → (TX2 a).2.1 ≠ (TX2 b).2.1 := by decide +kernel
theorem tyX2_ok : ∀ k, k < 8 → parseFieldDescriptor (TX2 k).2.2.1 = some (tyX2 k) := by decide +kernel
abbrev cX2_init : ByteArray := prog_13_method_1_code
def yX2_init : MethodName := ⟨RX2, "<init>", "(LLifeRents;)V"⟩
def dkwX2_init_0 : List UInt8 := [42, 43, 181, 0, 3, 42, 183, 0, 9, 177]
abbrev dktX2_init_0 : List UInt8 := dkwX2_init_0 ++ []
theorem dksX2_init_0 : cX2_init.data.toList.drop 0 = dktX2_init_0 := by decide +kernel
theorem dX2_init_0 : decode cX2_init 0 = .ok (.aload_n 0, 1) := dk_42 (dk_at dksX2_init_0 0 rfl rfl)
theorem dX2_init_1 : decode cX2_init 1 = .ok (.aload_n 1, 1) := dk_43 (dk_at dksX2_init_0 1 rfl rfl)
theorem dX2_init_2 : decode cX2_init 2 = .ok (.putfield 3, 3) := dk_181 0 3 (dk_at dksX2_init_0 2 rfl rfl)
theorem dX2_init_5 : decode cX2_init 5 = .ok (.aload_n 0, 1) := dk_42 (dk_at dksX2_init_0 5 rfl rfl)
theorem dX2_init_6 : decode cX2_init 6 = .ok (.invokespecial 9, 3) := dk_183 0 9 (dk_at dksX2_init_0 6 rfl rfl)
theorem dX2_init_9 : decode cX2_init 9 = .ok (.return_, 1) := dk_177 (dk_at dksX2_init_0 9 rfl rfl)
abbrev cX2_read : ByteArray := prog_13_method_9_code
def yX2_read : MethodName := ⟨RX2, "read", "(I)LLifeRents$Acts;"⟩
def dkwX2_read_2 : List UInt8 := [180, 0, 81, 176]
abbrev dktX2_read_2 : List UInt8 := dkwX2_read_2 ++ []
def dkwX2_read_1 : List UInt8 := [181, 0, 81, 42, 182, 0, 72, 42, 180, 0, 33, 6, 159, 0, 10, 42, 182, 0, 85, 167, 255, 244, 42]
abbrev dktX2_read_1 : List UInt8 := dkwX2_read_1 ++ dktX2_read_2
def dkwX2_read_0 : List UInt8 := [42, 3, 181, 0, 15, 42, 27, 181, 0, 19, 42, 3, 181, 0, 75, 42, 187, 0, 78, 89, 183, 0, 80]
abbrev dktX2_read_0 : List UInt8 := dkwX2_read_0 ++ dktX2_read_1
theorem dksX2_read_0 : cX2_read.data.toList.drop 0 = dktX2_read_0 := by decide +kernel
theorem dksX2_read_1 : cX2_read.data.toList.drop 23 = dktX2_read_1 := dk_seg dksX2_read_0 23 rfl rfl
theorem dksX2_read_2 : cX2_read.data.toList.drop 46 = dktX2_read_2 := dk_seg dksX2_read_1 23 rfl rfl
theorem dX2_read_0 : decode cX2_read 0 = .ok (.aload_n 0, 1) := dk_42 (dk_at dksX2_read_0 0 rfl rfl)
theorem dX2_read_1 : decode cX2_read 1 = .ok (.iconst 0, 1) := dk_3 (dk_at dksX2_read_0 1 rfl rfl)
theorem dX2_read_2 : decode cX2_read 2 = .ok (.putfield 15, 3) := dk_181 0 15 (dk_at dksX2_read_0 2 rfl rfl)
theorem dX2_read_5 : decode cX2_read 5 = .ok (.aload_n 0, 1) := dk_42 (dk_at dksX2_read_0 5 rfl rfl)
theorem dX2_read_6 : decode cX2_read 6 = .ok (.iload_n 1, 1) := dk_27 (dk_at dksX2_read_0 6 rfl rfl)
theorem dX2_read_7 : decode cX2_read 7 = .ok (.putfield 19, 3) := dk_181 0 19 (dk_at dksX2_read_0 7 rfl rfl)
theorem dX2_read_10 : decode cX2_read 10 = .ok (.aload_n 0, 1) := dk_42 (dk_at dksX2_read_0 10 rfl rfl)
theorem dX2_read_11 : decode cX2_read 11 = .ok (.iconst 0, 1) := dk_3 (dk_at dksX2_read_0 11 rfl rfl)
theorem dX2_read_12 : decode cX2_read 12 = .ok (.putfield 75, 3) := dk_181 0 75 (dk_at dksX2_read_0 12 rfl rfl)
theorem dX2_read_15 : decode cX2_read 15 = .ok (.aload_n 0, 1) := dk_42 (dk_at dksX2_read_0 15 rfl rfl)
theorem dX2_read_16 : decode cX2_read 16 = .ok (.new 78, 3) := dk_187 0 78 (dk_at dksX2_read_0 16 rfl rfl)
theorem dX2_read_19 : decode cX2_read 19 = .ok (.dup, 1) := dk_89 (dk_at dksX2_read_0 19 rfl rfl)
theorem dX2_read_20 : decode cX2_read 20 = .ok (.invokespecial 80, 3) := dk_183 0 80 (dk_at dksX2_read_0 20 rfl rfl)
theorem dX2_read_23 : decode cX2_read 23 = .ok (.putfield 81, 3) := dk_181 0 81 (dk_at dksX2_read_1 0 rfl rfl)
theorem dX2_read_26 : decode cX2_read 26 = .ok (.aload_n 0, 1) := dk_42 (dk_at dksX2_read_1 3 rfl rfl)
theorem dX2_read_27 : decode cX2_read 27 = .ok (.invokevirtual 72, 3) := dk_182 0 72 (dk_at dksX2_read_1 4 rfl rfl)
theorem dX2_read_30 : decode cX2_read 30 = .ok (.aload_n 0, 1) := dk_42 (dk_at dksX2_read_1 7 rfl rfl)
theorem dX2_read_31 : decode cX2_read 31 = .ok (.getfield 33, 3) := dk_180 0 33 (dk_at dksX2_read_1 8 rfl rfl)
theorem dX2_read_34 : decode cX2_read 34 = .ok (.iconst 3, 1) := dk_6 (dk_at dksX2_read_1 11 rfl rfl)
theorem dX2_read_35 : decode cX2_read 35 = .ok (.if_icmp .eq 10, 3) := dk_159 0 10 (dk_at dksX2_read_1 12 rfl rfl)
theorem dX2_read_38 : decode cX2_read 38 = .ok (.aload_n 0, 1) := dk_42 (dk_at dksX2_read_1 15 rfl rfl)
theorem dX2_read_39 : decode cX2_read 39 = .ok (.invokevirtual 85, 3) := dk_182 0 85 (dk_at dksX2_read_1 16 rfl rfl)
theorem dX2_read_42 : decode cX2_read 42 = .ok (.goto (-12), 3) := dk_167 255 244 (dk_at dksX2_read_1 19 rfl rfl)
theorem dX2_read_45 : decode cX2_read 45 = .ok (.aload_n 0, 1) := dk_42 (dk_at dksX2_read_1 22 rfl rfl)
theorem dX2_read_46 : decode cX2_read 46 = .ok (.getfield 81, 3) := dk_180 0 81 (dk_at dksX2_read_2 0 rfl rfl)
theorem dX2_read_49 : decode cX2_read 49 = .ok (.areturn, 1) := dk_176 (dk_at dksX2_read_2 3 rfl rfl)
abbrev cX2_next : ByteArray := prog_13_method_3_code
def yX2_next : MethodName := ⟨RX2, "next", "()V"⟩
def dkwX2_next_10 : List UInt8 := [180, 0, 15, 4, 96, 181, 0, 15, 177]
abbrev dktX2_next_10 : List UInt8 := dkwX2_next_10 ++ []
def dkwX2_next_9 : List UInt8 := [167, 255, 196, 42, 42, 182, 0, 26, 16, 59, 160, 0, 7, 5, 167, 0, 4, 7, 181, 0, 33, 42, 89]
abbrev dktX2_next_9 : List UInt8 := dkwX2_next_9 ++ dktX2_next_10
def dkwX2_next_8 : List UInt8 := [104, 42, 182, 0, 26, 96, 16, 48, 100, 181, 0, 43, 42, 89, 180, 0, 15, 4, 96, 181, 0, 15]
abbrev dktX2_next_8 : List UInt8 := dkwX2_next_8 ++ dktX2_next_9
def dkwX2_next_7 : List UInt8 := [42, 42, 180, 0, 43, 17, 39, 15, 164, 0, 10, 42, 180, 0, 43, 167, 0, 18, 16, 10, 42, 180, 0, 43]
abbrev dktX2_next_7 : List UInt8 := dkwX2_next_7 ++ dktX2_next_8
def dkwX2_next_6 : List UInt8 := [42, 4, 181, 0, 33, 42, 3, 181, 0, 43, 42, 182, 0, 26, 16, 48, 16, 57, 184, 0, 36, 153, 0, 80]
abbrev dktX2_next_6 : List UInt8 := dkwX2_next_6 ++ dktX2_next_7
def dkwX2_next_5 : List UInt8 := [167, 0, 4, 3, 181, 0, 33, 167, 0, 118, 42, 182, 0, 26, 16, 48, 16, 57, 184, 0, 36, 153, 0, 76]
abbrev dktX2_next_5 : List UInt8 := dkwX2_next_5 ++ dktX2_next_6
def dkwX2_next_4 : List UInt8 := [181, 0, 15, 167, 255, 232, 42, 42, 182, 0, 40, 181, 0, 43, 42, 42, 180, 0, 43, 2, 160, 0, 7, 7]
abbrev dktX2_next_4 : List UInt8 := dkwX2_next_4 ++ dktX2_next_5
def dkwX2_next_3 : List UInt8 := [153, 0, 58, 42, 182, 0, 26, 16, 97, 16, 122, 184, 0, 36, 153, 0, 16, 42, 89, 180, 0, 15, 4, 96]
abbrev dktX2_next_3 : List UInt8 := dkwX2_next_3 ++ dktX2_next_4
def dkwX2_next_2 : List UInt8 := [160, 0, 11, 42, 6, 181, 0, 33, 167, 0, 187, 42, 182, 0, 26, 16, 97, 16, 122, 184, 0, 36]
abbrev dktX2_next_2 : List UInt8 := dkwX2_next_2 ++ dktX2_next_3
def dkwX2_next_1 : List UInt8 := [96, 181, 0, 15, 167, 255, 228, 42, 42, 180, 0, 15, 181, 0, 30, 42, 180, 0, 15, 42, 180, 0, 19]
abbrev dktX2_next_1 : List UInt8 := dkwX2_next_1 ++ dktX2_next_2
def dkwX2_next_0 : List UInt8 := [42, 182, 0, 26, 16, 10, 159, 0, 12, 42, 182, 0, 26, 16, 32, 160, 0, 16, 42, 89, 180, 0, 15, 4]
abbrev dktX2_next_0 : List UInt8 := dkwX2_next_0 ++ dktX2_next_1
theorem dksX2_next_0 : cX2_next.data.toList.drop 0 = dktX2_next_0 := by decide +kernel
theorem dksX2_next_1 : cX2_next.data.toList.drop 24 = dktX2_next_1 := dk_seg dksX2_next_0 24 rfl rfl
theorem dksX2_next_2 : cX2_next.data.toList.drop 47 = dktX2_next_2 := dk_seg dksX2_next_1 23 rfl rfl
theorem dksX2_next_3 : cX2_next.data.toList.drop 69 = dktX2_next_3 := dk_seg dksX2_next_2 22 rfl rfl
theorem dksX2_next_4 : cX2_next.data.toList.drop 93 = dktX2_next_4 := dk_seg dksX2_next_3 24 rfl rfl
theorem dksX2_next_5 : cX2_next.data.toList.drop 117 = dktX2_next_5 := dk_seg dksX2_next_4 24 rfl rfl
theorem dksX2_next_6 : cX2_next.data.toList.drop 141 = dktX2_next_6 := dk_seg dksX2_next_5 24 rfl rfl
theorem dksX2_next_7 : cX2_next.data.toList.drop 165 = dktX2_next_7 := dk_seg dksX2_next_6 24 rfl rfl
theorem dksX2_next_8 : cX2_next.data.toList.drop 189 = dktX2_next_8 := dk_seg dksX2_next_7 24 rfl rfl
theorem dksX2_next_9 : cX2_next.data.toList.drop 211 = dktX2_next_9 := dk_seg dksX2_next_8 22 rfl rfl
theorem dksX2_next_10 : cX2_next.data.toList.drop 234 = dktX2_next_10 := dk_seg dksX2_next_9 23 rfl rfl
theorem dX2_next_0 : decode cX2_next 0 = .ok (.aload_n 0, 1) := dk_42 (dk_at dksX2_next_0 0 rfl rfl)
theorem dX2_next_1 : decode cX2_next 1 = .ok (.invokevirtual 26, 3) := dk_182 0 26 (dk_at dksX2_next_0 1 rfl rfl)
theorem dX2_next_4 : decode cX2_next 4 = .ok (.bipush 10, 2) := dk_16 10 (dk_at dksX2_next_0 4 rfl rfl)
theorem dX2_next_6 : decode cX2_next 6 = .ok (.if_icmp .eq 12, 3) := dk_159 0 12 (dk_at dksX2_next_0 6 rfl rfl)
theorem dX2_next_9 : decode cX2_next 9 = .ok (.aload_n 0, 1) := dk_42 (dk_at dksX2_next_0 9 rfl rfl)
theorem dX2_next_10 : decode cX2_next 10 = .ok (.invokevirtual 26, 3) := dk_182 0 26 (dk_at dksX2_next_0 10 rfl rfl)
theorem dX2_next_13 : decode cX2_next 13 = .ok (.bipush 32, 2) := dk_16 32 (dk_at dksX2_next_0 13 rfl rfl)
theorem dX2_next_15 : decode cX2_next 15 = .ok (.if_icmp .ne 16, 3) := dk_160 0 16 (dk_at dksX2_next_0 15 rfl rfl)
theorem dX2_next_18 : decode cX2_next 18 = .ok (.aload_n 0, 1) := dk_42 (dk_at dksX2_next_0 18 rfl rfl)
theorem dX2_next_19 : decode cX2_next 19 = .ok (.dup, 1) := dk_89 (dk_at dksX2_next_0 19 rfl rfl)
theorem dX2_next_20 : decode cX2_next 20 = .ok (.getfield 15, 3) := dk_180 0 15 (dk_at dksX2_next_0 20 rfl rfl)
theorem dX2_next_23 : decode cX2_next 23 = .ok (.iconst 1, 1) := dk_4 (dk_at dksX2_next_0 23 rfl rfl)
theorem dX2_next_24 : decode cX2_next 24 = .ok (.iadd, 1) := dk_96 (dk_at dksX2_next_1 0 rfl rfl)
theorem dX2_next_25 : decode cX2_next 25 = .ok (.putfield 15, 3) := dk_181 0 15 (dk_at dksX2_next_1 1 rfl rfl)
theorem dX2_next_28 : decode cX2_next 28 = .ok (.goto (-28), 3) := dk_167 255 228 (dk_at dksX2_next_1 4 rfl rfl)
theorem dX2_next_31 : decode cX2_next 31 = .ok (.aload_n 0, 1) := dk_42 (dk_at dksX2_next_1 7 rfl rfl)
theorem dX2_next_32 : decode cX2_next 32 = .ok (.aload_n 0, 1) := dk_42 (dk_at dksX2_next_1 8 rfl rfl)
theorem dX2_next_33 : decode cX2_next 33 = .ok (.getfield 15, 3) := dk_180 0 15 (dk_at dksX2_next_1 9 rfl rfl)
theorem dX2_next_36 : decode cX2_next 36 = .ok (.putfield 30, 3) := dk_181 0 30 (dk_at dksX2_next_1 12 rfl rfl)
theorem dX2_next_39 : decode cX2_next 39 = .ok (.aload_n 0, 1) := dk_42 (dk_at dksX2_next_1 15 rfl rfl)
theorem dX2_next_40 : decode cX2_next 40 = .ok (.getfield 15, 3) := dk_180 0 15 (dk_at dksX2_next_1 16 rfl rfl)
theorem dX2_next_43 : decode cX2_next 43 = .ok (.aload_n 0, 1) := dk_42 (dk_at dksX2_next_1 19 rfl rfl)
theorem dX2_next_44 : decode cX2_next 44 = .ok (.getfield 19, 3) := dk_180 0 19 (dk_at dksX2_next_1 20 rfl rfl)
theorem dX2_next_47 : decode cX2_next 47 = .ok (.if_icmp .ne 11, 3) := dk_160 0 11 (dk_at dksX2_next_2 0 rfl rfl)
theorem dX2_next_50 : decode cX2_next 50 = .ok (.aload_n 0, 1) := dk_42 (dk_at dksX2_next_2 3 rfl rfl)
theorem dX2_next_51 : decode cX2_next 51 = .ok (.iconst 3, 1) := dk_6 (dk_at dksX2_next_2 4 rfl rfl)
theorem dX2_next_52 : decode cX2_next 52 = .ok (.putfield 33, 3) := dk_181 0 33 (dk_at dksX2_next_2 5 rfl rfl)
theorem dX2_next_55 : decode cX2_next 55 = .ok (.goto 187, 3) := dk_167 0 187 (dk_at dksX2_next_2 8 rfl rfl)
theorem dX2_next_58 : decode cX2_next 58 = .ok (.aload_n 0, 1) := dk_42 (dk_at dksX2_next_2 11 rfl rfl)
theorem dX2_next_59 : decode cX2_next 59 = .ok (.invokevirtual 26, 3) := dk_182 0 26 (dk_at dksX2_next_2 12 rfl rfl)
theorem dX2_next_62 : decode cX2_next 62 = .ok (.bipush 97, 2) := dk_16 97 (dk_at dksX2_next_2 15 rfl rfl)
theorem dX2_next_64 : decode cX2_next 64 = .ok (.bipush 122, 2) := dk_16 122 (dk_at dksX2_next_2 17 rfl rfl)
theorem dX2_next_66 : decode cX2_next 66 = .ok (.invokestatic 36, 3) := dk_184 0 36 (dk_at dksX2_next_2 19 rfl rfl)
theorem dX2_next_69 : decode cX2_next 69 = .ok (.ifCond .eq 58, 3) := dk_153 0 58 (dk_at dksX2_next_3 0 rfl rfl)
theorem dX2_next_72 : decode cX2_next 72 = .ok (.aload_n 0, 1) := dk_42 (dk_at dksX2_next_3 3 rfl rfl)
theorem dX2_next_73 : decode cX2_next 73 = .ok (.invokevirtual 26, 3) := dk_182 0 26 (dk_at dksX2_next_3 4 rfl rfl)
theorem dX2_next_76 : decode cX2_next 76 = .ok (.bipush 97, 2) := dk_16 97 (dk_at dksX2_next_3 7 rfl rfl)
theorem dX2_next_78 : decode cX2_next 78 = .ok (.bipush 122, 2) := dk_16 122 (dk_at dksX2_next_3 9 rfl rfl)
theorem dX2_next_80 : decode cX2_next 80 = .ok (.invokestatic 36, 3) := dk_184 0 36 (dk_at dksX2_next_3 11 rfl rfl)
theorem dX2_next_83 : decode cX2_next 83 = .ok (.ifCond .eq 16, 3) := dk_153 0 16 (dk_at dksX2_next_3 14 rfl rfl)
theorem dX2_next_86 : decode cX2_next 86 = .ok (.aload_n 0, 1) := dk_42 (dk_at dksX2_next_3 17 rfl rfl)
theorem dX2_next_87 : decode cX2_next 87 = .ok (.dup, 1) := dk_89 (dk_at dksX2_next_3 18 rfl rfl)
theorem dX2_next_88 : decode cX2_next 88 = .ok (.getfield 15, 3) := dk_180 0 15 (dk_at dksX2_next_3 19 rfl rfl)
theorem dX2_next_91 : decode cX2_next 91 = .ok (.iconst 1, 1) := dk_4 (dk_at dksX2_next_3 22 rfl rfl)
theorem dX2_next_92 : decode cX2_next 92 = .ok (.iadd, 1) := dk_96 (dk_at dksX2_next_3 23 rfl rfl)
theorem dX2_next_93 : decode cX2_next 93 = .ok (.putfield 15, 3) := dk_181 0 15 (dk_at dksX2_next_4 0 rfl rfl)
theorem dX2_next_96 : decode cX2_next 96 = .ok (.goto (-24), 3) := dk_167 255 232 (dk_at dksX2_next_4 3 rfl rfl)
theorem dX2_next_99 : decode cX2_next 99 = .ok (.aload_n 0, 1) := dk_42 (dk_at dksX2_next_4 6 rfl rfl)
theorem dX2_next_100 : decode cX2_next 100 = .ok (.aload_n 0, 1) := dk_42 (dk_at dksX2_next_4 7 rfl rfl)
theorem dX2_next_101 : decode cX2_next 101 = .ok (.invokevirtual 40, 3) := dk_182 0 40 (dk_at dksX2_next_4 8 rfl rfl)
theorem dX2_next_104 : decode cX2_next 104 = .ok (.putfield 43, 3) := dk_181 0 43 (dk_at dksX2_next_4 11 rfl rfl)
theorem dX2_next_107 : decode cX2_next 107 = .ok (.aload_n 0, 1) := dk_42 (dk_at dksX2_next_4 14 rfl rfl)
theorem dX2_next_108 : decode cX2_next 108 = .ok (.aload_n 0, 1) := dk_42 (dk_at dksX2_next_4 15 rfl rfl)
theorem dX2_next_109 : decode cX2_next 109 = .ok (.getfield 43, 3) := dk_180 0 43 (dk_at dksX2_next_4 16 rfl rfl)
theorem dX2_next_112 : decode cX2_next 112 = .ok (.iconst (-1), 1) := dk_2 (dk_at dksX2_next_4 19 rfl rfl)
theorem dX2_next_113 : decode cX2_next 113 = .ok (.if_icmp .ne 7, 3) := dk_160 0 7 (dk_at dksX2_next_4 20 rfl rfl)
theorem dX2_next_116 : decode cX2_next 116 = .ok (.iconst 4, 1) := dk_7 (dk_at dksX2_next_4 23 rfl rfl)
theorem dX2_next_117 : decode cX2_next 117 = .ok (.goto 4, 3) := dk_167 0 4 (dk_at dksX2_next_5 0 rfl rfl)
theorem dX2_next_120 : decode cX2_next 120 = .ok (.iconst 0, 1) := dk_3 (dk_at dksX2_next_5 3 rfl rfl)
theorem dX2_next_121 : decode cX2_next 121 = .ok (.putfield 33, 3) := dk_181 0 33 (dk_at dksX2_next_5 4 rfl rfl)
theorem dX2_next_124 : decode cX2_next 124 = .ok (.goto 118, 3) := dk_167 0 118 (dk_at dksX2_next_5 7 rfl rfl)
theorem dX2_next_127 : decode cX2_next 127 = .ok (.aload_n 0, 1) := dk_42 (dk_at dksX2_next_5 10 rfl rfl)
theorem dX2_next_128 : decode cX2_next 128 = .ok (.invokevirtual 26, 3) := dk_182 0 26 (dk_at dksX2_next_5 11 rfl rfl)
theorem dX2_next_131 : decode cX2_next 131 = .ok (.bipush 48, 2) := dk_16 48 (dk_at dksX2_next_5 14 rfl rfl)
theorem dX2_next_133 : decode cX2_next 133 = .ok (.bipush 57, 2) := dk_16 57 (dk_at dksX2_next_5 16 rfl rfl)
theorem dX2_next_135 : decode cX2_next 135 = .ok (.invokestatic 36, 3) := dk_184 0 36 (dk_at dksX2_next_5 18 rfl rfl)
theorem dX2_next_138 : decode cX2_next 138 = .ok (.ifCond .eq 76, 3) := dk_153 0 76 (dk_at dksX2_next_5 21 rfl rfl)
theorem dX2_next_141 : decode cX2_next 141 = .ok (.aload_n 0, 1) := dk_42 (dk_at dksX2_next_6 0 rfl rfl)
theorem dX2_next_142 : decode cX2_next 142 = .ok (.iconst 1, 1) := dk_4 (dk_at dksX2_next_6 1 rfl rfl)
theorem dX2_next_143 : decode cX2_next 143 = .ok (.putfield 33, 3) := dk_181 0 33 (dk_at dksX2_next_6 2 rfl rfl)
theorem dX2_next_146 : decode cX2_next 146 = .ok (.aload_n 0, 1) := dk_42 (dk_at dksX2_next_6 5 rfl rfl)
theorem dX2_next_147 : decode cX2_next 147 = .ok (.iconst 0, 1) := dk_3 (dk_at dksX2_next_6 6 rfl rfl)
theorem dX2_next_148 : decode cX2_next 148 = .ok (.putfield 43, 3) := dk_181 0 43 (dk_at dksX2_next_6 7 rfl rfl)
theorem dX2_next_151 : decode cX2_next 151 = .ok (.aload_n 0, 1) := dk_42 (dk_at dksX2_next_6 10 rfl rfl)
theorem dX2_next_152 : decode cX2_next 152 = .ok (.invokevirtual 26, 3) := dk_182 0 26 (dk_at dksX2_next_6 11 rfl rfl)
theorem dX2_next_155 : decode cX2_next 155 = .ok (.bipush 48, 2) := dk_16 48 (dk_at dksX2_next_6 14 rfl rfl)
theorem dX2_next_157 : decode cX2_next 157 = .ok (.bipush 57, 2) := dk_16 57 (dk_at dksX2_next_6 16 rfl rfl)
theorem dX2_next_159 : decode cX2_next 159 = .ok (.invokestatic 36, 3) := dk_184 0 36 (dk_at dksX2_next_6 18 rfl rfl)
theorem dX2_next_162 : decode cX2_next 162 = .ok (.ifCond .eq 80, 3) := dk_153 0 80 (dk_at dksX2_next_6 21 rfl rfl)
theorem dX2_next_165 : decode cX2_next 165 = .ok (.aload_n 0, 1) := dk_42 (dk_at dksX2_next_7 0 rfl rfl)
theorem dX2_next_166 : decode cX2_next 166 = .ok (.aload_n 0, 1) := dk_42 (dk_at dksX2_next_7 1 rfl rfl)
theorem dX2_next_167 : decode cX2_next 167 = .ok (.getfield 43, 3) := dk_180 0 43 (dk_at dksX2_next_7 2 rfl rfl)
theorem dX2_next_170 : decode cX2_next 170 = .ok (.sipush 9999, 3) := dk_17 39 15 (dk_at dksX2_next_7 5 rfl rfl)
theorem dX2_next_173 : decode cX2_next 173 = .ok (.if_icmp .le 10, 3) := dk_164 0 10 (dk_at dksX2_next_7 8 rfl rfl)
theorem dX2_next_176 : decode cX2_next 176 = .ok (.aload_n 0, 1) := dk_42 (dk_at dksX2_next_7 11 rfl rfl)
theorem dX2_next_177 : decode cX2_next 177 = .ok (.getfield 43, 3) := dk_180 0 43 (dk_at dksX2_next_7 12 rfl rfl)
theorem dX2_next_180 : decode cX2_next 180 = .ok (.goto 18, 3) := dk_167 0 18 (dk_at dksX2_next_7 15 rfl rfl)
theorem dX2_next_183 : decode cX2_next 183 = .ok (.bipush 10, 2) := dk_16 10 (dk_at dksX2_next_7 18 rfl rfl)
theorem dX2_next_185 : decode cX2_next 185 = .ok (.aload_n 0, 1) := dk_42 (dk_at dksX2_next_7 20 rfl rfl)
theorem dX2_next_186 : decode cX2_next 186 = .ok (.getfield 43, 3) := dk_180 0 43 (dk_at dksX2_next_7 21 rfl rfl)
theorem dX2_next_189 : decode cX2_next 189 = .ok (.imul, 1) := dk_104 (dk_at dksX2_next_8 0 rfl rfl)
theorem dX2_next_190 : decode cX2_next 190 = .ok (.aload_n 0, 1) := dk_42 (dk_at dksX2_next_8 1 rfl rfl)
theorem dX2_next_191 : decode cX2_next 191 = .ok (.invokevirtual 26, 3) := dk_182 0 26 (dk_at dksX2_next_8 2 rfl rfl)
theorem dX2_next_194 : decode cX2_next 194 = .ok (.iadd, 1) := dk_96 (dk_at dksX2_next_8 5 rfl rfl)
theorem dX2_next_195 : decode cX2_next 195 = .ok (.bipush 48, 2) := dk_16 48 (dk_at dksX2_next_8 6 rfl rfl)
theorem dX2_next_197 : decode cX2_next 197 = .ok (.isub, 1) := dk_100 (dk_at dksX2_next_8 8 rfl rfl)
theorem dX2_next_198 : decode cX2_next 198 = .ok (.putfield 43, 3) := dk_181 0 43 (dk_at dksX2_next_8 9 rfl rfl)
theorem dX2_next_201 : decode cX2_next 201 = .ok (.aload_n 0, 1) := dk_42 (dk_at dksX2_next_8 12 rfl rfl)
theorem dX2_next_202 : decode cX2_next 202 = .ok (.dup, 1) := dk_89 (dk_at dksX2_next_8 13 rfl rfl)
theorem dX2_next_203 : decode cX2_next 203 = .ok (.getfield 15, 3) := dk_180 0 15 (dk_at dksX2_next_8 14 rfl rfl)
theorem dX2_next_206 : decode cX2_next 206 = .ok (.iconst 1, 1) := dk_4 (dk_at dksX2_next_8 17 rfl rfl)
theorem dX2_next_207 : decode cX2_next 207 = .ok (.iadd, 1) := dk_96 (dk_at dksX2_next_8 18 rfl rfl)
theorem dX2_next_208 : decode cX2_next 208 = .ok (.putfield 15, 3) := dk_181 0 15 (dk_at dksX2_next_8 19 rfl rfl)
theorem dX2_next_211 : decode cX2_next 211 = .ok (.goto (-60), 3) := dk_167 255 196 (dk_at dksX2_next_9 0 rfl rfl)
theorem dX2_next_214 : decode cX2_next 214 = .ok (.aload_n 0, 1) := dk_42 (dk_at dksX2_next_9 3 rfl rfl)
theorem dX2_next_215 : decode cX2_next 215 = .ok (.aload_n 0, 1) := dk_42 (dk_at dksX2_next_9 4 rfl rfl)
theorem dX2_next_216 : decode cX2_next 216 = .ok (.invokevirtual 26, 3) := dk_182 0 26 (dk_at dksX2_next_9 5 rfl rfl)
theorem dX2_next_219 : decode cX2_next 219 = .ok (.bipush 59, 2) := dk_16 59 (dk_at dksX2_next_9 8 rfl rfl)
theorem dX2_next_221 : decode cX2_next 221 = .ok (.if_icmp .ne 7, 3) := dk_160 0 7 (dk_at dksX2_next_9 10 rfl rfl)
theorem dX2_next_224 : decode cX2_next 224 = .ok (.iconst 2, 1) := dk_5 (dk_at dksX2_next_9 13 rfl rfl)
theorem dX2_next_225 : decode cX2_next 225 = .ok (.goto 4, 3) := dk_167 0 4 (dk_at dksX2_next_9 14 rfl rfl)
theorem dX2_next_228 : decode cX2_next 228 = .ok (.iconst 4, 1) := dk_7 (dk_at dksX2_next_9 17 rfl rfl)
theorem dX2_next_229 : decode cX2_next 229 = .ok (.putfield 33, 3) := dk_181 0 33 (dk_at dksX2_next_9 18 rfl rfl)
theorem dX2_next_232 : decode cX2_next 232 = .ok (.aload_n 0, 1) := dk_42 (dk_at dksX2_next_9 21 rfl rfl)
theorem dX2_next_233 : decode cX2_next 233 = .ok (.dup, 1) := dk_89 (dk_at dksX2_next_9 22 rfl rfl)
theorem dX2_next_234 : decode cX2_next 234 = .ok (.getfield 15, 3) := dk_180 0 15 (dk_at dksX2_next_10 0 rfl rfl)
theorem dX2_next_237 : decode cX2_next 237 = .ok (.iconst 1, 1) := dk_4 (dk_at dksX2_next_10 3 rfl rfl)
theorem dX2_next_238 : decode cX2_next 238 = .ok (.iadd, 1) := dk_96 (dk_at dksX2_next_10 4 rfl rfl)
theorem dX2_next_239 : decode cX2_next 239 = .ok (.putfield 15, 3) := dk_181 0 15 (dk_at dksX2_next_10 5 rfl rfl)
theorem dX2_next_242 : decode cX2_next 242 = .ok (.return_, 1) := dk_177 (dk_at dksX2_next_10 8 rfl rfl)
abbrev cX2_here : ByteArray := prog_13_method_2_code
def yX2_here : MethodName := ⟨RX2, "here", "()I"⟩
def dkwX2_here_1 : List UInt8 := [17, 0, 255, 126, 167, 0, 4, 2, 172]
abbrev dktX2_here_1 : List UInt8 := dkwX2_here_1 ++ []
def dkwX2_here_0 : List UInt8 := [42, 180, 0, 15, 42, 180, 0, 19, 162, 0, 22, 42, 180, 0, 3, 180, 0, 22, 42, 180, 0, 15, 51]
abbrev dktX2_here_0 : List UInt8 := dkwX2_here_0 ++ dktX2_here_1
theorem dksX2_here_0 : cX2_here.data.toList.drop 0 = dktX2_here_0 := by decide +kernel
theorem dksX2_here_1 : cX2_here.data.toList.drop 23 = dktX2_here_1 := dk_seg dksX2_here_0 23 rfl rfl
theorem dX2_here_0 : decode cX2_here 0 = .ok (.aload_n 0, 1) := dk_42 (dk_at dksX2_here_0 0 rfl rfl)
theorem dX2_here_1 : decode cX2_here 1 = .ok (.getfield 15, 3) := dk_180 0 15 (dk_at dksX2_here_0 1 rfl rfl)
theorem dX2_here_4 : decode cX2_here 4 = .ok (.aload_n 0, 1) := dk_42 (dk_at dksX2_here_0 4 rfl rfl)
theorem dX2_here_5 : decode cX2_here 5 = .ok (.getfield 19, 3) := dk_180 0 19 (dk_at dksX2_here_0 5 rfl rfl)
theorem dX2_here_8 : decode cX2_here 8 = .ok (.if_icmp .ge 22, 3) := dk_162 0 22 (dk_at dksX2_here_0 8 rfl rfl)
theorem dX2_here_11 : decode cX2_here 11 = .ok (.aload_n 0, 1) := dk_42 (dk_at dksX2_here_0 11 rfl rfl)
theorem dX2_here_12 : decode cX2_here 12 = .ok (.getfield 3, 3) := dk_180 0 3 (dk_at dksX2_here_0 12 rfl rfl)
theorem dX2_here_15 : decode cX2_here 15 = .ok (.getfield 22, 3) := dk_180 0 22 (dk_at dksX2_here_0 15 rfl rfl)
theorem dX2_here_18 : decode cX2_here 18 = .ok (.aload_n 0, 1) := dk_42 (dk_at dksX2_here_0 18 rfl rfl)
theorem dX2_here_19 : decode cX2_here 19 = .ok (.getfield 15, 3) := dk_180 0 15 (dk_at dksX2_here_0 19 rfl rfl)
theorem dX2_here_22 : decode cX2_here 22 = .ok (.baload, 1) := dk_51 (dk_at dksX2_here_0 22 rfl rfl)
theorem dX2_here_23 : decode cX2_here 23 = .ok (.sipush 255, 3) := dk_17 0 255 (dk_at dksX2_here_1 0 rfl rfl)
theorem dX2_here_26 : decode cX2_here 26 = .ok (.iand, 1) := dk_126 (dk_at dksX2_here_1 3 rfl rfl)
theorem dX2_here_27 : decode cX2_here 27 = .ok (.goto 4, 3) := dk_167 0 4 (dk_at dksX2_here_1 4 rfl rfl)
theorem dX2_here_30 : decode cX2_here 30 = .ok (.iconst (-1), 1) := dk_2 (dk_at dksX2_here_1 7 rfl rfl)
theorem dX2_here_31 : decode cX2_here 31 = .ok (.ireturn, 1) := dk_172 (dk_at dksX2_here_1 8 rfl rfl)
abbrev cX2_word : ByteArray := prog_13_method_4_code
def yX2_word : MethodName := ⟨RX2, "word", "()I"⟩
def dkwX2_word_4 : List UInt8 := [27, 172, 132, 1, 1, 167, 255, 160, 2, 172]
abbrev dktX2_word_4 : List UInt8 := dkwX2_word_4 ++ []
def dkwX2_word_3 : List UInt8 := [96, 51, 160, 0, 9, 132, 2, 1, 167, 255, 214, 42, 180, 0, 30, 28, 96, 42, 180, 0, 15, 160, 0, 5]
abbrev dktX2_word_3 : List UInt8 := dkwX2_word_3 ++ dktX2_word_4
def dkwX2_word_2 : List UInt8 := [162, 0, 35, 178, 0, 46, 27, 50, 28, 182, 0, 55, 42, 180, 0, 3, 180, 0, 22, 42, 180, 0, 30, 28]
abbrev dktX2_word_2 : List UInt8 := dkwX2_word_2 ++ dktX2_word_3
def dkwX2_word_1 : List UInt8 := [180, 0, 30, 100, 159, 0, 6, 167, 0, 65, 3, 61, 42, 180, 0, 30, 28, 96, 42, 180, 0, 15]
abbrev dktX2_word_1 : List UInt8 := dkwX2_word_1 ++ dktX2_word_2
def dkwX2_word_0 : List UInt8 := [3, 60, 27, 178, 0, 46, 190, 162, 0, 94, 178, 0, 46, 27, 50, 182, 0, 50, 42, 180, 0, 15, 42]
abbrev dktX2_word_0 : List UInt8 := dkwX2_word_0 ++ dktX2_word_1
theorem dksX2_word_0 : cX2_word.data.toList.drop 0 = dktX2_word_0 := by decide +kernel
theorem dksX2_word_1 : cX2_word.data.toList.drop 23 = dktX2_word_1 := dk_seg dksX2_word_0 23 rfl rfl
theorem dksX2_word_2 : cX2_word.data.toList.drop 45 = dktX2_word_2 := dk_seg dksX2_word_1 22 rfl rfl
theorem dksX2_word_3 : cX2_word.data.toList.drop 69 = dktX2_word_3 := dk_seg dksX2_word_2 24 rfl rfl
theorem dksX2_word_4 : cX2_word.data.toList.drop 93 = dktX2_word_4 := dk_seg dksX2_word_3 24 rfl rfl
theorem dX2_word_0 : decode cX2_word 0 = .ok (.iconst 0, 1) := dk_3 (dk_at dksX2_word_0 0 rfl rfl)
theorem dX2_word_1 : decode cX2_word 1 = .ok (.istore_n 1, 1) := dk_60 (dk_at dksX2_word_0 1 rfl rfl)
theorem dX2_word_2 : decode cX2_word 2 = .ok (.iload_n 1, 1) := dk_27 (dk_at dksX2_word_0 2 rfl rfl)
theorem dX2_word_3 : decode cX2_word 3 = .ok (.getstatic 46, 3) := dk_178 0 46 (dk_at dksX2_word_0 3 rfl rfl)
theorem dX2_word_6 : decode cX2_word 6 = .ok (.arraylength, 1) := dk_190 (dk_at dksX2_word_0 6 rfl rfl)
theorem dX2_word_7 : decode cX2_word 7 = .ok (.if_icmp .ge 94, 3) := dk_162 0 94 (dk_at dksX2_word_0 7 rfl rfl)
theorem dX2_word_10 : decode cX2_word 10 = .ok (.getstatic 46, 3) := dk_178 0 46 (dk_at dksX2_word_0 10 rfl rfl)
theorem dX2_word_13 : decode cX2_word 13 = .ok (.iload_n 1, 1) := dk_27 (dk_at dksX2_word_0 13 rfl rfl)
theorem dX2_word_14 : decode cX2_word 14 = .ok (.aaload, 1) := dk_50 (dk_at dksX2_word_0 14 rfl rfl)
theorem dX2_word_15 : decode cX2_word 15 = .ok (.invokevirtual 50, 3) := dk_182 0 50 (dk_at dksX2_word_0 15 rfl rfl)
theorem dX2_word_18 : decode cX2_word 18 = .ok (.aload_n 0, 1) := dk_42 (dk_at dksX2_word_0 18 rfl rfl)
theorem dX2_word_19 : decode cX2_word 19 = .ok (.getfield 15, 3) := dk_180 0 15 (dk_at dksX2_word_0 19 rfl rfl)
theorem dX2_word_22 : decode cX2_word 22 = .ok (.aload_n 0, 1) := dk_42 (dk_at dksX2_word_0 22 rfl rfl)
theorem dX2_word_23 : decode cX2_word 23 = .ok (.getfield 30, 3) := dk_180 0 30 (dk_at dksX2_word_1 0 rfl rfl)
theorem dX2_word_26 : decode cX2_word 26 = .ok (.isub, 1) := dk_100 (dk_at dksX2_word_1 3 rfl rfl)
theorem dX2_word_27 : decode cX2_word 27 = .ok (.if_icmp .eq 6, 3) := dk_159 0 6 (dk_at dksX2_word_1 4 rfl rfl)
theorem dX2_word_30 : decode cX2_word 30 = .ok (.goto 65, 3) := dk_167 0 65 (dk_at dksX2_word_1 7 rfl rfl)
theorem dX2_word_33 : decode cX2_word 33 = .ok (.iconst 0, 1) := dk_3 (dk_at dksX2_word_1 10 rfl rfl)
theorem dX2_word_34 : decode cX2_word 34 = .ok (.istore_n 2, 1) := dk_61 (dk_at dksX2_word_1 11 rfl rfl)
theorem dX2_word_35 : decode cX2_word 35 = .ok (.aload_n 0, 1) := dk_42 (dk_at dksX2_word_1 12 rfl rfl)
theorem dX2_word_36 : decode cX2_word 36 = .ok (.getfield 30, 3) := dk_180 0 30 (dk_at dksX2_word_1 13 rfl rfl)
theorem dX2_word_39 : decode cX2_word 39 = .ok (.iload_n 2, 1) := dk_28 (dk_at dksX2_word_1 16 rfl rfl)
theorem dX2_word_40 : decode cX2_word 40 = .ok (.iadd, 1) := dk_96 (dk_at dksX2_word_1 17 rfl rfl)
theorem dX2_word_41 : decode cX2_word 41 = .ok (.aload_n 0, 1) := dk_42 (dk_at dksX2_word_1 18 rfl rfl)
theorem dX2_word_42 : decode cX2_word 42 = .ok (.getfield 15, 3) := dk_180 0 15 (dk_at dksX2_word_1 19 rfl rfl)
theorem dX2_word_45 : decode cX2_word 45 = .ok (.if_icmp .ge 35, 3) := dk_162 0 35 (dk_at dksX2_word_2 0 rfl rfl)
theorem dX2_word_48 : decode cX2_word 48 = .ok (.getstatic 46, 3) := dk_178 0 46 (dk_at dksX2_word_2 3 rfl rfl)
theorem dX2_word_51 : decode cX2_word 51 = .ok (.iload_n 1, 1) := dk_27 (dk_at dksX2_word_2 6 rfl rfl)
theorem dX2_word_52 : decode cX2_word 52 = .ok (.aaload, 1) := dk_50 (dk_at dksX2_word_2 7 rfl rfl)
theorem dX2_word_53 : decode cX2_word 53 = .ok (.iload_n 2, 1) := dk_28 (dk_at dksX2_word_2 8 rfl rfl)
theorem dX2_word_54 : decode cX2_word 54 = .ok (.invokevirtual 55, 3) := dk_182 0 55 (dk_at dksX2_word_2 9 rfl rfl)
theorem dX2_word_57 : decode cX2_word 57 = .ok (.aload_n 0, 1) := dk_42 (dk_at dksX2_word_2 12 rfl rfl)
theorem dX2_word_58 : decode cX2_word 58 = .ok (.getfield 3, 3) := dk_180 0 3 (dk_at dksX2_word_2 13 rfl rfl)
theorem dX2_word_61 : decode cX2_word 61 = .ok (.getfield 22, 3) := dk_180 0 22 (dk_at dksX2_word_2 16 rfl rfl)
theorem dX2_word_64 : decode cX2_word 64 = .ok (.aload_n 0, 1) := dk_42 (dk_at dksX2_word_2 19 rfl rfl)
theorem dX2_word_65 : decode cX2_word 65 = .ok (.getfield 30, 3) := dk_180 0 30 (dk_at dksX2_word_2 20 rfl rfl)
theorem dX2_word_68 : decode cX2_word 68 = .ok (.iload_n 2, 1) := dk_28 (dk_at dksX2_word_2 23 rfl rfl)
theorem dX2_word_69 : decode cX2_word 69 = .ok (.iadd, 1) := dk_96 (dk_at dksX2_word_3 0 rfl rfl)
theorem dX2_word_70 : decode cX2_word 70 = .ok (.baload, 1) := dk_51 (dk_at dksX2_word_3 1 rfl rfl)
theorem dX2_word_71 : decode cX2_word 71 = .ok (.if_icmp .ne 9, 3) := dk_160 0 9 (dk_at dksX2_word_3 2 rfl rfl)
theorem dX2_word_74 : decode cX2_word 74 = .ok (.iinc 2 1, 3) := dk_132 2 1 (dk_at dksX2_word_3 5 rfl rfl)
theorem dX2_word_77 : decode cX2_word 77 = .ok (.goto (-42), 3) := dk_167 255 214 (dk_at dksX2_word_3 8 rfl rfl)
theorem dX2_word_80 : decode cX2_word 80 = .ok (.aload_n 0, 1) := dk_42 (dk_at dksX2_word_3 11 rfl rfl)
theorem dX2_word_81 : decode cX2_word 81 = .ok (.getfield 30, 3) := dk_180 0 30 (dk_at dksX2_word_3 12 rfl rfl)
theorem dX2_word_84 : decode cX2_word 84 = .ok (.iload_n 2, 1) := dk_28 (dk_at dksX2_word_3 15 rfl rfl)
theorem dX2_word_85 : decode cX2_word 85 = .ok (.iadd, 1) := dk_96 (dk_at dksX2_word_3 16 rfl rfl)
theorem dX2_word_86 : decode cX2_word 86 = .ok (.aload_n 0, 1) := dk_42 (dk_at dksX2_word_3 17 rfl rfl)
theorem dX2_word_87 : decode cX2_word 87 = .ok (.getfield 15, 3) := dk_180 0 15 (dk_at dksX2_word_3 18 rfl rfl)
theorem dX2_word_90 : decode cX2_word 90 = .ok (.if_icmp .ne 5, 3) := dk_160 0 5 (dk_at dksX2_word_3 21 rfl rfl)
theorem dX2_word_93 : decode cX2_word 93 = .ok (.iload_n 1, 1) := dk_27 (dk_at dksX2_word_4 0 rfl rfl)
theorem dX2_word_94 : decode cX2_word 94 = .ok (.ireturn, 1) := dk_172 (dk_at dksX2_word_4 1 rfl rfl)
theorem dX2_word_95 : decode cX2_word 95 = .ok (.iinc 1 1, 3) := dk_132 1 1 (dk_at dksX2_word_4 2 rfl rfl)
theorem dX2_word_98 : decode cX2_word 98 = .ok (.goto (-96), 3) := dk_167 255 160 (dk_at dksX2_word_4 5 rfl rfl)
theorem dX2_word_101 : decode cX2_word 101 = .ok (.iconst (-1), 1) := dk_2 (dk_at dksX2_word_4 8 rfl rfl)
theorem dX2_word_102 : decode cX2_word 102 = .ok (.ireturn, 1) := dk_172 (dk_at dksX2_word_4 9 rfl rfl)
abbrev cX2_line : ByteArray := prog_13_method_10_code
def yX2_line : MethodName := ⟨RX2, "line", "()V"⟩
def dkwX2_line_8 : List UInt8 := [180, 0, 81, 89, 180, 0, 118, 4, 96, 181, 0, 118, 177]
abbrev dktX2_line_8 : List UInt8 := dkwX2_line_8 ++ []
def dkwX2_line_7 : List UInt8 := [182, 0, 114, 87, 42, 180, 0, 33, 5, 159, 0, 9, 42, 4, 182, 0, 68, 191, 42, 182, 0, 72, 42]
abbrev dktX2_line_7 : List UInt8 := dkwX2_line_7 ++ dktX2_line_8
def dkwX2_line_6 : List UInt8 := [17, 0, 200, 182, 0, 104, 181, 0, 108, 42, 44, 182, 0, 110, 42, 180, 0, 81, 180, 0, 88, 44]
abbrev dktX2_line_6 : List UInt8 := dkwX2_line_6 ++ dktX2_line_7
def dkwX2_line_5 : List UInt8 := [160, 0, 15, 44, 42, 4, 17, 39, 15, 182, 0, 104, 181, 0, 108, 27, 6, 160, 0, 15, 44, 42, 3]
abbrev dktX2_line_5 : List UInt8 := dkwX2_line_5 ++ dktX2_line_6
def dkwX2_line_4 : List UInt8 := [181, 0, 75, 42, 27, 182, 0, 96, 167, 0, 63, 187, 0, 100, 89, 27, 183, 0, 102, 77, 27, 5]
abbrev dktX2_line_4 : List UInt8 := dkwX2_line_4 ++ dktX2_line_5
def dkwX2_line_3 : List UInt8 := [6, 182, 0, 68, 191, 42, 182, 0, 72, 27, 6, 164, 0, 23, 42, 89, 180, 0, 75, 4, 27, 120, 128]
abbrev dktX2_line_3 : List UInt8 := dkwX2_line_3 ++ dktX2_line_4
def dkwX2_line_2 : List UInt8 := [42, 5, 182, 0, 68, 191, 27, 6, 164, 0, 21, 42, 180, 0, 75, 27, 122, 4, 126, 4, 160, 0, 9, 42]
abbrev dktX2_line_2 : List UInt8 := dkwX2_line_2 ++ dktX2_line_3
def dkwX2_line_1 : List UInt8 := [180, 0, 43, 60, 27, 6, 163, 0, 24, 42, 180, 0, 81, 180, 0, 88, 182, 0, 92, 16, 24, 160, 0, 9]
abbrev dktX2_line_1 : List UInt8 := dkwX2_line_1 ++ dktX2_line_2
def dkwX2_line_0 : List UInt8 := [42, 180, 0, 33, 154, 0, 12, 42, 180, 0, 43, 16, 7, 164, 0, 9, 42, 4, 182, 0, 68, 191, 42]
abbrev dktX2_line_0 : List UInt8 := dkwX2_line_0 ++ dktX2_line_1
theorem dksX2_line_0 : cX2_line.data.toList.drop 0 = dktX2_line_0 := by decide +kernel
theorem dksX2_line_1 : cX2_line.data.toList.drop 23 = dktX2_line_1 := dk_seg dksX2_line_0 23 rfl rfl
theorem dksX2_line_2 : cX2_line.data.toList.drop 47 = dktX2_line_2 := dk_seg dksX2_line_1 24 rfl rfl
theorem dksX2_line_3 : cX2_line.data.toList.drop 71 = dktX2_line_3 := dk_seg dksX2_line_2 24 rfl rfl
theorem dksX2_line_4 : cX2_line.data.toList.drop 94 = dktX2_line_4 := dk_seg dksX2_line_3 23 rfl rfl
theorem dksX2_line_5 : cX2_line.data.toList.drop 116 = dktX2_line_5 := dk_seg dksX2_line_4 22 rfl rfl
theorem dksX2_line_6 : cX2_line.data.toList.drop 139 = dktX2_line_6 := dk_seg dksX2_line_5 23 rfl rfl
theorem dksX2_line_7 : cX2_line.data.toList.drop 161 = dktX2_line_7 := dk_seg dksX2_line_6 22 rfl rfl
theorem dksX2_line_8 : cX2_line.data.toList.drop 184 = dktX2_line_8 := dk_seg dksX2_line_7 23 rfl rfl
theorem dX2_line_0 : decode cX2_line 0 = .ok (.aload_n 0, 1) := dk_42 (dk_at dksX2_line_0 0 rfl rfl)
theorem dX2_line_1 : decode cX2_line 1 = .ok (.getfield 33, 3) := dk_180 0 33 (dk_at dksX2_line_0 1 rfl rfl)
theorem dX2_line_4 : decode cX2_line 4 = .ok (.ifCond .ne 12, 3) := dk_154 0 12 (dk_at dksX2_line_0 4 rfl rfl)
theorem dX2_line_7 : decode cX2_line 7 = .ok (.aload_n 0, 1) := dk_42 (dk_at dksX2_line_0 7 rfl rfl)
theorem dX2_line_8 : decode cX2_line 8 = .ok (.getfield 43, 3) := dk_180 0 43 (dk_at dksX2_line_0 8 rfl rfl)
theorem dX2_line_11 : decode cX2_line 11 = .ok (.bipush 7, 2) := dk_16 7 (dk_at dksX2_line_0 11 rfl rfl)
theorem dX2_line_13 : decode cX2_line 13 = .ok (.if_icmp .le 9, 3) := dk_164 0 9 (dk_at dksX2_line_0 13 rfl rfl)
theorem dX2_line_16 : decode cX2_line 16 = .ok (.aload_n 0, 1) := dk_42 (dk_at dksX2_line_0 16 rfl rfl)
theorem dX2_line_17 : decode cX2_line 17 = .ok (.iconst 1, 1) := dk_4 (dk_at dksX2_line_0 17 rfl rfl)
theorem dX2_line_18 : decode cX2_line 18 = .ok (.invokevirtual 68, 3) := dk_182 0 68 (dk_at dksX2_line_0 18 rfl rfl)
theorem dX2_line_21 : decode cX2_line 21 = .ok (.athrow, 1) := dk_191 (dk_at dksX2_line_0 21 rfl rfl)
theorem dX2_line_22 : decode cX2_line 22 = .ok (.aload_n 0, 1) := dk_42 (dk_at dksX2_line_0 22 rfl rfl)
theorem dX2_line_23 : decode cX2_line 23 = .ok (.getfield 43, 3) := dk_180 0 43 (dk_at dksX2_line_1 0 rfl rfl)
theorem dX2_line_26 : decode cX2_line 26 = .ok (.istore_n 1, 1) := dk_60 (dk_at dksX2_line_1 3 rfl rfl)
theorem dX2_line_27 : decode cX2_line 27 = .ok (.iload_n 1, 1) := dk_27 (dk_at dksX2_line_1 4 rfl rfl)
theorem dX2_line_28 : decode cX2_line 28 = .ok (.iconst 3, 1) := dk_6 (dk_at dksX2_line_1 5 rfl rfl)
theorem dX2_line_29 : decode cX2_line 29 = .ok (.if_icmp .gt 24, 3) := dk_163 0 24 (dk_at dksX2_line_1 6 rfl rfl)
theorem dX2_line_32 : decode cX2_line 32 = .ok (.aload_n 0, 1) := dk_42 (dk_at dksX2_line_1 9 rfl rfl)
theorem dX2_line_33 : decode cX2_line 33 = .ok (.getfield 81, 3) := dk_180 0 81 (dk_at dksX2_line_1 10 rfl rfl)
theorem dX2_line_36 : decode cX2_line 36 = .ok (.getfield 88, 3) := dk_180 0 88 (dk_at dksX2_line_1 13 rfl rfl)
theorem dX2_line_39 : decode cX2_line 39 = .ok (.invokevirtual 92, 3) := dk_182 0 92 (dk_at dksX2_line_1 16 rfl rfl)
theorem dX2_line_42 : decode cX2_line 42 = .ok (.bipush 24, 2) := dk_16 24 (dk_at dksX2_line_1 19 rfl rfl)
theorem dX2_line_44 : decode cX2_line 44 = .ok (.if_icmp .ne 9, 3) := dk_160 0 9 (dk_at dksX2_line_1 21 rfl rfl)
theorem dX2_line_47 : decode cX2_line 47 = .ok (.aload_n 0, 1) := dk_42 (dk_at dksX2_line_2 0 rfl rfl)
theorem dX2_line_48 : decode cX2_line 48 = .ok (.iconst 2, 1) := dk_5 (dk_at dksX2_line_2 1 rfl rfl)
theorem dX2_line_49 : decode cX2_line 49 = .ok (.invokevirtual 68, 3) := dk_182 0 68 (dk_at dksX2_line_2 2 rfl rfl)
theorem dX2_line_52 : decode cX2_line 52 = .ok (.athrow, 1) := dk_191 (dk_at dksX2_line_2 5 rfl rfl)
theorem dX2_line_53 : decode cX2_line 53 = .ok (.iload_n 1, 1) := dk_27 (dk_at dksX2_line_2 6 rfl rfl)
theorem dX2_line_54 : decode cX2_line 54 = .ok (.iconst 3, 1) := dk_6 (dk_at dksX2_line_2 7 rfl rfl)
theorem dX2_line_55 : decode cX2_line 55 = .ok (.if_icmp .le 21, 3) := dk_164 0 21 (dk_at dksX2_line_2 8 rfl rfl)
theorem dX2_line_58 : decode cX2_line 58 = .ok (.aload_n 0, 1) := dk_42 (dk_at dksX2_line_2 11 rfl rfl)
theorem dX2_line_59 : decode cX2_line 59 = .ok (.getfield 75, 3) := dk_180 0 75 (dk_at dksX2_line_2 12 rfl rfl)
theorem dX2_line_62 : decode cX2_line 62 = .ok (.iload_n 1, 1) := dk_27 (dk_at dksX2_line_2 15 rfl rfl)
theorem dX2_line_63 : decode cX2_line 63 = .ok (.ishr, 1) := dk_122 (dk_at dksX2_line_2 16 rfl rfl)
theorem dX2_line_64 : decode cX2_line 64 = .ok (.iconst 1, 1) := dk_4 (dk_at dksX2_line_2 17 rfl rfl)
theorem dX2_line_65 : decode cX2_line 65 = .ok (.iand, 1) := dk_126 (dk_at dksX2_line_2 18 rfl rfl)
theorem dX2_line_66 : decode cX2_line 66 = .ok (.iconst 1, 1) := dk_4 (dk_at dksX2_line_2 19 rfl rfl)
theorem dX2_line_67 : decode cX2_line 67 = .ok (.if_icmp .ne 9, 3) := dk_160 0 9 (dk_at dksX2_line_2 20 rfl rfl)
theorem dX2_line_70 : decode cX2_line 70 = .ok (.aload_n 0, 1) := dk_42 (dk_at dksX2_line_2 23 rfl rfl)
theorem dX2_line_71 : decode cX2_line 71 = .ok (.iconst 3, 1) := dk_6 (dk_at dksX2_line_3 0 rfl rfl)
theorem dX2_line_72 : decode cX2_line 72 = .ok (.invokevirtual 68, 3) := dk_182 0 68 (dk_at dksX2_line_3 1 rfl rfl)
theorem dX2_line_75 : decode cX2_line 75 = .ok (.athrow, 1) := dk_191 (dk_at dksX2_line_3 4 rfl rfl)
theorem dX2_line_76 : decode cX2_line 76 = .ok (.aload_n 0, 1) := dk_42 (dk_at dksX2_line_3 5 rfl rfl)
theorem dX2_line_77 : decode cX2_line 77 = .ok (.invokevirtual 72, 3) := dk_182 0 72 (dk_at dksX2_line_3 6 rfl rfl)
theorem dX2_line_80 : decode cX2_line 80 = .ok (.iload_n 1, 1) := dk_27 (dk_at dksX2_line_3 9 rfl rfl)
theorem dX2_line_81 : decode cX2_line 81 = .ok (.iconst 3, 1) := dk_6 (dk_at dksX2_line_3 10 rfl rfl)
theorem dX2_line_82 : decode cX2_line 82 = .ok (.if_icmp .le 23, 3) := dk_164 0 23 (dk_at dksX2_line_3 11 rfl rfl)
theorem dX2_line_85 : decode cX2_line 85 = .ok (.aload_n 0, 1) := dk_42 (dk_at dksX2_line_3 14 rfl rfl)
theorem dX2_line_86 : decode cX2_line 86 = .ok (.dup, 1) := dk_89 (dk_at dksX2_line_3 15 rfl rfl)
theorem dX2_line_87 : decode cX2_line 87 = .ok (.getfield 75, 3) := dk_180 0 75 (dk_at dksX2_line_3 16 rfl rfl)
theorem dX2_line_90 : decode cX2_line 90 = .ok (.iconst 1, 1) := dk_4 (dk_at dksX2_line_3 19 rfl rfl)
theorem dX2_line_91 : decode cX2_line 91 = .ok (.iload_n 1, 1) := dk_27 (dk_at dksX2_line_3 20 rfl rfl)
theorem dX2_line_92 : decode cX2_line 92 = .ok (.ishl, 1) := dk_120 (dk_at dksX2_line_3 21 rfl rfl)
theorem dX2_line_93 : decode cX2_line 93 = .ok (.ior, 1) := dk_128 (dk_at dksX2_line_3 22 rfl rfl)
theorem dX2_line_94 : decode cX2_line 94 = .ok (.putfield 75, 3) := dk_181 0 75 (dk_at dksX2_line_4 0 rfl rfl)
theorem dX2_line_97 : decode cX2_line 97 = .ok (.aload_n 0, 1) := dk_42 (dk_at dksX2_line_4 3 rfl rfl)
theorem dX2_line_98 : decode cX2_line 98 = .ok (.iload_n 1, 1) := dk_27 (dk_at dksX2_line_4 4 rfl rfl)
theorem dX2_line_99 : decode cX2_line 99 = .ok (.invokevirtual 96, 3) := dk_182 0 96 (dk_at dksX2_line_4 5 rfl rfl)
theorem dX2_line_102 : decode cX2_line 102 = .ok (.goto 63, 3) := dk_167 0 63 (dk_at dksX2_line_4 8 rfl rfl)
theorem dX2_line_105 : decode cX2_line 105 = .ok (.new 100, 3) := dk_187 0 100 (dk_at dksX2_line_4 11 rfl rfl)
theorem dX2_line_108 : decode cX2_line 108 = .ok (.dup, 1) := dk_89 (dk_at dksX2_line_4 14 rfl rfl)
theorem dX2_line_109 : decode cX2_line 109 = .ok (.iload_n 1, 1) := dk_27 (dk_at dksX2_line_4 15 rfl rfl)
theorem dX2_line_110 : decode cX2_line 110 = .ok (.invokespecial 102, 3) := dk_183 0 102 (dk_at dksX2_line_4 16 rfl rfl)
theorem dX2_line_113 : decode cX2_line 113 = .ok (.astore_n 2, 1) := dk_77 (dk_at dksX2_line_4 19 rfl rfl)
theorem dX2_line_114 : decode cX2_line 114 = .ok (.iload_n 1, 1) := dk_27 (dk_at dksX2_line_4 20 rfl rfl)
theorem dX2_line_115 : decode cX2_line 115 = .ok (.iconst 2, 1) := dk_5 (dk_at dksX2_line_4 21 rfl rfl)
theorem dX2_line_116 : decode cX2_line 116 = .ok (.if_icmp .ne 15, 3) := dk_160 0 15 (dk_at dksX2_line_5 0 rfl rfl)
theorem dX2_line_119 : decode cX2_line 119 = .ok (.aload_n 2, 1) := dk_44 (dk_at dksX2_line_5 3 rfl rfl)
theorem dX2_line_120 : decode cX2_line 120 = .ok (.aload_n 0, 1) := dk_42 (dk_at dksX2_line_5 4 rfl rfl)
theorem dX2_line_121 : decode cX2_line 121 = .ok (.iconst 1, 1) := dk_4 (dk_at dksX2_line_5 5 rfl rfl)
theorem dX2_line_122 : decode cX2_line 122 = .ok (.sipush 9999, 3) := dk_17 39 15 (dk_at dksX2_line_5 6 rfl rfl)
theorem dX2_line_125 : decode cX2_line 125 = .ok (.invokevirtual 104, 3) := dk_182 0 104 (dk_at dksX2_line_5 9 rfl rfl)
theorem dX2_line_128 : decode cX2_line 128 = .ok (.putfield 108, 3) := dk_181 0 108 (dk_at dksX2_line_5 12 rfl rfl)
theorem dX2_line_131 : decode cX2_line 131 = .ok (.iload_n 1, 1) := dk_27 (dk_at dksX2_line_5 15 rfl rfl)
theorem dX2_line_132 : decode cX2_line 132 = .ok (.iconst 3, 1) := dk_6 (dk_at dksX2_line_5 16 rfl rfl)
theorem dX2_line_133 : decode cX2_line 133 = .ok (.if_icmp .ne 15, 3) := dk_160 0 15 (dk_at dksX2_line_5 17 rfl rfl)
theorem dX2_line_136 : decode cX2_line 136 = .ok (.aload_n 2, 1) := dk_44 (dk_at dksX2_line_5 20 rfl rfl)
theorem dX2_line_137 : decode cX2_line 137 = .ok (.aload_n 0, 1) := dk_42 (dk_at dksX2_line_5 21 rfl rfl)
theorem dX2_line_138 : decode cX2_line 138 = .ok (.iconst 0, 1) := dk_3 (dk_at dksX2_line_5 22 rfl rfl)
theorem dX2_line_139 : decode cX2_line 139 = .ok (.sipush 200, 3) := dk_17 0 200 (dk_at dksX2_line_6 0 rfl rfl)
theorem dX2_line_142 : decode cX2_line 142 = .ok (.invokevirtual 104, 3) := dk_182 0 104 (dk_at dksX2_line_6 3 rfl rfl)
theorem dX2_line_145 : decode cX2_line 145 = .ok (.putfield 108, 3) := dk_181 0 108 (dk_at dksX2_line_6 6 rfl rfl)
theorem dX2_line_148 : decode cX2_line 148 = .ok (.aload_n 0, 1) := dk_42 (dk_at dksX2_line_6 9 rfl rfl)
theorem dX2_line_149 : decode cX2_line 149 = .ok (.aload_n 2, 1) := dk_44 (dk_at dksX2_line_6 10 rfl rfl)
theorem dX2_line_150 : decode cX2_line 150 = .ok (.invokevirtual 110, 3) := dk_182 0 110 (dk_at dksX2_line_6 11 rfl rfl)
theorem dX2_line_153 : decode cX2_line 153 = .ok (.aload_n 0, 1) := dk_42 (dk_at dksX2_line_6 14 rfl rfl)
theorem dX2_line_154 : decode cX2_line 154 = .ok (.getfield 81, 3) := dk_180 0 81 (dk_at dksX2_line_6 15 rfl rfl)
theorem dX2_line_157 : decode cX2_line 157 = .ok (.getfield 88, 3) := dk_180 0 88 (dk_at dksX2_line_6 18 rfl rfl)
theorem dX2_line_160 : decode cX2_line 160 = .ok (.aload_n 2, 1) := dk_44 (dk_at dksX2_line_6 21 rfl rfl)
theorem dX2_line_161 : decode cX2_line 161 = .ok (.invokevirtual 114, 3) := dk_182 0 114 (dk_at dksX2_line_7 0 rfl rfl)
theorem dX2_line_164 : decode cX2_line 164 = .ok (.pop, 1) := dk_87 (dk_at dksX2_line_7 3 rfl rfl)
theorem dX2_line_165 : decode cX2_line 165 = .ok (.aload_n 0, 1) := dk_42 (dk_at dksX2_line_7 4 rfl rfl)
theorem dX2_line_166 : decode cX2_line 166 = .ok (.getfield 33, 3) := dk_180 0 33 (dk_at dksX2_line_7 5 rfl rfl)
theorem dX2_line_169 : decode cX2_line 169 = .ok (.iconst 2, 1) := dk_5 (dk_at dksX2_line_7 8 rfl rfl)
theorem dX2_line_170 : decode cX2_line 170 = .ok (.if_icmp .eq 9, 3) := dk_159 0 9 (dk_at dksX2_line_7 9 rfl rfl)
theorem dX2_line_173 : decode cX2_line 173 = .ok (.aload_n 0, 1) := dk_42 (dk_at dksX2_line_7 12 rfl rfl)
theorem dX2_line_174 : decode cX2_line 174 = .ok (.iconst 1, 1) := dk_4 (dk_at dksX2_line_7 13 rfl rfl)
theorem dX2_line_175 : decode cX2_line 175 = .ok (.invokevirtual 68, 3) := dk_182 0 68 (dk_at dksX2_line_7 14 rfl rfl)
theorem dX2_line_178 : decode cX2_line 178 = .ok (.athrow, 1) := dk_191 (dk_at dksX2_line_7 17 rfl rfl)
theorem dX2_line_179 : decode cX2_line 179 = .ok (.aload_n 0, 1) := dk_42 (dk_at dksX2_line_7 18 rfl rfl)
theorem dX2_line_180 : decode cX2_line 180 = .ok (.invokevirtual 72, 3) := dk_182 0 72 (dk_at dksX2_line_7 19 rfl rfl)
theorem dX2_line_183 : decode cX2_line 183 = .ok (.aload_n 0, 1) := dk_42 (dk_at dksX2_line_7 22 rfl rfl)
theorem dX2_line_184 : decode cX2_line 184 = .ok (.getfield 81, 3) := dk_180 0 81 (dk_at dksX2_line_8 0 rfl rfl)
theorem dX2_line_187 : decode cX2_line 187 = .ok (.dup, 1) := dk_89 (dk_at dksX2_line_8 3 rfl rfl)
theorem dX2_line_188 : decode cX2_line 188 = .ok (.getfield 118, 3) := dk_180 0 118 (dk_at dksX2_line_8 4 rfl rfl)
theorem dX2_line_191 : decode cX2_line 191 = .ok (.iconst 1, 1) := dk_4 (dk_at dksX2_line_8 7 rfl rfl)
theorem dX2_line_192 : decode cX2_line 192 = .ok (.iadd, 1) := dk_96 (dk_at dksX2_line_8 8 rfl rfl)
theorem dX2_line_193 : decode cX2_line 193 = .ok (.putfield 118, 3) := dk_181 0 118 (dk_at dksX2_line_8 9 rfl rfl)
theorem dX2_line_196 : decode cX2_line 196 = .ok (.return_, 1) := dk_177 (dk_at dksX2_line_8 12 rfl rfl)
abbrev cX2_wrong : ByteArray := prog_13_method_5_code
def yX2_wrong : MethodName := ⟨RX2, "wrong", "(I)LLifeRents$Fault;"⟩
def dkwX2_wrong_0 : List UInt8 := [187, 0, 59, 89, 27, 42, 180, 0, 30, 183, 0, 61, 176]
abbrev dktX2_wrong_0 : List UInt8 := dkwX2_wrong_0 ++ []
theorem dksX2_wrong_0 : cX2_wrong.data.toList.drop 0 = dktX2_wrong_0 := by decide +kernel
theorem dX2_wrong_0 : decode cX2_wrong 0 = .ok (.new 59, 3) := dk_187 0 59 (dk_at dksX2_wrong_0 0 rfl rfl)
theorem dX2_wrong_3 : decode cX2_wrong 3 = .ok (.dup, 1) := dk_89 (dk_at dksX2_wrong_0 3 rfl rfl)
theorem dX2_wrong_4 : decode cX2_wrong 4 = .ok (.iload_n 1, 1) := dk_27 (dk_at dksX2_wrong_0 4 rfl rfl)
theorem dX2_wrong_5 : decode cX2_wrong 5 = .ok (.aload_n 0, 1) := dk_42 (dk_at dksX2_wrong_0 5 rfl rfl)
theorem dX2_wrong_6 : decode cX2_wrong 6 = .ok (.getfield 30, 3) := dk_180 0 30 (dk_at dksX2_wrong_0 6 rfl rfl)
theorem dX2_wrong_9 : decode cX2_wrong 9 = .ok (.invokespecial 61, 3) := dk_183 0 61 (dk_at dksX2_wrong_0 9 rfl rfl)
theorem dX2_wrong_12 : decode cX2_wrong 12 = .ok (.areturn, 1) := dk_176 (dk_at dksX2_wrong_0 12 rfl rfl)
abbrev cX2_setting : ByteArray := prog_13_method_11_code
def yX2_setting : MethodName := ⟨RX2, "setting", "(I)V"⟩
def dkwX2_setting_3 : List UInt8 := [42, 4, 6, 182, 0, 104, 181, 0, 130, 177]
abbrev dktX2_setting_3 : List UInt8 := dkwX2_setting_3 ++ []
def dkwX2_setting_2 : List UInt8 := [160, 0, 20, 42, 180, 0, 81, 42, 5, 16, 99, 182, 0, 104, 181, 0, 127, 167, 0, 16, 42, 180, 0, 81]
abbrev dktX2_setting_2 : List UInt8 := dkwX2_setting_2 ++ dktX2_setting_3
def dkwX2_setting_1 : List UInt8 := [160, 0, 20, 42, 180, 0, 81, 42, 3, 16, 9, 182, 0, 104, 181, 0, 124, 167, 0, 39, 27, 16, 6]
abbrev dktX2_setting_1 : List UInt8 := dkwX2_setting_1 ++ dktX2_setting_2
def dkwX2_setting_0 : List UInt8 := [27, 7, 160, 0, 20, 42, 180, 0, 81, 42, 3, 16, 40, 182, 0, 104, 181, 0, 121, 167, 0, 61, 27, 8]
abbrev dktX2_setting_0 : List UInt8 := dkwX2_setting_0 ++ dktX2_setting_1
theorem dksX2_setting_0 : cX2_setting.data.toList.drop 0 = dktX2_setting_0 := by decide +kernel
theorem dksX2_setting_1 : cX2_setting.data.toList.drop 24 = dktX2_setting_1 := dk_seg dksX2_setting_0 24 rfl rfl
theorem dksX2_setting_2 : cX2_setting.data.toList.drop 47 = dktX2_setting_2 := dk_seg dksX2_setting_1 23 rfl rfl
theorem dksX2_setting_3 : cX2_setting.data.toList.drop 71 = dktX2_setting_3 := dk_seg dksX2_setting_2 24 rfl rfl
theorem dX2_setting_0 : decode cX2_setting 0 = .ok (.iload_n 1, 1) := dk_27 (dk_at dksX2_setting_0 0 rfl rfl)
theorem dX2_setting_1 : decode cX2_setting 1 = .ok (.iconst 4, 1) := dk_7 (dk_at dksX2_setting_0 1 rfl rfl)
theorem dX2_setting_2 : decode cX2_setting 2 = .ok (.if_icmp .ne 20, 3) := dk_160 0 20 (dk_at dksX2_setting_0 2 rfl rfl)
theorem dX2_setting_5 : decode cX2_setting 5 = .ok (.aload_n 0, 1) := dk_42 (dk_at dksX2_setting_0 5 rfl rfl)
theorem dX2_setting_6 : decode cX2_setting 6 = .ok (.getfield 81, 3) := dk_180 0 81 (dk_at dksX2_setting_0 6 rfl rfl)
theorem dX2_setting_9 : decode cX2_setting 9 = .ok (.aload_n 0, 1) := dk_42 (dk_at dksX2_setting_0 9 rfl rfl)
theorem dX2_setting_10 : decode cX2_setting 10 = .ok (.iconst 0, 1) := dk_3 (dk_at dksX2_setting_0 10 rfl rfl)
theorem dX2_setting_11 : decode cX2_setting 11 = .ok (.bipush 40, 2) := dk_16 40 (dk_at dksX2_setting_0 11 rfl rfl)
theorem dX2_setting_13 : decode cX2_setting 13 = .ok (.invokevirtual 104, 3) := dk_182 0 104 (dk_at dksX2_setting_0 13 rfl rfl)
theorem dX2_setting_16 : decode cX2_setting 16 = .ok (.putfield 121, 3) := dk_181 0 121 (dk_at dksX2_setting_0 16 rfl rfl)
theorem dX2_setting_19 : decode cX2_setting 19 = .ok (.goto 61, 3) := dk_167 0 61 (dk_at dksX2_setting_0 19 rfl rfl)
theorem dX2_setting_22 : decode cX2_setting 22 = .ok (.iload_n 1, 1) := dk_27 (dk_at dksX2_setting_0 22 rfl rfl)
theorem dX2_setting_23 : decode cX2_setting 23 = .ok (.iconst 5, 1) := dk_8 (dk_at dksX2_setting_0 23 rfl rfl)
theorem dX2_setting_24 : decode cX2_setting 24 = .ok (.if_icmp .ne 20, 3) := dk_160 0 20 (dk_at dksX2_setting_1 0 rfl rfl)
theorem dX2_setting_27 : decode cX2_setting 27 = .ok (.aload_n 0, 1) := dk_42 (dk_at dksX2_setting_1 3 rfl rfl)
theorem dX2_setting_28 : decode cX2_setting 28 = .ok (.getfield 81, 3) := dk_180 0 81 (dk_at dksX2_setting_1 4 rfl rfl)
theorem dX2_setting_31 : decode cX2_setting 31 = .ok (.aload_n 0, 1) := dk_42 (dk_at dksX2_setting_1 7 rfl rfl)
theorem dX2_setting_32 : decode cX2_setting 32 = .ok (.iconst 0, 1) := dk_3 (dk_at dksX2_setting_1 8 rfl rfl)
theorem dX2_setting_33 : decode cX2_setting 33 = .ok (.bipush 9, 2) := dk_16 9 (dk_at dksX2_setting_1 9 rfl rfl)
theorem dX2_setting_35 : decode cX2_setting 35 = .ok (.invokevirtual 104, 3) := dk_182 0 104 (dk_at dksX2_setting_1 11 rfl rfl)
theorem dX2_setting_38 : decode cX2_setting 38 = .ok (.putfield 124, 3) := dk_181 0 124 (dk_at dksX2_setting_1 14 rfl rfl)
theorem dX2_setting_41 : decode cX2_setting 41 = .ok (.goto 39, 3) := dk_167 0 39 (dk_at dksX2_setting_1 17 rfl rfl)
theorem dX2_setting_44 : decode cX2_setting 44 = .ok (.iload_n 1, 1) := dk_27 (dk_at dksX2_setting_1 20 rfl rfl)
theorem dX2_setting_45 : decode cX2_setting 45 = .ok (.bipush 6, 2) := dk_16 6 (dk_at dksX2_setting_1 21 rfl rfl)
theorem dX2_setting_47 : decode cX2_setting 47 = .ok (.if_icmp .ne 20, 3) := dk_160 0 20 (dk_at dksX2_setting_2 0 rfl rfl)
theorem dX2_setting_50 : decode cX2_setting 50 = .ok (.aload_n 0, 1) := dk_42 (dk_at dksX2_setting_2 3 rfl rfl)
theorem dX2_setting_51 : decode cX2_setting 51 = .ok (.getfield 81, 3) := dk_180 0 81 (dk_at dksX2_setting_2 4 rfl rfl)
theorem dX2_setting_54 : decode cX2_setting 54 = .ok (.aload_n 0, 1) := dk_42 (dk_at dksX2_setting_2 7 rfl rfl)
theorem dX2_setting_55 : decode cX2_setting 55 = .ok (.iconst 2, 1) := dk_5 (dk_at dksX2_setting_2 8 rfl rfl)
theorem dX2_setting_56 : decode cX2_setting 56 = .ok (.bipush 99, 2) := dk_16 99 (dk_at dksX2_setting_2 9 rfl rfl)
theorem dX2_setting_58 : decode cX2_setting 58 = .ok (.invokevirtual 104, 3) := dk_182 0 104 (dk_at dksX2_setting_2 11 rfl rfl)
theorem dX2_setting_61 : decode cX2_setting 61 = .ok (.putfield 127, 3) := dk_181 0 127 (dk_at dksX2_setting_2 14 rfl rfl)
theorem dX2_setting_64 : decode cX2_setting 64 = .ok (.goto 16, 3) := dk_167 0 16 (dk_at dksX2_setting_2 17 rfl rfl)
theorem dX2_setting_67 : decode cX2_setting 67 = .ok (.aload_n 0, 1) := dk_42 (dk_at dksX2_setting_2 20 rfl rfl)
theorem dX2_setting_68 : decode cX2_setting 68 = .ok (.getfield 81, 3) := dk_180 0 81 (dk_at dksX2_setting_2 21 rfl rfl)
theorem dX2_setting_71 : decode cX2_setting 71 = .ok (.aload_n 0, 1) := dk_42 (dk_at dksX2_setting_3 0 rfl rfl)
theorem dX2_setting_72 : decode cX2_setting 72 = .ok (.iconst 1, 1) := dk_4 (dk_at dksX2_setting_3 1 rfl rfl)
theorem dX2_setting_73 : decode cX2_setting 73 = .ok (.iconst 3, 1) := dk_6 (dk_at dksX2_setting_3 2 rfl rfl)
theorem dX2_setting_74 : decode cX2_setting 74 = .ok (.invokevirtual 104, 3) := dk_182 0 104 (dk_at dksX2_setting_3 3 rfl rfl)
theorem dX2_setting_77 : decode cX2_setting 77 = .ok (.putfield 130, 3) := dk_181 0 130 (dk_at dksX2_setting_3 6 rfl rfl)
theorem dX2_setting_80 : decode cX2_setting 80 = .ok (.return_, 1) := dk_177 (dk_at dksX2_setting_3 9 rfl rfl)
abbrev cX2_number : ByteArray := prog_13_method_8_code
def yX2_number : MethodName := ⟨RX2, "number", "(II)I"⟩
def dkwX2_number_1 : List UInt8 := [154, 0, 9, 42, 5, 182, 0, 68, 191, 42, 180, 0, 43, 62, 42, 182, 0, 72, 29, 172]
abbrev dktX2_number_1 : List UInt8 := dkwX2_number_1 ++ []
def dkwX2_number_0 : List UInt8 := [42, 180, 0, 33, 4, 159, 0, 9, 42, 4, 182, 0, 68, 191, 42, 180, 0, 43, 27, 28, 184, 0, 36]
abbrev dktX2_number_0 : List UInt8 := dkwX2_number_0 ++ dktX2_number_1
theorem dksX2_number_0 : cX2_number.data.toList.drop 0 = dktX2_number_0 := by decide +kernel
theorem dksX2_number_1 : cX2_number.data.toList.drop 23 = dktX2_number_1 := dk_seg dksX2_number_0 23 rfl rfl
theorem dX2_number_0 : decode cX2_number 0 = .ok (.aload_n 0, 1) := dk_42 (dk_at dksX2_number_0 0 rfl rfl)
theorem dX2_number_1 : decode cX2_number 1 = .ok (.getfield 33, 3) := dk_180 0 33 (dk_at dksX2_number_0 1 rfl rfl)
theorem dX2_number_4 : decode cX2_number 4 = .ok (.iconst 1, 1) := dk_4 (dk_at dksX2_number_0 4 rfl rfl)
theorem dX2_number_5 : decode cX2_number 5 = .ok (.if_icmp .eq 9, 3) := dk_159 0 9 (dk_at dksX2_number_0 5 rfl rfl)
theorem dX2_number_8 : decode cX2_number 8 = .ok (.aload_n 0, 1) := dk_42 (dk_at dksX2_number_0 8 rfl rfl)
theorem dX2_number_9 : decode cX2_number 9 = .ok (.iconst 1, 1) := dk_4 (dk_at dksX2_number_0 9 rfl rfl)
theorem dX2_number_10 : decode cX2_number 10 = .ok (.invokevirtual 68, 3) := dk_182 0 68 (dk_at dksX2_number_0 10 rfl rfl)
theorem dX2_number_13 : decode cX2_number 13 = .ok (.athrow, 1) := dk_191 (dk_at dksX2_number_0 13 rfl rfl)
theorem dX2_number_14 : decode cX2_number 14 = .ok (.aload_n 0, 1) := dk_42 (dk_at dksX2_number_0 14 rfl rfl)
theorem dX2_number_15 : decode cX2_number 15 = .ok (.getfield 43, 3) := dk_180 0 43 (dk_at dksX2_number_0 15 rfl rfl)
theorem dX2_number_18 : decode cX2_number 18 = .ok (.iload_n 1, 1) := dk_27 (dk_at dksX2_number_0 18 rfl rfl)
theorem dX2_number_19 : decode cX2_number 19 = .ok (.iload_n 2, 1) := dk_28 (dk_at dksX2_number_0 19 rfl rfl)
theorem dX2_number_20 : decode cX2_number 20 = .ok (.invokestatic 36, 3) := dk_184 0 36 (dk_at dksX2_number_0 20 rfl rfl)
theorem dX2_number_23 : decode cX2_number 23 = .ok (.ifCond .ne 9, 3) := dk_154 0 9 (dk_at dksX2_number_1 0 rfl rfl)
theorem dX2_number_26 : decode cX2_number 26 = .ok (.aload_n 0, 1) := dk_42 (dk_at dksX2_number_1 3 rfl rfl)
theorem dX2_number_27 : decode cX2_number 27 = .ok (.iconst 2, 1) := dk_5 (dk_at dksX2_number_1 4 rfl rfl)
theorem dX2_number_28 : decode cX2_number 28 = .ok (.invokevirtual 68, 3) := dk_182 0 68 (dk_at dksX2_number_1 5 rfl rfl)
theorem dX2_number_31 : decode cX2_number 31 = .ok (.athrow, 1) := dk_191 (dk_at dksX2_number_1 8 rfl rfl)
theorem dX2_number_32 : decode cX2_number 32 = .ok (.aload_n 0, 1) := dk_42 (dk_at dksX2_number_1 9 rfl rfl)
theorem dX2_number_33 : decode cX2_number 33 = .ok (.getfield 43, 3) := dk_180 0 43 (dk_at dksX2_number_1 10 rfl rfl)
theorem dX2_number_36 : decode cX2_number 36 = .ok (.istore_n 3, 1) := dk_62 (dk_at dksX2_number_1 13 rfl rfl)
theorem dX2_number_37 : decode cX2_number 37 = .ok (.aload_n 0, 1) := dk_42 (dk_at dksX2_number_1 14 rfl rfl)
theorem dX2_number_38 : decode cX2_number 38 = .ok (.invokevirtual 72, 3) := dk_182 0 72 (dk_at dksX2_number_1 15 rfl rfl)
theorem dX2_number_41 : decode cX2_number 41 = .ok (.iload_n 3, 1) := dk_29 (dk_at dksX2_number_1 18 rfl rfl)
theorem dX2_number_42 : decode cX2_number 42 = .ok (.ireturn, 1) := dk_172 (dk_at dksX2_number_1 19 rfl rfl)
abbrev cX2_whom : ByteArray := prog_13_method_12_code
def yX2_whom : MethodName := ⟨RX2, "whom", "(LLifeRents$Line;)V"⟩
def dkwX2_whom_7 : List UInt8 := [29, 16, 11, 160, 0, 7, 5, 167, 0, 4, 4, 181, 0, 151, 167, 255, 80, 177]
abbrev dktX2_whom_7 : List UInt8 := dkwX2_whom_7 ++ []
def dkwX2_whom_6 : List UInt8 := [182, 0, 104, 181, 0, 145, 167, 0, 32, 29, 16, 9, 160, 0, 11, 42, 43, 182, 0, 148, 167, 0, 18, 43]
abbrev dktX2_whom_6 : List UInt8 := dkwX2_whom_6 ++ dktX2_whom_7
def dkwX2_whom_5 : List UInt8 := [16, 79, 182, 0, 104, 181, 0, 142, 42, 16, 13, 182, 0, 136, 43, 42, 43, 180, 0, 142, 16, 79]
abbrev dktX2_whom_5 : List UInt8 := dkwX2_whom_5 ++ dktX2_whom_6
def dkwX2_whom_4 : List UInt8 := [180, 0, 133, 17, 0, 130, 182, 0, 104, 181, 0, 139, 167, 0, 72, 29, 16, 10, 160, 0, 37, 43, 42, 3]
abbrev dktX2_whom_4 : List UInt8 := dkwX2_whom_4 ++ dktX2_whom_5
def dkwX2_whom_3 : List UInt8 := [160, 0, 39, 43, 42, 3, 17, 0, 130, 182, 0, 104, 181, 0, 133, 42, 16, 13, 182, 0, 136, 43, 42, 43]
abbrev dktX2_whom_3 : List UInt8 := dkwX2_whom_3 ++ dktX2_whom_4
def dkwX2_whom_2 : List UInt8 := [126, 153, 0, 9, 42, 6, 182, 0, 68, 191, 28, 21, 4, 128, 61, 42, 182, 0, 72, 29, 16, 8]
abbrev dktX2_whom_2 : List UInt8 := dkwX2_whom_2 ++ dktX2_whom_3
def dkwX2_whom_1 : List UInt8 := [180, 0, 43, 62, 29, 16, 12, 160, 0, 9, 17, 8, 0, 167, 0, 6, 4, 29, 120, 54, 4, 28, 21, 4]
abbrev dktX2_whom_1 : List UInt8 := dkwX2_whom_1 ++ dktX2_whom_2
def dkwX2_whom_0 : List UInt8 := [3, 61, 42, 180, 0, 33, 154, 0, 175, 42, 180, 0, 43, 16, 8, 16, 12, 184, 0, 36, 153, 0, 161, 42]
abbrev dktX2_whom_0 : List UInt8 := dkwX2_whom_0 ++ dktX2_whom_1
theorem dksX2_whom_0 : cX2_whom.data.toList.drop 0 = dktX2_whom_0 := by decide +kernel
theorem dksX2_whom_1 : cX2_whom.data.toList.drop 24 = dktX2_whom_1 := dk_seg dksX2_whom_0 24 rfl rfl
theorem dksX2_whom_2 : cX2_whom.data.toList.drop 48 = dktX2_whom_2 := dk_seg dksX2_whom_1 24 rfl rfl
theorem dksX2_whom_3 : cX2_whom.data.toList.drop 70 = dktX2_whom_3 := dk_seg dksX2_whom_2 22 rfl rfl
theorem dksX2_whom_4 : cX2_whom.data.toList.drop 94 = dktX2_whom_4 := dk_seg dksX2_whom_3 24 rfl rfl
theorem dksX2_whom_5 : cX2_whom.data.toList.drop 118 = dktX2_whom_5 := dk_seg dksX2_whom_4 24 rfl rfl
theorem dksX2_whom_6 : cX2_whom.data.toList.drop 140 = dktX2_whom_6 := dk_seg dksX2_whom_5 22 rfl rfl
theorem dksX2_whom_7 : cX2_whom.data.toList.drop 164 = dktX2_whom_7 := dk_seg dksX2_whom_6 24 rfl rfl
theorem dX2_whom_0 : decode cX2_whom 0 = .ok (.iconst 0, 1) := dk_3 (dk_at dksX2_whom_0 0 rfl rfl)
theorem dX2_whom_1 : decode cX2_whom 1 = .ok (.istore_n 2, 1) := dk_61 (dk_at dksX2_whom_0 1 rfl rfl)
theorem dX2_whom_2 : decode cX2_whom 2 = .ok (.aload_n 0, 1) := dk_42 (dk_at dksX2_whom_0 2 rfl rfl)
theorem dX2_whom_3 : decode cX2_whom 3 = .ok (.getfield 33, 3) := dk_180 0 33 (dk_at dksX2_whom_0 3 rfl rfl)
theorem dX2_whom_6 : decode cX2_whom 6 = .ok (.ifCond .ne 175, 3) := dk_154 0 175 (dk_at dksX2_whom_0 6 rfl rfl)
theorem dX2_whom_9 : decode cX2_whom 9 = .ok (.aload_n 0, 1) := dk_42 (dk_at dksX2_whom_0 9 rfl rfl)
theorem dX2_whom_10 : decode cX2_whom 10 = .ok (.getfield 43, 3) := dk_180 0 43 (dk_at dksX2_whom_0 10 rfl rfl)
theorem dX2_whom_13 : decode cX2_whom 13 = .ok (.bipush 8, 2) := dk_16 8 (dk_at dksX2_whom_0 13 rfl rfl)
theorem dX2_whom_15 : decode cX2_whom 15 = .ok (.bipush 12, 2) := dk_16 12 (dk_at dksX2_whom_0 15 rfl rfl)
theorem dX2_whom_17 : decode cX2_whom 17 = .ok (.invokestatic 36, 3) := dk_184 0 36 (dk_at dksX2_whom_0 17 rfl rfl)
theorem dX2_whom_20 : decode cX2_whom 20 = .ok (.ifCond .eq 161, 3) := dk_153 0 161 (dk_at dksX2_whom_0 20 rfl rfl)
theorem dX2_whom_23 : decode cX2_whom 23 = .ok (.aload_n 0, 1) := dk_42 (dk_at dksX2_whom_0 23 rfl rfl)
theorem dX2_whom_24 : decode cX2_whom 24 = .ok (.getfield 43, 3) := dk_180 0 43 (dk_at dksX2_whom_1 0 rfl rfl)
theorem dX2_whom_27 : decode cX2_whom 27 = .ok (.istore_n 3, 1) := dk_62 (dk_at dksX2_whom_1 3 rfl rfl)
theorem dX2_whom_28 : decode cX2_whom 28 = .ok (.iload_n 3, 1) := dk_29 (dk_at dksX2_whom_1 4 rfl rfl)
theorem dX2_whom_29 : decode cX2_whom 29 = .ok (.bipush 12, 2) := dk_16 12 (dk_at dksX2_whom_1 5 rfl rfl)
theorem dX2_whom_31 : decode cX2_whom 31 = .ok (.if_icmp .ne 9, 3) := dk_160 0 9 (dk_at dksX2_whom_1 7 rfl rfl)
theorem dX2_whom_34 : decode cX2_whom 34 = .ok (.sipush 2048, 3) := dk_17 8 0 (dk_at dksX2_whom_1 10 rfl rfl)
theorem dX2_whom_37 : decode cX2_whom 37 = .ok (.goto 6, 3) := dk_167 0 6 (dk_at dksX2_whom_1 13 rfl rfl)
theorem dX2_whom_40 : decode cX2_whom 40 = .ok (.iconst 1, 1) := dk_4 (dk_at dksX2_whom_1 16 rfl rfl)
theorem dX2_whom_41 : decode cX2_whom 41 = .ok (.iload_n 3, 1) := dk_29 (dk_at dksX2_whom_1 17 rfl rfl)
theorem dX2_whom_42 : decode cX2_whom 42 = .ok (.ishl, 1) := dk_120 (dk_at dksX2_whom_1 18 rfl rfl)
theorem dX2_whom_43 : decode cX2_whom 43 = .ok (.istore 4, 2) := dk_54 4 (dk_at dksX2_whom_1 19 rfl rfl)
theorem dX2_whom_45 : decode cX2_whom 45 = .ok (.iload_n 2, 1) := dk_28 (dk_at dksX2_whom_1 21 rfl rfl)
theorem dX2_whom_46 : decode cX2_whom 46 = .ok (.iload 4, 2) := dk_21 4 (dk_at dksX2_whom_1 22 rfl rfl)
theorem dX2_whom_48 : decode cX2_whom 48 = .ok (.iand, 1) := dk_126 (dk_at dksX2_whom_2 0 rfl rfl)
theorem dX2_whom_49 : decode cX2_whom 49 = .ok (.ifCond .eq 9, 3) := dk_153 0 9 (dk_at dksX2_whom_2 1 rfl rfl)
theorem dX2_whom_52 : decode cX2_whom 52 = .ok (.aload_n 0, 1) := dk_42 (dk_at dksX2_whom_2 4 rfl rfl)
theorem dX2_whom_53 : decode cX2_whom 53 = .ok (.iconst 3, 1) := dk_6 (dk_at dksX2_whom_2 5 rfl rfl)
theorem dX2_whom_54 : decode cX2_whom 54 = .ok (.invokevirtual 68, 3) := dk_182 0 68 (dk_at dksX2_whom_2 6 rfl rfl)
theorem dX2_whom_57 : decode cX2_whom 57 = .ok (.athrow, 1) := dk_191 (dk_at dksX2_whom_2 9 rfl rfl)
theorem dX2_whom_58 : decode cX2_whom 58 = .ok (.iload_n 2, 1) := dk_28 (dk_at dksX2_whom_2 10 rfl rfl)
theorem dX2_whom_59 : decode cX2_whom 59 = .ok (.iload 4, 2) := dk_21 4 (dk_at dksX2_whom_2 11 rfl rfl)
theorem dX2_whom_61 : decode cX2_whom 61 = .ok (.ior, 1) := dk_128 (dk_at dksX2_whom_2 13 rfl rfl)
theorem dX2_whom_62 : decode cX2_whom 62 = .ok (.istore_n 2, 1) := dk_61 (dk_at dksX2_whom_2 14 rfl rfl)
theorem dX2_whom_63 : decode cX2_whom 63 = .ok (.aload_n 0, 1) := dk_42 (dk_at dksX2_whom_2 15 rfl rfl)
theorem dX2_whom_64 : decode cX2_whom 64 = .ok (.invokevirtual 72, 3) := dk_182 0 72 (dk_at dksX2_whom_2 16 rfl rfl)
theorem dX2_whom_67 : decode cX2_whom 67 = .ok (.iload_n 3, 1) := dk_29 (dk_at dksX2_whom_2 19 rfl rfl)
theorem dX2_whom_68 : decode cX2_whom 68 = .ok (.bipush 8, 2) := dk_16 8 (dk_at dksX2_whom_2 20 rfl rfl)
theorem dX2_whom_70 : decode cX2_whom 70 = .ok (.if_icmp .ne 39, 3) := dk_160 0 39 (dk_at dksX2_whom_3 0 rfl rfl)
theorem dX2_whom_73 : decode cX2_whom 73 = .ok (.aload_n 1, 1) := dk_43 (dk_at dksX2_whom_3 3 rfl rfl)
theorem dX2_whom_74 : decode cX2_whom 74 = .ok (.aload_n 0, 1) := dk_42 (dk_at dksX2_whom_3 4 rfl rfl)
theorem dX2_whom_75 : decode cX2_whom 75 = .ok (.iconst 0, 1) := dk_3 (dk_at dksX2_whom_3 5 rfl rfl)
theorem dX2_whom_76 : decode cX2_whom 76 = .ok (.sipush 130, 3) := dk_17 0 130 (dk_at dksX2_whom_3 6 rfl rfl)
theorem dX2_whom_79 : decode cX2_whom 79 = .ok (.invokevirtual 104, 3) := dk_182 0 104 (dk_at dksX2_whom_3 9 rfl rfl)
theorem dX2_whom_82 : decode cX2_whom 82 = .ok (.putfield 133, 3) := dk_181 0 133 (dk_at dksX2_whom_3 12 rfl rfl)
theorem dX2_whom_85 : decode cX2_whom 85 = .ok (.aload_n 0, 1) := dk_42 (dk_at dksX2_whom_3 15 rfl rfl)
theorem dX2_whom_86 : decode cX2_whom 86 = .ok (.bipush 13, 2) := dk_16 13 (dk_at dksX2_whom_3 16 rfl rfl)
theorem dX2_whom_88 : decode cX2_whom 88 = .ok (.invokevirtual 136, 3) := dk_182 0 136 (dk_at dksX2_whom_3 18 rfl rfl)
theorem dX2_whom_91 : decode cX2_whom 91 = .ok (.aload_n 1, 1) := dk_43 (dk_at dksX2_whom_3 21 rfl rfl)
theorem dX2_whom_92 : decode cX2_whom 92 = .ok (.aload_n 0, 1) := dk_42 (dk_at dksX2_whom_3 22 rfl rfl)
theorem dX2_whom_93 : decode cX2_whom 93 = .ok (.aload_n 1, 1) := dk_43 (dk_at dksX2_whom_3 23 rfl rfl)
theorem dX2_whom_94 : decode cX2_whom 94 = .ok (.getfield 133, 3) := dk_180 0 133 (dk_at dksX2_whom_4 0 rfl rfl)
theorem dX2_whom_97 : decode cX2_whom 97 = .ok (.sipush 130, 3) := dk_17 0 130 (dk_at dksX2_whom_4 3 rfl rfl)
theorem dX2_whom_100 : decode cX2_whom 100 = .ok (.invokevirtual 104, 3) := dk_182 0 104 (dk_at dksX2_whom_4 6 rfl rfl)
theorem dX2_whom_103 : decode cX2_whom 103 = .ok (.putfield 139, 3) := dk_181 0 139 (dk_at dksX2_whom_4 9 rfl rfl)
theorem dX2_whom_106 : decode cX2_whom 106 = .ok (.goto 72, 3) := dk_167 0 72 (dk_at dksX2_whom_4 12 rfl rfl)
theorem dX2_whom_109 : decode cX2_whom 109 = .ok (.iload_n 3, 1) := dk_29 (dk_at dksX2_whom_4 15 rfl rfl)
theorem dX2_whom_110 : decode cX2_whom 110 = .ok (.bipush 10, 2) := dk_16 10 (dk_at dksX2_whom_4 16 rfl rfl)
theorem dX2_whom_112 : decode cX2_whom 112 = .ok (.if_icmp .ne 37, 3) := dk_160 0 37 (dk_at dksX2_whom_4 18 rfl rfl)
theorem dX2_whom_115 : decode cX2_whom 115 = .ok (.aload_n 1, 1) := dk_43 (dk_at dksX2_whom_4 21 rfl rfl)
theorem dX2_whom_116 : decode cX2_whom 116 = .ok (.aload_n 0, 1) := dk_42 (dk_at dksX2_whom_4 22 rfl rfl)
theorem dX2_whom_117 : decode cX2_whom 117 = .ok (.iconst 0, 1) := dk_3 (dk_at dksX2_whom_4 23 rfl rfl)
theorem dX2_whom_118 : decode cX2_whom 118 = .ok (.bipush 79, 2) := dk_16 79 (dk_at dksX2_whom_5 0 rfl rfl)
theorem dX2_whom_120 : decode cX2_whom 120 = .ok (.invokevirtual 104, 3) := dk_182 0 104 (dk_at dksX2_whom_5 2 rfl rfl)
theorem dX2_whom_123 : decode cX2_whom 123 = .ok (.putfield 142, 3) := dk_181 0 142 (dk_at dksX2_whom_5 5 rfl rfl)
theorem dX2_whom_126 : decode cX2_whom 126 = .ok (.aload_n 0, 1) := dk_42 (dk_at dksX2_whom_5 8 rfl rfl)
theorem dX2_whom_127 : decode cX2_whom 127 = .ok (.bipush 13, 2) := dk_16 13 (dk_at dksX2_whom_5 9 rfl rfl)
theorem dX2_whom_129 : decode cX2_whom 129 = .ok (.invokevirtual 136, 3) := dk_182 0 136 (dk_at dksX2_whom_5 11 rfl rfl)
theorem dX2_whom_132 : decode cX2_whom 132 = .ok (.aload_n 1, 1) := dk_43 (dk_at dksX2_whom_5 14 rfl rfl)
theorem dX2_whom_133 : decode cX2_whom 133 = .ok (.aload_n 0, 1) := dk_42 (dk_at dksX2_whom_5 15 rfl rfl)
theorem dX2_whom_134 : decode cX2_whom 134 = .ok (.aload_n 1, 1) := dk_43 (dk_at dksX2_whom_5 16 rfl rfl)
theorem dX2_whom_135 : decode cX2_whom 135 = .ok (.getfield 142, 3) := dk_180 0 142 (dk_at dksX2_whom_5 17 rfl rfl)
theorem dX2_whom_138 : decode cX2_whom 138 = .ok (.bipush 79, 2) := dk_16 79 (dk_at dksX2_whom_5 20 rfl rfl)
theorem dX2_whom_140 : decode cX2_whom 140 = .ok (.invokevirtual 104, 3) := dk_182 0 104 (dk_at dksX2_whom_6 0 rfl rfl)
theorem dX2_whom_143 : decode cX2_whom 143 = .ok (.putfield 145, 3) := dk_181 0 145 (dk_at dksX2_whom_6 3 rfl rfl)
theorem dX2_whom_146 : decode cX2_whom 146 = .ok (.goto 32, 3) := dk_167 0 32 (dk_at dksX2_whom_6 6 rfl rfl)
theorem dX2_whom_149 : decode cX2_whom 149 = .ok (.iload_n 3, 1) := dk_29 (dk_at dksX2_whom_6 9 rfl rfl)
theorem dX2_whom_150 : decode cX2_whom 150 = .ok (.bipush 9, 2) := dk_16 9 (dk_at dksX2_whom_6 10 rfl rfl)
theorem dX2_whom_152 : decode cX2_whom 152 = .ok (.if_icmp .ne 11, 3) := dk_160 0 11 (dk_at dksX2_whom_6 12 rfl rfl)
theorem dX2_whom_155 : decode cX2_whom 155 = .ok (.aload_n 0, 1) := dk_42 (dk_at dksX2_whom_6 15 rfl rfl)
theorem dX2_whom_156 : decode cX2_whom 156 = .ok (.aload_n 1, 1) := dk_43 (dk_at dksX2_whom_6 16 rfl rfl)
theorem dX2_whom_157 : decode cX2_whom 157 = .ok (.invokevirtual 148, 3) := dk_182 0 148 (dk_at dksX2_whom_6 17 rfl rfl)
theorem dX2_whom_160 : decode cX2_whom 160 = .ok (.goto 18, 3) := dk_167 0 18 (dk_at dksX2_whom_6 20 rfl rfl)
theorem dX2_whom_163 : decode cX2_whom 163 = .ok (.aload_n 1, 1) := dk_43 (dk_at dksX2_whom_6 23 rfl rfl)
theorem dX2_whom_164 : decode cX2_whom 164 = .ok (.iload_n 3, 1) := dk_29 (dk_at dksX2_whom_7 0 rfl rfl)
theorem dX2_whom_165 : decode cX2_whom 165 = .ok (.bipush 11, 2) := dk_16 11 (dk_at dksX2_whom_7 1 rfl rfl)
theorem dX2_whom_167 : decode cX2_whom 167 = .ok (.if_icmp .ne 7, 3) := dk_160 0 7 (dk_at dksX2_whom_7 3 rfl rfl)
theorem dX2_whom_170 : decode cX2_whom 170 = .ok (.iconst 2, 1) := dk_5 (dk_at dksX2_whom_7 6 rfl rfl)
theorem dX2_whom_171 : decode cX2_whom 171 = .ok (.goto 4, 3) := dk_167 0 4 (dk_at dksX2_whom_7 7 rfl rfl)
theorem dX2_whom_174 : decode cX2_whom 174 = .ok (.iconst 1, 1) := dk_4 (dk_at dksX2_whom_7 10 rfl rfl)
theorem dX2_whom_175 : decode cX2_whom 175 = .ok (.putfield 151, 3) := dk_181 0 151 (dk_at dksX2_whom_7 11 rfl rfl)
theorem dX2_whom_178 : decode cX2_whom 178 = .ok (.goto (-176), 3) := dk_167 255 80 (dk_at dksX2_whom_7 14 rfl rfl)
theorem dX2_whom_181 : decode cX2_whom 181 = .ok (.return_, 1) := dk_177 (dk_at dksX2_whom_7 17 rfl rfl)
abbrev cX2_must : ByteArray := prog_13_method_7_code
def yX2_must : MethodName := ⟨RX2, "must", "(I)V"⟩
def dkwX2_must_0 : List UInt8 := [42, 27, 182, 0, 64, 154, 0, 9, 42, 4, 182, 0, 68, 191, 42, 182, 0, 72, 177]
abbrev dktX2_must_0 : List UInt8 := dkwX2_must_0 ++ []
theorem dksX2_must_0 : cX2_must.data.toList.drop 0 = dktX2_must_0 := by decide +kernel
theorem dX2_must_0 : decode cX2_must 0 = .ok (.aload_n 0, 1) := dk_42 (dk_at dksX2_must_0 0 rfl rfl)
theorem dX2_must_1 : decode cX2_must 1 = .ok (.iload_n 1, 1) := dk_27 (dk_at dksX2_must_0 1 rfl rfl)
theorem dX2_must_2 : decode cX2_must 2 = .ok (.invokevirtual 64, 3) := dk_182 0 64 (dk_at dksX2_must_0 2 rfl rfl)
theorem dX2_must_5 : decode cX2_must 5 = .ok (.ifCond .ne 9, 3) := dk_154 0 9 (dk_at dksX2_must_0 5 rfl rfl)
theorem dX2_must_8 : decode cX2_must 8 = .ok (.aload_n 0, 1) := dk_42 (dk_at dksX2_must_0 8 rfl rfl)
theorem dX2_must_9 : decode cX2_must 9 = .ok (.iconst 1, 1) := dk_4 (dk_at dksX2_must_0 9 rfl rfl)
theorem dX2_must_10 : decode cX2_must 10 = .ok (.invokevirtual 68, 3) := dk_182 0 68 (dk_at dksX2_must_0 10 rfl rfl)
theorem dX2_must_13 : decode cX2_must 13 = .ok (.athrow, 1) := dk_191 (dk_at dksX2_must_0 13 rfl rfl)
theorem dX2_must_14 : decode cX2_must 14 = .ok (.aload_n 0, 1) := dk_42 (dk_at dksX2_must_0 14 rfl rfl)
theorem dX2_must_15 : decode cX2_must 15 = .ok (.invokevirtual 72, 3) := dk_182 0 72 (dk_at dksX2_must_0 15 rfl rfl)
theorem dX2_must_18 : decode cX2_must 18 = .ok (.return_, 1) := dk_177 (dk_at dksX2_must_0 18 rfl rfl)
abbrev cX2_isWord : ByteArray := prog_13_method_6_code
def yX2_isWord : MethodName := ⟨RX2, "isWord", "(I)Z"⟩
def dkwX2_isWord_0 : List UInt8 := [42, 180, 0, 33, 154, 0, 15, 42, 180, 0, 43, 27, 160, 0, 7, 4, 167, 0, 4, 3, 172]
abbrev dktX2_isWord_0 : List UInt8 := dkwX2_isWord_0 ++ []
theorem dksX2_isWord_0 : cX2_isWord.data.toList.drop 0 = dktX2_isWord_0 := by decide +kernel
theorem dX2_isWord_0 : decode cX2_isWord 0 = .ok (.aload_n 0, 1) := dk_42 (dk_at dksX2_isWord_0 0 rfl rfl)
theorem dX2_isWord_1 : decode cX2_isWord 1 = .ok (.getfield 33, 3) := dk_180 0 33 (dk_at dksX2_isWord_0 1 rfl rfl)
theorem dX2_isWord_4 : decode cX2_isWord 4 = .ok (.ifCond .ne 15, 3) := dk_154 0 15 (dk_at dksX2_isWord_0 4 rfl rfl)
theorem dX2_isWord_7 : decode cX2_isWord 7 = .ok (.aload_n 0, 1) := dk_42 (dk_at dksX2_isWord_0 7 rfl rfl)
theorem dX2_isWord_8 : decode cX2_isWord 8 = .ok (.getfield 43, 3) := dk_180 0 43 (dk_at dksX2_isWord_0 8 rfl rfl)
theorem dX2_isWord_11 : decode cX2_isWord 11 = .ok (.iload_n 1, 1) := dk_27 (dk_at dksX2_isWord_0 11 rfl rfl)
theorem dX2_isWord_12 : decode cX2_isWord 12 = .ok (.if_icmp .ne 7, 3) := dk_160 0 7 (dk_at dksX2_isWord_0 12 rfl rfl)
theorem dX2_isWord_15 : decode cX2_isWord 15 = .ok (.iconst 1, 1) := dk_4 (dk_at dksX2_isWord_0 15 rfl rfl)
theorem dX2_isWord_16 : decode cX2_isWord 16 = .ok (.goto 4, 3) := dk_167 0 4 (dk_at dksX2_isWord_0 16 rfl rfl)
theorem dX2_isWord_19 : decode cX2_isWord 19 = .ok (.iconst 0, 1) := dk_3 (dk_at dksX2_isWord_0 19 rfl rfl)
theorem dX2_isWord_20 : decode cX2_isWord 20 = .ok (.ireturn, 1) := dk_172 (dk_at dksX2_isWord_0 20 rfl rfl)
abbrev cX2_classes : ByteArray := prog_13_method_13_code
def yX2_classes : MethodName := ⟨RX2, "classes", "(LLifeRents$Line;)V"⟩
def dkwX2_classes_3 : List UInt8 := [28, 153, 255, 190, 42, 182, 0, 72, 167, 255, 183, 177]
abbrev dktX2_classes_3 : List UInt8 := dkwX2_classes_3 ++ []
def dkwX2_classes_2 : List UInt8 := [43, 89, 180, 0, 154, 4, 42, 3, 6, 182, 0, 104, 120, 128, 181, 0, 154, 42, 16, 14, 182, 0, 64, 61]
abbrev dktX2_classes_2 : List UInt8 := dkwX2_classes_2 ++ dktX2_classes_3
def dkwX2_classes_1 : List UInt8 := [162, 0, 24, 43, 180, 0, 154, 42, 180, 0, 43, 122, 4, 126, 4, 160, 0, 9, 42, 6, 182, 0, 68, 191]
abbrev dktX2_classes_1 : List UInt8 := dkwX2_classes_1 ++ dktX2_classes_2
def dkwX2_classes_0 : List UInt8 := [43, 3, 181, 0, 154, 4, 61, 28, 153, 0, 75, 42, 180, 0, 33, 4, 160, 0, 32, 42, 180, 0, 43, 7]
abbrev dktX2_classes_0 : List UInt8 := dkwX2_classes_0 ++ dktX2_classes_1
theorem dksX2_classes_0 : cX2_classes.data.toList.drop 0 = dktX2_classes_0 := by decide +kernel
theorem dksX2_classes_1 : cX2_classes.data.toList.drop 24 = dktX2_classes_1 := dk_seg dksX2_classes_0 24 rfl rfl
theorem dksX2_classes_2 : cX2_classes.data.toList.drop 48 = dktX2_classes_2 := dk_seg dksX2_classes_1 24 rfl rfl
theorem dksX2_classes_3 : cX2_classes.data.toList.drop 72 = dktX2_classes_3 := dk_seg dksX2_classes_2 24 rfl rfl
theorem dX2_classes_0 : decode cX2_classes 0 = .ok (.aload_n 1, 1) := dk_43 (dk_at dksX2_classes_0 0 rfl rfl)
theorem dX2_classes_1 : decode cX2_classes 1 = .ok (.iconst 0, 1) := dk_3 (dk_at dksX2_classes_0 1 rfl rfl)
theorem dX2_classes_2 : decode cX2_classes 2 = .ok (.putfield 154, 3) := dk_181 0 154 (dk_at dksX2_classes_0 2 rfl rfl)
theorem dX2_classes_5 : decode cX2_classes 5 = .ok (.iconst 1, 1) := dk_4 (dk_at dksX2_classes_0 5 rfl rfl)
theorem dX2_classes_6 : decode cX2_classes 6 = .ok (.istore_n 2, 1) := dk_61 (dk_at dksX2_classes_0 6 rfl rfl)
theorem dX2_classes_7 : decode cX2_classes 7 = .ok (.iload_n 2, 1) := dk_28 (dk_at dksX2_classes_0 7 rfl rfl)
theorem dX2_classes_8 : decode cX2_classes 8 = .ok (.ifCond .eq 75, 3) := dk_153 0 75 (dk_at dksX2_classes_0 8 rfl rfl)
theorem dX2_classes_11 : decode cX2_classes 11 = .ok (.aload_n 0, 1) := dk_42 (dk_at dksX2_classes_0 11 rfl rfl)
theorem dX2_classes_12 : decode cX2_classes 12 = .ok (.getfield 33, 3) := dk_180 0 33 (dk_at dksX2_classes_0 12 rfl rfl)
theorem dX2_classes_15 : decode cX2_classes 15 = .ok (.iconst 1, 1) := dk_4 (dk_at dksX2_classes_0 15 rfl rfl)
theorem dX2_classes_16 : decode cX2_classes 16 = .ok (.if_icmp .ne 32, 3) := dk_160 0 32 (dk_at dksX2_classes_0 16 rfl rfl)
theorem dX2_classes_19 : decode cX2_classes 19 = .ok (.aload_n 0, 1) := dk_42 (dk_at dksX2_classes_0 19 rfl rfl)
theorem dX2_classes_20 : decode cX2_classes 20 = .ok (.getfield 43, 3) := dk_180 0 43 (dk_at dksX2_classes_0 20 rfl rfl)
theorem dX2_classes_23 : decode cX2_classes 23 = .ok (.iconst 4, 1) := dk_7 (dk_at dksX2_classes_0 23 rfl rfl)
theorem dX2_classes_24 : decode cX2_classes 24 = .ok (.if_icmp .ge 24, 3) := dk_162 0 24 (dk_at dksX2_classes_1 0 rfl rfl)
theorem dX2_classes_27 : decode cX2_classes 27 = .ok (.aload_n 1, 1) := dk_43 (dk_at dksX2_classes_1 3 rfl rfl)
theorem dX2_classes_28 : decode cX2_classes 28 = .ok (.getfield 154, 3) := dk_180 0 154 (dk_at dksX2_classes_1 4 rfl rfl)
theorem dX2_classes_31 : decode cX2_classes 31 = .ok (.aload_n 0, 1) := dk_42 (dk_at dksX2_classes_1 7 rfl rfl)
theorem dX2_classes_32 : decode cX2_classes 32 = .ok (.getfield 43, 3) := dk_180 0 43 (dk_at dksX2_classes_1 8 rfl rfl)
theorem dX2_classes_35 : decode cX2_classes 35 = .ok (.ishr, 1) := dk_122 (dk_at dksX2_classes_1 11 rfl rfl)
theorem dX2_classes_36 : decode cX2_classes 36 = .ok (.iconst 1, 1) := dk_4 (dk_at dksX2_classes_1 12 rfl rfl)
theorem dX2_classes_37 : decode cX2_classes 37 = .ok (.iand, 1) := dk_126 (dk_at dksX2_classes_1 13 rfl rfl)
theorem dX2_classes_38 : decode cX2_classes 38 = .ok (.iconst 1, 1) := dk_4 (dk_at dksX2_classes_1 14 rfl rfl)
theorem dX2_classes_39 : decode cX2_classes 39 = .ok (.if_icmp .ne 9, 3) := dk_160 0 9 (dk_at dksX2_classes_1 15 rfl rfl)
theorem dX2_classes_42 : decode cX2_classes 42 = .ok (.aload_n 0, 1) := dk_42 (dk_at dksX2_classes_1 18 rfl rfl)
theorem dX2_classes_43 : decode cX2_classes 43 = .ok (.iconst 3, 1) := dk_6 (dk_at dksX2_classes_1 19 rfl rfl)
theorem dX2_classes_44 : decode cX2_classes 44 = .ok (.invokevirtual 68, 3) := dk_182 0 68 (dk_at dksX2_classes_1 20 rfl rfl)
theorem dX2_classes_47 : decode cX2_classes 47 = .ok (.athrow, 1) := dk_191 (dk_at dksX2_classes_1 23 rfl rfl)
theorem dX2_classes_48 : decode cX2_classes 48 = .ok (.aload_n 1, 1) := dk_43 (dk_at dksX2_classes_2 0 rfl rfl)
theorem dX2_classes_49 : decode cX2_classes 49 = .ok (.dup, 1) := dk_89 (dk_at dksX2_classes_2 1 rfl rfl)
theorem dX2_classes_50 : decode cX2_classes 50 = .ok (.getfield 154, 3) := dk_180 0 154 (dk_at dksX2_classes_2 2 rfl rfl)
theorem dX2_classes_53 : decode cX2_classes 53 = .ok (.iconst 1, 1) := dk_4 (dk_at dksX2_classes_2 5 rfl rfl)
theorem dX2_classes_54 : decode cX2_classes 54 = .ok (.aload_n 0, 1) := dk_42 (dk_at dksX2_classes_2 6 rfl rfl)
theorem dX2_classes_55 : decode cX2_classes 55 = .ok (.iconst 0, 1) := dk_3 (dk_at dksX2_classes_2 7 rfl rfl)
theorem dX2_classes_56 : decode cX2_classes 56 = .ok (.iconst 3, 1) := dk_6 (dk_at dksX2_classes_2 8 rfl rfl)
theorem dX2_classes_57 : decode cX2_classes 57 = .ok (.invokevirtual 104, 3) := dk_182 0 104 (dk_at dksX2_classes_2 9 rfl rfl)
theorem dX2_classes_60 : decode cX2_classes 60 = .ok (.ishl, 1) := dk_120 (dk_at dksX2_classes_2 12 rfl rfl)
theorem dX2_classes_61 : decode cX2_classes 61 = .ok (.ior, 1) := dk_128 (dk_at dksX2_classes_2 13 rfl rfl)
theorem dX2_classes_62 : decode cX2_classes 62 = .ok (.putfield 154, 3) := dk_181 0 154 (dk_at dksX2_classes_2 14 rfl rfl)
theorem dX2_classes_65 : decode cX2_classes 65 = .ok (.aload_n 0, 1) := dk_42 (dk_at dksX2_classes_2 17 rfl rfl)
theorem dX2_classes_66 : decode cX2_classes 66 = .ok (.bipush 14, 2) := dk_16 14 (dk_at dksX2_classes_2 18 rfl rfl)
theorem dX2_classes_68 : decode cX2_classes 68 = .ok (.invokevirtual 64, 3) := dk_182 0 64 (dk_at dksX2_classes_2 20 rfl rfl)
theorem dX2_classes_71 : decode cX2_classes 71 = .ok (.istore_n 2, 1) := dk_61 (dk_at dksX2_classes_2 23 rfl rfl)
theorem dX2_classes_72 : decode cX2_classes 72 = .ok (.iload_n 2, 1) := dk_28 (dk_at dksX2_classes_3 0 rfl rfl)
theorem dX2_classes_73 : decode cX2_classes 73 = .ok (.ifCond .eq (-66), 3) := dk_153 255 190 (dk_at dksX2_classes_3 1 rfl rfl)
theorem dX2_classes_76 : decode cX2_classes 76 = .ok (.aload_n 0, 1) := dk_42 (dk_at dksX2_classes_3 4 rfl rfl)
theorem dX2_classes_77 : decode cX2_classes 77 = .ok (.invokevirtual 72, 3) := dk_182 0 72 (dk_at dksX2_classes_3 5 rfl rfl)
theorem dX2_classes_80 : decode cX2_classes 80 = .ok (.goto (-73), 3) := dk_167 255 183 (dk_at dksX2_classes_3 8 rfl rfl)
theorem dX2_classes_83 : decode cX2_classes 83 = .ok (.return_, 1) := dk_177 (dk_at dksX2_classes_3 11 rfl rfl)
theorem q74 : (Jvm.Cond.initialized "LifeRents$Reader") ∈ lw_all := lw_g (lw_at lw_m1 2 rfl) rfl
theorem q118 : (Jvm.Cond.instantiable "LifeRents$Reader" (8 : Nat)) ∈ lw_all := lw_g (lw_at lw_m1 46 rfl) rfl
theorem q120 : (Jvm.Cond.instanceMethod ({ cls := "LifeRents$Reader", name := "<init>", desc := "(LLifeRents;)V" } : Jvm.MethodName)) ∈ lw_all := lw_g (lw_at lw_m1 48 rfl) rfl
theorem q121 : (Jvm.Cond.code ({ cls := "LifeRents$Reader", name := "<init>", desc := "(LLifeRents;)V" } : Jvm.MethodName) prog_13_method_1_code (2 : Nat) (Option.none : Option Jvm.ClassFile.FieldType)) ∈ lw_all := lw_g (lw_at lw_m1 49 rfl) rfl
theorem q122 : (Jvm.Cond.methodLink "LifeRents$Reader" (9 : Nat) ({ cls := "java/lang/Object", name := "<init>", desc := "()V" } : Jvm.MethodName)) ∈ lw_all := lw_g (lw_at lw_m1 50 rfl) rfl
theorem q123 : (Jvm.Cond.fieldLink "LifeRents$Reader" (15 : Nat) "LifeRents$Reader" "at" "I") ∈ lw_all := lw_g (lw_at lw_m1 51 rfl) rfl
theorem q124 : (Jvm.Cond.fieldLink "LifeRents$Reader" (19 : Nat) "LifeRents$Reader" "size" "I") ∈ lw_all := lw_g (lw_at lw_m1 52 rfl) rfl
theorem q125 : (Jvm.Cond.fieldLink "LifeRents$Reader" (30 : Nat) "LifeRents$Reader" "place" "I") ∈ lw_all := lw_g (lw_at lw_m1 53 rfl) rfl
theorem q126 : (Jvm.Cond.fieldLink "LifeRents$Reader" (33 : Nat) "LifeRents$Reader" "sort" "I") ∈ lw_all := lw_g (lw_at lw_m1 54 rfl) rfl
theorem q127 : (Jvm.Cond.fieldLink "LifeRents$Reader" (43 : Nat) "LifeRents$Reader" "value" "I") ∈ lw_all := lw_g (lw_at lw_m1 55 rfl) rfl
theorem q128 : (Jvm.Cond.fieldLink "LifeRents$Reader" (75 : Nat) "LifeRents$Reader" "told" "I") ∈ lw_all := lw_g (lw_at lw_m1 56 rfl) rfl
theorem q129 : (Jvm.Cond.fieldLink "LifeRents$Reader" (81 : Nat) "LifeRents$Reader" "acts" "LLifeRents$Acts;") ∈ lw_all := lw_g (lw_at lw_m1 57 rfl) rfl
theorem q130 : (Jvm.Cond.fieldLink "LifeRents$Reader" (3 : Nat) "LifeRents$Reader" "this$0" "LLifeRents;") ∈ lw_all := lw_g (lw_at lw_m1 58 rfl) rfl
theorem q131 : (Jvm.Cond.lays "LifeRents$Reader" "LifeRents$Reader" "at" "I") ∈ lw_all := lw_g (lw_at lw_m1 59 rfl) rfl
theorem q132 : (Jvm.Cond.soleField "LifeRents$Reader" "at") ∈ lw_all := lw_g (lw_at lw_m1 60 rfl) rfl
theorem q133 : (Jvm.Cond.lays "LifeRents$Reader" "LifeRents$Reader" "size" "I") ∈ lw_all := lw_g (lw_at lw_m1 61 rfl) rfl
theorem q134 : (Jvm.Cond.soleField "LifeRents$Reader" "size") ∈ lw_all := lw_g (lw_at lw_m1 62 rfl) rfl
theorem q135 : (Jvm.Cond.lays "LifeRents$Reader" "LifeRents$Reader" "place" "I") ∈ lw_all := lw_g (lw_at lw_m1 63 rfl) rfl
theorem q136 : (Jvm.Cond.soleField "LifeRents$Reader" "place") ∈ lw_all := lw_g (lw_at lw_m1 64 rfl) rfl
theorem q137 : (Jvm.Cond.lays "LifeRents$Reader" "LifeRents$Reader" "sort" "I") ∈ lw_all := lw_g (lw_at lw_m1 65 rfl) rfl
theorem q138 : (Jvm.Cond.soleField "LifeRents$Reader" "sort") ∈ lw_all := lw_g (lw_at lw_m1 66 rfl) rfl
theorem q139 : (Jvm.Cond.lays "LifeRents$Reader" "LifeRents$Reader" "value" "I") ∈ lw_all := lw_g (lw_at lw_m1 67 rfl) rfl
theorem q140 : (Jvm.Cond.soleField "LifeRents$Reader" "value") ∈ lw_all := lw_g (lw_at lw_m1 68 rfl) rfl
theorem q141 : (Jvm.Cond.lays "LifeRents$Reader" "LifeRents$Reader" "told" "I") ∈ lw_all := lw_g (lw_at lw_m1 69 rfl) rfl
theorem q142 : (Jvm.Cond.soleField "LifeRents$Reader" "told") ∈ lw_all := lw_g (lw_at lw_m1 70 rfl) rfl
theorem q143 : (Jvm.Cond.lays "LifeRents$Reader" "LifeRents$Reader" "acts" "LLifeRents$Acts;") ∈ lw_all := lw_g (lw_at lw_m1 71 rfl) rfl
theorem q144 : (Jvm.Cond.soleField "LifeRents$Reader" "acts") ∈ lw_all := lw_g (lw_at lw_m1 72 rfl) rfl
theorem q145 : (Jvm.Cond.laysFinal "LifeRents$Reader" "LifeRents$Reader" "this$0" "LLifeRents;") ∈ lw_all := lw_g (lw_at lw_m1 73 rfl) rfl
theorem q146 : (Jvm.Cond.soleField "LifeRents$Reader" "this$0") ∈ lw_all := lw_g (lw_at lw_m1 74 rfl) rfl
theorem q147 : (Jvm.Cond.superclass "LifeRents$Reader" "java/lang/Object") ∈ lw_all := lw_g (lw_at lw_m1 75 rfl) rfl
theorem q184 : (Jvm.Cond.fieldLinkNest "LifeRents$Reader" (88 : Nat) "LifeRents$Acts" "lines" "Ljava/util/ArrayList;" "LifeRents") ∈ lw_tbl := lw_at lw_m1 112 rfl
theorem q187 : (Jvm.Cond.fieldLinkNest "LifeRents$Reader" (121 : Nat) "LifeRents$Acts" "arrears" "I" "LifeRents") ∈ lw_tbl := lw_at lw_m1 115 rfl
theorem q190 : (Jvm.Cond.fieldLinkNest "LifeRents$Reader" (124 : Nat) "LifeRents$Acts" "wait" "I" "LifeRents") ∈ lw_tbl := lw_at lw_m1 118 rfl
theorem q194 : (Jvm.Cond.fieldLinkNest "LifeRents$Reader" (127 : Nat) "LifeRents$Acts" "rate" "I" "LifeRents") ∈ lw_tbl := lw_at lw_m1 122 rfl
theorem q197 : (Jvm.Cond.fieldLinkNest "LifeRents$Reader" (130 : Nat) "LifeRents$Acts" "cap" "I" "LifeRents") ∈ lw_tbl := lw_at lw_m1 125 rfl
theorem q199 : (Jvm.Cond.fieldLinkNest "LifeRents$Reader" (118 : Nat) "LifeRents$Acts" "many" "I" "LifeRents") ∈ lw_tbl := lw_at lw_m1 127 rfl
theorem q314 : (Jvm.Cond.fieldLinkNest "LifeRents$Reader" (22 : Nat) "LifeRents" "tape" "[B" "LifeRents") ∈ lw_tbl := lw_at lw_m2 2 rfl
theorem q398 : (Jvm.Cond.instanceMethod ({ cls := "LifeRents$Reader", name := "read", desc := "(I)LLifeRents$Acts;" } : Jvm.MethodName)) ∈ lw_all := lw_g (lw_at lw_m2 86 rfl) rfl
theorem q399 : (Jvm.Cond.selects "LifeRents$Reader" ({ cls := "LifeRents$Reader", name := "read", desc := "(I)LLifeRents$Acts;" } : Jvm.MethodName) ({ cls := "LifeRents$Reader", name := "read", desc := "(I)LLifeRents$Acts;" } : Jvm.MethodName)) ∈ lw_all := lw_g (lw_at lw_m2 87 rfl) rfl
theorem q400 : (Jvm.Cond.code ({ cls := "LifeRents$Reader", name := "read", desc := "(I)LLifeRents$Acts;" } : Jvm.MethodName) prog_13_method_9_code (2 : Nat) (Option.some (Jvm.ClassFile.FieldType.object "LifeRents$Acts"))) ∈ lw_all := lw_g (lw_at lw_m2 88 rfl) rfl
theorem q401 : (Jvm.Cond.classLink "LifeRents$Reader" (78 : Nat) "LifeRents$Acts") ∈ lw_all := lw_g (lw_at lw_m2 89 rfl) rfl
theorem q402 : (Jvm.Cond.methodLinkNest "LifeRents$Reader" (80 : Nat) ({ cls := "LifeRents$Acts", name := "<init>", desc := "()V" } : Jvm.MethodName) "LifeRents") ∈ lw_tbl := lw_at lw_m2 90 rfl
theorem q403 : (Jvm.Cond.methodLink "LifeRents$Reader" (72 : Nat) ({ cls := "LifeRents$Reader", name := "next", desc := "()V" } : Jvm.MethodName)) ∈ lw_all := lw_g (lw_at lw_m2 91 rfl) rfl
theorem q404 : (Jvm.Cond.privateMethod ({ cls := "LifeRents$Reader", name := "next", desc := "()V" } : Jvm.MethodName)) ∈ lw_tbl := lw_at lw_m2 92 rfl
theorem q405 : (Jvm.Cond.instanceMethod ({ cls := "LifeRents$Reader", name := "next", desc := "()V" } : Jvm.MethodName)) ∈ lw_all := lw_g (lw_at lw_m2 93 rfl) rfl
theorem q406 : (Jvm.Cond.code ({ cls := "LifeRents$Reader", name := "next", desc := "()V" } : Jvm.MethodName) prog_13_method_3_code (1 : Nat) (Option.none : Option Jvm.ClassFile.FieldType)) ∈ lw_all := lw_g (lw_at lw_m2 94 rfl) rfl
theorem q407 : (Jvm.Cond.methodLink "LifeRents$Reader" (26 : Nat) ({ cls := "LifeRents$Reader", name := "here", desc := "()I" } : Jvm.MethodName)) ∈ lw_all := lw_g (lw_at lw_m2 95 rfl) rfl
theorem q408 : (Jvm.Cond.privateMethod ({ cls := "LifeRents$Reader", name := "here", desc := "()I" } : Jvm.MethodName)) ∈ lw_tbl := lw_at lw_m2 96 rfl
theorem q409 : (Jvm.Cond.instanceMethod ({ cls := "LifeRents$Reader", name := "here", desc := "()I" } : Jvm.MethodName)) ∈ lw_all := lw_g (lw_at lw_m2 97 rfl) rfl
theorem q410 : (Jvm.Cond.code ({ cls := "LifeRents$Reader", name := "here", desc := "()I" } : Jvm.MethodName) prog_13_method_2_code (1 : Nat) (Option.some Jvm.ClassFile.FieldType.int)) ∈ lw_all := lw_g (lw_at lw_m2 98 rfl) rfl
theorem q411 : (Jvm.Cond.methodLinkNest "LifeRents$Reader" (36 : Nat) ({ cls := "LifeRents", name := "in", desc := "(III)Z" } : Jvm.MethodName) "LifeRents") ∈ lw_tbl := lw_at lw_m2 99 rfl
theorem q412 : (Jvm.Cond.methodLink "LifeRents$Reader" (40 : Nat) ({ cls := "LifeRents$Reader", name := "word", desc := "()I" } : Jvm.MethodName)) ∈ lw_all := lw_g (lw_at lw_m2 100 rfl) rfl
theorem q413 : (Jvm.Cond.privateMethod ({ cls := "LifeRents$Reader", name := "word", desc := "()I" } : Jvm.MethodName)) ∈ lw_tbl := lw_at lw_m2 101 rfl
theorem q414 : (Jvm.Cond.instanceMethod ({ cls := "LifeRents$Reader", name := "word", desc := "()I" } : Jvm.MethodName)) ∈ lw_all := lw_g (lw_at lw_m2 102 rfl) rfl
theorem q415 : (Jvm.Cond.code ({ cls := "LifeRents$Reader", name := "word", desc := "()I" } : Jvm.MethodName) prog_13_method_4_code (3 : Nat) (Option.some Jvm.ClassFile.FieldType.int)) ∈ lw_all := lw_g (lw_at lw_m2 103 rfl) rfl
theorem q416 : (Jvm.Cond.fieldLinkNest "LifeRents$Reader" (46 : Nat) "LifeRents" "WORDS" "[Ljava/lang/String;" "LifeRents") ∈ lw_tbl := lw_at lw_m2 104 rfl
theorem q418 : (Jvm.Cond.methodLink "LifeRents$Reader" (50 : Nat) ({ cls := "java/lang/String", name := "length", desc := "()I" } : Jvm.MethodName)) ∈ lw_all := lw_g (lw_at lw_m2 106 rfl) rfl
theorem q428 : (Jvm.Cond.methodLink "LifeRents$Reader" (55 : Nat) ({ cls := "java/lang/String", name := "charAt", desc := "(I)C" } : Jvm.MethodName)) ∈ lw_all := lw_g (lw_at lw_m2 116 rfl) rfl
theorem q466 : (Jvm.Cond.methodLink "LifeRents$Reader" (85 : Nat) ({ cls := "LifeRents$Reader", name := "line", desc := "()V" } : Jvm.MethodName)) ∈ lw_all := lw_g (lw_at lw_m2 154 rfl) rfl
theorem q467 : (Jvm.Cond.privateMethod ({ cls := "LifeRents$Reader", name := "line", desc := "()V" } : Jvm.MethodName)) ∈ lw_tbl := lw_at lw_m2 155 rfl
theorem q468 : (Jvm.Cond.instanceMethod ({ cls := "LifeRents$Reader", name := "line", desc := "()V" } : Jvm.MethodName)) ∈ lw_all := lw_g (lw_at lw_m2 156 rfl) rfl
theorem q469 : (Jvm.Cond.code ({ cls := "LifeRents$Reader", name := "line", desc := "()V" } : Jvm.MethodName) prog_13_method_10_code (3 : Nat) (Option.none : Option Jvm.ClassFile.FieldType)) ∈ lw_all := lw_g (lw_at lw_m2 157 rfl) rfl
theorem q470 : (Jvm.Cond.methodLink "LifeRents$Reader" (68 : Nat) ({ cls := "LifeRents$Reader", name := "wrong", desc := "(I)LLifeRents$Fault;" } : Jvm.MethodName)) ∈ lw_all := lw_g (lw_at lw_m2 158 rfl) rfl
theorem q471 : (Jvm.Cond.privateMethod ({ cls := "LifeRents$Reader", name := "wrong", desc := "(I)LLifeRents$Fault;" } : Jvm.MethodName)) ∈ lw_tbl := lw_at lw_m2 159 rfl
theorem q472 : (Jvm.Cond.instanceMethod ({ cls := "LifeRents$Reader", name := "wrong", desc := "(I)LLifeRents$Fault;" } : Jvm.MethodName)) ∈ lw_all := lw_g (lw_at lw_m2 160 rfl) rfl
theorem q473 : (Jvm.Cond.code ({ cls := "LifeRents$Reader", name := "wrong", desc := "(I)LLifeRents$Fault;" } : Jvm.MethodName) prog_13_method_5_code (2 : Nat) (Option.some (Jvm.ClassFile.FieldType.object "LifeRents$Fault"))) ∈ lw_all := lw_g (lw_at lw_m2 161 rfl) rfl
theorem q474 : (Jvm.Cond.classLink "LifeRents$Reader" (59 : Nat) "LifeRents$Fault") ∈ lw_all := lw_g (lw_at lw_m2 162 rfl) rfl
theorem q514 : (Jvm.Cond.methodLink "LifeRents$Reader" (61 : Nat) ({ cls := "LifeRents$Fault", name := "<init>", desc := "(II)V" } : Jvm.MethodName)) ∈ lw_all := lw_g (lw_at lw_m2 202 rfl) rfl
theorem q544 : (Jvm.Cond.methodLink "LifeRents$Reader" (92 : Nat) ({ cls := "java/util/ArrayList", name := "size", desc := "()I" } : Jvm.MethodName)) ∈ lw_all := lw_g (lw_at lw_m2 232 rfl) rfl
theorem q548 : (Jvm.Cond.methodLink "LifeRents$Reader" (96 : Nat) ({ cls := "LifeRents$Reader", name := "setting", desc := "(I)V" } : Jvm.MethodName)) ∈ lw_all := lw_g (lw_at lw_m2 236 rfl) rfl
theorem q549 : (Jvm.Cond.privateMethod ({ cls := "LifeRents$Reader", name := "setting", desc := "(I)V" } : Jvm.MethodName)) ∈ lw_tbl := lw_at lw_m2 237 rfl
theorem q550 : (Jvm.Cond.instanceMethod ({ cls := "LifeRents$Reader", name := "setting", desc := "(I)V" } : Jvm.MethodName)) ∈ lw_all := lw_g (lw_at lw_m2 238 rfl) rfl
theorem q551 : (Jvm.Cond.code ({ cls := "LifeRents$Reader", name := "setting", desc := "(I)V" } : Jvm.MethodName) prog_13_method_11_code (2 : Nat) (Option.none : Option Jvm.ClassFile.FieldType)) ∈ lw_all := lw_g (lw_at lw_m2 239 rfl) rfl
theorem q552 : (Jvm.Cond.methodLink "LifeRents$Reader" (104 : Nat) ({ cls := "LifeRents$Reader", name := "number", desc := "(II)I" } : Jvm.MethodName)) ∈ lw_all := lw_g (lw_at lw_m3 0 rfl) rfl
theorem q553 : (Jvm.Cond.privateMethod ({ cls := "LifeRents$Reader", name := "number", desc := "(II)I" } : Jvm.MethodName)) ∈ lw_tbl := lw_at lw_m3 1 rfl
theorem q554 : (Jvm.Cond.instanceMethod ({ cls := "LifeRents$Reader", name := "number", desc := "(II)I" } : Jvm.MethodName)) ∈ lw_all := lw_g (lw_at lw_m3 2 rfl) rfl
theorem q555 : (Jvm.Cond.code ({ cls := "LifeRents$Reader", name := "number", desc := "(II)I" } : Jvm.MethodName) prog_13_method_8_code (4 : Nat) (Option.some Jvm.ClassFile.FieldType.int)) ∈ lw_all := lw_g (lw_at lw_m3 3 rfl) rfl
theorem q556 : (Jvm.Cond.classLink "LifeRents$Reader" (100 : Nat) "LifeRents$Line") ∈ lw_all := lw_g (lw_at lw_m3 4 rfl) rfl
theorem q558 : (Jvm.Cond.methodLink "LifeRents$Reader" (102 : Nat) ({ cls := "LifeRents$Line", name := "<init>", desc := "(I)V" } : Jvm.MethodName)) ∈ lw_all := lw_g (lw_at lw_m3 6 rfl) rfl
theorem q566 : (Jvm.Cond.fieldLinkNest "LifeRents$Reader" (108 : Nat) "LifeRents$Line" "number" "I" "LifeRents") ∈ lw_tbl := lw_at lw_m3 14 rfl
theorem q568 : (Jvm.Cond.fieldLinkNest "LifeRents$Reader" (133 : Nat) "LifeRents$Line" "lowAge" "I" "LifeRents") ∈ lw_tbl := lw_at lw_m3 16 rfl
theorem q570 : (Jvm.Cond.fieldLinkNest "LifeRents$Reader" (139 : Nat) "LifeRents$Line" "highAge" "I" "LifeRents") ∈ lw_tbl := lw_at lw_m3 18 rfl
theorem q572 : (Jvm.Cond.fieldLinkNest "LifeRents$Reader" (154 : Nat) "LifeRents$Line" "classes" "I" "LifeRents") ∈ lw_tbl := lw_at lw_m3 20 rfl
theorem q574 : (Jvm.Cond.fieldLinkNest "LifeRents$Reader" (142 : Nat) "LifeRents$Line" "lowHalf" "I" "LifeRents") ∈ lw_tbl := lw_at lw_m3 22 rfl
theorem q576 : (Jvm.Cond.fieldLinkNest "LifeRents$Reader" (145 : Nat) "LifeRents$Line" "highHalf" "I" "LifeRents") ∈ lw_tbl := lw_at lw_m3 24 rfl
theorem q578 : (Jvm.Cond.fieldLinkNest "LifeRents$Reader" (151 : Nat) "LifeRents$Line" "lives" "I" "LifeRents") ∈ lw_tbl := lw_at lw_m3 26 rfl
theorem q596 : (Jvm.Cond.methodLink "LifeRents$Reader" (110 : Nat) ({ cls := "LifeRents$Reader", name := "whom", desc := "(LLifeRents$Line;)V" } : Jvm.MethodName)) ∈ lw_all := lw_g (lw_at lw_m3 44 rfl) rfl
theorem q597 : (Jvm.Cond.privateMethod ({ cls := "LifeRents$Reader", name := "whom", desc := "(LLifeRents$Line;)V" } : Jvm.MethodName)) ∈ lw_tbl := lw_at lw_m3 45 rfl
theorem q598 : (Jvm.Cond.instanceMethod ({ cls := "LifeRents$Reader", name := "whom", desc := "(LLifeRents$Line;)V" } : Jvm.MethodName)) ∈ lw_all := lw_g (lw_at lw_m3 46 rfl) rfl
theorem q599 : (Jvm.Cond.code ({ cls := "LifeRents$Reader", name := "whom", desc := "(LLifeRents$Line;)V" } : Jvm.MethodName) prog_13_method_12_code (5 : Nat) (Option.none : Option Jvm.ClassFile.FieldType)) ∈ lw_all := lw_g (lw_at lw_m3 47 rfl) rfl
theorem q600 : (Jvm.Cond.methodLink "LifeRents$Reader" (136 : Nat) ({ cls := "LifeRents$Reader", name := "must", desc := "(I)V" } : Jvm.MethodName)) ∈ lw_all := lw_g (lw_at lw_m3 48 rfl) rfl
theorem q601 : (Jvm.Cond.privateMethod ({ cls := "LifeRents$Reader", name := "must", desc := "(I)V" } : Jvm.MethodName)) ∈ lw_tbl := lw_at lw_m3 49 rfl
theorem q602 : (Jvm.Cond.instanceMethod ({ cls := "LifeRents$Reader", name := "must", desc := "(I)V" } : Jvm.MethodName)) ∈ lw_all := lw_g (lw_at lw_m3 50 rfl) rfl
theorem q603 : (Jvm.Cond.code ({ cls := "LifeRents$Reader", name := "must", desc := "(I)V" } : Jvm.MethodName) prog_13_method_7_code (2 : Nat) (Option.none : Option Jvm.ClassFile.FieldType)) ∈ lw_all := lw_g (lw_at lw_m3 51 rfl) rfl
theorem q604 : (Jvm.Cond.methodLink "LifeRents$Reader" (64 : Nat) ({ cls := "LifeRents$Reader", name := "isWord", desc := "(I)Z" } : Jvm.MethodName)) ∈ lw_all := lw_g (lw_at lw_m3 52 rfl) rfl
theorem q605 : (Jvm.Cond.privateMethod ({ cls := "LifeRents$Reader", name := "isWord", desc := "(I)Z" } : Jvm.MethodName)) ∈ lw_tbl := lw_at lw_m3 53 rfl
theorem q606 : (Jvm.Cond.instanceMethod ({ cls := "LifeRents$Reader", name := "isWord", desc := "(I)Z" } : Jvm.MethodName)) ∈ lw_all := lw_g (lw_at lw_m3 54 rfl) rfl
theorem q607 : (Jvm.Cond.code ({ cls := "LifeRents$Reader", name := "isWord", desc := "(I)Z" } : Jvm.MethodName) prog_13_method_6_code (2 : Nat) (Option.some Jvm.ClassFile.FieldType.boolean)) ∈ lw_all := lw_g (lw_at lw_m3 55 rfl) rfl
theorem q608 : (Jvm.Cond.methodLink "LifeRents$Reader" (148 : Nat) ({ cls := "LifeRents$Reader", name := "classes", desc := "(LLifeRents$Line;)V" } : Jvm.MethodName)) ∈ lw_all := lw_g (lw_at lw_m3 56 rfl) rfl
theorem q609 : (Jvm.Cond.privateMethod ({ cls := "LifeRents$Reader", name := "classes", desc := "(LLifeRents$Line;)V" } : Jvm.MethodName)) ∈ lw_tbl := lw_at lw_m3 57 rfl
theorem q610 : (Jvm.Cond.instanceMethod ({ cls := "LifeRents$Reader", name := "classes", desc := "(LLifeRents$Line;)V" } : Jvm.MethodName)) ∈ lw_all := lw_g (lw_at lw_m3 58 rfl) rfl
theorem q611 : (Jvm.Cond.code ({ cls := "LifeRents$Reader", name := "classes", desc := "(LLifeRents$Line;)V" } : Jvm.MethodName) prog_13_method_13_code (3 : Nat) (Option.none : Option Jvm.ClassFile.FieldType)) ∈ lw_all := lw_g (lw_at lw_m3 59 rfl) rfl
theorem q612 : (Jvm.Cond.methodLink "LifeRents$Reader" (114 : Nat) ({ cls := "java/util/ArrayList", name := "add", desc := "(Ljava/lang/Object;)Z" } : Jvm.MethodName)) ∈ lw_all := lw_g (lw_at lw_m3 60 rfl) rfl
theorem q657 : (Jvm.Cond.selects "LifeRents$Reader" ({ cls := "java/lang/Object", name := "getClass", desc := "()Ljava/lang/Class;" } : Jvm.MethodName) ({ cls := "java/lang/Object", name := "getClass", desc := "()Ljava/lang/Class;" } : Jvm.MethodName)) ∈ lw_all := lw_g (lw_at lw_m3 105 rfl) rfl
theorem q1730 : (Jvm.Cond.castable "LifeRents$Reader" "java/lang/Object") ∈ lw_tbl := lw_at lw_m7 218 rfl
theorem in_X2 : ∀ w ∈ wsX20, w ∈ lw_all := lw_in wsX20 [131, 133, 135, 137, 139, 141, 143, 145] (by decide +kernel) (by decide +kernel)
/-! LifeRents$Acts -/
set_option maxRecDepth 100000
def RX3 : String := "LifeRents$Acts"
def TX3 : u_T := fun k => match k with
  | 0 => ("LifeRents$Acts", "lines", "Ljava/util/ArrayList;", true)
  | 1 => ("LifeRents$Acts", "arrears", "I", false)
  | 2 => ("LifeRents$Acts", "wait", "I", false)
  | 3 => ("LifeRents$Acts", "rate", "I", false)
  | 4 => ("LifeRents$Acts", "cap", "I", false)
  | _ => ("LifeRents$Acts", "many", "I", false)
def tyX3 : Nat → FieldType := fun k => match k with
  | 0 => .object "java/util/ArrayList"
  | 1 => .int
  | 2 => .int
  | 3 => .int
  | 4 => .int
  | _ => .int
abbrev wsX30 : List Cond := u_ws RX3 TX3 6
theorem nmX3 : ∀ a, a < 6 → ∀ b, b < 6 → a ≠ b → (TX3 a).2.1 ≠ (TX3 b).2.1 := by decide +kernel
theorem tyX3_ok : ∀ k, k < 6 → parseFieldDescriptor (TX3 k).2.2.1 = some (tyX3 k) := by decide +kernel
abbrev cX3_init : ByteArray := prog_2_method_1_code
def yX3_init : MethodName := ⟨RX3, "<init>", "()V"⟩
def dkwX3_init_1 : List UInt8 := [181, 0, 24, 42, 6, 181, 0, 27, 177]
abbrev dktX3_init_1 : List UInt8 := dkwX3_init_1 ++ []
def dkwX3_init_0 : List UInt8 := [42, 183, 0, 3, 42, 187, 0, 9, 89, 4, 183, 0, 11, 181, 0, 14, 42, 7, 181, 0, 20, 42, 16, 20]
abbrev dktX3_init_0 : List UInt8 := dkwX3_init_0 ++ dktX3_init_1
theorem dksX3_init_0 : cX3_init.data.toList.drop 0 = dktX3_init_0 := by decide +kernel
theorem dksX3_init_1 : cX3_init.data.toList.drop 24 = dktX3_init_1 := dk_seg dksX3_init_0 24 rfl rfl
theorem dX3_init_0 : decode cX3_init 0 = .ok (.aload_n 0, 1) := dk_42 (dk_at dksX3_init_0 0 rfl rfl)
theorem dX3_init_1 : decode cX3_init 1 = .ok (.invokespecial 3, 3) := dk_183 0 3 (dk_at dksX3_init_0 1 rfl rfl)
theorem dX3_init_4 : decode cX3_init 4 = .ok (.aload_n 0, 1) := dk_42 (dk_at dksX3_init_0 4 rfl rfl)
theorem dX3_init_5 : decode cX3_init 5 = .ok (.new 9, 3) := dk_187 0 9 (dk_at dksX3_init_0 5 rfl rfl)
theorem dX3_init_8 : decode cX3_init 8 = .ok (.dup, 1) := dk_89 (dk_at dksX3_init_0 8 rfl rfl)
theorem dX3_init_9 : decode cX3_init 9 = .ok (.iconst 1, 1) := dk_4 (dk_at dksX3_init_0 9 rfl rfl)
theorem dX3_init_10 : decode cX3_init 10 = .ok (.invokespecial 11, 3) := dk_183 0 11 (dk_at dksX3_init_0 10 rfl rfl)
theorem dX3_init_13 : decode cX3_init 13 = .ok (.putfield 14, 3) := dk_181 0 14 (dk_at dksX3_init_0 13 rfl rfl)
theorem dX3_init_16 : decode cX3_init 16 = .ok (.aload_n 0, 1) := dk_42 (dk_at dksX3_init_0 16 rfl rfl)
theorem dX3_init_17 : decode cX3_init 17 = .ok (.iconst 4, 1) := dk_7 (dk_at dksX3_init_0 17 rfl rfl)
theorem dX3_init_18 : decode cX3_init 18 = .ok (.putfield 20, 3) := dk_181 0 20 (dk_at dksX3_init_0 18 rfl rfl)
theorem dX3_init_21 : decode cX3_init 21 = .ok (.aload_n 0, 1) := dk_42 (dk_at dksX3_init_0 21 rfl rfl)
theorem dX3_init_22 : decode cX3_init 22 = .ok (.bipush 20, 2) := dk_16 20 (dk_at dksX3_init_0 22 rfl rfl)
theorem dX3_init_24 : decode cX3_init 24 = .ok (.putfield 24, 3) := dk_181 0 24 (dk_at dksX3_init_1 0 rfl rfl)
theorem dX3_init_27 : decode cX3_init 27 = .ok (.aload_n 0, 1) := dk_42 (dk_at dksX3_init_1 3 rfl rfl)
theorem dX3_init_28 : decode cX3_init 28 = .ok (.iconst 3, 1) := dk_6 (dk_at dksX3_init_1 4 rfl rfl)
theorem dX3_init_29 : decode cX3_init 29 = .ok (.putfield 27, 3) := dk_181 0 27 (dk_at dksX3_init_1 5 rfl rfl)
theorem dX3_init_32 : decode cX3_init 32 = .ok (.return_, 1) := dk_177 (dk_at dksX3_init_1 8 rfl rfl)
abbrev cX3_may : ByteArray := prog_2_method_3_code
def yX3_may : MethodName := ⟨RX3, "may", "(LLifeRents$Life;IZ)Z"⟩
def dkwX3_may_1 : List UInt8 := [4, 167, 0, 4, 3, 172]
abbrev dktX3_may_1 : List UInt8 := dkwX3_may_1 ++ []
def dkwX3_may_0 : List UInt8 := [42, 3, 4, 43, 28, 29, 182, 0, 47, 58, 4, 25, 4, 198, 0, 11, 25, 4, 180, 0, 40, 154, 0, 7]
abbrev dktX3_may_0 : List UInt8 := dkwX3_may_0 ++ dktX3_may_1
theorem dksX3_may_0 : cX3_may.data.toList.drop 0 = dktX3_may_0 := by decide +kernel
theorem dksX3_may_1 : cX3_may.data.toList.drop 24 = dktX3_may_1 := dk_seg dksX3_may_0 24 rfl rfl
theorem dX3_may_0 : decode cX3_may 0 = .ok (.aload_n 0, 1) := dk_42 (dk_at dksX3_may_0 0 rfl rfl)
theorem dX3_may_1 : decode cX3_may 1 = .ok (.iconst 0, 1) := dk_3 (dk_at dksX3_may_0 1 rfl rfl)
theorem dX3_may_2 : decode cX3_may 2 = .ok (.iconst 1, 1) := dk_4 (dk_at dksX3_may_0 2 rfl rfl)
theorem dX3_may_3 : decode cX3_may 3 = .ok (.aload_n 1, 1) := dk_43 (dk_at dksX3_may_0 3 rfl rfl)
theorem dX3_may_4 : decode cX3_may 4 = .ok (.iload_n 2, 1) := dk_28 (dk_at dksX3_may_0 4 rfl rfl)
theorem dX3_may_5 : decode cX3_may 5 = .ok (.iload_n 3, 1) := dk_29 (dk_at dksX3_may_0 5 rfl rfl)
theorem dX3_may_6 : decode cX3_may 6 = .ok (.invokevirtual 47, 3) := dk_182 0 47 (dk_at dksX3_may_0 6 rfl rfl)
theorem dX3_may_9 : decode cX3_may 9 = .ok (.astore 4, 2) := dk_58 4 (dk_at dksX3_may_0 9 rfl rfl)
theorem dX3_may_11 : decode cX3_may 11 = .ok (.aload 4, 2) := dk_25 4 (dk_at dksX3_may_0 11 rfl rfl)
theorem dX3_may_13 : decode cX3_may 13 = .ok (.ifnull 11, 3) := dk_198 0 11 (dk_at dksX3_may_0 13 rfl rfl)
theorem dX3_may_16 : decode cX3_may 16 = .ok (.aload 4, 2) := dk_25 4 (dk_at dksX3_may_0 16 rfl rfl)
theorem dX3_may_18 : decode cX3_may 18 = .ok (.getfield 40, 3) := dk_180 0 40 (dk_at dksX3_may_0 18 rfl rfl)
theorem dX3_may_21 : decode cX3_may 21 = .ok (.ifCond .ne 7, 3) := dk_154 0 7 (dk_at dksX3_may_0 21 rfl rfl)
theorem dX3_may_24 : decode cX3_may 24 = .ok (.iconst 1, 1) := dk_4 (dk_at dksX3_may_1 0 rfl rfl)
theorem dX3_may_25 : decode cX3_may 25 = .ok (.goto 4, 3) := dk_167 0 4 (dk_at dksX3_may_1 1 rfl rfl)
theorem dX3_may_28 : decode cX3_may 28 = .ok (.iconst 0, 1) := dk_3 (dk_at dksX3_may_1 4 rfl rfl)
theorem dX3_may_29 : decode cX3_may 29 = .ok (.ireturn, 1) := dk_172 (dk_at dksX3_may_1 5 rfl rfl)
abbrev cX3_latest : ByteArray := prog_2_method_2_code
def yX3_latest : MethodName := ⟨RX3, "latest", "(IILLifeRents$Life;IZ)LLifeRents$Line;"⟩
def dkwX3_latest_4 : List UInt8 := [132, 6, 255, 167, 255, 174, 1, 176]
abbrev dktX3_latest_4 : List UInt8 := dkwX3_latest_4 ++ []
def dkwX3_latest_3 : List UInt8 := [21, 4, 21, 5, 182, 0, 43, 153, 0, 16, 42, 180, 0, 14, 21, 6, 182, 0, 34, 192, 0, 38, 176]
abbrev dktX3_latest_3 : List UInt8 := dkwX3_latest_3 ++ dktX3_latest_4
def dkwX3_latest_2 : List UInt8 := [192, 0, 38, 180, 0, 40, 28, 160, 0, 39, 42, 180, 0, 14, 21, 6, 182, 0, 34, 192, 0, 38, 45]
abbrev dktX3_latest_2 : List UInt8 := dkwX3_latest_2 ++ dktX3_latest_3
def dkwX3_latest_1 : List UInt8 := [182, 0, 34, 192, 0, 38, 180, 0, 40, 27, 159, 0, 22, 42, 180, 0, 14, 21, 6, 182, 0, 34]
abbrev dktX3_latest_1 : List UInt8 := dkwX3_latest_1 ++ dktX3_latest_2
def dkwX3_latest_0 : List UInt8 := [42, 180, 0, 14, 182, 0, 30, 4, 100, 54, 6, 21, 6, 155, 0, 83, 42, 180, 0, 14, 21, 6]
abbrev dktX3_latest_0 : List UInt8 := dkwX3_latest_0 ++ dktX3_latest_1
theorem dksX3_latest_0 : cX3_latest.data.toList.drop 0 = dktX3_latest_0 := by decide +kernel
theorem dksX3_latest_1 : cX3_latest.data.toList.drop 22 = dktX3_latest_1 := dk_seg dksX3_latest_0 22 rfl rfl
theorem dksX3_latest_2 : cX3_latest.data.toList.drop 44 = dktX3_latest_2 := dk_seg dksX3_latest_1 22 rfl rfl
theorem dksX3_latest_3 : cX3_latest.data.toList.drop 67 = dktX3_latest_3 := dk_seg dksX3_latest_2 23 rfl rfl
theorem dksX3_latest_4 : cX3_latest.data.toList.drop 90 = dktX3_latest_4 := dk_seg dksX3_latest_3 23 rfl rfl
theorem dX3_latest_0 : decode cX3_latest 0 = .ok (.aload_n 0, 1) := dk_42 (dk_at dksX3_latest_0 0 rfl rfl)
theorem dX3_latest_1 : decode cX3_latest 1 = .ok (.getfield 14, 3) := dk_180 0 14 (dk_at dksX3_latest_0 1 rfl rfl)
theorem dX3_latest_4 : decode cX3_latest 4 = .ok (.invokevirtual 30, 3) := dk_182 0 30 (dk_at dksX3_latest_0 4 rfl rfl)
theorem dX3_latest_7 : decode cX3_latest 7 = .ok (.iconst 1, 1) := dk_4 (dk_at dksX3_latest_0 7 rfl rfl)
theorem dX3_latest_8 : decode cX3_latest 8 = .ok (.isub, 1) := dk_100 (dk_at dksX3_latest_0 8 rfl rfl)
theorem dX3_latest_9 : decode cX3_latest 9 = .ok (.istore 6, 2) := dk_54 6 (dk_at dksX3_latest_0 9 rfl rfl)
theorem dX3_latest_11 : decode cX3_latest 11 = .ok (.iload 6, 2) := dk_21 6 (dk_at dksX3_latest_0 11 rfl rfl)
theorem dX3_latest_13 : decode cX3_latest 13 = .ok (.ifCond .lt 83, 3) := dk_155 0 83 (dk_at dksX3_latest_0 13 rfl rfl)
theorem dX3_latest_16 : decode cX3_latest 16 = .ok (.aload_n 0, 1) := dk_42 (dk_at dksX3_latest_0 16 rfl rfl)
theorem dX3_latest_17 : decode cX3_latest 17 = .ok (.getfield 14, 3) := dk_180 0 14 (dk_at dksX3_latest_0 17 rfl rfl)
theorem dX3_latest_20 : decode cX3_latest 20 = .ok (.iload 6, 2) := dk_21 6 (dk_at dksX3_latest_0 20 rfl rfl)
theorem dX3_latest_22 : decode cX3_latest 22 = .ok (.invokevirtual 34, 3) := dk_182 0 34 (dk_at dksX3_latest_1 0 rfl rfl)
theorem dX3_latest_25 : decode cX3_latest 25 = .ok (.checkcast 38, 3) := dk_192 0 38 (dk_at dksX3_latest_1 3 rfl rfl)
theorem dX3_latest_28 : decode cX3_latest 28 = .ok (.getfield 40, 3) := dk_180 0 40 (dk_at dksX3_latest_1 6 rfl rfl)
theorem dX3_latest_31 : decode cX3_latest 31 = .ok (.iload_n 1, 1) := dk_27 (dk_at dksX3_latest_1 9 rfl rfl)
theorem dX3_latest_32 : decode cX3_latest 32 = .ok (.if_icmp .eq 22, 3) := dk_159 0 22 (dk_at dksX3_latest_1 10 rfl rfl)
theorem dX3_latest_35 : decode cX3_latest 35 = .ok (.aload_n 0, 1) := dk_42 (dk_at dksX3_latest_1 13 rfl rfl)
theorem dX3_latest_36 : decode cX3_latest 36 = .ok (.getfield 14, 3) := dk_180 0 14 (dk_at dksX3_latest_1 14 rfl rfl)
theorem dX3_latest_39 : decode cX3_latest 39 = .ok (.iload 6, 2) := dk_21 6 (dk_at dksX3_latest_1 17 rfl rfl)
theorem dX3_latest_41 : decode cX3_latest 41 = .ok (.invokevirtual 34, 3) := dk_182 0 34 (dk_at dksX3_latest_1 19 rfl rfl)
theorem dX3_latest_44 : decode cX3_latest 44 = .ok (.checkcast 38, 3) := dk_192 0 38 (dk_at dksX3_latest_2 0 rfl rfl)
theorem dX3_latest_47 : decode cX3_latest 47 = .ok (.getfield 40, 3) := dk_180 0 40 (dk_at dksX3_latest_2 3 rfl rfl)
theorem dX3_latest_50 : decode cX3_latest 50 = .ok (.iload_n 2, 1) := dk_28 (dk_at dksX3_latest_2 6 rfl rfl)
theorem dX3_latest_51 : decode cX3_latest 51 = .ok (.if_icmp .ne 39, 3) := dk_160 0 39 (dk_at dksX3_latest_2 7 rfl rfl)
theorem dX3_latest_54 : decode cX3_latest 54 = .ok (.aload_n 0, 1) := dk_42 (dk_at dksX3_latest_2 10 rfl rfl)
theorem dX3_latest_55 : decode cX3_latest 55 = .ok (.getfield 14, 3) := dk_180 0 14 (dk_at dksX3_latest_2 11 rfl rfl)
theorem dX3_latest_58 : decode cX3_latest 58 = .ok (.iload 6, 2) := dk_21 6 (dk_at dksX3_latest_2 14 rfl rfl)
theorem dX3_latest_60 : decode cX3_latest 60 = .ok (.invokevirtual 34, 3) := dk_182 0 34 (dk_at dksX3_latest_2 16 rfl rfl)
theorem dX3_latest_63 : decode cX3_latest 63 = .ok (.checkcast 38, 3) := dk_192 0 38 (dk_at dksX3_latest_2 19 rfl rfl)
theorem dX3_latest_66 : decode cX3_latest 66 = .ok (.aload_n 3, 1) := dk_45 (dk_at dksX3_latest_2 22 rfl rfl)
theorem dX3_latest_67 : decode cX3_latest 67 = .ok (.iload 4, 2) := dk_21 4 (dk_at dksX3_latest_3 0 rfl rfl)
theorem dX3_latest_69 : decode cX3_latest 69 = .ok (.iload 5, 2) := dk_21 5 (dk_at dksX3_latest_3 2 rfl rfl)
theorem dX3_latest_71 : decode cX3_latest 71 = .ok (.invokevirtual 43, 3) := dk_182 0 43 (dk_at dksX3_latest_3 4 rfl rfl)
theorem dX3_latest_74 : decode cX3_latest 74 = .ok (.ifCond .eq 16, 3) := dk_153 0 16 (dk_at dksX3_latest_3 7 rfl rfl)
theorem dX3_latest_77 : decode cX3_latest 77 = .ok (.aload_n 0, 1) := dk_42 (dk_at dksX3_latest_3 10 rfl rfl)
theorem dX3_latest_78 : decode cX3_latest 78 = .ok (.getfield 14, 3) := dk_180 0 14 (dk_at dksX3_latest_3 11 rfl rfl)
theorem dX3_latest_81 : decode cX3_latest 81 = .ok (.iload 6, 2) := dk_21 6 (dk_at dksX3_latest_3 14 rfl rfl)
theorem dX3_latest_83 : decode cX3_latest 83 = .ok (.invokevirtual 34, 3) := dk_182 0 34 (dk_at dksX3_latest_3 16 rfl rfl)
theorem dX3_latest_86 : decode cX3_latest 86 = .ok (.checkcast 38, 3) := dk_192 0 38 (dk_at dksX3_latest_3 19 rfl rfl)
theorem dX3_latest_89 : decode cX3_latest 89 = .ok (.areturn, 1) := dk_176 (dk_at dksX3_latest_3 22 rfl rfl)
theorem dX3_latest_90 : decode cX3_latest 90 = .ok (.iinc 6 (-1), 3) := dk_132 6 255 (dk_at dksX3_latest_4 0 rfl rfl)
theorem dX3_latest_93 : decode cX3_latest 93 = .ok (.goto (-82), 3) := dk_167 255 174 (dk_at dksX3_latest_4 3 rfl rfl)
theorem dX3_latest_96 : decode cX3_latest 96 = .ok (.aconst_null, 1) := dk_1 (dk_at dksX3_latest_4 6 rfl rfl)
theorem dX3_latest_97 : decode cX3_latest 97 = .ok (.areturn, 1) := dk_176 (dk_at dksX3_latest_4 7 rfl rfl)
abbrev cX3_price : ByteArray := prog_2_method_4_code
def yX3_price : MethodName := ⟨RX3, "price", "(LLifeRents$Life;IZ)I"⟩
def dkwX3_price_1 : List UInt8 := [180, 0, 51, 172]
abbrev dktX3_price_1 : List UInt8 := dkwX3_price_1 ++ []
def dkwX3_price_0 : List UInt8 := [42, 5, 5, 43, 28, 29, 182, 0, 47, 58, 4, 25, 4, 199, 0, 8, 16, 10, 167, 0, 8, 25, 4]
abbrev dktX3_price_0 : List UInt8 := dkwX3_price_0 ++ dktX3_price_1
theorem dksX3_price_0 : cX3_price.data.toList.drop 0 = dktX3_price_0 := by decide +kernel
theorem dksX3_price_1 : cX3_price.data.toList.drop 23 = dktX3_price_1 := dk_seg dksX3_price_0 23 rfl rfl
theorem dX3_price_0 : decode cX3_price 0 = .ok (.aload_n 0, 1) := dk_42 (dk_at dksX3_price_0 0 rfl rfl)
theorem dX3_price_1 : decode cX3_price 1 = .ok (.iconst 2, 1) := dk_5 (dk_at dksX3_price_0 1 rfl rfl)
theorem dX3_price_2 : decode cX3_price 2 = .ok (.iconst 2, 1) := dk_5 (dk_at dksX3_price_0 2 rfl rfl)
theorem dX3_price_3 : decode cX3_price 3 = .ok (.aload_n 1, 1) := dk_43 (dk_at dksX3_price_0 3 rfl rfl)
theorem dX3_price_4 : decode cX3_price 4 = .ok (.iload_n 2, 1) := dk_28 (dk_at dksX3_price_0 4 rfl rfl)
theorem dX3_price_5 : decode cX3_price 5 = .ok (.iload_n 3, 1) := dk_29 (dk_at dksX3_price_0 5 rfl rfl)
theorem dX3_price_6 : decode cX3_price 6 = .ok (.invokevirtual 47, 3) := dk_182 0 47 (dk_at dksX3_price_0 6 rfl rfl)
theorem dX3_price_9 : decode cX3_price 9 = .ok (.astore 4, 2) := dk_58 4 (dk_at dksX3_price_0 9 rfl rfl)
theorem dX3_price_11 : decode cX3_price 11 = .ok (.aload 4, 2) := dk_25 4 (dk_at dksX3_price_0 11 rfl rfl)
theorem dX3_price_13 : decode cX3_price 13 = .ok (.ifnonnull 8, 3) := dk_199 0 8 (dk_at dksX3_price_0 13 rfl rfl)
theorem dX3_price_16 : decode cX3_price 16 = .ok (.bipush 10, 2) := dk_16 10 (dk_at dksX3_price_0 16 rfl rfl)
theorem dX3_price_18 : decode cX3_price 18 = .ok (.goto 8, 3) := dk_167 0 8 (dk_at dksX3_price_0 18 rfl rfl)
theorem dX3_price_21 : decode cX3_price 21 = .ok (.aload 4, 2) := dk_25 4 (dk_at dksX3_price_0 21 rfl rfl)
theorem dX3_price_23 : decode cX3_price 23 = .ok (.getfield 51, 3) := dk_180 0 51 (dk_at dksX3_price_1 0 rfl rfl)
theorem dX3_price_26 : decode cX3_price 26 = .ok (.ireturn, 1) := dk_172 (dk_at dksX3_price_1 3 rfl rfl)
abbrev cX3_lump : ByteArray := prog_2_method_5_code
def yX3_lump : MethodName := ⟨RX3, "lump", "(LLifeRents$Life;IZ)I"⟩
def dkwX3_lump_1 : List UInt8 := [180, 0, 51, 172]
abbrev dktX3_lump_1 : List UInt8 := dkwX3_lump_1 ++ []
def dkwX3_lump_0 : List UInt8 := [42, 6, 6, 43, 28, 29, 182, 0, 47, 58, 4, 25, 4, 199, 0, 7, 3, 167, 0, 8, 25, 4]
abbrev dktX3_lump_0 : List UInt8 := dkwX3_lump_0 ++ dktX3_lump_1
theorem dksX3_lump_0 : cX3_lump.data.toList.drop 0 = dktX3_lump_0 := by decide +kernel
theorem dksX3_lump_1 : cX3_lump.data.toList.drop 22 = dktX3_lump_1 := dk_seg dksX3_lump_0 22 rfl rfl
theorem dX3_lump_0 : decode cX3_lump 0 = .ok (.aload_n 0, 1) := dk_42 (dk_at dksX3_lump_0 0 rfl rfl)
theorem dX3_lump_1 : decode cX3_lump 1 = .ok (.iconst 3, 1) := dk_6 (dk_at dksX3_lump_0 1 rfl rfl)
theorem dX3_lump_2 : decode cX3_lump 2 = .ok (.iconst 3, 1) := dk_6 (dk_at dksX3_lump_0 2 rfl rfl)
theorem dX3_lump_3 : decode cX3_lump 3 = .ok (.aload_n 1, 1) := dk_43 (dk_at dksX3_lump_0 3 rfl rfl)
theorem dX3_lump_4 : decode cX3_lump 4 = .ok (.iload_n 2, 1) := dk_28 (dk_at dksX3_lump_0 4 rfl rfl)
theorem dX3_lump_5 : decode cX3_lump 5 = .ok (.iload_n 3, 1) := dk_29 (dk_at dksX3_lump_0 5 rfl rfl)
theorem dX3_lump_6 : decode cX3_lump 6 = .ok (.invokevirtual 47, 3) := dk_182 0 47 (dk_at dksX3_lump_0 6 rfl rfl)
theorem dX3_lump_9 : decode cX3_lump 9 = .ok (.astore 4, 2) := dk_58 4 (dk_at dksX3_lump_0 9 rfl rfl)
theorem dX3_lump_11 : decode cX3_lump 11 = .ok (.aload 4, 2) := dk_25 4 (dk_at dksX3_lump_0 11 rfl rfl)
theorem dX3_lump_13 : decode cX3_lump 13 = .ok (.ifnonnull 7, 3) := dk_199 0 7 (dk_at dksX3_lump_0 13 rfl rfl)
theorem dX3_lump_16 : decode cX3_lump 16 = .ok (.iconst 0, 1) := dk_3 (dk_at dksX3_lump_0 16 rfl rfl)
theorem dX3_lump_17 : decode cX3_lump 17 = .ok (.goto 8, 3) := dk_167 0 8 (dk_at dksX3_lump_0 17 rfl rfl)
theorem dX3_lump_20 : decode cX3_lump 20 = .ok (.aload 4, 2) := dk_25 4 (dk_at dksX3_lump_0 20 rfl rfl)
theorem dX3_lump_22 : decode cX3_lump 22 = .ok (.getfield 51, 3) := dk_180 0 51 (dk_at dksX3_lump_1 0 rfl rfl)
theorem dX3_lump_25 : decode cX3_lump 25 = .ok (.ireturn, 1) := dk_172 (dk_at dksX3_lump_1 3 rfl rfl)
theorem q75 : (Jvm.Cond.initialized "LifeRents$Acts") ∈ lw_all := lw_g (lw_at lw_m1 3 rfl) rfl
theorem q150 : (Jvm.Cond.instantiable "LifeRents$Acts" (6 : Nat)) ∈ lw_all := lw_g (lw_at lw_m1 78 rfl) rfl
theorem q152 : (Jvm.Cond.instanceMethod ({ cls := "LifeRents$Acts", name := "<init>", desc := "()V" } : Jvm.MethodName)) ∈ lw_all := lw_g (lw_at lw_m1 80 rfl) rfl
theorem q153 : (Jvm.Cond.code ({ cls := "LifeRents$Acts", name := "<init>", desc := "()V" } : Jvm.MethodName) prog_2_method_1_code (1 : Nat) (Option.none : Option Jvm.ClassFile.FieldType)) ∈ lw_all := lw_g (lw_at lw_m1 81 rfl) rfl
theorem q154 : (Jvm.Cond.methodLink "LifeRents$Acts" (3 : Nat) ({ cls := "java/lang/Object", name := "<init>", desc := "()V" } : Jvm.MethodName)) ∈ lw_all := lw_g (lw_at lw_m1 82 rfl) rfl
theorem q155 : (Jvm.Cond.classLink "LifeRents$Acts" (9 : Nat) "java/util/ArrayList") ∈ lw_all := lw_g (lw_at lw_m1 83 rfl) rfl
theorem q157 : (Jvm.Cond.methodLink "LifeRents$Acts" (11 : Nat) ({ cls := "java/util/ArrayList", name := "<init>", desc := "(I)V" } : Jvm.MethodName)) ∈ lw_all := lw_g (lw_at lw_m1 85 rfl) rfl
theorem q183 : (Jvm.Cond.fieldLink "LifeRents$Acts" (14 : Nat) "LifeRents$Acts" "lines" "Ljava/util/ArrayList;") ∈ lw_all := lw_g (lw_at lw_m1 111 rfl) rfl
theorem q186 : (Jvm.Cond.fieldLink "LifeRents$Acts" (20 : Nat) "LifeRents$Acts" "arrears" "I") ∈ lw_all := lw_g (lw_at lw_m1 114 rfl) rfl
theorem q192 : (Jvm.Cond.fieldLink "LifeRents$Acts" (24 : Nat) "LifeRents$Acts" "rate" "I") ∈ lw_all := lw_g (lw_at lw_m1 120 rfl) rfl
theorem q195 : (Jvm.Cond.fieldLink "LifeRents$Acts" (27 : Nat) "LifeRents$Acts" "cap" "I") ∈ lw_all := lw_g (lw_at lw_m1 123 rfl) rfl
theorem q201 : (Jvm.Cond.laysFinal "LifeRents$Acts" "LifeRents$Acts" "lines" "Ljava/util/ArrayList;") ∈ lw_all := lw_g (lw_at lw_m1 129 rfl) rfl
theorem q202 : (Jvm.Cond.soleField "LifeRents$Acts" "lines") ∈ lw_all := lw_g (lw_at lw_m1 130 rfl) rfl
theorem q203 : (Jvm.Cond.lays "LifeRents$Acts" "LifeRents$Acts" "arrears" "I") ∈ lw_all := lw_g (lw_at lw_m1 131 rfl) rfl
theorem q204 : (Jvm.Cond.soleField "LifeRents$Acts" "arrears") ∈ lw_all := lw_g (lw_at lw_m1 132 rfl) rfl
theorem q205 : (Jvm.Cond.lays "LifeRents$Acts" "LifeRents$Acts" "wait" "I") ∈ lw_all := lw_g (lw_at lw_m1 133 rfl) rfl
theorem q206 : (Jvm.Cond.soleField "LifeRents$Acts" "wait") ∈ lw_all := lw_g (lw_at lw_m1 134 rfl) rfl
theorem q207 : (Jvm.Cond.lays "LifeRents$Acts" "LifeRents$Acts" "rate" "I") ∈ lw_all := lw_g (lw_at lw_m1 135 rfl) rfl
theorem q208 : (Jvm.Cond.soleField "LifeRents$Acts" "rate") ∈ lw_all := lw_g (lw_at lw_m1 136 rfl) rfl
theorem q209 : (Jvm.Cond.lays "LifeRents$Acts" "LifeRents$Acts" "cap" "I") ∈ lw_all := lw_g (lw_at lw_m1 137 rfl) rfl
theorem q210 : (Jvm.Cond.soleField "LifeRents$Acts" "cap") ∈ lw_all := lw_g (lw_at lw_m1 138 rfl) rfl
theorem q211 : (Jvm.Cond.lays "LifeRents$Acts" "LifeRents$Acts" "many" "I") ∈ lw_all := lw_g (lw_at lw_m1 139 rfl) rfl
theorem q212 : (Jvm.Cond.soleField "LifeRents$Acts" "many") ∈ lw_all := lw_g (lw_at lw_m1 140 rfl) rfl
theorem q213 : (Jvm.Cond.superclass "LifeRents$Acts" "java/lang/Object") ∈ lw_all := lw_g (lw_at lw_m1 141 rfl) rfl
theorem q564 : (Jvm.Cond.fieldLinkNest "LifeRents$Acts" (40 : Nat) "LifeRents$Line" "sort" "I" "LifeRents") ∈ lw_tbl := lw_at lw_m3 12 rfl
theorem q565 : (Jvm.Cond.fieldLinkNest "LifeRents$Acts" (51 : Nat) "LifeRents$Line" "number" "I" "LifeRents") ∈ lw_tbl := lw_at lw_m3 13 rfl
theorem q647 : (Jvm.Cond.selects "LifeRents$Acts" ({ cls := "java/lang/Object", name := "getClass", desc := "()Ljava/lang/Class;" } : Jvm.MethodName) ({ cls := "java/lang/Object", name := "getClass", desc := "()Ljava/lang/Class;" } : Jvm.MethodName)) ∈ lw_all := lw_g (lw_at lw_m3 95 rfl) rfl
theorem q740 : (Jvm.Cond.instanceMethod ({ cls := "LifeRents$Acts", name := "may", desc := "(LLifeRents$Life;IZ)Z" } : Jvm.MethodName)) ∈ lw_all := lw_g (lw_at lw_m3 188 rfl) rfl
theorem q741 : (Jvm.Cond.selects "LifeRents$Acts" ({ cls := "LifeRents$Acts", name := "may", desc := "(LLifeRents$Life;IZ)Z" } : Jvm.MethodName) ({ cls := "LifeRents$Acts", name := "may", desc := "(LLifeRents$Life;IZ)Z" } : Jvm.MethodName)) ∈ lw_all := lw_g (lw_at lw_m3 189 rfl) rfl
theorem q742 : (Jvm.Cond.code ({ cls := "LifeRents$Acts", name := "may", desc := "(LLifeRents$Life;IZ)Z" } : Jvm.MethodName) prog_2_method_3_code (5 : Nat) (Option.some Jvm.ClassFile.FieldType.boolean)) ∈ lw_all := lw_g (lw_at lw_m3 190 rfl) rfl
theorem q743 : (Jvm.Cond.methodLink "LifeRents$Acts" (47 : Nat) ({ cls := "LifeRents$Acts", name := "latest", desc := "(IILLifeRents$Life;IZ)LLifeRents$Line;" } : Jvm.MethodName)) ∈ lw_all := lw_g (lw_at lw_m3 191 rfl) rfl
theorem q744 : (Jvm.Cond.instanceMethod ({ cls := "LifeRents$Acts", name := "latest", desc := "(IILLifeRents$Life;IZ)LLifeRents$Line;" } : Jvm.MethodName)) ∈ lw_all := lw_g (lw_at lw_m3 192 rfl) rfl
theorem q745 : (Jvm.Cond.selects "LifeRents$Acts" ({ cls := "LifeRents$Acts", name := "latest", desc := "(IILLifeRents$Life;IZ)LLifeRents$Line;" } : Jvm.MethodName) ({ cls := "LifeRents$Acts", name := "latest", desc := "(IILLifeRents$Life;IZ)LLifeRents$Line;" } : Jvm.MethodName)) ∈ lw_all := lw_g (lw_at lw_m3 193 rfl) rfl
theorem q746 : (Jvm.Cond.code ({ cls := "LifeRents$Acts", name := "latest", desc := "(IILLifeRents$Life;IZ)LLifeRents$Line;" } : Jvm.MethodName) prog_2_method_2_code (7 : Nat) (Option.some (Jvm.ClassFile.FieldType.object "LifeRents$Line"))) ∈ lw_all := lw_g (lw_at lw_m3 194 rfl) rfl
theorem q747 : (Jvm.Cond.methodLink "LifeRents$Acts" (30 : Nat) ({ cls := "java/util/ArrayList", name := "size", desc := "()I" } : Jvm.MethodName)) ∈ lw_all := lw_g (lw_at lw_m3 195 rfl) rfl
theorem q748 : (Jvm.Cond.methodLink "LifeRents$Acts" (34 : Nat) ({ cls := "java/util/ArrayList", name := "get", desc := "(I)Ljava/lang/Object;" } : Jvm.MethodName)) ∈ lw_all := lw_g (lw_at lw_m3 196 rfl) rfl
theorem q749 : (Jvm.Cond.classLink "LifeRents$Acts" (38 : Nat) "LifeRents$Line") ∈ lw_all := lw_g (lw_at lw_m3 197 rfl) rfl
theorem q750 : (Jvm.Cond.methodLink "LifeRents$Acts" (43 : Nat) ({ cls := "LifeRents$Line", name := "holds", desc := "(LLifeRents$Life;IZ)Z" } : Jvm.MethodName)) ∈ lw_all := lw_g (lw_at lw_m3 198 rfl) rfl
theorem q760 : (Jvm.Cond.instanceMethod ({ cls := "LifeRents$Acts", name := "price", desc := "(LLifeRents$Life;IZ)I" } : Jvm.MethodName)) ∈ lw_all := lw_g (lw_at lw_m3 208 rfl) rfl
theorem q761 : (Jvm.Cond.selects "LifeRents$Acts" ({ cls := "LifeRents$Acts", name := "price", desc := "(LLifeRents$Life;IZ)I" } : Jvm.MethodName) ({ cls := "LifeRents$Acts", name := "price", desc := "(LLifeRents$Life;IZ)I" } : Jvm.MethodName)) ∈ lw_all := lw_g (lw_at lw_m3 209 rfl) rfl
theorem q762 : (Jvm.Cond.code ({ cls := "LifeRents$Acts", name := "price", desc := "(LLifeRents$Life;IZ)I" } : Jvm.MethodName) prog_2_method_4_code (5 : Nat) (Option.some Jvm.ClassFile.FieldType.int)) ∈ lw_all := lw_g (lw_at lw_m3 210 rfl) rfl
theorem q764 : (Jvm.Cond.instanceMethod ({ cls := "LifeRents$Acts", name := "lump", desc := "(LLifeRents$Life;IZ)I" } : Jvm.MethodName)) ∈ lw_all := lw_g (lw_at lw_m3 212 rfl) rfl
theorem q765 : (Jvm.Cond.selects "LifeRents$Acts" ({ cls := "LifeRents$Acts", name := "lump", desc := "(LLifeRents$Life;IZ)I" } : Jvm.MethodName) ({ cls := "LifeRents$Acts", name := "lump", desc := "(LLifeRents$Life;IZ)I" } : Jvm.MethodName)) ∈ lw_all := lw_g (lw_at lw_m3 213 rfl) rfl
theorem q766 : (Jvm.Cond.code ({ cls := "LifeRents$Acts", name := "lump", desc := "(LLifeRents$Life;IZ)I" } : Jvm.MethodName) prog_2_method_5_code (5 : Nat) (Option.some Jvm.ClassFile.FieldType.int)) ∈ lw_all := lw_g (lw_at lw_m3 214 rfl) rfl
theorem q1731 : (Jvm.Cond.castable "LifeRents$Acts" "java/lang/Object") ∈ lw_tbl := lw_at lw_m7 219 rfl
theorem in_X3 : ∀ w ∈ wsX30, w ∈ lw_all := lw_in wsX30 [201, 203, 205, 207, 209, 211] (by decide +kernel) (by decide +kernel)
/-! LifeRents$Known -/
set_option maxRecDepth 100000
def RX4 : String := "LifeRents$Known"
def TX4 : u_T := fun k => match k with
  | 0 => ("LifeRents$Known", "dead", "[I", true)
  | 1 => ("LifeRents$Known", "proved", "[[Z", true)
  | 2 => ("LifeRents$Known", "isStruck", "[Z", true)
  | 3 => ("LifeRents$Known", "half", "I", false)
  | _ => ("LifeRents$Known", "this$0", "LLifeRents;", true)
def tyX4 : Nat → FieldType := fun k => match k with
  | 0 => .array .int
  | 1 => .array (.array .boolean)
  | 2 => .array .boolean
  | 3 => .int
  | _ => .object "LifeRents"
abbrev wsX40 : List Cond := u_ws RX4 TX4 5
theorem nmX4 : ∀ a, a < 5 → ∀ b, b < 5 → a ≠ b → (TX4 a).2.1 ≠ (TX4 b).2.1 := by decide +kernel
theorem tyX4_ok : ∀ k, k < 5 → parseFieldDescriptor (TX4 k).2.2.1 = some (tyX4 k) := by decide +kernel
abbrev cX4_init : ByteArray := prog_7_method_1_code
def yX4_init : MethodName := ⟨RX4, "<init>", "(LLifeRents;)V"⟩
def dkwX4_init_1 : List UInt8 := [197, 0, 19, 2, 181, 0, 21, 42, 16, 60, 188, 4, 181, 0, 24, 177]
abbrev dktX4_init_1 : List UInt8 := dkwX4_init_1 ++ []
def dkwX4_init_0 : List UInt8 := [42, 43, 181, 0, 3, 42, 183, 0, 9, 42, 16, 12, 188, 10, 181, 0, 15, 42, 16, 12, 16, 80]
abbrev dktX4_init_0 : List UInt8 := dkwX4_init_0 ++ dktX4_init_1
theorem dksX4_init_0 : cX4_init.data.toList.drop 0 = dktX4_init_0 := by decide +kernel
theorem dksX4_init_1 : cX4_init.data.toList.drop 22 = dktX4_init_1 := dk_seg dksX4_init_0 22 rfl rfl
theorem dX4_init_0 : decode cX4_init 0 = .ok (.aload_n 0, 1) := dk_42 (dk_at dksX4_init_0 0 rfl rfl)
theorem dX4_init_1 : decode cX4_init 1 = .ok (.aload_n 1, 1) := dk_43 (dk_at dksX4_init_0 1 rfl rfl)
theorem dX4_init_2 : decode cX4_init 2 = .ok (.putfield 3, 3) := dk_181 0 3 (dk_at dksX4_init_0 2 rfl rfl)
theorem dX4_init_5 : decode cX4_init 5 = .ok (.aload_n 0, 1) := dk_42 (dk_at dksX4_init_0 5 rfl rfl)
theorem dX4_init_6 : decode cX4_init 6 = .ok (.invokespecial 9, 3) := dk_183 0 9 (dk_at dksX4_init_0 6 rfl rfl)
theorem dX4_init_9 : decode cX4_init 9 = .ok (.aload_n 0, 1) := dk_42 (dk_at dksX4_init_0 9 rfl rfl)
theorem dX4_init_10 : decode cX4_init 10 = .ok (.bipush 12, 2) := dk_16 12 (dk_at dksX4_init_0 10 rfl rfl)
theorem dX4_init_12 : decode cX4_init 12 = .ok (.newarray .int, 2) := dk_188_10 (dk_at dksX4_init_0 12 rfl rfl)
theorem dX4_init_14 : decode cX4_init 14 = .ok (.putfield 15, 3) := dk_181 0 15 (dk_at dksX4_init_0 14 rfl rfl)
theorem dX4_init_17 : decode cX4_init 17 = .ok (.aload_n 0, 1) := dk_42 (dk_at dksX4_init_0 17 rfl rfl)
theorem dX4_init_18 : decode cX4_init 18 = .ok (.bipush 12, 2) := dk_16 12 (dk_at dksX4_init_0 18 rfl rfl)
theorem dX4_init_20 : decode cX4_init 20 = .ok (.bipush 80, 2) := dk_16 80 (dk_at dksX4_init_0 20 rfl rfl)
theorem dX4_init_22 : decode cX4_init 22 = .ok (.multianewarray 19 2, 4) := by decide +kernel
theorem dX4_init_26 : decode cX4_init 26 = .ok (.putfield 21, 3) := dk_181 0 21 (dk_at dksX4_init_1 4 rfl rfl)
theorem dX4_init_29 : decode cX4_init 29 = .ok (.aload_n 0, 1) := dk_42 (dk_at dksX4_init_1 7 rfl rfl)
theorem dX4_init_30 : decode cX4_init 30 = .ok (.bipush 60, 2) := dk_16 60 (dk_at dksX4_init_1 8 rfl rfl)
theorem dX4_init_32 : decode cX4_init 32 = .ok (.newarray .boolean, 2) := dk_188_4 (dk_at dksX4_init_1 10 rfl rfl)
theorem dX4_init_34 : decode cX4_init 34 = .ok (.putfield 24, 3) := dk_181 0 24 (dk_at dksX4_init_1 12 rfl rfl)
theorem dX4_init_37 : decode cX4_init 37 = .ok (.return_, 1) := dk_177 (dk_at dksX4_init_1 15 rfl rfl)
abbrev cX4_know : ByteArray := prog_7_method_2_code
def yX4_know : MethodName := ⟨RX4, "know", "(I)LLifeRents$Known;"⟩
def dkwX4_know_9 : List UInt8 := [182, 0, 42, 192, 0, 46, 42, 182, 0, 58, 132, 2, 1, 167, 255, 213, 42, 176]
abbrev dktX4_know_9 : List UInt8 := dkwX4_know_9 ++ []
def dkwX4_know_8 : List UInt8 := [182, 0, 36, 162, 0, 35, 42, 28, 182, 0, 54, 153, 0, 21, 42, 180, 0, 3, 180, 0, 32, 28]
abbrev dktX4_know_8 : List UInt8 := dkwX4_know_8 ++ dktX4_know_9
def dkwX4_know_7 : List UInt8 := [192, 0, 46, 182, 0, 51, 4, 84, 132, 2, 255, 167, 255, 175, 3, 61, 28, 42, 180, 0, 3, 180, 0, 32]
abbrev dktX4_know_7 : List UInt8 := dkwX4_know_7 ++ dktX4_know_8
def dkwX4_know_6 : List UInt8 := [182, 0, 51, 2, 159, 0, 26, 42, 180, 0, 24, 42, 180, 0, 3, 180, 0, 32, 28, 182, 0, 42]
abbrev dktX4_know_6 : List UInt8 := dkwX4_know_6 ++ dktX4_know_7
def dkwX4_know_5 : List UInt8 := [42, 180, 0, 24, 28, 51, 154, 0, 47, 42, 180, 0, 3, 180, 0, 32, 28, 182, 0, 42, 192, 0, 46]
abbrev dktX4_know_5 : List UInt8 := dkwX4_know_5 ++ dktX4_know_6
def dkwX4_know_4 : List UInt8 := [155, 0, 83, 42, 180, 0, 3, 180, 0, 32, 28, 182, 0, 42, 192, 0, 46, 180, 0, 48, 27, 163, 0, 56]
abbrev dktX4_know_4 : List UInt8 := dkwX4_know_4 ++ dktX4_know_5
def dkwX4_know_3 : List UInt8 := [3, 84, 132, 2, 1, 167, 255, 232, 42, 180, 0, 3, 180, 0, 32, 182, 0, 36, 4, 100, 61, 28]
abbrev dktX4_know_3 : List UInt8 := dkwX4_know_3 ++ dktX4_know_4
def dkwX4_know_2 : List UInt8 := [167, 255, 217, 3, 61, 28, 42, 180, 0, 3, 180, 0, 32, 182, 0, 36, 162, 0, 16, 42, 180, 0, 24, 28]
abbrev dktX4_know_2 : List UInt8 := dkwX4_know_2 ++ dktX4_know_3
def dkwX4_know_1 : List UInt8 := [16, 80, 162, 0, 18, 42, 180, 0, 21, 28, 50, 29, 3, 84, 132, 3, 1, 167, 255, 238, 132, 2, 1]
abbrev dktX4_know_1 : List UInt8 := dkwX4_know_1 ++ dktX4_know_2
def dkwX4_know_0 : List UInt8 := [42, 27, 181, 0, 28, 3, 61, 28, 16, 12, 162, 0, 39, 42, 180, 0, 15, 28, 2, 79, 3, 62, 29]
abbrev dktX4_know_0 : List UInt8 := dkwX4_know_0 ++ dktX4_know_1
theorem dksX4_know_0 : cX4_know.data.toList.drop 0 = dktX4_know_0 := by decide +kernel
theorem dksX4_know_1 : cX4_know.data.toList.drop 23 = dktX4_know_1 := dk_seg dksX4_know_0 23 rfl rfl
theorem dksX4_know_2 : cX4_know.data.toList.drop 46 = dktX4_know_2 := dk_seg dksX4_know_1 23 rfl rfl
theorem dksX4_know_3 : cX4_know.data.toList.drop 70 = dktX4_know_3 := dk_seg dksX4_know_2 24 rfl rfl
theorem dksX4_know_4 : cX4_know.data.toList.drop 92 = dktX4_know_4 := dk_seg dksX4_know_3 22 rfl rfl
theorem dksX4_know_5 : cX4_know.data.toList.drop 116 = dktX4_know_5 := dk_seg dksX4_know_4 24 rfl rfl
theorem dksX4_know_6 : cX4_know.data.toList.drop 139 = dktX4_know_6 := dk_seg dksX4_know_5 23 rfl rfl
theorem dksX4_know_7 : cX4_know.data.toList.drop 161 = dktX4_know_7 := dk_seg dksX4_know_6 22 rfl rfl
theorem dksX4_know_8 : cX4_know.data.toList.drop 185 = dktX4_know_8 := dk_seg dksX4_know_7 24 rfl rfl
theorem dksX4_know_9 : cX4_know.data.toList.drop 207 = dktX4_know_9 := dk_seg dksX4_know_8 22 rfl rfl
theorem dX4_know_0 : decode cX4_know 0 = .ok (.aload_n 0, 1) := dk_42 (dk_at dksX4_know_0 0 rfl rfl)
theorem dX4_know_1 : decode cX4_know 1 = .ok (.iload_n 1, 1) := dk_27 (dk_at dksX4_know_0 1 rfl rfl)
theorem dX4_know_2 : decode cX4_know 2 = .ok (.putfield 28, 3) := dk_181 0 28 (dk_at dksX4_know_0 2 rfl rfl)
theorem dX4_know_5 : decode cX4_know 5 = .ok (.iconst 0, 1) := dk_3 (dk_at dksX4_know_0 5 rfl rfl)
theorem dX4_know_6 : decode cX4_know 6 = .ok (.istore_n 2, 1) := dk_61 (dk_at dksX4_know_0 6 rfl rfl)
theorem dX4_know_7 : decode cX4_know 7 = .ok (.iload_n 2, 1) := dk_28 (dk_at dksX4_know_0 7 rfl rfl)
theorem dX4_know_8 : decode cX4_know 8 = .ok (.bipush 12, 2) := dk_16 12 (dk_at dksX4_know_0 8 rfl rfl)
theorem dX4_know_10 : decode cX4_know 10 = .ok (.if_icmp .ge 39, 3) := dk_162 0 39 (dk_at dksX4_know_0 10 rfl rfl)
theorem dX4_know_13 : decode cX4_know 13 = .ok (.aload_n 0, 1) := dk_42 (dk_at dksX4_know_0 13 rfl rfl)
theorem dX4_know_14 : decode cX4_know 14 = .ok (.getfield 15, 3) := dk_180 0 15 (dk_at dksX4_know_0 14 rfl rfl)
theorem dX4_know_17 : decode cX4_know 17 = .ok (.iload_n 2, 1) := dk_28 (dk_at dksX4_know_0 17 rfl rfl)
theorem dX4_know_18 : decode cX4_know 18 = .ok (.iconst (-1), 1) := dk_2 (dk_at dksX4_know_0 18 rfl rfl)
theorem dX4_know_19 : decode cX4_know 19 = .ok (.iastore, 1) := dk_79 (dk_at dksX4_know_0 19 rfl rfl)
theorem dX4_know_20 : decode cX4_know 20 = .ok (.iconst 0, 1) := dk_3 (dk_at dksX4_know_0 20 rfl rfl)
theorem dX4_know_21 : decode cX4_know 21 = .ok (.istore_n 3, 1) := dk_62 (dk_at dksX4_know_0 21 rfl rfl)
theorem dX4_know_22 : decode cX4_know 22 = .ok (.iload_n 3, 1) := dk_29 (dk_at dksX4_know_0 22 rfl rfl)
theorem dX4_know_23 : decode cX4_know 23 = .ok (.bipush 80, 2) := dk_16 80 (dk_at dksX4_know_1 0 rfl rfl)
theorem dX4_know_25 : decode cX4_know 25 = .ok (.if_icmp .ge 18, 3) := dk_162 0 18 (dk_at dksX4_know_1 2 rfl rfl)
theorem dX4_know_28 : decode cX4_know 28 = .ok (.aload_n 0, 1) := dk_42 (dk_at dksX4_know_1 5 rfl rfl)
theorem dX4_know_29 : decode cX4_know 29 = .ok (.getfield 21, 3) := dk_180 0 21 (dk_at dksX4_know_1 6 rfl rfl)
theorem dX4_know_32 : decode cX4_know 32 = .ok (.iload_n 2, 1) := dk_28 (dk_at dksX4_know_1 9 rfl rfl)
theorem dX4_know_33 : decode cX4_know 33 = .ok (.aaload, 1) := dk_50 (dk_at dksX4_know_1 10 rfl rfl)
theorem dX4_know_34 : decode cX4_know 34 = .ok (.iload_n 3, 1) := dk_29 (dk_at dksX4_know_1 11 rfl rfl)
theorem dX4_know_35 : decode cX4_know 35 = .ok (.iconst 0, 1) := dk_3 (dk_at dksX4_know_1 12 rfl rfl)
theorem dX4_know_36 : decode cX4_know 36 = .ok (.bastore, 1) := dk_84 (dk_at dksX4_know_1 13 rfl rfl)
theorem dX4_know_37 : decode cX4_know 37 = .ok (.iinc 3 1, 3) := dk_132 3 1 (dk_at dksX4_know_1 14 rfl rfl)
theorem dX4_know_40 : decode cX4_know 40 = .ok (.goto (-18), 3) := dk_167 255 238 (dk_at dksX4_know_1 17 rfl rfl)
theorem dX4_know_43 : decode cX4_know 43 = .ok (.iinc 2 1, 3) := dk_132 2 1 (dk_at dksX4_know_1 20 rfl rfl)
theorem dX4_know_46 : decode cX4_know 46 = .ok (.goto (-39), 3) := dk_167 255 217 (dk_at dksX4_know_2 0 rfl rfl)
theorem dX4_know_49 : decode cX4_know 49 = .ok (.iconst 0, 1) := dk_3 (dk_at dksX4_know_2 3 rfl rfl)
theorem dX4_know_50 : decode cX4_know 50 = .ok (.istore_n 2, 1) := dk_61 (dk_at dksX4_know_2 4 rfl rfl)
theorem dX4_know_51 : decode cX4_know 51 = .ok (.iload_n 2, 1) := dk_28 (dk_at dksX4_know_2 5 rfl rfl)
theorem dX4_know_52 : decode cX4_know 52 = .ok (.aload_n 0, 1) := dk_42 (dk_at dksX4_know_2 6 rfl rfl)
theorem dX4_know_53 : decode cX4_know 53 = .ok (.getfield 3, 3) := dk_180 0 3 (dk_at dksX4_know_2 7 rfl rfl)
theorem dX4_know_56 : decode cX4_know 56 = .ok (.getfield 32, 3) := dk_180 0 32 (dk_at dksX4_know_2 10 rfl rfl)
theorem dX4_know_59 : decode cX4_know 59 = .ok (.invokevirtual 36, 3) := dk_182 0 36 (dk_at dksX4_know_2 13 rfl rfl)
theorem dX4_know_62 : decode cX4_know 62 = .ok (.if_icmp .ge 16, 3) := dk_162 0 16 (dk_at dksX4_know_2 16 rfl rfl)
theorem dX4_know_65 : decode cX4_know 65 = .ok (.aload_n 0, 1) := dk_42 (dk_at dksX4_know_2 19 rfl rfl)
theorem dX4_know_66 : decode cX4_know 66 = .ok (.getfield 24, 3) := dk_180 0 24 (dk_at dksX4_know_2 20 rfl rfl)
theorem dX4_know_69 : decode cX4_know 69 = .ok (.iload_n 2, 1) := dk_28 (dk_at dksX4_know_2 23 rfl rfl)
theorem dX4_know_70 : decode cX4_know 70 = .ok (.iconst 0, 1) := dk_3 (dk_at dksX4_know_3 0 rfl rfl)
theorem dX4_know_71 : decode cX4_know 71 = .ok (.bastore, 1) := dk_84 (dk_at dksX4_know_3 1 rfl rfl)
theorem dX4_know_72 : decode cX4_know 72 = .ok (.iinc 2 1, 3) := dk_132 2 1 (dk_at dksX4_know_3 2 rfl rfl)
theorem dX4_know_75 : decode cX4_know 75 = .ok (.goto (-24), 3) := dk_167 255 232 (dk_at dksX4_know_3 5 rfl rfl)
theorem dX4_know_78 : decode cX4_know 78 = .ok (.aload_n 0, 1) := dk_42 (dk_at dksX4_know_3 8 rfl rfl)
theorem dX4_know_79 : decode cX4_know 79 = .ok (.getfield 3, 3) := dk_180 0 3 (dk_at dksX4_know_3 9 rfl rfl)
theorem dX4_know_82 : decode cX4_know 82 = .ok (.getfield 32, 3) := dk_180 0 32 (dk_at dksX4_know_3 12 rfl rfl)
theorem dX4_know_85 : decode cX4_know 85 = .ok (.invokevirtual 36, 3) := dk_182 0 36 (dk_at dksX4_know_3 15 rfl rfl)
theorem dX4_know_88 : decode cX4_know 88 = .ok (.iconst 1, 1) := dk_4 (dk_at dksX4_know_3 18 rfl rfl)
theorem dX4_know_89 : decode cX4_know 89 = .ok (.isub, 1) := dk_100 (dk_at dksX4_know_3 19 rfl rfl)
theorem dX4_know_90 : decode cX4_know 90 = .ok (.istore_n 2, 1) := dk_61 (dk_at dksX4_know_3 20 rfl rfl)
theorem dX4_know_91 : decode cX4_know 91 = .ok (.iload_n 2, 1) := dk_28 (dk_at dksX4_know_3 21 rfl rfl)
theorem dX4_know_92 : decode cX4_know 92 = .ok (.ifCond .lt 83, 3) := dk_155 0 83 (dk_at dksX4_know_4 0 rfl rfl)
theorem dX4_know_95 : decode cX4_know 95 = .ok (.aload_n 0, 1) := dk_42 (dk_at dksX4_know_4 3 rfl rfl)
theorem dX4_know_96 : decode cX4_know 96 = .ok (.getfield 3, 3) := dk_180 0 3 (dk_at dksX4_know_4 4 rfl rfl)
theorem dX4_know_99 : decode cX4_know 99 = .ok (.getfield 32, 3) := dk_180 0 32 (dk_at dksX4_know_4 7 rfl rfl)
theorem dX4_know_102 : decode cX4_know 102 = .ok (.iload_n 2, 1) := dk_28 (dk_at dksX4_know_4 10 rfl rfl)
theorem dX4_know_103 : decode cX4_know 103 = .ok (.invokevirtual 42, 3) := dk_182 0 42 (dk_at dksX4_know_4 11 rfl rfl)
theorem dX4_know_106 : decode cX4_know 106 = .ok (.checkcast 46, 3) := dk_192 0 46 (dk_at dksX4_know_4 14 rfl rfl)
theorem dX4_know_109 : decode cX4_know 109 = .ok (.getfield 48, 3) := dk_180 0 48 (dk_at dksX4_know_4 17 rfl rfl)
theorem dX4_know_112 : decode cX4_know 112 = .ok (.iload_n 1, 1) := dk_27 (dk_at dksX4_know_4 20 rfl rfl)
theorem dX4_know_113 : decode cX4_know 113 = .ok (.if_icmp .gt 56, 3) := dk_163 0 56 (dk_at dksX4_know_4 21 rfl rfl)
theorem dX4_know_116 : decode cX4_know 116 = .ok (.aload_n 0, 1) := dk_42 (dk_at dksX4_know_5 0 rfl rfl)
theorem dX4_know_117 : decode cX4_know 117 = .ok (.getfield 24, 3) := dk_180 0 24 (dk_at dksX4_know_5 1 rfl rfl)
theorem dX4_know_120 : decode cX4_know 120 = .ok (.iload_n 2, 1) := dk_28 (dk_at dksX4_know_5 4 rfl rfl)
theorem dX4_know_121 : decode cX4_know 121 = .ok (.baload, 1) := dk_51 (dk_at dksX4_know_5 5 rfl rfl)
theorem dX4_know_122 : decode cX4_know 122 = .ok (.ifCond .ne 47, 3) := dk_154 0 47 (dk_at dksX4_know_5 6 rfl rfl)
theorem dX4_know_125 : decode cX4_know 125 = .ok (.aload_n 0, 1) := dk_42 (dk_at dksX4_know_5 9 rfl rfl)
theorem dX4_know_126 : decode cX4_know 126 = .ok (.getfield 3, 3) := dk_180 0 3 (dk_at dksX4_know_5 10 rfl rfl)
theorem dX4_know_129 : decode cX4_know 129 = .ok (.getfield 32, 3) := dk_180 0 32 (dk_at dksX4_know_5 13 rfl rfl)
theorem dX4_know_132 : decode cX4_know 132 = .ok (.iload_n 2, 1) := dk_28 (dk_at dksX4_know_5 16 rfl rfl)
theorem dX4_know_133 : decode cX4_know 133 = .ok (.invokevirtual 42, 3) := dk_182 0 42 (dk_at dksX4_know_5 17 rfl rfl)
theorem dX4_know_136 : decode cX4_know 136 = .ok (.checkcast 46, 3) := dk_192 0 46 (dk_at dksX4_know_5 20 rfl rfl)
theorem dX4_know_139 : decode cX4_know 139 = .ok (.invokevirtual 51, 3) := dk_182 0 51 (dk_at dksX4_know_6 0 rfl rfl)
theorem dX4_know_142 : decode cX4_know 142 = .ok (.iconst (-1), 1) := dk_2 (dk_at dksX4_know_6 3 rfl rfl)
theorem dX4_know_143 : decode cX4_know 143 = .ok (.if_icmp .eq 26, 3) := dk_159 0 26 (dk_at dksX4_know_6 4 rfl rfl)
theorem dX4_know_146 : decode cX4_know 146 = .ok (.aload_n 0, 1) := dk_42 (dk_at dksX4_know_6 7 rfl rfl)
theorem dX4_know_147 : decode cX4_know 147 = .ok (.getfield 24, 3) := dk_180 0 24 (dk_at dksX4_know_6 8 rfl rfl)
theorem dX4_know_150 : decode cX4_know 150 = .ok (.aload_n 0, 1) := dk_42 (dk_at dksX4_know_6 11 rfl rfl)
theorem dX4_know_151 : decode cX4_know 151 = .ok (.getfield 3, 3) := dk_180 0 3 (dk_at dksX4_know_6 12 rfl rfl)
theorem dX4_know_154 : decode cX4_know 154 = .ok (.getfield 32, 3) := dk_180 0 32 (dk_at dksX4_know_6 15 rfl rfl)
theorem dX4_know_157 : decode cX4_know 157 = .ok (.iload_n 2, 1) := dk_28 (dk_at dksX4_know_6 18 rfl rfl)
theorem dX4_know_158 : decode cX4_know 158 = .ok (.invokevirtual 42, 3) := dk_182 0 42 (dk_at dksX4_know_6 19 rfl rfl)
theorem dX4_know_161 : decode cX4_know 161 = .ok (.checkcast 46, 3) := dk_192 0 46 (dk_at dksX4_know_7 0 rfl rfl)
theorem dX4_know_164 : decode cX4_know 164 = .ok (.invokevirtual 51, 3) := dk_182 0 51 (dk_at dksX4_know_7 3 rfl rfl)
theorem dX4_know_167 : decode cX4_know 167 = .ok (.iconst 1, 1) := dk_4 (dk_at dksX4_know_7 6 rfl rfl)
theorem dX4_know_168 : decode cX4_know 168 = .ok (.bastore, 1) := dk_84 (dk_at dksX4_know_7 7 rfl rfl)
theorem dX4_know_169 : decode cX4_know 169 = .ok (.iinc 2 (-1), 3) := dk_132 2 255 (dk_at dksX4_know_7 8 rfl rfl)
theorem dX4_know_172 : decode cX4_know 172 = .ok (.goto (-81), 3) := dk_167 255 175 (dk_at dksX4_know_7 11 rfl rfl)
theorem dX4_know_175 : decode cX4_know 175 = .ok (.iconst 0, 1) := dk_3 (dk_at dksX4_know_7 14 rfl rfl)
theorem dX4_know_176 : decode cX4_know 176 = .ok (.istore_n 2, 1) := dk_61 (dk_at dksX4_know_7 15 rfl rfl)
theorem dX4_know_177 : decode cX4_know 177 = .ok (.iload_n 2, 1) := dk_28 (dk_at dksX4_know_7 16 rfl rfl)
theorem dX4_know_178 : decode cX4_know 178 = .ok (.aload_n 0, 1) := dk_42 (dk_at dksX4_know_7 17 rfl rfl)
theorem dX4_know_179 : decode cX4_know 179 = .ok (.getfield 3, 3) := dk_180 0 3 (dk_at dksX4_know_7 18 rfl rfl)
theorem dX4_know_182 : decode cX4_know 182 = .ok (.getfield 32, 3) := dk_180 0 32 (dk_at dksX4_know_7 21 rfl rfl)
theorem dX4_know_185 : decode cX4_know 185 = .ok (.invokevirtual 36, 3) := dk_182 0 36 (dk_at dksX4_know_8 0 rfl rfl)
theorem dX4_know_188 : decode cX4_know 188 = .ok (.if_icmp .ge 35, 3) := dk_162 0 35 (dk_at dksX4_know_8 3 rfl rfl)
theorem dX4_know_191 : decode cX4_know 191 = .ok (.aload_n 0, 1) := dk_42 (dk_at dksX4_know_8 6 rfl rfl)
theorem dX4_know_192 : decode cX4_know 192 = .ok (.iload_n 2, 1) := dk_28 (dk_at dksX4_know_8 7 rfl rfl)
theorem dX4_know_193 : decode cX4_know 193 = .ok (.invokevirtual 54, 3) := dk_182 0 54 (dk_at dksX4_know_8 8 rfl rfl)
theorem dX4_know_196 : decode cX4_know 196 = .ok (.ifCond .eq 21, 3) := dk_153 0 21 (dk_at dksX4_know_8 11 rfl rfl)
theorem dX4_know_199 : decode cX4_know 199 = .ok (.aload_n 0, 1) := dk_42 (dk_at dksX4_know_8 14 rfl rfl)
theorem dX4_know_200 : decode cX4_know 200 = .ok (.getfield 3, 3) := dk_180 0 3 (dk_at dksX4_know_8 15 rfl rfl)
theorem dX4_know_203 : decode cX4_know 203 = .ok (.getfield 32, 3) := dk_180 0 32 (dk_at dksX4_know_8 18 rfl rfl)
theorem dX4_know_206 : decode cX4_know 206 = .ok (.iload_n 2, 1) := dk_28 (dk_at dksX4_know_8 21 rfl rfl)
theorem dX4_know_207 : decode cX4_know 207 = .ok (.invokevirtual 42, 3) := dk_182 0 42 (dk_at dksX4_know_9 0 rfl rfl)
theorem dX4_know_210 : decode cX4_know 210 = .ok (.checkcast 46, 3) := dk_192 0 46 (dk_at dksX4_know_9 3 rfl rfl)
theorem dX4_know_213 : decode cX4_know 213 = .ok (.aload_n 0, 1) := dk_42 (dk_at dksX4_know_9 6 rfl rfl)
theorem dX4_know_214 : decode cX4_know 214 = .ok (.invokevirtual 58, 3) := dk_182 0 58 (dk_at dksX4_know_9 7 rfl rfl)
theorem dX4_know_217 : decode cX4_know 217 = .ok (.iinc 2 1, 3) := dk_132 2 1 (dk_at dksX4_know_9 10 rfl rfl)
theorem dX4_know_220 : decode cX4_know 220 = .ok (.goto (-43), 3) := dk_167 255 213 (dk_at dksX4_know_9 13 rfl rfl)
theorem dX4_know_223 : decode cX4_know 223 = .ok (.aload_n 0, 1) := dk_42 (dk_at dksX4_know_9 16 rfl rfl)
theorem dX4_know_224 : decode cX4_know 224 = .ok (.areturn, 1) := dk_176 (dk_at dksX4_know_9 17 rfl rfl)
abbrev cX4_counts : ByteArray := prog_7_method_3_code
def yX4_counts : MethodName := ⟨RX4, "counts", "(I)Z"⟩
def dkwX4_counts_1 : List UInt8 := [42, 180, 0, 24, 27, 51, 154, 0, 7, 4, 167, 0, 4, 3, 172]
abbrev dktX4_counts_1 : List UInt8 := dkwX4_counts_1 ++ []
def dkwX4_counts_0 : List UInt8 := [42, 180, 0, 3, 180, 0, 32, 27, 182, 0, 42, 192, 0, 46, 180, 0, 48, 42, 180, 0, 28, 163, 0, 16]
abbrev dktX4_counts_0 : List UInt8 := dkwX4_counts_0 ++ dktX4_counts_1
theorem dksX4_counts_0 : cX4_counts.data.toList.drop 0 = dktX4_counts_0 := by decide +kernel
theorem dksX4_counts_1 : cX4_counts.data.toList.drop 24 = dktX4_counts_1 := dk_seg dksX4_counts_0 24 rfl rfl
theorem dX4_counts_0 : decode cX4_counts 0 = .ok (.aload_n 0, 1) := dk_42 (dk_at dksX4_counts_0 0 rfl rfl)
theorem dX4_counts_1 : decode cX4_counts 1 = .ok (.getfield 3, 3) := dk_180 0 3 (dk_at dksX4_counts_0 1 rfl rfl)
theorem dX4_counts_4 : decode cX4_counts 4 = .ok (.getfield 32, 3) := dk_180 0 32 (dk_at dksX4_counts_0 4 rfl rfl)
theorem dX4_counts_7 : decode cX4_counts 7 = .ok (.iload_n 1, 1) := dk_27 (dk_at dksX4_counts_0 7 rfl rfl)
theorem dX4_counts_8 : decode cX4_counts 8 = .ok (.invokevirtual 42, 3) := dk_182 0 42 (dk_at dksX4_counts_0 8 rfl rfl)
theorem dX4_counts_11 : decode cX4_counts 11 = .ok (.checkcast 46, 3) := dk_192 0 46 (dk_at dksX4_counts_0 11 rfl rfl)
theorem dX4_counts_14 : decode cX4_counts 14 = .ok (.getfield 48, 3) := dk_180 0 48 (dk_at dksX4_counts_0 14 rfl rfl)
theorem dX4_counts_17 : decode cX4_counts 17 = .ok (.aload_n 0, 1) := dk_42 (dk_at dksX4_counts_0 17 rfl rfl)
theorem dX4_counts_18 : decode cX4_counts 18 = .ok (.getfield 28, 3) := dk_180 0 28 (dk_at dksX4_counts_0 18 rfl rfl)
theorem dX4_counts_21 : decode cX4_counts 21 = .ok (.if_icmp .gt 16, 3) := dk_163 0 16 (dk_at dksX4_counts_0 21 rfl rfl)
theorem dX4_counts_24 : decode cX4_counts 24 = .ok (.aload_n 0, 1) := dk_42 (dk_at dksX4_counts_1 0 rfl rfl)
theorem dX4_counts_25 : decode cX4_counts 25 = .ok (.getfield 24, 3) := dk_180 0 24 (dk_at dksX4_counts_1 1 rfl rfl)
theorem dX4_counts_28 : decode cX4_counts 28 = .ok (.iload_n 1, 1) := dk_27 (dk_at dksX4_counts_1 4 rfl rfl)
theorem dX4_counts_29 : decode cX4_counts 29 = .ok (.baload, 1) := dk_51 (dk_at dksX4_counts_1 5 rfl rfl)
theorem dX4_counts_30 : decode cX4_counts 30 = .ok (.ifCond .ne 7, 3) := dk_154 0 7 (dk_at dksX4_counts_1 6 rfl rfl)
theorem dX4_counts_33 : decode cX4_counts 33 = .ok (.iconst 1, 1) := dk_4 (dk_at dksX4_counts_1 9 rfl rfl)
theorem dX4_counts_34 : decode cX4_counts 34 = .ok (.goto 4, 3) := dk_167 0 4 (dk_at dksX4_counts_1 10 rfl rfl)
theorem dX4_counts_37 : decode cX4_counts 37 = .ok (.iconst 0, 1) := dk_3 (dk_at dksX4_counts_1 13 rfl rfl)
theorem dX4_counts_38 : decode cX4_counts 38 = .ok (.ireturn, 1) := dk_172 (dk_at dksX4_counts_1 14 rfl rfl)
abbrev cX4_isDue : ByteArray := prog_7_method_5_code
def yX4_isDue : MethodName := ⟨RX4, "isDue", "(LLifeRents$Rent;I)Z"⟩
def dkwX4_isDue_1 : List UInt8 := [198, 0, 19, 42, 43, 182, 0, 80, 28, 182, 0, 76, 153, 0, 7, 4, 167, 0, 4, 3, 172]
abbrev dktX4_isDue_1 : List UInt8 := dkwX4_isDue_1 ++ []
def dkwX4_isDue_0 : List UInt8 := [28, 43, 180, 0, 67, 164, 0, 38, 42, 43, 180, 0, 72, 28, 182, 0, 76, 154, 0, 22, 43, 182, 0, 80]
abbrev dktX4_isDue_0 : List UInt8 := dkwX4_isDue_0 ++ dktX4_isDue_1
theorem dksX4_isDue_0 : cX4_isDue.data.toList.drop 0 = dktX4_isDue_0 := by decide +kernel
theorem dksX4_isDue_1 : cX4_isDue.data.toList.drop 24 = dktX4_isDue_1 := dk_seg dksX4_isDue_0 24 rfl rfl
theorem dX4_isDue_0 : decode cX4_isDue 0 = .ok (.iload_n 2, 1) := dk_28 (dk_at dksX4_isDue_0 0 rfl rfl)
theorem dX4_isDue_1 : decode cX4_isDue 1 = .ok (.aload_n 1, 1) := dk_43 (dk_at dksX4_isDue_0 1 rfl rfl)
theorem dX4_isDue_2 : decode cX4_isDue 2 = .ok (.getfield 67, 3) := dk_180 0 67 (dk_at dksX4_isDue_0 2 rfl rfl)
theorem dX4_isDue_5 : decode cX4_isDue 5 = .ok (.if_icmp .le 38, 3) := dk_164 0 38 (dk_at dksX4_isDue_0 5 rfl rfl)
theorem dX4_isDue_8 : decode cX4_isDue 8 = .ok (.aload_n 0, 1) := dk_42 (dk_at dksX4_isDue_0 8 rfl rfl)
theorem dX4_isDue_9 : decode cX4_isDue 9 = .ok (.aload_n 1, 1) := dk_43 (dk_at dksX4_isDue_0 9 rfl rfl)
theorem dX4_isDue_10 : decode cX4_isDue 10 = .ok (.getfield 72, 3) := dk_180 0 72 (dk_at dksX4_isDue_0 10 rfl rfl)
theorem dX4_isDue_13 : decode cX4_isDue 13 = .ok (.iload_n 2, 1) := dk_28 (dk_at dksX4_isDue_0 13 rfl rfl)
theorem dX4_isDue_14 : decode cX4_isDue 14 = .ok (.invokevirtual 76, 3) := dk_182 0 76 (dk_at dksX4_isDue_0 14 rfl rfl)
theorem dX4_isDue_17 : decode cX4_isDue 17 = .ok (.ifCond .ne 22, 3) := dk_154 0 22 (dk_at dksX4_isDue_0 17 rfl rfl)
theorem dX4_isDue_20 : decode cX4_isDue 20 = .ok (.aload_n 1, 1) := dk_43 (dk_at dksX4_isDue_0 20 rfl rfl)
theorem dX4_isDue_21 : decode cX4_isDue 21 = .ok (.invokevirtual 80, 3) := dk_182 0 80 (dk_at dksX4_isDue_0 21 rfl rfl)
theorem dX4_isDue_24 : decode cX4_isDue 24 = .ok (.ifnull 19, 3) := dk_198 0 19 (dk_at dksX4_isDue_1 0 rfl rfl)
theorem dX4_isDue_27 : decode cX4_isDue 27 = .ok (.aload_n 0, 1) := dk_42 (dk_at dksX4_isDue_1 3 rfl rfl)
theorem dX4_isDue_28 : decode cX4_isDue 28 = .ok (.aload_n 1, 1) := dk_43 (dk_at dksX4_isDue_1 4 rfl rfl)
theorem dX4_isDue_29 : decode cX4_isDue 29 = .ok (.invokevirtual 80, 3) := dk_182 0 80 (dk_at dksX4_isDue_1 5 rfl rfl)
theorem dX4_isDue_32 : decode cX4_isDue 32 = .ok (.iload_n 2, 1) := dk_28 (dk_at dksX4_isDue_1 8 rfl rfl)
theorem dX4_isDue_33 : decode cX4_isDue 33 = .ok (.invokevirtual 76, 3) := dk_182 0 76 (dk_at dksX4_isDue_1 9 rfl rfl)
theorem dX4_isDue_36 : decode cX4_isDue 36 = .ok (.ifCond .eq 7, 3) := dk_153 0 7 (dk_at dksX4_isDue_1 12 rfl rfl)
theorem dX4_isDue_39 : decode cX4_isDue 39 = .ok (.iconst 1, 1) := dk_4 (dk_at dksX4_isDue_1 15 rfl rfl)
theorem dX4_isDue_40 : decode cX4_isDue 40 = .ok (.goto 4, 3) := dk_167 0 4 (dk_at dksX4_isDue_1 16 rfl rfl)
theorem dX4_isDue_43 : decode cX4_isDue 43 = .ok (.iconst 0, 1) := dk_3 (dk_at dksX4_isDue_1 19 rfl rfl)
theorem dX4_isDue_44 : decode cX4_isDue 44 = .ok (.ireturn, 1) := dk_172 (dk_at dksX4_isDue_1 20 rfl rfl)
abbrev cX4_livesIn : ByteArray := prog_7_method_4_code
def yX4_livesIn : MethodName := ⟨RX4, "livesIn", "(LLifeRents$Life;I)Z"⟩
def dkwX4_livesIn_1 : List UInt8 := [161, 0, 7, 4, 167, 0, 4, 3, 172]
abbrev dktX4_livesIn_1 : List UInt8 := dkwX4_livesIn_1 ++ []
def dkwX4_livesIn_0 : List UInt8 := [42, 180, 0, 15, 43, 180, 0, 62, 46, 2, 159, 0, 16, 42, 180, 0, 15, 43, 180, 0, 62, 46, 28]
abbrev dktX4_livesIn_0 : List UInt8 := dkwX4_livesIn_0 ++ dktX4_livesIn_1
theorem dksX4_livesIn_0 : cX4_livesIn.data.toList.drop 0 = dktX4_livesIn_0 := by decide +kernel
theorem dksX4_livesIn_1 : cX4_livesIn.data.toList.drop 23 = dktX4_livesIn_1 := dk_seg dksX4_livesIn_0 23 rfl rfl
theorem dX4_livesIn_0 : decode cX4_livesIn 0 = .ok (.aload_n 0, 1) := dk_42 (dk_at dksX4_livesIn_0 0 rfl rfl)
theorem dX4_livesIn_1 : decode cX4_livesIn 1 = .ok (.getfield 15, 3) := dk_180 0 15 (dk_at dksX4_livesIn_0 1 rfl rfl)
theorem dX4_livesIn_4 : decode cX4_livesIn 4 = .ok (.aload_n 1, 1) := dk_43 (dk_at dksX4_livesIn_0 4 rfl rfl)
theorem dX4_livesIn_5 : decode cX4_livesIn 5 = .ok (.getfield 62, 3) := dk_180 0 62 (dk_at dksX4_livesIn_0 5 rfl rfl)
theorem dX4_livesIn_8 : decode cX4_livesIn 8 = .ok (.iaload, 1) := dk_46 (dk_at dksX4_livesIn_0 8 rfl rfl)
theorem dX4_livesIn_9 : decode cX4_livesIn 9 = .ok (.iconst (-1), 1) := dk_2 (dk_at dksX4_livesIn_0 9 rfl rfl)
theorem dX4_livesIn_10 : decode cX4_livesIn 10 = .ok (.if_icmp .eq 16, 3) := dk_159 0 16 (dk_at dksX4_livesIn_0 10 rfl rfl)
theorem dX4_livesIn_13 : decode cX4_livesIn 13 = .ok (.aload_n 0, 1) := dk_42 (dk_at dksX4_livesIn_0 13 rfl rfl)
theorem dX4_livesIn_14 : decode cX4_livesIn 14 = .ok (.getfield 15, 3) := dk_180 0 15 (dk_at dksX4_livesIn_0 14 rfl rfl)
theorem dX4_livesIn_17 : decode cX4_livesIn 17 = .ok (.aload_n 1, 1) := dk_43 (dk_at dksX4_livesIn_0 17 rfl rfl)
theorem dX4_livesIn_18 : decode cX4_livesIn 18 = .ok (.getfield 62, 3) := dk_180 0 62 (dk_at dksX4_livesIn_0 18 rfl rfl)
theorem dX4_livesIn_21 : decode cX4_livesIn 21 = .ok (.iaload, 1) := dk_46 (dk_at dksX4_livesIn_0 21 rfl rfl)
theorem dX4_livesIn_22 : decode cX4_livesIn 22 = .ok (.iload_n 2, 1) := dk_28 (dk_at dksX4_livesIn_0 22 rfl rfl)
theorem dX4_livesIn_23 : decode cX4_livesIn 23 = .ok (.if_icmp .lt 7, 3) := dk_161 0 7 (dk_at dksX4_livesIn_1 0 rfl rfl)
theorem dX4_livesIn_26 : decode cX4_livesIn 26 = .ok (.iconst 1, 1) := dk_4 (dk_at dksX4_livesIn_1 3 rfl rfl)
theorem dX4_livesIn_27 : decode cX4_livesIn 27 = .ok (.goto 4, 3) := dk_167 0 4 (dk_at dksX4_livesIn_1 4 rfl rfl)
theorem dX4_livesIn_30 : decode cX4_livesIn 30 = .ok (.iconst 0, 1) := dk_3 (dk_at dksX4_livesIn_1 7 rfl rfl)
theorem dX4_livesIn_31 : decode cX4_livesIn 31 = .ok (.ireturn, 1) := dk_172 (dk_at dksX4_livesIn_1 8 rfl rfl)
abbrev cX4_isProved : ByteArray := prog_7_method_6_code
def yX4_isProved : MethodName := ⟨RX4, "isProved", "(LLifeRents$Rent;I)Z"⟩
def dkwX4_isProved_1 : List UInt8 := [28, 182, 0, 84, 153, 0, 7, 4, 167, 0, 4, 3, 172]
abbrev dktX4_isProved_1 : List UInt8 := dkwX4_isProved_1 ++ []
def dkwX4_isProved_0 : List UInt8 := [42, 43, 180, 0, 72, 28, 182, 0, 84, 154, 0, 22, 43, 182, 0, 80, 198, 0, 19, 42, 43, 182, 0, 80]
abbrev dktX4_isProved_0 : List UInt8 := dkwX4_isProved_0 ++ dktX4_isProved_1
theorem dksX4_isProved_0 : cX4_isProved.data.toList.drop 0 = dktX4_isProved_0 := by decide +kernel
theorem dksX4_isProved_1 : cX4_isProved.data.toList.drop 24 = dktX4_isProved_1 := dk_seg dksX4_isProved_0 24 rfl rfl
theorem dX4_isProved_0 : decode cX4_isProved 0 = .ok (.aload_n 0, 1) := dk_42 (dk_at dksX4_isProved_0 0 rfl rfl)
theorem dX4_isProved_1 : decode cX4_isProved 1 = .ok (.aload_n 1, 1) := dk_43 (dk_at dksX4_isProved_0 1 rfl rfl)
theorem dX4_isProved_2 : decode cX4_isProved 2 = .ok (.getfield 72, 3) := dk_180 0 72 (dk_at dksX4_isProved_0 2 rfl rfl)
theorem dX4_isProved_5 : decode cX4_isProved 5 = .ok (.iload_n 2, 1) := dk_28 (dk_at dksX4_isProved_0 5 rfl rfl)
theorem dX4_isProved_6 : decode cX4_isProved 6 = .ok (.invokevirtual 84, 3) := dk_182 0 84 (dk_at dksX4_isProved_0 6 rfl rfl)
theorem dX4_isProved_9 : decode cX4_isProved 9 = .ok (.ifCond .ne 22, 3) := dk_154 0 22 (dk_at dksX4_isProved_0 9 rfl rfl)
theorem dX4_isProved_12 : decode cX4_isProved 12 = .ok (.aload_n 1, 1) := dk_43 (dk_at dksX4_isProved_0 12 rfl rfl)
theorem dX4_isProved_13 : decode cX4_isProved 13 = .ok (.invokevirtual 80, 3) := dk_182 0 80 (dk_at dksX4_isProved_0 13 rfl rfl)
theorem dX4_isProved_16 : decode cX4_isProved 16 = .ok (.ifnull 19, 3) := dk_198 0 19 (dk_at dksX4_isProved_0 16 rfl rfl)
theorem dX4_isProved_19 : decode cX4_isProved 19 = .ok (.aload_n 0, 1) := dk_42 (dk_at dksX4_isProved_0 19 rfl rfl)
theorem dX4_isProved_20 : decode cX4_isProved 20 = .ok (.aload_n 1, 1) := dk_43 (dk_at dksX4_isProved_0 20 rfl rfl)
theorem dX4_isProved_21 : decode cX4_isProved 21 = .ok (.invokevirtual 80, 3) := dk_182 0 80 (dk_at dksX4_isProved_0 21 rfl rfl)
theorem dX4_isProved_24 : decode cX4_isProved 24 = .ok (.iload_n 2, 1) := dk_28 (dk_at dksX4_isProved_1 0 rfl rfl)
theorem dX4_isProved_25 : decode cX4_isProved 25 = .ok (.invokevirtual 84, 3) := dk_182 0 84 (dk_at dksX4_isProved_1 1 rfl rfl)
theorem dX4_isProved_28 : decode cX4_isProved 28 = .ok (.ifCond .eq 7, 3) := dk_153 0 7 (dk_at dksX4_isProved_1 4 rfl rfl)
theorem dX4_isProved_31 : decode cX4_isProved 31 = .ok (.iconst 1, 1) := dk_4 (dk_at dksX4_isProved_1 7 rfl rfl)
theorem dX4_isProved_32 : decode cX4_isProved 32 = .ok (.goto 4, 3) := dk_167 0 4 (dk_at dksX4_isProved_1 8 rfl rfl)
theorem dX4_isProved_35 : decode cX4_isProved 35 = .ok (.iconst 0, 1) := dk_3 (dk_at dksX4_isProved_1 11 rfl rfl)
theorem dX4_isProved_36 : decode cX4_isProved 36 = .ok (.ireturn, 1) := dk_172 (dk_at dksX4_isProved_1 12 rfl rfl)
abbrev cX4_isProved_2 : ByteArray := prog_7_method_7_code
def yX4_isProved_2 : MethodName := ⟨RX4, "isProved", "(LLifeRents$Life;I)Z"⟩
def dkwX4_isProved_2_1 : List UInt8 := [42, 43, 29, 182, 0, 96, 153, 0, 5, 4, 172, 132, 3, 1, 167, 255, 220, 3, 172]
abbrev dktX4_isProved_2_1 : List UInt8 := dkwX4_isProved_2_1 ++ []
def dkwX4_isProved_2_0 : List UInt8 := [28, 62, 29, 28, 42, 180, 0, 3, 180, 0, 87, 180, 0, 91, 96, 163, 0, 26, 29, 16, 80, 162, 0, 20]
abbrev dktX4_isProved_2_0 : List UInt8 := dkwX4_isProved_2_0 ++ dktX4_isProved_2_1
theorem dksX4_isProved_2_0 : cX4_isProved_2.data.toList.drop 0 = dktX4_isProved_2_0 := by decide +kernel
theorem dksX4_isProved_2_1 : cX4_isProved_2.data.toList.drop 24 = dktX4_isProved_2_1 := dk_seg dksX4_isProved_2_0 24 rfl rfl
theorem dX4_isProved_2_0 : decode cX4_isProved_2 0 = .ok (.iload_n 2, 1) := dk_28 (dk_at dksX4_isProved_2_0 0 rfl rfl)
theorem dX4_isProved_2_1 : decode cX4_isProved_2 1 = .ok (.istore_n 3, 1) := dk_62 (dk_at dksX4_isProved_2_0 1 rfl rfl)
theorem dX4_isProved_2_2 : decode cX4_isProved_2 2 = .ok (.iload_n 3, 1) := dk_29 (dk_at dksX4_isProved_2_0 2 rfl rfl)
theorem dX4_isProved_2_3 : decode cX4_isProved_2 3 = .ok (.iload_n 2, 1) := dk_28 (dk_at dksX4_isProved_2_0 3 rfl rfl)
theorem dX4_isProved_2_4 : decode cX4_isProved_2 4 = .ok (.aload_n 0, 1) := dk_42 (dk_at dksX4_isProved_2_0 4 rfl rfl)
theorem dX4_isProved_2_5 : decode cX4_isProved_2 5 = .ok (.getfield 3, 3) := dk_180 0 3 (dk_at dksX4_isProved_2_0 5 rfl rfl)
theorem dX4_isProved_2_8 : decode cX4_isProved_2 8 = .ok (.getfield 87, 3) := dk_180 0 87 (dk_at dksX4_isProved_2_0 8 rfl rfl)
theorem dX4_isProved_2_11 : decode cX4_isProved_2 11 = .ok (.getfield 91, 3) := dk_180 0 91 (dk_at dksX4_isProved_2_0 11 rfl rfl)
theorem dX4_isProved_2_14 : decode cX4_isProved_2 14 = .ok (.iadd, 1) := dk_96 (dk_at dksX4_isProved_2_0 14 rfl rfl)
theorem dX4_isProved_2_15 : decode cX4_isProved_2 15 = .ok (.if_icmp .gt 26, 3) := dk_163 0 26 (dk_at dksX4_isProved_2_0 15 rfl rfl)
theorem dX4_isProved_2_18 : decode cX4_isProved_2 18 = .ok (.iload_n 3, 1) := dk_29 (dk_at dksX4_isProved_2_0 18 rfl rfl)
theorem dX4_isProved_2_19 : decode cX4_isProved_2 19 = .ok (.bipush 80, 2) := dk_16 80 (dk_at dksX4_isProved_2_0 19 rfl rfl)
theorem dX4_isProved_2_21 : decode cX4_isProved_2 21 = .ok (.if_icmp .ge 20, 3) := dk_162 0 20 (dk_at dksX4_isProved_2_0 21 rfl rfl)
theorem dX4_isProved_2_24 : decode cX4_isProved_2 24 = .ok (.aload_n 0, 1) := dk_42 (dk_at dksX4_isProved_2_1 0 rfl rfl)
theorem dX4_isProved_2_25 : decode cX4_isProved_2 25 = .ok (.aload_n 1, 1) := dk_43 (dk_at dksX4_isProved_2_1 1 rfl rfl)
theorem dX4_isProved_2_26 : decode cX4_isProved_2 26 = .ok (.iload_n 3, 1) := dk_29 (dk_at dksX4_isProved_2_1 2 rfl rfl)
theorem dX4_isProved_2_27 : decode cX4_isProved_2 27 = .ok (.invokevirtual 96, 3) := dk_182 0 96 (dk_at dksX4_isProved_2_1 3 rfl rfl)
theorem dX4_isProved_2_30 : decode cX4_isProved_2 30 = .ok (.ifCond .eq 5, 3) := dk_153 0 5 (dk_at dksX4_isProved_2_1 6 rfl rfl)
theorem dX4_isProved_2_33 : decode cX4_isProved_2 33 = .ok (.iconst 1, 1) := dk_4 (dk_at dksX4_isProved_2_1 9 rfl rfl)
theorem dX4_isProved_2_34 : decode cX4_isProved_2 34 = .ok (.ireturn, 1) := dk_172 (dk_at dksX4_isProved_2_1 10 rfl rfl)
theorem dX4_isProved_2_35 : decode cX4_isProved_2 35 = .ok (.iinc 3 1, 3) := dk_132 3 1 (dk_at dksX4_isProved_2_1 11 rfl rfl)
theorem dX4_isProved_2_38 : decode cX4_isProved_2 38 = .ok (.goto (-36), 3) := dk_167 255 220 (dk_at dksX4_isProved_2_1 14 rfl rfl)
theorem dX4_isProved_2_41 : decode cX4_isProved_2 41 = .ok (.iconst 0, 1) := dk_3 (dk_at dksX4_isProved_2_1 17 rfl rfl)
theorem dX4_isProved_2_42 : decode cX4_isProved_2 42 = .ok (.ireturn, 1) := dk_172 (dk_at dksX4_isProved_2_1 18 rfl rfl)
abbrev cX4_isGood : ByteArray := prog_7_method_8_code
def yX4_isGood : MethodName := ⟨RX4, "isGood", "(LLifeRents$Life;I)Z"⟩
def dkwX4_isGood_2 : List UInt8 := [163, 0, 7, 4, 167, 0, 4, 3, 172]
abbrev dktX4_isGood_2 : List UInt8 := dkwX4_isGood_2 ++ []
def dkwX4_isGood_1 : List UInt8 := [180, 0, 15, 43, 180, 0, 62, 46, 2, 159, 0, 16, 28, 42, 180, 0, 15, 43, 180, 0, 62, 46]
abbrev dktX4_isGood_1 : List UInt8 := dkwX4_isGood_1 ++ dktX4_isGood_2
def dkwX4_isGood_0 : List UInt8 := [42, 180, 0, 21, 43, 180, 0, 62, 50, 28, 51, 153, 0, 41, 28, 43, 180, 0, 99, 161, 0, 33, 42]
abbrev dktX4_isGood_0 : List UInt8 := dkwX4_isGood_0 ++ dktX4_isGood_1
theorem dksX4_isGood_0 : cX4_isGood.data.toList.drop 0 = dktX4_isGood_0 := by decide +kernel
theorem dksX4_isGood_1 : cX4_isGood.data.toList.drop 23 = dktX4_isGood_1 := dk_seg dksX4_isGood_0 23 rfl rfl
theorem dksX4_isGood_2 : cX4_isGood.data.toList.drop 45 = dktX4_isGood_2 := dk_seg dksX4_isGood_1 22 rfl rfl
theorem dX4_isGood_0 : decode cX4_isGood 0 = .ok (.aload_n 0, 1) := dk_42 (dk_at dksX4_isGood_0 0 rfl rfl)
theorem dX4_isGood_1 : decode cX4_isGood 1 = .ok (.getfield 21, 3) := dk_180 0 21 (dk_at dksX4_isGood_0 1 rfl rfl)
theorem dX4_isGood_4 : decode cX4_isGood 4 = .ok (.aload_n 1, 1) := dk_43 (dk_at dksX4_isGood_0 4 rfl rfl)
theorem dX4_isGood_5 : decode cX4_isGood 5 = .ok (.getfield 62, 3) := dk_180 0 62 (dk_at dksX4_isGood_0 5 rfl rfl)
theorem dX4_isGood_8 : decode cX4_isGood 8 = .ok (.aaload, 1) := dk_50 (dk_at dksX4_isGood_0 8 rfl rfl)
theorem dX4_isGood_9 : decode cX4_isGood 9 = .ok (.iload_n 2, 1) := dk_28 (dk_at dksX4_isGood_0 9 rfl rfl)
theorem dX4_isGood_10 : decode cX4_isGood 10 = .ok (.baload, 1) := dk_51 (dk_at dksX4_isGood_0 10 rfl rfl)
theorem dX4_isGood_11 : decode cX4_isGood 11 = .ok (.ifCond .eq 41, 3) := dk_153 0 41 (dk_at dksX4_isGood_0 11 rfl rfl)
theorem dX4_isGood_14 : decode cX4_isGood 14 = .ok (.iload_n 2, 1) := dk_28 (dk_at dksX4_isGood_0 14 rfl rfl)
theorem dX4_isGood_15 : decode cX4_isGood 15 = .ok (.aload_n 1, 1) := dk_43 (dk_at dksX4_isGood_0 15 rfl rfl)
theorem dX4_isGood_16 : decode cX4_isGood 16 = .ok (.getfield 99, 3) := dk_180 0 99 (dk_at dksX4_isGood_0 16 rfl rfl)
theorem dX4_isGood_19 : decode cX4_isGood 19 = .ok (.if_icmp .lt 33, 3) := dk_161 0 33 (dk_at dksX4_isGood_0 19 rfl rfl)
theorem dX4_isGood_22 : decode cX4_isGood 22 = .ok (.aload_n 0, 1) := dk_42 (dk_at dksX4_isGood_0 22 rfl rfl)
theorem dX4_isGood_23 : decode cX4_isGood 23 = .ok (.getfield 15, 3) := dk_180 0 15 (dk_at dksX4_isGood_1 0 rfl rfl)
theorem dX4_isGood_26 : decode cX4_isGood 26 = .ok (.aload_n 1, 1) := dk_43 (dk_at dksX4_isGood_1 3 rfl rfl)
theorem dX4_isGood_27 : decode cX4_isGood 27 = .ok (.getfield 62, 3) := dk_180 0 62 (dk_at dksX4_isGood_1 4 rfl rfl)
theorem dX4_isGood_30 : decode cX4_isGood 30 = .ok (.iaload, 1) := dk_46 (dk_at dksX4_isGood_1 7 rfl rfl)
theorem dX4_isGood_31 : decode cX4_isGood 31 = .ok (.iconst (-1), 1) := dk_2 (dk_at dksX4_isGood_1 8 rfl rfl)
theorem dX4_isGood_32 : decode cX4_isGood 32 = .ok (.if_icmp .eq 16, 3) := dk_159 0 16 (dk_at dksX4_isGood_1 9 rfl rfl)
theorem dX4_isGood_35 : decode cX4_isGood 35 = .ok (.iload_n 2, 1) := dk_28 (dk_at dksX4_isGood_1 12 rfl rfl)
theorem dX4_isGood_36 : decode cX4_isGood 36 = .ok (.aload_n 0, 1) := dk_42 (dk_at dksX4_isGood_1 13 rfl rfl)
theorem dX4_isGood_37 : decode cX4_isGood 37 = .ok (.getfield 15, 3) := dk_180 0 15 (dk_at dksX4_isGood_1 14 rfl rfl)
theorem dX4_isGood_40 : decode cX4_isGood 40 = .ok (.aload_n 1, 1) := dk_43 (dk_at dksX4_isGood_1 17 rfl rfl)
theorem dX4_isGood_41 : decode cX4_isGood 41 = .ok (.getfield 62, 3) := dk_180 0 62 (dk_at dksX4_isGood_1 18 rfl rfl)
theorem dX4_isGood_44 : decode cX4_isGood 44 = .ok (.iaload, 1) := dk_46 (dk_at dksX4_isGood_1 21 rfl rfl)
theorem dX4_isGood_45 : decode cX4_isGood 45 = .ok (.if_icmp .gt 7, 3) := dk_163 0 7 (dk_at dksX4_isGood_2 0 rfl rfl)
theorem dX4_isGood_48 : decode cX4_isGood 48 = .ok (.iconst 1, 1) := dk_4 (dk_at dksX4_isGood_2 3 rfl rfl)
theorem dX4_isGood_49 : decode cX4_isGood 49 = .ok (.goto 4, 3) := dk_167 0 4 (dk_at dksX4_isGood_2 4 rfl rfl)
theorem dX4_isGood_52 : decode cX4_isGood 52 = .ok (.iconst 0, 1) := dk_3 (dk_at dksX4_isGood_2 7 rfl rfl)
theorem dX4_isGood_53 : decode cX4_isGood 53 = .ok (.ireturn, 1) := dk_172 (dk_at dksX4_isGood_2 8 rfl rfl)
abbrev cX4_latest : ByteArray := prog_7_method_9_code
def yX4_latest : MethodName := ⟨RX4, "latest", "(LLifeRents$Life;)I"⟩
def dkwX4_latest_0 : List UInt8 := [16, 79, 61, 28, 155, 0, 18, 42, 43, 28, 182, 0, 96, 154, 0, 9, 132, 2, 255, 167, 255, 240, 28, 172]
abbrev dktX4_latest_0 : List UInt8 := dkwX4_latest_0 ++ []
theorem dksX4_latest_0 : cX4_latest.data.toList.drop 0 = dktX4_latest_0 := by decide +kernel
theorem dX4_latest_0 : decode cX4_latest 0 = .ok (.bipush 79, 2) := dk_16 79 (dk_at dksX4_latest_0 0 rfl rfl)
theorem dX4_latest_2 : decode cX4_latest 2 = .ok (.istore_n 2, 1) := dk_61 (dk_at dksX4_latest_0 2 rfl rfl)
theorem dX4_latest_3 : decode cX4_latest 3 = .ok (.iload_n 2, 1) := dk_28 (dk_at dksX4_latest_0 3 rfl rfl)
theorem dX4_latest_4 : decode cX4_latest 4 = .ok (.ifCond .lt 18, 3) := dk_155 0 18 (dk_at dksX4_latest_0 4 rfl rfl)
theorem dX4_latest_7 : decode cX4_latest 7 = .ok (.aload_n 0, 1) := dk_42 (dk_at dksX4_latest_0 7 rfl rfl)
theorem dX4_latest_8 : decode cX4_latest 8 = .ok (.aload_n 1, 1) := dk_43 (dk_at dksX4_latest_0 8 rfl rfl)
theorem dX4_latest_9 : decode cX4_latest 9 = .ok (.iload_n 2, 1) := dk_28 (dk_at dksX4_latest_0 9 rfl rfl)
theorem dX4_latest_10 : decode cX4_latest 10 = .ok (.invokevirtual 96, 3) := dk_182 0 96 (dk_at dksX4_latest_0 10 rfl rfl)
theorem dX4_latest_13 : decode cX4_latest 13 = .ok (.ifCond .ne 9, 3) := dk_154 0 9 (dk_at dksX4_latest_0 13 rfl rfl)
theorem dX4_latest_16 : decode cX4_latest 16 = .ok (.iinc 2 (-1), 3) := dk_132 2 255 (dk_at dksX4_latest_0 16 rfl rfl)
theorem dX4_latest_19 : decode cX4_latest 19 = .ok (.goto (-16), 3) := dk_167 255 240 (dk_at dksX4_latest_0 19 rfl rfl)
theorem dX4_latest_22 : decode cX4_latest 22 = .ok (.iload_n 2, 1) := dk_28 (dk_at dksX4_latest_0 22 rfl rfl)
theorem dX4_latest_23 : decode cX4_latest 23 = .ok (.ireturn, 1) := dk_172 (dk_at dksX4_latest_0 23 rfl rfl)
theorem q79 : (Jvm.Cond.initialized "LifeRents$Known") ∈ lw_all := lw_g (lw_at lw_m1 7 rfl) rfl
theorem q189 : (Jvm.Cond.fieldLinkNest "LifeRents$Known" (91 : Nat) "LifeRents$Acts" "wait" "I" "LifeRents") ∈ lw_tbl := lw_at lw_m1 117 rfl
theorem q219 : (Jvm.Cond.instantiable "LifeRents$Known" (5 : Nat)) ∈ lw_all := lw_g (lw_at lw_m1 147 rfl) rfl
theorem q221 : (Jvm.Cond.instanceMethod ({ cls := "LifeRents$Known", name := "<init>", desc := "(LLifeRents;)V" } : Jvm.MethodName)) ∈ lw_all := lw_g (lw_at lw_m1 149 rfl) rfl
theorem q222 : (Jvm.Cond.code ({ cls := "LifeRents$Known", name := "<init>", desc := "(LLifeRents;)V" } : Jvm.MethodName) prog_7_method_1_code (2 : Nat) (Option.none : Option Jvm.ClassFile.FieldType)) ∈ lw_all := lw_g (lw_at lw_m1 150 rfl) rfl
theorem q223 : (Jvm.Cond.methodLink "LifeRents$Known" (9 : Nat) ({ cls := "java/lang/Object", name := "<init>", desc := "()V" } : Jvm.MethodName)) ∈ lw_all := lw_g (lw_at lw_m1 151 rfl) rfl
theorem q224 : (Jvm.Cond.classLink "LifeRents$Known" (19 : Nat) "[[Z") ∈ lw_all := lw_g (lw_at lw_m1 152 rfl) rfl
theorem q226 : (Jvm.Cond.fieldLink "LifeRents$Known" (15 : Nat) "LifeRents$Known" "dead" "[I") ∈ lw_all := lw_g (lw_at lw_m1 154 rfl) rfl
theorem q232 : (Jvm.Cond.fieldLink "LifeRents$Known" (21 : Nat) "LifeRents$Known" "proved" "[[Z") ∈ lw_all := lw_g (lw_at lw_m1 160 rfl) rfl
theorem q234 : (Jvm.Cond.fieldLink "LifeRents$Known" (24 : Nat) "LifeRents$Known" "isStruck" "[Z") ∈ lw_all := lw_g (lw_at lw_m1 162 rfl) rfl
theorem q235 : (Jvm.Cond.fieldLink "LifeRents$Known" (28 : Nat) "LifeRents$Known" "half" "I") ∈ lw_all := lw_g (lw_at lw_m1 163 rfl) rfl
theorem q237 : (Jvm.Cond.fieldLink "LifeRents$Known" (3 : Nat) "LifeRents$Known" "this$0" "LLifeRents;") ∈ lw_all := lw_g (lw_at lw_m1 165 rfl) rfl
theorem q238 : (Jvm.Cond.laysFinal "LifeRents$Known" "LifeRents$Known" "dead" "[I") ∈ lw_all := lw_g (lw_at lw_m1 166 rfl) rfl
theorem q239 : (Jvm.Cond.soleField "LifeRents$Known" "dead") ∈ lw_all := lw_g (lw_at lw_m1 167 rfl) rfl
theorem q240 : (Jvm.Cond.laysFinal "LifeRents$Known" "LifeRents$Known" "proved" "[[Z") ∈ lw_all := lw_g (lw_at lw_m1 168 rfl) rfl
theorem q241 : (Jvm.Cond.soleField "LifeRents$Known" "proved") ∈ lw_all := lw_g (lw_at lw_m1 169 rfl) rfl
theorem q242 : (Jvm.Cond.laysFinal "LifeRents$Known" "LifeRents$Known" "isStruck" "[Z") ∈ lw_all := lw_g (lw_at lw_m1 170 rfl) rfl
theorem q243 : (Jvm.Cond.soleField "LifeRents$Known" "isStruck") ∈ lw_all := lw_g (lw_at lw_m1 171 rfl) rfl
theorem q244 : (Jvm.Cond.lays "LifeRents$Known" "LifeRents$Known" "half" "I") ∈ lw_all := lw_g (lw_at lw_m1 172 rfl) rfl
theorem q245 : (Jvm.Cond.soleField "LifeRents$Known" "half") ∈ lw_all := lw_g (lw_at lw_m1 173 rfl) rfl
theorem q246 : (Jvm.Cond.laysFinal "LifeRents$Known" "LifeRents$Known" "this$0" "LLifeRents;") ∈ lw_all := lw_g (lw_at lw_m1 174 rfl) rfl
theorem q247 : (Jvm.Cond.soleField "LifeRents$Known" "this$0") ∈ lw_all := lw_g (lw_at lw_m1 175 rfl) rfl
theorem q248 : (Jvm.Cond.superclass "LifeRents$Known" "java/lang/Object") ∈ lw_all := lw_g (lw_at lw_m1 176 rfl) rfl
theorem q325 : (Jvm.Cond.fieldLinkNest "LifeRents$Known" (87 : Nat) "LifeRents" "acts" "LLifeRents$Acts;" "LifeRents") ∈ lw_tbl := lw_at lw_m2 13 rfl
theorem q330 : (Jvm.Cond.fieldLinkNest "LifeRents$Known" (32 : Nat) "LifeRents" "notes" "Ljava/util/ArrayList;" "LifeRents") ∈ lw_tbl := lw_at lw_m2 18 rfl
theorem q652 : (Jvm.Cond.selects "LifeRents$Known" ({ cls := "java/lang/Object", name := "getClass", desc := "()Ljava/lang/Class;" } : Jvm.MethodName) ({ cls := "java/lang/Object", name := "getClass", desc := "()Ljava/lang/Class;" } : Jvm.MethodName)) ∈ lw_all := lw_g (lw_at lw_m3 100 rfl) rfl
theorem q701 : (Jvm.Cond.fieldLinkNest "LifeRents$Known" (62 : Nat) "LifeRents$Life" "number" "I" "LifeRents") ∈ lw_tbl := lw_at lw_m3 149 rfl
theorem q706 : (Jvm.Cond.fieldLinkNest "LifeRents$Known" (99 : Nat) "LifeRents$Life" "born" "I" "LifeRents") ∈ lw_tbl := lw_at lw_m3 154 rfl
theorem q788 : (Jvm.Cond.fieldLink "LifeRents$Known" (67 : Nat) "LifeRents$Rent" "bought" "I") ∈ lw_all := lw_g (lw_at lw_m3 236 rfl) rfl
theorem q797 : (Jvm.Cond.fieldLink "LifeRents$Known" (72 : Nat) "LifeRents$Rent" "first" "LLifeRents$Life;") ∈ lw_all := lw_g (lw_at lw_m4 5 rfl) rfl
theorem q909 : (Jvm.Cond.fieldLink "LifeRents$Known" (48 : Nat) "LifeRents$Note" "told" "I") ∈ lw_all := lw_g (lw_at lw_m4 117 rfl) rfl
theorem q947 : (Jvm.Cond.instanceMethod ({ cls := "LifeRents$Known", name := "know", desc := "(I)LLifeRents$Known;" } : Jvm.MethodName)) ∈ lw_all := lw_g (lw_at lw_m4 155 rfl) rfl
theorem q948 : (Jvm.Cond.selects "LifeRents$Known" ({ cls := "LifeRents$Known", name := "know", desc := "(I)LLifeRents$Known;" } : Jvm.MethodName) ({ cls := "LifeRents$Known", name := "know", desc := "(I)LLifeRents$Known;" } : Jvm.MethodName)) ∈ lw_all := lw_g (lw_at lw_m4 156 rfl) rfl
theorem q949 : (Jvm.Cond.code ({ cls := "LifeRents$Known", name := "know", desc := "(I)LLifeRents$Known;" } : Jvm.MethodName) prog_7_method_2_code (4 : Nat) (Option.some (Jvm.ClassFile.FieldType.object "LifeRents$Known"))) ∈ lw_all := lw_g (lw_at lw_m4 157 rfl) rfl
theorem q950 : (Jvm.Cond.methodLink "LifeRents$Known" (36 : Nat) ({ cls := "java/util/ArrayList", name := "size", desc := "()I" } : Jvm.MethodName)) ∈ lw_all := lw_g (lw_at lw_m4 158 rfl) rfl
theorem q951 : (Jvm.Cond.methodLink "LifeRents$Known" (42 : Nat) ({ cls := "java/util/ArrayList", name := "get", desc := "(I)Ljava/lang/Object;" } : Jvm.MethodName)) ∈ lw_all := lw_g (lw_at lw_m4 159 rfl) rfl
theorem q952 : (Jvm.Cond.classLink "LifeRents$Known" (46 : Nat) "LifeRents$Note") ∈ lw_all := lw_g (lw_at lw_m4 160 rfl) rfl
theorem q953 : (Jvm.Cond.methodLink "LifeRents$Known" (51 : Nat) ({ cls := "LifeRents$Note", name := "struck", desc := "()I" } : Jvm.MethodName)) ∈ lw_all := lw_g (lw_at lw_m4 161 rfl) rfl
theorem q962 : (Jvm.Cond.methodLink "LifeRents$Known" (54 : Nat) ({ cls := "LifeRents$Known", name := "counts", desc := "(I)Z" } : Jvm.MethodName)) ∈ lw_all := lw_g (lw_at lw_m4 170 rfl) rfl
theorem q963 : (Jvm.Cond.instanceMethod ({ cls := "LifeRents$Known", name := "counts", desc := "(I)Z" } : Jvm.MethodName)) ∈ lw_all := lw_g (lw_at lw_m4 171 rfl) rfl
theorem q964 : (Jvm.Cond.selects "LifeRents$Known" ({ cls := "LifeRents$Known", name := "counts", desc := "(I)Z" } : Jvm.MethodName) ({ cls := "LifeRents$Known", name := "counts", desc := "(I)Z" } : Jvm.MethodName)) ∈ lw_all := lw_g (lw_at lw_m4 172 rfl) rfl
theorem q965 : (Jvm.Cond.code ({ cls := "LifeRents$Known", name := "counts", desc := "(I)Z" } : Jvm.MethodName) prog_7_method_3_code (2 : Nat) (Option.some Jvm.ClassFile.FieldType.boolean)) ∈ lw_all := lw_g (lw_at lw_m4 173 rfl) rfl
theorem q966 : (Jvm.Cond.methodLink "LifeRents$Known" (58 : Nat) ({ cls := "LifeRents$Note", name := "tell", desc := "(LLifeRents$Known;)V" } : Jvm.MethodName)) ∈ lw_all := lw_g (lw_at lw_m4 174 rfl) rfl
theorem q1006 : (Jvm.Cond.instanceMethod ({ cls := "LifeRents$Known", name := "isDue", desc := "(LLifeRents$Rent;I)Z" } : Jvm.MethodName)) ∈ lw_all := lw_g (lw_at lw_m4 214 rfl) rfl
theorem q1007 : (Jvm.Cond.selects "LifeRents$Known" ({ cls := "LifeRents$Known", name := "isDue", desc := "(LLifeRents$Rent;I)Z" } : Jvm.MethodName) ({ cls := "LifeRents$Known", name := "isDue", desc := "(LLifeRents$Rent;I)Z" } : Jvm.MethodName)) ∈ lw_all := lw_g (lw_at lw_m4 215 rfl) rfl
theorem q1008 : (Jvm.Cond.code ({ cls := "LifeRents$Known", name := "isDue", desc := "(LLifeRents$Rent;I)Z" } : Jvm.MethodName) prog_7_method_5_code (3 : Nat) (Option.some Jvm.ClassFile.FieldType.boolean)) ∈ lw_all := lw_g (lw_at lw_m4 216 rfl) rfl
theorem q1009 : (Jvm.Cond.methodLink "LifeRents$Known" (76 : Nat) ({ cls := "LifeRents$Known", name := "livesIn", desc := "(LLifeRents$Life;I)Z" } : Jvm.MethodName)) ∈ lw_all := lw_g (lw_at lw_m4 217 rfl) rfl
theorem q1010 : (Jvm.Cond.instanceMethod ({ cls := "LifeRents$Known", name := "livesIn", desc := "(LLifeRents$Life;I)Z" } : Jvm.MethodName)) ∈ lw_all := lw_g (lw_at lw_m4 218 rfl) rfl
theorem q1011 : (Jvm.Cond.selects "LifeRents$Known" ({ cls := "LifeRents$Known", name := "livesIn", desc := "(LLifeRents$Life;I)Z" } : Jvm.MethodName) ({ cls := "LifeRents$Known", name := "livesIn", desc := "(LLifeRents$Life;I)Z" } : Jvm.MethodName)) ∈ lw_all := lw_g (lw_at lw_m4 219 rfl) rfl
theorem q1012 : (Jvm.Cond.code ({ cls := "LifeRents$Known", name := "livesIn", desc := "(LLifeRents$Life;I)Z" } : Jvm.MethodName) prog_7_method_4_code (3 : Nat) (Option.some Jvm.ClassFile.FieldType.boolean)) ∈ lw_all := lw_g (lw_at lw_m4 220 rfl) rfl
theorem q1013 : (Jvm.Cond.methodLink "LifeRents$Known" (80 : Nat) ({ cls := "LifeRents$Rent", name := "second", desc := "()LLifeRents$Life;" } : Jvm.MethodName)) ∈ lw_all := lw_g (lw_at lw_m4 221 rfl) rfl
theorem q1022 : (Jvm.Cond.instanceMethod ({ cls := "LifeRents$Known", name := "isProved", desc := "(LLifeRents$Rent;I)Z" } : Jvm.MethodName)) ∈ lw_all := lw_g (lw_at lw_m4 230 rfl) rfl
theorem q1023 : (Jvm.Cond.selects "LifeRents$Known" ({ cls := "LifeRents$Known", name := "isProved", desc := "(LLifeRents$Rent;I)Z" } : Jvm.MethodName) ({ cls := "LifeRents$Known", name := "isProved", desc := "(LLifeRents$Rent;I)Z" } : Jvm.MethodName)) ∈ lw_all := lw_g (lw_at lw_m4 231 rfl) rfl
theorem q1024 : (Jvm.Cond.code ({ cls := "LifeRents$Known", name := "isProved", desc := "(LLifeRents$Rent;I)Z" } : Jvm.MethodName) prog_7_method_6_code (3 : Nat) (Option.some Jvm.ClassFile.FieldType.boolean)) ∈ lw_all := lw_g (lw_at lw_m4 232 rfl) rfl
theorem q1025 : (Jvm.Cond.methodLink "LifeRents$Known" (84 : Nat) ({ cls := "LifeRents$Known", name := "isProved", desc := "(LLifeRents$Life;I)Z" } : Jvm.MethodName)) ∈ lw_all := lw_g (lw_at lw_m4 233 rfl) rfl
theorem q1026 : (Jvm.Cond.privateMethod ({ cls := "LifeRents$Known", name := "isProved", desc := "(LLifeRents$Life;I)Z" } : Jvm.MethodName)) ∈ lw_tbl := lw_at lw_m4 234 rfl
theorem q1027 : (Jvm.Cond.instanceMethod ({ cls := "LifeRents$Known", name := "isProved", desc := "(LLifeRents$Life;I)Z" } : Jvm.MethodName)) ∈ lw_all := lw_g (lw_at lw_m4 235 rfl) rfl
theorem q1028 : (Jvm.Cond.code ({ cls := "LifeRents$Known", name := "isProved", desc := "(LLifeRents$Life;I)Z" } : Jvm.MethodName) prog_7_method_7_code (4 : Nat) (Option.some Jvm.ClassFile.FieldType.boolean)) ∈ lw_all := lw_g (lw_at lw_m4 236 rfl) rfl
theorem q1029 : (Jvm.Cond.methodLink "LifeRents$Known" (96 : Nat) ({ cls := "LifeRents$Known", name := "isGood", desc := "(LLifeRents$Life;I)Z" } : Jvm.MethodName)) ∈ lw_all := lw_g (lw_at lw_m4 237 rfl) rfl
theorem q1030 : (Jvm.Cond.privateMethod ({ cls := "LifeRents$Known", name := "isGood", desc := "(LLifeRents$Life;I)Z" } : Jvm.MethodName)) ∈ lw_tbl := lw_at lw_m4 238 rfl
theorem q1031 : (Jvm.Cond.instanceMethod ({ cls := "LifeRents$Known", name := "isGood", desc := "(LLifeRents$Life;I)Z" } : Jvm.MethodName)) ∈ lw_all := lw_g (lw_at lw_m4 239 rfl) rfl
theorem q1032 : (Jvm.Cond.code ({ cls := "LifeRents$Known", name := "isGood", desc := "(LLifeRents$Life;I)Z" } : Jvm.MethodName) prog_7_method_8_code (3 : Nat) (Option.some Jvm.ClassFile.FieldType.boolean)) ∈ lw_all := lw_g (lw_at lw_m5 0 rfl) rfl
theorem q1146 : (Jvm.Cond.instanceMethod ({ cls := "LifeRents$Known", name := "latest", desc := "(LLifeRents$Life;)I" } : Jvm.MethodName)) ∈ lw_all := lw_g (lw_at lw_m5 114 rfl) rfl
theorem q1147 : (Jvm.Cond.selects "LifeRents$Known" ({ cls := "LifeRents$Known", name := "latest", desc := "(LLifeRents$Life;)I" } : Jvm.MethodName) ({ cls := "LifeRents$Known", name := "latest", desc := "(LLifeRents$Life;)I" } : Jvm.MethodName)) ∈ lw_all := lw_g (lw_at lw_m5 115 rfl) rfl
theorem q1148 : (Jvm.Cond.code ({ cls := "LifeRents$Known", name := "latest", desc := "(LLifeRents$Life;)I" } : Jvm.MethodName) prog_7_method_9_code (3 : Nat) (Option.some Jvm.ClassFile.FieldType.int)) ∈ lw_all := lw_g (lw_at lw_m5 116 rfl) rfl
theorem q1733 : (Jvm.Cond.castable "LifeRents$Known" "java/lang/Object") ∈ lw_tbl := lw_at lw_m7 221 rfl
theorem in_X4 : ∀ w ∈ wsX40, w ∈ lw_all := lw_in wsX40 [238, 240, 242, 244, 246] (by decide +kernel) (by decide +kernel)
/-! LifeRents$Dead -/
set_option maxRecDepth 100000
def RX5 : String := "LifeRents$Dead"
def TX5 : u_T := fun k => match k with
  | 0 => ("LifeRents$Dead", "begun", "[[I", true)
  | 1 => ("LifeRents$Dead", "ended", "[[I", true)
  | _ => ("LifeRents$Dead", "this$0", "LLifeRents;", true)
def tyX5 : Nat → FieldType := fun k => match k with
  | 0 => .array (.array .int)
  | 1 => .array (.array .int)
  | _ => .object "LifeRents"
abbrev wsX50 : List Cond := u_ws RX5 TX5 3
theorem nmX5 : ∀ a, a < 3 → ∀ b, b < 3 → a ≠ b → (TX5 a).2.1 ≠ (TX5 b).2.1 := by decide +kernel
theorem tyX5_ok : ∀ k, k < 3 → parseFieldDescriptor (TX5 k).2.2.1 = some (tyX5 k) := by decide +kernel
abbrev cX5_init : ByteArray := prog_3_method_1_code
def yX5_init : MethodName := ⟨RX5, "<init>", "(LLifeRents;)V"⟩
def dkwX5_init_1 : List UInt8 := [197, 0, 15, 2, 181, 0, 20, 177]
abbrev dktX5_init_1 : List UInt8 := dkwX5_init_1 ++ []
def dkwX5_init_0 : List UInt8 := [42, 43, 181, 0, 3, 42, 183, 0, 9, 42, 7, 16, 10, 197, 0, 15, 2, 181, 0, 17, 42, 7, 16, 10]
abbrev dktX5_init_0 : List UInt8 := dkwX5_init_0 ++ dktX5_init_1
theorem dksX5_init_0 : cX5_init.data.toList.drop 0 = dktX5_init_0 := by decide +kernel
theorem dksX5_init_1 : cX5_init.data.toList.drop 24 = dktX5_init_1 := dk_seg dksX5_init_0 24 rfl rfl
theorem dX5_init_0 : decode cX5_init 0 = .ok (.aload_n 0, 1) := dk_42 (dk_at dksX5_init_0 0 rfl rfl)
theorem dX5_init_1 : decode cX5_init 1 = .ok (.aload_n 1, 1) := dk_43 (dk_at dksX5_init_0 1 rfl rfl)
theorem dX5_init_2 : decode cX5_init 2 = .ok (.putfield 3, 3) := dk_181 0 3 (dk_at dksX5_init_0 2 rfl rfl)
theorem dX5_init_5 : decode cX5_init 5 = .ok (.aload_n 0, 1) := dk_42 (dk_at dksX5_init_0 5 rfl rfl)
theorem dX5_init_6 : decode cX5_init 6 = .ok (.invokespecial 9, 3) := dk_183 0 9 (dk_at dksX5_init_0 6 rfl rfl)
theorem dX5_init_9 : decode cX5_init 9 = .ok (.aload_n 0, 1) := dk_42 (dk_at dksX5_init_0 9 rfl rfl)
theorem dX5_init_10 : decode cX5_init 10 = .ok (.iconst 4, 1) := dk_7 (dk_at dksX5_init_0 10 rfl rfl)
theorem dX5_init_11 : decode cX5_init 11 = .ok (.bipush 10, 2) := dk_16 10 (dk_at dksX5_init_0 11 rfl rfl)
theorem dX5_init_13 : decode cX5_init 13 = .ok (.multianewarray 15 2, 4) := by decide +kernel
theorem dX5_init_17 : decode cX5_init 17 = .ok (.putfield 17, 3) := dk_181 0 17 (dk_at dksX5_init_0 17 rfl rfl)
theorem dX5_init_20 : decode cX5_init 20 = .ok (.aload_n 0, 1) := dk_42 (dk_at dksX5_init_0 20 rfl rfl)
theorem dX5_init_21 : decode cX5_init 21 = .ok (.iconst 4, 1) := dk_7 (dk_at dksX5_init_0 21 rfl rfl)
theorem dX5_init_22 : decode cX5_init 22 = .ok (.bipush 10, 2) := dk_16 10 (dk_at dksX5_init_0 22 rfl rfl)
theorem dX5_init_24 : decode cX5_init 24 = .ok (.multianewarray 15 2, 4) := by decide +kernel
theorem dX5_init_28 : decode cX5_init 28 = .ok (.putfield 20, 3) := dk_181 0 20 (dk_at dksX5_init_1 4 rfl rfl)
theorem dX5_init_31 : decode cX5_init 31 = .ok (.return_, 1) := dk_177 (dk_at dksX5_init_1 7 rfl rfl)
abbrev cX5_count : ByteArray := prog_3_method_2_code
def yX5_count : MethodName := ⟨RX5, "count", "(LLifeRents$Known;)V"⟩
def dkwX5_count_4 : List UInt8 := [167, 255, 211, 177]
abbrev dktX5_count_4 : List UInt8 := dkwX5_count_4 ++ []
def dkwX5_count_3 : List UInt8 := [182, 0, 33, 192, 0, 37, 43, 180, 0, 39, 28, 46, 43, 180, 0, 45, 182, 0, 49, 132, 2, 1]
abbrev dktX5_count_3 : List UInt8 := dkwX5_count_3 ++ dktX5_count_4
def dkwX5_count_2 : List UInt8 := [42, 180, 0, 3, 180, 0, 23, 182, 0, 27, 162, 0, 37, 42, 42, 180, 0, 3, 180, 0, 23, 28]
abbrev dktX5_count_2 : List UInt8 := dkwX5_count_2 ++ dktX5_count_3
def dkwX5_count_1 : List UInt8 := [42, 180, 0, 20, 28, 50, 29, 3, 79, 132, 3, 1, 167, 255, 229, 132, 2, 1, 167, 255, 216, 3, 61, 28]
abbrev dktX5_count_1 : List UInt8 := dkwX5_count_1 ++ dktX5_count_2
def dkwX5_count_0 : List UInt8 := [3, 61, 28, 7, 162, 0, 41, 3, 62, 29, 16, 10, 162, 0, 27, 42, 180, 0, 17, 28, 50, 29, 3, 79]
abbrev dktX5_count_0 : List UInt8 := dkwX5_count_0 ++ dktX5_count_1
theorem dksX5_count_0 : cX5_count.data.toList.drop 0 = dktX5_count_0 := by decide +kernel
theorem dksX5_count_1 : cX5_count.data.toList.drop 24 = dktX5_count_1 := dk_seg dksX5_count_0 24 rfl rfl
theorem dksX5_count_2 : cX5_count.data.toList.drop 48 = dktX5_count_2 := dk_seg dksX5_count_1 24 rfl rfl
theorem dksX5_count_3 : cX5_count.data.toList.drop 70 = dktX5_count_3 := dk_seg dksX5_count_2 22 rfl rfl
theorem dksX5_count_4 : cX5_count.data.toList.drop 92 = dktX5_count_4 := dk_seg dksX5_count_3 22 rfl rfl
theorem dX5_count_0 : decode cX5_count 0 = .ok (.iconst 0, 1) := dk_3 (dk_at dksX5_count_0 0 rfl rfl)
theorem dX5_count_1 : decode cX5_count 1 = .ok (.istore_n 2, 1) := dk_61 (dk_at dksX5_count_0 1 rfl rfl)
theorem dX5_count_2 : decode cX5_count 2 = .ok (.iload_n 2, 1) := dk_28 (dk_at dksX5_count_0 2 rfl rfl)
theorem dX5_count_3 : decode cX5_count 3 = .ok (.iconst 4, 1) := dk_7 (dk_at dksX5_count_0 3 rfl rfl)
theorem dX5_count_4 : decode cX5_count 4 = .ok (.if_icmp .ge 41, 3) := dk_162 0 41 (dk_at dksX5_count_0 4 rfl rfl)
theorem dX5_count_7 : decode cX5_count 7 = .ok (.iconst 0, 1) := dk_3 (dk_at dksX5_count_0 7 rfl rfl)
theorem dX5_count_8 : decode cX5_count 8 = .ok (.istore_n 3, 1) := dk_62 (dk_at dksX5_count_0 8 rfl rfl)
theorem dX5_count_9 : decode cX5_count 9 = .ok (.iload_n 3, 1) := dk_29 (dk_at dksX5_count_0 9 rfl rfl)
theorem dX5_count_10 : decode cX5_count 10 = .ok (.bipush 10, 2) := dk_16 10 (dk_at dksX5_count_0 10 rfl rfl)
theorem dX5_count_12 : decode cX5_count 12 = .ok (.if_icmp .ge 27, 3) := dk_162 0 27 (dk_at dksX5_count_0 12 rfl rfl)
theorem dX5_count_15 : decode cX5_count 15 = .ok (.aload_n 0, 1) := dk_42 (dk_at dksX5_count_0 15 rfl rfl)
theorem dX5_count_16 : decode cX5_count 16 = .ok (.getfield 17, 3) := dk_180 0 17 (dk_at dksX5_count_0 16 rfl rfl)
theorem dX5_count_19 : decode cX5_count 19 = .ok (.iload_n 2, 1) := dk_28 (dk_at dksX5_count_0 19 rfl rfl)
theorem dX5_count_20 : decode cX5_count 20 = .ok (.aaload, 1) := dk_50 (dk_at dksX5_count_0 20 rfl rfl)
theorem dX5_count_21 : decode cX5_count 21 = .ok (.iload_n 3, 1) := dk_29 (dk_at dksX5_count_0 21 rfl rfl)
theorem dX5_count_22 : decode cX5_count 22 = .ok (.iconst 0, 1) := dk_3 (dk_at dksX5_count_0 22 rfl rfl)
theorem dX5_count_23 : decode cX5_count 23 = .ok (.iastore, 1) := dk_79 (dk_at dksX5_count_0 23 rfl rfl)
theorem dX5_count_24 : decode cX5_count 24 = .ok (.aload_n 0, 1) := dk_42 (dk_at dksX5_count_1 0 rfl rfl)
theorem dX5_count_25 : decode cX5_count 25 = .ok (.getfield 20, 3) := dk_180 0 20 (dk_at dksX5_count_1 1 rfl rfl)
theorem dX5_count_28 : decode cX5_count 28 = .ok (.iload_n 2, 1) := dk_28 (dk_at dksX5_count_1 4 rfl rfl)
theorem dX5_count_29 : decode cX5_count 29 = .ok (.aaload, 1) := dk_50 (dk_at dksX5_count_1 5 rfl rfl)
theorem dX5_count_30 : decode cX5_count 30 = .ok (.iload_n 3, 1) := dk_29 (dk_at dksX5_count_1 6 rfl rfl)
theorem dX5_count_31 : decode cX5_count 31 = .ok (.iconst 0, 1) := dk_3 (dk_at dksX5_count_1 7 rfl rfl)
theorem dX5_count_32 : decode cX5_count 32 = .ok (.iastore, 1) := dk_79 (dk_at dksX5_count_1 8 rfl rfl)
theorem dX5_count_33 : decode cX5_count 33 = .ok (.iinc 3 1, 3) := dk_132 3 1 (dk_at dksX5_count_1 9 rfl rfl)
theorem dX5_count_36 : decode cX5_count 36 = .ok (.goto (-27), 3) := dk_167 255 229 (dk_at dksX5_count_1 12 rfl rfl)
theorem dX5_count_39 : decode cX5_count 39 = .ok (.iinc 2 1, 3) := dk_132 2 1 (dk_at dksX5_count_1 15 rfl rfl)
theorem dX5_count_42 : decode cX5_count 42 = .ok (.goto (-40), 3) := dk_167 255 216 (dk_at dksX5_count_1 18 rfl rfl)
theorem dX5_count_45 : decode cX5_count 45 = .ok (.iconst 0, 1) := dk_3 (dk_at dksX5_count_1 21 rfl rfl)
theorem dX5_count_46 : decode cX5_count 46 = .ok (.istore_n 2, 1) := dk_61 (dk_at dksX5_count_1 22 rfl rfl)
theorem dX5_count_47 : decode cX5_count 47 = .ok (.iload_n 2, 1) := dk_28 (dk_at dksX5_count_1 23 rfl rfl)
theorem dX5_count_48 : decode cX5_count 48 = .ok (.aload_n 0, 1) := dk_42 (dk_at dksX5_count_2 0 rfl rfl)
theorem dX5_count_49 : decode cX5_count 49 = .ok (.getfield 3, 3) := dk_180 0 3 (dk_at dksX5_count_2 1 rfl rfl)
theorem dX5_count_52 : decode cX5_count 52 = .ok (.getfield 23, 3) := dk_180 0 23 (dk_at dksX5_count_2 4 rfl rfl)
theorem dX5_count_55 : decode cX5_count 55 = .ok (.invokevirtual 27, 3) := dk_182 0 27 (dk_at dksX5_count_2 7 rfl rfl)
theorem dX5_count_58 : decode cX5_count 58 = .ok (.if_icmp .ge 37, 3) := dk_162 0 37 (dk_at dksX5_count_2 10 rfl rfl)
theorem dX5_count_61 : decode cX5_count 61 = .ok (.aload_n 0, 1) := dk_42 (dk_at dksX5_count_2 13 rfl rfl)
theorem dX5_count_62 : decode cX5_count 62 = .ok (.aload_n 0, 1) := dk_42 (dk_at dksX5_count_2 14 rfl rfl)
theorem dX5_count_63 : decode cX5_count 63 = .ok (.getfield 3, 3) := dk_180 0 3 (dk_at dksX5_count_2 15 rfl rfl)
theorem dX5_count_66 : decode cX5_count 66 = .ok (.getfield 23, 3) := dk_180 0 23 (dk_at dksX5_count_2 18 rfl rfl)
theorem dX5_count_69 : decode cX5_count 69 = .ok (.iload_n 2, 1) := dk_28 (dk_at dksX5_count_2 21 rfl rfl)
theorem dX5_count_70 : decode cX5_count 70 = .ok (.invokevirtual 33, 3) := dk_182 0 33 (dk_at dksX5_count_3 0 rfl rfl)
theorem dX5_count_73 : decode cX5_count 73 = .ok (.checkcast 37, 3) := dk_192 0 37 (dk_at dksX5_count_3 3 rfl rfl)
theorem dX5_count_76 : decode cX5_count 76 = .ok (.aload_n 1, 1) := dk_43 (dk_at dksX5_count_3 6 rfl rfl)
theorem dX5_count_77 : decode cX5_count 77 = .ok (.getfield 39, 3) := dk_180 0 39 (dk_at dksX5_count_3 7 rfl rfl)
theorem dX5_count_80 : decode cX5_count 80 = .ok (.iload_n 2, 1) := dk_28 (dk_at dksX5_count_3 10 rfl rfl)
theorem dX5_count_81 : decode cX5_count 81 = .ok (.iaload, 1) := dk_46 (dk_at dksX5_count_3 11 rfl rfl)
theorem dX5_count_82 : decode cX5_count 82 = .ok (.aload_n 1, 1) := dk_43 (dk_at dksX5_count_3 12 rfl rfl)
theorem dX5_count_83 : decode cX5_count 83 = .ok (.getfield 45, 3) := dk_180 0 45 (dk_at dksX5_count_3 13 rfl rfl)
theorem dX5_count_86 : decode cX5_count 86 = .ok (.invokevirtual 49, 3) := dk_182 0 49 (dk_at dksX5_count_3 16 rfl rfl)
theorem dX5_count_89 : decode cX5_count 89 = .ok (.iinc 2 1, 3) := dk_132 2 1 (dk_at dksX5_count_3 19 rfl rfl)
theorem dX5_count_92 : decode cX5_count 92 = .ok (.goto (-45), 3) := dk_167 255 211 (dk_at dksX5_count_4 0 rfl rfl)
theorem dX5_count_95 : decode cX5_count 95 = .ok (.return_, 1) := dk_177 (dk_at dksX5_count_4 3 rfl rfl)
abbrev cX5_count_2 : ByteArray := prog_3_method_3_code
def yX5_count_2 : MethodName := ⟨RX5, "count", "(LLifeRents$Life;II)V"⟩
def dkwX5_count_2_4 : List UInt8 := [132, 5, 2, 167, 255, 169, 177]
abbrev dktX5_count_2_4 : List UInt8 := dkwX5_count_2_4 ++ []
def dkwX5_count_2_3 : List UInt8 := [28, 21, 5, 159, 0, 11, 28, 21, 5, 4, 96, 160, 0, 7, 4, 167, 0, 4, 3, 96, 79, 132, 4, 1]
abbrev dktX5_count_2_3 : List UInt8 := dkwX5_count_2_3 ++ dktX5_count_2_4
def dkwX5_count_2_2 : List UInt8 := [184, 0, 59, 92, 46, 4, 96, 79, 42, 180, 0, 20, 43, 180, 0, 56, 50, 21, 4, 184, 0, 59, 92, 46]
abbrev dktX5_count_2_2 : List UInt8 := dkwX5_count_2_2 ++ dktX5_count_2_3
def dkwX5_count_2_1 : List UInt8 := [163, 0, 76, 21, 5, 156, 0, 6, 167, 0, 59, 42, 180, 0, 17, 43, 180, 0, 56, 50, 21, 4]
abbrev dktX5_count_2_1 : List UInt8 := dkwX5_count_2_1 ++ dktX5_count_2_2
def dkwX5_count_2_0 : List UInt8 := [3, 54, 4, 43, 180, 0, 53, 54, 5, 21, 5, 29, 163, 0, 87, 28, 2, 159, 0, 9, 21, 5, 28]
abbrev dktX5_count_2_0 : List UInt8 := dkwX5_count_2_0 ++ dktX5_count_2_1
theorem dksX5_count_2_0 : cX5_count_2.data.toList.drop 0 = dktX5_count_2_0 := by decide +kernel
theorem dksX5_count_2_1 : cX5_count_2.data.toList.drop 23 = dktX5_count_2_1 := dk_seg dksX5_count_2_0 23 rfl rfl
theorem dksX5_count_2_2 : cX5_count_2.data.toList.drop 45 = dktX5_count_2_2 := dk_seg dksX5_count_2_1 22 rfl rfl
theorem dksX5_count_2_3 : cX5_count_2.data.toList.drop 69 = dktX5_count_2_3 := dk_seg dksX5_count_2_2 24 rfl rfl
theorem dksX5_count_2_4 : cX5_count_2.data.toList.drop 93 = dktX5_count_2_4 := dk_seg dksX5_count_2_3 24 rfl rfl
theorem dX5_count_2_0 : decode cX5_count_2 0 = .ok (.iconst 0, 1) := dk_3 (dk_at dksX5_count_2_0 0 rfl rfl)
theorem dX5_count_2_1 : decode cX5_count_2 1 = .ok (.istore 4, 2) := dk_54 4 (dk_at dksX5_count_2_0 1 rfl rfl)
theorem dX5_count_2_3 : decode cX5_count_2 3 = .ok (.aload_n 1, 1) := dk_43 (dk_at dksX5_count_2_0 3 rfl rfl)
theorem dX5_count_2_4 : decode cX5_count_2 4 = .ok (.getfield 53, 3) := dk_180 0 53 (dk_at dksX5_count_2_0 4 rfl rfl)
theorem dX5_count_2_7 : decode cX5_count_2 7 = .ok (.istore 5, 2) := dk_54 5 (dk_at dksX5_count_2_0 7 rfl rfl)
theorem dX5_count_2_9 : decode cX5_count_2 9 = .ok (.iload 5, 2) := dk_21 5 (dk_at dksX5_count_2_0 9 rfl rfl)
theorem dX5_count_2_11 : decode cX5_count_2 11 = .ok (.iload_n 3, 1) := dk_29 (dk_at dksX5_count_2_0 11 rfl rfl)
theorem dX5_count_2_12 : decode cX5_count_2 12 = .ok (.if_icmp .gt 87, 3) := dk_163 0 87 (dk_at dksX5_count_2_0 12 rfl rfl)
theorem dX5_count_2_15 : decode cX5_count_2 15 = .ok (.iload_n 2, 1) := dk_28 (dk_at dksX5_count_2_0 15 rfl rfl)
theorem dX5_count_2_16 : decode cX5_count_2 16 = .ok (.iconst (-1), 1) := dk_2 (dk_at dksX5_count_2_0 16 rfl rfl)
theorem dX5_count_2_17 : decode cX5_count_2 17 = .ok (.if_icmp .eq 9, 3) := dk_159 0 9 (dk_at dksX5_count_2_0 17 rfl rfl)
theorem dX5_count_2_20 : decode cX5_count_2 20 = .ok (.iload 5, 2) := dk_21 5 (dk_at dksX5_count_2_0 20 rfl rfl)
theorem dX5_count_2_22 : decode cX5_count_2 22 = .ok (.iload_n 2, 1) := dk_28 (dk_at dksX5_count_2_0 22 rfl rfl)
theorem dX5_count_2_23 : decode cX5_count_2 23 = .ok (.if_icmp .gt 76, 3) := dk_163 0 76 (dk_at dksX5_count_2_1 0 rfl rfl)
theorem dX5_count_2_26 : decode cX5_count_2 26 = .ok (.iload 5, 2) := dk_21 5 (dk_at dksX5_count_2_1 3 rfl rfl)
theorem dX5_count_2_28 : decode cX5_count_2 28 = .ok (.ifCond .ge 6, 3) := dk_156 0 6 (dk_at dksX5_count_2_1 5 rfl rfl)
theorem dX5_count_2_31 : decode cX5_count_2 31 = .ok (.goto 59, 3) := dk_167 0 59 (dk_at dksX5_count_2_1 8 rfl rfl)
theorem dX5_count_2_34 : decode cX5_count_2 34 = .ok (.aload_n 0, 1) := dk_42 (dk_at dksX5_count_2_1 11 rfl rfl)
theorem dX5_count_2_35 : decode cX5_count_2 35 = .ok (.getfield 17, 3) := dk_180 0 17 (dk_at dksX5_count_2_1 12 rfl rfl)
theorem dX5_count_2_38 : decode cX5_count_2 38 = .ok (.aload_n 1, 1) := dk_43 (dk_at dksX5_count_2_1 15 rfl rfl)
theorem dX5_count_2_39 : decode cX5_count_2 39 = .ok (.getfield 56, 3) := dk_180 0 56 (dk_at dksX5_count_2_1 16 rfl rfl)
theorem dX5_count_2_42 : decode cX5_count_2 42 = .ok (.aaload, 1) := dk_50 (dk_at dksX5_count_2_1 19 rfl rfl)
theorem dX5_count_2_43 : decode cX5_count_2 43 = .ok (.iload 4, 2) := dk_21 4 (dk_at dksX5_count_2_1 20 rfl rfl)
theorem dX5_count_2_45 : decode cX5_count_2 45 = .ok (.invokestatic 59, 3) := dk_184 0 59 (dk_at dksX5_count_2_2 0 rfl rfl)
theorem dX5_count_2_48 : decode cX5_count_2 48 = .ok (.dup2, 1) := dk_92 (dk_at dksX5_count_2_2 3 rfl rfl)
theorem dX5_count_2_49 : decode cX5_count_2 49 = .ok (.iaload, 1) := dk_46 (dk_at dksX5_count_2_2 4 rfl rfl)
theorem dX5_count_2_50 : decode cX5_count_2 50 = .ok (.iconst 1, 1) := dk_4 (dk_at dksX5_count_2_2 5 rfl rfl)
theorem dX5_count_2_51 : decode cX5_count_2 51 = .ok (.iadd, 1) := dk_96 (dk_at dksX5_count_2_2 6 rfl rfl)
theorem dX5_count_2_52 : decode cX5_count_2 52 = .ok (.iastore, 1) := dk_79 (dk_at dksX5_count_2_2 7 rfl rfl)
theorem dX5_count_2_53 : decode cX5_count_2 53 = .ok (.aload_n 0, 1) := dk_42 (dk_at dksX5_count_2_2 8 rfl rfl)
theorem dX5_count_2_54 : decode cX5_count_2 54 = .ok (.getfield 20, 3) := dk_180 0 20 (dk_at dksX5_count_2_2 9 rfl rfl)
theorem dX5_count_2_57 : decode cX5_count_2 57 = .ok (.aload_n 1, 1) := dk_43 (dk_at dksX5_count_2_2 12 rfl rfl)
theorem dX5_count_2_58 : decode cX5_count_2 58 = .ok (.getfield 56, 3) := dk_180 0 56 (dk_at dksX5_count_2_2 13 rfl rfl)
theorem dX5_count_2_61 : decode cX5_count_2 61 = .ok (.aaload, 1) := dk_50 (dk_at dksX5_count_2_2 16 rfl rfl)
theorem dX5_count_2_62 : decode cX5_count_2 62 = .ok (.iload 4, 2) := dk_21 4 (dk_at dksX5_count_2_2 17 rfl rfl)
theorem dX5_count_2_64 : decode cX5_count_2 64 = .ok (.invokestatic 59, 3) := dk_184 0 59 (dk_at dksX5_count_2_2 19 rfl rfl)
theorem dX5_count_2_67 : decode cX5_count_2 67 = .ok (.dup2, 1) := dk_92 (dk_at dksX5_count_2_2 22 rfl rfl)
theorem dX5_count_2_68 : decode cX5_count_2 68 = .ok (.iaload, 1) := dk_46 (dk_at dksX5_count_2_2 23 rfl rfl)
theorem dX5_count_2_69 : decode cX5_count_2 69 = .ok (.iload_n 2, 1) := dk_28 (dk_at dksX5_count_2_3 0 rfl rfl)
theorem dX5_count_2_70 : decode cX5_count_2 70 = .ok (.iload 5, 2) := dk_21 5 (dk_at dksX5_count_2_3 1 rfl rfl)
theorem dX5_count_2_72 : decode cX5_count_2 72 = .ok (.if_icmp .eq 11, 3) := dk_159 0 11 (dk_at dksX5_count_2_3 3 rfl rfl)
theorem dX5_count_2_75 : decode cX5_count_2 75 = .ok (.iload_n 2, 1) := dk_28 (dk_at dksX5_count_2_3 6 rfl rfl)
theorem dX5_count_2_76 : decode cX5_count_2 76 = .ok (.iload 5, 2) := dk_21 5 (dk_at dksX5_count_2_3 7 rfl rfl)
theorem dX5_count_2_78 : decode cX5_count_2 78 = .ok (.iconst 1, 1) := dk_4 (dk_at dksX5_count_2_3 9 rfl rfl)
theorem dX5_count_2_79 : decode cX5_count_2 79 = .ok (.iadd, 1) := dk_96 (dk_at dksX5_count_2_3 10 rfl rfl)
theorem dX5_count_2_80 : decode cX5_count_2 80 = .ok (.if_icmp .ne 7, 3) := dk_160 0 7 (dk_at dksX5_count_2_3 11 rfl rfl)
theorem dX5_count_2_83 : decode cX5_count_2 83 = .ok (.iconst 1, 1) := dk_4 (dk_at dksX5_count_2_3 14 rfl rfl)
theorem dX5_count_2_84 : decode cX5_count_2 84 = .ok (.goto 4, 3) := dk_167 0 4 (dk_at dksX5_count_2_3 15 rfl rfl)
theorem dX5_count_2_87 : decode cX5_count_2 87 = .ok (.iconst 0, 1) := dk_3 (dk_at dksX5_count_2_3 18 rfl rfl)
theorem dX5_count_2_88 : decode cX5_count_2 88 = .ok (.iadd, 1) := dk_96 (dk_at dksX5_count_2_3 19 rfl rfl)
theorem dX5_count_2_89 : decode cX5_count_2 89 = .ok (.iastore, 1) := dk_79 (dk_at dksX5_count_2_3 20 rfl rfl)
theorem dX5_count_2_90 : decode cX5_count_2 90 = .ok (.iinc 4 1, 3) := dk_132 4 1 (dk_at dksX5_count_2_3 21 rfl rfl)
theorem dX5_count_2_93 : decode cX5_count_2 93 = .ok (.iinc 5 2, 3) := dk_132 5 2 (dk_at dksX5_count_2_4 0 rfl rfl)
theorem dX5_count_2_96 : decode cX5_count_2 96 = .ok (.goto (-87), 3) := dk_167 255 169 (dk_at dksX5_count_2_4 3 rfl rfl)
theorem dX5_count_2_99 : decode cX5_count_2 99 = .ok (.return_, 1) := dk_177 (dk_at dksX5_count_2_4 6 rfl rfl)
abbrev cX5_of : ByteArray := prog_3_method_5_code
def yX5_of : MethodName := ⟨RX5, "of", "(III)I"⟩
def dkwX5_of_1 : List UInt8 := [160, 0, 7, 3, 167, 0, 13, 27, 5, 160, 0, 7, 4, 167, 0, 4, 2, 182, 0, 75, 172]
abbrev dktX5_of_1 : List UInt8 := dkwX5_of_1 ++ []
def dkwX5_of_0 : List UInt8 := [27, 154, 0, 17, 42, 180, 0, 3, 180, 0, 72, 28, 50, 29, 46, 167, 0, 28, 42, 28, 29, 27, 4]
abbrev dktX5_of_0 : List UInt8 := dkwX5_of_0 ++ dktX5_of_1
theorem dksX5_of_0 : cX5_of.data.toList.drop 0 = dktX5_of_0 := by decide +kernel
theorem dksX5_of_1 : cX5_of.data.toList.drop 23 = dktX5_of_1 := dk_seg dksX5_of_0 23 rfl rfl
theorem dX5_of_0 : decode cX5_of 0 = .ok (.iload_n 1, 1) := dk_27 (dk_at dksX5_of_0 0 rfl rfl)
theorem dX5_of_1 : decode cX5_of 1 = .ok (.ifCond .ne 17, 3) := dk_154 0 17 (dk_at dksX5_of_0 1 rfl rfl)
theorem dX5_of_4 : decode cX5_of 4 = .ok (.aload_n 0, 1) := dk_42 (dk_at dksX5_of_0 4 rfl rfl)
theorem dX5_of_5 : decode cX5_of 5 = .ok (.getfield 3, 3) := dk_180 0 3 (dk_at dksX5_of_0 5 rfl rfl)
theorem dX5_of_8 : decode cX5_of 8 = .ok (.getfield 72, 3) := dk_180 0 72 (dk_at dksX5_of_0 8 rfl rfl)
theorem dX5_of_11 : decode cX5_of 11 = .ok (.iload_n 2, 1) := dk_28 (dk_at dksX5_of_0 11 rfl rfl)
theorem dX5_of_12 : decode cX5_of 12 = .ok (.aaload, 1) := dk_50 (dk_at dksX5_of_0 12 rfl rfl)
theorem dX5_of_13 : decode cX5_of 13 = .ok (.iload_n 3, 1) := dk_29 (dk_at dksX5_of_0 13 rfl rfl)
theorem dX5_of_14 : decode cX5_of 14 = .ok (.iaload, 1) := dk_46 (dk_at dksX5_of_0 14 rfl rfl)
theorem dX5_of_15 : decode cX5_of 15 = .ok (.goto 28, 3) := dk_167 0 28 (dk_at dksX5_of_0 15 rfl rfl)
theorem dX5_of_18 : decode cX5_of 18 = .ok (.aload_n 0, 1) := dk_42 (dk_at dksX5_of_0 18 rfl rfl)
theorem dX5_of_19 : decode cX5_of 19 = .ok (.iload_n 2, 1) := dk_28 (dk_at dksX5_of_0 19 rfl rfl)
theorem dX5_of_20 : decode cX5_of 20 = .ok (.iload_n 3, 1) := dk_29 (dk_at dksX5_of_0 20 rfl rfl)
theorem dX5_of_21 : decode cX5_of 21 = .ok (.iload_n 1, 1) := dk_27 (dk_at dksX5_of_0 21 rfl rfl)
theorem dX5_of_22 : decode cX5_of 22 = .ok (.iconst 1, 1) := dk_4 (dk_at dksX5_of_0 22 rfl rfl)
theorem dX5_of_23 : decode cX5_of 23 = .ok (.if_icmp .ne 7, 3) := dk_160 0 7 (dk_at dksX5_of_1 0 rfl rfl)
theorem dX5_of_26 : decode cX5_of 26 = .ok (.iconst 0, 1) := dk_3 (dk_at dksX5_of_1 3 rfl rfl)
theorem dX5_of_27 : decode cX5_of 27 = .ok (.goto 13, 3) := dk_167 0 13 (dk_at dksX5_of_1 4 rfl rfl)
theorem dX5_of_30 : decode cX5_of 30 = .ok (.iload_n 1, 1) := dk_27 (dk_at dksX5_of_1 7 rfl rfl)
theorem dX5_of_31 : decode cX5_of 31 = .ok (.iconst 2, 1) := dk_5 (dk_at dksX5_of_1 8 rfl rfl)
theorem dX5_of_32 : decode cX5_of 32 = .ok (.if_icmp .ne 7, 3) := dk_160 0 7 (dk_at dksX5_of_1 9 rfl rfl)
theorem dX5_of_35 : decode cX5_of 35 = .ok (.iconst 1, 1) := dk_4 (dk_at dksX5_of_1 12 rfl rfl)
theorem dX5_of_36 : decode cX5_of 36 = .ok (.goto 4, 3) := dk_167 0 4 (dk_at dksX5_of_1 13 rfl rfl)
theorem dX5_of_39 : decode cX5_of 39 = .ok (.iconst (-1), 1) := dk_2 (dk_at dksX5_of_1 16 rfl rfl)
theorem dX5_of_40 : decode cX5_of 40 = .ok (.invokevirtual 75, 3) := dk_182 0 75 (dk_at dksX5_of_1 17 rfl rfl)
theorem dX5_of_43 : decode cX5_of 43 = .ok (.ireturn, 1) := dk_172 (dk_at dksX5_of_1 20 rfl rfl)
abbrev cX5_live : ByteArray := prog_3_method_4_code
def yX5_live : MethodName := ⟨RX5, "live", "(III)I"⟩
def dkwX5_live_2 : List UInt8 := [167, 0, 15, 17, 3, 232, 21, 4, 21, 5, 100, 104, 21, 4, 108, 172]
abbrev dktX5_live_2 : List UInt8 := dkwX5_live_2 ++ []
def dkwX5_live_1 : List UInt8 := [184, 0, 63, 184, 0, 69, 54, 5, 21, 4, 154, 0, 17, 42, 180, 0, 3, 180, 0, 72, 27, 50, 28, 46]
abbrev dktX5_live_1 : List UInt8 := dkwX5_live_1 ++ dktX5_live_2
def dkwX5_live_0 : List UInt8 := [42, 180, 0, 17, 27, 50, 28, 46, 54, 4, 3, 21, 4, 42, 180, 0, 20, 27, 50, 28, 46, 29, 96]
abbrev dktX5_live_0 : List UInt8 := dkwX5_live_0 ++ dktX5_live_1
theorem dksX5_live_0 : cX5_live.data.toList.drop 0 = dktX5_live_0 := by decide +kernel
theorem dksX5_live_1 : cX5_live.data.toList.drop 23 = dktX5_live_1 := dk_seg dksX5_live_0 23 rfl rfl
theorem dksX5_live_2 : cX5_live.data.toList.drop 47 = dktX5_live_2 := dk_seg dksX5_live_1 24 rfl rfl
theorem dX5_live_0 : decode cX5_live 0 = .ok (.aload_n 0, 1) := dk_42 (dk_at dksX5_live_0 0 rfl rfl)
theorem dX5_live_1 : decode cX5_live 1 = .ok (.getfield 17, 3) := dk_180 0 17 (dk_at dksX5_live_0 1 rfl rfl)
theorem dX5_live_4 : decode cX5_live 4 = .ok (.iload_n 1, 1) := dk_27 (dk_at dksX5_live_0 4 rfl rfl)
theorem dX5_live_5 : decode cX5_live 5 = .ok (.aaload, 1) := dk_50 (dk_at dksX5_live_0 5 rfl rfl)
theorem dX5_live_6 : decode cX5_live 6 = .ok (.iload_n 2, 1) := dk_28 (dk_at dksX5_live_0 6 rfl rfl)
theorem dX5_live_7 : decode cX5_live 7 = .ok (.iaload, 1) := dk_46 (dk_at dksX5_live_0 7 rfl rfl)
theorem dX5_live_8 : decode cX5_live 8 = .ok (.istore 4, 2) := dk_54 4 (dk_at dksX5_live_0 8 rfl rfl)
theorem dX5_live_10 : decode cX5_live 10 = .ok (.iconst 0, 1) := dk_3 (dk_at dksX5_live_0 10 rfl rfl)
theorem dX5_live_11 : decode cX5_live 11 = .ok (.iload 4, 2) := dk_21 4 (dk_at dksX5_live_0 11 rfl rfl)
theorem dX5_live_13 : decode cX5_live 13 = .ok (.aload_n 0, 1) := dk_42 (dk_at dksX5_live_0 13 rfl rfl)
theorem dX5_live_14 : decode cX5_live 14 = .ok (.getfield 20, 3) := dk_180 0 20 (dk_at dksX5_live_0 14 rfl rfl)
theorem dX5_live_17 : decode cX5_live 17 = .ok (.iload_n 1, 1) := dk_27 (dk_at dksX5_live_0 17 rfl rfl)
theorem dX5_live_18 : decode cX5_live 18 = .ok (.aaload, 1) := dk_50 (dk_at dksX5_live_0 18 rfl rfl)
theorem dX5_live_19 : decode cX5_live 19 = .ok (.iload_n 2, 1) := dk_28 (dk_at dksX5_live_0 19 rfl rfl)
theorem dX5_live_20 : decode cX5_live 20 = .ok (.iaload, 1) := dk_46 (dk_at dksX5_live_0 20 rfl rfl)
theorem dX5_live_21 : decode cX5_live 21 = .ok (.iload_n 3, 1) := dk_29 (dk_at dksX5_live_0 21 rfl rfl)
theorem dX5_live_22 : decode cX5_live 22 = .ok (.iadd, 1) := dk_96 (dk_at dksX5_live_0 22 rfl rfl)
theorem dX5_live_23 : decode cX5_live 23 = .ok (.invokestatic 63, 3) := dk_184 0 63 (dk_at dksX5_live_1 0 rfl rfl)
theorem dX5_live_26 : decode cX5_live 26 = .ok (.invokestatic 69, 3) := dk_184 0 69 (dk_at dksX5_live_1 3 rfl rfl)
theorem dX5_live_29 : decode cX5_live 29 = .ok (.istore 5, 2) := dk_54 5 (dk_at dksX5_live_1 6 rfl rfl)
theorem dX5_live_31 : decode cX5_live 31 = .ok (.iload 4, 2) := dk_21 4 (dk_at dksX5_live_1 8 rfl rfl)
theorem dX5_live_33 : decode cX5_live 33 = .ok (.ifCond .ne 17, 3) := dk_154 0 17 (dk_at dksX5_live_1 10 rfl rfl)
theorem dX5_live_36 : decode cX5_live 36 = .ok (.aload_n 0, 1) := dk_42 (dk_at dksX5_live_1 13 rfl rfl)
theorem dX5_live_37 : decode cX5_live 37 = .ok (.getfield 3, 3) := dk_180 0 3 (dk_at dksX5_live_1 14 rfl rfl)
theorem dX5_live_40 : decode cX5_live 40 = .ok (.getfield 72, 3) := dk_180 0 72 (dk_at dksX5_live_1 17 rfl rfl)
theorem dX5_live_43 : decode cX5_live 43 = .ok (.iload_n 1, 1) := dk_27 (dk_at dksX5_live_1 20 rfl rfl)
theorem dX5_live_44 : decode cX5_live 44 = .ok (.aaload, 1) := dk_50 (dk_at dksX5_live_1 21 rfl rfl)
theorem dX5_live_45 : decode cX5_live 45 = .ok (.iload_n 2, 1) := dk_28 (dk_at dksX5_live_1 22 rfl rfl)
theorem dX5_live_46 : decode cX5_live 46 = .ok (.iaload, 1) := dk_46 (dk_at dksX5_live_1 23 rfl rfl)
theorem dX5_live_47 : decode cX5_live 47 = .ok (.goto 15, 3) := dk_167 0 15 (dk_at dksX5_live_2 0 rfl rfl)
theorem dX5_live_50 : decode cX5_live 50 = .ok (.sipush 1000, 3) := dk_17 3 232 (dk_at dksX5_live_2 3 rfl rfl)
theorem dX5_live_53 : decode cX5_live 53 = .ok (.iload 4, 2) := dk_21 4 (dk_at dksX5_live_2 6 rfl rfl)
theorem dX5_live_55 : decode cX5_live 55 = .ok (.iload 5, 2) := dk_21 5 (dk_at dksX5_live_2 8 rfl rfl)
theorem dX5_live_57 : decode cX5_live 57 = .ok (.isub, 1) := dk_100 (dk_at dksX5_live_2 10 rfl rfl)
theorem dX5_live_58 : decode cX5_live 58 = .ok (.imul, 1) := dk_104 (dk_at dksX5_live_2 11 rfl rfl)
theorem dX5_live_59 : decode cX5_live 59 = .ok (.iload 4, 2) := dk_21 4 (dk_at dksX5_live_2 12 rfl rfl)
theorem dX5_live_61 : decode cX5_live 61 = .ok (.idiv, 1) := dk_108 (dk_at dksX5_live_2 14 rfl rfl)
theorem dX5_live_62 : decode cX5_live 62 = .ok (.ireturn, 1) := dk_172 (dk_at dksX5_live_2 15 rfl rfl)
theorem q80 : (Jvm.Cond.initialized "LifeRents$Dead") ∈ lw_all := lw_g (lw_at lw_m1 8 rfl) rfl
theorem q229 : (Jvm.Cond.fieldLinkNest "LifeRents$Dead" (39 : Nat) "LifeRents$Known" "dead" "[I" "LifeRents") ∈ lw_tbl := lw_at lw_m1 157 rfl
theorem q236 : (Jvm.Cond.fieldLinkNest "LifeRents$Dead" (45 : Nat) "LifeRents$Known" "half" "I" "LifeRents") ∈ lw_tbl := lw_at lw_m1 164 rfl
theorem q252 : (Jvm.Cond.instantiable "LifeRents$Dead" (3 : Nat)) ∈ lw_all := lw_g (lw_at lw_m1 180 rfl) rfl
theorem q254 : (Jvm.Cond.instanceMethod ({ cls := "LifeRents$Dead", name := "<init>", desc := "(LLifeRents;)V" } : Jvm.MethodName)) ∈ lw_all := lw_g (lw_at lw_m1 182 rfl) rfl
theorem q255 : (Jvm.Cond.code ({ cls := "LifeRents$Dead", name := "<init>", desc := "(LLifeRents;)V" } : Jvm.MethodName) prog_3_method_1_code (2 : Nat) (Option.none : Option Jvm.ClassFile.FieldType)) ∈ lw_all := lw_g (lw_at lw_m1 183 rfl) rfl
theorem q256 : (Jvm.Cond.methodLink "LifeRents$Dead" (9 : Nat) ({ cls := "java/lang/Object", name := "<init>", desc := "()V" } : Jvm.MethodName)) ∈ lw_all := lw_g (lw_at lw_m1 184 rfl) rfl
theorem q257 : (Jvm.Cond.classLink "LifeRents$Dead" (15 : Nat) "[[I") ∈ lw_all := lw_g (lw_at lw_m1 185 rfl) rfl
theorem q258 : (Jvm.Cond.fieldLink "LifeRents$Dead" (17 : Nat) "LifeRents$Dead" "begun" "[[I") ∈ lw_all := lw_g (lw_at lw_m1 186 rfl) rfl
theorem q260 : (Jvm.Cond.fieldLink "LifeRents$Dead" (20 : Nat) "LifeRents$Dead" "ended" "[[I") ∈ lw_all := lw_g (lw_at lw_m1 188 rfl) rfl
theorem q262 : (Jvm.Cond.fieldLink "LifeRents$Dead" (3 : Nat) "LifeRents$Dead" "this$0" "LLifeRents;") ∈ lw_all := lw_g (lw_at lw_m1 190 rfl) rfl
theorem q263 : (Jvm.Cond.laysFinal "LifeRents$Dead" "LifeRents$Dead" "begun" "[[I") ∈ lw_all := lw_g (lw_at lw_m1 191 rfl) rfl
theorem q264 : (Jvm.Cond.soleField "LifeRents$Dead" "begun") ∈ lw_all := lw_g (lw_at lw_m1 192 rfl) rfl
theorem q265 : (Jvm.Cond.laysFinal "LifeRents$Dead" "LifeRents$Dead" "ended" "[[I") ∈ lw_all := lw_g (lw_at lw_m1 193 rfl) rfl
theorem q266 : (Jvm.Cond.soleField "LifeRents$Dead" "ended") ∈ lw_all := lw_g (lw_at lw_m1 194 rfl) rfl
theorem q267 : (Jvm.Cond.laysFinal "LifeRents$Dead" "LifeRents$Dead" "this$0" "LLifeRents;") ∈ lw_all := lw_g (lw_at lw_m1 195 rfl) rfl
theorem q268 : (Jvm.Cond.soleField "LifeRents$Dead" "this$0") ∈ lw_all := lw_g (lw_at lw_m1 196 rfl) rfl
theorem q269 : (Jvm.Cond.superclass "LifeRents$Dead" "java/lang/Object") ∈ lw_all := lw_g (lw_at lw_m1 197 rfl) rfl
theorem q327 : (Jvm.Cond.fieldLinkNest "LifeRents$Dead" (23 : Nat) "LifeRents" "lives" "Ljava/util/ArrayList;" "LifeRents") ∈ lw_tbl := lw_at lw_m2 15 rfl
theorem q332 : (Jvm.Cond.fieldLinkNest "LifeRents$Dead" (72 : Nat) "LifeRents" "sold" "[[I" "LifeRents") ∈ lw_tbl := lw_at lw_m2 20 rfl
theorem q648 : (Jvm.Cond.selects "LifeRents$Dead" ({ cls := "java/lang/Object", name := "getClass", desc := "()Ljava/lang/Class;" } : Jvm.MethodName) ({ cls := "java/lang/Object", name := "getClass", desc := "()Ljava/lang/Class;" } : Jvm.MethodName)) ∈ lw_all := lw_g (lw_at lw_m3 96 rfl) rfl
theorem q704 : (Jvm.Cond.fieldLinkNest "LifeRents$Dead" (53 : Nat) "LifeRents$Life" "born" "I" "LifeRents") ∈ lw_tbl := lw_at lw_m3 152 rfl
theorem q709 : (Jvm.Cond.fieldLinkNest "LifeRents$Dead" (56 : Nat) "LifeRents$Life" "kind" "I" "LifeRents") ∈ lw_tbl := lw_at lw_m3 157 rfl
theorem q1058 : (Jvm.Cond.instanceMethod ({ cls := "LifeRents$Dead", name := "count", desc := "(LLifeRents$Known;)V" } : Jvm.MethodName)) ∈ lw_all := lw_g (lw_at lw_m5 26 rfl) rfl
theorem q1059 : (Jvm.Cond.selects "LifeRents$Dead" ({ cls := "LifeRents$Dead", name := "count", desc := "(LLifeRents$Known;)V" } : Jvm.MethodName) ({ cls := "LifeRents$Dead", name := "count", desc := "(LLifeRents$Known;)V" } : Jvm.MethodName)) ∈ lw_all := lw_g (lw_at lw_m5 27 rfl) rfl
theorem q1060 : (Jvm.Cond.code ({ cls := "LifeRents$Dead", name := "count", desc := "(LLifeRents$Known;)V" } : Jvm.MethodName) prog_3_method_2_code (4 : Nat) (Option.none : Option Jvm.ClassFile.FieldType)) ∈ lw_all := lw_g (lw_at lw_m5 28 rfl) rfl
theorem q1061 : (Jvm.Cond.methodLink "LifeRents$Dead" (27 : Nat) ({ cls := "java/util/ArrayList", name := "size", desc := "()I" } : Jvm.MethodName)) ∈ lw_all := lw_g (lw_at lw_m5 29 rfl) rfl
theorem q1062 : (Jvm.Cond.methodLink "LifeRents$Dead" (33 : Nat) ({ cls := "java/util/ArrayList", name := "get", desc := "(I)Ljava/lang/Object;" } : Jvm.MethodName)) ∈ lw_all := lw_g (lw_at lw_m5 30 rfl) rfl
theorem q1063 : (Jvm.Cond.classLink "LifeRents$Dead" (37 : Nat) "LifeRents$Life") ∈ lw_all := lw_g (lw_at lw_m5 31 rfl) rfl
theorem q1064 : (Jvm.Cond.methodLink "LifeRents$Dead" (49 : Nat) ({ cls := "LifeRents$Dead", name := "count", desc := "(LLifeRents$Life;II)V" } : Jvm.MethodName)) ∈ lw_all := lw_g (lw_at lw_m5 32 rfl) rfl
theorem q1065 : (Jvm.Cond.privateMethod ({ cls := "LifeRents$Dead", name := "count", desc := "(LLifeRents$Life;II)V" } : Jvm.MethodName)) ∈ lw_tbl := lw_at lw_m5 33 rfl
theorem q1066 : (Jvm.Cond.instanceMethod ({ cls := "LifeRents$Dead", name := "count", desc := "(LLifeRents$Life;II)V" } : Jvm.MethodName)) ∈ lw_all := lw_g (lw_at lw_m5 34 rfl) rfl
theorem q1067 : (Jvm.Cond.code ({ cls := "LifeRents$Dead", name := "count", desc := "(LLifeRents$Life;II)V" } : Jvm.MethodName) prog_3_method_3_code (6 : Nat) (Option.none : Option Jvm.ClassFile.FieldType)) ∈ lw_all := lw_g (lw_at lw_m5 35 rfl) rfl
theorem q1068 : (Jvm.Cond.methodLinkNest "LifeRents$Dead" (59 : Nat) ({ cls := "LifeRents", name := "group", desc := "(I)I" } : Jvm.MethodName) "LifeRents") ∈ lw_tbl := lw_at lw_m5 36 rfl
theorem q1073 : (Jvm.Cond.instanceMethod ({ cls := "LifeRents$Dead", name := "of", desc := "(III)I" } : Jvm.MethodName)) ∈ lw_all := lw_g (lw_at lw_m5 41 rfl) rfl
theorem q1074 : (Jvm.Cond.selects "LifeRents$Dead" ({ cls := "LifeRents$Dead", name := "of", desc := "(III)I" } : Jvm.MethodName) ({ cls := "LifeRents$Dead", name := "of", desc := "(III)I" } : Jvm.MethodName)) ∈ lw_all := lw_g (lw_at lw_m5 42 rfl) rfl
theorem q1075 : (Jvm.Cond.code ({ cls := "LifeRents$Dead", name := "of", desc := "(III)I" } : Jvm.MethodName) prog_3_method_5_code (4 : Nat) (Option.some Jvm.ClassFile.FieldType.int)) ∈ lw_all := lw_g (lw_at lw_m5 43 rfl) rfl
theorem q1076 : (Jvm.Cond.methodLink "LifeRents$Dead" (75 : Nat) ({ cls := "LifeRents$Dead", name := "live", desc := "(III)I" } : Jvm.MethodName)) ∈ lw_all := lw_g (lw_at lw_m5 44 rfl) rfl
theorem q1077 : (Jvm.Cond.instanceMethod ({ cls := "LifeRents$Dead", name := "live", desc := "(III)I" } : Jvm.MethodName)) ∈ lw_all := lw_g (lw_at lw_m5 45 rfl) rfl
theorem q1078 : (Jvm.Cond.selects "LifeRents$Dead" ({ cls := "LifeRents$Dead", name := "live", desc := "(III)I" } : Jvm.MethodName) ({ cls := "LifeRents$Dead", name := "live", desc := "(III)I" } : Jvm.MethodName)) ∈ lw_all := lw_g (lw_at lw_m5 46 rfl) rfl
theorem q1079 : (Jvm.Cond.code ({ cls := "LifeRents$Dead", name := "live", desc := "(III)I" } : Jvm.MethodName) prog_3_method_4_code (6 : Nat) (Option.some Jvm.ClassFile.FieldType.int)) ∈ lw_all := lw_g (lw_at lw_m5 47 rfl) rfl
theorem q1080 : (Jvm.Cond.methodLink "LifeRents$Dead" (63 : Nat) ({ cls := "java/lang/Math", name := "min", desc := "(II)I" } : Jvm.MethodName)) ∈ lw_all := lw_g (lw_at lw_m5 48 rfl) rfl
theorem q1081 : (Jvm.Cond.methodLink "LifeRents$Dead" (69 : Nat) ({ cls := "java/lang/Math", name := "max", desc := "(II)I" } : Jvm.MethodName)) ∈ lw_all := lw_g (lw_at lw_m5 49 rfl) rfl
theorem q1734 : (Jvm.Cond.castable "LifeRents$Dead" "java/lang/Object") ∈ lw_tbl := lw_at lw_m7 222 rfl
theorem in_X5 : ∀ w ∈ wsX50, w ∈ lw_all := lw_in wsX50 [263, 265, 267] (by decide +kernel) (by decide +kernel)
/-! LifeRents$Names -/
set_option maxRecDepth 100000
def RX6 : String := "LifeRents$Names"
def TX6 : u_T := fun k => match k with
  | 0 => ("LifeRents$Names", "who", "[I", true)
  | 1 => ("LifeRents$Names", "prices", "[I", true)
  | 2 => ("LifeRents$Names", "gains", "[I", true)
  | 3 => ("LifeRents$Names", "tried", "[I", true)
  | 4 => ("LifeRents$Names", "best", "[I", true)
  | 5 => ("LifeRents$Names", "many", "I", false)
  | 6 => ("LifeRents$Names", "money", "I", false)
  | 7 => ("LifeRents$Names", "bestSum", "I", false)
  | 8 => ("LifeRents$Names", "bestPaid", "I", false)
  | 9 => ("LifeRents$Names", "hasBest", "Z", false)
  | _ => ("LifeRents$Names", "this$0", "LLifeRents;", true)
def tyX6 : Nat → FieldType := fun k => match k with
  | 0 => .array .int
  | 1 => .array .int
  | 2 => .array .int
  | 3 => .array .int
  | 4 => .array .int
  | 5 => .int
  | 6 => .int
  | 7 => .int
  | 8 => .int
  | 9 => .boolean
  | _ => .object "LifeRents"
abbrev wsX60 : List Cond := u_ws RX6 TX6 11
theorem nmX6 : ∀ a, a < 11 → ∀ b, b < 11 → a ≠ b → (TX6 a).2.1 ≠ (TX6 b).2.1 := by decide +kernel
theorem tyX6_ok : ∀ k, k < 11 → parseFieldDescriptor (TX6 k).2.2.1 = some (tyX6 k) := by decide +kernel
abbrev cX6_init : ByteArray := prog_10_method_1_code
def yX6_init : MethodName := ⟨RX6, "<init>", "(LLifeRents;)V"⟩
def dkwX6_init_2 : List UInt8 := [181, 0, 28, 177]
abbrev dktX6_init_2 : List UInt8 := dkwX6_init_2 ++ []
def dkwX6_init_1 : List UInt8 := [181, 0, 19, 42, 16, 12, 188, 10, 181, 0, 22, 42, 16, 12, 188, 10, 181, 0, 25, 42, 16, 12, 188, 10]
abbrev dktX6_init_1 : List UInt8 := dkwX6_init_1 ++ dktX6_init_2
def dkwX6_init_0 : List UInt8 := [42, 43, 181, 0, 3, 42, 183, 0, 9, 42, 16, 12, 188, 10, 181, 0, 15, 42, 16, 12, 188, 10]
abbrev dktX6_init_0 : List UInt8 := dkwX6_init_0 ++ dktX6_init_1
theorem dksX6_init_0 : cX6_init.data.toList.drop 0 = dktX6_init_0 := by decide +kernel
theorem dksX6_init_1 : cX6_init.data.toList.drop 22 = dktX6_init_1 := dk_seg dksX6_init_0 22 rfl rfl
theorem dksX6_init_2 : cX6_init.data.toList.drop 46 = dktX6_init_2 := dk_seg dksX6_init_1 24 rfl rfl
theorem dX6_init_0 : decode cX6_init 0 = .ok (.aload_n 0, 1) := dk_42 (dk_at dksX6_init_0 0 rfl rfl)
theorem dX6_init_1 : decode cX6_init 1 = .ok (.aload_n 1, 1) := dk_43 (dk_at dksX6_init_0 1 rfl rfl)
theorem dX6_init_2 : decode cX6_init 2 = .ok (.putfield 3, 3) := dk_181 0 3 (dk_at dksX6_init_0 2 rfl rfl)
theorem dX6_init_5 : decode cX6_init 5 = .ok (.aload_n 0, 1) := dk_42 (dk_at dksX6_init_0 5 rfl rfl)
theorem dX6_init_6 : decode cX6_init 6 = .ok (.invokespecial 9, 3) := dk_183 0 9 (dk_at dksX6_init_0 6 rfl rfl)
theorem dX6_init_9 : decode cX6_init 9 = .ok (.aload_n 0, 1) := dk_42 (dk_at dksX6_init_0 9 rfl rfl)
theorem dX6_init_10 : decode cX6_init 10 = .ok (.bipush 12, 2) := dk_16 12 (dk_at dksX6_init_0 10 rfl rfl)
theorem dX6_init_12 : decode cX6_init 12 = .ok (.newarray .int, 2) := dk_188_10 (dk_at dksX6_init_0 12 rfl rfl)
theorem dX6_init_14 : decode cX6_init 14 = .ok (.putfield 15, 3) := dk_181 0 15 (dk_at dksX6_init_0 14 rfl rfl)
theorem dX6_init_17 : decode cX6_init 17 = .ok (.aload_n 0, 1) := dk_42 (dk_at dksX6_init_0 17 rfl rfl)
theorem dX6_init_18 : decode cX6_init 18 = .ok (.bipush 12, 2) := dk_16 12 (dk_at dksX6_init_0 18 rfl rfl)
theorem dX6_init_20 : decode cX6_init 20 = .ok (.newarray .int, 2) := dk_188_10 (dk_at dksX6_init_0 20 rfl rfl)
theorem dX6_init_22 : decode cX6_init 22 = .ok (.putfield 19, 3) := dk_181 0 19 (dk_at dksX6_init_1 0 rfl rfl)
theorem dX6_init_25 : decode cX6_init 25 = .ok (.aload_n 0, 1) := dk_42 (dk_at dksX6_init_1 3 rfl rfl)
theorem dX6_init_26 : decode cX6_init 26 = .ok (.bipush 12, 2) := dk_16 12 (dk_at dksX6_init_1 4 rfl rfl)
theorem dX6_init_28 : decode cX6_init 28 = .ok (.newarray .int, 2) := dk_188_10 (dk_at dksX6_init_1 6 rfl rfl)
theorem dX6_init_30 : decode cX6_init 30 = .ok (.putfield 22, 3) := dk_181 0 22 (dk_at dksX6_init_1 8 rfl rfl)
theorem dX6_init_33 : decode cX6_init 33 = .ok (.aload_n 0, 1) := dk_42 (dk_at dksX6_init_1 11 rfl rfl)
theorem dX6_init_34 : decode cX6_init 34 = .ok (.bipush 12, 2) := dk_16 12 (dk_at dksX6_init_1 12 rfl rfl)
theorem dX6_init_36 : decode cX6_init 36 = .ok (.newarray .int, 2) := dk_188_10 (dk_at dksX6_init_1 14 rfl rfl)
theorem dX6_init_38 : decode cX6_init 38 = .ok (.putfield 25, 3) := dk_181 0 25 (dk_at dksX6_init_1 16 rfl rfl)
theorem dX6_init_41 : decode cX6_init 41 = .ok (.aload_n 0, 1) := dk_42 (dk_at dksX6_init_1 19 rfl rfl)
theorem dX6_init_42 : decode cX6_init 42 = .ok (.bipush 12, 2) := dk_16 12 (dk_at dksX6_init_1 20 rfl rfl)
theorem dX6_init_44 : decode cX6_init 44 = .ok (.newarray .int, 2) := dk_188_10 (dk_at dksX6_init_1 22 rfl rfl)
theorem dX6_init_46 : decode cX6_init 46 = .ok (.putfield 28, 3) := dk_181 0 28 (dk_at dksX6_init_2 0 rfl rfl)
theorem dX6_init_49 : decode cX6_init 49 = .ok (.return_, 1) := dk_177 (dk_at dksX6_init_2 3 rfl rfl)
abbrev cX6_begin : ByteArray := prog_10_method_2_code
def yX6_begin : MethodName := ⟨RX6, "begin", "(I)V"⟩
def dkwX6_begin_8 : List UInt8 := [181, 0, 35, 132, 2, 1, 167, 255, 101, 177]
abbrev dktX6_begin_8 : List UInt8 := dkwX6_begin_8 ++ []
def dkwX6_begin_7 : List UInt8 := [17, 3, 232, 42, 180, 0, 19, 42, 180, 0, 35, 46, 104, 100, 79, 42, 89, 180, 0, 35, 4, 96]
abbrev dktX6_begin_7 : List UInt8 := dkwX6_begin_7 ++ dktX6_begin_8
def dkwX6_begin_6 : List UInt8 := [182, 0, 84, 79, 42, 180, 0, 22, 42, 180, 0, 35, 5, 42, 180, 0, 3, 3, 45, 182, 0, 88, 104]
abbrev dktX6_begin_6 : List UInt8 := dkwX6_begin_6 ++ dktX6_begin_7
def dkwX6_begin_5 : List UInt8 := [180, 0, 19, 42, 180, 0, 35, 42, 180, 0, 3, 180, 0, 74, 45, 42, 180, 0, 3, 180, 0, 46, 3]
abbrev dktX6_begin_5 : List UInt8 := dkwX6_begin_5 ++ dktX6_begin_6
def dkwX6_begin_4 : List UInt8 := [180, 0, 46, 3, 182, 0, 78, 154, 0, 6, 167, 0, 85, 42, 180, 0, 15, 42, 180, 0, 35, 28, 79, 42]
abbrev dktX6_begin_4 : List UInt8 := dkwX6_begin_4 ++ dktX6_begin_5
def dkwX6_begin_3 : List UInt8 := [180, 0, 42, 180, 0, 71, 28, 46, 2, 160, 0, 110, 42, 180, 0, 3, 180, 0, 74, 45, 42, 180, 0, 3]
abbrev dktX6_begin_3 : List UInt8 := dkwX6_begin_3 ++ dktX6_begin_4
def dkwX6_begin_2 : List UInt8 := [162, 0, 147, 42, 180, 0, 3, 180, 0, 55, 28, 182, 0, 65, 192, 0, 69, 78, 42, 180, 0, 3]
abbrev dktX6_begin_2 : List UInt8 := dkwX6_begin_2 ++ dktX6_begin_3
def dkwX6_begin_1 : List UInt8 := [180, 0, 3, 180, 0, 46, 182, 0, 49, 87, 3, 61, 28, 42, 180, 0, 3, 180, 0, 55, 182, 0, 59]
abbrev dktX6_begin_1 : List UInt8 := dkwX6_begin_1 ++ dktX6_begin_2
def dkwX6_begin_0 : List UInt8 := [42, 27, 181, 0, 31, 42, 3, 181, 0, 35, 42, 3, 181, 0, 38, 42, 180, 0, 3, 180, 0, 42, 42]
abbrev dktX6_begin_0 : List UInt8 := dkwX6_begin_0 ++ dktX6_begin_1
theorem dksX6_begin_0 : cX6_begin.data.toList.drop 0 = dktX6_begin_0 := by decide +kernel
theorem dksX6_begin_1 : cX6_begin.data.toList.drop 23 = dktX6_begin_1 := dk_seg dksX6_begin_0 23 rfl rfl
theorem dksX6_begin_2 : cX6_begin.data.toList.drop 46 = dktX6_begin_2 := dk_seg dksX6_begin_1 23 rfl rfl
theorem dksX6_begin_3 : cX6_begin.data.toList.drop 68 = dktX6_begin_3 := dk_seg dksX6_begin_2 22 rfl rfl
theorem dksX6_begin_4 : cX6_begin.data.toList.drop 92 = dktX6_begin_4 := dk_seg dksX6_begin_3 24 rfl rfl
theorem dksX6_begin_5 : cX6_begin.data.toList.drop 116 = dktX6_begin_5 := dk_seg dksX6_begin_4 24 rfl rfl
theorem dksX6_begin_6 : cX6_begin.data.toList.drop 139 = dktX6_begin_6 := dk_seg dksX6_begin_5 23 rfl rfl
theorem dksX6_begin_7 : cX6_begin.data.toList.drop 162 = dktX6_begin_7 := dk_seg dksX6_begin_6 23 rfl rfl
theorem dksX6_begin_8 : cX6_begin.data.toList.drop 184 = dktX6_begin_8 := dk_seg dksX6_begin_7 22 rfl rfl
theorem dX6_begin_0 : decode cX6_begin 0 = .ok (.aload_n 0, 1) := dk_42 (dk_at dksX6_begin_0 0 rfl rfl)
theorem dX6_begin_1 : decode cX6_begin 1 = .ok (.iload_n 1, 1) := dk_27 (dk_at dksX6_begin_0 1 rfl rfl)
theorem dX6_begin_2 : decode cX6_begin 2 = .ok (.putfield 31, 3) := dk_181 0 31 (dk_at dksX6_begin_0 2 rfl rfl)
theorem dX6_begin_5 : decode cX6_begin 5 = .ok (.aload_n 0, 1) := dk_42 (dk_at dksX6_begin_0 5 rfl rfl)
theorem dX6_begin_6 : decode cX6_begin 6 = .ok (.iconst 0, 1) := dk_3 (dk_at dksX6_begin_0 6 rfl rfl)
theorem dX6_begin_7 : decode cX6_begin 7 = .ok (.putfield 35, 3) := dk_181 0 35 (dk_at dksX6_begin_0 7 rfl rfl)
theorem dX6_begin_10 : decode cX6_begin 10 = .ok (.aload_n 0, 1) := dk_42 (dk_at dksX6_begin_0 10 rfl rfl)
theorem dX6_begin_11 : decode cX6_begin 11 = .ok (.iconst 0, 1) := dk_3 (dk_at dksX6_begin_0 11 rfl rfl)
theorem dX6_begin_12 : decode cX6_begin 12 = .ok (.putfield 38, 3) := dk_181 0 38 (dk_at dksX6_begin_0 12 rfl rfl)
theorem dX6_begin_15 : decode cX6_begin 15 = .ok (.aload_n 0, 1) := dk_42 (dk_at dksX6_begin_0 15 rfl rfl)
theorem dX6_begin_16 : decode cX6_begin 16 = .ok (.getfield 3, 3) := dk_180 0 3 (dk_at dksX6_begin_0 16 rfl rfl)
theorem dX6_begin_19 : decode cX6_begin 19 = .ok (.getfield 42, 3) := dk_180 0 42 (dk_at dksX6_begin_0 19 rfl rfl)
theorem dX6_begin_22 : decode cX6_begin 22 = .ok (.aload_n 0, 1) := dk_42 (dk_at dksX6_begin_0 22 rfl rfl)
theorem dX6_begin_23 : decode cX6_begin 23 = .ok (.getfield 3, 3) := dk_180 0 3 (dk_at dksX6_begin_1 0 rfl rfl)
theorem dX6_begin_26 : decode cX6_begin 26 = .ok (.getfield 46, 3) := dk_180 0 46 (dk_at dksX6_begin_1 3 rfl rfl)
theorem dX6_begin_29 : decode cX6_begin 29 = .ok (.invokevirtual 49, 3) := dk_182 0 49 (dk_at dksX6_begin_1 6 rfl rfl)
theorem dX6_begin_32 : decode cX6_begin 32 = .ok (.pop, 1) := dk_87 (dk_at dksX6_begin_1 9 rfl rfl)
theorem dX6_begin_33 : decode cX6_begin 33 = .ok (.iconst 0, 1) := dk_3 (dk_at dksX6_begin_1 10 rfl rfl)
theorem dX6_begin_34 : decode cX6_begin 34 = .ok (.istore_n 2, 1) := dk_61 (dk_at dksX6_begin_1 11 rfl rfl)
theorem dX6_begin_35 : decode cX6_begin 35 = .ok (.iload_n 2, 1) := dk_28 (dk_at dksX6_begin_1 12 rfl rfl)
theorem dX6_begin_36 : decode cX6_begin 36 = .ok (.aload_n 0, 1) := dk_42 (dk_at dksX6_begin_1 13 rfl rfl)
theorem dX6_begin_37 : decode cX6_begin 37 = .ok (.getfield 3, 3) := dk_180 0 3 (dk_at dksX6_begin_1 14 rfl rfl)
theorem dX6_begin_40 : decode cX6_begin 40 = .ok (.getfield 55, 3) := dk_180 0 55 (dk_at dksX6_begin_1 17 rfl rfl)
theorem dX6_begin_43 : decode cX6_begin 43 = .ok (.invokevirtual 59, 3) := dk_182 0 59 (dk_at dksX6_begin_1 20 rfl rfl)
theorem dX6_begin_46 : decode cX6_begin 46 = .ok (.if_icmp .ge 147, 3) := dk_162 0 147 (dk_at dksX6_begin_2 0 rfl rfl)
theorem dX6_begin_49 : decode cX6_begin 49 = .ok (.aload_n 0, 1) := dk_42 (dk_at dksX6_begin_2 3 rfl rfl)
theorem dX6_begin_50 : decode cX6_begin 50 = .ok (.getfield 3, 3) := dk_180 0 3 (dk_at dksX6_begin_2 4 rfl rfl)
theorem dX6_begin_53 : decode cX6_begin 53 = .ok (.getfield 55, 3) := dk_180 0 55 (dk_at dksX6_begin_2 7 rfl rfl)
theorem dX6_begin_56 : decode cX6_begin 56 = .ok (.iload_n 2, 1) := dk_28 (dk_at dksX6_begin_2 10 rfl rfl)
theorem dX6_begin_57 : decode cX6_begin 57 = .ok (.invokevirtual 65, 3) := dk_182 0 65 (dk_at dksX6_begin_2 11 rfl rfl)
theorem dX6_begin_60 : decode cX6_begin 60 = .ok (.checkcast 69, 3) := dk_192 0 69 (dk_at dksX6_begin_2 14 rfl rfl)
theorem dX6_begin_63 : decode cX6_begin 63 = .ok (.astore_n 3, 1) := dk_78 (dk_at dksX6_begin_2 17 rfl rfl)
theorem dX6_begin_64 : decode cX6_begin 64 = .ok (.aload_n 0, 1) := dk_42 (dk_at dksX6_begin_2 18 rfl rfl)
theorem dX6_begin_65 : decode cX6_begin 65 = .ok (.getfield 3, 3) := dk_180 0 3 (dk_at dksX6_begin_2 19 rfl rfl)
theorem dX6_begin_68 : decode cX6_begin 68 = .ok (.getfield 42, 3) := dk_180 0 42 (dk_at dksX6_begin_3 0 rfl rfl)
theorem dX6_begin_71 : decode cX6_begin 71 = .ok (.getfield 71, 3) := dk_180 0 71 (dk_at dksX6_begin_3 3 rfl rfl)
theorem dX6_begin_74 : decode cX6_begin 74 = .ok (.iload_n 2, 1) := dk_28 (dk_at dksX6_begin_3 6 rfl rfl)
theorem dX6_begin_75 : decode cX6_begin 75 = .ok (.iaload, 1) := dk_46 (dk_at dksX6_begin_3 7 rfl rfl)
theorem dX6_begin_76 : decode cX6_begin 76 = .ok (.iconst (-1), 1) := dk_2 (dk_at dksX6_begin_3 8 rfl rfl)
theorem dX6_begin_77 : decode cX6_begin 77 = .ok (.if_icmp .ne 110, 3) := dk_160 0 110 (dk_at dksX6_begin_3 9 rfl rfl)
theorem dX6_begin_80 : decode cX6_begin 80 = .ok (.aload_n 0, 1) := dk_42 (dk_at dksX6_begin_3 12 rfl rfl)
theorem dX6_begin_81 : decode cX6_begin 81 = .ok (.getfield 3, 3) := dk_180 0 3 (dk_at dksX6_begin_3 13 rfl rfl)
theorem dX6_begin_84 : decode cX6_begin 84 = .ok (.getfield 74, 3) := dk_180 0 74 (dk_at dksX6_begin_3 16 rfl rfl)
theorem dX6_begin_87 : decode cX6_begin 87 = .ok (.aload_n 3, 1) := dk_45 (dk_at dksX6_begin_3 19 rfl rfl)
theorem dX6_begin_88 : decode cX6_begin 88 = .ok (.aload_n 0, 1) := dk_42 (dk_at dksX6_begin_3 20 rfl rfl)
theorem dX6_begin_89 : decode cX6_begin 89 = .ok (.getfield 3, 3) := dk_180 0 3 (dk_at dksX6_begin_3 21 rfl rfl)
theorem dX6_begin_92 : decode cX6_begin 92 = .ok (.getfield 46, 3) := dk_180 0 46 (dk_at dksX6_begin_4 0 rfl rfl)
theorem dX6_begin_95 : decode cX6_begin 95 = .ok (.iconst 0, 1) := dk_3 (dk_at dksX6_begin_4 3 rfl rfl)
theorem dX6_begin_96 : decode cX6_begin 96 = .ok (.invokevirtual 78, 3) := dk_182 0 78 (dk_at dksX6_begin_4 4 rfl rfl)
theorem dX6_begin_99 : decode cX6_begin 99 = .ok (.ifCond .ne 6, 3) := dk_154 0 6 (dk_at dksX6_begin_4 7 rfl rfl)
theorem dX6_begin_102 : decode cX6_begin 102 = .ok (.goto 85, 3) := dk_167 0 85 (dk_at dksX6_begin_4 10 rfl rfl)
theorem dX6_begin_105 : decode cX6_begin 105 = .ok (.aload_n 0, 1) := dk_42 (dk_at dksX6_begin_4 13 rfl rfl)
theorem dX6_begin_106 : decode cX6_begin 106 = .ok (.getfield 15, 3) := dk_180 0 15 (dk_at dksX6_begin_4 14 rfl rfl)
theorem dX6_begin_109 : decode cX6_begin 109 = .ok (.aload_n 0, 1) := dk_42 (dk_at dksX6_begin_4 17 rfl rfl)
theorem dX6_begin_110 : decode cX6_begin 110 = .ok (.getfield 35, 3) := dk_180 0 35 (dk_at dksX6_begin_4 18 rfl rfl)
theorem dX6_begin_113 : decode cX6_begin 113 = .ok (.iload_n 2, 1) := dk_28 (dk_at dksX6_begin_4 21 rfl rfl)
theorem dX6_begin_114 : decode cX6_begin 114 = .ok (.iastore, 1) := dk_79 (dk_at dksX6_begin_4 22 rfl rfl)
theorem dX6_begin_115 : decode cX6_begin 115 = .ok (.aload_n 0, 1) := dk_42 (dk_at dksX6_begin_4 23 rfl rfl)
theorem dX6_begin_116 : decode cX6_begin 116 = .ok (.getfield 19, 3) := dk_180 0 19 (dk_at dksX6_begin_5 0 rfl rfl)
theorem dX6_begin_119 : decode cX6_begin 119 = .ok (.aload_n 0, 1) := dk_42 (dk_at dksX6_begin_5 3 rfl rfl)
theorem dX6_begin_120 : decode cX6_begin 120 = .ok (.getfield 35, 3) := dk_180 0 35 (dk_at dksX6_begin_5 4 rfl rfl)
theorem dX6_begin_123 : decode cX6_begin 123 = .ok (.aload_n 0, 1) := dk_42 (dk_at dksX6_begin_5 7 rfl rfl)
theorem dX6_begin_124 : decode cX6_begin 124 = .ok (.getfield 3, 3) := dk_180 0 3 (dk_at dksX6_begin_5 8 rfl rfl)
theorem dX6_begin_127 : decode cX6_begin 127 = .ok (.getfield 74, 3) := dk_180 0 74 (dk_at dksX6_begin_5 11 rfl rfl)
theorem dX6_begin_130 : decode cX6_begin 130 = .ok (.aload_n 3, 1) := dk_45 (dk_at dksX6_begin_5 14 rfl rfl)
theorem dX6_begin_131 : decode cX6_begin 131 = .ok (.aload_n 0, 1) := dk_42 (dk_at dksX6_begin_5 15 rfl rfl)
theorem dX6_begin_132 : decode cX6_begin 132 = .ok (.getfield 3, 3) := dk_180 0 3 (dk_at dksX6_begin_5 16 rfl rfl)
theorem dX6_begin_135 : decode cX6_begin 135 = .ok (.getfield 46, 3) := dk_180 0 46 (dk_at dksX6_begin_5 19 rfl rfl)
theorem dX6_begin_138 : decode cX6_begin 138 = .ok (.iconst 0, 1) := dk_3 (dk_at dksX6_begin_5 22 rfl rfl)
theorem dX6_begin_139 : decode cX6_begin 139 = .ok (.invokevirtual 84, 3) := dk_182 0 84 (dk_at dksX6_begin_6 0 rfl rfl)
theorem dX6_begin_142 : decode cX6_begin 142 = .ok (.iastore, 1) := dk_79 (dk_at dksX6_begin_6 3 rfl rfl)
theorem dX6_begin_143 : decode cX6_begin 143 = .ok (.aload_n 0, 1) := dk_42 (dk_at dksX6_begin_6 4 rfl rfl)
theorem dX6_begin_144 : decode cX6_begin 144 = .ok (.getfield 22, 3) := dk_180 0 22 (dk_at dksX6_begin_6 5 rfl rfl)
theorem dX6_begin_147 : decode cX6_begin 147 = .ok (.aload_n 0, 1) := dk_42 (dk_at dksX6_begin_6 8 rfl rfl)
theorem dX6_begin_148 : decode cX6_begin 148 = .ok (.getfield 35, 3) := dk_180 0 35 (dk_at dksX6_begin_6 9 rfl rfl)
theorem dX6_begin_151 : decode cX6_begin 151 = .ok (.iconst 2, 1) := dk_5 (dk_at dksX6_begin_6 12 rfl rfl)
theorem dX6_begin_152 : decode cX6_begin 152 = .ok (.aload_n 0, 1) := dk_42 (dk_at dksX6_begin_6 13 rfl rfl)
theorem dX6_begin_153 : decode cX6_begin 153 = .ok (.getfield 3, 3) := dk_180 0 3 (dk_at dksX6_begin_6 14 rfl rfl)
theorem dX6_begin_156 : decode cX6_begin 156 = .ok (.iconst 0, 1) := dk_3 (dk_at dksX6_begin_6 17 rfl rfl)
theorem dX6_begin_157 : decode cX6_begin 157 = .ok (.aload_n 3, 1) := dk_45 (dk_at dksX6_begin_6 18 rfl rfl)
theorem dX6_begin_158 : decode cX6_begin 158 = .ok (.invokevirtual 88, 3) := dk_182 0 88 (dk_at dksX6_begin_6 19 rfl rfl)
theorem dX6_begin_161 : decode cX6_begin 161 = .ok (.imul, 1) := dk_104 (dk_at dksX6_begin_6 22 rfl rfl)
theorem dX6_begin_162 : decode cX6_begin 162 = .ok (.sipush 1000, 3) := dk_17 3 232 (dk_at dksX6_begin_7 0 rfl rfl)
theorem dX6_begin_165 : decode cX6_begin 165 = .ok (.aload_n 0, 1) := dk_42 (dk_at dksX6_begin_7 3 rfl rfl)
theorem dX6_begin_166 : decode cX6_begin 166 = .ok (.getfield 19, 3) := dk_180 0 19 (dk_at dksX6_begin_7 4 rfl rfl)
theorem dX6_begin_169 : decode cX6_begin 169 = .ok (.aload_n 0, 1) := dk_42 (dk_at dksX6_begin_7 7 rfl rfl)
theorem dX6_begin_170 : decode cX6_begin 170 = .ok (.getfield 35, 3) := dk_180 0 35 (dk_at dksX6_begin_7 8 rfl rfl)
theorem dX6_begin_173 : decode cX6_begin 173 = .ok (.iaload, 1) := dk_46 (dk_at dksX6_begin_7 11 rfl rfl)
theorem dX6_begin_174 : decode cX6_begin 174 = .ok (.imul, 1) := dk_104 (dk_at dksX6_begin_7 12 rfl rfl)
theorem dX6_begin_175 : decode cX6_begin 175 = .ok (.isub, 1) := dk_100 (dk_at dksX6_begin_7 13 rfl rfl)
theorem dX6_begin_176 : decode cX6_begin 176 = .ok (.iastore, 1) := dk_79 (dk_at dksX6_begin_7 14 rfl rfl)
theorem dX6_begin_177 : decode cX6_begin 177 = .ok (.aload_n 0, 1) := dk_42 (dk_at dksX6_begin_7 15 rfl rfl)
theorem dX6_begin_178 : decode cX6_begin 178 = .ok (.dup, 1) := dk_89 (dk_at dksX6_begin_7 16 rfl rfl)
theorem dX6_begin_179 : decode cX6_begin 179 = .ok (.getfield 35, 3) := dk_180 0 35 (dk_at dksX6_begin_7 17 rfl rfl)
theorem dX6_begin_182 : decode cX6_begin 182 = .ok (.iconst 1, 1) := dk_4 (dk_at dksX6_begin_7 20 rfl rfl)
theorem dX6_begin_183 : decode cX6_begin 183 = .ok (.iadd, 1) := dk_96 (dk_at dksX6_begin_7 21 rfl rfl)
theorem dX6_begin_184 : decode cX6_begin 184 = .ok (.putfield 35, 3) := dk_181 0 35 (dk_at dksX6_begin_8 0 rfl rfl)
theorem dX6_begin_187 : decode cX6_begin 187 = .ok (.iinc 2 1, 3) := dk_132 2 1 (dk_at dksX6_begin_8 3 rfl rfl)
theorem dX6_begin_190 : decode cX6_begin 190 = .ok (.goto (-155), 3) := dk_167 255 101 (dk_at dksX6_begin_8 6 rfl rfl)
theorem dX6_begin_193 : decode cX6_begin 193 = .ok (.return_, 1) := dk_177 (dk_at dksX6_begin_8 9 rfl rfl)
abbrev cX6_isSpent : ByteArray := prog_10_method_3_code
def yX6_isSpent : MethodName := ⟨RX6, "isSpent", "()Z"⟩
def dkwX6_isSpent_2 : List UInt8 := [167, 0, 4, 3, 172]
abbrev dktX6_isSpent_2 : List UInt8 := dkwX6_isSpent_2 ++ []
def dkwX6_isSpent_1 : List UInt8 := [180, 0, 74, 180, 0, 92, 4, 96, 104, 60, 132, 2, 1, 167, 255, 223, 27, 17, 19, 136, 164, 0, 7, 4]
abbrev dktX6_isSpent_1 : List UInt8 := dkwX6_isSpent_1 ++ dktX6_isSpent_2
def dkwX6_isSpent_0 : List UInt8 := [4, 60, 3, 61, 28, 42, 180, 0, 35, 162, 0, 31, 27, 17, 19, 136, 163, 0, 24, 27, 42, 180, 0, 3]
abbrev dktX6_isSpent_0 : List UInt8 := dkwX6_isSpent_0 ++ dktX6_isSpent_1
theorem dksX6_isSpent_0 : cX6_isSpent.data.toList.drop 0 = dktX6_isSpent_0 := by decide +kernel
theorem dksX6_isSpent_1 : cX6_isSpent.data.toList.drop 24 = dktX6_isSpent_1 := dk_seg dksX6_isSpent_0 24 rfl rfl
theorem dksX6_isSpent_2 : cX6_isSpent.data.toList.drop 48 = dktX6_isSpent_2 := dk_seg dksX6_isSpent_1 24 rfl rfl
theorem dX6_isSpent_0 : decode cX6_isSpent 0 = .ok (.iconst 1, 1) := dk_4 (dk_at dksX6_isSpent_0 0 rfl rfl)
theorem dX6_isSpent_1 : decode cX6_isSpent 1 = .ok (.istore_n 1, 1) := dk_60 (dk_at dksX6_isSpent_0 1 rfl rfl)
theorem dX6_isSpent_2 : decode cX6_isSpent 2 = .ok (.iconst 0, 1) := dk_3 (dk_at dksX6_isSpent_0 2 rfl rfl)
theorem dX6_isSpent_3 : decode cX6_isSpent 3 = .ok (.istore_n 2, 1) := dk_61 (dk_at dksX6_isSpent_0 3 rfl rfl)
theorem dX6_isSpent_4 : decode cX6_isSpent 4 = .ok (.iload_n 2, 1) := dk_28 (dk_at dksX6_isSpent_0 4 rfl rfl)
theorem dX6_isSpent_5 : decode cX6_isSpent 5 = .ok (.aload_n 0, 1) := dk_42 (dk_at dksX6_isSpent_0 5 rfl rfl)
theorem dX6_isSpent_6 : decode cX6_isSpent 6 = .ok (.getfield 35, 3) := dk_180 0 35 (dk_at dksX6_isSpent_0 6 rfl rfl)
theorem dX6_isSpent_9 : decode cX6_isSpent 9 = .ok (.if_icmp .ge 31, 3) := dk_162 0 31 (dk_at dksX6_isSpent_0 9 rfl rfl)
theorem dX6_isSpent_12 : decode cX6_isSpent 12 = .ok (.iload_n 1, 1) := dk_27 (dk_at dksX6_isSpent_0 12 rfl rfl)
theorem dX6_isSpent_13 : decode cX6_isSpent 13 = .ok (.sipush 5000, 3) := dk_17 19 136 (dk_at dksX6_isSpent_0 13 rfl rfl)
theorem dX6_isSpent_16 : decode cX6_isSpent 16 = .ok (.if_icmp .gt 24, 3) := dk_163 0 24 (dk_at dksX6_isSpent_0 16 rfl rfl)
theorem dX6_isSpent_19 : decode cX6_isSpent 19 = .ok (.iload_n 1, 1) := dk_27 (dk_at dksX6_isSpent_0 19 rfl rfl)
theorem dX6_isSpent_20 : decode cX6_isSpent 20 = .ok (.aload_n 0, 1) := dk_42 (dk_at dksX6_isSpent_0 20 rfl rfl)
theorem dX6_isSpent_21 : decode cX6_isSpent 21 = .ok (.getfield 3, 3) := dk_180 0 3 (dk_at dksX6_isSpent_0 21 rfl rfl)
theorem dX6_isSpent_24 : decode cX6_isSpent 24 = .ok (.getfield 74, 3) := dk_180 0 74 (dk_at dksX6_isSpent_1 0 rfl rfl)
theorem dX6_isSpent_27 : decode cX6_isSpent 27 = .ok (.getfield 92, 3) := dk_180 0 92 (dk_at dksX6_isSpent_1 3 rfl rfl)
theorem dX6_isSpent_30 : decode cX6_isSpent 30 = .ok (.iconst 1, 1) := dk_4 (dk_at dksX6_isSpent_1 6 rfl rfl)
theorem dX6_isSpent_31 : decode cX6_isSpent 31 = .ok (.iadd, 1) := dk_96 (dk_at dksX6_isSpent_1 7 rfl rfl)
theorem dX6_isSpent_32 : decode cX6_isSpent 32 = .ok (.imul, 1) := dk_104 (dk_at dksX6_isSpent_1 8 rfl rfl)
theorem dX6_isSpent_33 : decode cX6_isSpent 33 = .ok (.istore_n 1, 1) := dk_60 (dk_at dksX6_isSpent_1 9 rfl rfl)
theorem dX6_isSpent_34 : decode cX6_isSpent 34 = .ok (.iinc 2 1, 3) := dk_132 2 1 (dk_at dksX6_isSpent_1 10 rfl rfl)
theorem dX6_isSpent_37 : decode cX6_isSpent 37 = .ok (.goto (-33), 3) := dk_167 255 223 (dk_at dksX6_isSpent_1 13 rfl rfl)
theorem dX6_isSpent_40 : decode cX6_isSpent 40 = .ok (.iload_n 1, 1) := dk_27 (dk_at dksX6_isSpent_1 16 rfl rfl)
theorem dX6_isSpent_41 : decode cX6_isSpent 41 = .ok (.sipush 5000, 3) := dk_17 19 136 (dk_at dksX6_isSpent_1 17 rfl rfl)
theorem dX6_isSpent_44 : decode cX6_isSpent 44 = .ok (.if_icmp .le 7, 3) := dk_164 0 7 (dk_at dksX6_isSpent_1 20 rfl rfl)
theorem dX6_isSpent_47 : decode cX6_isSpent 47 = .ok (.iconst 1, 1) := dk_4 (dk_at dksX6_isSpent_1 23 rfl rfl)
theorem dX6_isSpent_48 : decode cX6_isSpent 48 = .ok (.goto 4, 3) := dk_167 0 4 (dk_at dksX6_isSpent_2 0 rfl rfl)
theorem dX6_isSpent_51 : decode cX6_isSpent 51 = .ok (.iconst 0, 1) := dk_3 (dk_at dksX6_isSpent_2 3 rfl rfl)
theorem dX6_isSpent_52 : decode cX6_isSpent 52 = .ok (.ireturn, 1) := dk_172 (dk_at dksX6_isSpent_2 4 rfl rfl)
abbrev cX6_go : ByteArray := prog_10_method_4_code
def yX6_go : MethodName := ⟨RX6, "go", "(III)V"⟩
def dkwX6_go_6 : List UInt8 := [162, 0, 23, 42, 180, 0, 28, 21, 4, 42, 180, 0, 25, 21, 4, 46, 79, 132, 4, 1, 167, 255, 230, 177]
abbrev dktX6_go_6 : List UInt8 := dkwX6_go_6 ++ []
def dkwX6_go_5 : List UInt8 := [181, 0, 38, 42, 28, 181, 0, 99, 42, 29, 181, 0, 102, 3, 54, 4, 21, 4, 42, 180, 0, 35]
abbrev dktX6_go_5 : List UInt8 := dkwX6_go_5 ++ dktX6_go_6
def dkwX6_go_4 : List UInt8 := [161, 0, 19, 28, 42, 180, 0, 99, 160, 0, 12, 29, 42, 180, 0, 102, 161, 0, 4, 177, 42, 4]
abbrev dktX6_go_4 : List UInt8 := dkwX6_go_4 ++ dktX6_go_5
def dkwX6_go_3 : List UInt8 := [182, 0, 95, 132, 4, 1, 167, 255, 201, 177, 42, 180, 0, 38, 153, 0, 28, 28, 42, 180, 0, 99]
abbrev dktX6_go_3 : List UInt8 := dkwX6_go_3 ++ dktX6_go_4
def dkwX6_go_2 : List UInt8 := [28, 21, 4, 42, 180, 0, 22, 27, 46, 104, 96, 29, 21, 4, 42, 180, 0, 19, 27, 46, 104, 96]
abbrev dktX6_go_2 : List UInt8 := dkwX6_go_2 ++ dktX6_go_3
def dkwX6_go_1 : List UInt8 := [180, 0, 3, 180, 0, 74, 180, 0, 92, 163, 0, 46, 42, 180, 0, 25, 27, 21, 4, 79, 42, 27, 4, 96]
abbrev dktX6_go_1 : List UInt8 := dkwX6_go_1 ++ dktX6_go_2
def dkwX6_go_0 : List UInt8 := [29, 42, 180, 0, 31, 164, 0, 4, 177, 27, 42, 180, 0, 35, 162, 0, 65, 3, 54, 4, 21, 4, 42]
abbrev dktX6_go_0 : List UInt8 := dkwX6_go_0 ++ dktX6_go_1
theorem dksX6_go_0 : cX6_go.data.toList.drop 0 = dktX6_go_0 := by decide +kernel
theorem dksX6_go_1 : cX6_go.data.toList.drop 23 = dktX6_go_1 := dk_seg dksX6_go_0 23 rfl rfl
theorem dksX6_go_2 : cX6_go.data.toList.drop 47 = dktX6_go_2 := dk_seg dksX6_go_1 24 rfl rfl
theorem dksX6_go_3 : cX6_go.data.toList.drop 69 = dktX6_go_3 := dk_seg dksX6_go_2 22 rfl rfl
theorem dksX6_go_4 : cX6_go.data.toList.drop 91 = dktX6_go_4 := dk_seg dksX6_go_3 22 rfl rfl
theorem dksX6_go_5 : cX6_go.data.toList.drop 113 = dktX6_go_5 := dk_seg dksX6_go_4 22 rfl rfl
theorem dksX6_go_6 : cX6_go.data.toList.drop 135 = dktX6_go_6 := dk_seg dksX6_go_5 22 rfl rfl
theorem dX6_go_0 : decode cX6_go 0 = .ok (.iload_n 3, 1) := dk_29 (dk_at dksX6_go_0 0 rfl rfl)
theorem dX6_go_1 : decode cX6_go 1 = .ok (.aload_n 0, 1) := dk_42 (dk_at dksX6_go_0 1 rfl rfl)
theorem dX6_go_2 : decode cX6_go 2 = .ok (.getfield 31, 3) := dk_180 0 31 (dk_at dksX6_go_0 2 rfl rfl)
theorem dX6_go_5 : decode cX6_go 5 = .ok (.if_icmp .le 4, 3) := dk_164 0 4 (dk_at dksX6_go_0 5 rfl rfl)
theorem dX6_go_8 : decode cX6_go 8 = .ok (.return_, 1) := dk_177 (dk_at dksX6_go_0 8 rfl rfl)
theorem dX6_go_9 : decode cX6_go 9 = .ok (.iload_n 1, 1) := dk_27 (dk_at dksX6_go_0 9 rfl rfl)
theorem dX6_go_10 : decode cX6_go 10 = .ok (.aload_n 0, 1) := dk_42 (dk_at dksX6_go_0 10 rfl rfl)
theorem dX6_go_11 : decode cX6_go 11 = .ok (.getfield 35, 3) := dk_180 0 35 (dk_at dksX6_go_0 11 rfl rfl)
theorem dX6_go_14 : decode cX6_go 14 = .ok (.if_icmp .ge 65, 3) := dk_162 0 65 (dk_at dksX6_go_0 14 rfl rfl)
theorem dX6_go_17 : decode cX6_go 17 = .ok (.iconst 0, 1) := dk_3 (dk_at dksX6_go_0 17 rfl rfl)
theorem dX6_go_18 : decode cX6_go 18 = .ok (.istore 4, 2) := dk_54 4 (dk_at dksX6_go_0 18 rfl rfl)
theorem dX6_go_20 : decode cX6_go 20 = .ok (.iload 4, 2) := dk_21 4 (dk_at dksX6_go_0 20 rfl rfl)
theorem dX6_go_22 : decode cX6_go 22 = .ok (.aload_n 0, 1) := dk_42 (dk_at dksX6_go_0 22 rfl rfl)
theorem dX6_go_23 : decode cX6_go 23 = .ok (.getfield 3, 3) := dk_180 0 3 (dk_at dksX6_go_1 0 rfl rfl)
theorem dX6_go_26 : decode cX6_go 26 = .ok (.getfield 74, 3) := dk_180 0 74 (dk_at dksX6_go_1 3 rfl rfl)
theorem dX6_go_29 : decode cX6_go 29 = .ok (.getfield 92, 3) := dk_180 0 92 (dk_at dksX6_go_1 6 rfl rfl)
theorem dX6_go_32 : decode cX6_go 32 = .ok (.if_icmp .gt 46, 3) := dk_163 0 46 (dk_at dksX6_go_1 9 rfl rfl)
theorem dX6_go_35 : decode cX6_go 35 = .ok (.aload_n 0, 1) := dk_42 (dk_at dksX6_go_1 12 rfl rfl)
theorem dX6_go_36 : decode cX6_go 36 = .ok (.getfield 25, 3) := dk_180 0 25 (dk_at dksX6_go_1 13 rfl rfl)
theorem dX6_go_39 : decode cX6_go 39 = .ok (.iload_n 1, 1) := dk_27 (dk_at dksX6_go_1 16 rfl rfl)
theorem dX6_go_40 : decode cX6_go 40 = .ok (.iload 4, 2) := dk_21 4 (dk_at dksX6_go_1 17 rfl rfl)
theorem dX6_go_42 : decode cX6_go 42 = .ok (.iastore, 1) := dk_79 (dk_at dksX6_go_1 19 rfl rfl)
theorem dX6_go_43 : decode cX6_go 43 = .ok (.aload_n 0, 1) := dk_42 (dk_at dksX6_go_1 20 rfl rfl)
theorem dX6_go_44 : decode cX6_go 44 = .ok (.iload_n 1, 1) := dk_27 (dk_at dksX6_go_1 21 rfl rfl)
theorem dX6_go_45 : decode cX6_go 45 = .ok (.iconst 1, 1) := dk_4 (dk_at dksX6_go_1 22 rfl rfl)
theorem dX6_go_46 : decode cX6_go 46 = .ok (.iadd, 1) := dk_96 (dk_at dksX6_go_1 23 rfl rfl)
theorem dX6_go_47 : decode cX6_go 47 = .ok (.iload_n 2, 1) := dk_28 (dk_at dksX6_go_2 0 rfl rfl)
theorem dX6_go_48 : decode cX6_go 48 = .ok (.iload 4, 2) := dk_21 4 (dk_at dksX6_go_2 1 rfl rfl)
theorem dX6_go_50 : decode cX6_go 50 = .ok (.aload_n 0, 1) := dk_42 (dk_at dksX6_go_2 3 rfl rfl)
theorem dX6_go_51 : decode cX6_go 51 = .ok (.getfield 22, 3) := dk_180 0 22 (dk_at dksX6_go_2 4 rfl rfl)
theorem dX6_go_54 : decode cX6_go 54 = .ok (.iload_n 1, 1) := dk_27 (dk_at dksX6_go_2 7 rfl rfl)
theorem dX6_go_55 : decode cX6_go 55 = .ok (.iaload, 1) := dk_46 (dk_at dksX6_go_2 8 rfl rfl)
theorem dX6_go_56 : decode cX6_go 56 = .ok (.imul, 1) := dk_104 (dk_at dksX6_go_2 9 rfl rfl)
theorem dX6_go_57 : decode cX6_go 57 = .ok (.iadd, 1) := dk_96 (dk_at dksX6_go_2 10 rfl rfl)
theorem dX6_go_58 : decode cX6_go 58 = .ok (.iload_n 3, 1) := dk_29 (dk_at dksX6_go_2 11 rfl rfl)
theorem dX6_go_59 : decode cX6_go 59 = .ok (.iload 4, 2) := dk_21 4 (dk_at dksX6_go_2 12 rfl rfl)
theorem dX6_go_61 : decode cX6_go 61 = .ok (.aload_n 0, 1) := dk_42 (dk_at dksX6_go_2 14 rfl rfl)
theorem dX6_go_62 : decode cX6_go 62 = .ok (.getfield 19, 3) := dk_180 0 19 (dk_at dksX6_go_2 15 rfl rfl)
theorem dX6_go_65 : decode cX6_go 65 = .ok (.iload_n 1, 1) := dk_27 (dk_at dksX6_go_2 18 rfl rfl)
theorem dX6_go_66 : decode cX6_go 66 = .ok (.iaload, 1) := dk_46 (dk_at dksX6_go_2 19 rfl rfl)
theorem dX6_go_67 : decode cX6_go 67 = .ok (.imul, 1) := dk_104 (dk_at dksX6_go_2 20 rfl rfl)
theorem dX6_go_68 : decode cX6_go 68 = .ok (.iadd, 1) := dk_96 (dk_at dksX6_go_2 21 rfl rfl)
theorem dX6_go_69 : decode cX6_go 69 = .ok (.invokevirtual 95, 3) := dk_182 0 95 (dk_at dksX6_go_3 0 rfl rfl)
theorem dX6_go_72 : decode cX6_go 72 = .ok (.iinc 4 1, 3) := dk_132 4 1 (dk_at dksX6_go_3 3 rfl rfl)
theorem dX6_go_75 : decode cX6_go 75 = .ok (.goto (-55), 3) := dk_167 255 201 (dk_at dksX6_go_3 6 rfl rfl)
theorem dX6_go_78 : decode cX6_go 78 = .ok (.return_, 1) := dk_177 (dk_at dksX6_go_3 9 rfl rfl)
theorem dX6_go_79 : decode cX6_go 79 = .ok (.aload_n 0, 1) := dk_42 (dk_at dksX6_go_3 10 rfl rfl)
theorem dX6_go_80 : decode cX6_go 80 = .ok (.getfield 38, 3) := dk_180 0 38 (dk_at dksX6_go_3 11 rfl rfl)
theorem dX6_go_83 : decode cX6_go 83 = .ok (.ifCond .eq 28, 3) := dk_153 0 28 (dk_at dksX6_go_3 14 rfl rfl)
theorem dX6_go_86 : decode cX6_go 86 = .ok (.iload_n 2, 1) := dk_28 (dk_at dksX6_go_3 17 rfl rfl)
theorem dX6_go_87 : decode cX6_go 87 = .ok (.aload_n 0, 1) := dk_42 (dk_at dksX6_go_3 18 rfl rfl)
theorem dX6_go_88 : decode cX6_go 88 = .ok (.getfield 99, 3) := dk_180 0 99 (dk_at dksX6_go_3 19 rfl rfl)
theorem dX6_go_91 : decode cX6_go 91 = .ok (.if_icmp .lt 19, 3) := dk_161 0 19 (dk_at dksX6_go_4 0 rfl rfl)
theorem dX6_go_94 : decode cX6_go 94 = .ok (.iload_n 2, 1) := dk_28 (dk_at dksX6_go_4 3 rfl rfl)
theorem dX6_go_95 : decode cX6_go 95 = .ok (.aload_n 0, 1) := dk_42 (dk_at dksX6_go_4 4 rfl rfl)
theorem dX6_go_96 : decode cX6_go 96 = .ok (.getfield 99, 3) := dk_180 0 99 (dk_at dksX6_go_4 5 rfl rfl)
theorem dX6_go_99 : decode cX6_go 99 = .ok (.if_icmp .ne 12, 3) := dk_160 0 12 (dk_at dksX6_go_4 8 rfl rfl)
theorem dX6_go_102 : decode cX6_go 102 = .ok (.iload_n 3, 1) := dk_29 (dk_at dksX6_go_4 11 rfl rfl)
theorem dX6_go_103 : decode cX6_go 103 = .ok (.aload_n 0, 1) := dk_42 (dk_at dksX6_go_4 12 rfl rfl)
theorem dX6_go_104 : decode cX6_go 104 = .ok (.getfield 102, 3) := dk_180 0 102 (dk_at dksX6_go_4 13 rfl rfl)
theorem dX6_go_107 : decode cX6_go 107 = .ok (.if_icmp .lt 4, 3) := dk_161 0 4 (dk_at dksX6_go_4 16 rfl rfl)
theorem dX6_go_110 : decode cX6_go 110 = .ok (.return_, 1) := dk_177 (dk_at dksX6_go_4 19 rfl rfl)
theorem dX6_go_111 : decode cX6_go 111 = .ok (.aload_n 0, 1) := dk_42 (dk_at dksX6_go_4 20 rfl rfl)
theorem dX6_go_112 : decode cX6_go 112 = .ok (.iconst 1, 1) := dk_4 (dk_at dksX6_go_4 21 rfl rfl)
theorem dX6_go_113 : decode cX6_go 113 = .ok (.putfield 38, 3) := dk_181 0 38 (dk_at dksX6_go_5 0 rfl rfl)
theorem dX6_go_116 : decode cX6_go 116 = .ok (.aload_n 0, 1) := dk_42 (dk_at dksX6_go_5 3 rfl rfl)
theorem dX6_go_117 : decode cX6_go 117 = .ok (.iload_n 2, 1) := dk_28 (dk_at dksX6_go_5 4 rfl rfl)
theorem dX6_go_118 : decode cX6_go 118 = .ok (.putfield 99, 3) := dk_181 0 99 (dk_at dksX6_go_5 5 rfl rfl)
theorem dX6_go_121 : decode cX6_go 121 = .ok (.aload_n 0, 1) := dk_42 (dk_at dksX6_go_5 8 rfl rfl)
theorem dX6_go_122 : decode cX6_go 122 = .ok (.iload_n 3, 1) := dk_29 (dk_at dksX6_go_5 9 rfl rfl)
theorem dX6_go_123 : decode cX6_go 123 = .ok (.putfield 102, 3) := dk_181 0 102 (dk_at dksX6_go_5 10 rfl rfl)
theorem dX6_go_126 : decode cX6_go 126 = .ok (.iconst 0, 1) := dk_3 (dk_at dksX6_go_5 13 rfl rfl)
theorem dX6_go_127 : decode cX6_go 127 = .ok (.istore 4, 2) := dk_54 4 (dk_at dksX6_go_5 14 rfl rfl)
theorem dX6_go_129 : decode cX6_go 129 = .ok (.iload 4, 2) := dk_21 4 (dk_at dksX6_go_5 16 rfl rfl)
theorem dX6_go_131 : decode cX6_go 131 = .ok (.aload_n 0, 1) := dk_42 (dk_at dksX6_go_5 18 rfl rfl)
theorem dX6_go_132 : decode cX6_go 132 = .ok (.getfield 35, 3) := dk_180 0 35 (dk_at dksX6_go_5 19 rfl rfl)
theorem dX6_go_135 : decode cX6_go 135 = .ok (.if_icmp .ge 23, 3) := dk_162 0 23 (dk_at dksX6_go_6 0 rfl rfl)
theorem dX6_go_138 : decode cX6_go 138 = .ok (.aload_n 0, 1) := dk_42 (dk_at dksX6_go_6 3 rfl rfl)
theorem dX6_go_139 : decode cX6_go 139 = .ok (.getfield 28, 3) := dk_180 0 28 (dk_at dksX6_go_6 4 rfl rfl)
theorem dX6_go_142 : decode cX6_go 142 = .ok (.iload 4, 2) := dk_21 4 (dk_at dksX6_go_6 7 rfl rfl)
theorem dX6_go_144 : decode cX6_go 144 = .ok (.aload_n 0, 1) := dk_42 (dk_at dksX6_go_6 9 rfl rfl)
theorem dX6_go_145 : decode cX6_go 145 = .ok (.getfield 25, 3) := dk_180 0 25 (dk_at dksX6_go_6 10 rfl rfl)
theorem dX6_go_148 : decode cX6_go 148 = .ok (.iload 4, 2) := dk_21 4 (dk_at dksX6_go_6 13 rfl rfl)
theorem dX6_go_150 : decode cX6_go 150 = .ok (.iaload, 1) := dk_46 (dk_at dksX6_go_6 15 rfl rfl)
theorem dX6_go_151 : decode cX6_go 151 = .ok (.iastore, 1) := dk_79 (dk_at dksX6_go_6 16 rfl rfl)
theorem dX6_go_152 : decode cX6_go 152 = .ok (.iinc 4 1, 3) := dk_132 4 1 (dk_at dksX6_go_6 17 rfl rfl)
theorem dX6_go_155 : decode cX6_go 155 = .ok (.goto (-26), 3) := dk_167 255 230 (dk_at dksX6_go_6 20 rfl rfl)
theorem dX6_go_158 : decode cX6_go 158 = .ok (.return_, 1) := dk_177 (dk_at dksX6_go_6 23 rfl rfl)
theorem q81 : (Jvm.Cond.initialized "LifeRents$Names") ∈ lw_all := lw_g (lw_at lw_m1 9 rfl) rfl
theorem q196 : (Jvm.Cond.fieldLinkNest "LifeRents$Names" (92 : Nat) "LifeRents$Acts" "cap" "I" "LifeRents") ∈ lw_tbl := lw_at lw_m1 124 rfl
theorem q228 : (Jvm.Cond.fieldLinkNest "LifeRents$Names" (71 : Nat) "LifeRents$Known" "dead" "[I" "LifeRents") ∈ lw_tbl := lw_at lw_m1 156 rfl
theorem q271 : (Jvm.Cond.instantiable "LifeRents$Names" (11 : Nat)) ∈ lw_all := lw_g (lw_at lw_m1 199 rfl) rfl
theorem q273 : (Jvm.Cond.instanceMethod ({ cls := "LifeRents$Names", name := "<init>", desc := "(LLifeRents;)V" } : Jvm.MethodName)) ∈ lw_all := lw_g (lw_at lw_m1 201 rfl) rfl
theorem q274 : (Jvm.Cond.code ({ cls := "LifeRents$Names", name := "<init>", desc := "(LLifeRents;)V" } : Jvm.MethodName) prog_10_method_1_code (2 : Nat) (Option.none : Option Jvm.ClassFile.FieldType)) ∈ lw_all := lw_g (lw_at lw_m1 202 rfl) rfl
theorem q275 : (Jvm.Cond.methodLink "LifeRents$Names" (9 : Nat) ({ cls := "java/lang/Object", name := "<init>", desc := "()V" } : Jvm.MethodName)) ∈ lw_all := lw_g (lw_at lw_m1 203 rfl) rfl
theorem q276 : (Jvm.Cond.fieldLink "LifeRents$Names" (15 : Nat) "LifeRents$Names" "who" "[I") ∈ lw_all := lw_g (lw_at lw_m1 204 rfl) rfl
theorem q278 : (Jvm.Cond.fieldLink "LifeRents$Names" (19 : Nat) "LifeRents$Names" "prices" "[I") ∈ lw_all := lw_g (lw_at lw_m1 206 rfl) rfl
theorem q279 : (Jvm.Cond.fieldLink "LifeRents$Names" (22 : Nat) "LifeRents$Names" "gains" "[I") ∈ lw_all := lw_g (lw_at lw_m1 207 rfl) rfl
theorem q280 : (Jvm.Cond.fieldLink "LifeRents$Names" (25 : Nat) "LifeRents$Names" "tried" "[I") ∈ lw_all := lw_g (lw_at lw_m1 208 rfl) rfl
theorem q281 : (Jvm.Cond.fieldLink "LifeRents$Names" (28 : Nat) "LifeRents$Names" "best" "[I") ∈ lw_all := lw_g (lw_at lw_m1 209 rfl) rfl
theorem q283 : (Jvm.Cond.fieldLink "LifeRents$Names" (35 : Nat) "LifeRents$Names" "many" "I") ∈ lw_all := lw_g (lw_at lw_m1 211 rfl) rfl
theorem q285 : (Jvm.Cond.fieldLink "LifeRents$Names" (31 : Nat) "LifeRents$Names" "money" "I") ∈ lw_all := lw_g (lw_at lw_m1 213 rfl) rfl
theorem q286 : (Jvm.Cond.fieldLink "LifeRents$Names" (99 : Nat) "LifeRents$Names" "bestSum" "I") ∈ lw_all := lw_g (lw_at lw_m1 214 rfl) rfl
theorem q288 : (Jvm.Cond.fieldLink "LifeRents$Names" (102 : Nat) "LifeRents$Names" "bestPaid" "I") ∈ lw_all := lw_g (lw_at lw_m1 216 rfl) rfl
theorem q289 : (Jvm.Cond.fieldLink "LifeRents$Names" (38 : Nat) "LifeRents$Names" "hasBest" "Z") ∈ lw_all := lw_g (lw_at lw_m1 217 rfl) rfl
theorem q290 : (Jvm.Cond.fieldLink "LifeRents$Names" (3 : Nat) "LifeRents$Names" "this$0" "LLifeRents;") ∈ lw_all := lw_g (lw_at lw_m1 218 rfl) rfl
theorem q291 : (Jvm.Cond.laysFinal "LifeRents$Names" "LifeRents$Names" "who" "[I") ∈ lw_all := lw_g (lw_at lw_m1 219 rfl) rfl
theorem q292 : (Jvm.Cond.soleField "LifeRents$Names" "who") ∈ lw_all := lw_g (lw_at lw_m1 220 rfl) rfl
theorem q293 : (Jvm.Cond.laysFinal "LifeRents$Names" "LifeRents$Names" "prices" "[I") ∈ lw_all := lw_g (lw_at lw_m1 221 rfl) rfl
theorem q294 : (Jvm.Cond.soleField "LifeRents$Names" "prices") ∈ lw_all := lw_g (lw_at lw_m1 222 rfl) rfl
theorem q295 : (Jvm.Cond.laysFinal "LifeRents$Names" "LifeRents$Names" "gains" "[I") ∈ lw_all := lw_g (lw_at lw_m1 223 rfl) rfl
theorem q296 : (Jvm.Cond.soleField "LifeRents$Names" "gains") ∈ lw_all := lw_g (lw_at lw_m1 224 rfl) rfl
theorem q297 : (Jvm.Cond.laysFinal "LifeRents$Names" "LifeRents$Names" "tried" "[I") ∈ lw_all := lw_g (lw_at lw_m1 225 rfl) rfl
theorem q298 : (Jvm.Cond.soleField "LifeRents$Names" "tried") ∈ lw_all := lw_g (lw_at lw_m1 226 rfl) rfl
theorem q299 : (Jvm.Cond.laysFinal "LifeRents$Names" "LifeRents$Names" "best" "[I") ∈ lw_all := lw_g (lw_at lw_m1 227 rfl) rfl
theorem q300 : (Jvm.Cond.soleField "LifeRents$Names" "best") ∈ lw_all := lw_g (lw_at lw_m1 228 rfl) rfl
theorem q301 : (Jvm.Cond.lays "LifeRents$Names" "LifeRents$Names" "many" "I") ∈ lw_all := lw_g (lw_at lw_m1 229 rfl) rfl
theorem q302 : (Jvm.Cond.soleField "LifeRents$Names" "many") ∈ lw_all := lw_g (lw_at lw_m1 230 rfl) rfl
theorem q303 : (Jvm.Cond.lays "LifeRents$Names" "LifeRents$Names" "money" "I") ∈ lw_all := lw_g (lw_at lw_m1 231 rfl) rfl
theorem q304 : (Jvm.Cond.soleField "LifeRents$Names" "money") ∈ lw_all := lw_g (lw_at lw_m1 232 rfl) rfl
theorem q305 : (Jvm.Cond.lays "LifeRents$Names" "LifeRents$Names" "bestSum" "I") ∈ lw_all := lw_g (lw_at lw_m1 233 rfl) rfl
theorem q306 : (Jvm.Cond.soleField "LifeRents$Names" "bestSum") ∈ lw_all := lw_g (lw_at lw_m1 234 rfl) rfl
theorem q307 : (Jvm.Cond.lays "LifeRents$Names" "LifeRents$Names" "bestPaid" "I") ∈ lw_all := lw_g (lw_at lw_m1 235 rfl) rfl
theorem q308 : (Jvm.Cond.soleField "LifeRents$Names" "bestPaid") ∈ lw_all := lw_g (lw_at lw_m1 236 rfl) rfl
theorem q309 : (Jvm.Cond.lays "LifeRents$Names" "LifeRents$Names" "hasBest" "Z") ∈ lw_all := lw_g (lw_at lw_m1 237 rfl) rfl
theorem q310 : (Jvm.Cond.soleField "LifeRents$Names" "hasBest") ∈ lw_all := lw_g (lw_at lw_m1 238 rfl) rfl
theorem q311 : (Jvm.Cond.laysFinal "LifeRents$Names" "LifeRents$Names" "this$0" "LLifeRents;") ∈ lw_all := lw_g (lw_at lw_m1 239 rfl) rfl
theorem q312 : (Jvm.Cond.soleField "LifeRents$Names" "this$0") ∈ lw_all := lw_g (lw_at lw_m2 0 rfl) rfl
theorem q313 : (Jvm.Cond.superclass "LifeRents$Names" "java/lang/Object") ∈ lw_all := lw_g (lw_at lw_m2 1 rfl) rfl
theorem q319 : (Jvm.Cond.fieldLinkNest "LifeRents$Names" (46 : Nat) "LifeRents" "now" "I" "LifeRents") ∈ lw_tbl := lw_at lw_m2 7 rfl
theorem q323 : (Jvm.Cond.fieldLinkNest "LifeRents$Names" (74 : Nat) "LifeRents" "acts" "LLifeRents$Acts;" "LifeRents") ∈ lw_tbl := lw_at lw_m2 11 rfl
theorem q326 : (Jvm.Cond.fieldLinkNest "LifeRents$Names" (55 : Nat) "LifeRents" "lives" "Ljava/util/ArrayList;" "LifeRents") ∈ lw_tbl := lw_at lw_m2 14 rfl
theorem q335 : (Jvm.Cond.fieldLinkNest "LifeRents$Names" (42 : Nat) "LifeRents" "known" "LLifeRents$Known;" "LifeRents") ∈ lw_tbl := lw_at lw_m2 23 rfl
theorem q655 : (Jvm.Cond.selects "LifeRents$Names" ({ cls := "java/lang/Object", name := "getClass", desc := "()Ljava/lang/Class;" } : Jvm.MethodName) ({ cls := "java/lang/Object", name := "getClass", desc := "()Ljava/lang/Class;" } : Jvm.MethodName)) ∈ lw_all := lw_g (lw_at lw_m3 103 rfl) rfl
theorem q1114 : (Jvm.Cond.instanceMethod ({ cls := "LifeRents$Names", name := "begin", desc := "(I)V" } : Jvm.MethodName)) ∈ lw_all := lw_g (lw_at lw_m5 82 rfl) rfl
theorem q1115 : (Jvm.Cond.selects "LifeRents$Names" ({ cls := "LifeRents$Names", name := "begin", desc := "(I)V" } : Jvm.MethodName) ({ cls := "LifeRents$Names", name := "begin", desc := "(I)V" } : Jvm.MethodName)) ∈ lw_all := lw_g (lw_at lw_m5 83 rfl) rfl
theorem q1116 : (Jvm.Cond.code ({ cls := "LifeRents$Names", name := "begin", desc := "(I)V" } : Jvm.MethodName) prog_10_method_2_code (4 : Nat) (Option.none : Option Jvm.ClassFile.FieldType)) ∈ lw_all := lw_g (lw_at lw_m5 84 rfl) rfl
theorem q1117 : (Jvm.Cond.methodLink "LifeRents$Names" (49 : Nat) ({ cls := "LifeRents$Known", name := "know", desc := "(I)LLifeRents$Known;" } : Jvm.MethodName)) ∈ lw_all := lw_g (lw_at lw_m5 85 rfl) rfl
theorem q1118 : (Jvm.Cond.methodLink "LifeRents$Names" (59 : Nat) ({ cls := "java/util/ArrayList", name := "size", desc := "()I" } : Jvm.MethodName)) ∈ lw_all := lw_g (lw_at lw_m5 86 rfl) rfl
theorem q1119 : (Jvm.Cond.methodLink "LifeRents$Names" (65 : Nat) ({ cls := "java/util/ArrayList", name := "get", desc := "(I)Ljava/lang/Object;" } : Jvm.MethodName)) ∈ lw_all := lw_g (lw_at lw_m5 87 rfl) rfl
theorem q1120 : (Jvm.Cond.classLink "LifeRents$Names" (69 : Nat) "LifeRents$Life") ∈ lw_all := lw_g (lw_at lw_m5 88 rfl) rfl
theorem q1121 : (Jvm.Cond.methodLink "LifeRents$Names" (78 : Nat) ({ cls := "LifeRents$Acts", name := "may", desc := "(LLifeRents$Life;IZ)Z" } : Jvm.MethodName)) ∈ lw_all := lw_g (lw_at lw_m5 89 rfl) rfl
theorem q1122 : (Jvm.Cond.methodLink "LifeRents$Names" (84 : Nat) ({ cls := "LifeRents$Acts", name := "price", desc := "(LLifeRents$Life;IZ)I" } : Jvm.MethodName)) ∈ lw_all := lw_g (lw_at lw_m5 90 rfl) rfl
theorem q1123 : (Jvm.Cond.methodLinkNest "LifeRents$Names" (88 : Nat) ({ cls := "LifeRents", name := "worth", desc := "(ILLifeRents$Life;)I" } : Jvm.MethodName) "LifeRents") ∈ lw_tbl := lw_at lw_m5 91 rfl
theorem q1125 : (Jvm.Cond.instanceMethod ({ cls := "LifeRents$Names", name := "isSpent", desc := "()Z" } : Jvm.MethodName)) ∈ lw_all := lw_g (lw_at lw_m5 93 rfl) rfl
theorem q1126 : (Jvm.Cond.selects "LifeRents$Names" ({ cls := "LifeRents$Names", name := "isSpent", desc := "()Z" } : Jvm.MethodName) ({ cls := "LifeRents$Names", name := "isSpent", desc := "()Z" } : Jvm.MethodName)) ∈ lw_all := lw_g (lw_at lw_m5 94 rfl) rfl
theorem q1127 : (Jvm.Cond.code ({ cls := "LifeRents$Names", name := "isSpent", desc := "()Z" } : Jvm.MethodName) prog_10_method_3_code (3 : Nat) (Option.some Jvm.ClassFile.FieldType.boolean)) ∈ lw_all := lw_g (lw_at lw_m5 95 rfl) rfl
theorem q1129 : (Jvm.Cond.instanceMethod ({ cls := "LifeRents$Names", name := "go", desc := "(III)V" } : Jvm.MethodName)) ∈ lw_all := lw_g (lw_at lw_m5 97 rfl) rfl
theorem q1130 : (Jvm.Cond.selects "LifeRents$Names" ({ cls := "LifeRents$Names", name := "go", desc := "(III)V" } : Jvm.MethodName) ({ cls := "LifeRents$Names", name := "go", desc := "(III)V" } : Jvm.MethodName)) ∈ lw_all := lw_g (lw_at lw_m5 98 rfl) rfl
theorem q1131 : (Jvm.Cond.code ({ cls := "LifeRents$Names", name := "go", desc := "(III)V" } : Jvm.MethodName) prog_10_method_4_code (5 : Nat) (Option.none : Option Jvm.ClassFile.FieldType)) ∈ lw_all := lw_g (lw_at lw_m5 99 rfl) rfl
theorem q1132 : (Jvm.Cond.methodLink "LifeRents$Names" (95 : Nat) ({ cls := "LifeRents$Names", name := "go", desc := "(III)V" } : Jvm.MethodName)) ∈ lw_all := lw_g (lw_at lw_m5 100 rfl) rfl
theorem q1735 : (Jvm.Cond.castable "LifeRents$Names" "java/lang/Object") ∈ lw_tbl := lw_at lw_m7 223 rfl
theorem in_X6 : ∀ w ∈ wsX60, w ∈ lw_all := lw_in wsX60 [291, 293, 295, 297, 299, 301, 303, 305, 307, 309, 311] (by decide +kernel) (by decide +kernel)
/-! LifeRents$Fault -/
set_option maxRecDepth 100000
def RX8 : String := "LifeRents$Fault"
def TX8 : u_T := fun k => match k with
  | 0 => ("java/lang/Throwable", "cause", "Ljava/lang/Throwable;", false)
  | 1 => ("java/lang/Throwable", "stackTrace", "[Ljava/lang/StackTraceElement;", false)
  | 2 => ("java/lang/Throwable", "suppressedExceptions", "Ljava/util/List;", false)
  | 3 => ("java/lang/Throwable", "detailMessage", "Ljava/lang/String;", false)
  | 4 => ("java/lang/Throwable", "backtrace", "Ljava/lang/Object;", false)
  | 5 => ("java/lang/Throwable", "depth", "I", false)
  | 6 => ("LifeRents$Fault", "kind", "I", true)
  | _ => ("LifeRents$Fault", "place", "I", true)
def tyX8 : Nat → FieldType := fun k => match k with
  | 0 => .object "java/lang/Throwable"
  | 1 => .array (.object "java/lang/StackTraceElement")
  | 2 => .object "java/util/List"
  | 3 => .object "java/lang/String"
  | 4 => .object "java/lang/Object"
  | 5 => .int
  | 6 => .int
  | _ => .int
abbrev wsX80 : List Cond := u_ws RX8 TX8 8
theorem nmX8 : ∀ a, a < 8 → ∀ b, b < 8 → a ≠ b → (TX8 a).2.1 ≠ (TX8 b).2.1 := by decide +kernel
theorem tyX8_ok : ∀ k, k < 8 → parseFieldDescriptor (TX8 k).2.2.1 = some (tyX8 k) := by decide +kernel
abbrev cX8_init : ByteArray := prog_5_method_1_code
def yX8_init : MethodName := ⟨RX8, "<init>", "(II)V"⟩
def dkwX8_init_0 : List UInt8 := [42, 1, 1, 3, 3, 183, 0, 1, 42, 27, 181, 0, 7, 42, 28, 181, 0, 13, 177]
abbrev dktX8_init_0 : List UInt8 := dkwX8_init_0 ++ []
theorem dksX8_init_0 : cX8_init.data.toList.drop 0 = dktX8_init_0 := by decide +kernel
theorem dX8_init_0 : decode cX8_init 0 = .ok (.aload_n 0, 1) := dk_42 (dk_at dksX8_init_0 0 rfl rfl)
theorem dX8_init_1 : decode cX8_init 1 = .ok (.aconst_null, 1) := dk_1 (dk_at dksX8_init_0 1 rfl rfl)
theorem dX8_init_2 : decode cX8_init 2 = .ok (.aconst_null, 1) := dk_1 (dk_at dksX8_init_0 2 rfl rfl)
theorem dX8_init_3 : decode cX8_init 3 = .ok (.iconst 0, 1) := dk_3 (dk_at dksX8_init_0 3 rfl rfl)
theorem dX8_init_4 : decode cX8_init 4 = .ok (.iconst 0, 1) := dk_3 (dk_at dksX8_init_0 4 rfl rfl)
theorem dX8_init_5 : decode cX8_init 5 = .ok (.invokespecial 1, 3) := dk_183 0 1 (dk_at dksX8_init_0 5 rfl rfl)
theorem dX8_init_8 : decode cX8_init 8 = .ok (.aload_n 0, 1) := dk_42 (dk_at dksX8_init_0 8 rfl rfl)
theorem dX8_init_9 : decode cX8_init 9 = .ok (.iload_n 1, 1) := dk_27 (dk_at dksX8_init_0 9 rfl rfl)
theorem dX8_init_10 : decode cX8_init 10 = .ok (.putfield 7, 3) := dk_181 0 7 (dk_at dksX8_init_0 10 rfl rfl)
theorem dX8_init_13 : decode cX8_init 13 = .ok (.aload_n 0, 1) := dk_42 (dk_at dksX8_init_0 13 rfl rfl)
theorem dX8_init_14 : decode cX8_init 14 = .ok (.iload_n 2, 1) := dk_28 (dk_at dksX8_init_0 14 rfl rfl)
theorem dX8_init_15 : decode cX8_init 15 = .ok (.putfield 13, 3) := dk_181 0 13 (dk_at dksX8_init_0 15 rfl rfl)
theorem dX8_init_18 : decode cX8_init 18 = .ok (.return_, 1) := dk_177 (dk_at dksX8_init_0 18 rfl rfl)
theorem q89 : (Jvm.Cond.initialized "LifeRents$Fault") ∈ lw_all := lw_g (lw_at lw_m1 17 rfl) rfl
theorem q475 : (Jvm.Cond.instantiable "LifeRents$Fault" (8 : Nat)) ∈ lw_all := lw_g (lw_at lw_m2 163 rfl) rfl
theorem q476 : (Jvm.Cond.castable "LifeRents$Fault" "LifeRents$Fault") ∈ lw_tbl := lw_at lw_m2 164 rfl
theorem q481 : (Jvm.Cond.selects "LifeRents$Fault" ({ cls := "java/lang/Throwable", name := "fillInStackTrace", desc := "(I)Ljava/lang/Throwable;" } : Jvm.MethodName) ({ cls := "java/lang/Throwable", name := "fillInStackTrace", desc := "(I)Ljava/lang/Throwable;" } : Jvm.MethodName)) ∈ lw_all := lw_g (lw_at lw_m2 169 rfl) rfl
theorem q482 : (Jvm.Cond.selects "LifeRents$Fault" ({ cls := "java/lang/Throwable", name := "fillInStackTrace", desc := "()Ljava/lang/Throwable;" } : Jvm.MethodName) ({ cls := "java/lang/Throwable", name := "fillInStackTrace", desc := "()Ljava/lang/Throwable;" } : Jvm.MethodName)) ∈ lw_all := lw_g (lw_at lw_m2 170 rfl) rfl
theorem q483 : (Jvm.Cond.lays "LifeRents$Fault" "java/lang/Throwable" "cause" "Ljava/lang/Throwable;") ∈ lw_all := lw_g (lw_at lw_m2 171 rfl) rfl
theorem q485 : (Jvm.Cond.lays "LifeRents$Fault" "java/lang/Throwable" "stackTrace" "[Ljava/lang/StackTraceElement;") ∈ lw_all := lw_g (lw_at lw_m2 173 rfl) rfl
theorem q487 : (Jvm.Cond.lays "LifeRents$Fault" "java/lang/Throwable" "suppressedExceptions" "Ljava/util/List;") ∈ lw_all := lw_g (lw_at lw_m2 175 rfl) rfl
theorem q489 : (Jvm.Cond.lays "LifeRents$Fault" "java/lang/Throwable" "detailMessage" "Ljava/lang/String;") ∈ lw_all := lw_g (lw_at lw_m2 177 rfl) rfl
theorem q491 : (Jvm.Cond.lays "LifeRents$Fault" "java/lang/Throwable" "backtrace" "Ljava/lang/Object;") ∈ lw_all := lw_g (lw_at lw_m2 179 rfl) rfl
theorem q515 : (Jvm.Cond.instanceMethod ({ cls := "LifeRents$Fault", name := "<init>", desc := "(II)V" } : Jvm.MethodName)) ∈ lw_all := lw_g (lw_at lw_m2 203 rfl) rfl
theorem q516 : (Jvm.Cond.code ({ cls := "LifeRents$Fault", name := "<init>", desc := "(II)V" } : Jvm.MethodName) prog_5_method_1_code (3 : Nat) (Option.none : Option Jvm.ClassFile.FieldType)) ∈ lw_all := lw_g (lw_at lw_m2 204 rfl) rfl
theorem q517 : (Jvm.Cond.methodLink "LifeRents$Fault" (1 : Nat) ({ cls := "java/lang/Exception", name := "<init>", desc := "(Ljava/lang/String;Ljava/lang/Throwable;ZZ)V" } : Jvm.MethodName)) ∈ lw_all := lw_g (lw_at lw_m2 205 rfl) rfl
theorem q523 : (Jvm.Cond.fieldLink "LifeRents$Fault" (7 : Nat) "LifeRents$Fault" "kind" "I") ∈ lw_all := lw_g (lw_at lw_m2 211 rfl) rfl
theorem q525 : (Jvm.Cond.fieldLink "LifeRents$Fault" (13 : Nat) "LifeRents$Fault" "place" "I") ∈ lw_all := lw_g (lw_at lw_m2 213 rfl) rfl
theorem q532 : (Jvm.Cond.laysFinal "LifeRents$Fault" "LifeRents$Fault" "kind" "I") ∈ lw_all := lw_g (lw_at lw_m2 220 rfl) rfl
theorem q533 : (Jvm.Cond.soleField "LifeRents$Fault" "kind") ∈ lw_all := lw_g (lw_at lw_m2 221 rfl) rfl
theorem q534 : (Jvm.Cond.laysFinal "LifeRents$Fault" "LifeRents$Fault" "place" "I") ∈ lw_all := lw_g (lw_at lw_m2 222 rfl) rfl
theorem q535 : (Jvm.Cond.soleField "LifeRents$Fault" "place") ∈ lw_all := lw_g (lw_at lw_m2 223 rfl) rfl
theorem q540 : (Jvm.Cond.lays "LifeRents$Fault" "java/lang/Throwable" "depth" "I") ∈ lw_all := lw_g (lw_at lw_m2 228 rfl) rfl
theorem q543 : (Jvm.Cond.superclass "LifeRents$Fault" "java/lang/Exception") ∈ lw_all := lw_g (lw_at lw_m2 231 rfl) rfl
theorem q650 : (Jvm.Cond.selects "LifeRents$Fault" ({ cls := "java/lang/Object", name := "getClass", desc := "()Ljava/lang/Class;" } : Jvm.MethodName) ({ cls := "java/lang/Object", name := "getClass", desc := "()Ljava/lang/Class;" } : Jvm.MethodName)) ∈ lw_all := lw_g (lw_at lw_m3 98 rfl) rfl
theorem q1737 : (Jvm.Cond.castable "LifeRents$Fault" "java/lang/Object") ∈ lw_tbl := lw_at lw_m7 225 rfl
theorem in_X8 : ∀ w ∈ wsX80, w ∈ lw_all := lw_in wsX80 [483, 485, 487, 489, 491, 540, 532, 534] (by decide +kernel) (by decide +kernel)
/-! LifeRents$Line -/
set_option maxRecDepth 100000
def RX9 : String := "LifeRents$Line"
def TX9 : u_T := fun k => match k with
  | 0 => ("LifeRents$Line", "sort", "I", true)
  | 1 => ("LifeRents$Line", "number", "I", false)
  | 2 => ("LifeRents$Line", "lowAge", "I", false)
  | 3 => ("LifeRents$Line", "highAge", "I", false)
  | 4 => ("LifeRents$Line", "classes", "I", false)
  | 5 => ("LifeRents$Line", "lowHalf", "I", false)
  | 6 => ("LifeRents$Line", "highHalf", "I", false)
  | _ => ("LifeRents$Line", "lives", "I", false)
def tyX9 : Nat → FieldType := fun k => match k with
  | 0 => .int
  | 1 => .int
  | 2 => .int
  | 3 => .int
  | 4 => .int
  | 5 => .int
  | 6 => .int
  | _ => .int
abbrev wsX90 : List Cond := u_ws RX9 TX9 8
theorem nmX9 : ∀ a, a < 8 → ∀ b, b < 8 → a ≠ b → (TX9 a).2.1 ≠ (TX9 b).2.1 := by decide +kernel
theorem tyX9_ok : ∀ k, k < 8 → parseFieldDescriptor (TX9 k).2.2.1 = some (tyX9 k) := by decide +kernel
abbrev cX9_init : ByteArray := prog_9_method_1_code
def yX9_init : MethodName := ⟨RX9, "<init>", "(I)V"⟩
def dkwX9_init_1 : List UInt8 := [181, 0, 24, 42, 27, 181, 0, 27, 177]
abbrev dktX9_init_1 : List UInt8 := dkwX9_init_1 ++ []
def dkwX9_init_0 : List UInt8 := [42, 183, 0, 3, 42, 18, 11, 181, 0, 12, 42, 16, 15, 181, 0, 18, 42, 16, 80, 181, 0, 21, 42, 6]
abbrev dktX9_init_0 : List UInt8 := dkwX9_init_0 ++ dktX9_init_1
theorem dksX9_init_0 : cX9_init.data.toList.drop 0 = dktX9_init_0 := by decide +kernel
theorem dksX9_init_1 : cX9_init.data.toList.drop 24 = dktX9_init_1 := dk_seg dksX9_init_0 24 rfl rfl
theorem dX9_init_0 : decode cX9_init 0 = .ok (.aload_n 0, 1) := dk_42 (dk_at dksX9_init_0 0 rfl rfl)
theorem dX9_init_1 : decode cX9_init 1 = .ok (.invokespecial 3, 3) := dk_183 0 3 (dk_at dksX9_init_0 1 rfl rfl)
theorem dX9_init_4 : decode cX9_init 4 = .ok (.aload_n 0, 1) := dk_42 (dk_at dksX9_init_0 4 rfl rfl)
theorem dX9_init_5 : decode cX9_init 5 = .ok (.ldc 11, 2) := dk_18 11 (dk_at dksX9_init_0 5 rfl rfl)
theorem dX9_init_7 : decode cX9_init 7 = .ok (.putfield 12, 3) := dk_181 0 12 (dk_at dksX9_init_0 7 rfl rfl)
theorem dX9_init_10 : decode cX9_init 10 = .ok (.aload_n 0, 1) := dk_42 (dk_at dksX9_init_0 10 rfl rfl)
theorem dX9_init_11 : decode cX9_init 11 = .ok (.bipush 15, 2) := dk_16 15 (dk_at dksX9_init_0 11 rfl rfl)
theorem dX9_init_13 : decode cX9_init 13 = .ok (.putfield 18, 3) := dk_181 0 18 (dk_at dksX9_init_0 13 rfl rfl)
theorem dX9_init_16 : decode cX9_init 16 = .ok (.aload_n 0, 1) := dk_42 (dk_at dksX9_init_0 16 rfl rfl)
theorem dX9_init_17 : decode cX9_init 17 = .ok (.bipush 80, 2) := dk_16 80 (dk_at dksX9_init_0 17 rfl rfl)
theorem dX9_init_19 : decode cX9_init 19 = .ok (.putfield 21, 3) := dk_181 0 21 (dk_at dksX9_init_0 19 rfl rfl)
theorem dX9_init_22 : decode cX9_init 22 = .ok (.aload_n 0, 1) := dk_42 (dk_at dksX9_init_0 22 rfl rfl)
theorem dX9_init_23 : decode cX9_init 23 = .ok (.iconst 3, 1) := dk_6 (dk_at dksX9_init_0 23 rfl rfl)
theorem dX9_init_24 : decode cX9_init 24 = .ok (.putfield 24, 3) := dk_181 0 24 (dk_at dksX9_init_1 0 rfl rfl)
theorem dX9_init_27 : decode cX9_init 27 = .ok (.aload_n 0, 1) := dk_42 (dk_at dksX9_init_1 3 rfl rfl)
theorem dX9_init_28 : decode cX9_init 28 = .ok (.iload_n 1, 1) := dk_27 (dk_at dksX9_init_1 4 rfl rfl)
theorem dX9_init_29 : decode cX9_init 29 = .ok (.putfield 27, 3) := dk_181 0 27 (dk_at dksX9_init_1 5 rfl rfl)
theorem dX9_init_32 : decode cX9_init 32 = .ok (.return_, 1) := dk_177 (dk_at dksX9_init_1 8 rfl rfl)
abbrev cX9_holds : ByteArray := prog_9_method_2_code
def yX9_holds : MethodName := ⟨RX9, "holds", "(LLifeRents$Life;IZ)Z"⟩
def dkwX9_holds_3 : List UInt8 := [167, 0, 4, 3, 172]
abbrev dktX9_holds_3 : List UInt8 := dkwX9_holds_3 ++ []
def dkwX9_holds_2 : List UInt8 := [153, 0, 27, 42, 180, 0, 24, 29, 153, 0, 7, 4, 167, 0, 4, 3, 122, 4, 126, 4, 160, 0, 7, 4]
abbrev dktX9_holds_2 : List UInt8 := dkwX9_holds_2 ++ dktX9_holds_3
def dkwX9_holds_1 : List UInt8 := [180, 0, 43, 122, 4, 126, 4, 160, 0, 42, 28, 42, 180, 0, 46, 42, 180, 0, 21, 184, 0, 39]
abbrev dktX9_holds_1 : List UInt8 := dkwX9_holds_1 ++ dktX9_holds_2
def dkwX9_holds_0 : List UInt8 := [43, 28, 182, 0, 30, 42, 180, 0, 36, 42, 180, 0, 12, 184, 0, 39, 153, 0, 57, 42, 180, 0, 18, 43]
abbrev dktX9_holds_0 : List UInt8 := dkwX9_holds_0 ++ dktX9_holds_1
theorem dksX9_holds_0 : cX9_holds.data.toList.drop 0 = dktX9_holds_0 := by decide +kernel
theorem dksX9_holds_1 : cX9_holds.data.toList.drop 24 = dktX9_holds_1 := dk_seg dksX9_holds_0 24 rfl rfl
theorem dksX9_holds_2 : cX9_holds.data.toList.drop 46 = dktX9_holds_2 := dk_seg dksX9_holds_1 22 rfl rfl
theorem dksX9_holds_3 : cX9_holds.data.toList.drop 70 = dktX9_holds_3 := dk_seg dksX9_holds_2 24 rfl rfl
theorem dX9_holds_0 : decode cX9_holds 0 = .ok (.aload_n 1, 1) := dk_43 (dk_at dksX9_holds_0 0 rfl rfl)
theorem dX9_holds_1 : decode cX9_holds 1 = .ok (.iload_n 2, 1) := dk_28 (dk_at dksX9_holds_0 1 rfl rfl)
theorem dX9_holds_2 : decode cX9_holds 2 = .ok (.invokevirtual 30, 3) := dk_182 0 30 (dk_at dksX9_holds_0 2 rfl rfl)
theorem dX9_holds_5 : decode cX9_holds 5 = .ok (.aload_n 0, 1) := dk_42 (dk_at dksX9_holds_0 5 rfl rfl)
theorem dX9_holds_6 : decode cX9_holds 6 = .ok (.getfield 36, 3) := dk_180 0 36 (dk_at dksX9_holds_0 6 rfl rfl)
theorem dX9_holds_9 : decode cX9_holds 9 = .ok (.aload_n 0, 1) := dk_42 (dk_at dksX9_holds_0 9 rfl rfl)
theorem dX9_holds_10 : decode cX9_holds 10 = .ok (.getfield 12, 3) := dk_180 0 12 (dk_at dksX9_holds_0 10 rfl rfl)
theorem dX9_holds_13 : decode cX9_holds 13 = .ok (.invokestatic 39, 3) := dk_184 0 39 (dk_at dksX9_holds_0 13 rfl rfl)
theorem dX9_holds_16 : decode cX9_holds 16 = .ok (.ifCond .eq 57, 3) := dk_153 0 57 (dk_at dksX9_holds_0 16 rfl rfl)
theorem dX9_holds_19 : decode cX9_holds 19 = .ok (.aload_n 0, 1) := dk_42 (dk_at dksX9_holds_0 19 rfl rfl)
theorem dX9_holds_20 : decode cX9_holds 20 = .ok (.getfield 18, 3) := dk_180 0 18 (dk_at dksX9_holds_0 20 rfl rfl)
theorem dX9_holds_23 : decode cX9_holds 23 = .ok (.aload_n 1, 1) := dk_43 (dk_at dksX9_holds_0 23 rfl rfl)
theorem dX9_holds_24 : decode cX9_holds 24 = .ok (.getfield 43, 3) := dk_180 0 43 (dk_at dksX9_holds_1 0 rfl rfl)
theorem dX9_holds_27 : decode cX9_holds 27 = .ok (.ishr, 1) := dk_122 (dk_at dksX9_holds_1 3 rfl rfl)
theorem dX9_holds_28 : decode cX9_holds 28 = .ok (.iconst 1, 1) := dk_4 (dk_at dksX9_holds_1 4 rfl rfl)
theorem dX9_holds_29 : decode cX9_holds 29 = .ok (.iand, 1) := dk_126 (dk_at dksX9_holds_1 5 rfl rfl)
theorem dX9_holds_30 : decode cX9_holds 30 = .ok (.iconst 1, 1) := dk_4 (dk_at dksX9_holds_1 6 rfl rfl)
theorem dX9_holds_31 : decode cX9_holds 31 = .ok (.if_icmp .ne 42, 3) := dk_160 0 42 (dk_at dksX9_holds_1 7 rfl rfl)
theorem dX9_holds_34 : decode cX9_holds 34 = .ok (.iload_n 2, 1) := dk_28 (dk_at dksX9_holds_1 10 rfl rfl)
theorem dX9_holds_35 : decode cX9_holds 35 = .ok (.aload_n 0, 1) := dk_42 (dk_at dksX9_holds_1 11 rfl rfl)
theorem dX9_holds_36 : decode cX9_holds 36 = .ok (.getfield 46, 3) := dk_180 0 46 (dk_at dksX9_holds_1 12 rfl rfl)
theorem dX9_holds_39 : decode cX9_holds 39 = .ok (.aload_n 0, 1) := dk_42 (dk_at dksX9_holds_1 15 rfl rfl)
theorem dX9_holds_40 : decode cX9_holds 40 = .ok (.getfield 21, 3) := dk_180 0 21 (dk_at dksX9_holds_1 16 rfl rfl)
theorem dX9_holds_43 : decode cX9_holds 43 = .ok (.invokestatic 39, 3) := dk_184 0 39 (dk_at dksX9_holds_1 19 rfl rfl)
theorem dX9_holds_46 : decode cX9_holds 46 = .ok (.ifCond .eq 27, 3) := dk_153 0 27 (dk_at dksX9_holds_2 0 rfl rfl)
theorem dX9_holds_49 : decode cX9_holds 49 = .ok (.aload_n 0, 1) := dk_42 (dk_at dksX9_holds_2 3 rfl rfl)
theorem dX9_holds_50 : decode cX9_holds 50 = .ok (.getfield 24, 3) := dk_180 0 24 (dk_at dksX9_holds_2 4 rfl rfl)
theorem dX9_holds_53 : decode cX9_holds 53 = .ok (.iload_n 3, 1) := dk_29 (dk_at dksX9_holds_2 7 rfl rfl)
theorem dX9_holds_54 : decode cX9_holds 54 = .ok (.ifCond .eq 7, 3) := dk_153 0 7 (dk_at dksX9_holds_2 8 rfl rfl)
theorem dX9_holds_57 : decode cX9_holds 57 = .ok (.iconst 1, 1) := dk_4 (dk_at dksX9_holds_2 11 rfl rfl)
theorem dX9_holds_58 : decode cX9_holds 58 = .ok (.goto 4, 3) := dk_167 0 4 (dk_at dksX9_holds_2 12 rfl rfl)
theorem dX9_holds_61 : decode cX9_holds 61 = .ok (.iconst 0, 1) := dk_3 (dk_at dksX9_holds_2 15 rfl rfl)
theorem dX9_holds_62 : decode cX9_holds 62 = .ok (.ishr, 1) := dk_122 (dk_at dksX9_holds_2 16 rfl rfl)
theorem dX9_holds_63 : decode cX9_holds 63 = .ok (.iconst 1, 1) := dk_4 (dk_at dksX9_holds_2 17 rfl rfl)
theorem dX9_holds_64 : decode cX9_holds 64 = .ok (.iand, 1) := dk_126 (dk_at dksX9_holds_2 18 rfl rfl)
theorem dX9_holds_65 : decode cX9_holds 65 = .ok (.iconst 1, 1) := dk_4 (dk_at dksX9_holds_2 19 rfl rfl)
theorem dX9_holds_66 : decode cX9_holds 66 = .ok (.if_icmp .ne 7, 3) := dk_160 0 7 (dk_at dksX9_holds_2 20 rfl rfl)
theorem dX9_holds_69 : decode cX9_holds 69 = .ok (.iconst 1, 1) := dk_4 (dk_at dksX9_holds_2 23 rfl rfl)
theorem dX9_holds_70 : decode cX9_holds 70 = .ok (.goto 4, 3) := dk_167 0 4 (dk_at dksX9_holds_3 0 rfl rfl)
theorem dX9_holds_73 : decode cX9_holds 73 = .ok (.iconst 0, 1) := dk_3 (dk_at dksX9_holds_3 3 rfl rfl)
theorem dX9_holds_74 : decode cX9_holds 74 = .ok (.ireturn, 1) := dk_172 (dk_at dksX9_holds_3 4 rfl rfl)
theorem q90 : (Jvm.Cond.initialized "LifeRents$Line") ∈ lw_all := lw_g (lw_at lw_m1 18 rfl) rfl
theorem q557 : (Jvm.Cond.instantiable "LifeRents$Line" (8 : Nat)) ∈ lw_all := lw_g (lw_at lw_m3 5 rfl) rfl
theorem q559 : (Jvm.Cond.instanceMethod ({ cls := "LifeRents$Line", name := "<init>", desc := "(I)V" } : Jvm.MethodName)) ∈ lw_all := lw_g (lw_at lw_m3 7 rfl) rfl
theorem q560 : (Jvm.Cond.code ({ cls := "LifeRents$Line", name := "<init>", desc := "(I)V" } : Jvm.MethodName) prog_9_method_1_code (2 : Nat) (Option.none : Option Jvm.ClassFile.FieldType)) ∈ lw_all := lw_g (lw_at lw_m3 8 rfl) rfl
theorem q561 : (Jvm.Cond.methodLink "LifeRents$Line" (3 : Nat) ({ cls := "java/lang/Object", name := "<init>", desc := "()V" } : Jvm.MethodName)) ∈ lw_all := lw_g (lw_at lw_m3 9 rfl) rfl
theorem q562 : (Jvm.Cond.constant "LifeRents$Line" (11 : Nat) (2147483647 : Int32)) ∈ lw_all := lw_g (lw_at lw_m3 10 rfl) rfl
theorem q563 : (Jvm.Cond.fieldLink "LifeRents$Line" (27 : Nat) "LifeRents$Line" "sort" "I") ∈ lw_all := lw_g (lw_at lw_m3 11 rfl) rfl
theorem q567 : (Jvm.Cond.fieldLink "LifeRents$Line" (36 : Nat) "LifeRents$Line" "lowAge" "I") ∈ lw_all := lw_g (lw_at lw_m3 15 rfl) rfl
theorem q569 : (Jvm.Cond.fieldLink "LifeRents$Line" (12 : Nat) "LifeRents$Line" "highAge" "I") ∈ lw_all := lw_g (lw_at lw_m3 17 rfl) rfl
theorem q571 : (Jvm.Cond.fieldLink "LifeRents$Line" (18 : Nat) "LifeRents$Line" "classes" "I") ∈ lw_all := lw_g (lw_at lw_m3 19 rfl) rfl
theorem q573 : (Jvm.Cond.fieldLink "LifeRents$Line" (46 : Nat) "LifeRents$Line" "lowHalf" "I") ∈ lw_all := lw_g (lw_at lw_m3 21 rfl) rfl
theorem q575 : (Jvm.Cond.fieldLink "LifeRents$Line" (21 : Nat) "LifeRents$Line" "highHalf" "I") ∈ lw_all := lw_g (lw_at lw_m3 23 rfl) rfl
theorem q577 : (Jvm.Cond.fieldLink "LifeRents$Line" (24 : Nat) "LifeRents$Line" "lives" "I") ∈ lw_all := lw_g (lw_at lw_m3 25 rfl) rfl
theorem q579 : (Jvm.Cond.laysFinal "LifeRents$Line" "LifeRents$Line" "sort" "I") ∈ lw_all := lw_g (lw_at lw_m3 27 rfl) rfl
theorem q580 : (Jvm.Cond.soleField "LifeRents$Line" "sort") ∈ lw_all := lw_g (lw_at lw_m3 28 rfl) rfl
theorem q581 : (Jvm.Cond.lays "LifeRents$Line" "LifeRents$Line" "number" "I") ∈ lw_all := lw_g (lw_at lw_m3 29 rfl) rfl
theorem q582 : (Jvm.Cond.soleField "LifeRents$Line" "number") ∈ lw_all := lw_g (lw_at lw_m3 30 rfl) rfl
theorem q583 : (Jvm.Cond.lays "LifeRents$Line" "LifeRents$Line" "lowAge" "I") ∈ lw_all := lw_g (lw_at lw_m3 31 rfl) rfl
theorem q584 : (Jvm.Cond.soleField "LifeRents$Line" "lowAge") ∈ lw_all := lw_g (lw_at lw_m3 32 rfl) rfl
theorem q585 : (Jvm.Cond.lays "LifeRents$Line" "LifeRents$Line" "highAge" "I") ∈ lw_all := lw_g (lw_at lw_m3 33 rfl) rfl
theorem q586 : (Jvm.Cond.soleField "LifeRents$Line" "highAge") ∈ lw_all := lw_g (lw_at lw_m3 34 rfl) rfl
theorem q587 : (Jvm.Cond.lays "LifeRents$Line" "LifeRents$Line" "classes" "I") ∈ lw_all := lw_g (lw_at lw_m3 35 rfl) rfl
theorem q588 : (Jvm.Cond.soleField "LifeRents$Line" "classes") ∈ lw_all := lw_g (lw_at lw_m3 36 rfl) rfl
theorem q589 : (Jvm.Cond.lays "LifeRents$Line" "LifeRents$Line" "lowHalf" "I") ∈ lw_all := lw_g (lw_at lw_m3 37 rfl) rfl
theorem q590 : (Jvm.Cond.soleField "LifeRents$Line" "lowHalf") ∈ lw_all := lw_g (lw_at lw_m3 38 rfl) rfl
theorem q591 : (Jvm.Cond.lays "LifeRents$Line" "LifeRents$Line" "highHalf" "I") ∈ lw_all := lw_g (lw_at lw_m3 39 rfl) rfl
theorem q592 : (Jvm.Cond.soleField "LifeRents$Line" "highHalf") ∈ lw_all := lw_g (lw_at lw_m3 40 rfl) rfl
theorem q593 : (Jvm.Cond.lays "LifeRents$Line" "LifeRents$Line" "lives" "I") ∈ lw_all := lw_g (lw_at lw_m3 41 rfl) rfl
theorem q594 : (Jvm.Cond.soleField "LifeRents$Line" "lives") ∈ lw_all := lw_g (lw_at lw_m3 42 rfl) rfl
theorem q595 : (Jvm.Cond.superclass "LifeRents$Line" "java/lang/Object") ∈ lw_all := lw_g (lw_at lw_m3 43 rfl) rfl
theorem q654 : (Jvm.Cond.selects "LifeRents$Line" ({ cls := "java/lang/Object", name := "getClass", desc := "()Ljava/lang/Class;" } : Jvm.MethodName) ({ cls := "java/lang/Object", name := "getClass", desc := "()Ljava/lang/Class;" } : Jvm.MethodName)) ∈ lw_all := lw_g (lw_at lw_m3 102 rfl) rfl
theorem q708 : (Jvm.Cond.fieldLinkNest "LifeRents$Line" (43 : Nat) "LifeRents$Life" "kind" "I" "LifeRents") ∈ lw_tbl := lw_at lw_m3 156 rfl
theorem q751 : (Jvm.Cond.instanceMethod ({ cls := "LifeRents$Line", name := "holds", desc := "(LLifeRents$Life;IZ)Z" } : Jvm.MethodName)) ∈ lw_all := lw_g (lw_at lw_m3 199 rfl) rfl
theorem q752 : (Jvm.Cond.selects "LifeRents$Line" ({ cls := "LifeRents$Line", name := "holds", desc := "(LLifeRents$Life;IZ)Z" } : Jvm.MethodName) ({ cls := "LifeRents$Line", name := "holds", desc := "(LLifeRents$Life;IZ)Z" } : Jvm.MethodName)) ∈ lw_all := lw_g (lw_at lw_m3 200 rfl) rfl
theorem q753 : (Jvm.Cond.code ({ cls := "LifeRents$Line", name := "holds", desc := "(LLifeRents$Life;IZ)Z" } : Jvm.MethodName) prog_9_method_2_code (4 : Nat) (Option.some Jvm.ClassFile.FieldType.boolean)) ∈ lw_all := lw_g (lw_at lw_m3 201 rfl) rfl
theorem q754 : (Jvm.Cond.methodLink "LifeRents$Line" (30 : Nat) ({ cls := "LifeRents$Life", name := "age", desc := "(I)I" } : Jvm.MethodName)) ∈ lw_all := lw_g (lw_at lw_m3 202 rfl) rfl
theorem q758 : (Jvm.Cond.methodLinkNest "LifeRents$Line" (39 : Nat) ({ cls := "LifeRents", name := "in", desc := "(III)Z" } : Jvm.MethodName) "LifeRents") ∈ lw_tbl := lw_at lw_m3 206 rfl
theorem q1738 : (Jvm.Cond.castable "LifeRents$Line" "java/lang/Object") ∈ lw_tbl := lw_at lw_m7 226 rfl
theorem in_X9 : ∀ w ∈ wsX90, w ∈ lw_all := lw_in wsX90 [579, 581, 583, 585, 587, 589, 591, 593] (by decide +kernel) (by decide +kernel)
/-! LifeRents$Life -/
set_option maxRecDepth 100000
def RX10 : String := "LifeRents$Life"
def TX10 : u_T := fun k => match k with
  | 0 => ("LifeRents$Life", "number", "I", true)
  | 1 => ("LifeRents$Life", "born", "I", true)
  | _ => ("LifeRents$Life", "kind", "I", true)
def tyX10 : Nat → FieldType := fun k => match k with
  | 0 => .int
  | 1 => .int
  | _ => .int
abbrev wsX100 : List Cond := u_ws RX10 TX10 3
theorem nmX10 : ∀ a, a < 3 → ∀ b, b < 3 → a ≠ b → (TX10 a).2.1 ≠ (TX10 b).2.1 := by decide +kernel
theorem tyX10_ok : ∀ k, k < 3 → parseFieldDescriptor (TX10 k).2.2.1 = some (tyX10 k) := by decide +kernel
abbrev cX10_init : ByteArray := prog_8_method_1_code
def yX10_init : MethodName := ⟨RX10, "<init>", "(III)V"⟩
def dkwX10_init_0 : List UInt8 := [42, 183, 0, 1, 42, 27, 181, 0, 7, 42, 28, 181, 0, 13, 42, 29, 181, 0, 16, 177]
abbrev dktX10_init_0 : List UInt8 := dkwX10_init_0 ++ []
theorem dksX10_init_0 : cX10_init.data.toList.drop 0 = dktX10_init_0 := by decide +kernel
theorem dX10_init_0 : decode cX10_init 0 = .ok (.aload_n 0, 1) := dk_42 (dk_at dksX10_init_0 0 rfl rfl)
theorem dX10_init_1 : decode cX10_init 1 = .ok (.invokespecial 1, 3) := dk_183 0 1 (dk_at dksX10_init_0 1 rfl rfl)
theorem dX10_init_4 : decode cX10_init 4 = .ok (.aload_n 0, 1) := dk_42 (dk_at dksX10_init_0 4 rfl rfl)
theorem dX10_init_5 : decode cX10_init 5 = .ok (.iload_n 1, 1) := dk_27 (dk_at dksX10_init_0 5 rfl rfl)
theorem dX10_init_6 : decode cX10_init 6 = .ok (.putfield 7, 3) := dk_181 0 7 (dk_at dksX10_init_0 6 rfl rfl)
theorem dX10_init_9 : decode cX10_init 9 = .ok (.aload_n 0, 1) := dk_42 (dk_at dksX10_init_0 9 rfl rfl)
theorem dX10_init_10 : decode cX10_init 10 = .ok (.iload_n 2, 1) := dk_28 (dk_at dksX10_init_0 10 rfl rfl)
theorem dX10_init_11 : decode cX10_init 11 = .ok (.putfield 13, 3) := dk_181 0 13 (dk_at dksX10_init_0 11 rfl rfl)
theorem dX10_init_14 : decode cX10_init 14 = .ok (.aload_n 0, 1) := dk_42 (dk_at dksX10_init_0 14 rfl rfl)
theorem dX10_init_15 : decode cX10_init 15 = .ok (.iload_n 3, 1) := dk_29 (dk_at dksX10_init_0 15 rfl rfl)
theorem dX10_init_16 : decode cX10_init 16 = .ok (.putfield 16, 3) := dk_181 0 16 (dk_at dksX10_init_0 16 rfl rfl)
theorem dX10_init_19 : decode cX10_init 19 = .ok (.return_, 1) := dk_177 (dk_at dksX10_init_0 19 rfl rfl)
abbrev cX10_age : ByteArray := prog_8_method_2_code
def yX10_age : MethodName := ⟨RX10, "age", "(I)I"⟩
def dkwX10_age_0 : List UInt8 := [27, 42, 180, 0, 13, 100, 5, 108, 172]
abbrev dktX10_age_0 : List UInt8 := dkwX10_age_0 ++ []
theorem dksX10_age_0 : cX10_age.data.toList.drop 0 = dktX10_age_0 := by decide +kernel
theorem dX10_age_0 : decode cX10_age 0 = .ok (.iload_n 1, 1) := dk_27 (dk_at dksX10_age_0 0 rfl rfl)
theorem dX10_age_1 : decode cX10_age 1 = .ok (.aload_n 0, 1) := dk_42 (dk_at dksX10_age_0 1 rfl rfl)
theorem dX10_age_2 : decode cX10_age 2 = .ok (.getfield 13, 3) := dk_180 0 13 (dk_at dksX10_age_0 2 rfl rfl)
theorem dX10_age_5 : decode cX10_age 5 = .ok (.isub, 1) := dk_100 (dk_at dksX10_age_0 5 rfl rfl)
theorem dX10_age_6 : decode cX10_age 6 = .ok (.iconst 2, 1) := dk_5 (dk_at dksX10_age_0 6 rfl rfl)
theorem dX10_age_7 : decode cX10_age 7 = .ok (.idiv, 1) := dk_108 (dk_at dksX10_age_0 7 rfl rfl)
theorem dX10_age_8 : decode cX10_age 8 = .ok (.ireturn, 1) := dk_172 (dk_at dksX10_age_0 8 rfl rfl)
theorem q95 : (Jvm.Cond.initialized "LifeRents$Life") ∈ lw_all := lw_g (lw_at lw_m1 23 rfl) rfl
theorem q653 : (Jvm.Cond.selects "LifeRents$Life" ({ cls := "java/lang/Object", name := "getClass", desc := "()Ljava/lang/Class;" } : Jvm.MethodName) ({ cls := "java/lang/Object", name := "getClass", desc := "()Ljava/lang/Class;" } : Jvm.MethodName)) ∈ lw_all := lw_g (lw_at lw_m3 101 rfl) rfl
theorem q693 : (Jvm.Cond.instantiable "LifeRents$Life" (3 : Nat)) ∈ lw_all := lw_g (lw_at lw_m3 141 rfl) rfl
theorem q695 : (Jvm.Cond.instanceMethod ({ cls := "LifeRents$Life", name := "<init>", desc := "(III)V" } : Jvm.MethodName)) ∈ lw_all := lw_g (lw_at lw_m3 143 rfl) rfl
theorem q696 : (Jvm.Cond.code ({ cls := "LifeRents$Life", name := "<init>", desc := "(III)V" } : Jvm.MethodName) prog_8_method_1_code (4 : Nat) (Option.none : Option Jvm.ClassFile.FieldType)) ∈ lw_all := lw_g (lw_at lw_m3 144 rfl) rfl
theorem q697 : (Jvm.Cond.methodLink "LifeRents$Life" (1 : Nat) ({ cls := "java/lang/Object", name := "<init>", desc := "()V" } : Jvm.MethodName)) ∈ lw_all := lw_g (lw_at lw_m3 145 rfl) rfl
theorem q698 : (Jvm.Cond.fieldLink "LifeRents$Life" (7 : Nat) "LifeRents$Life" "number" "I") ∈ lw_all := lw_g (lw_at lw_m3 146 rfl) rfl
theorem q703 : (Jvm.Cond.fieldLink "LifeRents$Life" (13 : Nat) "LifeRents$Life" "born" "I") ∈ lw_all := lw_g (lw_at lw_m3 151 rfl) rfl
theorem q707 : (Jvm.Cond.fieldLink "LifeRents$Life" (16 : Nat) "LifeRents$Life" "kind" "I") ∈ lw_all := lw_g (lw_at lw_m3 155 rfl) rfl
theorem q711 : (Jvm.Cond.laysFinal "LifeRents$Life" "LifeRents$Life" "number" "I") ∈ lw_all := lw_g (lw_at lw_m3 159 rfl) rfl
theorem q712 : (Jvm.Cond.soleField "LifeRents$Life" "number") ∈ lw_all := lw_g (lw_at lw_m3 160 rfl) rfl
theorem q713 : (Jvm.Cond.laysFinal "LifeRents$Life" "LifeRents$Life" "born" "I") ∈ lw_all := lw_g (lw_at lw_m3 161 rfl) rfl
theorem q714 : (Jvm.Cond.soleField "LifeRents$Life" "born") ∈ lw_all := lw_g (lw_at lw_m3 162 rfl) rfl
theorem q715 : (Jvm.Cond.laysFinal "LifeRents$Life" "LifeRents$Life" "kind" "I") ∈ lw_all := lw_g (lw_at lw_m3 163 rfl) rfl
theorem q716 : (Jvm.Cond.soleField "LifeRents$Life" "kind") ∈ lw_all := lw_g (lw_at lw_m3 164 rfl) rfl
theorem q717 : (Jvm.Cond.superclass "LifeRents$Life" "java/lang/Object") ∈ lw_all := lw_g (lw_at lw_m3 165 rfl) rfl
theorem q755 : (Jvm.Cond.instanceMethod ({ cls := "LifeRents$Life", name := "age", desc := "(I)I" } : Jvm.MethodName)) ∈ lw_all := lw_g (lw_at lw_m3 203 rfl) rfl
theorem q756 : (Jvm.Cond.selects "LifeRents$Life" ({ cls := "LifeRents$Life", name := "age", desc := "(I)I" } : Jvm.MethodName) ({ cls := "LifeRents$Life", name := "age", desc := "(I)I" } : Jvm.MethodName)) ∈ lw_all := lw_g (lw_at lw_m3 204 rfl) rfl
theorem q757 : (Jvm.Cond.code ({ cls := "LifeRents$Life", name := "age", desc := "(I)I" } : Jvm.MethodName) prog_8_method_2_code (2 : Nat) (Option.some Jvm.ClassFile.FieldType.int)) ∈ lw_all := lw_g (lw_at lw_m3 205 rfl) rfl
theorem q1739 : (Jvm.Cond.castable "LifeRents$Life" "java/lang/Object") ∈ lw_tbl := lw_at lw_m7 227 rfl
theorem in_X10 : ∀ w ∈ wsX100, w ∈ lw_all := lw_in wsX100 [711, 713, 715] (by decide +kernel) (by decide +kernel)
/-! LifeRents$Rent -/
set_option maxRecDepth 100000
def RX11 : String := "LifeRents$Rent"
def TX11 : u_T := fun k => match k with
  | 0 => ("LifeRents$Rent", "holder", "I", true)
  | 1 => ("LifeRents$Rent", "bought", "I", true)
  | 2 => ("LifeRents$Rent", "coins", "I", true)
  | 3 => ("LifeRents$Rent", "price", "I", true)
  | 4 => ("LifeRents$Rent", "first", "LLifeRents$Life;", true)
  | 5 => ("LifeRents$Rent", "paid", "[I", true)
  | _ => ("LifeRents$Rent", "sales", "Ljava/util/ArrayList;", true)
def tyX11 : Nat → FieldType := fun k => match k with
  | 0 => .int
  | 1 => .int
  | 2 => .int
  | 3 => .int
  | 4 => .object "LifeRents$Life"
  | 5 => .array .int
  | _ => .object "java/util/ArrayList"
abbrev wsX110 : List Cond := u_ws RX11 TX11 7
theorem nmX11 : ∀ a, a < 7 → ∀ b, b < 7 → a ≠ b → (TX11 a).2.1 ≠ (TX11 b).2.1 := by decide +kernel
theorem tyX11_ok : ∀ k, k < 7 → parseFieldDescriptor (TX11 k).2.2.1 = some (tyX11 k) := by decide +kernel
abbrev cX11_init : ByteArray := prog_14_method_1_code
def yX11_init : MethodName := ⟨RX11, "<init>", "(IIIILLifeRents$Life;)V"⟩
def dkwX11_init_2 : List UInt8 := [181, 0, 37, 177]
abbrev dktX11_init_2 : List UInt8 := dkwX11_init_2 ++ []
def dkwX11_init_1 : List UInt8 := [42, 27, 181, 0, 24, 42, 28, 181, 0, 28, 42, 29, 181, 0, 31, 42, 21, 4, 181, 0, 34, 42, 25, 5]
abbrev dktX11_init_1 : List UInt8 := dkwX11_init_1 ++ dktX11_init_2
def dkwX11_init_0 : List UInt8 := [42, 183, 0, 3, 42, 16, 80, 188, 10, 181, 0, 9, 42, 187, 0, 15, 89, 4, 183, 0, 17, 181, 0, 20]
abbrev dktX11_init_0 : List UInt8 := dkwX11_init_0 ++ dktX11_init_1
theorem dksX11_init_0 : cX11_init.data.toList.drop 0 = dktX11_init_0 := by decide +kernel
theorem dksX11_init_1 : cX11_init.data.toList.drop 24 = dktX11_init_1 := dk_seg dksX11_init_0 24 rfl rfl
theorem dksX11_init_2 : cX11_init.data.toList.drop 48 = dktX11_init_2 := dk_seg dksX11_init_1 24 rfl rfl
theorem dX11_init_0 : decode cX11_init 0 = .ok (.aload_n 0, 1) := dk_42 (dk_at dksX11_init_0 0 rfl rfl)
theorem dX11_init_1 : decode cX11_init 1 = .ok (.invokespecial 3, 3) := dk_183 0 3 (dk_at dksX11_init_0 1 rfl rfl)
theorem dX11_init_4 : decode cX11_init 4 = .ok (.aload_n 0, 1) := dk_42 (dk_at dksX11_init_0 4 rfl rfl)
theorem dX11_init_5 : decode cX11_init 5 = .ok (.bipush 80, 2) := dk_16 80 (dk_at dksX11_init_0 5 rfl rfl)
theorem dX11_init_7 : decode cX11_init 7 = .ok (.newarray .int, 2) := dk_188_10 (dk_at dksX11_init_0 7 rfl rfl)
theorem dX11_init_9 : decode cX11_init 9 = .ok (.putfield 9, 3) := dk_181 0 9 (dk_at dksX11_init_0 9 rfl rfl)
theorem dX11_init_12 : decode cX11_init 12 = .ok (.aload_n 0, 1) := dk_42 (dk_at dksX11_init_0 12 rfl rfl)
theorem dX11_init_13 : decode cX11_init 13 = .ok (.new 15, 3) := dk_187 0 15 (dk_at dksX11_init_0 13 rfl rfl)
theorem dX11_init_16 : decode cX11_init 16 = .ok (.dup, 1) := dk_89 (dk_at dksX11_init_0 16 rfl rfl)
theorem dX11_init_17 : decode cX11_init 17 = .ok (.iconst 1, 1) := dk_4 (dk_at dksX11_init_0 17 rfl rfl)
theorem dX11_init_18 : decode cX11_init 18 = .ok (.invokespecial 17, 3) := dk_183 0 17 (dk_at dksX11_init_0 18 rfl rfl)
theorem dX11_init_21 : decode cX11_init 21 = .ok (.putfield 20, 3) := dk_181 0 20 (dk_at dksX11_init_0 21 rfl rfl)
theorem dX11_init_24 : decode cX11_init 24 = .ok (.aload_n 0, 1) := dk_42 (dk_at dksX11_init_1 0 rfl rfl)
theorem dX11_init_25 : decode cX11_init 25 = .ok (.iload_n 1, 1) := dk_27 (dk_at dksX11_init_1 1 rfl rfl)
theorem dX11_init_26 : decode cX11_init 26 = .ok (.putfield 24, 3) := dk_181 0 24 (dk_at dksX11_init_1 2 rfl rfl)
theorem dX11_init_29 : decode cX11_init 29 = .ok (.aload_n 0, 1) := dk_42 (dk_at dksX11_init_1 5 rfl rfl)
theorem dX11_init_30 : decode cX11_init 30 = .ok (.iload_n 2, 1) := dk_28 (dk_at dksX11_init_1 6 rfl rfl)
theorem dX11_init_31 : decode cX11_init 31 = .ok (.putfield 28, 3) := dk_181 0 28 (dk_at dksX11_init_1 7 rfl rfl)
theorem dX11_init_34 : decode cX11_init 34 = .ok (.aload_n 0, 1) := dk_42 (dk_at dksX11_init_1 10 rfl rfl)
theorem dX11_init_35 : decode cX11_init 35 = .ok (.iload_n 3, 1) := dk_29 (dk_at dksX11_init_1 11 rfl rfl)
theorem dX11_init_36 : decode cX11_init 36 = .ok (.putfield 31, 3) := dk_181 0 31 (dk_at dksX11_init_1 12 rfl rfl)
theorem dX11_init_39 : decode cX11_init 39 = .ok (.aload_n 0, 1) := dk_42 (dk_at dksX11_init_1 15 rfl rfl)
theorem dX11_init_40 : decode cX11_init 40 = .ok (.iload 4, 2) := dk_21 4 (dk_at dksX11_init_1 16 rfl rfl)
theorem dX11_init_42 : decode cX11_init 42 = .ok (.putfield 34, 3) := dk_181 0 34 (dk_at dksX11_init_1 18 rfl rfl)
theorem dX11_init_45 : decode cX11_init 45 = .ok (.aload_n 0, 1) := dk_42 (dk_at dksX11_init_1 21 rfl rfl)
theorem dX11_init_46 : decode cX11_init 46 = .ok (.aload 5, 2) := dk_25 5 (dk_at dksX11_init_1 22 rfl rfl)
theorem dX11_init_48 : decode cX11_init 48 = .ok (.putfield 37, 3) := dk_181 0 37 (dk_at dksX11_init_2 0 rfl rfl)
theorem dX11_init_51 : decode cX11_init 51 = .ok (.return_, 1) := dk_177 (dk_at dksX11_init_2 3 rfl rfl)
abbrev cX11_parts : ByteArray := prog_14_method_4_code
def yX11_parts : MethodName := ⟨RX11, "parts", "(II)I"⟩
def dkwX11_parts_4 : List UInt8 := [180, 0, 57, 116, 167, 0, 4, 3, 96, 62, 132, 4, 1, 167, 255, 179, 29, 172]
abbrev dktX11_parts_4 : List UInt8 := dkwX11_parts_4 ++ []
def dkwX11_parts_3 : List UInt8 := [160, 0, 11, 25, 5, 180, 0, 57, 167, 0, 22, 25, 5, 180, 0, 60, 27, 160, 0, 12, 25, 5]
abbrev dktX11_parts_3 : List UInt8 := dkwX11_parts_3 ++ dktX11_parts_4
def dkwX11_parts_2 : List UInt8 := [182, 0, 45, 192, 0, 49, 58, 5, 25, 5, 180, 0, 51, 28, 163, 0, 42, 29, 25, 5, 180, 0, 54, 27]
abbrev dktX11_parts_2 : List UInt8 := dkwX11_parts_2 ++ dktX11_parts_3
def dkwX11_parts_1 : List UInt8 := [62, 3, 54, 4, 21, 4, 42, 180, 0, 20, 182, 0, 41, 162, 0, 71, 42, 180, 0, 20, 21, 4]
abbrev dktX11_parts_1 : List UInt8 := dkwX11_parts_1 ++ dktX11_parts_2
def dkwX11_parts_0 : List UInt8 := [28, 42, 180, 0, 28, 162, 0, 5, 3, 172, 27, 42, 180, 0, 24, 160, 0, 8, 16, 60, 167, 0, 4, 3]
abbrev dktX11_parts_0 : List UInt8 := dkwX11_parts_0 ++ dktX11_parts_1
theorem dksX11_parts_0 : cX11_parts.data.toList.drop 0 = dktX11_parts_0 := by decide +kernel
theorem dksX11_parts_1 : cX11_parts.data.toList.drop 24 = dktX11_parts_1 := dk_seg dksX11_parts_0 24 rfl rfl
theorem dksX11_parts_2 : cX11_parts.data.toList.drop 46 = dktX11_parts_2 := dk_seg dksX11_parts_1 22 rfl rfl
theorem dksX11_parts_3 : cX11_parts.data.toList.drop 70 = dktX11_parts_3 := dk_seg dksX11_parts_2 24 rfl rfl
theorem dksX11_parts_4 : cX11_parts.data.toList.drop 92 = dktX11_parts_4 := dk_seg dksX11_parts_3 22 rfl rfl
theorem dX11_parts_0 : decode cX11_parts 0 = .ok (.iload_n 2, 1) := dk_28 (dk_at dksX11_parts_0 0 rfl rfl)
theorem dX11_parts_1 : decode cX11_parts 1 = .ok (.aload_n 0, 1) := dk_42 (dk_at dksX11_parts_0 1 rfl rfl)
theorem dX11_parts_2 : decode cX11_parts 2 = .ok (.getfield 28, 3) := dk_180 0 28 (dk_at dksX11_parts_0 2 rfl rfl)
theorem dX11_parts_5 : decode cX11_parts 5 = .ok (.if_icmp .ge 5, 3) := dk_162 0 5 (dk_at dksX11_parts_0 5 rfl rfl)
theorem dX11_parts_8 : decode cX11_parts 8 = .ok (.iconst 0, 1) := dk_3 (dk_at dksX11_parts_0 8 rfl rfl)
theorem dX11_parts_9 : decode cX11_parts 9 = .ok (.ireturn, 1) := dk_172 (dk_at dksX11_parts_0 9 rfl rfl)
theorem dX11_parts_10 : decode cX11_parts 10 = .ok (.iload_n 1, 1) := dk_27 (dk_at dksX11_parts_0 10 rfl rfl)
theorem dX11_parts_11 : decode cX11_parts 11 = .ok (.aload_n 0, 1) := dk_42 (dk_at dksX11_parts_0 11 rfl rfl)
theorem dX11_parts_12 : decode cX11_parts 12 = .ok (.getfield 24, 3) := dk_180 0 24 (dk_at dksX11_parts_0 12 rfl rfl)
theorem dX11_parts_15 : decode cX11_parts 15 = .ok (.if_icmp .ne 8, 3) := dk_160 0 8 (dk_at dksX11_parts_0 15 rfl rfl)
theorem dX11_parts_18 : decode cX11_parts 18 = .ok (.bipush 60, 2) := dk_16 60 (dk_at dksX11_parts_0 18 rfl rfl)
theorem dX11_parts_20 : decode cX11_parts 20 = .ok (.goto 4, 3) := dk_167 0 4 (dk_at dksX11_parts_0 20 rfl rfl)
theorem dX11_parts_23 : decode cX11_parts 23 = .ok (.iconst 0, 1) := dk_3 (dk_at dksX11_parts_0 23 rfl rfl)
theorem dX11_parts_24 : decode cX11_parts 24 = .ok (.istore_n 3, 1) := dk_62 (dk_at dksX11_parts_1 0 rfl rfl)
theorem dX11_parts_25 : decode cX11_parts 25 = .ok (.iconst 0, 1) := dk_3 (dk_at dksX11_parts_1 1 rfl rfl)
theorem dX11_parts_26 : decode cX11_parts 26 = .ok (.istore 4, 2) := dk_54 4 (dk_at dksX11_parts_1 2 rfl rfl)
theorem dX11_parts_28 : decode cX11_parts 28 = .ok (.iload 4, 2) := dk_21 4 (dk_at dksX11_parts_1 4 rfl rfl)
theorem dX11_parts_30 : decode cX11_parts 30 = .ok (.aload_n 0, 1) := dk_42 (dk_at dksX11_parts_1 6 rfl rfl)
theorem dX11_parts_31 : decode cX11_parts 31 = .ok (.getfield 20, 3) := dk_180 0 20 (dk_at dksX11_parts_1 7 rfl rfl)
theorem dX11_parts_34 : decode cX11_parts 34 = .ok (.invokevirtual 41, 3) := dk_182 0 41 (dk_at dksX11_parts_1 10 rfl rfl)
theorem dX11_parts_37 : decode cX11_parts 37 = .ok (.if_icmp .ge 71, 3) := dk_162 0 71 (dk_at dksX11_parts_1 13 rfl rfl)
theorem dX11_parts_40 : decode cX11_parts 40 = .ok (.aload_n 0, 1) := dk_42 (dk_at dksX11_parts_1 16 rfl rfl)
theorem dX11_parts_41 : decode cX11_parts 41 = .ok (.getfield 20, 3) := dk_180 0 20 (dk_at dksX11_parts_1 17 rfl rfl)
theorem dX11_parts_44 : decode cX11_parts 44 = .ok (.iload 4, 2) := dk_21 4 (dk_at dksX11_parts_1 20 rfl rfl)
theorem dX11_parts_46 : decode cX11_parts 46 = .ok (.invokevirtual 45, 3) := dk_182 0 45 (dk_at dksX11_parts_2 0 rfl rfl)
theorem dX11_parts_49 : decode cX11_parts 49 = .ok (.checkcast 49, 3) := dk_192 0 49 (dk_at dksX11_parts_2 3 rfl rfl)
theorem dX11_parts_52 : decode cX11_parts 52 = .ok (.astore 5, 2) := dk_58 5 (dk_at dksX11_parts_2 6 rfl rfl)
theorem dX11_parts_54 : decode cX11_parts 54 = .ok (.aload 5, 2) := dk_25 5 (dk_at dksX11_parts_2 8 rfl rfl)
theorem dX11_parts_56 : decode cX11_parts 56 = .ok (.getfield 51, 3) := dk_180 0 51 (dk_at dksX11_parts_2 10 rfl rfl)
theorem dX11_parts_59 : decode cX11_parts 59 = .ok (.iload_n 2, 1) := dk_28 (dk_at dksX11_parts_2 13 rfl rfl)
theorem dX11_parts_60 : decode cX11_parts 60 = .ok (.if_icmp .gt 42, 3) := dk_163 0 42 (dk_at dksX11_parts_2 14 rfl rfl)
theorem dX11_parts_63 : decode cX11_parts 63 = .ok (.iload_n 3, 1) := dk_29 (dk_at dksX11_parts_2 17 rfl rfl)
theorem dX11_parts_64 : decode cX11_parts 64 = .ok (.aload 5, 2) := dk_25 5 (dk_at dksX11_parts_2 18 rfl rfl)
theorem dX11_parts_66 : decode cX11_parts 66 = .ok (.getfield 54, 3) := dk_180 0 54 (dk_at dksX11_parts_2 20 rfl rfl)
theorem dX11_parts_69 : decode cX11_parts 69 = .ok (.iload_n 1, 1) := dk_27 (dk_at dksX11_parts_2 23 rfl rfl)
theorem dX11_parts_70 : decode cX11_parts 70 = .ok (.if_icmp .ne 11, 3) := dk_160 0 11 (dk_at dksX11_parts_3 0 rfl rfl)
theorem dX11_parts_73 : decode cX11_parts 73 = .ok (.aload 5, 2) := dk_25 5 (dk_at dksX11_parts_3 3 rfl rfl)
theorem dX11_parts_75 : decode cX11_parts 75 = .ok (.getfield 57, 3) := dk_180 0 57 (dk_at dksX11_parts_3 5 rfl rfl)
theorem dX11_parts_78 : decode cX11_parts 78 = .ok (.goto 22, 3) := dk_167 0 22 (dk_at dksX11_parts_3 8 rfl rfl)
theorem dX11_parts_81 : decode cX11_parts 81 = .ok (.aload 5, 2) := dk_25 5 (dk_at dksX11_parts_3 11 rfl rfl)
theorem dX11_parts_83 : decode cX11_parts 83 = .ok (.getfield 60, 3) := dk_180 0 60 (dk_at dksX11_parts_3 13 rfl rfl)
theorem dX11_parts_86 : decode cX11_parts 86 = .ok (.iload_n 1, 1) := dk_27 (dk_at dksX11_parts_3 16 rfl rfl)
theorem dX11_parts_87 : decode cX11_parts 87 = .ok (.if_icmp .ne 12, 3) := dk_160 0 12 (dk_at dksX11_parts_3 17 rfl rfl)
theorem dX11_parts_90 : decode cX11_parts 90 = .ok (.aload 5, 2) := dk_25 5 (dk_at dksX11_parts_3 20 rfl rfl)
theorem dX11_parts_92 : decode cX11_parts 92 = .ok (.getfield 57, 3) := dk_180 0 57 (dk_at dksX11_parts_4 0 rfl rfl)
theorem dX11_parts_95 : decode cX11_parts 95 = .ok (.ineg, 1) := dk_116 (dk_at dksX11_parts_4 3 rfl rfl)
theorem dX11_parts_96 : decode cX11_parts 96 = .ok (.goto 4, 3) := dk_167 0 4 (dk_at dksX11_parts_4 4 rfl rfl)
theorem dX11_parts_99 : decode cX11_parts 99 = .ok (.iconst 0, 1) := dk_3 (dk_at dksX11_parts_4 7 rfl rfl)
theorem dX11_parts_100 : decode cX11_parts 100 = .ok (.iadd, 1) := dk_96 (dk_at dksX11_parts_4 8 rfl rfl)
theorem dX11_parts_101 : decode cX11_parts 101 = .ok (.istore_n 3, 1) := dk_62 (dk_at dksX11_parts_4 9 rfl rfl)
theorem dX11_parts_102 : decode cX11_parts 102 = .ok (.iinc 4 1, 3) := dk_132 4 1 (dk_at dksX11_parts_4 10 rfl rfl)
theorem dX11_parts_105 : decode cX11_parts 105 = .ok (.goto (-77), 3) := dk_167 255 179 (dk_at dksX11_parts_4 13 rfl rfl)
theorem dX11_parts_108 : decode cX11_parts 108 = .ok (.iload_n 3, 1) := dk_29 (dk_at dksX11_parts_4 16 rfl rfl)
theorem dX11_parts_109 : decode cX11_parts 109 = .ok (.ireturn, 1) := dk_172 (dk_at dksX11_parts_4 17 rfl rfl)
abbrev cX11_second : ByteArray := prog_14_method_2_code
def yX11_second : MethodName := ⟨RX11, "second", "()LLifeRents$Life;"⟩
theorem dX11_second_0 : decode cX11_second 0 = .ok (.aconst_null, 1) := by decide +kernel
theorem dX11_second_1 : decode cX11_second 1 = .ok (.areturn, 1) := by decide +kernel
abbrev cX11_asked : ByteArray := prog_14_method_3_code
def yX11_asked : MethodName := ⟨RX11, "asked", "(I)LLifeRents$Life;"⟩
theorem dX11_asked_0 : decode cX11_asked 0 = .ok (.aload_n 0, 1) := by decide +kernel
theorem dX11_asked_1 : decode cX11_asked 1 = .ok (.getfield 37, 3) := by decide +kernel
theorem dX11_asked_4 : decode cX11_asked 4 = .ok (.areturn, 1) := by decide +kernel
theorem q97 : (Jvm.Cond.initialized "LifeRents$Rent") ∈ lw_all := lw_g (lw_at lw_m1 25 rfl) rfl
theorem q658 : (Jvm.Cond.selects "LifeRents$Rent" ({ cls := "java/lang/Object", name := "getClass", desc := "()Ljava/lang/Class;" } : Jvm.MethodName) ({ cls := "java/lang/Object", name := "getClass", desc := "()Ljava/lang/Class;" } : Jvm.MethodName)) ∈ lw_all := lw_g (lw_at lw_m3 106 rfl) rfl
theorem q779 : (Jvm.Cond.instantiable "LifeRents$Rent" (7 : Nat)) ∈ lw_all := lw_g (lw_at lw_m3 227 rfl) rfl
theorem q781 : (Jvm.Cond.instanceMethod ({ cls := "LifeRents$Rent", name := "<init>", desc := "(IIIILLifeRents$Life;)V" } : Jvm.MethodName)) ∈ lw_all := lw_g (lw_at lw_m3 229 rfl) rfl
theorem q782 : (Jvm.Cond.code ({ cls := "LifeRents$Rent", name := "<init>", desc := "(IIIILLifeRents$Life;)V" } : Jvm.MethodName) prog_14_method_1_code (6 : Nat) (Option.none : Option Jvm.ClassFile.FieldType)) ∈ lw_all := lw_g (lw_at lw_m3 230 rfl) rfl
theorem q783 : (Jvm.Cond.methodLink "LifeRents$Rent" (3 : Nat) ({ cls := "java/lang/Object", name := "<init>", desc := "()V" } : Jvm.MethodName)) ∈ lw_all := lw_g (lw_at lw_m3 231 rfl) rfl
theorem q784 : (Jvm.Cond.classLink "LifeRents$Rent" (15 : Nat) "java/util/ArrayList") ∈ lw_all := lw_g (lw_at lw_m3 232 rfl) rfl
theorem q785 : (Jvm.Cond.methodLink "LifeRents$Rent" (17 : Nat) ({ cls := "java/util/ArrayList", name := "<init>", desc := "(I)V" } : Jvm.MethodName)) ∈ lw_all := lw_g (lw_at lw_m3 233 rfl) rfl
theorem q786 : (Jvm.Cond.fieldLink "LifeRents$Rent" (24 : Nat) "LifeRents$Rent" "holder" "I") ∈ lw_all := lw_g (lw_at lw_m3 234 rfl) rfl
theorem q787 : (Jvm.Cond.fieldLink "LifeRents$Rent" (28 : Nat) "LifeRents$Rent" "bought" "I") ∈ lw_all := lw_g (lw_at lw_m3 235 rfl) rfl
theorem q790 : (Jvm.Cond.fieldLink "LifeRents$Rent" (31 : Nat) "LifeRents$Rent" "coins" "I") ∈ lw_all := lw_g (lw_at lw_m3 238 rfl) rfl
theorem q792 : (Jvm.Cond.fieldLink "LifeRents$Rent" (34 : Nat) "LifeRents$Rent" "price" "I") ∈ lw_all := lw_g (lw_at lw_m4 0 rfl) rfl
theorem q794 : (Jvm.Cond.fieldLink "LifeRents$Rent" (37 : Nat) "LifeRents$Rent" "first" "LLifeRents$Life;") ∈ lw_all := lw_g (lw_at lw_m4 2 rfl) rfl
theorem q799 : (Jvm.Cond.fieldLink "LifeRents$Rent" (9 : Nat) "LifeRents$Rent" "paid" "[I") ∈ lw_all := lw_g (lw_at lw_m4 7 rfl) rfl
theorem q801 : (Jvm.Cond.fieldLink "LifeRents$Rent" (20 : Nat) "LifeRents$Rent" "sales" "Ljava/util/ArrayList;") ∈ lw_all := lw_g (lw_at lw_m4 9 rfl) rfl
theorem q803 : (Jvm.Cond.laysFinal "LifeRents$Rent" "LifeRents$Rent" "holder" "I") ∈ lw_all := lw_g (lw_at lw_m4 11 rfl) rfl
theorem q804 : (Jvm.Cond.soleField "LifeRents$Rent" "holder") ∈ lw_all := lw_g (lw_at lw_m4 12 rfl) rfl
theorem q805 : (Jvm.Cond.laysFinal "LifeRents$Rent" "LifeRents$Rent" "bought" "I") ∈ lw_all := lw_g (lw_at lw_m4 13 rfl) rfl
theorem q806 : (Jvm.Cond.soleField "LifeRents$Rent" "bought") ∈ lw_all := lw_g (lw_at lw_m4 14 rfl) rfl
theorem q807 : (Jvm.Cond.laysFinal "LifeRents$Rent" "LifeRents$Rent" "coins" "I") ∈ lw_all := lw_g (lw_at lw_m4 15 rfl) rfl
theorem q808 : (Jvm.Cond.soleField "LifeRents$Rent" "coins") ∈ lw_all := lw_g (lw_at lw_m4 16 rfl) rfl
theorem q809 : (Jvm.Cond.laysFinal "LifeRents$Rent" "LifeRents$Rent" "price" "I") ∈ lw_all := lw_g (lw_at lw_m4 17 rfl) rfl
theorem q810 : (Jvm.Cond.soleField "LifeRents$Rent" "price") ∈ lw_all := lw_g (lw_at lw_m4 18 rfl) rfl
theorem q811 : (Jvm.Cond.laysFinal "LifeRents$Rent" "LifeRents$Rent" "first" "LLifeRents$Life;") ∈ lw_all := lw_g (lw_at lw_m4 19 rfl) rfl
theorem q812 : (Jvm.Cond.soleField "LifeRents$Rent" "first") ∈ lw_all := lw_g (lw_at lw_m4 20 rfl) rfl
theorem q813 : (Jvm.Cond.laysFinal "LifeRents$Rent" "LifeRents$Rent" "paid" "[I") ∈ lw_all := lw_g (lw_at lw_m4 21 rfl) rfl
theorem q814 : (Jvm.Cond.soleField "LifeRents$Rent" "paid") ∈ lw_all := lw_g (lw_at lw_m4 22 rfl) rfl
theorem q815 : (Jvm.Cond.laysFinal "LifeRents$Rent" "LifeRents$Rent" "sales" "Ljava/util/ArrayList;") ∈ lw_all := lw_g (lw_at lw_m4 23 rfl) rfl
theorem q816 : (Jvm.Cond.soleField "LifeRents$Rent" "sales") ∈ lw_all := lw_g (lw_at lw_m4 24 rfl) rfl
theorem q817 : (Jvm.Cond.superclass "LifeRents$Rent" "java/lang/Object") ∈ lw_all := lw_g (lw_at lw_m4 25 rfl) rfl
theorem q844 : (Jvm.Cond.instanceMethod ({ cls := "LifeRents$Rent", name := "parts", desc := "(II)I" } : Jvm.MethodName)) ∈ lw_all := lw_g (lw_at lw_m4 52 rfl) rfl
theorem q845 : (Jvm.Cond.selects "LifeRents$Rent" ({ cls := "LifeRents$Rent", name := "parts", desc := "(II)I" } : Jvm.MethodName) ({ cls := "LifeRents$Rent", name := "parts", desc := "(II)I" } : Jvm.MethodName)) ∈ lw_all := lw_g (lw_at lw_m4 53 rfl) rfl
theorem q846 : (Jvm.Cond.sameMethod "LifeRents$Rent" "LifeRents$Rent" "parts" "(II)I") ∈ lw_all := lw_g (lw_at lw_m4 54 rfl) rfl
theorem q848 : (Jvm.Cond.code ({ cls := "LifeRents$Rent", name := "parts", desc := "(II)I" } : Jvm.MethodName) prog_14_method_4_code (6 : Nat) (Option.some Jvm.ClassFile.FieldType.int)) ∈ lw_all := lw_g (lw_at lw_m4 56 rfl) rfl
theorem q849 : (Jvm.Cond.methodLink "LifeRents$Rent" (41 : Nat) ({ cls := "java/util/ArrayList", name := "size", desc := "()I" } : Jvm.MethodName)) ∈ lw_all := lw_g (lw_at lw_m4 57 rfl) rfl
theorem q850 : (Jvm.Cond.methodLink "LifeRents$Rent" (45 : Nat) ({ cls := "java/util/ArrayList", name := "get", desc := "(I)Ljava/lang/Object;" } : Jvm.MethodName)) ∈ lw_all := lw_g (lw_at lw_m4 58 rfl) rfl
theorem q851 : (Jvm.Cond.classLink "LifeRents$Rent" (49 : Nat) "LifeRents$Sale") ∈ lw_all := lw_g (lw_at lw_m4 59 rfl) rfl
theorem q859 : (Jvm.Cond.fieldLinkNest "LifeRents$Rent" (51 : Nat) "LifeRents$Sale" "half" "I" "LifeRents") ∈ lw_tbl := lw_at lw_m4 67 rfl
theorem q861 : (Jvm.Cond.fieldLinkNest "LifeRents$Rent" (60 : Nat) "LifeRents$Sale" "from" "I" "LifeRents") ∈ lw_tbl := lw_at lw_m4 69 rfl
theorem q863 : (Jvm.Cond.fieldLinkNest "LifeRents$Rent" (54 : Nat) "LifeRents$Sale" "to" "I" "LifeRents") ∈ lw_tbl := lw_at lw_m4 71 rfl
theorem q865 : (Jvm.Cond.fieldLinkNest "LifeRents$Rent" (57 : Nat) "LifeRents$Sale" "parts" "I" "LifeRents") ∈ lw_tbl := lw_at lw_m4 73 rfl
theorem q1014 : (Jvm.Cond.instanceMethod ({ cls := "LifeRents$Rent", name := "second", desc := "()LLifeRents$Life;" } : Jvm.MethodName)) ∈ lw_all := lw_g (lw_at lw_m4 222 rfl) rfl
theorem q1015 : (Jvm.Cond.selects "LifeRents$Rent" ({ cls := "LifeRents$Rent", name := "second", desc := "()LLifeRents$Life;" } : Jvm.MethodName) ({ cls := "LifeRents$Rent", name := "second", desc := "()LLifeRents$Life;" } : Jvm.MethodName)) ∈ lw_all := lw_g (lw_at lw_m4 223 rfl) rfl
theorem q1016 : (Jvm.Cond.sameMethod "LifeRents$Rent" "LifeRents$Rent" "second" "()LLifeRents$Life;") ∈ lw_all := lw_g (lw_at lw_m4 224 rfl) rfl
theorem q1020 : (Jvm.Cond.code ({ cls := "LifeRents$Rent", name := "second", desc := "()LLifeRents$Life;" } : Jvm.MethodName) prog_14_method_2_code (1 : Nat) (Option.some (Jvm.ClassFile.FieldType.object "LifeRents$Life"))) ∈ lw_all := lw_g (lw_at lw_m4 228 rfl) rfl
theorem q1155 : (Jvm.Cond.instanceMethod ({ cls := "LifeRents$Rent", name := "asked", desc := "(I)LLifeRents$Life;" } : Jvm.MethodName)) ∈ lw_all := lw_g (lw_at lw_m5 123 rfl) rfl
theorem q1156 : (Jvm.Cond.selects "LifeRents$Rent" ({ cls := "LifeRents$Rent", name := "asked", desc := "(I)LLifeRents$Life;" } : Jvm.MethodName) ({ cls := "LifeRents$Rent", name := "asked", desc := "(I)LLifeRents$Life;" } : Jvm.MethodName)) ∈ lw_all := lw_g (lw_at lw_m5 124 rfl) rfl
theorem q1157 : (Jvm.Cond.sameMethod "LifeRents$Rent" "LifeRents$Rent" "asked" "(I)LLifeRents$Life;") ∈ lw_all := lw_g (lw_at lw_m5 125 rfl) rfl
theorem q1162 : (Jvm.Cond.code ({ cls := "LifeRents$Rent", name := "asked", desc := "(I)LLifeRents$Life;" } : Jvm.MethodName) prog_14_method_3_code (2 : Nat) (Option.some (Jvm.ClassFile.FieldType.object "LifeRents$Life"))) ∈ lw_all := lw_g (lw_at lw_m5 130 rfl) rfl
theorem q1740 : (Jvm.Cond.castable "LifeRents$Rent" "java/lang/Object") ∈ lw_tbl := lw_at lw_m7 228 rfl
theorem in_X11 : ∀ w ∈ wsX110, w ∈ lw_all := lw_in wsX110 [803, 805, 807, 809, 811, 813, 815] (by decide +kernel) (by decide +kernel)
/-! LifeRents$JointRent -/
set_option maxRecDepth 100000
def RX12 : String := "LifeRents$JointRent"
def TX12 : u_T := fun k => match k with
  | 0 => ("LifeRents$Rent", "holder", "I", true)
  | 1 => ("LifeRents$Rent", "bought", "I", true)
  | 2 => ("LifeRents$Rent", "coins", "I", true)
  | 3 => ("LifeRents$Rent", "price", "I", true)
  | 4 => ("LifeRents$Rent", "first", "LLifeRents$Life;", true)
  | 5 => ("LifeRents$Rent", "paid", "[I", true)
  | 6 => ("LifeRents$Rent", "sales", "Ljava/util/ArrayList;", true)
  | _ => ("LifeRents$JointRent", "second", "LLifeRents$Life;", true)
def tyX12 : Nat → FieldType := fun k => match k with
  | 0 => .int
  | 1 => .int
  | 2 => .int
  | 3 => .int
  | 4 => .object "LifeRents$Life"
  | 5 => .array .int
  | 6 => .object "java/util/ArrayList"
  | _ => .object "LifeRents$Life"
abbrev wsX120 : List Cond := u_ws RX12 TX12 8
theorem nmX12 : ∀ a, a < 8 → ∀ b, b < 8 → a ≠ b → (TX12 a).2.1 ≠ (TX12 b).2.1 := by decide +kernel
theorem tyX12_ok : ∀ k, k < 8 → parseFieldDescriptor (TX12 k).2.2.1 = some (tyX12 k) := by decide +kernel
abbrev cX12_init : ByteArray := prog_6_method_1_code
def yX12_init : MethodName := ⟨RX12, "<init>", "(IIIILLifeRents$Life;LLifeRents$Life;)V"⟩
def dkwX12_init_0 : List UInt8 := [42, 27, 28, 29, 21, 4, 25, 5, 183, 0, 1, 42, 25, 6, 181, 0, 7, 177]
abbrev dktX12_init_0 : List UInt8 := dkwX12_init_0 ++ []
theorem dksX12_init_0 : cX12_init.data.toList.drop 0 = dktX12_init_0 := by decide +kernel
theorem dX12_init_0 : decode cX12_init 0 = .ok (.aload_n 0, 1) := dk_42 (dk_at dksX12_init_0 0 rfl rfl)
theorem dX12_init_1 : decode cX12_init 1 = .ok (.iload_n 1, 1) := dk_27 (dk_at dksX12_init_0 1 rfl rfl)
theorem dX12_init_2 : decode cX12_init 2 = .ok (.iload_n 2, 1) := dk_28 (dk_at dksX12_init_0 2 rfl rfl)
theorem dX12_init_3 : decode cX12_init 3 = .ok (.iload_n 3, 1) := dk_29 (dk_at dksX12_init_0 3 rfl rfl)
theorem dX12_init_4 : decode cX12_init 4 = .ok (.iload 4, 2) := dk_21 4 (dk_at dksX12_init_0 4 rfl rfl)
theorem dX12_init_6 : decode cX12_init 6 = .ok (.aload 5, 2) := dk_25 5 (dk_at dksX12_init_0 6 rfl rfl)
theorem dX12_init_8 : decode cX12_init 8 = .ok (.invokespecial 1, 3) := dk_183 0 1 (dk_at dksX12_init_0 8 rfl rfl)
theorem dX12_init_11 : decode cX12_init 11 = .ok (.aload_n 0, 1) := dk_42 (dk_at dksX12_init_0 11 rfl rfl)
theorem dX12_init_12 : decode cX12_init 12 = .ok (.aload 6, 2) := dk_25 6 (dk_at dksX12_init_0 12 rfl rfl)
theorem dX12_init_14 : decode cX12_init 14 = .ok (.putfield 7, 3) := dk_181 0 7 (dk_at dksX12_init_0 14 rfl rfl)
theorem dX12_init_17 : decode cX12_init 17 = .ok (.return_, 1) := dk_177 (dk_at dksX12_init_0 17 rfl rfl)
abbrev cX12_second : ByteArray := prog_6_method_2_code
def yX12_second : MethodName := ⟨RX12, "second", "()LLifeRents$Life;"⟩
theorem dX12_second_0 : decode cX12_second 0 = .ok (.aload_n 0, 1) := by decide +kernel
theorem dX12_second_1 : decode cX12_second 1 = .ok (.getfield 7, 3) := by decide +kernel
theorem dX12_second_4 : decode cX12_second 4 = .ok (.areturn, 1) := by decide +kernel
abbrev cX12_asked : ByteArray := prog_6_method_3_code
def yX12_asked : MethodName := ⟨RX12, "asked", "(I)LLifeRents$Life;"⟩
def dkwX12_asked_0 : List UInt8 := [42, 180, 0, 13, 42, 180, 0, 7, 27, 184, 0, 16, 176]
abbrev dktX12_asked_0 : List UInt8 := dkwX12_asked_0 ++ []
theorem dksX12_asked_0 : cX12_asked.data.toList.drop 0 = dktX12_asked_0 := by decide +kernel
theorem dX12_asked_0 : decode cX12_asked 0 = .ok (.aload_n 0, 1) := dk_42 (dk_at dksX12_asked_0 0 rfl rfl)
theorem dX12_asked_1 : decode cX12_asked 1 = .ok (.getfield 13, 3) := dk_180 0 13 (dk_at dksX12_asked_0 1 rfl rfl)
theorem dX12_asked_4 : decode cX12_asked 4 = .ok (.aload_n 0, 1) := dk_42 (dk_at dksX12_asked_0 4 rfl rfl)
theorem dX12_asked_5 : decode cX12_asked 5 = .ok (.getfield 7, 3) := dk_180 0 7 (dk_at dksX12_asked_0 5 rfl rfl)
theorem dX12_asked_8 : decode cX12_asked 8 = .ok (.iload_n 1, 1) := dk_27 (dk_at dksX12_asked_0 8 rfl rfl)
theorem dX12_asked_9 : decode cX12_asked 9 = .ok (.invokestatic 16, 3) := dk_184 0 16 (dk_at dksX12_asked_0 9 rfl rfl)
theorem dX12_asked_12 : decode cX12_asked 12 = .ok (.areturn, 1) := dk_176 (dk_at dksX12_asked_0 12 rfl rfl)
theorem q98 : (Jvm.Cond.initialized "LifeRents$JointRent") ∈ lw_all := lw_g (lw_at lw_m1 26 rfl) rfl
theorem q651 : (Jvm.Cond.selects "LifeRents$JointRent" ({ cls := "java/lang/Object", name := "getClass", desc := "()Ljava/lang/Class;" } : Jvm.MethodName) ({ cls := "java/lang/Object", name := "getClass", desc := "()Ljava/lang/Class;" } : Jvm.MethodName)) ∈ lw_all := lw_g (lw_at lw_m3 99 rfl) rfl
theorem q795 : (Jvm.Cond.fieldLink "LifeRents$JointRent" (13 : Nat) "LifeRents$JointRent" "first" "LLifeRents$Life;") ∈ lw_all := lw_g (lw_at lw_m4 3 rfl) rfl
theorem q796 : (Jvm.Cond.sameField "LifeRents$JointRent" "LifeRents$Rent" "first" "LLifeRents$Life;") ∈ lw_all := lw_g (lw_at lw_m4 4 rfl) rfl
theorem q819 : (Jvm.Cond.instantiable "LifeRents$JointRent" (8 : Nat)) ∈ lw_all := lw_g (lw_at lw_m4 27 rfl) rfl
theorem q821 : (Jvm.Cond.instanceMethod ({ cls := "LifeRents$JointRent", name := "<init>", desc := "(IIIILLifeRents$Life;LLifeRents$Life;)V" } : Jvm.MethodName)) ∈ lw_all := lw_g (lw_at lw_m4 29 rfl) rfl
theorem q822 : (Jvm.Cond.code ({ cls := "LifeRents$JointRent", name := "<init>", desc := "(IIIILLifeRents$Life;LLifeRents$Life;)V" } : Jvm.MethodName) prog_6_method_1_code (7 : Nat) (Option.none : Option Jvm.ClassFile.FieldType)) ∈ lw_all := lw_g (lw_at lw_m4 30 rfl) rfl
theorem q823 : (Jvm.Cond.methodLink "LifeRents$JointRent" (1 : Nat) ({ cls := "LifeRents$Rent", name := "<init>", desc := "(IIIILLifeRents$Life;)V" } : Jvm.MethodName)) ∈ lw_all := lw_g (lw_at lw_m4 31 rfl) rfl
theorem q824 : (Jvm.Cond.fieldLink "LifeRents$JointRent" (7 : Nat) "LifeRents$JointRent" "second" "LLifeRents$Life;") ∈ lw_all := lw_g (lw_at lw_m4 32 rfl) rfl
theorem q825 : (Jvm.Cond.laysFinal "LifeRents$JointRent" "LifeRents$JointRent" "second" "LLifeRents$Life;") ∈ lw_all := lw_g (lw_at lw_m4 33 rfl) rfl
theorem q826 : (Jvm.Cond.soleField "LifeRents$JointRent" "second") ∈ lw_all := lw_g (lw_at lw_m4 34 rfl) rfl
theorem q827 : (Jvm.Cond.laysFinal "LifeRents$JointRent" "LifeRents$Rent" "holder" "I") ∈ lw_all := lw_g (lw_at lw_m4 35 rfl) rfl
theorem q828 : (Jvm.Cond.laysFinal "LifeRents$JointRent" "LifeRents$Rent" "bought" "I") ∈ lw_all := lw_g (lw_at lw_m4 36 rfl) rfl
theorem q829 : (Jvm.Cond.laysFinal "LifeRents$JointRent" "LifeRents$Rent" "coins" "I") ∈ lw_all := lw_g (lw_at lw_m4 37 rfl) rfl
theorem q830 : (Jvm.Cond.laysFinal "LifeRents$JointRent" "LifeRents$Rent" "price" "I") ∈ lw_all := lw_g (lw_at lw_m4 38 rfl) rfl
theorem q831 : (Jvm.Cond.laysFinal "LifeRents$JointRent" "LifeRents$Rent" "first" "LLifeRents$Life;") ∈ lw_all := lw_g (lw_at lw_m4 39 rfl) rfl
theorem q832 : (Jvm.Cond.laysFinal "LifeRents$JointRent" "LifeRents$Rent" "paid" "[I") ∈ lw_all := lw_g (lw_at lw_m4 40 rfl) rfl
theorem q833 : (Jvm.Cond.laysFinal "LifeRents$JointRent" "LifeRents$Rent" "sales" "Ljava/util/ArrayList;") ∈ lw_all := lw_g (lw_at lw_m4 41 rfl) rfl
theorem q834 : (Jvm.Cond.superclass "LifeRents$JointRent" "LifeRents$Rent") ∈ lw_all := lw_g (lw_at lw_m4 42 rfl) rfl
theorem q847 : (Jvm.Cond.selects "LifeRents$JointRent" ({ cls := "LifeRents$Rent", name := "parts", desc := "(II)I" } : Jvm.MethodName) ({ cls := "LifeRents$Rent", name := "parts", desc := "(II)I" } : Jvm.MethodName)) ∈ lw_all := lw_g (lw_at lw_m4 55 rfl) rfl
theorem q1017 : (Jvm.Cond.selects "LifeRents$JointRent" ({ cls := "LifeRents$Rent", name := "second", desc := "()LLifeRents$Life;" } : Jvm.MethodName) ({ cls := "LifeRents$JointRent", name := "second", desc := "()LLifeRents$Life;" } : Jvm.MethodName)) ∈ lw_all := lw_g (lw_at lw_m4 225 rfl) rfl
theorem q1018 : (Jvm.Cond.instanceMethod ({ cls := "LifeRents$JointRent", name := "second", desc := "()LLifeRents$Life;" } : Jvm.MethodName)) ∈ lw_all := lw_g (lw_at lw_m4 226 rfl) rfl
theorem q1019 : (Jvm.Cond.code ({ cls := "LifeRents$JointRent", name := "second", desc := "()LLifeRents$Life;" } : Jvm.MethodName) prog_6_method_2_code (1 : Nat) (Option.some (Jvm.ClassFile.FieldType.object "LifeRents$Life"))) ∈ lw_all := lw_g (lw_at lw_m4 227 rfl) rfl
theorem q1158 : (Jvm.Cond.selects "LifeRents$JointRent" ({ cls := "LifeRents$Rent", name := "asked", desc := "(I)LLifeRents$Life;" } : Jvm.MethodName) ({ cls := "LifeRents$JointRent", name := "asked", desc := "(I)LLifeRents$Life;" } : Jvm.MethodName)) ∈ lw_all := lw_g (lw_at lw_m5 126 rfl) rfl
theorem q1159 : (Jvm.Cond.instanceMethod ({ cls := "LifeRents$JointRent", name := "asked", desc := "(I)LLifeRents$Life;" } : Jvm.MethodName)) ∈ lw_all := lw_g (lw_at lw_m5 127 rfl) rfl
theorem q1160 : (Jvm.Cond.code ({ cls := "LifeRents$JointRent", name := "asked", desc := "(I)LLifeRents$Life;" } : Jvm.MethodName) prog_6_method_3_code (2 : Nat) (Option.some (Jvm.ClassFile.FieldType.object "LifeRents$Life"))) ∈ lw_all := lw_g (lw_at lw_m5 128 rfl) rfl
theorem q1161 : (Jvm.Cond.methodLinkNest "LifeRents$JointRent" (16 : Nat) ({ cls := "LifeRents", name := "younger", desc := "(LLifeRents$Life;LLifeRents$Life;I)LLifeRents$Life;" } : Jvm.MethodName) "LifeRents") ∈ lw_tbl := lw_at lw_m5 129 rfl
theorem q1724 : (Jvm.Cond.castable "LifeRents$JointRent" "LifeRents$Rent") ∈ lw_tbl := lw_at lw_m7 212 rfl
theorem q1741 : (Jvm.Cond.castable "LifeRents$JointRent" "java/lang/Object") ∈ lw_tbl := lw_at lw_m7 229 rfl
theorem in_X12 : ∀ w ∈ wsX120, w ∈ lw_all := lw_in wsX120 [827, 828, 829, 830, 831, 832, 833, 825] (by decide +kernel) (by decide +kernel)
/-! LifeRents$Sale -/
set_option maxRecDepth 100000
def RX13 : String := "LifeRents$Sale"
def TX13 : u_T := fun k => match k with
  | 0 => ("LifeRents$Sale", "half", "I", true)
  | 1 => ("LifeRents$Sale", "from", "I", true)
  | 2 => ("LifeRents$Sale", "to", "I", true)
  | _ => ("LifeRents$Sale", "parts", "I", true)
def tyX13 : Nat → FieldType := fun k => match k with
  | 0 => .int
  | 1 => .int
  | 2 => .int
  | _ => .int
abbrev wsX130 : List Cond := u_ws RX13 TX13 4
theorem nmX13 : ∀ a, a < 4 → ∀ b, b < 4 → a ≠ b → (TX13 a).2.1 ≠ (TX13 b).2.1 := by decide +kernel
theorem tyX13_ok : ∀ k, k < 4 → parseFieldDescriptor (TX13 k).2.2.1 = some (tyX13 k) := by decide +kernel
abbrev cX13_init : ByteArray := prog_15_method_1_code
def yX13_init : MethodName := ⟨RX13, "<init>", "(IIII)V"⟩
def dkwX13_init_1 : List UInt8 := [181, 0, 19, 177]
abbrev dktX13_init_1 : List UInt8 := dkwX13_init_1 ++ []
def dkwX13_init_0 : List UInt8 := [42, 183, 0, 1, 42, 27, 181, 0, 7, 42, 28, 181, 0, 13, 42, 29, 181, 0, 16, 42, 21, 4]
abbrev dktX13_init_0 : List UInt8 := dkwX13_init_0 ++ dktX13_init_1
theorem dksX13_init_0 : cX13_init.data.toList.drop 0 = dktX13_init_0 := by decide +kernel
theorem dksX13_init_1 : cX13_init.data.toList.drop 22 = dktX13_init_1 := dk_seg dksX13_init_0 22 rfl rfl
theorem dX13_init_0 : decode cX13_init 0 = .ok (.aload_n 0, 1) := dk_42 (dk_at dksX13_init_0 0 rfl rfl)
theorem dX13_init_1 : decode cX13_init 1 = .ok (.invokespecial 1, 3) := dk_183 0 1 (dk_at dksX13_init_0 1 rfl rfl)
theorem dX13_init_4 : decode cX13_init 4 = .ok (.aload_n 0, 1) := dk_42 (dk_at dksX13_init_0 4 rfl rfl)
theorem dX13_init_5 : decode cX13_init 5 = .ok (.iload_n 1, 1) := dk_27 (dk_at dksX13_init_0 5 rfl rfl)
theorem dX13_init_6 : decode cX13_init 6 = .ok (.putfield 7, 3) := dk_181 0 7 (dk_at dksX13_init_0 6 rfl rfl)
theorem dX13_init_9 : decode cX13_init 9 = .ok (.aload_n 0, 1) := dk_42 (dk_at dksX13_init_0 9 rfl rfl)
theorem dX13_init_10 : decode cX13_init 10 = .ok (.iload_n 2, 1) := dk_28 (dk_at dksX13_init_0 10 rfl rfl)
theorem dX13_init_11 : decode cX13_init 11 = .ok (.putfield 13, 3) := dk_181 0 13 (dk_at dksX13_init_0 11 rfl rfl)
theorem dX13_init_14 : decode cX13_init 14 = .ok (.aload_n 0, 1) := dk_42 (dk_at dksX13_init_0 14 rfl rfl)
theorem dX13_init_15 : decode cX13_init 15 = .ok (.iload_n 3, 1) := dk_29 (dk_at dksX13_init_0 15 rfl rfl)
theorem dX13_init_16 : decode cX13_init 16 = .ok (.putfield 16, 3) := dk_181 0 16 (dk_at dksX13_init_0 16 rfl rfl)
theorem dX13_init_19 : decode cX13_init 19 = .ok (.aload_n 0, 1) := dk_42 (dk_at dksX13_init_0 19 rfl rfl)
theorem dX13_init_20 : decode cX13_init 20 = .ok (.iload 4, 2) := dk_21 4 (dk_at dksX13_init_0 20 rfl rfl)
theorem dX13_init_22 : decode cX13_init 22 = .ok (.putfield 19, 3) := dk_181 0 19 (dk_at dksX13_init_1 0 rfl rfl)
theorem dX13_init_25 : decode cX13_init 25 = .ok (.return_, 1) := dk_177 (dk_at dksX13_init_1 3 rfl rfl)
theorem q99 : (Jvm.Cond.initialized "LifeRents$Sale") ∈ lw_all := lw_g (lw_at lw_m1 27 rfl) rfl
theorem q659 : (Jvm.Cond.selects "LifeRents$Sale" ({ cls := "java/lang/Object", name := "getClass", desc := "()Ljava/lang/Class;" } : Jvm.MethodName) ({ cls := "java/lang/Object", name := "getClass", desc := "()Ljava/lang/Class;" } : Jvm.MethodName)) ∈ lw_all := lw_g (lw_at lw_m3 107 rfl) rfl
theorem q853 : (Jvm.Cond.instantiable "LifeRents$Sale" (4 : Nat)) ∈ lw_all := lw_g (lw_at lw_m4 61 rfl) rfl
theorem q855 : (Jvm.Cond.instanceMethod ({ cls := "LifeRents$Sale", name := "<init>", desc := "(IIII)V" } : Jvm.MethodName)) ∈ lw_all := lw_g (lw_at lw_m4 63 rfl) rfl
theorem q856 : (Jvm.Cond.code ({ cls := "LifeRents$Sale", name := "<init>", desc := "(IIII)V" } : Jvm.MethodName) prog_15_method_1_code (5 : Nat) (Option.none : Option Jvm.ClassFile.FieldType)) ∈ lw_all := lw_g (lw_at lw_m4 64 rfl) rfl
theorem q857 : (Jvm.Cond.methodLink "LifeRents$Sale" (1 : Nat) ({ cls := "java/lang/Object", name := "<init>", desc := "()V" } : Jvm.MethodName)) ∈ lw_all := lw_g (lw_at lw_m4 65 rfl) rfl
theorem q858 : (Jvm.Cond.fieldLink "LifeRents$Sale" (7 : Nat) "LifeRents$Sale" "half" "I") ∈ lw_all := lw_g (lw_at lw_m4 66 rfl) rfl
theorem q860 : (Jvm.Cond.fieldLink "LifeRents$Sale" (13 : Nat) "LifeRents$Sale" "from" "I") ∈ lw_all := lw_g (lw_at lw_m4 68 rfl) rfl
theorem q862 : (Jvm.Cond.fieldLink "LifeRents$Sale" (16 : Nat) "LifeRents$Sale" "to" "I") ∈ lw_all := lw_g (lw_at lw_m4 70 rfl) rfl
theorem q864 : (Jvm.Cond.fieldLink "LifeRents$Sale" (19 : Nat) "LifeRents$Sale" "parts" "I") ∈ lw_all := lw_g (lw_at lw_m4 72 rfl) rfl
theorem q866 : (Jvm.Cond.laysFinal "LifeRents$Sale" "LifeRents$Sale" "half" "I") ∈ lw_all := lw_g (lw_at lw_m4 74 rfl) rfl
theorem q867 : (Jvm.Cond.soleField "LifeRents$Sale" "half") ∈ lw_all := lw_g (lw_at lw_m4 75 rfl) rfl
theorem q868 : (Jvm.Cond.laysFinal "LifeRents$Sale" "LifeRents$Sale" "from" "I") ∈ lw_all := lw_g (lw_at lw_m4 76 rfl) rfl
theorem q869 : (Jvm.Cond.soleField "LifeRents$Sale" "from") ∈ lw_all := lw_g (lw_at lw_m4 77 rfl) rfl
theorem q870 : (Jvm.Cond.laysFinal "LifeRents$Sale" "LifeRents$Sale" "to" "I") ∈ lw_all := lw_g (lw_at lw_m4 78 rfl) rfl
theorem q871 : (Jvm.Cond.soleField "LifeRents$Sale" "to") ∈ lw_all := lw_g (lw_at lw_m4 79 rfl) rfl
theorem q872 : (Jvm.Cond.laysFinal "LifeRents$Sale" "LifeRents$Sale" "parts" "I") ∈ lw_all := lw_g (lw_at lw_m4 80 rfl) rfl
theorem q873 : (Jvm.Cond.soleField "LifeRents$Sale" "parts") ∈ lw_all := lw_g (lw_at lw_m4 81 rfl) rfl
theorem q874 : (Jvm.Cond.superclass "LifeRents$Sale" "java/lang/Object") ∈ lw_all := lw_g (lw_at lw_m4 82 rfl) rfl
theorem q1742 : (Jvm.Cond.castable "LifeRents$Sale" "java/lang/Object") ∈ lw_tbl := lw_at lw_m7 230 rfl
theorem in_X13 : ∀ w ∈ wsX130, w ∈ lw_all := lw_in wsX130 [866, 868, 870, 872] (by decide +kernel) (by decide +kernel)
/-! LifeRents$Note -/
set_option maxRecDepth 100000
def RX14 : String := "LifeRents$Note"
abbrev cX14_init : ByteArray := prog_11_method_1_code
def yX14_init : MethodName := ⟨RX14, "<init>", "(I)V"⟩
def dkwX14_init_0 : List UInt8 := [42, 183, 0, 3, 42, 27, 181, 0, 9, 177]
abbrev dktX14_init_0 : List UInt8 := dkwX14_init_0 ++ []
theorem dksX14_init_0 : cX14_init.data.toList.drop 0 = dktX14_init_0 := by decide +kernel
theorem dX14_init_0 : decode cX14_init 0 = .ok (.aload_n 0, 1) := dk_42 (dk_at dksX14_init_0 0 rfl rfl)
theorem dX14_init_1 : decode cX14_init 1 = .ok (.invokespecial 3, 3) := dk_183 0 3 (dk_at dksX14_init_0 1 rfl rfl)
theorem dX14_init_4 : decode cX14_init 4 = .ok (.aload_n 0, 1) := dk_42 (dk_at dksX14_init_0 4 rfl rfl)
theorem dX14_init_5 : decode cX14_init 5 = .ok (.iload_n 1, 1) := dk_27 (dk_at dksX14_init_0 5 rfl rfl)
theorem dX14_init_6 : decode cX14_init 6 = .ok (.putfield 9, 3) := dk_181 0 9 (dk_at dksX14_init_0 6 rfl rfl)
theorem dX14_init_9 : decode cX14_init 9 = .ok (.return_, 1) := dk_177 (dk_at dksX14_init_0 9 rfl rfl)
abbrev cX14_struck : ByteArray := prog_11_method_2_code
def yX14_struck : MethodName := ⟨RX14, "struck", "()I"⟩
theorem dX14_struck_0 : decode cX14_struck 0 = .ok (.iconst (-1), 1) := by decide +kernel
theorem dX14_struck_1 : decode cX14_struck 1 = .ok (.ireturn, 1) := by decide +kernel
abbrev cX14_tell : ByteArray := prog_11_method_3_code
def yX14_tell : MethodName := ⟨RX14, "tell", "(LLifeRents$Known;)V"⟩
theorem dX14_tell_0 : decode cX14_tell 0 = .ok (.return_, 1) := by decide +kernel
abbrev cX14_isFalse : ByteArray := prog_11_method_4_code
def yX14_isFalse : MethodName := ⟨RX14, "isFalse", "(LLifeRents$Known;)Z"⟩
theorem dX14_isFalse_0 : decode cX14_isFalse 0 = .ok (.iconst 0, 1) := by decide +kernel
theorem dX14_isFalse_1 : decode cX14_isFalse 1 = .ok (.ireturn, 1) := by decide +kernel
theorem q100 : (Jvm.Cond.initialized "LifeRents$Note") ∈ lw_all := lw_g (lw_at lw_m1 28 rfl) rfl
theorem q895 : (Jvm.Cond.instanceMethod ({ cls := "LifeRents$Note", name := "<init>", desc := "(I)V" } : Jvm.MethodName)) ∈ lw_all := lw_g (lw_at lw_m4 103 rfl) rfl
theorem q896 : (Jvm.Cond.code ({ cls := "LifeRents$Note", name := "<init>", desc := "(I)V" } : Jvm.MethodName) prog_11_method_1_code (2 : Nat) (Option.none : Option Jvm.ClassFile.FieldType)) ∈ lw_all := lw_g (lw_at lw_m4 104 rfl) rfl
theorem q897 : (Jvm.Cond.methodLink "LifeRents$Note" (3 : Nat) ({ cls := "java/lang/Object", name := "<init>", desc := "()V" } : Jvm.MethodName)) ∈ lw_all := lw_g (lw_at lw_m4 105 rfl) rfl
theorem q908 : (Jvm.Cond.fieldLink "LifeRents$Note" (9 : Nat) "LifeRents$Note" "told" "I") ∈ lw_all := lw_g (lw_at lw_m4 116 rfl) rfl
theorem q915 : (Jvm.Cond.soleField "LifeRents$Note" "told") ∈ lw_all := lw_g (lw_at lw_m4 123 rfl) rfl
theorem q954 : (Jvm.Cond.instanceMethod ({ cls := "LifeRents$Note", name := "struck", desc := "()I" } : Jvm.MethodName)) ∈ lw_all := lw_g (lw_at lw_m4 162 rfl) rfl
theorem q955 : (Jvm.Cond.sameMethod "LifeRents$Note" "LifeRents$Note" "struck" "()I") ∈ lw_all := lw_g (lw_at lw_m4 163 rfl) rfl
theorem q961 : (Jvm.Cond.code ({ cls := "LifeRents$Note", name := "struck", desc := "()I" } : Jvm.MethodName) prog_11_method_2_code (1 : Nat) (Option.some Jvm.ClassFile.FieldType.int)) ∈ lw_all := lw_g (lw_at lw_m4 169 rfl) rfl
theorem q967 : (Jvm.Cond.instanceMethod ({ cls := "LifeRents$Note", name := "tell", desc := "(LLifeRents$Known;)V" } : Jvm.MethodName)) ∈ lw_all := lw_g (lw_at lw_m4 175 rfl) rfl
theorem q968 : (Jvm.Cond.sameMethod "LifeRents$Note" "LifeRents$Note" "tell" "(LLifeRents$Known;)V") ∈ lw_all := lw_g (lw_at lw_m4 176 rfl) rfl
theorem q976 : (Jvm.Cond.code ({ cls := "LifeRents$Note", name := "tell", desc := "(LLifeRents$Known;)V" } : Jvm.MethodName) prog_11_method_3_code (2 : Nat) (Option.none : Option Jvm.ClassFile.FieldType)) ∈ lw_all := lw_g (lw_at lw_m4 184 rfl) rfl
theorem q984 : (Jvm.Cond.instanceMethod ({ cls := "LifeRents$Note", name := "isFalse", desc := "(LLifeRents$Known;)Z" } : Jvm.MethodName)) ∈ lw_all := lw_g (lw_at lw_m4 192 rfl) rfl
theorem q985 : (Jvm.Cond.sameMethod "LifeRents$Note" "LifeRents$Note" "isFalse" "(LLifeRents$Known;)Z") ∈ lw_all := lw_g (lw_at lw_m4 193 rfl) rfl
theorem q991 : (Jvm.Cond.code ({ cls := "LifeRents$Note", name := "isFalse", desc := "(LLifeRents$Known;)Z" } : Jvm.MethodName) prog_11_method_4_code (2 : Nat) (Option.some Jvm.ClassFile.FieldType.boolean)) ∈ lw_all := lw_g (lw_at lw_m4 199 rfl) rfl
/-! LifeRents$Word -/
set_option maxRecDepth 100000
def RX15 : String := "LifeRents$Word"
abbrev cX15_init : ByteArray := prog_17_method_1_code
def yX15_init : MethodName := ⟨RX15, "<init>", "(ILLifeRents$Life;I)V"⟩
def dkwX15_init_0 : List UInt8 := [42, 27, 183, 0, 1, 42, 44, 181, 0, 7, 42, 29, 181, 0, 13, 177]
abbrev dktX15_init_0 : List UInt8 := dkwX15_init_0 ++ []
theorem dksX15_init_0 : cX15_init.data.toList.drop 0 = dktX15_init_0 := by decide +kernel
theorem dX15_init_0 : decode cX15_init 0 = .ok (.aload_n 0, 1) := dk_42 (dk_at dksX15_init_0 0 rfl rfl)
theorem dX15_init_1 : decode cX15_init 1 = .ok (.iload_n 1, 1) := dk_27 (dk_at dksX15_init_0 1 rfl rfl)
theorem dX15_init_2 : decode cX15_init 2 = .ok (.invokespecial 1, 3) := dk_183 0 1 (dk_at dksX15_init_0 2 rfl rfl)
theorem dX15_init_5 : decode cX15_init 5 = .ok (.aload_n 0, 1) := dk_42 (dk_at dksX15_init_0 5 rfl rfl)
theorem dX15_init_6 : decode cX15_init 6 = .ok (.aload_n 2, 1) := dk_44 (dk_at dksX15_init_0 6 rfl rfl)
theorem dX15_init_7 : decode cX15_init 7 = .ok (.putfield 7, 3) := dk_181 0 7 (dk_at dksX15_init_0 7 rfl rfl)
theorem dX15_init_10 : decode cX15_init 10 = .ok (.aload_n 0, 1) := dk_42 (dk_at dksX15_init_0 10 rfl rfl)
theorem dX15_init_11 : decode cX15_init 11 = .ok (.iload_n 3, 1) := dk_29 (dk_at dksX15_init_0 11 rfl rfl)
theorem dX15_init_12 : decode cX15_init 12 = .ok (.putfield 13, 3) := dk_181 0 13 (dk_at dksX15_init_0 12 rfl rfl)
theorem dX15_init_15 : decode cX15_init 15 = .ok (.return_, 1) := dk_177 (dk_at dksX15_init_0 15 rfl rfl)
theorem q101 : (Jvm.Cond.initialized "LifeRents$Word") ∈ lw_all := lw_g (lw_at lw_m1 29 rfl) rfl
theorem q892 : (Jvm.Cond.instanceMethod ({ cls := "LifeRents$Word", name := "<init>", desc := "(ILLifeRents$Life;I)V" } : Jvm.MethodName)) ∈ lw_all := lw_g (lw_at lw_m4 100 rfl) rfl
theorem q893 : (Jvm.Cond.code ({ cls := "LifeRents$Word", name := "<init>", desc := "(ILLifeRents$Life;I)V" } : Jvm.MethodName) prog_17_method_1_code (4 : Nat) (Option.none : Option Jvm.ClassFile.FieldType)) ∈ lw_all := lw_g (lw_at lw_m4 101 rfl) rfl
theorem q894 : (Jvm.Cond.methodLink "LifeRents$Word" (1 : Nat) ({ cls := "LifeRents$Note", name := "<init>", desc := "(I)V" } : Jvm.MethodName)) ∈ lw_all := lw_g (lw_at lw_m4 102 rfl) rfl
theorem q898 : (Jvm.Cond.fieldLink "LifeRents$Word" (7 : Nat) "LifeRents$Word" "life" "LLifeRents$Life;") ∈ lw_all := lw_g (lw_at lw_m4 106 rfl) rfl
theorem q903 : (Jvm.Cond.fieldLink "LifeRents$Word" (13 : Nat) "LifeRents$Word" "half" "I") ∈ lw_all := lw_g (lw_at lw_m4 111 rfl) rfl
theorem q911 : (Jvm.Cond.soleField "LifeRents$Word" "life") ∈ lw_all := lw_g (lw_at lw_m4 119 rfl) rfl
theorem q913 : (Jvm.Cond.soleField "LifeRents$Word" "half") ∈ lw_all := lw_g (lw_at lw_m4 121 rfl) rfl
/-! LifeRents$Death -/
set_option maxRecDepth 100000
def RX16 : String := "LifeRents$Death"
def TX16 : u_T := fun k => match k with
  | 0 => ("LifeRents$Word", "life", "LLifeRents$Life;", true)
  | 1 => ("LifeRents$Word", "half", "I", true)
  | _ => ("LifeRents$Note", "told", "I", true)
def tyX16 : Nat → FieldType := fun k => match k with
  | 0 => .object "LifeRents$Life"
  | 1 => .int
  | _ => .int
abbrev wsX160 : List Cond := u_ws RX16 TX16 3
theorem nmX16 : ∀ a, a < 3 → ∀ b, b < 3 → a ≠ b → (TX16 a).2.1 ≠ (TX16 b).2.1 := by decide +kernel
theorem tyX16_ok : ∀ k, k < 3 → parseFieldDescriptor (TX16 k).2.2.1 = some (tyX16 k) := by decide +kernel
abbrev cX16_init : ByteArray := prog_4_method_1_code
def yX16_init : MethodName := ⟨RX16, "<init>", "(ILLifeRents$Life;I)V"⟩
def dkwX16_init_0 : List UInt8 := [42, 27, 44, 29, 183, 0, 1, 177]
abbrev dktX16_init_0 : List UInt8 := dkwX16_init_0 ++ []
theorem dksX16_init_0 : cX16_init.data.toList.drop 0 = dktX16_init_0 := by decide +kernel
theorem dX16_init_0 : decode cX16_init 0 = .ok (.aload_n 0, 1) := dk_42 (dk_at dksX16_init_0 0 rfl rfl)
theorem dX16_init_1 : decode cX16_init 1 = .ok (.iload_n 1, 1) := dk_27 (dk_at dksX16_init_0 1 rfl rfl)
theorem dX16_init_2 : decode cX16_init 2 = .ok (.aload_n 2, 1) := dk_44 (dk_at dksX16_init_0 2 rfl rfl)
theorem dX16_init_3 : decode cX16_init 3 = .ok (.iload_n 3, 1) := dk_29 (dk_at dksX16_init_0 3 rfl rfl)
theorem dX16_init_4 : decode cX16_init 4 = .ok (.invokespecial 1, 3) := dk_183 0 1 (dk_at dksX16_init_0 4 rfl rfl)
theorem dX16_init_7 : decode cX16_init 7 = .ok (.return_, 1) := dk_177 (dk_at dksX16_init_0 7 rfl rfl)
abbrev cX16_tell : ByteArray := prog_4_method_2_code
def yX16_tell : MethodName := ⟨RX16, "tell", "(LLifeRents$Known;)V"⟩
def dkwX16_tell_0 : List UInt8 := [43, 180, 0, 7, 42, 180, 0, 13, 180, 0, 19, 42, 180, 0, 25, 79, 177]
abbrev dktX16_tell_0 : List UInt8 := dkwX16_tell_0 ++ []
theorem dksX16_tell_0 : cX16_tell.data.toList.drop 0 = dktX16_tell_0 := by decide +kernel
theorem dX16_tell_0 : decode cX16_tell 0 = .ok (.aload_n 1, 1) := dk_43 (dk_at dksX16_tell_0 0 rfl rfl)
theorem dX16_tell_1 : decode cX16_tell 1 = .ok (.getfield 7, 3) := dk_180 0 7 (dk_at dksX16_tell_0 1 rfl rfl)
theorem dX16_tell_4 : decode cX16_tell 4 = .ok (.aload_n 0, 1) := dk_42 (dk_at dksX16_tell_0 4 rfl rfl)
theorem dX16_tell_5 : decode cX16_tell 5 = .ok (.getfield 13, 3) := dk_180 0 13 (dk_at dksX16_tell_0 5 rfl rfl)
theorem dX16_tell_8 : decode cX16_tell 8 = .ok (.getfield 19, 3) := dk_180 0 19 (dk_at dksX16_tell_0 8 rfl rfl)
theorem dX16_tell_11 : decode cX16_tell 11 = .ok (.aload_n 0, 1) := dk_42 (dk_at dksX16_tell_0 11 rfl rfl)
theorem dX16_tell_12 : decode cX16_tell 12 = .ok (.getfield 25, 3) := dk_180 0 25 (dk_at dksX16_tell_0 12 rfl rfl)
theorem dX16_tell_15 : decode cX16_tell 15 = .ok (.iastore, 1) := dk_79 (dk_at dksX16_tell_0 15 rfl rfl)
theorem dX16_tell_16 : decode cX16_tell 16 = .ok (.return_, 1) := dk_177 (dk_at dksX16_tell_0 16 rfl rfl)
theorem q102 : (Jvm.Cond.initialized "LifeRents$Death") ∈ lw_all := lw_g (lw_at lw_m1 30 rfl) rfl
theorem q227 : (Jvm.Cond.fieldLinkNest "LifeRents$Death" (7 : Nat) "LifeRents$Known" "dead" "[I" "LifeRents") ∈ lw_tbl := lw_at lw_m1 155 rfl
theorem q649 : (Jvm.Cond.selects "LifeRents$Death" ({ cls := "java/lang/Object", name := "getClass", desc := "()Ljava/lang/Class;" } : Jvm.MethodName) ({ cls := "java/lang/Object", name := "getClass", desc := "()Ljava/lang/Class;" } : Jvm.MethodName)) ∈ lw_all := lw_g (lw_at lw_m3 97 rfl) rfl
theorem q699 : (Jvm.Cond.fieldLinkNest "LifeRents$Death" (19 : Nat) "LifeRents$Life" "number" "I" "LifeRents") ∈ lw_tbl := lw_at lw_m3 147 rfl
theorem q887 : (Jvm.Cond.instantiable "LifeRents$Death" (3 : Nat)) ∈ lw_all := lw_g (lw_at lw_m4 95 rfl) rfl
theorem q889 : (Jvm.Cond.instanceMethod ({ cls := "LifeRents$Death", name := "<init>", desc := "(ILLifeRents$Life;I)V" } : Jvm.MethodName)) ∈ lw_all := lw_g (lw_at lw_m4 97 rfl) rfl
theorem q890 : (Jvm.Cond.code ({ cls := "LifeRents$Death", name := "<init>", desc := "(ILLifeRents$Life;I)V" } : Jvm.MethodName) prog_4_method_1_code (4 : Nat) (Option.none : Option Jvm.ClassFile.FieldType)) ∈ lw_all := lw_g (lw_at lw_m4 98 rfl) rfl
theorem q891 : (Jvm.Cond.methodLink "LifeRents$Death" (1 : Nat) ({ cls := "LifeRents$Word", name := "<init>", desc := "(ILLifeRents$Life;I)V" } : Jvm.MethodName)) ∈ lw_all := lw_g (lw_at lw_m4 99 rfl) rfl
theorem q899 : (Jvm.Cond.fieldLink "LifeRents$Death" (13 : Nat) "LifeRents$Death" "life" "LLifeRents$Life;") ∈ lw_all := lw_g (lw_at lw_m4 107 rfl) rfl
theorem q900 : (Jvm.Cond.sameField "LifeRents$Death" "LifeRents$Word" "life" "LLifeRents$Life;") ∈ lw_all := lw_g (lw_at lw_m4 108 rfl) rfl
theorem q904 : (Jvm.Cond.fieldLink "LifeRents$Death" (25 : Nat) "LifeRents$Death" "half" "I") ∈ lw_all := lw_g (lw_at lw_m4 112 rfl) rfl
theorem q905 : (Jvm.Cond.sameField "LifeRents$Death" "LifeRents$Word" "half" "I") ∈ lw_all := lw_g (lw_at lw_m4 113 rfl) rfl
theorem q910 : (Jvm.Cond.laysFinal "LifeRents$Death" "LifeRents$Word" "life" "LLifeRents$Life;") ∈ lw_all := lw_g (lw_at lw_m4 118 rfl) rfl
theorem q912 : (Jvm.Cond.laysFinal "LifeRents$Death" "LifeRents$Word" "half" "I") ∈ lw_all := lw_g (lw_at lw_m4 120 rfl) rfl
theorem q914 : (Jvm.Cond.laysFinal "LifeRents$Death" "LifeRents$Note" "told" "I") ∈ lw_all := lw_g (lw_at lw_m4 122 rfl) rfl
theorem q916 : (Jvm.Cond.superclass "LifeRents$Death" "LifeRents$Word") ∈ lw_all := lw_g (lw_at lw_m4 124 rfl) rfl
theorem q956 : (Jvm.Cond.selects "LifeRents$Death" ({ cls := "LifeRents$Note", name := "struck", desc := "()I" } : Jvm.MethodName) ({ cls := "LifeRents$Note", name := "struck", desc := "()I" } : Jvm.MethodName)) ∈ lw_all := lw_g (lw_at lw_m4 164 rfl) rfl
theorem q969 : (Jvm.Cond.selects "LifeRents$Death" ({ cls := "LifeRents$Note", name := "tell", desc := "(LLifeRents$Known;)V" } : Jvm.MethodName) ({ cls := "LifeRents$Death", name := "tell", desc := "(LLifeRents$Known;)V" } : Jvm.MethodName)) ∈ lw_all := lw_g (lw_at lw_m4 177 rfl) rfl
theorem q970 : (Jvm.Cond.instanceMethod ({ cls := "LifeRents$Death", name := "tell", desc := "(LLifeRents$Known;)V" } : Jvm.MethodName)) ∈ lw_all := lw_g (lw_at lw_m4 178 rfl) rfl
theorem q971 : (Jvm.Cond.code ({ cls := "LifeRents$Death", name := "tell", desc := "(LLifeRents$Known;)V" } : Jvm.MethodName) prog_4_method_2_code (2 : Nat) (Option.none : Option Jvm.ClassFile.FieldType)) ∈ lw_all := lw_g (lw_at lw_m4 179 rfl) rfl
theorem q986 : (Jvm.Cond.selects "LifeRents$Death" ({ cls := "LifeRents$Note", name := "isFalse", desc := "(LLifeRents$Known;)Z" } : Jvm.MethodName) ({ cls := "LifeRents$Note", name := "isFalse", desc := "(LLifeRents$Known;)Z" } : Jvm.MethodName)) ∈ lw_all := lw_g (lw_at lw_m4 194 rfl) rfl
theorem q1725 : (Jvm.Cond.castable "LifeRents$Death" "LifeRents$Note") ∈ lw_tbl := lw_at lw_m7 213 rfl
theorem q1743 : (Jvm.Cond.castable "LifeRents$Death" "java/lang/Object") ∈ lw_tbl := lw_at lw_m7 231 rfl
theorem in_X16 : ∀ w ∈ wsX160, w ∈ lw_all := lw_in wsX160 [910, 912, 914] (by decide +kernel) (by decide +kernel)
/-! LifeRents$Proof -/
set_option maxRecDepth 100000
def RX17 : String := "LifeRents$Proof"
def TX17 : u_T := fun k => match k with
  | 0 => ("LifeRents$Word", "life", "LLifeRents$Life;", true)
  | 1 => ("LifeRents$Word", "half", "I", true)
  | _ => ("LifeRents$Note", "told", "I", true)
def tyX17 : Nat → FieldType := fun k => match k with
  | 0 => .object "LifeRents$Life"
  | 1 => .int
  | _ => .int
abbrev wsX170 : List Cond := u_ws RX17 TX17 3
theorem nmX17 : ∀ a, a < 3 → ∀ b, b < 3 → a ≠ b → (TX17 a).2.1 ≠ (TX17 b).2.1 := by decide +kernel
theorem tyX17_ok : ∀ k, k < 3 → parseFieldDescriptor (TX17 k).2.2.1 = some (tyX17 k) := by decide +kernel
abbrev cX17_init : ByteArray := prog_12_method_1_code
def yX17_init : MethodName := ⟨RX17, "<init>", "(ILLifeRents$Life;I)V"⟩
def dkwX17_init_0 : List UInt8 := [42, 27, 44, 29, 183, 0, 3, 177]
abbrev dktX17_init_0 : List UInt8 := dkwX17_init_0 ++ []
theorem dksX17_init_0 : cX17_init.data.toList.drop 0 = dktX17_init_0 := by decide +kernel
theorem dX17_init_0 : decode cX17_init 0 = .ok (.aload_n 0, 1) := dk_42 (dk_at dksX17_init_0 0 rfl rfl)
theorem dX17_init_1 : decode cX17_init 1 = .ok (.iload_n 1, 1) := dk_27 (dk_at dksX17_init_0 1 rfl rfl)
theorem dX17_init_2 : decode cX17_init 2 = .ok (.aload_n 2, 1) := dk_44 (dk_at dksX17_init_0 2 rfl rfl)
theorem dX17_init_3 : decode cX17_init 3 = .ok (.iload_n 3, 1) := dk_29 (dk_at dksX17_init_0 3 rfl rfl)
theorem dX17_init_4 : decode cX17_init 4 = .ok (.invokespecial 3, 3) := dk_183 0 3 (dk_at dksX17_init_0 4 rfl rfl)
theorem dX17_init_7 : decode cX17_init 7 = .ok (.return_, 1) := dk_177 (dk_at dksX17_init_0 7 rfl rfl)
abbrev cX17_tell : ByteArray := prog_12_method_2_code
def yX17_tell : MethodName := ⟨RX17, "tell", "(LLifeRents$Known;)V"⟩
def dkwX17_tell_0 : List UInt8 := [43, 180, 0, 9, 42, 180, 0, 15, 180, 0, 21, 50, 42, 180, 0, 27, 4, 84, 177]
abbrev dktX17_tell_0 : List UInt8 := dkwX17_tell_0 ++ []
theorem dksX17_tell_0 : cX17_tell.data.toList.drop 0 = dktX17_tell_0 := by decide +kernel
theorem dX17_tell_0 : decode cX17_tell 0 = .ok (.aload_n 1, 1) := dk_43 (dk_at dksX17_tell_0 0 rfl rfl)
theorem dX17_tell_1 : decode cX17_tell 1 = .ok (.getfield 9, 3) := dk_180 0 9 (dk_at dksX17_tell_0 1 rfl rfl)
theorem dX17_tell_4 : decode cX17_tell 4 = .ok (.aload_n 0, 1) := dk_42 (dk_at dksX17_tell_0 4 rfl rfl)
theorem dX17_tell_5 : decode cX17_tell 5 = .ok (.getfield 15, 3) := dk_180 0 15 (dk_at dksX17_tell_0 5 rfl rfl)
theorem dX17_tell_8 : decode cX17_tell 8 = .ok (.getfield 21, 3) := dk_180 0 21 (dk_at dksX17_tell_0 8 rfl rfl)
theorem dX17_tell_11 : decode cX17_tell 11 = .ok (.aaload, 1) := dk_50 (dk_at dksX17_tell_0 11 rfl rfl)
theorem dX17_tell_12 : decode cX17_tell 12 = .ok (.aload_n 0, 1) := dk_42 (dk_at dksX17_tell_0 12 rfl rfl)
theorem dX17_tell_13 : decode cX17_tell 13 = .ok (.getfield 27, 3) := dk_180 0 27 (dk_at dksX17_tell_0 13 rfl rfl)
theorem dX17_tell_16 : decode cX17_tell 16 = .ok (.iconst 1, 1) := dk_4 (dk_at dksX17_tell_0 16 rfl rfl)
theorem dX17_tell_17 : decode cX17_tell 17 = .ok (.bastore, 1) := dk_84 (dk_at dksX17_tell_0 17 rfl rfl)
theorem dX17_tell_18 : decode cX17_tell 18 = .ok (.return_, 1) := dk_177 (dk_at dksX17_tell_0 18 rfl rfl)
abbrev cX17_isFalse : ByteArray := prog_12_method_3_code
def yX17_isFalse : MethodName := ⟨RX17, "isFalse", "(LLifeRents$Known;)Z"⟩
def dkwX17_isFalse_2 : List UInt8 := [164, 0, 7, 4, 167, 0, 4, 3, 172]
abbrev dktX17_isFalse_2 : List UInt8 := dkwX17_isFalse_2 ++ []
def dkwX17_isFalse_1 : List UInt8 := [180, 0, 21, 46, 2, 159, 0, 26, 42, 180, 0, 27, 43, 180, 0, 33, 42, 180, 0, 15, 180, 0, 21, 46]
abbrev dktX17_isFalse_1 : List UInt8 := dkwX17_isFalse_1 ++ dktX17_isFalse_2
def dkwX17_isFalse_0 : List UInt8 := [42, 180, 0, 27, 42, 180, 0, 15, 180, 0, 30, 161, 0, 38, 43, 180, 0, 33, 42, 180, 0, 15]
abbrev dktX17_isFalse_0 : List UInt8 := dkwX17_isFalse_0 ++ dktX17_isFalse_1
theorem dksX17_isFalse_0 : cX17_isFalse.data.toList.drop 0 = dktX17_isFalse_0 := by decide +kernel
theorem dksX17_isFalse_1 : cX17_isFalse.data.toList.drop 22 = dktX17_isFalse_1 := dk_seg dksX17_isFalse_0 22 rfl rfl
theorem dksX17_isFalse_2 : cX17_isFalse.data.toList.drop 46 = dktX17_isFalse_2 := dk_seg dksX17_isFalse_1 24 rfl rfl
theorem dX17_isFalse_0 : decode cX17_isFalse 0 = .ok (.aload_n 0, 1) := dk_42 (dk_at dksX17_isFalse_0 0 rfl rfl)
theorem dX17_isFalse_1 : decode cX17_isFalse 1 = .ok (.getfield 27, 3) := dk_180 0 27 (dk_at dksX17_isFalse_0 1 rfl rfl)
theorem dX17_isFalse_4 : decode cX17_isFalse 4 = .ok (.aload_n 0, 1) := dk_42 (dk_at dksX17_isFalse_0 4 rfl rfl)
theorem dX17_isFalse_5 : decode cX17_isFalse 5 = .ok (.getfield 15, 3) := dk_180 0 15 (dk_at dksX17_isFalse_0 5 rfl rfl)
theorem dX17_isFalse_8 : decode cX17_isFalse 8 = .ok (.getfield 30, 3) := dk_180 0 30 (dk_at dksX17_isFalse_0 8 rfl rfl)
theorem dX17_isFalse_11 : decode cX17_isFalse 11 = .ok (.if_icmp .lt 38, 3) := dk_161 0 38 (dk_at dksX17_isFalse_0 11 rfl rfl)
theorem dX17_isFalse_14 : decode cX17_isFalse 14 = .ok (.aload_n 1, 1) := dk_43 (dk_at dksX17_isFalse_0 14 rfl rfl)
theorem dX17_isFalse_15 : decode cX17_isFalse 15 = .ok (.getfield 33, 3) := dk_180 0 33 (dk_at dksX17_isFalse_0 15 rfl rfl)
theorem dX17_isFalse_18 : decode cX17_isFalse 18 = .ok (.aload_n 0, 1) := dk_42 (dk_at dksX17_isFalse_0 18 rfl rfl)
theorem dX17_isFalse_19 : decode cX17_isFalse 19 = .ok (.getfield 15, 3) := dk_180 0 15 (dk_at dksX17_isFalse_0 19 rfl rfl)
theorem dX17_isFalse_22 : decode cX17_isFalse 22 = .ok (.getfield 21, 3) := dk_180 0 21 (dk_at dksX17_isFalse_1 0 rfl rfl)
theorem dX17_isFalse_25 : decode cX17_isFalse 25 = .ok (.iaload, 1) := dk_46 (dk_at dksX17_isFalse_1 3 rfl rfl)
theorem dX17_isFalse_26 : decode cX17_isFalse 26 = .ok (.iconst (-1), 1) := dk_2 (dk_at dksX17_isFalse_1 4 rfl rfl)
theorem dX17_isFalse_27 : decode cX17_isFalse 27 = .ok (.if_icmp .eq 26, 3) := dk_159 0 26 (dk_at dksX17_isFalse_1 5 rfl rfl)
theorem dX17_isFalse_30 : decode cX17_isFalse 30 = .ok (.aload_n 0, 1) := dk_42 (dk_at dksX17_isFalse_1 8 rfl rfl)
theorem dX17_isFalse_31 : decode cX17_isFalse 31 = .ok (.getfield 27, 3) := dk_180 0 27 (dk_at dksX17_isFalse_1 9 rfl rfl)
theorem dX17_isFalse_34 : decode cX17_isFalse 34 = .ok (.aload_n 1, 1) := dk_43 (dk_at dksX17_isFalse_1 12 rfl rfl)
theorem dX17_isFalse_35 : decode cX17_isFalse 35 = .ok (.getfield 33, 3) := dk_180 0 33 (dk_at dksX17_isFalse_1 13 rfl rfl)
theorem dX17_isFalse_38 : decode cX17_isFalse 38 = .ok (.aload_n 0, 1) := dk_42 (dk_at dksX17_isFalse_1 16 rfl rfl)
theorem dX17_isFalse_39 : decode cX17_isFalse 39 = .ok (.getfield 15, 3) := dk_180 0 15 (dk_at dksX17_isFalse_1 17 rfl rfl)
theorem dX17_isFalse_42 : decode cX17_isFalse 42 = .ok (.getfield 21, 3) := dk_180 0 21 (dk_at dksX17_isFalse_1 20 rfl rfl)
theorem dX17_isFalse_45 : decode cX17_isFalse 45 = .ok (.iaload, 1) := dk_46 (dk_at dksX17_isFalse_1 23 rfl rfl)
theorem dX17_isFalse_46 : decode cX17_isFalse 46 = .ok (.if_icmp .le 7, 3) := dk_164 0 7 (dk_at dksX17_isFalse_2 0 rfl rfl)
theorem dX17_isFalse_49 : decode cX17_isFalse 49 = .ok (.iconst 1, 1) := dk_4 (dk_at dksX17_isFalse_2 3 rfl rfl)
theorem dX17_isFalse_50 : decode cX17_isFalse 50 = .ok (.goto 4, 3) := dk_167 0 4 (dk_at dksX17_isFalse_2 4 rfl rfl)
theorem dX17_isFalse_53 : decode cX17_isFalse 53 = .ok (.iconst 0, 1) := dk_3 (dk_at dksX17_isFalse_2 7 rfl rfl)
theorem dX17_isFalse_54 : decode cX17_isFalse 54 = .ok (.ireturn, 1) := dk_172 (dk_at dksX17_isFalse_2 8 rfl rfl)
theorem q103 : (Jvm.Cond.initialized "LifeRents$Proof") ∈ lw_all := lw_g (lw_at lw_m1 31 rfl) rfl
theorem q230 : (Jvm.Cond.fieldLinkNest "LifeRents$Proof" (33 : Nat) "LifeRents$Known" "dead" "[I" "LifeRents") ∈ lw_tbl := lw_at lw_m1 158 rfl
theorem q233 : (Jvm.Cond.fieldLinkNest "LifeRents$Proof" (9 : Nat) "LifeRents$Known" "proved" "[[Z" "LifeRents") ∈ lw_tbl := lw_at lw_m1 161 rfl
theorem q656 : (Jvm.Cond.selects "LifeRents$Proof" ({ cls := "java/lang/Object", name := "getClass", desc := "()Ljava/lang/Class;" } : Jvm.MethodName) ({ cls := "java/lang/Object", name := "getClass", desc := "()Ljava/lang/Class;" } : Jvm.MethodName)) ∈ lw_all := lw_g (lw_at lw_m3 104 rfl) rfl
theorem q700 : (Jvm.Cond.fieldLinkNest "LifeRents$Proof" (21 : Nat) "LifeRents$Life" "number" "I" "LifeRents") ∈ lw_tbl := lw_at lw_m3 148 rfl
theorem q705 : (Jvm.Cond.fieldLinkNest "LifeRents$Proof" (30 : Nat) "LifeRents$Life" "born" "I" "LifeRents") ∈ lw_tbl := lw_at lw_m3 153 rfl
theorem q901 : (Jvm.Cond.fieldLink "LifeRents$Proof" (15 : Nat) "LifeRents$Proof" "life" "LLifeRents$Life;") ∈ lw_all := lw_g (lw_at lw_m4 109 rfl) rfl
theorem q902 : (Jvm.Cond.sameField "LifeRents$Proof" "LifeRents$Word" "life" "LLifeRents$Life;") ∈ lw_all := lw_g (lw_at lw_m4 110 rfl) rfl
theorem q906 : (Jvm.Cond.fieldLink "LifeRents$Proof" (27 : Nat) "LifeRents$Proof" "half" "I") ∈ lw_all := lw_g (lw_at lw_m4 114 rfl) rfl
theorem q907 : (Jvm.Cond.sameField "LifeRents$Proof" "LifeRents$Word" "half" "I") ∈ lw_all := lw_g (lw_at lw_m4 115 rfl) rfl
theorem q918 : (Jvm.Cond.instantiable "LifeRents$Proof" (3 : Nat)) ∈ lw_all := lw_g (lw_at lw_m4 126 rfl) rfl
theorem q920 : (Jvm.Cond.instanceMethod ({ cls := "LifeRents$Proof", name := "<init>", desc := "(ILLifeRents$Life;I)V" } : Jvm.MethodName)) ∈ lw_all := lw_g (lw_at lw_m4 128 rfl) rfl
theorem q921 : (Jvm.Cond.code ({ cls := "LifeRents$Proof", name := "<init>", desc := "(ILLifeRents$Life;I)V" } : Jvm.MethodName) prog_12_method_1_code (4 : Nat) (Option.none : Option Jvm.ClassFile.FieldType)) ∈ lw_all := lw_g (lw_at lw_m4 129 rfl) rfl
theorem q922 : (Jvm.Cond.methodLink "LifeRents$Proof" (3 : Nat) ({ cls := "LifeRents$Word", name := "<init>", desc := "(ILLifeRents$Life;I)V" } : Jvm.MethodName)) ∈ lw_all := lw_g (lw_at lw_m4 130 rfl) rfl
theorem q923 : (Jvm.Cond.laysFinal "LifeRents$Proof" "LifeRents$Word" "life" "LLifeRents$Life;") ∈ lw_all := lw_g (lw_at lw_m4 131 rfl) rfl
theorem q924 : (Jvm.Cond.laysFinal "LifeRents$Proof" "LifeRents$Word" "half" "I") ∈ lw_all := lw_g (lw_at lw_m4 132 rfl) rfl
theorem q925 : (Jvm.Cond.laysFinal "LifeRents$Proof" "LifeRents$Note" "told" "I") ∈ lw_all := lw_g (lw_at lw_m4 133 rfl) rfl
theorem q926 : (Jvm.Cond.superclass "LifeRents$Proof" "LifeRents$Word") ∈ lw_all := lw_g (lw_at lw_m4 134 rfl) rfl
theorem q957 : (Jvm.Cond.selects "LifeRents$Proof" ({ cls := "LifeRents$Note", name := "struck", desc := "()I" } : Jvm.MethodName) ({ cls := "LifeRents$Note", name := "struck", desc := "()I" } : Jvm.MethodName)) ∈ lw_all := lw_g (lw_at lw_m4 165 rfl) rfl
theorem q972 : (Jvm.Cond.selects "LifeRents$Proof" ({ cls := "LifeRents$Note", name := "tell", desc := "(LLifeRents$Known;)V" } : Jvm.MethodName) ({ cls := "LifeRents$Proof", name := "tell", desc := "(LLifeRents$Known;)V" } : Jvm.MethodName)) ∈ lw_all := lw_g (lw_at lw_m4 180 rfl) rfl
theorem q973 : (Jvm.Cond.instanceMethod ({ cls := "LifeRents$Proof", name := "tell", desc := "(LLifeRents$Known;)V" } : Jvm.MethodName)) ∈ lw_all := lw_g (lw_at lw_m4 181 rfl) rfl
theorem q974 : (Jvm.Cond.code ({ cls := "LifeRents$Proof", name := "tell", desc := "(LLifeRents$Known;)V" } : Jvm.MethodName) prog_12_method_2_code (2 : Nat) (Option.none : Option Jvm.ClassFile.FieldType)) ∈ lw_all := lw_g (lw_at lw_m4 182 rfl) rfl
theorem q987 : (Jvm.Cond.selects "LifeRents$Proof" ({ cls := "LifeRents$Note", name := "isFalse", desc := "(LLifeRents$Known;)Z" } : Jvm.MethodName) ({ cls := "LifeRents$Proof", name := "isFalse", desc := "(LLifeRents$Known;)Z" } : Jvm.MethodName)) ∈ lw_all := lw_g (lw_at lw_m4 195 rfl) rfl
theorem q988 : (Jvm.Cond.instanceMethod ({ cls := "LifeRents$Proof", name := "isFalse", desc := "(LLifeRents$Known;)Z" } : Jvm.MethodName)) ∈ lw_all := lw_g (lw_at lw_m4 196 rfl) rfl
theorem q989 : (Jvm.Cond.code ({ cls := "LifeRents$Proof", name := "isFalse", desc := "(LLifeRents$Known;)Z" } : Jvm.MethodName) prog_12_method_3_code (2 : Nat) (Option.some Jvm.ClassFile.FieldType.boolean)) ∈ lw_all := lw_g (lw_at lw_m4 197 rfl) rfl
theorem q1726 : (Jvm.Cond.castable "LifeRents$Proof" "LifeRents$Note") ∈ lw_tbl := lw_at lw_m7 214 rfl
theorem q1744 : (Jvm.Cond.castable "LifeRents$Proof" "java/lang/Object") ∈ lw_tbl := lw_at lw_m7 232 rfl
theorem in_X17 : ∀ w ∈ wsX170, w ∈ lw_all := lw_in wsX170 [923, 924, 925] (by decide +kernel) (by decide +kernel)
/-! LifeRents$Strike -/
set_option maxRecDepth 100000
def RX18 : String := "LifeRents$Strike"
def TX18 : u_T := fun k => match k with
  | 0 => ("LifeRents$Note", "told", "I", true)
  | _ => ("LifeRents$Strike", "note", "I", true)
def tyX18 : Nat → FieldType := fun k => match k with
  | 0 => .int
  | _ => .int
abbrev wsX180 : List Cond := u_ws RX18 TX18 2
theorem nmX18 : ∀ a, a < 2 → ∀ b, b < 2 → a ≠ b → (TX18 a).2.1 ≠ (TX18 b).2.1 := by decide +kernel
theorem tyX18_ok : ∀ k, k < 2 → parseFieldDescriptor (TX18 k).2.2.1 = some (tyX18 k) := by decide +kernel
abbrev cX18_init : ByteArray := prog_16_method_1_code
def yX18_init : MethodName := ⟨RX18, "<init>", "(II)V"⟩
def dkwX18_init_0 : List UInt8 := [42, 27, 183, 0, 1, 42, 28, 181, 0, 7, 177]
abbrev dktX18_init_0 : List UInt8 := dkwX18_init_0 ++ []
theorem dksX18_init_0 : cX18_init.data.toList.drop 0 = dktX18_init_0 := by decide +kernel
theorem dX18_init_0 : decode cX18_init 0 = .ok (.aload_n 0, 1) := dk_42 (dk_at dksX18_init_0 0 rfl rfl)
theorem dX18_init_1 : decode cX18_init 1 = .ok (.iload_n 1, 1) := dk_27 (dk_at dksX18_init_0 1 rfl rfl)
theorem dX18_init_2 : decode cX18_init 2 = .ok (.invokespecial 1, 3) := dk_183 0 1 (dk_at dksX18_init_0 2 rfl rfl)
theorem dX18_init_5 : decode cX18_init 5 = .ok (.aload_n 0, 1) := dk_42 (dk_at dksX18_init_0 5 rfl rfl)
theorem dX18_init_6 : decode cX18_init 6 = .ok (.iload_n 2, 1) := dk_28 (dk_at dksX18_init_0 6 rfl rfl)
theorem dX18_init_7 : decode cX18_init 7 = .ok (.putfield 7, 3) := dk_181 0 7 (dk_at dksX18_init_0 7 rfl rfl)
theorem dX18_init_10 : decode cX18_init 10 = .ok (.return_, 1) := dk_177 (dk_at dksX18_init_0 10 rfl rfl)
abbrev cX18_struck : ByteArray := prog_16_method_2_code
def yX18_struck : MethodName := ⟨RX18, "struck", "()I"⟩
theorem dX18_struck_0 : decode cX18_struck 0 = .ok (.aload_n 0, 1) := by decide +kernel
theorem dX18_struck_1 : decode cX18_struck 1 = .ok (.getfield 7, 3) := by decide +kernel
theorem dX18_struck_4 : decode cX18_struck 4 = .ok (.ireturn, 1) := by decide +kernel
theorem q104 : (Jvm.Cond.initialized "LifeRents$Strike") ∈ lw_all := lw_g (lw_at lw_m1 32 rfl) rfl
theorem q660 : (Jvm.Cond.selects "LifeRents$Strike" ({ cls := "java/lang/Object", name := "getClass", desc := "()Ljava/lang/Class;" } : Jvm.MethodName) ({ cls := "java/lang/Object", name := "getClass", desc := "()Ljava/lang/Class;" } : Jvm.MethodName)) ∈ lw_all := lw_g (lw_at lw_m3 108 rfl) rfl
theorem q932 : (Jvm.Cond.instantiable "LifeRents$Strike" (2 : Nat)) ∈ lw_all := lw_g (lw_at lw_m4 140 rfl) rfl
theorem q934 : (Jvm.Cond.instanceMethod ({ cls := "LifeRents$Strike", name := "<init>", desc := "(II)V" } : Jvm.MethodName)) ∈ lw_all := lw_g (lw_at lw_m4 142 rfl) rfl
theorem q935 : (Jvm.Cond.code ({ cls := "LifeRents$Strike", name := "<init>", desc := "(II)V" } : Jvm.MethodName) prog_16_method_1_code (3 : Nat) (Option.none : Option Jvm.ClassFile.FieldType)) ∈ lw_all := lw_g (lw_at lw_m4 143 rfl) rfl
theorem q936 : (Jvm.Cond.methodLink "LifeRents$Strike" (1 : Nat) ({ cls := "LifeRents$Note", name := "<init>", desc := "(I)V" } : Jvm.MethodName)) ∈ lw_all := lw_g (lw_at lw_m4 144 rfl) rfl
theorem q937 : (Jvm.Cond.fieldLink "LifeRents$Strike" (7 : Nat) "LifeRents$Strike" "note" "I") ∈ lw_all := lw_g (lw_at lw_m4 145 rfl) rfl
theorem q938 : (Jvm.Cond.laysFinal "LifeRents$Strike" "LifeRents$Strike" "note" "I") ∈ lw_all := lw_g (lw_at lw_m4 146 rfl) rfl
theorem q939 : (Jvm.Cond.soleField "LifeRents$Strike" "note") ∈ lw_all := lw_g (lw_at lw_m4 147 rfl) rfl
theorem q940 : (Jvm.Cond.laysFinal "LifeRents$Strike" "LifeRents$Note" "told" "I") ∈ lw_all := lw_g (lw_at lw_m4 148 rfl) rfl
theorem q941 : (Jvm.Cond.superclass "LifeRents$Strike" "LifeRents$Note") ∈ lw_all := lw_g (lw_at lw_m4 149 rfl) rfl
theorem q958 : (Jvm.Cond.selects "LifeRents$Strike" ({ cls := "LifeRents$Note", name := "struck", desc := "()I" } : Jvm.MethodName) ({ cls := "LifeRents$Strike", name := "struck", desc := "()I" } : Jvm.MethodName)) ∈ lw_all := lw_g (lw_at lw_m4 166 rfl) rfl
theorem q959 : (Jvm.Cond.instanceMethod ({ cls := "LifeRents$Strike", name := "struck", desc := "()I" } : Jvm.MethodName)) ∈ lw_all := lw_g (lw_at lw_m4 167 rfl) rfl
theorem q960 : (Jvm.Cond.code ({ cls := "LifeRents$Strike", name := "struck", desc := "()I" } : Jvm.MethodName) prog_16_method_2_code (1 : Nat) (Option.some Jvm.ClassFile.FieldType.int)) ∈ lw_all := lw_g (lw_at lw_m4 168 rfl) rfl
theorem q975 : (Jvm.Cond.selects "LifeRents$Strike" ({ cls := "LifeRents$Note", name := "tell", desc := "(LLifeRents$Known;)V" } : Jvm.MethodName) ({ cls := "LifeRents$Note", name := "tell", desc := "(LLifeRents$Known;)V" } : Jvm.MethodName)) ∈ lw_all := lw_g (lw_at lw_m4 183 rfl) rfl
theorem q990 : (Jvm.Cond.selects "LifeRents$Strike" ({ cls := "LifeRents$Note", name := "isFalse", desc := "(LLifeRents$Known;)Z" } : Jvm.MethodName) ({ cls := "LifeRents$Note", name := "isFalse", desc := "(LLifeRents$Known;)Z" } : Jvm.MethodName)) ∈ lw_all := lw_g (lw_at lw_m4 198 rfl) rfl
theorem q1727 : (Jvm.Cond.castable "LifeRents$Strike" "LifeRents$Note") ∈ lw_tbl := lw_at lw_m7 215 rfl
theorem q1745 : (Jvm.Cond.castable "LifeRents$Strike" "java/lang/Object") ∈ lw_tbl := lw_at lw_m7 233 rfl
theorem in_X18 : ∀ w ∈ wsX180, w ∈ lw_all := lw_in wsX180 [940, 938] (by decide +kernel) (by decide +kernel)
