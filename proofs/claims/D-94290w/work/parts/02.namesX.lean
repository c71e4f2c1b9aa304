/-! DECODE ROWS BY BYTES: one lemma an opcode; a method's code is cut into short pieces once, and a row reads its own piece alone. -/
set_option maxRecDepth 100000
/-- the code has just these bytes from pc on -/
def DkAt (code : ByteArray) (pc : Nat) (bs : List UInt8) : Prop := ∀ (j : Nat) (b : UInt8), bs[j]? = some b → code.data.toList[pc + j]? = some b
/-- the piece W has the bytes bs from its place j on -/
def dkIn (W : List UInt8) (j : Nat) (bs : List UInt8) : Bool := decide ((W.drop j).take bs.length = bs)
theorem dk_seg {l W T : List UInt8} {o o2 : Nat} (h : l.drop o = W ++ T) (n : Nat) (hn : W.length = n) (ho : o + n = o2) : l.drop o2 = T := by
  subst ho
  rw [← List.drop_drop, h, List.drop_left' hn]
theorem dk_at {code : ByteArray} {W T bs : List UInt8} {o pc : Nat} (h : code.data.toList.drop o = W ++ T) (j : Nat) (hp : o + j = pc) (hw : dkIn W j bs = true) : DkAt code pc bs := by
  subst hp
  intro i b e
  have h1 := of_decide_eq_true hw
  have h2 : i < bs.length := (List.getElem?_eq_some_iff.mp e).1
  have h3 : W[j + i]? = some b := by
    rw [← h1, List.getElem?_take, if_pos h2, List.getElem?_drop] at e
    exact e
  have h4 : j + i < W.length := (List.getElem?_eq_some_iff.mp h3).1
  have h5 : (code.data.toList.drop o)[j + i]? = some b := by
    rw [h, List.getElem?_append_left h4]
    exact h3
  rw [List.getElem?_drop, ← Nat.add_assoc] at h5
  exact h5
theorem dk_u1 {A : ByteArray} {p : Nat} {b : UInt8} (h : A.data.toList[p]? = some b) : (Reader.u1 : Reader DecodeError Nat) A p = .ok (b.toNat, p + 1) := by
  obtain ⟨h1, h2⟩ := List.getElem?_eq_some_iff.mp h
  have h3 : p < A.size := by simpa using h1
  have h4 : A[p]'h3 = b := h2
  have e : (Reader.u1 : Reader DecodeError Nat) A p = (if h : p < A.size then .ok (A[p].toNat, p + 1) else .error (HasTruncated.truncated p)) := by
    show (do if h : p < A.size then do set (p + 1); Pure.pure A[p].toNat else MonadExcept.throw (HasTruncated.truncated p) : Reader DecodeError Nat) A p = _
    by_cases hi : p < A.size
    · rw [dif_pos hi, dif_pos hi]; rfl
    · rw [dif_neg hi, dif_neg hi]; rfl
  rw [e, dif_pos h3, h4]
theorem dk_bind {α β : Type} {r : Reader DecodeError α} {f : α → Reader DecodeError β} {A : ByteArray} {p s : Nat} {a : α} (h : r A p = .ok (a, s)) : (r >>= f) A p = f a A s := by
  show (do let (a, s) ← r A p; f a A s : Except DecodeError (β × Nat)) = _
  rw [h]
  rfl
theorem dk_map {α β : Type} {r : Reader DecodeError α} {g : α → β} {A : ByteArray} {p s : Nat} {a : α} (h : r A p = .ok (a, s)) : (g <$> r) A p = .ok (g a, s) := by
  show (do let (a, s) ← r A p; .ok (g a, s) : Except DecodeError (β × Nat)) = _
  rw [h]
  rfl
theorem dk_u2 {A : ByteArray} {p : Nat} {a b : UInt8} (h : A.data.toList[p]? = some a) (h2 : A.data.toList[p + 1]? = some b) : (Reader.u2 : Reader DecodeError Nat) A p = .ok (a.toNat * 256 + b.toNat, p + 2) := by
  show (Reader.u1 >>= fun hi => Reader.u1 >>= fun lo => Pure.pure (hi * 256 + lo) : Reader DecodeError Nat) A p = _
  rw [dk_bind (dk_u1 h), dk_bind (dk_u1 h2)]
  rfl
theorem dk_of {code : ByteArray} {pc n : Nat} {i : Instr} (h : Decoder.instr pc code pc = .ok (i, pc + n)) : decode code pc = .ok (i, n) := by
  have e : decode code pc = (match Decoder.instr pc code pc with | .error x => .error x | .ok (j, s) => .ok (j, s - pc)) := by
    show (do let (j, s) ← Decoder.instr pc code pc; Pure.pure (j, s - pc) : Except DecodeError (Instr × Nat)) = _
    cases Decoder.instr pc code pc <;> rfl
  rw [e, h]
  show Except.ok (i, pc + n - pc) = _
  rw [Nat.add_sub_cancel_left]
theorem dk_1 {code : ByteArray} {pc : Nat} (h : DkAt code pc [1]) : decode code pc = .ok (.aconst_null, 1) := dk_of ((dk_bind (dk_u1 (h 0 _ rfl))).trans rfl)
theorem dk_2 {code : ByteArray} {pc : Nat} (h : DkAt code pc [2]) : decode code pc = .ok (.iconst (-1), 1) := dk_of ((dk_bind (dk_u1 (h 0 _ rfl))).trans rfl)
theorem dk_3 {code : ByteArray} {pc : Nat} (h : DkAt code pc [3]) : decode code pc = .ok (.iconst 0, 1) := dk_of ((dk_bind (dk_u1 (h 0 _ rfl))).trans rfl)
theorem dk_4 {code : ByteArray} {pc : Nat} (h : DkAt code pc [4]) : decode code pc = .ok (.iconst 1, 1) := dk_of ((dk_bind (dk_u1 (h 0 _ rfl))).trans rfl)
theorem dk_5 {code : ByteArray} {pc : Nat} (h : DkAt code pc [5]) : decode code pc = .ok (.iconst 2, 1) := dk_of ((dk_bind (dk_u1 (h 0 _ rfl))).trans rfl)
theorem dk_6 {code : ByteArray} {pc : Nat} (h : DkAt code pc [6]) : decode code pc = .ok (.iconst 3, 1) := dk_of ((dk_bind (dk_u1 (h 0 _ rfl))).trans rfl)
theorem dk_7 {code : ByteArray} {pc : Nat} (h : DkAt code pc [7]) : decode code pc = .ok (.iconst 4, 1) := dk_of ((dk_bind (dk_u1 (h 0 _ rfl))).trans rfl)
theorem dk_8 {code : ByteArray} {pc : Nat} (h : DkAt code pc [8]) : decode code pc = .ok (.iconst 5, 1) := dk_of ((dk_bind (dk_u1 (h 0 _ rfl))).trans rfl)
theorem dk_9 {code : ByteArray} {pc : Nat} (h : DkAt code pc [9]) : decode code pc = .ok (.lconst 0, 1) := dk_of ((dk_bind (dk_u1 (h 0 _ rfl))).trans rfl)
theorem dk_16 {code : ByteArray} {pc : Nat} (a : UInt8) (h : DkAt code pc [16, a]) : decode code pc = .ok (.bipush (Reader.signed 8 a.toNat), 2) := dk_of ((dk_bind (dk_u1 (h 0 _ rfl))).trans ((dk_bind (dk_map (dk_u1 (h 1 _ rfl)))).trans rfl))
theorem dk_17 {code : ByteArray} {pc : Nat} (a b : UInt8) (h : DkAt code pc [17, a, b]) : decode code pc = .ok (.sipush (Reader.signed 16 (a.toNat * 256 + b.toNat)), 3) := dk_of ((dk_bind (dk_u1 (h 0 _ rfl))).trans ((dk_bind (dk_map (dk_u2 (h 1 _ rfl) (h 2 _ rfl)))).trans rfl))
theorem dk_18 {code : ByteArray} {pc : Nat} (a : UInt8) (h : DkAt code pc [18, a]) : decode code pc = .ok (.ldc a.toNat, 2) := dk_of ((dk_bind (dk_u1 (h 0 _ rfl))).trans ((dk_bind (dk_u1 (h 1 _ rfl))).trans rfl))
theorem dk_19 {code : ByteArray} {pc : Nat} (a b : UInt8) (h : DkAt code pc [19, a, b]) : decode code pc = .ok (.ldc_w (a.toNat * 256 + b.toNat), 3) := dk_of ((dk_bind (dk_u1 (h 0 _ rfl))).trans ((dk_bind (dk_u2 (h 1 _ rfl) (h 2 _ rfl))).trans rfl))
theorem dk_20 {code : ByteArray} {pc : Nat} (a b : UInt8) (h : DkAt code pc [20, a, b]) : decode code pc = .ok (.ldc2_w (a.toNat * 256 + b.toNat), 3) := dk_of ((dk_bind (dk_u1 (h 0 _ rfl))).trans ((dk_bind (dk_u2 (h 1 _ rfl) (h 2 _ rfl))).trans rfl))
theorem dk_21 {code : ByteArray} {pc : Nat} (a : UInt8) (h : DkAt code pc [21, a]) : decode code pc = .ok (.iload a.toNat, 2) := dk_of ((dk_bind (dk_u1 (h 0 _ rfl))).trans ((dk_bind (dk_u1 (h 1 _ rfl))).trans rfl))
theorem dk_22 {code : ByteArray} {pc : Nat} (a : UInt8) (h : DkAt code pc [22, a]) : decode code pc = .ok (.lload a.toNat, 2) := dk_of ((dk_bind (dk_u1 (h 0 _ rfl))).trans ((dk_bind (dk_u1 (h 1 _ rfl))).trans rfl))
theorem dk_25 {code : ByteArray} {pc : Nat} (a : UInt8) (h : DkAt code pc [25, a]) : decode code pc = .ok (.aload a.toNat, 2) := dk_of ((dk_bind (dk_u1 (h 0 _ rfl))).trans ((dk_bind (dk_u1 (h 1 _ rfl))).trans rfl))
theorem dk_26 {code : ByteArray} {pc : Nat} (h : DkAt code pc [26]) : decode code pc = .ok (.iload_n 0, 1) := dk_of ((dk_bind (dk_u1 (h 0 _ rfl))).trans rfl)
theorem dk_27 {code : ByteArray} {pc : Nat} (h : DkAt code pc [27]) : decode code pc = .ok (.iload_n 1, 1) := dk_of ((dk_bind (dk_u1 (h 0 _ rfl))).trans rfl)
theorem dk_28 {code : ByteArray} {pc : Nat} (h : DkAt code pc [28]) : decode code pc = .ok (.iload_n 2, 1) := dk_of ((dk_bind (dk_u1 (h 0 _ rfl))).trans rfl)
theorem dk_29 {code : ByteArray} {pc : Nat} (h : DkAt code pc [29]) : decode code pc = .ok (.iload_n 3, 1) := dk_of ((dk_bind (dk_u1 (h 0 _ rfl))).trans rfl)
theorem dk_30 {code : ByteArray} {pc : Nat} (h : DkAt code pc [30]) : decode code pc = .ok (.lload_n 0, 1) := dk_of ((dk_bind (dk_u1 (h 0 _ rfl))).trans rfl)
theorem dk_31 {code : ByteArray} {pc : Nat} (h : DkAt code pc [31]) : decode code pc = .ok (.lload_n 1, 1) := dk_of ((dk_bind (dk_u1 (h 0 _ rfl))).trans rfl)
theorem dk_42 {code : ByteArray} {pc : Nat} (h : DkAt code pc [42]) : decode code pc = .ok (.aload_n 0, 1) := dk_of ((dk_bind (dk_u1 (h 0 _ rfl))).trans rfl)
theorem dk_43 {code : ByteArray} {pc : Nat} (h : DkAt code pc [43]) : decode code pc = .ok (.aload_n 1, 1) := dk_of ((dk_bind (dk_u1 (h 0 _ rfl))).trans rfl)
theorem dk_44 {code : ByteArray} {pc : Nat} (h : DkAt code pc [44]) : decode code pc = .ok (.aload_n 2, 1) := dk_of ((dk_bind (dk_u1 (h 0 _ rfl))).trans rfl)
theorem dk_45 {code : ByteArray} {pc : Nat} (h : DkAt code pc [45]) : decode code pc = .ok (.aload_n 3, 1) := dk_of ((dk_bind (dk_u1 (h 0 _ rfl))).trans rfl)
theorem dk_46 {code : ByteArray} {pc : Nat} (h : DkAt code pc [46]) : decode code pc = .ok (.iaload, 1) := dk_of ((dk_bind (dk_u1 (h 0 _ rfl))).trans rfl)
theorem dk_47 {code : ByteArray} {pc : Nat} (h : DkAt code pc [47]) : decode code pc = .ok (.laload, 1) := dk_of ((dk_bind (dk_u1 (h 0 _ rfl))).trans rfl)
theorem dk_50 {code : ByteArray} {pc : Nat} (h : DkAt code pc [50]) : decode code pc = .ok (.aaload, 1) := dk_of ((dk_bind (dk_u1 (h 0 _ rfl))).trans rfl)
theorem dk_51 {code : ByteArray} {pc : Nat} (h : DkAt code pc [51]) : decode code pc = .ok (.baload, 1) := dk_of ((dk_bind (dk_u1 (h 0 _ rfl))).trans rfl)
theorem dk_54 {code : ByteArray} {pc : Nat} (a : UInt8) (h : DkAt code pc [54, a]) : decode code pc = .ok (.istore a.toNat, 2) := dk_of ((dk_bind (dk_u1 (h 0 _ rfl))).trans ((dk_bind (dk_u1 (h 1 _ rfl))).trans rfl))
theorem dk_55 {code : ByteArray} {pc : Nat} (a : UInt8) (h : DkAt code pc [55, a]) : decode code pc = .ok (.lstore a.toNat, 2) := dk_of ((dk_bind (dk_u1 (h 0 _ rfl))).trans ((dk_bind (dk_u1 (h 1 _ rfl))).trans rfl))
theorem dk_58 {code : ByteArray} {pc : Nat} (a : UInt8) (h : DkAt code pc [58, a]) : decode code pc = .ok (.astore a.toNat, 2) := dk_of ((dk_bind (dk_u1 (h 0 _ rfl))).trans ((dk_bind (dk_u1 (h 1 _ rfl))).trans rfl))
theorem dk_60 {code : ByteArray} {pc : Nat} (h : DkAt code pc [60]) : decode code pc = .ok (.istore_n 1, 1) := dk_of ((dk_bind (dk_u1 (h 0 _ rfl))).trans rfl)
theorem dk_61 {code : ByteArray} {pc : Nat} (h : DkAt code pc [61]) : decode code pc = .ok (.istore_n 2, 1) := dk_of ((dk_bind (dk_u1 (h 0 _ rfl))).trans rfl)
theorem dk_62 {code : ByteArray} {pc : Nat} (h : DkAt code pc [62]) : decode code pc = .ok (.istore_n 3, 1) := dk_of ((dk_bind (dk_u1 (h 0 _ rfl))).trans rfl)
theorem dk_64 {code : ByteArray} {pc : Nat} (h : DkAt code pc [64]) : decode code pc = .ok (.lstore_n 1, 1) := dk_of ((dk_bind (dk_u1 (h 0 _ rfl))).trans rfl)
theorem dk_76 {code : ByteArray} {pc : Nat} (h : DkAt code pc [76]) : decode code pc = .ok (.astore_n 1, 1) := dk_of ((dk_bind (dk_u1 (h 0 _ rfl))).trans rfl)
theorem dk_77 {code : ByteArray} {pc : Nat} (h : DkAt code pc [77]) : decode code pc = .ok (.astore_n 2, 1) := dk_of ((dk_bind (dk_u1 (h 0 _ rfl))).trans rfl)
theorem dk_78 {code : ByteArray} {pc : Nat} (h : DkAt code pc [78]) : decode code pc = .ok (.astore_n 3, 1) := dk_of ((dk_bind (dk_u1 (h 0 _ rfl))).trans rfl)
theorem dk_79 {code : ByteArray} {pc : Nat} (h : DkAt code pc [79]) : decode code pc = .ok (.iastore, 1) := dk_of ((dk_bind (dk_u1 (h 0 _ rfl))).trans rfl)
theorem dk_80 {code : ByteArray} {pc : Nat} (h : DkAt code pc [80]) : decode code pc = .ok (.lastore, 1) := dk_of ((dk_bind (dk_u1 (h 0 _ rfl))).trans rfl)
theorem dk_83 {code : ByteArray} {pc : Nat} (h : DkAt code pc [83]) : decode code pc = .ok (.aastore, 1) := dk_of ((dk_bind (dk_u1 (h 0 _ rfl))).trans rfl)
theorem dk_84 {code : ByteArray} {pc : Nat} (h : DkAt code pc [84]) : decode code pc = .ok (.bastore, 1) := dk_of ((dk_bind (dk_u1 (h 0 _ rfl))).trans rfl)
theorem dk_87 {code : ByteArray} {pc : Nat} (h : DkAt code pc [87]) : decode code pc = .ok (.pop, 1) := dk_of ((dk_bind (dk_u1 (h 0 _ rfl))).trans rfl)
theorem dk_89 {code : ByteArray} {pc : Nat} (h : DkAt code pc [89]) : decode code pc = .ok (.dup, 1) := dk_of ((dk_bind (dk_u1 (h 0 _ rfl))).trans rfl)
theorem dk_92 {code : ByteArray} {pc : Nat} (h : DkAt code pc [92]) : decode code pc = .ok (.dup2, 1) := dk_of ((dk_bind (dk_u1 (h 0 _ rfl))).trans rfl)
theorem dk_96 {code : ByteArray} {pc : Nat} (h : DkAt code pc [96]) : decode code pc = .ok (.iadd, 1) := dk_of ((dk_bind (dk_u1 (h 0 _ rfl))).trans rfl)
theorem dk_97 {code : ByteArray} {pc : Nat} (h : DkAt code pc [97]) : decode code pc = .ok (.ladd, 1) := dk_of ((dk_bind (dk_u1 (h 0 _ rfl))).trans rfl)
theorem dk_100 {code : ByteArray} {pc : Nat} (h : DkAt code pc [100]) : decode code pc = .ok (.isub, 1) := dk_of ((dk_bind (dk_u1 (h 0 _ rfl))).trans rfl)
theorem dk_101 {code : ByteArray} {pc : Nat} (h : DkAt code pc [101]) : decode code pc = .ok (.lsub, 1) := dk_of ((dk_bind (dk_u1 (h 0 _ rfl))).trans rfl)
theorem dk_104 {code : ByteArray} {pc : Nat} (h : DkAt code pc [104]) : decode code pc = .ok (.imul, 1) := dk_of ((dk_bind (dk_u1 (h 0 _ rfl))).trans rfl)
theorem dk_105 {code : ByteArray} {pc : Nat} (h : DkAt code pc [105]) : decode code pc = .ok (.lmul, 1) := dk_of ((dk_bind (dk_u1 (h 0 _ rfl))).trans rfl)
theorem dk_108 {code : ByteArray} {pc : Nat} (h : DkAt code pc [108]) : decode code pc = .ok (.idiv, 1) := dk_of ((dk_bind (dk_u1 (h 0 _ rfl))).trans rfl)
theorem dk_112 {code : ByteArray} {pc : Nat} (h : DkAt code pc [112]) : decode code pc = .ok (.irem, 1) := dk_of ((dk_bind (dk_u1 (h 0 _ rfl))).trans rfl)
theorem dk_116 {code : ByteArray} {pc : Nat} (h : DkAt code pc [116]) : decode code pc = .ok (.ineg, 1) := dk_of ((dk_bind (dk_u1 (h 0 _ rfl))).trans rfl)
theorem dk_120 {code : ByteArray} {pc : Nat} (h : DkAt code pc [120]) : decode code pc = .ok (.ishl, 1) := dk_of ((dk_bind (dk_u1 (h 0 _ rfl))).trans rfl)
theorem dk_121 {code : ByteArray} {pc : Nat} (h : DkAt code pc [121]) : decode code pc = .ok (.lshl, 1) := dk_of ((dk_bind (dk_u1 (h 0 _ rfl))).trans rfl)
theorem dk_122 {code : ByteArray} {pc : Nat} (h : DkAt code pc [122]) : decode code pc = .ok (.ishr, 1) := dk_of ((dk_bind (dk_u1 (h 0 _ rfl))).trans rfl)
theorem dk_124 {code : ByteArray} {pc : Nat} (h : DkAt code pc [124]) : decode code pc = .ok (.iushr, 1) := dk_of ((dk_bind (dk_u1 (h 0 _ rfl))).trans rfl)
theorem dk_126 {code : ByteArray} {pc : Nat} (h : DkAt code pc [126]) : decode code pc = .ok (.iand, 1) := dk_of ((dk_bind (dk_u1 (h 0 _ rfl))).trans rfl)
theorem dk_128 {code : ByteArray} {pc : Nat} (h : DkAt code pc [128]) : decode code pc = .ok (.ior, 1) := dk_of ((dk_bind (dk_u1 (h 0 _ rfl))).trans rfl)
theorem dk_129 {code : ByteArray} {pc : Nat} (h : DkAt code pc [129]) : decode code pc = .ok (.lor, 1) := dk_of ((dk_bind (dk_u1 (h 0 _ rfl))).trans rfl)
theorem dk_132 {code : ByteArray} {pc : Nat} (a b : UInt8) (h : DkAt code pc [132, a, b]) : decode code pc = .ok (.iinc a.toNat (Reader.signed 8 b.toNat), 3) := dk_of ((dk_bind (dk_u1 (h 0 _ rfl))).trans ((dk_bind (dk_u1 (h 1 _ rfl))).trans ((dk_bind (dk_map (dk_u1 (h 2 _ rfl)))).trans rfl)))
theorem dk_133 {code : ByteArray} {pc : Nat} (h : DkAt code pc [133]) : decode code pc = .ok (.i2l, 1) := dk_of ((dk_bind (dk_u1 (h 0 _ rfl))).trans rfl)
theorem dk_145 {code : ByteArray} {pc : Nat} (h : DkAt code pc [145]) : decode code pc = .ok (.i2b, 1) := dk_of ((dk_bind (dk_u1 (h 0 _ rfl))).trans rfl)
theorem dk_146 {code : ByteArray} {pc : Nat} (h : DkAt code pc [146]) : decode code pc = .ok (.i2c, 1) := dk_of ((dk_bind (dk_u1 (h 0 _ rfl))).trans rfl)
theorem dk_148 {code : ByteArray} {pc : Nat} (h : DkAt code pc [148]) : decode code pc = .ok (.lcmp, 1) := dk_of ((dk_bind (dk_u1 (h 0 _ rfl))).trans rfl)
theorem dk_153 {code : ByteArray} {pc : Nat} (a b : UInt8) (h : DkAt code pc [153, a, b]) : decode code pc = .ok (.ifCond .eq (Reader.signed 16 (a.toNat * 256 + b.toNat)), 3) := dk_of ((dk_bind (dk_u1 (h 0 _ rfl))).trans ((dk_bind (dk_map (dk_u2 (h 1 _ rfl) (h 2 _ rfl)))).trans rfl))
theorem dk_154 {code : ByteArray} {pc : Nat} (a b : UInt8) (h : DkAt code pc [154, a, b]) : decode code pc = .ok (.ifCond .ne (Reader.signed 16 (a.toNat * 256 + b.toNat)), 3) := dk_of ((dk_bind (dk_u1 (h 0 _ rfl))).trans ((dk_bind (dk_map (dk_u2 (h 1 _ rfl) (h 2 _ rfl)))).trans rfl))
theorem dk_155 {code : ByteArray} {pc : Nat} (a b : UInt8) (h : DkAt code pc [155, a, b]) : decode code pc = .ok (.ifCond .lt (Reader.signed 16 (a.toNat * 256 + b.toNat)), 3) := dk_of ((dk_bind (dk_u1 (h 0 _ rfl))).trans ((dk_bind (dk_map (dk_u2 (h 1 _ rfl) (h 2 _ rfl)))).trans rfl))
theorem dk_156 {code : ByteArray} {pc : Nat} (a b : UInt8) (h : DkAt code pc [156, a, b]) : decode code pc = .ok (.ifCond .ge (Reader.signed 16 (a.toNat * 256 + b.toNat)), 3) := dk_of ((dk_bind (dk_u1 (h 0 _ rfl))).trans ((dk_bind (dk_map (dk_u2 (h 1 _ rfl) (h 2 _ rfl)))).trans rfl))
theorem dk_158 {code : ByteArray} {pc : Nat} (a b : UInt8) (h : DkAt code pc [158, a, b]) : decode code pc = .ok (.ifCond .le (Reader.signed 16 (a.toNat * 256 + b.toNat)), 3) := dk_of ((dk_bind (dk_u1 (h 0 _ rfl))).trans ((dk_bind (dk_map (dk_u2 (h 1 _ rfl) (h 2 _ rfl)))).trans rfl))
theorem dk_159 {code : ByteArray} {pc : Nat} (a b : UInt8) (h : DkAt code pc [159, a, b]) : decode code pc = .ok (.if_icmp .eq (Reader.signed 16 (a.toNat * 256 + b.toNat)), 3) := dk_of ((dk_bind (dk_u1 (h 0 _ rfl))).trans ((dk_bind (dk_map (dk_u2 (h 1 _ rfl) (h 2 _ rfl)))).trans rfl))
theorem dk_160 {code : ByteArray} {pc : Nat} (a b : UInt8) (h : DkAt code pc [160, a, b]) : decode code pc = .ok (.if_icmp .ne (Reader.signed 16 (a.toNat * 256 + b.toNat)), 3) := dk_of ((dk_bind (dk_u1 (h 0 _ rfl))).trans ((dk_bind (dk_map (dk_u2 (h 1 _ rfl) (h 2 _ rfl)))).trans rfl))
theorem dk_161 {code : ByteArray} {pc : Nat} (a b : UInt8) (h : DkAt code pc [161, a, b]) : decode code pc = .ok (.if_icmp .lt (Reader.signed 16 (a.toNat * 256 + b.toNat)), 3) := dk_of ((dk_bind (dk_u1 (h 0 _ rfl))).trans ((dk_bind (dk_map (dk_u2 (h 1 _ rfl) (h 2 _ rfl)))).trans rfl))
theorem dk_162 {code : ByteArray} {pc : Nat} (a b : UInt8) (h : DkAt code pc [162, a, b]) : decode code pc = .ok (.if_icmp .ge (Reader.signed 16 (a.toNat * 256 + b.toNat)), 3) := dk_of ((dk_bind (dk_u1 (h 0 _ rfl))).trans ((dk_bind (dk_map (dk_u2 (h 1 _ rfl) (h 2 _ rfl)))).trans rfl))
theorem dk_163 {code : ByteArray} {pc : Nat} (a b : UInt8) (h : DkAt code pc [163, a, b]) : decode code pc = .ok (.if_icmp .gt (Reader.signed 16 (a.toNat * 256 + b.toNat)), 3) := dk_of ((dk_bind (dk_u1 (h 0 _ rfl))).trans ((dk_bind (dk_map (dk_u2 (h 1 _ rfl) (h 2 _ rfl)))).trans rfl))
theorem dk_164 {code : ByteArray} {pc : Nat} (a b : UInt8) (h : DkAt code pc [164, a, b]) : decode code pc = .ok (.if_icmp .le (Reader.signed 16 (a.toNat * 256 + b.toNat)), 3) := dk_of ((dk_bind (dk_u1 (h 0 _ rfl))).trans ((dk_bind (dk_map (dk_u2 (h 1 _ rfl) (h 2 _ rfl)))).trans rfl))
theorem dk_167 {code : ByteArray} {pc : Nat} (a b : UInt8) (h : DkAt code pc [167, a, b]) : decode code pc = .ok (.goto (Reader.signed 16 (a.toNat * 256 + b.toNat)), 3) := dk_of ((dk_bind (dk_u1 (h 0 _ rfl))).trans ((dk_bind (dk_map (dk_u2 (h 1 _ rfl) (h 2 _ rfl)))).trans rfl))
theorem dk_172 {code : ByteArray} {pc : Nat} (h : DkAt code pc [172]) : decode code pc = .ok (.ireturn, 1) := dk_of ((dk_bind (dk_u1 (h 0 _ rfl))).trans rfl)
theorem dk_173 {code : ByteArray} {pc : Nat} (h : DkAt code pc [173]) : decode code pc = .ok (.lreturn, 1) := dk_of ((dk_bind (dk_u1 (h 0 _ rfl))).trans rfl)
theorem dk_176 {code : ByteArray} {pc : Nat} (h : DkAt code pc [176]) : decode code pc = .ok (.areturn, 1) := dk_of ((dk_bind (dk_u1 (h 0 _ rfl))).trans rfl)
theorem dk_177 {code : ByteArray} {pc : Nat} (h : DkAt code pc [177]) : decode code pc = .ok (.return_, 1) := dk_of ((dk_bind (dk_u1 (h 0 _ rfl))).trans rfl)
theorem dk_178 {code : ByteArray} {pc : Nat} (a b : UInt8) (h : DkAt code pc [178, a, b]) : decode code pc = .ok (.getstatic (a.toNat * 256 + b.toNat), 3) := dk_of ((dk_bind (dk_u1 (h 0 _ rfl))).trans ((dk_bind (dk_u2 (h 1 _ rfl) (h 2 _ rfl))).trans rfl))
theorem dk_180 {code : ByteArray} {pc : Nat} (a b : UInt8) (h : DkAt code pc [180, a, b]) : decode code pc = .ok (.getfield (a.toNat * 256 + b.toNat), 3) := dk_of ((dk_bind (dk_u1 (h 0 _ rfl))).trans ((dk_bind (dk_u2 (h 1 _ rfl) (h 2 _ rfl))).trans rfl))
theorem dk_181 {code : ByteArray} {pc : Nat} (a b : UInt8) (h : DkAt code pc [181, a, b]) : decode code pc = .ok (.putfield (a.toNat * 256 + b.toNat), 3) := dk_of ((dk_bind (dk_u1 (h 0 _ rfl))).trans ((dk_bind (dk_u2 (h 1 _ rfl) (h 2 _ rfl))).trans rfl))
theorem dk_182 {code : ByteArray} {pc : Nat} (a b : UInt8) (h : DkAt code pc [182, a, b]) : decode code pc = .ok (.invokevirtual (a.toNat * 256 + b.toNat), 3) := dk_of ((dk_bind (dk_u1 (h 0 _ rfl))).trans ((dk_bind (dk_u2 (h 1 _ rfl) (h 2 _ rfl))).trans rfl))
theorem dk_183 {code : ByteArray} {pc : Nat} (a b : UInt8) (h : DkAt code pc [183, a, b]) : decode code pc = .ok (.invokespecial (a.toNat * 256 + b.toNat), 3) := dk_of ((dk_bind (dk_u1 (h 0 _ rfl))).trans ((dk_bind (dk_u2 (h 1 _ rfl) (h 2 _ rfl))).trans rfl))
theorem dk_184 {code : ByteArray} {pc : Nat} (a b : UInt8) (h : DkAt code pc [184, a, b]) : decode code pc = .ok (.invokestatic (a.toNat * 256 + b.toNat), 3) := dk_of ((dk_bind (dk_u1 (h 0 _ rfl))).trans ((dk_bind (dk_u2 (h 1 _ rfl) (h 2 _ rfl))).trans rfl))
theorem dk_187 {code : ByteArray} {pc : Nat} (a b : UInt8) (h : DkAt code pc [187, a, b]) : decode code pc = .ok (.new (a.toNat * 256 + b.toNat), 3) := dk_of ((dk_bind (dk_u1 (h 0 _ rfl))).trans ((dk_bind (dk_u2 (h 1 _ rfl) (h 2 _ rfl))).trans rfl))
theorem dk_188_4 {code : ByteArray} {pc : Nat} (h : DkAt code pc [188, 4]) : decode code pc = .ok (.newarray .boolean, 2) := dk_of ((dk_bind (dk_u1 (h 0 _ rfl))).trans ((dk_bind (dk_u1 (h 1 _ rfl))).trans rfl))
theorem dk_188_8 {code : ByteArray} {pc : Nat} (h : DkAt code pc [188, 8]) : decode code pc = .ok (.newarray .byte, 2) := dk_of ((dk_bind (dk_u1 (h 0 _ rfl))).trans ((dk_bind (dk_u1 (h 1 _ rfl))).trans rfl))
theorem dk_188_10 {code : ByteArray} {pc : Nat} (h : DkAt code pc [188, 10]) : decode code pc = .ok (.newarray .int, 2) := dk_of ((dk_bind (dk_u1 (h 0 _ rfl))).trans ((dk_bind (dk_u1 (h 1 _ rfl))).trans rfl))
theorem dk_188_11 {code : ByteArray} {pc : Nat} (h : DkAt code pc [188, 11]) : decode code pc = .ok (.newarray .long, 2) := dk_of ((dk_bind (dk_u1 (h 0 _ rfl))).trans ((dk_bind (dk_u1 (h 1 _ rfl))).trans rfl))
theorem dk_189 {code : ByteArray} {pc : Nat} (a b : UInt8) (h : DkAt code pc [189, a, b]) : decode code pc = .ok (.anewarray (a.toNat * 256 + b.toNat), 3) := dk_of ((dk_bind (dk_u1 (h 0 _ rfl))).trans ((dk_bind (dk_u2 (h 1 _ rfl) (h 2 _ rfl))).trans rfl))
theorem dk_190 {code : ByteArray} {pc : Nat} (h : DkAt code pc [190]) : decode code pc = .ok (.arraylength, 1) := dk_of ((dk_bind (dk_u1 (h 0 _ rfl))).trans rfl)
theorem dk_191 {code : ByteArray} {pc : Nat} (h : DkAt code pc [191]) : decode code pc = .ok (.athrow, 1) := dk_of ((dk_bind (dk_u1 (h 0 _ rfl))).trans rfl)
theorem dk_198 {code : ByteArray} {pc : Nat} (a b : UInt8) (h : DkAt code pc [198, a, b]) : decode code pc = .ok (.ifnull (Reader.signed 16 (a.toNat * 256 + b.toNat)), 3) := dk_of ((dk_bind (dk_u1 (h 0 _ rfl))).trans ((dk_bind (dk_map (dk_u2 (h 1 _ rfl) (h 2 _ rfl)))).trans rfl))
theorem dk_199 {code : ByteArray} {pc : Nat} (a b : UInt8) (h : DkAt code pc [199, a, b]) : decode code pc = .ok (.ifnonnull (Reader.signed 16 (a.toNat * 256 + b.toNat)), 3) := dk_of ((dk_bind (dk_u1 (h 0 _ rfl))).trans ((dk_bind (dk_map (dk_u2 (h 1 _ rfl) (h 2 _ rfl)))).trans rfl))
theorem q211 : (Jvm.Cond.arrayClass Jvm.ClassFile.FieldType.byte) ∈ lw_all := lw_g (lw_at lw_m1 109 rfl) rfl
set_option maxRecDepth 100000
theorem q213 : (Jvm.Cond.arrayOver (Jvm.ClassFile.FieldType.object "java/lang/String")) ∈ lw_tbl := lw_at lw_m1 111 rfl
theorem q256 : (Jvm.Cond.arrayOver (Jvm.ClassFile.FieldType.object "PailRow$Man")) ∈ lw_tbl := lw_at lw_m1 154 rfl
theorem q344 : (Jvm.Cond.arrayClass Jvm.ClassFile.FieldType.int) ∈ lw_all := lw_g (lw_at lw_m2 2 rfl) rfl
theorem q345 : (Jvm.Cond.arrayClass Jvm.ClassFile.FieldType.boolean) ∈ lw_all := lw_g (lw_at lw_m2 3 rfl) rfl
theorem q353 : (Jvm.Cond.arrayOver (Jvm.ClassFile.FieldType.object "PailRow$Thing")) ∈ lw_tbl := lw_at lw_m2 11 rfl
theorem q467 : (Jvm.Cond.arrayOver (Jvm.ClassFile.FieldType.array Jvm.ClassFile.FieldType.int)) ∈ lw_tbl := lw_at lw_m2 125 rfl
theorem q607 : (Jvm.Cond.arrayOver (Jvm.ClassFile.FieldType.object "PailRow$Barn")) ∈ lw_tbl := lw_at lw_m3 25 rfl
theorem q639 : (Jvm.Cond.arrayOver (Jvm.ClassFile.FieldType.object "PailRow$State")) ∈ lw_tbl := lw_at lw_m3 57 rfl
theorem q1890 : (Jvm.Cond.arrayClass Jvm.ClassFile.FieldType.long) ∈ lw_all := lw_g (lw_at lw_m8 108 rfl) rfl
theorem q126 : (Jvm.Cond.initialized "java/lang/System") ∈ lw_all := lw_g (lw_at lw_m1 24 rfl) rfl
set_option maxRecDepth 100000
theorem q1141 : (Jvm.Cond.static ({ cls := "java/lang/System", name := "arraycopy", desc := "(Ljava/lang/Object;ILjava/lang/Object;II)V" } : Jvm.MethodName)) ∈ lw_all := lw_g (lw_at lw_m5 79 rfl) rfl
theorem q1142 : (Jvm.Cond.native ({ cls := "java/lang/System", name := "arraycopy", desc := "(Ljava/lang/Object;ILjava/lang/Object;II)V" } : Jvm.MethodName)) ∈ lw_all := lw_g (lw_at lw_m5 80 rfl) rfl
/-! java/lang/Throwable -/
set_option maxRecDepth 100000
def RJ0 : String := "java/lang/Throwable"
def TJ0 : u_T := fun k => match k with
  | 0 => ("java/lang/Throwable", "cause", "Ljava/lang/Throwable;", false)
  | 1 => ("java/lang/Throwable", "stackTrace", "[Ljava/lang/StackTraceElement;", false)
  | 2 => ("java/lang/Throwable", "suppressedExceptions", "Ljava/util/List;", false)
  | 3 => ("java/lang/Throwable", "detailMessage", "Ljava/lang/String;", false)
  | _ => ("java/lang/Throwable", "backtrace", "Ljava/lang/Object;", false)
def tyJ0 : Nat → FieldType := fun k => match k with
  | 0 => .object "java/lang/Throwable"
  | 1 => .array (.object "java/lang/StackTraceElement")
  | 2 => .object "java/util/List"
  | 3 => .object "java/lang/String"
  | _ => .object "java/lang/Object"
abbrev wsJ00 : List Cond := u_ws RJ0 TJ0 5
theorem nmJ0 : ∀ a, a < 5 → ∀ b, b < 5 → a ≠ b → (TJ0 a).2.1 ≠ (TJ0 b).2.1 := by decide +kernel
theorem tyJ0_ok : ∀ k, k < 5 → parseFieldDescriptor (TJ0 k).2.2.1 = some (tyJ0 k) := by decide +kernel
abbrev cJ0_init : ByteArray := prog_34_method_1_code
def yJ0_init : MethodName := ⟨RJ0, "<init>", "()V"⟩
def dkwJ0_init_1 : List UInt8 := [182, 0, 27, 87, 177]
abbrev dktJ0_init_1 : List UInt8 := dkwJ0_init_1 ++ []
def dkwJ0_init_0 : List UInt8 := [42, 183, 0, 1, 42, 42, 181, 0, 7, 42, 178, 0, 13, 181, 0, 17, 42, 178, 0, 20, 181, 0, 24, 42]
abbrev dktJ0_init_0 : List UInt8 := dkwJ0_init_0 ++ dktJ0_init_1
theorem dksJ0_init_0 : cJ0_init.data.toList.drop 0 = dktJ0_init_0 := by decide +kernel
theorem dksJ0_init_1 : cJ0_init.data.toList.drop 24 = dktJ0_init_1 := dk_seg dksJ0_init_0 24 rfl rfl
theorem dJ0_init_0 : decode cJ0_init 0 = .ok (.aload_n 0, 1) := dk_42 (dk_at dksJ0_init_0 0 rfl rfl)
theorem dJ0_init_1 : decode cJ0_init 1 = .ok (.invokespecial 1, 3) := dk_183 0 1 (dk_at dksJ0_init_0 1 rfl rfl)
theorem dJ0_init_4 : decode cJ0_init 4 = .ok (.aload_n 0, 1) := dk_42 (dk_at dksJ0_init_0 4 rfl rfl)
theorem dJ0_init_5 : decode cJ0_init 5 = .ok (.aload_n 0, 1) := dk_42 (dk_at dksJ0_init_0 5 rfl rfl)
theorem dJ0_init_6 : decode cJ0_init 6 = .ok (.putfield 7, 3) := dk_181 0 7 (dk_at dksJ0_init_0 6 rfl rfl)
theorem dJ0_init_9 : decode cJ0_init 9 = .ok (.aload_n 0, 1) := dk_42 (dk_at dksJ0_init_0 9 rfl rfl)
theorem dJ0_init_10 : decode cJ0_init 10 = .ok (.getstatic 13, 3) := dk_178 0 13 (dk_at dksJ0_init_0 10 rfl rfl)
theorem dJ0_init_13 : decode cJ0_init 13 = .ok (.putfield 17, 3) := dk_181 0 17 (dk_at dksJ0_init_0 13 rfl rfl)
theorem dJ0_init_16 : decode cJ0_init 16 = .ok (.aload_n 0, 1) := dk_42 (dk_at dksJ0_init_0 16 rfl rfl)
theorem dJ0_init_17 : decode cJ0_init 17 = .ok (.getstatic 20, 3) := dk_178 0 20 (dk_at dksJ0_init_0 17 rfl rfl)
theorem dJ0_init_20 : decode cJ0_init 20 = .ok (.putfield 24, 3) := dk_181 0 24 (dk_at dksJ0_init_0 20 rfl rfl)
theorem dJ0_init_23 : decode cJ0_init 23 = .ok (.aload_n 0, 1) := dk_42 (dk_at dksJ0_init_0 23 rfl rfl)
theorem dJ0_init_24 : decode cJ0_init 24 = .ok (.invokevirtual 27, 3) := dk_182 0 27 (dk_at dksJ0_init_1 0 rfl rfl)
theorem dJ0_init_27 : decode cJ0_init 27 = .ok (.pop, 1) := dk_87 (dk_at dksJ0_init_1 3 rfl rfl)
theorem dJ0_init_28 : decode cJ0_init 28 = .ok (.return_, 1) := dk_177 (dk_at dksJ0_init_1 4 rfl rfl)
abbrev cJ0_init_2 : ByteArray := prog_34_method_5_code
def yJ0_init_2 : MethodName := ⟨RJ0, "<init>", "(Ljava/lang/String;Ljava/lang/Throwable;ZZ)V"⟩
def dkwJ0_init_2_2 : List UInt8 := [44, 181, 0, 7, 29, 154, 0, 8, 42, 1, 181, 0, 24, 177]
abbrev dktJ0_init_2_2 : List UInt8 := dkwJ0_init_2_2 ++ []
def dkwJ0_init_2_1 : List UInt8 := [21, 4, 153, 0, 11, 42, 182, 0, 27, 87, 167, 0, 8, 42, 1, 181, 0, 17, 42, 43, 181, 0, 31, 42]
abbrev dktJ0_init_2_1 : List UInt8 := dkwJ0_init_2_1 ++ dktJ0_init_2_2
def dkwJ0_init_2_0 : List UInt8 := [42, 183, 0, 1, 42, 42, 181, 0, 7, 42, 178, 0, 13, 181, 0, 17, 42, 178, 0, 20, 181, 0, 24]
abbrev dktJ0_init_2_0 : List UInt8 := dkwJ0_init_2_0 ++ dktJ0_init_2_1
theorem dksJ0_init_2_0 : cJ0_init_2.data.toList.drop 0 = dktJ0_init_2_0 := by decide +kernel
theorem dksJ0_init_2_1 : cJ0_init_2.data.toList.drop 23 = dktJ0_init_2_1 := dk_seg dksJ0_init_2_0 23 rfl rfl
theorem dksJ0_init_2_2 : cJ0_init_2.data.toList.drop 47 = dktJ0_init_2_2 := dk_seg dksJ0_init_2_1 24 rfl rfl
theorem dJ0_init_2_0 : decode cJ0_init_2 0 = .ok (.aload_n 0, 1) := dk_42 (dk_at dksJ0_init_2_0 0 rfl rfl)
theorem dJ0_init_2_1 : decode cJ0_init_2 1 = .ok (.invokespecial 1, 3) := dk_183 0 1 (dk_at dksJ0_init_2_0 1 rfl rfl)
theorem dJ0_init_2_4 : decode cJ0_init_2 4 = .ok (.aload_n 0, 1) := dk_42 (dk_at dksJ0_init_2_0 4 rfl rfl)
theorem dJ0_init_2_5 : decode cJ0_init_2 5 = .ok (.aload_n 0, 1) := dk_42 (dk_at dksJ0_init_2_0 5 rfl rfl)
theorem dJ0_init_2_6 : decode cJ0_init_2 6 = .ok (.putfield 7, 3) := dk_181 0 7 (dk_at dksJ0_init_2_0 6 rfl rfl)
theorem dJ0_init_2_9 : decode cJ0_init_2 9 = .ok (.aload_n 0, 1) := dk_42 (dk_at dksJ0_init_2_0 9 rfl rfl)
theorem dJ0_init_2_10 : decode cJ0_init_2 10 = .ok (.getstatic 13, 3) := dk_178 0 13 (dk_at dksJ0_init_2_0 10 rfl rfl)
theorem dJ0_init_2_13 : decode cJ0_init_2 13 = .ok (.putfield 17, 3) := dk_181 0 17 (dk_at dksJ0_init_2_0 13 rfl rfl)
theorem dJ0_init_2_16 : decode cJ0_init_2 16 = .ok (.aload_n 0, 1) := dk_42 (dk_at dksJ0_init_2_0 16 rfl rfl)
theorem dJ0_init_2_17 : decode cJ0_init_2 17 = .ok (.getstatic 20, 3) := dk_178 0 20 (dk_at dksJ0_init_2_0 17 rfl rfl)
theorem dJ0_init_2_20 : decode cJ0_init_2 20 = .ok (.putfield 24, 3) := dk_181 0 24 (dk_at dksJ0_init_2_0 20 rfl rfl)
theorem dJ0_init_2_23 : decode cJ0_init_2 23 = .ok (.iload 4, 2) := dk_21 4 (dk_at dksJ0_init_2_1 0 rfl rfl)
theorem dJ0_init_2_25 : decode cJ0_init_2 25 = .ok (.ifCond .eq 11, 3) := dk_153 0 11 (dk_at dksJ0_init_2_1 2 rfl rfl)
theorem dJ0_init_2_28 : decode cJ0_init_2 28 = .ok (.aload_n 0, 1) := dk_42 (dk_at dksJ0_init_2_1 5 rfl rfl)
theorem dJ0_init_2_29 : decode cJ0_init_2 29 = .ok (.invokevirtual 27, 3) := dk_182 0 27 (dk_at dksJ0_init_2_1 6 rfl rfl)
theorem dJ0_init_2_32 : decode cJ0_init_2 32 = .ok (.pop, 1) := dk_87 (dk_at dksJ0_init_2_1 9 rfl rfl)
theorem dJ0_init_2_33 : decode cJ0_init_2 33 = .ok (.goto 8, 3) := dk_167 0 8 (dk_at dksJ0_init_2_1 10 rfl rfl)
theorem dJ0_init_2_36 : decode cJ0_init_2 36 = .ok (.aload_n 0, 1) := dk_42 (dk_at dksJ0_init_2_1 13 rfl rfl)
theorem dJ0_init_2_37 : decode cJ0_init_2 37 = .ok (.aconst_null, 1) := dk_1 (dk_at dksJ0_init_2_1 14 rfl rfl)
theorem dJ0_init_2_38 : decode cJ0_init_2 38 = .ok (.putfield 17, 3) := dk_181 0 17 (dk_at dksJ0_init_2_1 15 rfl rfl)
theorem dJ0_init_2_41 : decode cJ0_init_2 41 = .ok (.aload_n 0, 1) := dk_42 (dk_at dksJ0_init_2_1 18 rfl rfl)
theorem dJ0_init_2_42 : decode cJ0_init_2 42 = .ok (.aload_n 1, 1) := dk_43 (dk_at dksJ0_init_2_1 19 rfl rfl)
theorem dJ0_init_2_43 : decode cJ0_init_2 43 = .ok (.putfield 31, 3) := dk_181 0 31 (dk_at dksJ0_init_2_1 20 rfl rfl)
theorem dJ0_init_2_46 : decode cJ0_init_2 46 = .ok (.aload_n 0, 1) := dk_42 (dk_at dksJ0_init_2_1 23 rfl rfl)
theorem dJ0_init_2_47 : decode cJ0_init_2 47 = .ok (.aload_n 2, 1) := dk_44 (dk_at dksJ0_init_2_2 0 rfl rfl)
theorem dJ0_init_2_48 : decode cJ0_init_2 48 = .ok (.putfield 7, 3) := dk_181 0 7 (dk_at dksJ0_init_2_2 1 rfl rfl)
theorem dJ0_init_2_51 : decode cJ0_init_2 51 = .ok (.iload_n 3, 1) := dk_29 (dk_at dksJ0_init_2_2 4 rfl rfl)
theorem dJ0_init_2_52 : decode cJ0_init_2 52 = .ok (.ifCond .ne 8, 3) := dk_154 0 8 (dk_at dksJ0_init_2_2 5 rfl rfl)
theorem dJ0_init_2_55 : decode cJ0_init_2 55 = .ok (.aload_n 0, 1) := dk_42 (dk_at dksJ0_init_2_2 8 rfl rfl)
theorem dJ0_init_2_56 : decode cJ0_init_2 56 = .ok (.aconst_null, 1) := dk_1 (dk_at dksJ0_init_2_2 9 rfl rfl)
theorem dJ0_init_2_57 : decode cJ0_init_2 57 = .ok (.putfield 24, 3) := dk_181 0 24 (dk_at dksJ0_init_2_2 10 rfl rfl)
theorem dJ0_init_2_60 : decode cJ0_init_2 60 = .ok (.return_, 1) := dk_177 (dk_at dksJ0_init_2_2 13 rfl rfl)
theorem q104 : (Jvm.Cond.initialized "java/lang/Throwable") ∈ lw_all := lw_g (lw_at lw_m1 2 rfl) rfl
theorem q148 : (Jvm.Cond.declares ({ cls := "java/lang/Throwable", name := "<init>", desc := "()V" } : Jvm.MethodName)) ∈ lw_tbl := lw_at lw_m1 46 rfl
theorem q149 : (Jvm.Cond.declares ({ cls := "java/lang/Throwable", name := "<init>", desc := "(Ljava/lang/String;)V" } : Jvm.MethodName)) ∈ lw_tbl := lw_at lw_m1 47 rfl
theorem q153 : (Jvm.Cond.lays "java/lang/Throwable" "java/lang/Throwable" "cause" "Ljava/lang/Throwable;") ∈ lw_all := lw_g (lw_at lw_m1 51 rfl) rfl
theorem q155 : (Jvm.Cond.lays "java/lang/Throwable" "java/lang/Throwable" "stackTrace" "[Ljava/lang/StackTraceElement;") ∈ lw_all := lw_g (lw_at lw_m1 53 rfl) rfl
theorem q157 : (Jvm.Cond.lays "java/lang/Throwable" "java/lang/Throwable" "suppressedExceptions" "Ljava/util/List;") ∈ lw_all := lw_g (lw_at lw_m1 55 rfl) rfl
theorem q159 : (Jvm.Cond.lays "java/lang/Throwable" "java/lang/Throwable" "detailMessage" "Ljava/lang/String;") ∈ lw_all := lw_g (lw_at lw_m1 57 rfl) rfl
theorem q161 : (Jvm.Cond.lays "java/lang/Throwable" "java/lang/Throwable" "backtrace" "Ljava/lang/Object;") ∈ lw_all := lw_g (lw_at lw_m1 59 rfl) rfl
theorem q162 : (Jvm.Cond.fieldLink "java/lang/Throwable" (198 : Nat) "java/lang/Throwable" "backtrace" "Ljava/lang/Object;") ∈ lw_all := lw_g (lw_at lw_m1 60 rfl) rfl
theorem q163 : (Jvm.Cond.superclass "java/lang/Throwable" "java/lang/Object") ∈ lw_all := lw_g (lw_at lw_m1 61 rfl) rfl
theorem q164 : (Jvm.Cond.instanceMethod ({ cls := "java/lang/Throwable", name := "<init>", desc := "()V" } : Jvm.MethodName)) ∈ lw_all := lw_g (lw_at lw_m1 62 rfl) rfl
theorem q165 : (Jvm.Cond.code ({ cls := "java/lang/Throwable", name := "<init>", desc := "()V" } : Jvm.MethodName) prog_34_method_1_code (1 : Nat) (Option.none : Option Jvm.ClassFile.FieldType)) ∈ lw_all := lw_g (lw_at lw_m1 63 rfl) rfl
theorem q166 : (Jvm.Cond.methodLink "java/lang/Throwable" (1 : Nat) ({ cls := "java/lang/Object", name := "<init>", desc := "()V" } : Jvm.MethodName)) ∈ lw_all := lw_g (lw_at lw_m1 64 rfl) rfl
theorem q167 : (Jvm.Cond.fieldLink "java/lang/Throwable" (13 : Nat) "java/lang/Throwable" "UNASSIGNED_STACK" "[Ljava/lang/StackTraceElement;") ∈ lw_all := lw_g (lw_at lw_m1 65 rfl) rfl
theorem q168 : (Jvm.Cond.laysStatic "java/lang/Throwable" "UNASSIGNED_STACK" "[Ljava/lang/StackTraceElement;") ∈ lw_tbl := lw_at lw_m1 66 rfl
theorem q169 : (Jvm.Cond.fieldLink "java/lang/Throwable" (20 : Nat) "java/lang/Throwable" "SUPPRESSED_SENTINEL" "Ljava/util/List;") ∈ lw_all := lw_g (lw_at lw_m1 67 rfl) rfl
theorem q170 : (Jvm.Cond.laysStatic "java/lang/Throwable" "SUPPRESSED_SENTINEL" "Ljava/util/List;") ∈ lw_tbl := lw_at lw_m1 68 rfl
theorem q171 : (Jvm.Cond.methodLink "java/lang/Throwable" (27 : Nat) ({ cls := "java/lang/Throwable", name := "fillInStackTrace", desc := "()Ljava/lang/Throwable;" } : Jvm.MethodName)) ∈ lw_all := lw_g (lw_at lw_m1 69 rfl) rfl
theorem q172 : (Jvm.Cond.instanceMethod ({ cls := "java/lang/Throwable", name := "fillInStackTrace", desc := "()Ljava/lang/Throwable;" } : Jvm.MethodName)) ∈ lw_all := lw_g (lw_at lw_m1 70 rfl) rfl
theorem q173 : (Jvm.Cond.sameMethod "java/lang/Throwable" "java/lang/Throwable" "fillInStackTrace" "()Ljava/lang/Throwable;") ∈ lw_all := lw_g (lw_at lw_m1 71 rfl) rfl
theorem q175 : (Jvm.Cond.codeSync ({ cls := "java/lang/Throwable", name := "fillInStackTrace", desc := "()Ljava/lang/Throwable;" } : Jvm.MethodName) prog_34_method_18_code (1 : Nat) (Option.some (Jvm.ClassFile.FieldType.object "java/lang/Throwable"))) ∈ lw_all := lw_g (lw_at lw_m1 73 rfl) rfl
theorem q176 : (Jvm.Cond.methodLink "java/lang/Throwable" (202 : Nat) ({ cls := "java/lang/Throwable", name := "fillInStackTrace", desc := "(I)Ljava/lang/Throwable;" } : Jvm.MethodName)) ∈ lw_all := lw_g (lw_at lw_m1 74 rfl) rfl
theorem q177 : (Jvm.Cond.privateMethod ({ cls := "java/lang/Throwable", name := "fillInStackTrace", desc := "(I)Ljava/lang/Throwable;" } : Jvm.MethodName)) ∈ lw_tbl := lw_at lw_m1 75 rfl
theorem q178 : (Jvm.Cond.instanceMethod ({ cls := "java/lang/Throwable", name := "fillInStackTrace", desc := "(I)Ljava/lang/Throwable;" } : Jvm.MethodName)) ∈ lw_all := lw_g (lw_at lw_m1 76 rfl) rfl
theorem q179 : (Jvm.Cond.instantiable "java/lang/Throwable" (6 : Nat)) ∈ lw_all := lw_g (lw_at lw_m1 77 rfl) rfl
theorem q180 : (Jvm.Cond.native ({ cls := "java/lang/Throwable", name := "fillInStackTrace", desc := "(I)Ljava/lang/Throwable;" } : Jvm.MethodName)) ∈ lw_all := lw_g (lw_at lw_m1 78 rfl) rfl
theorem q188 : (Jvm.Cond.instanceMethod ({ cls := "java/lang/Throwable", name := "<init>", desc := "(Ljava/lang/String;Ljava/lang/Throwable;ZZ)V" } : Jvm.MethodName)) ∈ lw_all := lw_g (lw_at lw_m1 86 rfl) rfl
theorem q189 : (Jvm.Cond.code ({ cls := "java/lang/Throwable", name := "<init>", desc := "(Ljava/lang/String;Ljava/lang/Throwable;ZZ)V" } : Jvm.MethodName) prog_34_method_5_code (5 : Nat) (Option.none : Option Jvm.ClassFile.FieldType)) ∈ lw_all := lw_g (lw_at lw_m1 87 rfl) rfl
theorem q194 : (Jvm.Cond.fieldLink "java/lang/Throwable" (198 : Nat) "java/lang/Throwable" "backtrace" "Ljava/lang/Object;") ∈ lw_all := lw_g (lw_at lw_m1 92 rfl) rfl
theorem q195 : (Jvm.Cond.fieldLink "java/lang/Throwable" (31 : Nat) "java/lang/Throwable" "detailMessage" "Ljava/lang/String;") ∈ lw_all := lw_g (lw_at lw_m1 93 rfl) rfl
theorem q196 : (Jvm.Cond.fieldLink "java/lang/Throwable" (7 : Nat) "java/lang/Throwable" "cause" "Ljava/lang/Throwable;") ∈ lw_all := lw_g (lw_at lw_m1 94 rfl) rfl
theorem q197 : (Jvm.Cond.fieldLink "java/lang/Throwable" (17 : Nat) "java/lang/Throwable" "stackTrace" "[Ljava/lang/StackTraceElement;") ∈ lw_all := lw_g (lw_at lw_m1 95 rfl) rfl
theorem q198 : (Jvm.Cond.fieldLink "java/lang/Throwable" (24 : Nat) "java/lang/Throwable" "suppressedExceptions" "Ljava/util/List;") ∈ lw_all := lw_g (lw_at lw_m1 96 rfl) rfl
theorem q203 : (Jvm.Cond.soleField "java/lang/Throwable" "backtrace") ∈ lw_all := lw_g (lw_at lw_m1 101 rfl) rfl
theorem q204 : (Jvm.Cond.soleField "java/lang/Throwable" "detailMessage") ∈ lw_all := lw_g (lw_at lw_m1 102 rfl) rfl
theorem q205 : (Jvm.Cond.soleField "java/lang/Throwable" "cause") ∈ lw_all := lw_g (lw_at lw_m1 103 rfl) rfl
theorem q206 : (Jvm.Cond.soleField "java/lang/Throwable" "stackTrace") ∈ lw_all := lw_g (lw_at lw_m1 104 rfl) rfl
theorem q208 : (Jvm.Cond.soleField "java/lang/Throwable" "depth") ∈ lw_all := lw_g (lw_at lw_m1 106 rfl) rfl
theorem q209 : (Jvm.Cond.soleField "java/lang/Throwable" "suppressedExceptions") ∈ lw_all := lw_g (lw_at lw_m1 107 rfl) rfl
theorem q2329 : (Jvm.Cond.sameMethod "java/lang/Throwable" "java/lang/Throwable" "fillInStackTrace" "(I)Ljava/lang/Throwable;") ∈ lw_all := lw_g (lw_at lw_m10 67 rfl) rfl
theorem q2368 : (Jvm.Cond.castable "java/lang/Throwable" "java/lang/Object") ∈ lw_tbl := lw_at lw_m10 106 rfl
theorem in_J0 : ∀ w ∈ wsJ00, w ∈ lw_all := lw_in wsJ00 [153, 155, 157, 159, 161] (by decide +kernel) (by decide +kernel)
/-! java/lang/Exception -/
set_option maxRecDepth 100000
def RJ1 : String := "java/lang/Exception"
abbrev cJ1_init : ByteArray := prog_27_method_5_code
def yJ1_init : MethodName := ⟨RJ1, "<init>", "(Ljava/lang/String;Ljava/lang/Throwable;ZZ)V"⟩
def dkwJ1_init_0 : List UInt8 := [42, 43, 44, 29, 21, 4, 183, 0, 16, 177]
abbrev dktJ1_init_0 : List UInt8 := dkwJ1_init_0 ++ []
theorem dksJ1_init_0 : cJ1_init.data.toList.drop 0 = dktJ1_init_0 := by decide +kernel
theorem dJ1_init_0 : decode cJ1_init 0 = .ok (.aload_n 0, 1) := dk_42 (dk_at dksJ1_init_0 0 rfl rfl)
theorem dJ1_init_1 : decode cJ1_init 1 = .ok (.aload_n 1, 1) := dk_43 (dk_at dksJ1_init_0 1 rfl rfl)
theorem dJ1_init_2 : decode cJ1_init 2 = .ok (.aload_n 2, 1) := dk_44 (dk_at dksJ1_init_0 2 rfl rfl)
theorem dJ1_init_3 : decode cJ1_init 3 = .ok (.iload_n 3, 1) := dk_29 (dk_at dksJ1_init_0 3 rfl rfl)
theorem dJ1_init_4 : decode cJ1_init 4 = .ok (.iload 4, 2) := dk_21 4 (dk_at dksJ1_init_0 4 rfl rfl)
theorem dJ1_init_6 : decode cJ1_init 6 = .ok (.invokespecial 16, 3) := dk_183 0 16 (dk_at dksJ1_init_0 6 rfl rfl)
theorem dJ1_init_9 : decode cJ1_init 9 = .ok (.return_, 1) := dk_177 (dk_at dksJ1_init_0 9 rfl rfl)
abbrev cJ1_init_2 : ByteArray := prog_27_method_1_code
def yJ1_init_2 : MethodName := ⟨RJ1, "<init>", "()V"⟩
theorem dJ1_init_2_0 : decode cJ1_init_2 0 = .ok (.aload_n 0, 1) := by decide +kernel
theorem dJ1_init_2_1 : decode cJ1_init_2 1 = .ok (.invokespecial 1, 3) := by decide +kernel
theorem dJ1_init_2_4 : decode cJ1_init_2 4 = .ok (.return_, 1) := by decide +kernel
theorem q105 : (Jvm.Cond.initialized "java/lang/Exception") ∈ lw_all := lw_g (lw_at lw_m1 3 rfl) rfl
theorem q146 : (Jvm.Cond.declares ({ cls := "java/lang/Exception", name := "<init>", desc := "()V" } : Jvm.MethodName)) ∈ lw_tbl := lw_at lw_m1 44 rfl
theorem q147 : (Jvm.Cond.declares ({ cls := "java/lang/Exception", name := "<init>", desc := "(Ljava/lang/String;)V" } : Jvm.MethodName)) ∈ lw_tbl := lw_at lw_m1 45 rfl
theorem q185 : (Jvm.Cond.instanceMethod ({ cls := "java/lang/Exception", name := "<init>", desc := "(Ljava/lang/String;Ljava/lang/Throwable;ZZ)V" } : Jvm.MethodName)) ∈ lw_all := lw_g (lw_at lw_m1 83 rfl) rfl
theorem q186 : (Jvm.Cond.code ({ cls := "java/lang/Exception", name := "<init>", desc := "(Ljava/lang/String;Ljava/lang/Throwable;ZZ)V" } : Jvm.MethodName) prog_27_method_5_code (5 : Nat) (Option.none : Option Jvm.ClassFile.FieldType)) ∈ lw_all := lw_g (lw_at lw_m1 84 rfl) rfl
theorem q187 : (Jvm.Cond.methodLink "java/lang/Exception" (16 : Nat) ({ cls := "java/lang/Throwable", name := "<init>", desc := "(Ljava/lang/String;Ljava/lang/Throwable;ZZ)V" } : Jvm.MethodName)) ∈ lw_all := lw_g (lw_at lw_m1 85 rfl) rfl
theorem q1591 : (Jvm.Cond.instanceMethod ({ cls := "java/lang/Exception", name := "<init>", desc := "()V" } : Jvm.MethodName)) ∈ lw_all := lw_g (lw_at lw_m7 49 rfl) rfl
theorem q1592 : (Jvm.Cond.code ({ cls := "java/lang/Exception", name := "<init>", desc := "()V" } : Jvm.MethodName) prog_27_method_1_code (1 : Nat) (Option.none : Option Jvm.ClassFile.FieldType)) ∈ lw_all := lw_g (lw_at lw_m7 50 rfl) rfl
theorem q1593 : (Jvm.Cond.methodLink "java/lang/Exception" (1 : Nat) ({ cls := "java/lang/Throwable", name := "<init>", desc := "()V" } : Jvm.MethodName)) ∈ lw_all := lw_g (lw_at lw_m7 51 rfl) rfl
/-! java/lang/String -/
set_option maxRecDepth 100000
def RJ2 : String := "java/lang/String"
abbrev cJ2_length : ByteArray := prog_30_method_54_code
def yJ2_length : MethodName := ⟨RJ2, "length", "()I"⟩
def dkwJ2_length_0 : List UInt8 := [42, 180, 0, 9, 190, 42, 182, 1, 79, 122, 172]
abbrev dktJ2_length_0 : List UInt8 := dkwJ2_length_0 ++ []
theorem dksJ2_length_0 : cJ2_length.data.toList.drop 0 = dktJ2_length_0 := by decide +kernel
theorem dJ2_length_0 : decode cJ2_length 0 = .ok (.aload_n 0, 1) := dk_42 (dk_at dksJ2_length_0 0 rfl rfl)
theorem dJ2_length_1 : decode cJ2_length 1 = .ok (.getfield 9, 3) := dk_180 0 9 (dk_at dksJ2_length_0 1 rfl rfl)
theorem dJ2_length_4 : decode cJ2_length 4 = .ok (.arraylength, 1) := dk_190 (dk_at dksJ2_length_0 4 rfl rfl)
theorem dJ2_length_5 : decode cJ2_length 5 = .ok (.aload_n 0, 1) := dk_42 (dk_at dksJ2_length_0 5 rfl rfl)
theorem dJ2_length_6 : decode cJ2_length 6 = .ok (.invokevirtual 335, 3) := dk_182 1 79 (dk_at dksJ2_length_0 6 rfl rfl)
theorem dJ2_length_9 : decode cJ2_length 9 = .ok (.ishr, 1) := dk_122 (dk_at dksJ2_length_0 9 rfl rfl)
theorem dJ2_length_10 : decode cJ2_length 10 = .ok (.ireturn, 1) := dk_172 (dk_at dksJ2_length_0 10 rfl rfl)
abbrev cJ2_coder : ByteArray := prog_30_method_152_code
def yJ2_coder : MethodName := ⟨RJ2, "coder", "()B"⟩
def dkwJ2_coder_0 : List UInt8 := [178, 0, 38, 153, 0, 10, 42, 180, 0, 15, 167, 0, 4, 4, 172]
abbrev dktJ2_coder_0 : List UInt8 := dkwJ2_coder_0 ++ []
theorem dksJ2_coder_0 : cJ2_coder.data.toList.drop 0 = dktJ2_coder_0 := by decide +kernel
theorem dJ2_coder_0 : decode cJ2_coder 0 = .ok (.getstatic 38, 3) := dk_178 0 38 (dk_at dksJ2_coder_0 0 rfl rfl)
theorem dJ2_coder_3 : decode cJ2_coder 3 = .ok (.ifCond .eq 10, 3) := dk_153 0 10 (dk_at dksJ2_coder_0 3 rfl rfl)
theorem dJ2_coder_6 : decode cJ2_coder 6 = .ok (.aload_n 0, 1) := dk_42 (dk_at dksJ2_coder_0 6 rfl rfl)
theorem dJ2_coder_7 : decode cJ2_coder 7 = .ok (.getfield 15, 3) := dk_180 0 15 (dk_at dksJ2_coder_0 7 rfl rfl)
theorem dJ2_coder_10 : decode cJ2_coder 10 = .ok (.goto 4, 3) := dk_167 0 4 (dk_at dksJ2_coder_0 10 rfl rfl)
theorem dJ2_coder_13 : decode cJ2_coder 13 = .ok (.iconst 1, 1) := dk_4 (dk_at dksJ2_coder_0 13 rfl rfl)
theorem dJ2_coder_14 : decode cJ2_coder 14 = .ok (.ireturn, 1) := dk_172 (dk_at dksJ2_coder_0 14 rfl rfl)
abbrev cJ2_charAt : ByteArray := prog_30_method_56_code
def yJ2_charAt : MethodName := ⟨RJ2, "charAt", "(I)C"⟩
def dkwJ2_charAt_1 : List UInt8 := [172]
abbrev dktJ2_charAt_1 : List UInt8 := dkwJ2_charAt_1 ++ []
def dkwJ2_charAt_0 : List UInt8 := [42, 182, 1, 236, 153, 0, 12, 42, 180, 0, 9, 27, 184, 1, 239, 172, 42, 180, 0, 9, 27, 184, 1, 242]
abbrev dktJ2_charAt_0 : List UInt8 := dkwJ2_charAt_0 ++ dktJ2_charAt_1
theorem dksJ2_charAt_0 : cJ2_charAt.data.toList.drop 0 = dktJ2_charAt_0 := by decide +kernel
theorem dksJ2_charAt_1 : cJ2_charAt.data.toList.drop 24 = dktJ2_charAt_1 := dk_seg dksJ2_charAt_0 24 rfl rfl
theorem dJ2_charAt_0 : decode cJ2_charAt 0 = .ok (.aload_n 0, 1) := dk_42 (dk_at dksJ2_charAt_0 0 rfl rfl)
theorem dJ2_charAt_1 : decode cJ2_charAt 1 = .ok (.invokevirtual 492, 3) := dk_182 1 236 (dk_at dksJ2_charAt_0 1 rfl rfl)
theorem dJ2_charAt_4 : decode cJ2_charAt 4 = .ok (.ifCond .eq 12, 3) := dk_153 0 12 (dk_at dksJ2_charAt_0 4 rfl rfl)
theorem dJ2_charAt_7 : decode cJ2_charAt 7 = .ok (.aload_n 0, 1) := dk_42 (dk_at dksJ2_charAt_0 7 rfl rfl)
theorem dJ2_charAt_8 : decode cJ2_charAt 8 = .ok (.getfield 9, 3) := dk_180 0 9 (dk_at dksJ2_charAt_0 8 rfl rfl)
theorem dJ2_charAt_11 : decode cJ2_charAt 11 = .ok (.iload_n 1, 1) := dk_27 (dk_at dksJ2_charAt_0 11 rfl rfl)
theorem dJ2_charAt_12 : decode cJ2_charAt 12 = .ok (.invokestatic 495, 3) := dk_184 1 239 (dk_at dksJ2_charAt_0 12 rfl rfl)
theorem dJ2_charAt_15 : decode cJ2_charAt 15 = .ok (.ireturn, 1) := dk_172 (dk_at dksJ2_charAt_0 15 rfl rfl)
theorem dJ2_charAt_16 : decode cJ2_charAt 16 = .ok (.aload_n 0, 1) := dk_42 (dk_at dksJ2_charAt_0 16 rfl rfl)
theorem dJ2_charAt_17 : decode cJ2_charAt 17 = .ok (.getfield 9, 3) := dk_180 0 9 (dk_at dksJ2_charAt_0 17 rfl rfl)
theorem dJ2_charAt_20 : decode cJ2_charAt 20 = .ok (.iload_n 1, 1) := dk_27 (dk_at dksJ2_charAt_0 20 rfl rfl)
theorem dJ2_charAt_21 : decode cJ2_charAt 21 = .ok (.invokestatic 498, 3) := dk_184 1 242 (dk_at dksJ2_charAt_0 21 rfl rfl)
theorem dJ2_charAt_24 : decode cJ2_charAt 24 = .ok (.ireturn, 1) := dk_172 (dk_at dksJ2_charAt_1 0 rfl rfl)
abbrev cJ2_isLatin1 : ByteArray := prog_30_method_154_code
def yJ2_isLatin1 : MethodName := ⟨RJ2, "isLatin1", "()Z"⟩
def dkwJ2_isLatin1_0 : List UInt8 := [178, 0, 38, 153, 0, 14, 42, 180, 0, 15, 154, 0, 7, 4, 167, 0, 4, 3, 172]
abbrev dktJ2_isLatin1_0 : List UInt8 := dkwJ2_isLatin1_0 ++ []
theorem dksJ2_isLatin1_0 : cJ2_isLatin1.data.toList.drop 0 = dktJ2_isLatin1_0 := by decide +kernel
theorem dJ2_isLatin1_0 : decode cJ2_isLatin1 0 = .ok (.getstatic 38, 3) := dk_178 0 38 (dk_at dksJ2_isLatin1_0 0 rfl rfl)
theorem dJ2_isLatin1_3 : decode cJ2_isLatin1 3 = .ok (.ifCond .eq 14, 3) := dk_153 0 14 (dk_at dksJ2_isLatin1_0 3 rfl rfl)
theorem dJ2_isLatin1_6 : decode cJ2_isLatin1 6 = .ok (.aload_n 0, 1) := dk_42 (dk_at dksJ2_isLatin1_0 6 rfl rfl)
theorem dJ2_isLatin1_7 : decode cJ2_isLatin1 7 = .ok (.getfield 15, 3) := dk_180 0 15 (dk_at dksJ2_isLatin1_0 7 rfl rfl)
theorem dJ2_isLatin1_10 : decode cJ2_isLatin1 10 = .ok (.ifCond .ne 7, 3) := dk_154 0 7 (dk_at dksJ2_isLatin1_0 10 rfl rfl)
theorem dJ2_isLatin1_13 : decode cJ2_isLatin1 13 = .ok (.iconst 1, 1) := dk_4 (dk_at dksJ2_isLatin1_0 13 rfl rfl)
theorem dJ2_isLatin1_14 : decode cJ2_isLatin1 14 = .ok (.goto 4, 3) := dk_167 0 4 (dk_at dksJ2_isLatin1_0 14 rfl rfl)
theorem dJ2_isLatin1_17 : decode cJ2_isLatin1 17 = .ok (.iconst 0, 1) := dk_3 (dk_at dksJ2_isLatin1_0 17 rfl rfl)
theorem dJ2_isLatin1_18 : decode cJ2_isLatin1 18 = .ok (.ireturn, 1) := dk_172 (dk_at dksJ2_isLatin1_0 18 rfl rfl)
abbrev cJ2_checkIndex : ByteArray := prog_30_method_155_code
def yJ2_checkIndex : MethodName := ⟨RJ2, "checkIndex", "(II)V"⟩
def dkwJ2_checkIndex_0 : List UInt8 := [26, 27, 178, 4, 29, 184, 4, 35, 87, 177]
abbrev dktJ2_checkIndex_0 : List UInt8 := dkwJ2_checkIndex_0 ++ []
theorem dksJ2_checkIndex_0 : cJ2_checkIndex.data.toList.drop 0 = dktJ2_checkIndex_0 := by decide +kernel
theorem dJ2_checkIndex_0 : decode cJ2_checkIndex 0 = .ok (.iload_n 0, 1) := dk_26 (dk_at dksJ2_checkIndex_0 0 rfl rfl)
theorem dJ2_checkIndex_1 : decode cJ2_checkIndex 1 = .ok (.iload_n 1, 1) := dk_27 (dk_at dksJ2_checkIndex_0 1 rfl rfl)
theorem dJ2_checkIndex_2 : decode cJ2_checkIndex 2 = .ok (.getstatic 1053, 3) := dk_178 4 29 (dk_at dksJ2_checkIndex_0 2 rfl rfl)
theorem dJ2_checkIndex_5 : decode cJ2_checkIndex 5 = .ok (.invokestatic 1059, 3) := dk_184 4 35 (dk_at dksJ2_checkIndex_0 5 rfl rfl)
theorem dJ2_checkIndex_8 : decode cJ2_checkIndex 8 = .ok (.pop, 1) := dk_87 (dk_at dksJ2_checkIndex_0 8 rfl rfl)
theorem dJ2_checkIndex_9 : decode cJ2_checkIndex 9 = .ok (.return_, 1) := dk_177 (dk_at dksJ2_checkIndex_0 9 rfl rfl)
theorem q119 : (Jvm.Cond.initialized "java/lang/String") ∈ lw_all := lw_g (lw_at lw_m1 17 rfl) rfl
theorem q885 : (Jvm.Cond.instanceMethod ({ cls := "java/lang/String", name := "length", desc := "()I" } : Jvm.MethodName)) ∈ lw_all := lw_g (lw_at lw_m4 63 rfl) rfl
theorem q886 : (Jvm.Cond.selects "java/lang/String" ({ cls := "java/lang/String", name := "length", desc := "()I" } : Jvm.MethodName) ({ cls := "java/lang/String", name := "length", desc := "()I" } : Jvm.MethodName)) ∈ lw_all := lw_g (lw_at lw_m4 64 rfl) rfl
theorem q887 : (Jvm.Cond.code ({ cls := "java/lang/String", name := "length", desc := "()I" } : Jvm.MethodName) prog_30_method_54_code (1 : Nat) (Option.some Jvm.ClassFile.FieldType.int)) ∈ lw_all := lw_g (lw_at lw_m4 65 rfl) rfl
theorem q888 : (Jvm.Cond.methodLink "java/lang/String" (335 : Nat) ({ cls := "java/lang/String", name := "coder", desc := "()B" } : Jvm.MethodName)) ∈ lw_all := lw_g (lw_at lw_m4 66 rfl) rfl
theorem q889 : (Jvm.Cond.instanceMethod ({ cls := "java/lang/String", name := "coder", desc := "()B" } : Jvm.MethodName)) ∈ lw_all := lw_g (lw_at lw_m4 67 rfl) rfl
theorem q890 : (Jvm.Cond.selects "java/lang/String" ({ cls := "java/lang/String", name := "coder", desc := "()B" } : Jvm.MethodName) ({ cls := "java/lang/String", name := "coder", desc := "()B" } : Jvm.MethodName)) ∈ lw_all := lw_g (lw_at lw_m4 68 rfl) rfl
theorem q891 : (Jvm.Cond.code ({ cls := "java/lang/String", name := "coder", desc := "()B" } : Jvm.MethodName) prog_30_method_152_code (1 : Nat) (Option.some Jvm.ClassFile.FieldType.byte)) ∈ lw_all := lw_g (lw_at lw_m4 69 rfl) rfl
theorem q892 : (Jvm.Cond.fieldLink "java/lang/String" (38 : Nat) "java/lang/String" "COMPACT_STRINGS" "Z") ∈ lw_all := lw_g (lw_at lw_m4 70 rfl) rfl
theorem q893 : (Jvm.Cond.laysStatic "java/lang/String" "COMPACT_STRINGS" "Z") ∈ lw_tbl := lw_at lw_m4 71 rfl
theorem q895 : (Jvm.Cond.instanceMethod ({ cls := "java/lang/String", name := "charAt", desc := "(I)C" } : Jvm.MethodName)) ∈ lw_all := lw_g (lw_at lw_m4 73 rfl) rfl
theorem q896 : (Jvm.Cond.selects "java/lang/String" ({ cls := "java/lang/String", name := "charAt", desc := "(I)C" } : Jvm.MethodName) ({ cls := "java/lang/String", name := "charAt", desc := "(I)C" } : Jvm.MethodName)) ∈ lw_all := lw_g (lw_at lw_m4 74 rfl) rfl
theorem q897 : (Jvm.Cond.code ({ cls := "java/lang/String", name := "charAt", desc := "(I)C" } : Jvm.MethodName) prog_30_method_56_code (2 : Nat) (Option.some Jvm.ClassFile.FieldType.char)) ∈ lw_all := lw_g (lw_at lw_m4 75 rfl) rfl
theorem q898 : (Jvm.Cond.methodLink "java/lang/String" (492 : Nat) ({ cls := "java/lang/String", name := "isLatin1", desc := "()Z" } : Jvm.MethodName)) ∈ lw_all := lw_g (lw_at lw_m4 76 rfl) rfl
theorem q899 : (Jvm.Cond.instanceMethod ({ cls := "java/lang/String", name := "isLatin1", desc := "()Z" } : Jvm.MethodName)) ∈ lw_all := lw_g (lw_at lw_m4 77 rfl) rfl
theorem q900 : (Jvm.Cond.selects "java/lang/String" ({ cls := "java/lang/String", name := "isLatin1", desc := "()Z" } : Jvm.MethodName) ({ cls := "java/lang/String", name := "isLatin1", desc := "()Z" } : Jvm.MethodName)) ∈ lw_all := lw_g (lw_at lw_m4 78 rfl) rfl
theorem q901 : (Jvm.Cond.code ({ cls := "java/lang/String", name := "isLatin1", desc := "()Z" } : Jvm.MethodName) prog_30_method_154_code (1 : Nat) (Option.some Jvm.ClassFile.FieldType.boolean)) ∈ lw_all := lw_g (lw_at lw_m4 79 rfl) rfl
theorem q902 : (Jvm.Cond.methodLink "java/lang/String" (495 : Nat) ({ cls := "java/lang/StringLatin1", name := "charAt", desc := "([BI)C" } : Jvm.MethodName)) ∈ lw_all := lw_g (lw_at lw_m4 80 rfl) rfl
theorem q906 : (Jvm.Cond.static ({ cls := "java/lang/String", name := "checkIndex", desc := "(II)V" } : Jvm.MethodName)) ∈ lw_all := lw_g (lw_at lw_m4 84 rfl) rfl
theorem q907 : (Jvm.Cond.code ({ cls := "java/lang/String", name := "checkIndex", desc := "(II)V" } : Jvm.MethodName) prog_30_method_155_code (2 : Nat) (Option.none : Option Jvm.ClassFile.FieldType)) ∈ lw_all := lw_g (lw_at lw_m4 85 rfl) rfl
theorem q908 : (Jvm.Cond.fieldLink "java/lang/String" (1053 : Nat) "jdk/internal/util/Preconditions" "SIOOBE_FORMATTER" "Ljava/util/function/BiFunction;") ∈ lw_all := lw_g (lw_at lw_m4 86 rfl) rfl
theorem q910 : (Jvm.Cond.methodLink "java/lang/String" (1059 : Nat) ({ cls := "jdk/internal/util/Preconditions", name := "checkIndex", desc := "(IILjava/util/function/BiFunction;)I" } : Jvm.MethodName)) ∈ lw_all := lw_g (lw_at lw_m4 88 rfl) rfl
theorem q913 : (Jvm.Cond.methodLink "java/lang/String" (498 : Nat) ({ cls := "java/lang/StringUTF16", name := "charAt", desc := "([BI)C" } : Jvm.MethodName)) ∈ lw_all := lw_g (lw_at lw_m4 91 rfl) rfl
theorem q2369 : (Jvm.Cond.castable "java/lang/String" "java/lang/Object") ∈ lw_tbl := lw_at lw_m10 107 rfl
theorem q2370 : (Jvm.Cond.fieldLink "java/lang/String" (9 : Nat) "java/lang/String" "value" "[B") ∈ lw_all := lw_g (lw_at lw_m10 108 rfl) rfl
theorem q2371 : (Jvm.Cond.fieldLink "java/lang/String" (15 : Nat) "java/lang/String" "coder" "B") ∈ lw_all := lw_g (lw_at lw_m10 109 rfl) rfl
/-! java/lang/StringLatin1 -/
set_option maxRecDepth 100000
def RJ3 : String := "java/lang/StringLatin1"
abbrev cJ3_charAt : ByteArray := prog_31_method_2_code
def yJ3_charAt : MethodName := ⟨RJ3, "charAt", "([BI)C"⟩
def dkwJ3_charAt_0 : List UInt8 := [27, 42, 190, 184, 0, 9, 42, 27, 51, 17, 0, 255, 126, 146, 172]
abbrev dktJ3_charAt_0 : List UInt8 := dkwJ3_charAt_0 ++ []
theorem dksJ3_charAt_0 : cJ3_charAt.data.toList.drop 0 = dktJ3_charAt_0 := by decide +kernel
theorem dJ3_charAt_0 : decode cJ3_charAt 0 = .ok (.iload_n 1, 1) := dk_27 (dk_at dksJ3_charAt_0 0 rfl rfl)
theorem dJ3_charAt_1 : decode cJ3_charAt 1 = .ok (.aload_n 0, 1) := dk_42 (dk_at dksJ3_charAt_0 1 rfl rfl)
theorem dJ3_charAt_2 : decode cJ3_charAt 2 = .ok (.arraylength, 1) := dk_190 (dk_at dksJ3_charAt_0 2 rfl rfl)
theorem dJ3_charAt_3 : decode cJ3_charAt 3 = .ok (.invokestatic 9, 3) := dk_184 0 9 (dk_at dksJ3_charAt_0 3 rfl rfl)
theorem dJ3_charAt_6 : decode cJ3_charAt 6 = .ok (.aload_n 0, 1) := dk_42 (dk_at dksJ3_charAt_0 6 rfl rfl)
theorem dJ3_charAt_7 : decode cJ3_charAt 7 = .ok (.iload_n 1, 1) := dk_27 (dk_at dksJ3_charAt_0 7 rfl rfl)
theorem dJ3_charAt_8 : decode cJ3_charAt 8 = .ok (.baload, 1) := dk_51 (dk_at dksJ3_charAt_0 8 rfl rfl)
theorem dJ3_charAt_9 : decode cJ3_charAt 9 = .ok (.sipush 255, 3) := dk_17 0 255 (dk_at dksJ3_charAt_0 9 rfl rfl)
theorem dJ3_charAt_12 : decode cJ3_charAt 12 = .ok (.iand, 1) := dk_126 (dk_at dksJ3_charAt_0 12 rfl rfl)
theorem dJ3_charAt_13 : decode cJ3_charAt 13 = .ok (.i2c, 1) := dk_146 (dk_at dksJ3_charAt_0 13 rfl rfl)
theorem dJ3_charAt_14 : decode cJ3_charAt 14 = .ok (.ireturn, 1) := dk_172 (dk_at dksJ3_charAt_0 14 rfl rfl)
theorem q120 : (Jvm.Cond.initialized "java/lang/StringLatin1") ∈ lw_all := lw_g (lw_at lw_m1 18 rfl) rfl
theorem q903 : (Jvm.Cond.static ({ cls := "java/lang/StringLatin1", name := "charAt", desc := "([BI)C" } : Jvm.MethodName)) ∈ lw_all := lw_g (lw_at lw_m4 81 rfl) rfl
theorem q904 : (Jvm.Cond.code ({ cls := "java/lang/StringLatin1", name := "charAt", desc := "([BI)C" } : Jvm.MethodName) prog_31_method_2_code (2 : Nat) (Option.some Jvm.ClassFile.FieldType.char)) ∈ lw_all := lw_g (lw_at lw_m4 82 rfl) rfl
theorem q905 : (Jvm.Cond.methodLink "java/lang/StringLatin1" (9 : Nat) ({ cls := "java/lang/String", name := "checkIndex", desc := "(II)V" } : Jvm.MethodName)) ∈ lw_all := lw_g (lw_at lw_m4 83 rfl) rfl
/-! jdk/internal/util/Preconditions -/
set_option maxRecDepth 100000
def RJ4 : String := "jdk/internal/util/Preconditions"
abbrev cJ4_checkIndex : ByteArray := prog_38_method_11_code
def yJ4_checkIndex : MethodName := ⟨RJ4, "checkIndex", "(IILjava/util/function/BiFunction;)I"⟩
def dkwJ4_checkIndex_0 : List UInt8 := [26, 155, 0, 8, 26, 27, 161, 0, 10, 44, 26, 27, 184, 0, 95, 191, 26, 172]
abbrev dktJ4_checkIndex_0 : List UInt8 := dkwJ4_checkIndex_0 ++ []
theorem dksJ4_checkIndex_0 : cJ4_checkIndex.data.toList.drop 0 = dktJ4_checkIndex_0 := by decide +kernel
theorem dJ4_checkIndex_0 : decode cJ4_checkIndex 0 = .ok (.iload_n 0, 1) := dk_26 (dk_at dksJ4_checkIndex_0 0 rfl rfl)
theorem dJ4_checkIndex_1 : decode cJ4_checkIndex 1 = .ok (.ifCond .lt 8, 3) := dk_155 0 8 (dk_at dksJ4_checkIndex_0 1 rfl rfl)
theorem dJ4_checkIndex_4 : decode cJ4_checkIndex 4 = .ok (.iload_n 0, 1) := dk_26 (dk_at dksJ4_checkIndex_0 4 rfl rfl)
theorem dJ4_checkIndex_5 : decode cJ4_checkIndex 5 = .ok (.iload_n 1, 1) := dk_27 (dk_at dksJ4_checkIndex_0 5 rfl rfl)
theorem dJ4_checkIndex_6 : decode cJ4_checkIndex 6 = .ok (.if_icmp .lt 10, 3) := dk_161 0 10 (dk_at dksJ4_checkIndex_0 6 rfl rfl)
theorem dJ4_checkIndex_9 : decode cJ4_checkIndex 9 = .ok (.aload_n 2, 1) := dk_44 (dk_at dksJ4_checkIndex_0 9 rfl rfl)
theorem dJ4_checkIndex_10 : decode cJ4_checkIndex 10 = .ok (.iload_n 0, 1) := dk_26 (dk_at dksJ4_checkIndex_0 10 rfl rfl)
theorem dJ4_checkIndex_11 : decode cJ4_checkIndex 11 = .ok (.iload_n 1, 1) := dk_27 (dk_at dksJ4_checkIndex_0 11 rfl rfl)
theorem dJ4_checkIndex_12 : decode cJ4_checkIndex 12 = .ok (.invokestatic 95, 3) := dk_184 0 95 (dk_at dksJ4_checkIndex_0 12 rfl rfl)
theorem dJ4_checkIndex_15 : decode cJ4_checkIndex 15 = .ok (.athrow, 1) := dk_191 (dk_at dksJ4_checkIndex_0 15 rfl rfl)
theorem dJ4_checkIndex_16 : decode cJ4_checkIndex 16 = .ok (.iload_n 0, 1) := dk_26 (dk_at dksJ4_checkIndex_0 16 rfl rfl)
theorem dJ4_checkIndex_17 : decode cJ4_checkIndex 17 = .ok (.ireturn, 1) := dk_172 (dk_at dksJ4_checkIndex_0 17 rfl rfl)
theorem q121 : (Jvm.Cond.initialized "jdk/internal/util/Preconditions") ∈ lw_all := lw_g (lw_at lw_m1 19 rfl) rfl
theorem q909 : (Jvm.Cond.laysStatic "jdk/internal/util/Preconditions" "SIOOBE_FORMATTER" "Ljava/util/function/BiFunction;") ∈ lw_tbl := lw_at lw_m4 87 rfl
theorem q911 : (Jvm.Cond.static ({ cls := "jdk/internal/util/Preconditions", name := "checkIndex", desc := "(IILjava/util/function/BiFunction;)I" } : Jvm.MethodName)) ∈ lw_all := lw_g (lw_at lw_m4 89 rfl) rfl
theorem q912 : (Jvm.Cond.code ({ cls := "jdk/internal/util/Preconditions", name := "checkIndex", desc := "(IILjava/util/function/BiFunction;)I" } : Jvm.MethodName) prog_38_method_11_code (3 : Nat) (Option.some Jvm.ClassFile.FieldType.int)) ∈ lw_all := lw_g (lw_at lw_m4 90 rfl) rfl
/-! java/lang/StringUTF16 -/
set_option maxRecDepth 100000
def RJ5 : String := "java/lang/StringUTF16"
abbrev cJ5_charAt : ByteArray := prog_32_method_83_code
def yJ5_charAt : MethodName := ⟨RJ5, "charAt", "([BI)C"⟩
def dkwJ5_charAt_0 : List UInt8 := [27, 42, 184, 0, 67, 42, 27, 184, 0, 71, 172]
abbrev dktJ5_charAt_0 : List UInt8 := dkwJ5_charAt_0 ++ []
theorem dksJ5_charAt_0 : cJ5_charAt.data.toList.drop 0 = dktJ5_charAt_0 := by decide +kernel
theorem dJ5_charAt_0 : decode cJ5_charAt 0 = .ok (.iload_n 1, 1) := dk_27 (dk_at dksJ5_charAt_0 0 rfl rfl)
theorem dJ5_charAt_1 : decode cJ5_charAt 1 = .ok (.aload_n 0, 1) := dk_42 (dk_at dksJ5_charAt_0 1 rfl rfl)
theorem dJ5_charAt_2 : decode cJ5_charAt 2 = .ok (.invokestatic 67, 3) := dk_184 0 67 (dk_at dksJ5_charAt_0 2 rfl rfl)
theorem dJ5_charAt_5 : decode cJ5_charAt 5 = .ok (.aload_n 0, 1) := dk_42 (dk_at dksJ5_charAt_0 5 rfl rfl)
theorem dJ5_charAt_6 : decode cJ5_charAt 6 = .ok (.iload_n 1, 1) := dk_27 (dk_at dksJ5_charAt_0 6 rfl rfl)
theorem dJ5_charAt_7 : decode cJ5_charAt 7 = .ok (.invokestatic 71, 3) := dk_184 0 71 (dk_at dksJ5_charAt_0 7 rfl rfl)
theorem dJ5_charAt_10 : decode cJ5_charAt 10 = .ok (.ireturn, 1) := dk_172 (dk_at dksJ5_charAt_0 10 rfl rfl)
abbrev cJ5_checkIndex : ByteArray := prog_32_method_91_code
def yJ5_checkIndex : MethodName := ⟨RJ5, "checkIndex", "(I[B)V"⟩
def dkwJ5_checkIndex_0 : List UInt8 := [26, 43, 184, 0, 48, 184, 1, 158, 177]
abbrev dktJ5_checkIndex_0 : List UInt8 := dkwJ5_checkIndex_0 ++ []
theorem dksJ5_checkIndex_0 : cJ5_checkIndex.data.toList.drop 0 = dktJ5_checkIndex_0 := by decide +kernel
theorem dJ5_checkIndex_0 : decode cJ5_checkIndex 0 = .ok (.iload_n 0, 1) := dk_26 (dk_at dksJ5_checkIndex_0 0 rfl rfl)
theorem dJ5_checkIndex_1 : decode cJ5_checkIndex 1 = .ok (.aload_n 1, 1) := dk_43 (dk_at dksJ5_checkIndex_0 1 rfl rfl)
theorem dJ5_checkIndex_2 : decode cJ5_checkIndex 2 = .ok (.invokestatic 48, 3) := dk_184 0 48 (dk_at dksJ5_checkIndex_0 2 rfl rfl)
theorem dJ5_checkIndex_5 : decode cJ5_checkIndex 5 = .ok (.invokestatic 414, 3) := dk_184 1 158 (dk_at dksJ5_checkIndex_0 5 rfl rfl)
theorem dJ5_checkIndex_8 : decode cJ5_checkIndex 8 = .ok (.return_, 1) := dk_177 (dk_at dksJ5_checkIndex_0 8 rfl rfl)
abbrev cJ5_length : ByteArray := prog_32_method_6_code
def yJ5_length : MethodName := ⟨RJ5, "length", "([B)I"⟩
def dkwJ5_length_0 : List UInt8 := [42, 190, 4, 122, 172]
abbrev dktJ5_length_0 : List UInt8 := dkwJ5_length_0 ++ []
theorem dksJ5_length_0 : cJ5_length.data.toList.drop 0 = dktJ5_length_0 := by decide +kernel
theorem dJ5_length_0 : decode cJ5_length 0 = .ok (.aload_n 0, 1) := dk_42 (dk_at dksJ5_length_0 0 rfl rfl)
theorem dJ5_length_1 : decode cJ5_length 1 = .ok (.arraylength, 1) := dk_190 (dk_at dksJ5_length_0 1 rfl rfl)
theorem dJ5_length_2 : decode cJ5_length 2 = .ok (.iconst 1, 1) := dk_4 (dk_at dksJ5_length_0 2 rfl rfl)
theorem dJ5_length_3 : decode cJ5_length 3 = .ok (.ishr, 1) := dk_122 (dk_at dksJ5_length_0 3 rfl rfl)
theorem dJ5_length_4 : decode cJ5_length 4 = .ok (.ireturn, 1) := dk_172 (dk_at dksJ5_length_0 4 rfl rfl)
abbrev cJ5_getChar : ByteArray := prog_32_method_5_code
def yJ5_getChar : MethodName := ⟨RJ5, "getChar", "([BI)C"⟩
def dkwJ5_getChar_2 : List UInt8 := [51, 17, 0, 255, 126, 178, 0, 63, 120, 128, 146, 172]
abbrev dktJ5_getChar_2 : List UInt8 := dkwJ5_getChar_2 ++ []
def dkwJ5_getChar_1 : List UInt8 := [183, 0, 56, 191, 27, 4, 120, 60, 42, 27, 132, 1, 1, 51, 17, 0, 255, 126, 178, 0, 59, 120, 42, 27]
abbrev dktJ5_getChar_1 : List UInt8 := dkwJ5_getChar_1 ++ dktJ5_getChar_2
def dkwJ5_getChar_0 : List UInt8 := [178, 0, 44, 154, 0, 25, 27, 155, 0, 11, 27, 42, 184, 0, 48, 161, 0, 13, 187, 0, 52, 89, 18, 54]
abbrev dktJ5_getChar_0 : List UInt8 := dkwJ5_getChar_0 ++ dktJ5_getChar_1
theorem dksJ5_getChar_0 : cJ5_getChar.data.toList.drop 0 = dktJ5_getChar_0 := by decide +kernel
theorem dksJ5_getChar_1 : cJ5_getChar.data.toList.drop 24 = dktJ5_getChar_1 := dk_seg dksJ5_getChar_0 24 rfl rfl
theorem dksJ5_getChar_2 : cJ5_getChar.data.toList.drop 48 = dktJ5_getChar_2 := dk_seg dksJ5_getChar_1 24 rfl rfl
theorem dJ5_getChar_0 : decode cJ5_getChar 0 = .ok (.getstatic 44, 3) := dk_178 0 44 (dk_at dksJ5_getChar_0 0 rfl rfl)
theorem dJ5_getChar_3 : decode cJ5_getChar 3 = .ok (.ifCond .ne 25, 3) := dk_154 0 25 (dk_at dksJ5_getChar_0 3 rfl rfl)
theorem dJ5_getChar_6 : decode cJ5_getChar 6 = .ok (.iload_n 1, 1) := dk_27 (dk_at dksJ5_getChar_0 6 rfl rfl)
theorem dJ5_getChar_7 : decode cJ5_getChar 7 = .ok (.ifCond .lt 11, 3) := dk_155 0 11 (dk_at dksJ5_getChar_0 7 rfl rfl)
theorem dJ5_getChar_10 : decode cJ5_getChar 10 = .ok (.iload_n 1, 1) := dk_27 (dk_at dksJ5_getChar_0 10 rfl rfl)
theorem dJ5_getChar_11 : decode cJ5_getChar 11 = .ok (.aload_n 0, 1) := dk_42 (dk_at dksJ5_getChar_0 11 rfl rfl)
theorem dJ5_getChar_12 : decode cJ5_getChar 12 = .ok (.invokestatic 48, 3) := dk_184 0 48 (dk_at dksJ5_getChar_0 12 rfl rfl)
theorem dJ5_getChar_15 : decode cJ5_getChar 15 = .ok (.if_icmp .lt 13, 3) := dk_161 0 13 (dk_at dksJ5_getChar_0 15 rfl rfl)
theorem dJ5_getChar_18 : decode cJ5_getChar 18 = .ok (.new 52, 3) := dk_187 0 52 (dk_at dksJ5_getChar_0 18 rfl rfl)
theorem dJ5_getChar_21 : decode cJ5_getChar 21 = .ok (.dup, 1) := dk_89 (dk_at dksJ5_getChar_0 21 rfl rfl)
theorem dJ5_getChar_22 : decode cJ5_getChar 22 = .ok (.ldc 54, 2) := dk_18 54 (dk_at dksJ5_getChar_0 22 rfl rfl)
theorem dJ5_getChar_24 : decode cJ5_getChar 24 = .ok (.invokespecial 56, 3) := dk_183 0 56 (dk_at dksJ5_getChar_1 0 rfl rfl)
theorem dJ5_getChar_27 : decode cJ5_getChar 27 = .ok (.athrow, 1) := dk_191 (dk_at dksJ5_getChar_1 3 rfl rfl)
theorem dJ5_getChar_28 : decode cJ5_getChar 28 = .ok (.iload_n 1, 1) := dk_27 (dk_at dksJ5_getChar_1 4 rfl rfl)
theorem dJ5_getChar_29 : decode cJ5_getChar 29 = .ok (.iconst 1, 1) := dk_4 (dk_at dksJ5_getChar_1 5 rfl rfl)
theorem dJ5_getChar_30 : decode cJ5_getChar 30 = .ok (.ishl, 1) := dk_120 (dk_at dksJ5_getChar_1 6 rfl rfl)
theorem dJ5_getChar_31 : decode cJ5_getChar 31 = .ok (.istore_n 1, 1) := dk_60 (dk_at dksJ5_getChar_1 7 rfl rfl)
theorem dJ5_getChar_32 : decode cJ5_getChar 32 = .ok (.aload_n 0, 1) := dk_42 (dk_at dksJ5_getChar_1 8 rfl rfl)
theorem dJ5_getChar_33 : decode cJ5_getChar 33 = .ok (.iload_n 1, 1) := dk_27 (dk_at dksJ5_getChar_1 9 rfl rfl)
theorem dJ5_getChar_34 : decode cJ5_getChar 34 = .ok (.iinc 1 1, 3) := dk_132 1 1 (dk_at dksJ5_getChar_1 10 rfl rfl)
theorem dJ5_getChar_37 : decode cJ5_getChar 37 = .ok (.baload, 1) := dk_51 (dk_at dksJ5_getChar_1 13 rfl rfl)
theorem dJ5_getChar_38 : decode cJ5_getChar 38 = .ok (.sipush 255, 3) := dk_17 0 255 (dk_at dksJ5_getChar_1 14 rfl rfl)
theorem dJ5_getChar_41 : decode cJ5_getChar 41 = .ok (.iand, 1) := dk_126 (dk_at dksJ5_getChar_1 17 rfl rfl)
theorem dJ5_getChar_42 : decode cJ5_getChar 42 = .ok (.getstatic 59, 3) := dk_178 0 59 (dk_at dksJ5_getChar_1 18 rfl rfl)
theorem dJ5_getChar_45 : decode cJ5_getChar 45 = .ok (.ishl, 1) := dk_120 (dk_at dksJ5_getChar_1 21 rfl rfl)
theorem dJ5_getChar_46 : decode cJ5_getChar 46 = .ok (.aload_n 0, 1) := dk_42 (dk_at dksJ5_getChar_1 22 rfl rfl)
theorem dJ5_getChar_47 : decode cJ5_getChar 47 = .ok (.iload_n 1, 1) := dk_27 (dk_at dksJ5_getChar_1 23 rfl rfl)
theorem dJ5_getChar_48 : decode cJ5_getChar 48 = .ok (.baload, 1) := dk_51 (dk_at dksJ5_getChar_2 0 rfl rfl)
theorem dJ5_getChar_49 : decode cJ5_getChar 49 = .ok (.sipush 255, 3) := dk_17 0 255 (dk_at dksJ5_getChar_2 1 rfl rfl)
theorem dJ5_getChar_52 : decode cJ5_getChar 52 = .ok (.iand, 1) := dk_126 (dk_at dksJ5_getChar_2 4 rfl rfl)
theorem dJ5_getChar_53 : decode cJ5_getChar 53 = .ok (.getstatic 63, 3) := dk_178 0 63 (dk_at dksJ5_getChar_2 5 rfl rfl)
theorem dJ5_getChar_56 : decode cJ5_getChar 56 = .ok (.ishl, 1) := dk_120 (dk_at dksJ5_getChar_2 8 rfl rfl)
theorem dJ5_getChar_57 : decode cJ5_getChar 57 = .ok (.ior, 1) := dk_128 (dk_at dksJ5_getChar_2 9 rfl rfl)
theorem dJ5_getChar_58 : decode cJ5_getChar 58 = .ok (.i2c, 1) := dk_146 (dk_at dksJ5_getChar_2 10 rfl rfl)
theorem dJ5_getChar_59 : decode cJ5_getChar 59 = .ok (.ireturn, 1) := dk_172 (dk_at dksJ5_getChar_2 11 rfl rfl)
theorem q122 : (Jvm.Cond.initialized "java/lang/StringUTF16") ∈ lw_all := lw_g (lw_at lw_m1 20 rfl) rfl
theorem q914 : (Jvm.Cond.static ({ cls := "java/lang/StringUTF16", name := "charAt", desc := "([BI)C" } : Jvm.MethodName)) ∈ lw_all := lw_g (lw_at lw_m4 92 rfl) rfl
theorem q915 : (Jvm.Cond.code ({ cls := "java/lang/StringUTF16", name := "charAt", desc := "([BI)C" } : Jvm.MethodName) prog_32_method_83_code (2 : Nat) (Option.some Jvm.ClassFile.FieldType.char)) ∈ lw_all := lw_g (lw_at lw_m4 93 rfl) rfl
theorem q916 : (Jvm.Cond.methodLink "java/lang/StringUTF16" (67 : Nat) ({ cls := "java/lang/StringUTF16", name := "checkIndex", desc := "(I[B)V" } : Jvm.MethodName)) ∈ lw_all := lw_g (lw_at lw_m4 94 rfl) rfl
theorem q917 : (Jvm.Cond.static ({ cls := "java/lang/StringUTF16", name := "checkIndex", desc := "(I[B)V" } : Jvm.MethodName)) ∈ lw_all := lw_g (lw_at lw_m4 95 rfl) rfl
theorem q918 : (Jvm.Cond.code ({ cls := "java/lang/StringUTF16", name := "checkIndex", desc := "(I[B)V" } : Jvm.MethodName) prog_32_method_91_code (2 : Nat) (Option.none : Option Jvm.ClassFile.FieldType)) ∈ lw_all := lw_g (lw_at lw_m4 96 rfl) rfl
theorem q919 : (Jvm.Cond.methodLink "java/lang/StringUTF16" (48 : Nat) ({ cls := "java/lang/StringUTF16", name := "length", desc := "([B)I" } : Jvm.MethodName)) ∈ lw_all := lw_g (lw_at lw_m4 97 rfl) rfl
theorem q920 : (Jvm.Cond.static ({ cls := "java/lang/StringUTF16", name := "length", desc := "([B)I" } : Jvm.MethodName)) ∈ lw_all := lw_g (lw_at lw_m4 98 rfl) rfl
theorem q921 : (Jvm.Cond.code ({ cls := "java/lang/StringUTF16", name := "length", desc := "([B)I" } : Jvm.MethodName) prog_32_method_6_code (1 : Nat) (Option.some Jvm.ClassFile.FieldType.int)) ∈ lw_all := lw_g (lw_at lw_m4 99 rfl) rfl
theorem q922 : (Jvm.Cond.methodLink "java/lang/StringUTF16" (414 : Nat) ({ cls := "java/lang/String", name := "checkIndex", desc := "(II)V" } : Jvm.MethodName)) ∈ lw_all := lw_g (lw_at lw_m4 100 rfl) rfl
theorem q923 : (Jvm.Cond.methodLink "java/lang/StringUTF16" (71 : Nat) ({ cls := "java/lang/StringUTF16", name := "getChar", desc := "([BI)C" } : Jvm.MethodName)) ∈ lw_all := lw_g (lw_at lw_m4 101 rfl) rfl
theorem q924 : (Jvm.Cond.static ({ cls := "java/lang/StringUTF16", name := "getChar", desc := "([BI)C" } : Jvm.MethodName)) ∈ lw_all := lw_g (lw_at lw_m4 102 rfl) rfl
theorem q925 : (Jvm.Cond.code ({ cls := "java/lang/StringUTF16", name := "getChar", desc := "([BI)C" } : Jvm.MethodName) prog_32_method_5_code (2 : Nat) (Option.some Jvm.ClassFile.FieldType.char)) ∈ lw_all := lw_g (lw_at lw_m4 103 rfl) rfl
theorem q926 : (Jvm.Cond.fieldLink "java/lang/StringUTF16" (44 : Nat) "java/lang/StringUTF16" "$assertionsDisabled" "Z") ∈ lw_all := lw_g (lw_at lw_m4 104 rfl) rfl
theorem q927 : (Jvm.Cond.laysStatic "java/lang/StringUTF16" "$assertionsDisabled" "Z") ∈ lw_tbl := lw_at lw_m4 105 rfl
theorem q928 : (Jvm.Cond.fieldLink "java/lang/StringUTF16" (59 : Nat) "java/lang/StringUTF16" "HI_BYTE_SHIFT" "I") ∈ lw_all := lw_g (lw_at lw_m4 106 rfl) rfl
theorem q929 : (Jvm.Cond.laysStatic "java/lang/StringUTF16" "HI_BYTE_SHIFT" "I") ∈ lw_tbl := lw_at lw_m4 107 rfl
theorem q930 : (Jvm.Cond.fieldLink "java/lang/StringUTF16" (63 : Nat) "java/lang/StringUTF16" "LO_BYTE_SHIFT" "I") ∈ lw_all := lw_g (lw_at lw_m4 108 rfl) rfl
theorem q931 : (Jvm.Cond.laysStatic "java/lang/StringUTF16" "LO_BYTE_SHIFT" "I") ∈ lw_tbl := lw_at lw_m4 109 rfl
/-! java/lang/RuntimeException -/
set_option maxRecDepth 100000
def RJ6 : String := "java/lang/RuntimeException"
abbrev cJ6_init : ByteArray := prog_29_method_1_code
def yJ6_init : MethodName := ⟨RJ6, "<init>", "()V"⟩
theorem dJ6_init_0 : decode cJ6_init 0 = .ok (.aload_n 0, 1) := by decide +kernel
theorem dJ6_init_1 : decode cJ6_init 1 = .ok (.invokespecial 1, 3) := by decide +kernel
theorem dJ6_init_4 : decode cJ6_init 4 = .ok (.return_, 1) := by decide +kernel
theorem q124 : (Jvm.Cond.initialized "java/lang/RuntimeException") ∈ lw_all := lw_g (lw_at lw_m1 22 rfl) rfl
theorem q1576 : (Jvm.Cond.declares ({ cls := "java/lang/RuntimeException", name := "<init>", desc := "()V" } : Jvm.MethodName)) ∈ lw_tbl := lw_at lw_m7 34 rfl
theorem q1577 : (Jvm.Cond.declares ({ cls := "java/lang/RuntimeException", name := "<init>", desc := "(Ljava/lang/String;)V" } : Jvm.MethodName)) ∈ lw_tbl := lw_at lw_m7 35 rfl
theorem q1588 : (Jvm.Cond.instanceMethod ({ cls := "java/lang/RuntimeException", name := "<init>", desc := "()V" } : Jvm.MethodName)) ∈ lw_all := lw_g (lw_at lw_m7 46 rfl) rfl
theorem q1589 : (Jvm.Cond.code ({ cls := "java/lang/RuntimeException", name := "<init>", desc := "()V" } : Jvm.MethodName) prog_29_method_1_code (1 : Nat) (Option.none : Option Jvm.ClassFile.FieldType)) ∈ lw_all := lw_g (lw_at lw_m7 47 rfl) rfl
theorem q1590 : (Jvm.Cond.methodLink "java/lang/RuntimeException" (1 : Nat) ({ cls := "java/lang/Exception", name := "<init>", desc := "()V" } : Jvm.MethodName)) ∈ lw_all := lw_g (lw_at lw_m7 48 rfl) rfl
/-! java/util/NoSuchElementException -/
set_option maxRecDepth 100000
def RJ7 : String := "java/util/NoSuchElementException"
def TJ7 : u_T := fun k => match k with
  | 0 => ("java/lang/Throwable", "cause", "Ljava/lang/Throwable;", false)
  | 1 => ("java/lang/Throwable", "stackTrace", "[Ljava/lang/StackTraceElement;", false)
  | 2 => ("java/lang/Throwable", "suppressedExceptions", "Ljava/util/List;", false)
  | 3 => ("java/lang/Throwable", "detailMessage", "Ljava/lang/String;", false)
  | 4 => ("java/lang/Throwable", "backtrace", "Ljava/lang/Object;", false)
  | _ => ("java/lang/Throwable", "depth", "I", false)
def tyJ7 : Nat → FieldType := fun k => match k with
  | 0 => .object "java/lang/Throwable"
  | 1 => .array (.object "java/lang/StackTraceElement")
  | 2 => .object "java/util/List"
  | 3 => .object "java/lang/String"
  | 4 => .object "java/lang/Object"
  | _ => .int
abbrev wsJ70 : List Cond := u_ws RJ7 TJ7 6
theorem nmJ7 : ∀ a, a < 6 → ∀ b, b < 6 → a ≠ b → (TJ7 a).2.1 ≠ (TJ7 b).2.1 := by decide +kernel
theorem tyJ7_ok : ∀ k, k < 6 → parseFieldDescriptor (TJ7 k).2.2.1 = some (tyJ7 k) := by decide +kernel
abbrev cJ7_init : ByteArray := prog_37_method_1_code
def yJ7_init : MethodName := ⟨RJ7, "<init>", "()V"⟩
theorem dJ7_init_0 : decode cJ7_init 0 = .ok (.aload_n 0, 1) := by decide +kernel
theorem dJ7_init_1 : decode cJ7_init 1 = .ok (.invokespecial 1, 3) := by decide +kernel
theorem dJ7_init_4 : decode cJ7_init 4 = .ok (.return_, 1) := by decide +kernel
theorem q125 : (Jvm.Cond.initialized "java/util/NoSuchElementException") ∈ lw_all := lw_g (lw_at lw_m1 23 rfl) rfl
theorem q174 : (Jvm.Cond.selects "java/util/NoSuchElementException" ({ cls := "java/lang/Throwable", name := "fillInStackTrace", desc := "()Ljava/lang/Throwable;" } : Jvm.MethodName) ({ cls := "java/lang/Throwable", name := "fillInStackTrace", desc := "()Ljava/lang/Throwable;" } : Jvm.MethodName)) ∈ lw_all := lw_g (lw_at lw_m1 72 rfl) rfl
theorem q1574 : (Jvm.Cond.instantiable "java/util/NoSuchElementException" (6 : Nat)) ∈ lw_all := lw_g (lw_at lw_m7 32 rfl) rfl
theorem q1575 : (Jvm.Cond.castable "java/util/NoSuchElementException" "java/util/NoSuchElementException") ∈ lw_tbl := lw_at lw_m7 33 rfl
theorem q1578 : (Jvm.Cond.selects "java/util/NoSuchElementException" ({ cls := "java/lang/Throwable", name := "fillInStackTrace", desc := "(I)Ljava/lang/Throwable;" } : Jvm.MethodName) ({ cls := "java/lang/Throwable", name := "fillInStackTrace", desc := "(I)Ljava/lang/Throwable;" } : Jvm.MethodName)) ∈ lw_all := lw_g (lw_at lw_m7 36 rfl) rfl
theorem q1579 : (Jvm.Cond.lays "java/util/NoSuchElementException" "java/lang/Throwable" "cause" "Ljava/lang/Throwable;") ∈ lw_all := lw_g (lw_at lw_m7 37 rfl) rfl
theorem q1580 : (Jvm.Cond.lays "java/util/NoSuchElementException" "java/lang/Throwable" "stackTrace" "[Ljava/lang/StackTraceElement;") ∈ lw_all := lw_g (lw_at lw_m7 38 rfl) rfl
theorem q1581 : (Jvm.Cond.lays "java/util/NoSuchElementException" "java/lang/Throwable" "suppressedExceptions" "Ljava/util/List;") ∈ lw_all := lw_g (lw_at lw_m7 39 rfl) rfl
theorem q1582 : (Jvm.Cond.lays "java/util/NoSuchElementException" "java/lang/Throwable" "detailMessage" "Ljava/lang/String;") ∈ lw_all := lw_g (lw_at lw_m7 40 rfl) rfl
theorem q1583 : (Jvm.Cond.lays "java/util/NoSuchElementException" "java/lang/Throwable" "backtrace" "Ljava/lang/Object;") ∈ lw_all := lw_g (lw_at lw_m7 41 rfl) rfl
theorem q1585 : (Jvm.Cond.instanceMethod ({ cls := "java/util/NoSuchElementException", name := "<init>", desc := "()V" } : Jvm.MethodName)) ∈ lw_all := lw_g (lw_at lw_m7 43 rfl) rfl
theorem q1586 : (Jvm.Cond.code ({ cls := "java/util/NoSuchElementException", name := "<init>", desc := "()V" } : Jvm.MethodName) prog_37_method_1_code (1 : Nat) (Option.none : Option Jvm.ClassFile.FieldType)) ∈ lw_all := lw_g (lw_at lw_m7 44 rfl) rfl
theorem q1587 : (Jvm.Cond.methodLink "java/util/NoSuchElementException" (1 : Nat) ({ cls := "java/lang/RuntimeException", name := "<init>", desc := "()V" } : Jvm.MethodName)) ∈ lw_all := lw_g (lw_at lw_m7 45 rfl) rfl
theorem q1594 : (Jvm.Cond.lays "java/util/NoSuchElementException" "java/lang/Throwable" "depth" "I") ∈ lw_all := lw_g (lw_at lw_m7 52 rfl) rfl
theorem q1595 : (Jvm.Cond.superclass "java/util/NoSuchElementException" "java/lang/RuntimeException") ∈ lw_all := lw_g (lw_at lw_m7 53 rfl) rfl
theorem q2361 : (Jvm.Cond.castable "java/util/NoSuchElementException" "java/lang/Object") ∈ lw_tbl := lw_at lw_m10 99 rfl
theorem in_J7 : ∀ w ∈ wsJ70, w ∈ lw_all := lw_in wsJ70 [1579, 1580, 1581, 1582, 1583, 1594] (by decide +kernel) (by decide +kernel)
/-! java/lang/Math -/
set_option maxRecDepth 100000
def RJ8 : String := "java/lang/Math"
abbrev cJ8_min : ByteArray := prog_28_method_69_code
def yJ8_min : MethodName := ⟨RJ8, "min", "(II)I"⟩
def dkwJ8_min_0 : List UInt8 := [26, 27, 163, 0, 7, 26, 167, 0, 4, 27, 172]
abbrev dktJ8_min_0 : List UInt8 := dkwJ8_min_0 ++ []
theorem dksJ8_min_0 : cJ8_min.data.toList.drop 0 = dktJ8_min_0 := by decide +kernel
theorem dJ8_min_0 : decode cJ8_min 0 = .ok (.iload_n 0, 1) := dk_26 (dk_at dksJ8_min_0 0 rfl rfl)
theorem dJ8_min_1 : decode cJ8_min 1 = .ok (.iload_n 1, 1) := dk_27 (dk_at dksJ8_min_0 1 rfl rfl)
theorem dJ8_min_2 : decode cJ8_min 2 = .ok (.if_icmp .gt 7, 3) := dk_163 0 7 (dk_at dksJ8_min_0 2 rfl rfl)
theorem dJ8_min_5 : decode cJ8_min 5 = .ok (.iload_n 0, 1) := dk_26 (dk_at dksJ8_min_0 5 rfl rfl)
theorem dJ8_min_6 : decode cJ8_min 6 = .ok (.goto 4, 3) := dk_167 0 4 (dk_at dksJ8_min_0 6 rfl rfl)
theorem dJ8_min_9 : decode cJ8_min 9 = .ok (.iload_n 1, 1) := dk_27 (dk_at dksJ8_min_0 9 rfl rfl)
theorem dJ8_min_10 : decode cJ8_min 10 = .ok (.ireturn, 1) := dk_172 (dk_at dksJ8_min_0 10 rfl rfl)
abbrev cJ8_max : ByteArray := prog_28_method_65_code
def yJ8_max : MethodName := ⟨RJ8, "max", "(II)I"⟩
def dkwJ8_max_0 : List UInt8 := [26, 27, 161, 0, 7, 26, 167, 0, 4, 27, 172]
abbrev dktJ8_max_0 : List UInt8 := dkwJ8_max_0 ++ []
theorem dksJ8_max_0 : cJ8_max.data.toList.drop 0 = dktJ8_max_0 := by decide +kernel
theorem dJ8_max_0 : decode cJ8_max 0 = .ok (.iload_n 0, 1) := dk_26 (dk_at dksJ8_max_0 0 rfl rfl)
theorem dJ8_max_1 : decode cJ8_max 1 = .ok (.iload_n 1, 1) := dk_27 (dk_at dksJ8_max_0 1 rfl rfl)
theorem dJ8_max_2 : decode cJ8_max 2 = .ok (.if_icmp .lt 7, 3) := dk_161 0 7 (dk_at dksJ8_max_0 2 rfl rfl)
theorem dJ8_max_5 : decode cJ8_max 5 = .ok (.iload_n 0, 1) := dk_26 (dk_at dksJ8_max_0 5 rfl rfl)
theorem dJ8_max_6 : decode cJ8_max 6 = .ok (.goto 4, 3) := dk_167 0 4 (dk_at dksJ8_max_0 6 rfl rfl)
theorem dJ8_max_9 : decode cJ8_max 9 = .ok (.iload_n 1, 1) := dk_27 (dk_at dksJ8_max_0 9 rfl rfl)
theorem dJ8_max_10 : decode cJ8_max 10 = .ok (.ireturn, 1) := dk_172 (dk_at dksJ8_max_0 10 rfl rfl)
abbrev cJ8_abs : ByteArray := prog_28_method_59_code
def yJ8_abs : MethodName := ⟨RJ8, "abs", "(I)I"⟩
def dkwJ8_abs_0 : List UInt8 := [26, 156, 0, 8, 26, 116, 167, 0, 4, 26, 172]
abbrev dktJ8_abs_0 : List UInt8 := dkwJ8_abs_0 ++ []
theorem dksJ8_abs_0 : cJ8_abs.data.toList.drop 0 = dktJ8_abs_0 := by decide +kernel
theorem dJ8_abs_0 : decode cJ8_abs 0 = .ok (.iload_n 0, 1) := dk_26 (dk_at dksJ8_abs_0 0 rfl rfl)
theorem dJ8_abs_1 : decode cJ8_abs 1 = .ok (.ifCond .ge 8, 3) := dk_156 0 8 (dk_at dksJ8_abs_0 1 rfl rfl)
theorem dJ8_abs_4 : decode cJ8_abs 4 = .ok (.iload_n 0, 1) := dk_26 (dk_at dksJ8_abs_0 4 rfl rfl)
theorem dJ8_abs_5 : decode cJ8_abs 5 = .ok (.ineg, 1) := dk_116 (dk_at dksJ8_abs_0 5 rfl rfl)
theorem dJ8_abs_6 : decode cJ8_abs 6 = .ok (.goto 4, 3) := dk_167 0 4 (dk_at dksJ8_abs_0 6 rfl rfl)
theorem dJ8_abs_9 : decode cJ8_abs 9 = .ok (.iload_n 0, 1) := dk_26 (dk_at dksJ8_abs_0 9 rfl rfl)
theorem dJ8_abs_10 : decode cJ8_abs 10 = .ok (.ireturn, 1) := dk_172 (dk_at dksJ8_abs_0 10 rfl rfl)
theorem q127 : (Jvm.Cond.initialized "java/lang/Math") ∈ lw_all := lw_g (lw_at lw_m1 25 rfl) rfl
theorem q1183 : (Jvm.Cond.static ({ cls := "java/lang/Math", name := "min", desc := "(II)I" } : Jvm.MethodName)) ∈ lw_all := lw_g (lw_at lw_m5 121 rfl) rfl
theorem q1184 : (Jvm.Cond.code ({ cls := "java/lang/Math", name := "min", desc := "(II)I" } : Jvm.MethodName) prog_28_method_69_code (2 : Nat) (Option.some Jvm.ClassFile.FieldType.int)) ∈ lw_all := lw_g (lw_at lw_m5 122 rfl) rfl
theorem q1186 : (Jvm.Cond.static ({ cls := "java/lang/Math", name := "max", desc := "(II)I" } : Jvm.MethodName)) ∈ lw_all := lw_g (lw_at lw_m5 124 rfl) rfl
theorem q1187 : (Jvm.Cond.code ({ cls := "java/lang/Math", name := "max", desc := "(II)I" } : Jvm.MethodName) prog_28_method_65_code (2 : Nat) (Option.some Jvm.ClassFile.FieldType.int)) ∈ lw_all := lw_g (lw_at lw_m5 125 rfl) rfl
theorem q1305 : (Jvm.Cond.static ({ cls := "java/lang/Math", name := "abs", desc := "(I)I" } : Jvm.MethodName)) ∈ lw_all := lw_g (lw_at lw_m6 3 rfl) rfl
theorem q1306 : (Jvm.Cond.code ({ cls := "java/lang/Math", name := "abs", desc := "(I)I" } : Jvm.MethodName) prog_28_method_59_code (1 : Nat) (Option.some Jvm.ClassFile.FieldType.int)) ∈ lw_all := lw_g (lw_at lw_m6 4 rfl) rfl
/-! java/lang/Object -/
set_option maxRecDepth 100000
def RJ9 : String := "java/lang/Object"
abbrev cJ9_init : ByteArray := object_method_1_code
def yJ9_init : MethodName := ⟨RJ9, "<init>", "()V"⟩
theorem dJ9_init_0 : decode cJ9_init 0 = .ok (.return_, 1) := by decide +kernel
theorem q141 : (Jvm.Cond.instanceMethod ({ cls := "java/lang/Object", name := "<init>", desc := "()V" } : Jvm.MethodName)) ∈ lw_all := lw_g (lw_at lw_m1 39 rfl) rfl
theorem q142 : (Jvm.Cond.code ({ cls := "java/lang/Object", name := "<init>", desc := "()V" } : Jvm.MethodName) object_method_1_code (1 : Nat) (Option.none : Option Jvm.ClassFile.FieldType)) ∈ lw_all := lw_g (lw_at lw_m1 40 rfl) rfl
/-! PailRowLaw -/
set_option maxRecDepth 100000
def RX0 : String := "PailRowLaw"
abbrev cX0_man : ByteArray := method_3_code
def yX0_man : MethodName := ⟨RX0, "man", "(LPailRow;II[J)I"⟩
def dkwX0_man_0 : List UInt8 := [45, 3, 42, 27, 28, 182, 0, 7, 133, 80, 167, 0, 7, 58, 4, 4, 172, 3, 172]
abbrev dktX0_man_0 : List UInt8 := dkwX0_man_0 ++ []
theorem dksX0_man_0 : cX0_man.data.toList.drop 0 = dktX0_man_0 := by decide +kernel
theorem dX0_man_0 : decode cX0_man 0 = .ok (.aload_n 3, 1) := dk_45 (dk_at dksX0_man_0 0 rfl rfl)
theorem dX0_man_1 : decode cX0_man 1 = .ok (.iconst 0, 1) := dk_3 (dk_at dksX0_man_0 1 rfl rfl)
theorem dX0_man_2 : decode cX0_man 2 = .ok (.aload_n 0, 1) := dk_42 (dk_at dksX0_man_0 2 rfl rfl)
theorem dX0_man_3 : decode cX0_man 3 = .ok (.iload_n 1, 1) := dk_27 (dk_at dksX0_man_0 3 rfl rfl)
theorem dX0_man_4 : decode cX0_man 4 = .ok (.iload_n 2, 1) := dk_28 (dk_at dksX0_man_0 4 rfl rfl)
theorem dX0_man_5 : decode cX0_man 5 = .ok (.invokevirtual 7, 3) := dk_182 0 7 (dk_at dksX0_man_0 5 rfl rfl)
theorem dX0_man_8 : decode cX0_man 8 = .ok (.i2l, 1) := dk_133 (dk_at dksX0_man_0 8 rfl rfl)
theorem dX0_man_9 : decode cX0_man 9 = .ok (.lastore, 1) := dk_80 (dk_at dksX0_man_0 9 rfl rfl)
theorem dX0_man_10 : decode cX0_man 10 = .ok (.goto 7, 3) := dk_167 0 7 (dk_at dksX0_man_0 10 rfl rfl)
theorem dX0_man_13 : decode cX0_man 13 = .ok (.astore 4, 2) := dk_58 4 (dk_at dksX0_man_0 13 rfl rfl)
theorem dX0_man_15 : decode cX0_man 15 = .ok (.iconst 1, 1) := dk_4 (dk_at dksX0_man_0 15 rfl rfl)
theorem dX0_man_16 : decode cX0_man 16 = .ok (.ireturn, 1) := dk_172 (dk_at dksX0_man_0 16 rfl rfl)
theorem dX0_man_17 : decode cX0_man 17 = .ok (.iconst 0, 1) := dk_3 (dk_at dksX0_man_0 17 rfl rfl)
theorem dX0_man_18 : decode cX0_man 18 = .ok (.ireturn, 1) := dk_172 (dk_at dksX0_man_0 18 rfl rfl)
abbrev cX0_cell : ByteArray := method_4_code
def yX0_cell : MethodName := ⟨RX0, "cell", "(LPailRow;III[J)I"⟩
def dkwX0_cell_0 : List UInt8 := [25, 4, 3, 42, 27, 28, 29, 182, 0, 15, 133, 80, 167, 0, 7, 58, 5, 4, 172, 3, 172]
abbrev dktX0_cell_0 : List UInt8 := dkwX0_cell_0 ++ []
theorem dksX0_cell_0 : cX0_cell.data.toList.drop 0 = dktX0_cell_0 := by decide +kernel
theorem dX0_cell_0 : decode cX0_cell 0 = .ok (.aload 4, 2) := dk_25 4 (dk_at dksX0_cell_0 0 rfl rfl)
theorem dX0_cell_2 : decode cX0_cell 2 = .ok (.iconst 0, 1) := dk_3 (dk_at dksX0_cell_0 2 rfl rfl)
theorem dX0_cell_3 : decode cX0_cell 3 = .ok (.aload_n 0, 1) := dk_42 (dk_at dksX0_cell_0 3 rfl rfl)
theorem dX0_cell_4 : decode cX0_cell 4 = .ok (.iload_n 1, 1) := dk_27 (dk_at dksX0_cell_0 4 rfl rfl)
theorem dX0_cell_5 : decode cX0_cell 5 = .ok (.iload_n 2, 1) := dk_28 (dk_at dksX0_cell_0 5 rfl rfl)
theorem dX0_cell_6 : decode cX0_cell 6 = .ok (.iload_n 3, 1) := dk_29 (dk_at dksX0_cell_0 6 rfl rfl)
theorem dX0_cell_7 : decode cX0_cell 7 = .ok (.invokevirtual 15, 3) := dk_182 0 15 (dk_at dksX0_cell_0 7 rfl rfl)
theorem dX0_cell_10 : decode cX0_cell 10 = .ok (.i2l, 1) := dk_133 (dk_at dksX0_cell_0 10 rfl rfl)
theorem dX0_cell_11 : decode cX0_cell 11 = .ok (.lastore, 1) := dk_80 (dk_at dksX0_cell_0 11 rfl rfl)
theorem dX0_cell_12 : decode cX0_cell 12 = .ok (.goto 7, 3) := dk_167 0 7 (dk_at dksX0_cell_0 12 rfl rfl)
theorem dX0_cell_15 : decode cX0_cell 15 = .ok (.astore 5, 2) := dk_58 5 (dk_at dksX0_cell_0 15 rfl rfl)
theorem dX0_cell_17 : decode cX0_cell 17 = .ok (.iconst 1, 1) := dk_4 (dk_at dksX0_cell_0 17 rfl rfl)
theorem dX0_cell_18 : decode cX0_cell 18 = .ok (.ireturn, 1) := dk_172 (dk_at dksX0_cell_0 18 rfl rfl)
theorem dX0_cell_19 : decode cX0_cell 19 = .ok (.iconst 0, 1) := dk_3 (dk_at dksX0_cell_0 19 rfl rfl)
theorem dX0_cell_20 : decode cX0_cell 20 = .ok (.ireturn, 1) := dk_172 (dk_at dksX0_cell_0 20 rfl rfl)
abbrev cX0_cost : ByteArray := method_5_code
def yX0_cost : MethodName := ⟨RX0, "cost", "(LPailRow;II[J)I"⟩
def dkwX0_cost_0 : List UInt8 := [45, 3, 42, 27, 28, 182, 0, 19, 133, 80, 167, 0, 7, 58, 4, 4, 172, 3, 172]
abbrev dktX0_cost_0 : List UInt8 := dkwX0_cost_0 ++ []
theorem dksX0_cost_0 : cX0_cost.data.toList.drop 0 = dktX0_cost_0 := by decide +kernel
theorem dX0_cost_0 : decode cX0_cost 0 = .ok (.aload_n 3, 1) := dk_45 (dk_at dksX0_cost_0 0 rfl rfl)
theorem dX0_cost_1 : decode cX0_cost 1 = .ok (.iconst 0, 1) := dk_3 (dk_at dksX0_cost_0 1 rfl rfl)
theorem dX0_cost_2 : decode cX0_cost 2 = .ok (.aload_n 0, 1) := dk_42 (dk_at dksX0_cost_0 2 rfl rfl)
theorem dX0_cost_3 : decode cX0_cost 3 = .ok (.iload_n 1, 1) := dk_27 (dk_at dksX0_cost_0 3 rfl rfl)
theorem dX0_cost_4 : decode cX0_cost 4 = .ok (.iload_n 2, 1) := dk_28 (dk_at dksX0_cost_0 4 rfl rfl)
theorem dX0_cost_5 : decode cX0_cost 5 = .ok (.invokevirtual 19, 3) := dk_182 0 19 (dk_at dksX0_cost_0 5 rfl rfl)
theorem dX0_cost_8 : decode cX0_cost 8 = .ok (.i2l, 1) := dk_133 (dk_at dksX0_cost_0 8 rfl rfl)
theorem dX0_cost_9 : decode cX0_cost 9 = .ok (.lastore, 1) := dk_80 (dk_at dksX0_cost_0 9 rfl rfl)
theorem dX0_cost_10 : decode cX0_cost 10 = .ok (.goto 7, 3) := dk_167 0 7 (dk_at dksX0_cost_0 10 rfl rfl)
theorem dX0_cost_13 : decode cX0_cost 13 = .ok (.astore 4, 2) := dk_58 4 (dk_at dksX0_cost_0 13 rfl rfl)
theorem dX0_cost_15 : decode cX0_cost 15 = .ok (.iconst 1, 1) := dk_4 (dk_at dksX0_cost_0 15 rfl rfl)
theorem dX0_cost_16 : decode cX0_cost 16 = .ok (.ireturn, 1) := dk_172 (dk_at dksX0_cost_0 16 rfl rfl)
theorem dX0_cost_17 : decode cX0_cost 17 = .ok (.iconst 0, 1) := dk_3 (dk_at dksX0_cost_0 17 rfl rfl)
theorem dX0_cost_18 : decode cX0_cost 18 = .ok (.ireturn, 1) := dk_172 (dk_at dksX0_cost_0 18 rfl rfl)
theorem q102 : (Jvm.Cond.initialized "PailRowLaw") ∈ lw_all := lw_g (lw_at lw_m1 0 rfl) rfl
theorem q135 : (Jvm.Cond.classLink "PailRowLaw" (8 : Nat) "PailRow") ∈ lw_all := lw_g (lw_at lw_m1 33 rfl) rfl
theorem q137 : (Jvm.Cond.methodLink "PailRowLaw" (22 : Nat) ({ cls := "PailRow", name := "<init>", desc := "()V" } : Jvm.MethodName)) ∈ lw_all := lw_g (lw_at lw_m1 35 rfl) rfl
theorem q813 : (Jvm.Cond.methodLink "PailRowLaw" (26 : Nat) ({ cls := "PailRow", name := "feed", desc := "(IIIII)I" } : Jvm.MethodName)) ∈ lw_all := lw_g (lw_at lw_m3 231 rfl) rfl
theorem q821 : (Jvm.Cond.methodLink "PailRowLaw" (31 : Nat) ({ cls := "PailRow", name := "end", desc := "(I)Z" } : Jvm.MethodName)) ∈ lw_all := lw_g (lw_at lw_m3 239 rfl) rfl
theorem q825 : (Jvm.Cond.methodLink "PailRowLaw" (36 : Nat) ({ cls := "PailRow", name := "yard", desc := "()I" } : Jvm.MethodName)) ∈ lw_all := lw_g (lw_at lw_m4 3 rfl) rfl
theorem q1026 : (Jvm.Cond.methodLink "PailRowLaw" (41 : Nat) ({ cls := "PailRow", name := "fault", desc := "()I" } : Jvm.MethodName)) ∈ lw_all := lw_g (lw_at lw_m4 204 rfl) rfl
theorem q1030 : (Jvm.Cond.methodLink "PailRowLaw" (143 : Nat) ({ cls := "PailRow", name := "plan", desc := "()I" } : Jvm.MethodName)) ∈ lw_all := lw_g (lw_at lw_m4 208 rfl) rfl
theorem q1113 : (Jvm.Cond.methodLink "PailRowLaw" (58 : Nat) ({ cls := "PailRow", name := "row", desc := "(I)I" } : Jvm.MethodName)) ∈ lw_all := lw_g (lw_at lw_m5 51 rfl) rfl
theorem q1211 : (Jvm.Cond.methodLink "PailRowLaw" (63 : Nat) ({ cls := "PailRow", name := "rowBy", desc := "(I)I" } : Jvm.MethodName)) ∈ lw_all := lw_g (lw_at lw_m5 149 rfl) rfl
theorem q1215 : (Jvm.Cond.methodLink "PailRowLaw" (67 : Nat) ({ cls := "PailRow", name := "done", desc := "(I)I" } : Jvm.MethodName)) ∈ lw_all := lw_g (lw_at lw_m5 153 rfl) rfl
theorem q1219 : (Jvm.Cond.methodLink "PailRowLaw" (71 : Nat) ({ cls := "PailRow", name := "period", desc := "()I" } : Jvm.MethodName)) ∈ lw_all := lw_g (lw_at lw_m5 157 rfl) rfl
theorem q1227 : (Jvm.Cond.methodLink "PailRowLaw" (75 : Nat) ({ cls := "PailRow", name := "best", desc := "()I" } : Jvm.MethodName)) ∈ lw_all := lw_g (lw_at lw_m5 165 rfl) rfl
theorem q1236 : (Jvm.Cond.methodLink "PailRowLaw" (79 : Nat) ({ cls := "PailRow", name := "bestAt", desc := "(I)I" } : Jvm.MethodName)) ∈ lw_all := lw_g (lw_at lw_m5 174 rfl) rfl
theorem q1240 : (Jvm.Cond.methodLink "PailRowLaw" (83 : Nat) ({ cls := "PailRow", name := "running", desc := "(I)I" } : Jvm.MethodName)) ∈ lw_all := lw_g (lw_at lw_m5 178 rfl) rfl
theorem q1257 : (Jvm.Cond.methodLink "PailRowLaw" (87 : Nat) ({ cls := "PailRow", name := "line", desc := "(I)I" } : Jvm.MethodName)) ∈ lw_all := lw_g (lw_at lw_m5 195 rfl) rfl
theorem q1265 : (Jvm.Cond.methodLink "PailRowLaw" (94 : Nat) ({ cls := "PailRow", name := "more", desc := "(I)I" } : Jvm.MethodName)) ∈ lw_all := lw_g (lw_at lw_m5 203 rfl) rfl
theorem q1279 : (Jvm.Cond.methodLink "PailRowLaw" (98 : Nat) ({ cls := "PailRow", name := "moreAt", desc := "(I)I" } : Jvm.MethodName)) ∈ lw_all := lw_g (lw_at lw_m5 217 rfl) rfl
theorem q1283 : (Jvm.Cond.methodLink "PailRowLaw" (102 : Nat) ({ cls := "PailRow", name := "relief", desc := "()I" } : Jvm.MethodName)) ∈ lw_all := lw_g (lw_at lw_m5 221 rfl) rfl
theorem q1292 : (Jvm.Cond.methodLink "PailRowLaw" (106 : Nat) ({ cls := "PailRow", name := "hooks", desc := "(I)I" } : Jvm.MethodName)) ∈ lw_all := lw_g (lw_at lw_m5 230 rfl) rfl
theorem q1308 : (Jvm.Cond.methodLink "PailRowLaw" (110 : Nat) ({ cls := "PailRow", name := "hookAt", desc := "(I)I" } : Jvm.MethodName)) ∈ lw_all := lw_g (lw_at lw_m6 6 rfl) rfl
theorem q1312 : (Jvm.Cond.methodLink "PailRowLaw" (114 : Nat) ({ cls := "PailRow", name := "fire", desc := "(IIII)I" } : Jvm.MethodName)) ∈ lw_all := lw_g (lw_at lw_m6 10 rfl) rfl
theorem q1354 : (Jvm.Cond.methodLink "PailRowLaw" (119 : Nat) ({ cls := "PailRow", name := "fireAt", desc := "(III)I" } : Jvm.MethodName)) ∈ lw_all := lw_g (lw_at lw_m6 52 rfl) rfl
theorem q1359 : (Jvm.Cond.methodLink "PailRowLaw" (123 : Nat) ({ cls := "PailRow", name := "out", desc := "()I" } : Jvm.MethodName)) ∈ lw_all := lw_g (lw_at lw_m6 57 rfl) rfl
theorem q1363 : (Jvm.Cond.methodLink "PailRowLaw" (127 : Nat) ({ cls := "PailRow", name := "aims", desc := "(II)I" } : Jvm.MethodName)) ∈ lw_all := lw_g (lw_at lw_m6 61 rfl) rfl
theorem q1375 : (Jvm.Cond.methodLink "PailRowLaw" (131 : Nat) ({ cls := "PailRow", name := "aimAt", desc := "(I)I" } : Jvm.MethodName)) ∈ lw_all := lw_g (lw_at lw_m6 73 rfl) rfl
theorem q1379 : (Jvm.Cond.methodLink "PailRowLaw" (135 : Nat) ({ cls := "PailRow", name := "give", desc := "(I)I" } : Jvm.MethodName)) ∈ lw_all := lw_g (lw_at lw_m6 77 rfl) rfl
theorem q1391 : (Jvm.Cond.methodLink "PailRowLaw" (139 : Nat) ({ cls := "PailRow", name := "enough", desc := "(II)I" } : Jvm.MethodName)) ∈ lw_all := lw_g (lw_at lw_m6 89 rfl) rfl
theorem q1395 : (Jvm.Cond.methodLink "PailRowLaw" (147 : Nat) ({ cls := "PailRow", name := "night", desc := "(II)I" } : Jvm.MethodName)) ∈ lw_all := lw_g (lw_at lw_m6 93 rfl) rfl
theorem q1405 : (Jvm.Cond.methodLink "PailRowLaw" (151 : Nat) ({ cls := "PailRow", name := "sentence", desc := "()I" } : Jvm.MethodName)) ∈ lw_all := lw_g (lw_at lw_m6 103 rfl) rfl
theorem q1517 : (Jvm.Cond.methodLink "PailRowLaw" (155 : Nat) ({ cls := "PailRow", name := "said", desc := "(I)I" } : Jvm.MethodName)) ∈ lw_all := lw_g (lw_at lw_m6 215 rfl) rfl
theorem q1546 : (Jvm.Cond.methodLink "PailRowLaw" (159 : Nat) ({ cls := "PailRow", name := "image", desc := "(I)Z" } : Jvm.MethodName)) ∈ lw_all := lw_g (lw_at lw_m7 4 rfl) rfl
theorem q1554 : (Jvm.Cond.methodLink "PailRowLaw" (163 : Nat) ({ cls := "PailRow", name := "restore", desc := "(I)Z" } : Jvm.MethodName)) ∈ lw_all := lw_g (lw_at lw_m7 12 rfl) rfl
theorem q1558 : (Jvm.Cond.methodLink "PailRowLaw" (167 : Nat) ({ cls := "PailRow", name := "count", desc := "(I)I" } : Jvm.MethodName)) ∈ lw_all := lw_g (lw_at lw_m7 16 rfl) rfl
theorem q1562 : (Jvm.Cond.methodLink "PailRowLaw" (45 : Nat) ({ cls := "PailRowLaw", name := "man", desc := "(LPailRow;II[J)I" } : Jvm.MethodName)) ∈ lw_all := lw_g (lw_at lw_m7 20 rfl) rfl
theorem q1563 : (Jvm.Cond.static ({ cls := "PailRowLaw", name := "man", desc := "(LPailRow;II[J)I" } : Jvm.MethodName)) ∈ lw_all := lw_g (lw_at lw_m7 21 rfl) rfl
theorem q1564 : (Jvm.Cond.codeWith ({ cls := "PailRowLaw", name := "man", desc := "(LPailRow;II[J)I" } : Jvm.MethodName) method_3_code (5 : Nat) (Option.some Jvm.ClassFile.FieldType.int) [((0 : Nat), (10 : Nat), (13 : Nat), (13 : Nat))]) ∈ lw_all := lw_g (lw_at lw_m7 22 rfl) rfl
theorem q1565 : (Jvm.Cond.classLink "PailRowLaw" (13 : Nat) "java/util/NoSuchElementException") ∈ lw_all := lw_g (lw_at lw_m7 23 rfl) rfl
theorem q1566 : (Jvm.Cond.methodLink "PailRowLaw" (7 : Nat) ({ cls := "PailRow", name := "man", desc := "(II)I" } : Jvm.MethodName)) ∈ lw_all := lw_g (lw_at lw_m7 24 rfl) rfl
theorem q1596 : (Jvm.Cond.methodLink "PailRowLaw" (54 : Nat) ({ cls := "PailRowLaw", name := "cell", desc := "(LPailRow;III[J)I" } : Jvm.MethodName)) ∈ lw_all := lw_g (lw_at lw_m7 54 rfl) rfl
theorem q1597 : (Jvm.Cond.static ({ cls := "PailRowLaw", name := "cell", desc := "(LPailRow;III[J)I" } : Jvm.MethodName)) ∈ lw_all := lw_g (lw_at lw_m7 55 rfl) rfl
theorem q1598 : (Jvm.Cond.codeWith ({ cls := "PailRowLaw", name := "cell", desc := "(LPailRow;III[J)I" } : Jvm.MethodName) method_4_code (6 : Nat) (Option.some Jvm.ClassFile.FieldType.int) [((0 : Nat), (12 : Nat), (15 : Nat), (13 : Nat))]) ∈ lw_all := lw_g (lw_at lw_m7 56 rfl) rfl
theorem q1599 : (Jvm.Cond.methodLink "PailRowLaw" (15 : Nat) ({ cls := "PailRow", name := "cell", desc := "(III)I" } : Jvm.MethodName)) ∈ lw_all := lw_g (lw_at lw_m7 57 rfl) rfl
theorem q1603 : (Jvm.Cond.methodLink "PailRowLaw" (91 : Nat) ({ cls := "PailRowLaw", name := "cost", desc := "(LPailRow;II[J)I" } : Jvm.MethodName)) ∈ lw_all := lw_g (lw_at lw_m7 61 rfl) rfl
theorem q1604 : (Jvm.Cond.static ({ cls := "PailRowLaw", name := "cost", desc := "(LPailRow;II[J)I" } : Jvm.MethodName)) ∈ lw_all := lw_g (lw_at lw_m7 62 rfl) rfl
theorem q1605 : (Jvm.Cond.codeWith ({ cls := "PailRowLaw", name := "cost", desc := "(LPailRow;II[J)I" } : Jvm.MethodName) method_5_code (5 : Nat) (Option.some Jvm.ClassFile.FieldType.int) [((0 : Nat), (10 : Nat), (13 : Nat), (13 : Nat))]) ∈ lw_all := lw_g (lw_at lw_m7 63 rfl) rfl
theorem q1606 : (Jvm.Cond.methodLink "PailRowLaw" (19 : Nat) ({ cls := "PailRow", name := "cost", desc := "(II)I" } : Jvm.MethodName)) ∈ lw_all := lw_g (lw_at lw_m7 64 rfl) rfl
theorem q1610 : (Jvm.Cond.classLink "PailRowLaw" (23 : Nat) "PailRowModel") ∈ lw_all := lw_g (lw_at lw_m7 68 rfl) rfl
theorem q1612 : (Jvm.Cond.methodLink "PailRowLaw" (25 : Nat) ({ cls := "PailRowModel", name := "<init>", desc := "()V" } : Jvm.MethodName)) ∈ lw_all := lw_g (lw_at lw_m7 70 rfl) rfl
theorem q1891 : (Jvm.Cond.methodLink "PailRowLaw" (51 : Nat) ({ cls := "PailRowModel", name := "thrown", desc := "()I" } : Jvm.MethodName)) ∈ lw_all := lw_g (lw_at lw_m8 109 rfl) rfl
theorem q1895 : (Jvm.Cond.methodLink "PailRowLaw" (30 : Nat) ({ cls := "PailRowModel", name := "feed", desc := "(IIIII)I" } : Jvm.MethodName)) ∈ lw_all := lw_g (lw_at lw_m8 113 rfl) rfl
theorem q1903 : (Jvm.Cond.methodLink "PailRowLaw" (35 : Nat) ({ cls := "PailRowModel", name := "end", desc := "(I)Z" } : Jvm.MethodName)) ∈ lw_all := lw_g (lw_at lw_m8 121 rfl) rfl
theorem q1907 : (Jvm.Cond.methodLink "PailRowLaw" (40 : Nat) ({ cls := "PailRowModel", name := "yard", desc := "()I" } : Jvm.MethodName)) ∈ lw_all := lw_g (lw_at lw_m8 125 rfl) rfl
theorem q2005 : (Jvm.Cond.methodLink "PailRowLaw" (44 : Nat) ({ cls := "PailRowModel", name := "fault", desc := "()I" } : Jvm.MethodName)) ∈ lw_all := lw_g (lw_at lw_m8 223 rfl) rfl
theorem q2009 : (Jvm.Cond.methodLink "PailRowLaw" (50 : Nat) ({ cls := "PailRowModel", name := "man", desc := "(II)I" } : Jvm.MethodName)) ∈ lw_all := lw_g (lw_at lw_m8 227 rfl) rfl
theorem q2025 : (Jvm.Cond.methodLink "PailRowLaw" (57 : Nat) ({ cls := "PailRowModel", name := "cell", desc := "(III)I" } : Jvm.MethodName)) ∈ lw_all := lw_g (lw_at lw_m9 3 rfl) rfl
theorem q2033 : (Jvm.Cond.methodLink "PailRowLaw" (62 : Nat) ({ cls := "PailRowModel", name := "row", desc := "(I)I" } : Jvm.MethodName)) ∈ lw_all := lw_g (lw_at lw_m9 11 rfl) rfl
theorem q2096 : (Jvm.Cond.methodLink "PailRowLaw" (66 : Nat) ({ cls := "PailRowModel", name := "rowBy", desc := "(I)I" } : Jvm.MethodName)) ∈ lw_all := lw_g (lw_at lw_m9 74 rfl) rfl
theorem q2100 : (Jvm.Cond.methodLink "PailRowLaw" (70 : Nat) ({ cls := "PailRowModel", name := "done", desc := "(I)I" } : Jvm.MethodName)) ∈ lw_all := lw_g (lw_at lw_m9 78 rfl) rfl
theorem q2104 : (Jvm.Cond.methodLink "PailRowLaw" (74 : Nat) ({ cls := "PailRowModel", name := "period", desc := "()I" } : Jvm.MethodName)) ∈ lw_all := lw_g (lw_at lw_m9 82 rfl) rfl
theorem q2112 : (Jvm.Cond.methodLink "PailRowLaw" (78 : Nat) ({ cls := "PailRowModel", name := "best", desc := "()I" } : Jvm.MethodName)) ∈ lw_all := lw_g (lw_at lw_m9 90 rfl) rfl
theorem q2120 : (Jvm.Cond.methodLink "PailRowLaw" (82 : Nat) ({ cls := "PailRowModel", name := "bestAt", desc := "(I)I" } : Jvm.MethodName)) ∈ lw_all := lw_g (lw_at lw_m9 98 rfl) rfl
theorem q2124 : (Jvm.Cond.methodLink "PailRowLaw" (86 : Nat) ({ cls := "PailRowModel", name := "running", desc := "(I)I" } : Jvm.MethodName)) ∈ lw_all := lw_g (lw_at lw_m9 102 rfl) rfl
theorem q2128 : (Jvm.Cond.methodLink "PailRowLaw" (90 : Nat) ({ cls := "PailRowModel", name := "line", desc := "(I)I" } : Jvm.MethodName)) ∈ lw_all := lw_g (lw_at lw_m9 106 rfl) rfl
theorem q2132 : (Jvm.Cond.methodLink "PailRowLaw" (93 : Nat) ({ cls := "PailRowModel", name := "cost", desc := "(II)I" } : Jvm.MethodName)) ∈ lw_all := lw_g (lw_at lw_m9 110 rfl) rfl
theorem q2136 : (Jvm.Cond.methodLink "PailRowLaw" (97 : Nat) ({ cls := "PailRowModel", name := "more", desc := "(I)I" } : Jvm.MethodName)) ∈ lw_all := lw_g (lw_at lw_m9 114 rfl) rfl
theorem q2148 : (Jvm.Cond.methodLink "PailRowLaw" (101 : Nat) ({ cls := "PailRowModel", name := "moreAt", desc := "(I)I" } : Jvm.MethodName)) ∈ lw_all := lw_g (lw_at lw_m9 126 rfl) rfl
theorem q2152 : (Jvm.Cond.methodLink "PailRowLaw" (105 : Nat) ({ cls := "PailRowModel", name := "relief", desc := "()I" } : Jvm.MethodName)) ∈ lw_all := lw_g (lw_at lw_m9 130 rfl) rfl
theorem q2160 : (Jvm.Cond.methodLink "PailRowLaw" (109 : Nat) ({ cls := "PailRowModel", name := "hooks", desc := "(I)I" } : Jvm.MethodName)) ∈ lw_all := lw_g (lw_at lw_m9 138 rfl) rfl
theorem q2168 : (Jvm.Cond.methodLink "PailRowLaw" (113 : Nat) ({ cls := "PailRowModel", name := "hookAt", desc := "(I)I" } : Jvm.MethodName)) ∈ lw_all := lw_g (lw_at lw_m9 146 rfl) rfl
theorem q2172 : (Jvm.Cond.methodLink "PailRowLaw" (118 : Nat) ({ cls := "PailRowModel", name := "fire", desc := "(IIII)I" } : Jvm.MethodName)) ∈ lw_all := lw_g (lw_at lw_m9 150 rfl) rfl
theorem q2212 : (Jvm.Cond.methodLink "PailRowLaw" (122 : Nat) ({ cls := "PailRowModel", name := "fireAt", desc := "(III)I" } : Jvm.MethodName)) ∈ lw_all := lw_g (lw_at lw_m9 190 rfl) rfl
theorem q2216 : (Jvm.Cond.methodLink "PailRowLaw" (126 : Nat) ({ cls := "PailRowModel", name := "out", desc := "()I" } : Jvm.MethodName)) ∈ lw_all := lw_g (lw_at lw_m9 194 rfl) rfl
theorem q2220 : (Jvm.Cond.methodLink "PailRowLaw" (130 : Nat) ({ cls := "PailRowModel", name := "aims", desc := "(II)I" } : Jvm.MethodName)) ∈ lw_all := lw_g (lw_at lw_m9 198 rfl) rfl
theorem q2236 : (Jvm.Cond.methodLink "PailRowLaw" (134 : Nat) ({ cls := "PailRowModel", name := "aimAt", desc := "(I)I" } : Jvm.MethodName)) ∈ lw_all := lw_g (lw_at lw_m9 214 rfl) rfl
theorem q2240 : (Jvm.Cond.methodLink "PailRowLaw" (138 : Nat) ({ cls := "PailRowModel", name := "give", desc := "(I)I" } : Jvm.MethodName)) ∈ lw_all := lw_g (lw_at lw_m9 218 rfl) rfl
theorem q2248 : (Jvm.Cond.methodLink "PailRowLaw" (142 : Nat) ({ cls := "PailRowModel", name := "enough", desc := "(II)I" } : Jvm.MethodName)) ∈ lw_all := lw_g (lw_at lw_m9 226 rfl) rfl
theorem q2252 : (Jvm.Cond.methodLink "PailRowLaw" (146 : Nat) ({ cls := "PailRowModel", name := "plan", desc := "()I" } : Jvm.MethodName)) ∈ lw_all := lw_g (lw_at lw_m9 230 rfl) rfl
theorem q2268 : (Jvm.Cond.methodLink "PailRowLaw" (150 : Nat) ({ cls := "PailRowModel", name := "night", desc := "(II)I" } : Jvm.MethodName)) ∈ lw_all := lw_g (lw_at lw_m10 6 rfl) rfl
theorem q2276 : (Jvm.Cond.methodLink "PailRowLaw" (154 : Nat) ({ cls := "PailRowModel", name := "sentence", desc := "()I" } : Jvm.MethodName)) ∈ lw_all := lw_g (lw_at lw_m10 14 rfl) rfl
theorem q2309 : (Jvm.Cond.methodLink "PailRowLaw" (158 : Nat) ({ cls := "PailRowModel", name := "said", desc := "(I)I" } : Jvm.MethodName)) ∈ lw_all := lw_g (lw_at lw_m10 47 rfl) rfl
theorem q2317 : (Jvm.Cond.methodLink "PailRowLaw" (162 : Nat) ({ cls := "PailRowModel", name := "image", desc := "(I)Z" } : Jvm.MethodName)) ∈ lw_all := lw_g (lw_at lw_m10 55 rfl) rfl
theorem q2321 : (Jvm.Cond.methodLink "PailRowLaw" (166 : Nat) ({ cls := "PailRowModel", name := "restore", desc := "(I)Z" } : Jvm.MethodName)) ∈ lw_all := lw_g (lw_at lw_m10 59 rfl) rfl
theorem q2325 : (Jvm.Cond.methodLink "PailRowLaw" (170 : Nat) ({ cls := "PailRowModel", name := "count", desc := "(I)I" } : Jvm.MethodName)) ∈ lw_all := lw_g (lw_at lw_m10 63 rfl) rfl
/-! PailRow$Fault -/
set_option maxRecDepth 100000
def RX2 : String := "PailRow$Fault"
def TX2 : u_T := fun k => match k with
  | 0 => ("java/lang/Throwable", "cause", "Ljava/lang/Throwable;", false)
  | 1 => ("java/lang/Throwable", "stackTrace", "[Ljava/lang/StackTraceElement;", false)
  | 2 => ("java/lang/Throwable", "suppressedExceptions", "Ljava/util/List;", false)
  | 3 => ("java/lang/Throwable", "detailMessage", "Ljava/lang/String;", false)
  | 4 => ("java/lang/Throwable", "backtrace", "Ljava/lang/Object;", false)
  | 5 => ("java/lang/Throwable", "depth", "I", false)
  | 6 => ("PailRow$Fault", "kind", "I", false)
  | _ => ("PailRow$Fault", "place", "I", false)
def tyX2 : Nat → FieldType := fun k => match k with
  | 0 => .object "java/lang/Throwable"
  | 1 => .array (.object "java/lang/StackTraceElement")
  | 2 => .object "java/util/List"
  | 3 => .object "java/lang/String"
  | 4 => .object "java/lang/Object"
  | 5 => .int
  | 6 => .int
  | _ => .int
abbrev wsX20 : List Cond := u_ws RX2 TX2 8
theorem nmX2 : ∀ a, a < 8 → ∀ b, b < 8 → a ≠ b → (TX2 a).2.1 ≠ (TX2 b).2.1 := by decide +kernel
theorem tyX2_ok : ∀ k, k < 8 → parseFieldDescriptor (TX2 k).2.2.1 = some (tyX2 k) := by decide +kernel
abbrev cX2_init : ByteArray := prog_7_method_1_code
def yX2_init : MethodName := ⟨RX2, "<init>", "()V"⟩
def dkwX2_init_0 : List UInt8 := [42, 1, 1, 3, 3, 183, 0, 1, 177]
abbrev dktX2_init_0 : List UInt8 := dkwX2_init_0 ++ []
theorem dksX2_init_0 : cX2_init.data.toList.drop 0 = dktX2_init_0 := by decide +kernel
theorem dX2_init_0 : decode cX2_init 0 = .ok (.aload_n 0, 1) := dk_42 (dk_at dksX2_init_0 0 rfl rfl)
theorem dX2_init_1 : decode cX2_init 1 = .ok (.aconst_null, 1) := dk_1 (dk_at dksX2_init_0 1 rfl rfl)
theorem dX2_init_2 : decode cX2_init 2 = .ok (.aconst_null, 1) := dk_1 (dk_at dksX2_init_0 2 rfl rfl)
theorem dX2_init_3 : decode cX2_init 3 = .ok (.iconst 0, 1) := dk_3 (dk_at dksX2_init_0 3 rfl rfl)
theorem dX2_init_4 : decode cX2_init 4 = .ok (.iconst 0, 1) := dk_3 (dk_at dksX2_init_0 4 rfl rfl)
theorem dX2_init_5 : decode cX2_init 5 = .ok (.invokespecial 1, 3) := dk_183 0 1 (dk_at dksX2_init_0 5 rfl rfl)
theorem dX2_init_8 : decode cX2_init 8 = .ok (.return_, 1) := dk_177 (dk_at dksX2_init_0 8 rfl rfl)
theorem q106 : (Jvm.Cond.initialized "PailRow$Fault") ∈ lw_all := lw_g (lw_at lw_m1 4 rfl) rfl
theorem q144 : (Jvm.Cond.instantiable "PailRow$Fault" (8 : Nat)) ∈ lw_all := lw_g (lw_at lw_m1 42 rfl) rfl
theorem q145 : (Jvm.Cond.castable "PailRow$Fault" "PailRow$Fault") ∈ lw_tbl := lw_at lw_m1 43 rfl
theorem q150 : (Jvm.Cond.selects "PailRow$Fault" ({ cls := "java/lang/Throwable", name := "fillInStackTrace", desc := "(I)Ljava/lang/Throwable;" } : Jvm.MethodName) ({ cls := "java/lang/Throwable", name := "fillInStackTrace", desc := "(I)Ljava/lang/Throwable;" } : Jvm.MethodName)) ∈ lw_all := lw_g (lw_at lw_m1 48 rfl) rfl
theorem q151 : (Jvm.Cond.selects "PailRow$Fault" ({ cls := "java/lang/Throwable", name := "fillInStackTrace", desc := "()Ljava/lang/Throwable;" } : Jvm.MethodName) ({ cls := "java/lang/Throwable", name := "fillInStackTrace", desc := "()Ljava/lang/Throwable;" } : Jvm.MethodName)) ∈ lw_all := lw_g (lw_at lw_m1 49 rfl) rfl
theorem q152 : (Jvm.Cond.lays "PailRow$Fault" "java/lang/Throwable" "cause" "Ljava/lang/Throwable;") ∈ lw_all := lw_g (lw_at lw_m1 50 rfl) rfl
theorem q154 : (Jvm.Cond.lays "PailRow$Fault" "java/lang/Throwable" "stackTrace" "[Ljava/lang/StackTraceElement;") ∈ lw_all := lw_g (lw_at lw_m1 52 rfl) rfl
theorem q156 : (Jvm.Cond.lays "PailRow$Fault" "java/lang/Throwable" "suppressedExceptions" "Ljava/util/List;") ∈ lw_all := lw_g (lw_at lw_m1 54 rfl) rfl
theorem q158 : (Jvm.Cond.lays "PailRow$Fault" "java/lang/Throwable" "detailMessage" "Ljava/lang/String;") ∈ lw_all := lw_g (lw_at lw_m1 56 rfl) rfl
theorem q160 : (Jvm.Cond.lays "PailRow$Fault" "java/lang/Throwable" "backtrace" "Ljava/lang/Object;") ∈ lw_all := lw_g (lw_at lw_m1 58 rfl) rfl
theorem q182 : (Jvm.Cond.instanceMethod ({ cls := "PailRow$Fault", name := "<init>", desc := "()V" } : Jvm.MethodName)) ∈ lw_all := lw_g (lw_at lw_m1 80 rfl) rfl
theorem q183 : (Jvm.Cond.code ({ cls := "PailRow$Fault", name := "<init>", desc := "()V" } : Jvm.MethodName) prog_7_method_1_code (1 : Nat) (Option.none : Option Jvm.ClassFile.FieldType)) ∈ lw_all := lw_g (lw_at lw_m1 81 rfl) rfl
theorem q184 : (Jvm.Cond.methodLink "PailRow$Fault" (1 : Nat) ({ cls := "java/lang/Exception", name := "<init>", desc := "(Ljava/lang/String;Ljava/lang/Throwable;ZZ)V" } : Jvm.MethodName)) ∈ lw_all := lw_g (lw_at lw_m1 82 rfl) rfl
theorem q199 : (Jvm.Cond.lays "PailRow$Fault" "PailRow$Fault" "kind" "I") ∈ lw_all := lw_g (lw_at lw_m1 97 rfl) rfl
theorem q200 : (Jvm.Cond.soleField "PailRow$Fault" "kind") ∈ lw_all := lw_g (lw_at lw_m1 98 rfl) rfl
theorem q201 : (Jvm.Cond.lays "PailRow$Fault" "PailRow$Fault" "place" "I") ∈ lw_all := lw_g (lw_at lw_m1 99 rfl) rfl
theorem q202 : (Jvm.Cond.soleField "PailRow$Fault" "place") ∈ lw_all := lw_g (lw_at lw_m1 100 rfl) rfl
theorem q207 : (Jvm.Cond.lays "PailRow$Fault" "java/lang/Throwable" "depth" "I") ∈ lw_all := lw_g (lw_at lw_m1 105 rfl) rfl
theorem q210 : (Jvm.Cond.superclass "PailRow$Fault" "java/lang/Exception") ∈ lw_all := lw_g (lw_at lw_m1 108 rfl) rfl
theorem q2349 : (Jvm.Cond.castable "PailRow$Fault" "java/lang/Object") ∈ lw_tbl := lw_at lw_m10 87 rfl
theorem in_X2 : ∀ w ∈ wsX20, w ∈ lw_all := lw_in wsX20 [152, 154, 156, 158, 160, 207, 199, 201] (by decide +kernel) (by decide +kernel)
/-! PailRow$State -/
set_option maxRecDepth 100000
def RX3 : String := "PailRow$State"
def TX3 : u_T := fun k => match k with
  | 0 => ("PailRow$State", "yard", "LPailRow$Yard;", false)
  | 1 => ("PailRow$State", "plan", "LPailRow$Plan;", false)
  | _ => ("PailRow$State", "sentence", "LPailRow$Cond;", false)
def tyX3 : Nat → FieldType := fun k => match k with
  | 0 => .object "PailRow$Yard"
  | 1 => .object "PailRow$Plan"
  | _ => .object "PailRow$Cond"
abbrev wsX30 : List Cond := u_ws RX3 TX3 3
theorem nmX3 : ∀ a, a < 3 → ∀ b, b < 3 → a ≠ b → (TX3 a).2.1 ≠ (TX3 b).2.1 := by decide +kernel
theorem tyX3_ok : ∀ k, k < 3 → parseFieldDescriptor (TX3 k).2.2.1 = some (tyX3 k) := by decide +kernel
abbrev cX3_init : ByteArray := prog_17_method_1_code
def yX3_init : MethodName := ⟨RX3, "<init>", "()V"⟩
def dkwX3_init_1 : List UInt8 := [181, 0, 19, 177]
abbrev dktX3_init_1 : List UInt8 := dkwX3_init_1 ++ []
def dkwX3_init_0 : List UInt8 := [42, 183, 0, 1, 42, 187, 0, 7, 89, 183, 0, 9, 181, 0, 10, 42, 187, 0, 16, 89, 183, 0, 18]
abbrev dktX3_init_0 : List UInt8 := dkwX3_init_0 ++ dktX3_init_1
theorem dksX3_init_0 : cX3_init.data.toList.drop 0 = dktX3_init_0 := by decide +kernel
theorem dksX3_init_1 : cX3_init.data.toList.drop 23 = dktX3_init_1 := dk_seg dksX3_init_0 23 rfl rfl
theorem dX3_init_0 : decode cX3_init 0 = .ok (.aload_n 0, 1) := dk_42 (dk_at dksX3_init_0 0 rfl rfl)
theorem dX3_init_1 : decode cX3_init 1 = .ok (.invokespecial 1, 3) := dk_183 0 1 (dk_at dksX3_init_0 1 rfl rfl)
theorem dX3_init_4 : decode cX3_init 4 = .ok (.aload_n 0, 1) := dk_42 (dk_at dksX3_init_0 4 rfl rfl)
theorem dX3_init_5 : decode cX3_init 5 = .ok (.new 7, 3) := dk_187 0 7 (dk_at dksX3_init_0 5 rfl rfl)
theorem dX3_init_8 : decode cX3_init 8 = .ok (.dup, 1) := dk_89 (dk_at dksX3_init_0 8 rfl rfl)
theorem dX3_init_9 : decode cX3_init 9 = .ok (.invokespecial 9, 3) := dk_183 0 9 (dk_at dksX3_init_0 9 rfl rfl)
theorem dX3_init_12 : decode cX3_init 12 = .ok (.putfield 10, 3) := dk_181 0 10 (dk_at dksX3_init_0 12 rfl rfl)
theorem dX3_init_15 : decode cX3_init 15 = .ok (.aload_n 0, 1) := dk_42 (dk_at dksX3_init_0 15 rfl rfl)
theorem dX3_init_16 : decode cX3_init 16 = .ok (.new 16, 3) := dk_187 0 16 (dk_at dksX3_init_0 16 rfl rfl)
theorem dX3_init_19 : decode cX3_init 19 = .ok (.dup, 1) := dk_89 (dk_at dksX3_init_0 19 rfl rfl)
theorem dX3_init_20 : decode cX3_init 20 = .ok (.invokespecial 18, 3) := dk_183 0 18 (dk_at dksX3_init_0 20 rfl rfl)
theorem dX3_init_23 : decode cX3_init 23 = .ok (.putfield 19, 3) := dk_181 0 19 (dk_at dksX3_init_1 0 rfl rfl)
theorem dX3_init_26 : decode cX3_init 26 = .ok (.return_, 1) := dk_177 (dk_at dksX3_init_1 3 rfl rfl)
abbrev cX3_be : ByteArray := prog_17_method_2_code
def yX3_be : MethodName := ⟨RX3, "be", "(LPailRow$State;)V"⟩
def dkwX3_be_1 : List UInt8 := [177]
abbrev dktX3_be_1 : List UInt8 := dkwX3_be_1 ++ []
def dkwX3_be_0 : List UInt8 := [42, 43, 180, 0, 10, 181, 0, 10, 42, 43, 180, 0, 19, 181, 0, 19, 42, 43, 180, 0, 23, 181, 0, 23]
abbrev dktX3_be_0 : List UInt8 := dkwX3_be_0 ++ dktX3_be_1
theorem dksX3_be_0 : cX3_be.data.toList.drop 0 = dktX3_be_0 := by decide +kernel
theorem dksX3_be_1 : cX3_be.data.toList.drop 24 = dktX3_be_1 := dk_seg dksX3_be_0 24 rfl rfl
theorem dX3_be_0 : decode cX3_be 0 = .ok (.aload_n 0, 1) := dk_42 (dk_at dksX3_be_0 0 rfl rfl)
theorem dX3_be_1 : decode cX3_be 1 = .ok (.aload_n 1, 1) := dk_43 (dk_at dksX3_be_0 1 rfl rfl)
theorem dX3_be_2 : decode cX3_be 2 = .ok (.getfield 10, 3) := dk_180 0 10 (dk_at dksX3_be_0 2 rfl rfl)
theorem dX3_be_5 : decode cX3_be 5 = .ok (.putfield 10, 3) := dk_181 0 10 (dk_at dksX3_be_0 5 rfl rfl)
theorem dX3_be_8 : decode cX3_be 8 = .ok (.aload_n 0, 1) := dk_42 (dk_at dksX3_be_0 8 rfl rfl)
theorem dX3_be_9 : decode cX3_be 9 = .ok (.aload_n 1, 1) := dk_43 (dk_at dksX3_be_0 9 rfl rfl)
theorem dX3_be_10 : decode cX3_be 10 = .ok (.getfield 19, 3) := dk_180 0 19 (dk_at dksX3_be_0 10 rfl rfl)
theorem dX3_be_13 : decode cX3_be 13 = .ok (.putfield 19, 3) := dk_181 0 19 (dk_at dksX3_be_0 13 rfl rfl)
theorem dX3_be_16 : decode cX3_be 16 = .ok (.aload_n 0, 1) := dk_42 (dk_at dksX3_be_0 16 rfl rfl)
theorem dX3_be_17 : decode cX3_be 17 = .ok (.aload_n 1, 1) := dk_43 (dk_at dksX3_be_0 17 rfl rfl)
theorem dX3_be_18 : decode cX3_be 18 = .ok (.getfield 23, 3) := dk_180 0 23 (dk_at dksX3_be_0 18 rfl rfl)
theorem dX3_be_21 : decode cX3_be 21 = .ok (.putfield 23, 3) := dk_181 0 23 (dk_at dksX3_be_0 21 rfl rfl)
theorem dX3_be_24 : decode cX3_be 24 = .ok (.return_, 1) := dk_177 (dk_at dksX3_be_1 0 rfl rfl)
theorem q107 : (Jvm.Cond.initialized "PailRow$State") ∈ lw_all := lw_g (lw_at lw_m1 5 rfl) rfl
theorem q244 : (Jvm.Cond.instantiable "PailRow$State" (3 : Nat)) ∈ lw_all := lw_g (lw_at lw_m1 142 rfl) rfl
theorem q246 : (Jvm.Cond.instanceMethod ({ cls := "PailRow$State", name := "<init>", desc := "()V" } : Jvm.MethodName)) ∈ lw_all := lw_g (lw_at lw_m1 144 rfl) rfl
theorem q247 : (Jvm.Cond.code ({ cls := "PailRow$State", name := "<init>", desc := "()V" } : Jvm.MethodName) prog_17_method_1_code (1 : Nat) (Option.none : Option Jvm.ClassFile.FieldType)) ∈ lw_all := lw_g (lw_at lw_m1 145 rfl) rfl
theorem q248 : (Jvm.Cond.methodLink "PailRow$State" (1 : Nat) ({ cls := "java/lang/Object", name := "<init>", desc := "()V" } : Jvm.MethodName)) ∈ lw_all := lw_g (lw_at lw_m1 146 rfl) rfl
theorem q249 : (Jvm.Cond.classLink "PailRow$State" (7 : Nat) "PailRow$Yard") ∈ lw_all := lw_g (lw_at lw_m1 147 rfl) rfl
theorem q251 : (Jvm.Cond.methodLinkNest "PailRow$State" (9 : Nat) ({ cls := "PailRow$Yard", name := "<init>", desc := "()V" } : Jvm.MethodName) "PailRow") ∈ lw_tbl := lw_at lw_m1 149 rfl
theorem q346 : (Jvm.Cond.classLink "PailRow$State" (16 : Nat) "PailRow$Plan") ∈ lw_all := lw_g (lw_at lw_m2 4 rfl) rfl
theorem q348 : (Jvm.Cond.methodLinkNest "PailRow$State" (18 : Nat) ({ cls := "PailRow$Plan", name := "<init>", desc := "()V" } : Jvm.MethodName) "PailRow") ∈ lw_tbl := lw_at lw_m2 6 rfl
theorem q364 : (Jvm.Cond.fieldLink "PailRow$State" (10 : Nat) "PailRow$State" "yard" "LPailRow$Yard;") ∈ lw_all := lw_g (lw_at lw_m2 22 rfl) rfl
theorem q367 : (Jvm.Cond.fieldLink "PailRow$State" (19 : Nat) "PailRow$State" "plan" "LPailRow$Plan;") ∈ lw_all := lw_g (lw_at lw_m2 25 rfl) rfl
theorem q369 : (Jvm.Cond.fieldLink "PailRow$State" (23 : Nat) "PailRow$State" "sentence" "LPailRow$Cond;") ∈ lw_all := lw_g (lw_at lw_m2 27 rfl) rfl
theorem q371 : (Jvm.Cond.lays "PailRow$State" "PailRow$State" "yard" "LPailRow$Yard;") ∈ lw_all := lw_g (lw_at lw_m2 29 rfl) rfl
theorem q372 : (Jvm.Cond.soleField "PailRow$State" "yard") ∈ lw_all := lw_g (lw_at lw_m2 30 rfl) rfl
theorem q373 : (Jvm.Cond.lays "PailRow$State" "PailRow$State" "plan" "LPailRow$Plan;") ∈ lw_all := lw_g (lw_at lw_m2 31 rfl) rfl
theorem q374 : (Jvm.Cond.soleField "PailRow$State" "plan") ∈ lw_all := lw_g (lw_at lw_m2 32 rfl) rfl
theorem q375 : (Jvm.Cond.lays "PailRow$State" "PailRow$State" "sentence" "LPailRow$Cond;") ∈ lw_all := lw_g (lw_at lw_m2 33 rfl) rfl
theorem q376 : (Jvm.Cond.soleField "PailRow$State" "sentence") ∈ lw_all := lw_g (lw_at lw_m2 34 rfl) rfl
theorem q377 : (Jvm.Cond.superclass "PailRow$State" "java/lang/Object") ∈ lw_all := lw_g (lw_at lw_m2 35 rfl) rfl
theorem q1551 : (Jvm.Cond.instanceMethod ({ cls := "PailRow$State", name := "be", desc := "(LPailRow$State;)V" } : Jvm.MethodName)) ∈ lw_all := lw_g (lw_at lw_m7 9 rfl) rfl
theorem q1552 : (Jvm.Cond.selects "PailRow$State" ({ cls := "PailRow$State", name := "be", desc := "(LPailRow$State;)V" } : Jvm.MethodName) ({ cls := "PailRow$State", name := "be", desc := "(LPailRow$State;)V" } : Jvm.MethodName)) ∈ lw_all := lw_g (lw_at lw_m7 10 rfl) rfl
theorem q1553 : (Jvm.Cond.code ({ cls := "PailRow$State", name := "be", desc := "(LPailRow$State;)V" } : Jvm.MethodName) prog_17_method_2_code (2 : Nat) (Option.none : Option Jvm.ClassFile.FieldType)) ∈ lw_all := lw_g (lw_at lw_m7 11 rfl) rfl
theorem q2350 : (Jvm.Cond.castable "PailRow$State" "java/lang/Object") ∈ lw_tbl := lw_at lw_m10 88 rfl
theorem in_X3 : ∀ w ∈ wsX30, w ∈ lw_all := lw_in wsX30 [371, 373, 375] (by decide +kernel) (by decide +kernel)
/-! PailRow$Yard -/
set_option maxRecDepth 100000
def RX4 : String := "PailRow$Yard"
def TX4 : u_T := fun k => match k with
  | 0 => ("PailRow$Yard", "men", "[LPailRow$Man;", true)
  | 1 => ("PailRow$Yard", "fuel", "[I", true)
  | 2 => ("PailRow$Yard", "burns", "[Z", true)
  | 3 => ("PailRow$Yard", "manMany", "I", false)
  | 4 => ("PailRow$Yard", "columns", "I", false)
  | 5 => ("PailRow$Yard", "rows", "I", false)
  | 6 => ("PailRow$Yard", "way", "I", false)
  | 7 => ("PailRow$Yard", "pails", "I", false)
  | 8 => ("PailRow$Yard", "hold", "I", false)
  | 9 => ("PailRow$Yard", "draw", "I", false)
  | 10 => ("PailRow$Yard", "water", "I", false)
  | 11 => ("PailRow$Yard", "spill", "I", false)
  | 12 => ("PailRow$Yard", "back", "I", false)
  | 13 => ("PailRow$Yard", "thrown", "I", false)
  | _ => ("PailRow$Yard", "wind", "I", false)
def tyX4 : Nat → FieldType := fun k => match k with
  | 0 => .array (.object "PailRow$Man")
  | 1 => .array .int
  | 2 => .array .boolean
  | 3 => .int
  | 4 => .int
  | 5 => .int
  | 6 => .int
  | 7 => .int
  | 8 => .int
  | 9 => .int
  | 10 => .int
  | 11 => .int
  | 12 => .int
  | 13 => .int
  | _ => .int
abbrev wsX40 : List Cond := u_ws RX4 TX4 15
set_option maxRecDepth 100000 in
theorem nmX4 : ∀ a, a < 15 → ∀ b, b < 15 → a ≠ b → (TX4 a).2.1 ≠ (TX4 b).2.1 := by decide +kernel
set_option maxRecDepth 100000 in
theorem tyX4_ok : ∀ k, k < 15 → parseFieldDescriptor (TX4 k).2.2.1 = some (tyX4 k) := by decide +kernel
abbrev cX4_init : ByteArray := prog_20_method_1_code
def yX4_init : MethodName := ⟨RX4, "<init>", "()V"⟩
def dkwX4_init_3 : List UInt8 := [181, 0, 47, 177]
abbrev dktX4_init_3 : List UInt8 := dkwX4_init_3 ++ []
def dkwX4_init_2 : List UInt8 := [8, 181, 0, 35, 42, 17, 39, 15, 181, 0, 38, 42, 16, 20, 181, 0, 41, 42, 5, 181, 0, 44, 42, 2]
abbrev dktX4_init_2 : List UInt8 := dkwX4_init_2 ++ dktX4_init_3
def dkwX4_init_1 : List UInt8 := [188, 4, 181, 0, 21, 42, 16, 30, 181, 0, 25, 42, 16, 6, 181, 0, 29, 42, 16, 8, 181, 0, 32, 42]
abbrev dktX4_init_1 : List UInt8 := dkwX4_init_1 ++ dktX4_init_2
def dkwX4_init_0 : List UInt8 := [42, 183, 0, 3, 42, 16, 12, 189, 0, 9, 181, 0, 11, 42, 16, 64, 188, 10, 181, 0, 17, 42, 16, 64]
abbrev dktX4_init_0 : List UInt8 := dkwX4_init_0 ++ dktX4_init_1
theorem dksX4_init_0 : cX4_init.data.toList.drop 0 = dktX4_init_0 := by decide +kernel
theorem dksX4_init_1 : cX4_init.data.toList.drop 24 = dktX4_init_1 := dk_seg dksX4_init_0 24 rfl rfl
theorem dksX4_init_2 : cX4_init.data.toList.drop 48 = dktX4_init_2 := dk_seg dksX4_init_1 24 rfl rfl
theorem dksX4_init_3 : cX4_init.data.toList.drop 72 = dktX4_init_3 := dk_seg dksX4_init_2 24 rfl rfl
theorem dX4_init_0 : decode cX4_init 0 = .ok (.aload_n 0, 1) := dk_42 (dk_at dksX4_init_0 0 rfl rfl)
theorem dX4_init_1 : decode cX4_init 1 = .ok (.invokespecial 3, 3) := dk_183 0 3 (dk_at dksX4_init_0 1 rfl rfl)
theorem dX4_init_4 : decode cX4_init 4 = .ok (.aload_n 0, 1) := dk_42 (dk_at dksX4_init_0 4 rfl rfl)
theorem dX4_init_5 : decode cX4_init 5 = .ok (.bipush 12, 2) := dk_16 12 (dk_at dksX4_init_0 5 rfl rfl)
theorem dX4_init_7 : decode cX4_init 7 = .ok (.anewarray 9, 3) := dk_189 0 9 (dk_at dksX4_init_0 7 rfl rfl)
theorem dX4_init_10 : decode cX4_init 10 = .ok (.putfield 11, 3) := dk_181 0 11 (dk_at dksX4_init_0 10 rfl rfl)
theorem dX4_init_13 : decode cX4_init 13 = .ok (.aload_n 0, 1) := dk_42 (dk_at dksX4_init_0 13 rfl rfl)
theorem dX4_init_14 : decode cX4_init 14 = .ok (.bipush 64, 2) := dk_16 64 (dk_at dksX4_init_0 14 rfl rfl)
theorem dX4_init_16 : decode cX4_init 16 = .ok (.newarray .int, 2) := dk_188_10 (dk_at dksX4_init_0 16 rfl rfl)
theorem dX4_init_18 : decode cX4_init 18 = .ok (.putfield 17, 3) := dk_181 0 17 (dk_at dksX4_init_0 18 rfl rfl)
theorem dX4_init_21 : decode cX4_init 21 = .ok (.aload_n 0, 1) := dk_42 (dk_at dksX4_init_0 21 rfl rfl)
theorem dX4_init_22 : decode cX4_init 22 = .ok (.bipush 64, 2) := dk_16 64 (dk_at dksX4_init_0 22 rfl rfl)
theorem dX4_init_24 : decode cX4_init 24 = .ok (.newarray .boolean, 2) := dk_188_4 (dk_at dksX4_init_1 0 rfl rfl)
theorem dX4_init_26 : decode cX4_init 26 = .ok (.putfield 21, 3) := dk_181 0 21 (dk_at dksX4_init_1 2 rfl rfl)
theorem dX4_init_29 : decode cX4_init 29 = .ok (.aload_n 0, 1) := dk_42 (dk_at dksX4_init_1 5 rfl rfl)
theorem dX4_init_30 : decode cX4_init 30 = .ok (.bipush 30, 2) := dk_16 30 (dk_at dksX4_init_1 6 rfl rfl)
theorem dX4_init_32 : decode cX4_init 32 = .ok (.putfield 25, 3) := dk_181 0 25 (dk_at dksX4_init_1 8 rfl rfl)
theorem dX4_init_35 : decode cX4_init 35 = .ok (.aload_n 0, 1) := dk_42 (dk_at dksX4_init_1 11 rfl rfl)
theorem dX4_init_36 : decode cX4_init 36 = .ok (.bipush 6, 2) := dk_16 6 (dk_at dksX4_init_1 12 rfl rfl)
theorem dX4_init_38 : decode cX4_init 38 = .ok (.putfield 29, 3) := dk_181 0 29 (dk_at dksX4_init_1 14 rfl rfl)
theorem dX4_init_41 : decode cX4_init 41 = .ok (.aload_n 0, 1) := dk_42 (dk_at dksX4_init_1 17 rfl rfl)
theorem dX4_init_42 : decode cX4_init 42 = .ok (.bipush 8, 2) := dk_16 8 (dk_at dksX4_init_1 18 rfl rfl)
theorem dX4_init_44 : decode cX4_init 44 = .ok (.putfield 32, 3) := dk_181 0 32 (dk_at dksX4_init_1 20 rfl rfl)
theorem dX4_init_47 : decode cX4_init 47 = .ok (.aload_n 0, 1) := dk_42 (dk_at dksX4_init_1 23 rfl rfl)
theorem dX4_init_48 : decode cX4_init 48 = .ok (.iconst 5, 1) := dk_8 (dk_at dksX4_init_2 0 rfl rfl)
theorem dX4_init_49 : decode cX4_init 49 = .ok (.putfield 35, 3) := dk_181 0 35 (dk_at dksX4_init_2 1 rfl rfl)
theorem dX4_init_52 : decode cX4_init 52 = .ok (.aload_n 0, 1) := dk_42 (dk_at dksX4_init_2 4 rfl rfl)
theorem dX4_init_53 : decode cX4_init 53 = .ok (.sipush 9999, 3) := dk_17 39 15 (dk_at dksX4_init_2 5 rfl rfl)
theorem dX4_init_56 : decode cX4_init 56 = .ok (.putfield 38, 3) := dk_181 0 38 (dk_at dksX4_init_2 8 rfl rfl)
theorem dX4_init_59 : decode cX4_init 59 = .ok (.aload_n 0, 1) := dk_42 (dk_at dksX4_init_2 11 rfl rfl)
theorem dX4_init_60 : decode cX4_init 60 = .ok (.bipush 20, 2) := dk_16 20 (dk_at dksX4_init_2 12 rfl rfl)
theorem dX4_init_62 : decode cX4_init 62 = .ok (.putfield 41, 3) := dk_181 0 41 (dk_at dksX4_init_2 14 rfl rfl)
theorem dX4_init_65 : decode cX4_init 65 = .ok (.aload_n 0, 1) := dk_42 (dk_at dksX4_init_2 17 rfl rfl)
theorem dX4_init_66 : decode cX4_init 66 = .ok (.iconst 2, 1) := dk_5 (dk_at dksX4_init_2 18 rfl rfl)
theorem dX4_init_67 : decode cX4_init 67 = .ok (.putfield 44, 3) := dk_181 0 44 (dk_at dksX4_init_2 19 rfl rfl)
theorem dX4_init_70 : decode cX4_init 70 = .ok (.aload_n 0, 1) := dk_42 (dk_at dksX4_init_2 22 rfl rfl)
theorem dX4_init_71 : decode cX4_init 71 = .ok (.iconst (-1), 1) := dk_2 (dk_at dksX4_init_2 23 rfl rfl)
theorem dX4_init_72 : decode cX4_init 72 = .ok (.putfield 47, 3) := dk_181 0 47 (dk_at dksX4_init_3 0 rfl rfl)
theorem dX4_init_75 : decode cX4_init 75 = .ok (.return_, 1) := dk_177 (dk_at dksX4_init_3 3 rfl rfl)
abbrev cX4_isAim : ByteArray := prog_20_method_3_code
def yX4_isAim : MethodName := ⟨RX4, "isAim", "(I)Z"⟩
def dkwX4_isAim_1 : List UInt8 := [16, 100, 100, 16, 10, 108, 182, 0, 60, 153, 0, 7, 4, 167, 0, 4, 3, 172]
abbrev dktX4_isAim_1 : List UInt8 := dkwX4_isAim_1 ++ []
def dkwX4_isAim_0 : List UInt8 := [27, 3, 6, 184, 0, 53, 154, 0, 30, 27, 16, 100, 161, 0, 28, 42, 27, 16, 100, 100, 16, 10, 112, 27]
abbrev dktX4_isAim_0 : List UInt8 := dkwX4_isAim_0 ++ dktX4_isAim_1
theorem dksX4_isAim_0 : cX4_isAim.data.toList.drop 0 = dktX4_isAim_0 := by decide +kernel
theorem dksX4_isAim_1 : cX4_isAim.data.toList.drop 24 = dktX4_isAim_1 := dk_seg dksX4_isAim_0 24 rfl rfl
theorem dX4_isAim_0 : decode cX4_isAim 0 = .ok (.iload_n 1, 1) := dk_27 (dk_at dksX4_isAim_0 0 rfl rfl)
theorem dX4_isAim_1 : decode cX4_isAim 1 = .ok (.iconst 0, 1) := dk_3 (dk_at dksX4_isAim_0 1 rfl rfl)
theorem dX4_isAim_2 : decode cX4_isAim 2 = .ok (.iconst 3, 1) := dk_6 (dk_at dksX4_isAim_0 2 rfl rfl)
theorem dX4_isAim_3 : decode cX4_isAim 3 = .ok (.invokestatic 53, 3) := dk_184 0 53 (dk_at dksX4_isAim_0 3 rfl rfl)
theorem dX4_isAim_6 : decode cX4_isAim 6 = .ok (.ifCond .ne 30, 3) := dk_154 0 30 (dk_at dksX4_isAim_0 6 rfl rfl)
theorem dX4_isAim_9 : decode cX4_isAim 9 = .ok (.iload_n 1, 1) := dk_27 (dk_at dksX4_isAim_0 9 rfl rfl)
theorem dX4_isAim_10 : decode cX4_isAim 10 = .ok (.bipush 100, 2) := dk_16 100 (dk_at dksX4_isAim_0 10 rfl rfl)
theorem dX4_isAim_12 : decode cX4_isAim 12 = .ok (.if_icmp .lt 28, 3) := dk_161 0 28 (dk_at dksX4_isAim_0 12 rfl rfl)
theorem dX4_isAim_15 : decode cX4_isAim 15 = .ok (.aload_n 0, 1) := dk_42 (dk_at dksX4_isAim_0 15 rfl rfl)
theorem dX4_isAim_16 : decode cX4_isAim 16 = .ok (.iload_n 1, 1) := dk_27 (dk_at dksX4_isAim_0 16 rfl rfl)
theorem dX4_isAim_17 : decode cX4_isAim 17 = .ok (.bipush 100, 2) := dk_16 100 (dk_at dksX4_isAim_0 17 rfl rfl)
theorem dX4_isAim_19 : decode cX4_isAim 19 = .ok (.isub, 1) := dk_100 (dk_at dksX4_isAim_0 19 rfl rfl)
theorem dX4_isAim_20 : decode cX4_isAim 20 = .ok (.bipush 10, 2) := dk_16 10 (dk_at dksX4_isAim_0 20 rfl rfl)
theorem dX4_isAim_22 : decode cX4_isAim 22 = .ok (.irem, 1) := dk_112 (dk_at dksX4_isAim_0 22 rfl rfl)
theorem dX4_isAim_23 : decode cX4_isAim 23 = .ok (.iload_n 1, 1) := dk_27 (dk_at dksX4_isAim_0 23 rfl rfl)
theorem dX4_isAim_24 : decode cX4_isAim 24 = .ok (.bipush 100, 2) := dk_16 100 (dk_at dksX4_isAim_1 0 rfl rfl)
theorem dX4_isAim_26 : decode cX4_isAim 26 = .ok (.isub, 1) := dk_100 (dk_at dksX4_isAim_1 2 rfl rfl)
theorem dX4_isAim_27 : decode cX4_isAim 27 = .ok (.bipush 10, 2) := dk_16 10 (dk_at dksX4_isAim_1 3 rfl rfl)
theorem dX4_isAim_29 : decode cX4_isAim 29 = .ok (.idiv, 1) := dk_108 (dk_at dksX4_isAim_1 5 rfl rfl)
theorem dX4_isAim_30 : decode cX4_isAim 30 = .ok (.invokevirtual 60, 3) := dk_182 0 60 (dk_at dksX4_isAim_1 6 rfl rfl)
theorem dX4_isAim_33 : decode cX4_isAim 33 = .ok (.ifCond .eq 7, 3) := dk_153 0 7 (dk_at dksX4_isAim_1 9 rfl rfl)
theorem dX4_isAim_36 : decode cX4_isAim 36 = .ok (.iconst 1, 1) := dk_4 (dk_at dksX4_isAim_1 12 rfl rfl)
theorem dX4_isAim_37 : decode cX4_isAim 37 = .ok (.goto 4, 3) := dk_167 0 4 (dk_at dksX4_isAim_1 13 rfl rfl)
theorem dX4_isAim_40 : decode cX4_isAim 40 = .ok (.iconst 0, 1) := dk_3 (dk_at dksX4_isAim_1 16 rfl rfl)
theorem dX4_isAim_41 : decode cX4_isAim 41 = .ok (.ireturn, 1) := dk_172 (dk_at dksX4_isAim_1 17 rfl rfl)
abbrev cX4_isCell : ByteArray := prog_20_method_2_code
def yX4_isCell : MethodName := ⟨RX4, "isCell", "(II)Z"⟩
def dkwX4_isCell_1 : List UInt8 := [184, 0, 53, 153, 0, 7, 4, 167, 0, 4, 3, 172]
abbrev dktX4_isCell_1 : List UInt8 := dkwX4_isCell_1 ++ []
def dkwX4_isCell_0 : List UInt8 := [27, 3, 42, 180, 0, 50, 4, 100, 184, 0, 53, 153, 0, 21, 28, 3, 42, 180, 0, 57, 4, 100]
abbrev dktX4_isCell_0 : List UInt8 := dkwX4_isCell_0 ++ dktX4_isCell_1
theorem dksX4_isCell_0 : cX4_isCell.data.toList.drop 0 = dktX4_isCell_0 := by decide +kernel
theorem dksX4_isCell_1 : cX4_isCell.data.toList.drop 22 = dktX4_isCell_1 := dk_seg dksX4_isCell_0 22 rfl rfl
theorem dX4_isCell_0 : decode cX4_isCell 0 = .ok (.iload_n 1, 1) := dk_27 (dk_at dksX4_isCell_0 0 rfl rfl)
theorem dX4_isCell_1 : decode cX4_isCell 1 = .ok (.iconst 0, 1) := dk_3 (dk_at dksX4_isCell_0 1 rfl rfl)
theorem dX4_isCell_2 : decode cX4_isCell 2 = .ok (.aload_n 0, 1) := dk_42 (dk_at dksX4_isCell_0 2 rfl rfl)
theorem dX4_isCell_3 : decode cX4_isCell 3 = .ok (.getfield 50, 3) := dk_180 0 50 (dk_at dksX4_isCell_0 3 rfl rfl)
theorem dX4_isCell_6 : decode cX4_isCell 6 = .ok (.iconst 1, 1) := dk_4 (dk_at dksX4_isCell_0 6 rfl rfl)
theorem dX4_isCell_7 : decode cX4_isCell 7 = .ok (.isub, 1) := dk_100 (dk_at dksX4_isCell_0 7 rfl rfl)
theorem dX4_isCell_8 : decode cX4_isCell 8 = .ok (.invokestatic 53, 3) := dk_184 0 53 (dk_at dksX4_isCell_0 8 rfl rfl)
theorem dX4_isCell_11 : decode cX4_isCell 11 = .ok (.ifCond .eq 21, 3) := dk_153 0 21 (dk_at dksX4_isCell_0 11 rfl rfl)
theorem dX4_isCell_14 : decode cX4_isCell 14 = .ok (.iload_n 2, 1) := dk_28 (dk_at dksX4_isCell_0 14 rfl rfl)
theorem dX4_isCell_15 : decode cX4_isCell 15 = .ok (.iconst 0, 1) := dk_3 (dk_at dksX4_isCell_0 15 rfl rfl)
theorem dX4_isCell_16 : decode cX4_isCell 16 = .ok (.aload_n 0, 1) := dk_42 (dk_at dksX4_isCell_0 16 rfl rfl)
theorem dX4_isCell_17 : decode cX4_isCell 17 = .ok (.getfield 57, 3) := dk_180 0 57 (dk_at dksX4_isCell_0 17 rfl rfl)
theorem dX4_isCell_20 : decode cX4_isCell 20 = .ok (.iconst 1, 1) := dk_4 (dk_at dksX4_isCell_0 20 rfl rfl)
theorem dX4_isCell_21 : decode cX4_isCell 21 = .ok (.isub, 1) := dk_100 (dk_at dksX4_isCell_0 21 rfl rfl)
theorem dX4_isCell_22 : decode cX4_isCell 22 = .ok (.invokestatic 53, 3) := dk_184 0 53 (dk_at dksX4_isCell_1 0 rfl rfl)
theorem dX4_isCell_25 : decode cX4_isCell 25 = .ok (.ifCond .eq 7, 3) := dk_153 0 7 (dk_at dksX4_isCell_1 3 rfl rfl)
theorem dX4_isCell_28 : decode cX4_isCell 28 = .ok (.iconst 1, 1) := dk_4 (dk_at dksX4_isCell_1 6 rfl rfl)
theorem dX4_isCell_29 : decode cX4_isCell 29 = .ok (.goto 4, 3) := dk_167 0 4 (dk_at dksX4_isCell_1 7 rfl rfl)
theorem dX4_isCell_32 : decode cX4_isCell 32 = .ok (.iconst 0, 1) := dk_3 (dk_at dksX4_isCell_1 10 rfl rfl)
theorem dX4_isCell_33 : decode cX4_isCell 33 = .ok (.ireturn, 1) := dk_172 (dk_at dksX4_isCell_1 11 rfl rfl)
theorem q108 : (Jvm.Cond.initialized "PailRow$Yard") ∈ lw_all := lw_g (lw_at lw_m1 6 rfl) rfl
theorem q250 : (Jvm.Cond.instantiable "PailRow$Yard" (15 : Nat)) ∈ lw_all := lw_g (lw_at lw_m1 148 rfl) rfl
theorem q252 : (Jvm.Cond.instanceMethod ({ cls := "PailRow$Yard", name := "<init>", desc := "()V" } : Jvm.MethodName)) ∈ lw_all := lw_g (lw_at lw_m1 150 rfl) rfl
theorem q253 : (Jvm.Cond.code ({ cls := "PailRow$Yard", name := "<init>", desc := "()V" } : Jvm.MethodName) prog_20_method_1_code (1 : Nat) (Option.none : Option Jvm.ClassFile.FieldType)) ∈ lw_all := lw_g (lw_at lw_m1 151 rfl) rfl
theorem q254 : (Jvm.Cond.methodLink "PailRow$Yard" (3 : Nat) ({ cls := "java/lang/Object", name := "<init>", desc := "()V" } : Jvm.MethodName)) ∈ lw_all := lw_g (lw_at lw_m1 152 rfl) rfl
theorem q255 : (Jvm.Cond.classLink "PailRow$Yard" (9 : Nat) "PailRow$Man") ∈ lw_all := lw_g (lw_at lw_m1 153 rfl) rfl
theorem q257 : (Jvm.Cond.fieldLink "PailRow$Yard" (11 : Nat) "PailRow$Yard" "men" "[LPailRow$Man;") ∈ lw_all := lw_g (lw_at lw_m1 155 rfl) rfl
theorem q262 : (Jvm.Cond.fieldLink "PailRow$Yard" (17 : Nat) "PailRow$Yard" "fuel" "[I") ∈ lw_all := lw_g (lw_at lw_m1 160 rfl) rfl
theorem q266 : (Jvm.Cond.fieldLink "PailRow$Yard" (21 : Nat) "PailRow$Yard" "burns" "[Z") ∈ lw_all := lw_g (lw_at lw_m1 164 rfl) rfl
theorem q273 : (Jvm.Cond.fieldLink "PailRow$Yard" (50 : Nat) "PailRow$Yard" "columns" "I") ∈ lw_all := lw_g (lw_at lw_m1 171 rfl) rfl
theorem q278 : (Jvm.Cond.fieldLink "PailRow$Yard" (57 : Nat) "PailRow$Yard" "rows" "I") ∈ lw_all := lw_g (lw_at lw_m1 176 rfl) rfl
theorem q282 : (Jvm.Cond.fieldLink "PailRow$Yard" (25 : Nat) "PailRow$Yard" "way" "I") ∈ lw_all := lw_g (lw_at lw_m1 180 rfl) rfl
theorem q287 : (Jvm.Cond.fieldLink "PailRow$Yard" (29 : Nat) "PailRow$Yard" "pails" "I") ∈ lw_all := lw_g (lw_at lw_m1 185 rfl) rfl
theorem q292 : (Jvm.Cond.fieldLink "PailRow$Yard" (32 : Nat) "PailRow$Yard" "hold" "I") ∈ lw_all := lw_g (lw_at lw_m1 190 rfl) rfl
theorem q295 : (Jvm.Cond.fieldLink "PailRow$Yard" (35 : Nat) "PailRow$Yard" "draw" "I") ∈ lw_all := lw_g (lw_at lw_m1 193 rfl) rfl
theorem q299 : (Jvm.Cond.fieldLink "PailRow$Yard" (38 : Nat) "PailRow$Yard" "water" "I") ∈ lw_all := lw_g (lw_at lw_m1 197 rfl) rfl
theorem q304 : (Jvm.Cond.fieldLink "PailRow$Yard" (41 : Nat) "PailRow$Yard" "back" "I") ∈ lw_all := lw_g (lw_at lw_m1 202 rfl) rfl
theorem q307 : (Jvm.Cond.fieldLink "PailRow$Yard" (44 : Nat) "PailRow$Yard" "thrown" "I") ∈ lw_all := lw_g (lw_at lw_m1 205 rfl) rfl
theorem q310 : (Jvm.Cond.fieldLink "PailRow$Yard" (47 : Nat) "PailRow$Yard" "wind" "I") ∈ lw_all := lw_g (lw_at lw_m1 208 rfl) rfl
theorem q313 : (Jvm.Cond.laysFinal "PailRow$Yard" "PailRow$Yard" "men" "[LPailRow$Man;") ∈ lw_all := lw_g (lw_at lw_m1 211 rfl) rfl
theorem q314 : (Jvm.Cond.soleField "PailRow$Yard" "men") ∈ lw_all := lw_g (lw_at lw_m1 212 rfl) rfl
theorem q315 : (Jvm.Cond.laysFinal "PailRow$Yard" "PailRow$Yard" "fuel" "[I") ∈ lw_all := lw_g (lw_at lw_m1 213 rfl) rfl
theorem q316 : (Jvm.Cond.soleField "PailRow$Yard" "fuel") ∈ lw_all := lw_g (lw_at lw_m1 214 rfl) rfl
theorem q317 : (Jvm.Cond.laysFinal "PailRow$Yard" "PailRow$Yard" "burns" "[Z") ∈ lw_all := lw_g (lw_at lw_m1 215 rfl) rfl
theorem q318 : (Jvm.Cond.soleField "PailRow$Yard" "burns") ∈ lw_all := lw_g (lw_at lw_m1 216 rfl) rfl
theorem q319 : (Jvm.Cond.lays "PailRow$Yard" "PailRow$Yard" "manMany" "I") ∈ lw_all := lw_g (lw_at lw_m1 217 rfl) rfl
theorem q320 : (Jvm.Cond.soleField "PailRow$Yard" "manMany") ∈ lw_all := lw_g (lw_at lw_m1 218 rfl) rfl
theorem q321 : (Jvm.Cond.lays "PailRow$Yard" "PailRow$Yard" "columns" "I") ∈ lw_all := lw_g (lw_at lw_m1 219 rfl) rfl
theorem q322 : (Jvm.Cond.soleField "PailRow$Yard" "columns") ∈ lw_all := lw_g (lw_at lw_m1 220 rfl) rfl
theorem q323 : (Jvm.Cond.lays "PailRow$Yard" "PailRow$Yard" "rows" "I") ∈ lw_all := lw_g (lw_at lw_m1 221 rfl) rfl
theorem q324 : (Jvm.Cond.soleField "PailRow$Yard" "rows") ∈ lw_all := lw_g (lw_at lw_m1 222 rfl) rfl
theorem q325 : (Jvm.Cond.lays "PailRow$Yard" "PailRow$Yard" "way" "I") ∈ lw_all := lw_g (lw_at lw_m1 223 rfl) rfl
theorem q326 : (Jvm.Cond.soleField "PailRow$Yard" "way") ∈ lw_all := lw_g (lw_at lw_m1 224 rfl) rfl
theorem q327 : (Jvm.Cond.lays "PailRow$Yard" "PailRow$Yard" "pails" "I") ∈ lw_all := lw_g (lw_at lw_m1 225 rfl) rfl
theorem q328 : (Jvm.Cond.soleField "PailRow$Yard" "pails") ∈ lw_all := lw_g (lw_at lw_m1 226 rfl) rfl
theorem q329 : (Jvm.Cond.lays "PailRow$Yard" "PailRow$Yard" "hold" "I") ∈ lw_all := lw_g (lw_at lw_m1 227 rfl) rfl
theorem q330 : (Jvm.Cond.soleField "PailRow$Yard" "hold") ∈ lw_all := lw_g (lw_at lw_m1 228 rfl) rfl
theorem q331 : (Jvm.Cond.lays "PailRow$Yard" "PailRow$Yard" "draw" "I") ∈ lw_all := lw_g (lw_at lw_m1 229 rfl) rfl
theorem q332 : (Jvm.Cond.soleField "PailRow$Yard" "draw") ∈ lw_all := lw_g (lw_at lw_m1 230 rfl) rfl
theorem q333 : (Jvm.Cond.lays "PailRow$Yard" "PailRow$Yard" "water" "I") ∈ lw_all := lw_g (lw_at lw_m1 231 rfl) rfl
theorem q334 : (Jvm.Cond.soleField "PailRow$Yard" "water") ∈ lw_all := lw_g (lw_at lw_m1 232 rfl) rfl
theorem q335 : (Jvm.Cond.lays "PailRow$Yard" "PailRow$Yard" "spill" "I") ∈ lw_all := lw_g (lw_at lw_m1 233 rfl) rfl
theorem q336 : (Jvm.Cond.soleField "PailRow$Yard" "spill") ∈ lw_all := lw_g (lw_at lw_m1 234 rfl) rfl
theorem q337 : (Jvm.Cond.lays "PailRow$Yard" "PailRow$Yard" "back" "I") ∈ lw_all := lw_g (lw_at lw_m1 235 rfl) rfl
theorem q338 : (Jvm.Cond.soleField "PailRow$Yard" "back") ∈ lw_all := lw_g (lw_at lw_m1 236 rfl) rfl
theorem q339 : (Jvm.Cond.lays "PailRow$Yard" "PailRow$Yard" "thrown" "I") ∈ lw_all := lw_g (lw_at lw_m1 237 rfl) rfl
theorem q340 : (Jvm.Cond.soleField "PailRow$Yard" "thrown") ∈ lw_all := lw_g (lw_at lw_m1 238 rfl) rfl
theorem q341 : (Jvm.Cond.lays "PailRow$Yard" "PailRow$Yard" "wind" "I") ∈ lw_all := lw_g (lw_at lw_m1 239 rfl) rfl
theorem q342 : (Jvm.Cond.soleField "PailRow$Yard" "wind") ∈ lw_all := lw_g (lw_at lw_m2 0 rfl) rfl
theorem q343 : (Jvm.Cond.superclass "PailRow$Yard" "java/lang/Object") ∈ lw_all := lw_g (lw_at lw_m2 1 rfl) rfl
theorem q1102 : (Jvm.Cond.instanceMethod ({ cls := "PailRow$Yard", name := "isAim", desc := "(I)Z" } : Jvm.MethodName)) ∈ lw_all := lw_g (lw_at lw_m5 40 rfl) rfl
theorem q1103 : (Jvm.Cond.selects "PailRow$Yard" ({ cls := "PailRow$Yard", name := "isAim", desc := "(I)Z" } : Jvm.MethodName) ({ cls := "PailRow$Yard", name := "isAim", desc := "(I)Z" } : Jvm.MethodName)) ∈ lw_all := lw_g (lw_at lw_m5 41 rfl) rfl
theorem q1104 : (Jvm.Cond.code ({ cls := "PailRow$Yard", name := "isAim", desc := "(I)Z" } : Jvm.MethodName) prog_20_method_3_code (2 : Nat) (Option.some Jvm.ClassFile.FieldType.boolean)) ∈ lw_all := lw_g (lw_at lw_m5 42 rfl) rfl
theorem q1105 : (Jvm.Cond.methodLinkNest "PailRow$Yard" (53 : Nat) ({ cls := "PailRow", name := "isIn", desc := "(III)Z" } : Jvm.MethodName) "PailRow") ∈ lw_tbl := lw_at lw_m5 43 rfl
theorem q1106 : (Jvm.Cond.methodLink "PailRow$Yard" (60 : Nat) ({ cls := "PailRow$Yard", name := "isCell", desc := "(II)Z" } : Jvm.MethodName)) ∈ lw_all := lw_g (lw_at lw_m5 44 rfl) rfl
theorem q1107 : (Jvm.Cond.instanceMethod ({ cls := "PailRow$Yard", name := "isCell", desc := "(II)Z" } : Jvm.MethodName)) ∈ lw_all := lw_g (lw_at lw_m5 45 rfl) rfl
theorem q1108 : (Jvm.Cond.selects "PailRow$Yard" ({ cls := "PailRow$Yard", name := "isCell", desc := "(II)Z" } : Jvm.MethodName) ({ cls := "PailRow$Yard", name := "isCell", desc := "(II)Z" } : Jvm.MethodName)) ∈ lw_all := lw_g (lw_at lw_m5 46 rfl) rfl
theorem q1109 : (Jvm.Cond.code ({ cls := "PailRow$Yard", name := "isCell", desc := "(II)Z" } : Jvm.MethodName) prog_20_method_2_code (3 : Nat) (Option.some Jvm.ClassFile.FieldType.boolean)) ∈ lw_all := lw_g (lw_at lw_m5 47 rfl) rfl
theorem q2351 : (Jvm.Cond.castable "PailRow$Yard" "java/lang/Object") ∈ lw_tbl := lw_at lw_m10 89 rfl
theorem in_X4 : ∀ w ∈ wsX40, w ∈ lw_all := lw_in wsX40 [313, 315, 317, 319, 321, 323, 325, 327, 329, 331, 333, 335, 337, 339, 341] (by decide +kernel) (by decide +kernel)
/-! PailRow$Plan -/
set_option maxRecDepth 100000
def RX5 : String := "PailRow$Plan"
def TX5 : u_T := fun k => match k with
  | 0 => ("PailRow$Plan", "things", "[LPailRow$Thing;", true)
  | _ => ("PailRow$Plan", "many", "I", false)
def tyX5 : Nat → FieldType := fun k => match k with
  | 0 => .array (.object "PailRow$Thing")
  | _ => .int
abbrev wsX50 : List Cond := u_ws RX5 TX5 2
theorem nmX5 : ∀ a, a < 2 → ∀ b, b < 2 → a ≠ b → (TX5 a).2.1 ≠ (TX5 b).2.1 := by decide +kernel
theorem tyX5_ok : ∀ k, k < 2 → parseFieldDescriptor (TX5 k).2.2.1 = some (tyX5 k) := by decide +kernel
abbrev cX5_init : ByteArray := prog_11_method_1_code
def yX5_init : MethodName := ⟨RX5, "<init>", "()V"⟩
def dkwX5_init_0 : List UInt8 := [42, 183, 0, 3, 42, 16, 20, 189, 0, 9, 181, 0, 11, 177]
abbrev dktX5_init_0 : List UInt8 := dkwX5_init_0 ++ []
theorem dksX5_init_0 : cX5_init.data.toList.drop 0 = dktX5_init_0 := by decide +kernel
theorem dX5_init_0 : decode cX5_init 0 = .ok (.aload_n 0, 1) := dk_42 (dk_at dksX5_init_0 0 rfl rfl)
theorem dX5_init_1 : decode cX5_init 1 = .ok (.invokespecial 3, 3) := dk_183 0 3 (dk_at dksX5_init_0 1 rfl rfl)
theorem dX5_init_4 : decode cX5_init 4 = .ok (.aload_n 0, 1) := dk_42 (dk_at dksX5_init_0 4 rfl rfl)
theorem dX5_init_5 : decode cX5_init 5 = .ok (.bipush 20, 2) := dk_16 20 (dk_at dksX5_init_0 5 rfl rfl)
theorem dX5_init_7 : decode cX5_init 7 = .ok (.anewarray 9, 3) := dk_189 0 9 (dk_at dksX5_init_0 7 rfl rfl)
theorem dX5_init_10 : decode cX5_init 10 = .ok (.putfield 11, 3) := dk_181 0 11 (dk_at dksX5_init_0 10 rfl rfl)
theorem dX5_init_13 : decode cX5_init 13 = .ok (.return_, 1) := dk_177 (dk_at dksX5_init_0 13 rfl rfl)
theorem q109 : (Jvm.Cond.initialized "PailRow$Plan") ∈ lw_all := lw_g (lw_at lw_m1 7 rfl) rfl
theorem q347 : (Jvm.Cond.instantiable "PailRow$Plan" (2 : Nat)) ∈ lw_all := lw_g (lw_at lw_m2 5 rfl) rfl
theorem q349 : (Jvm.Cond.instanceMethod ({ cls := "PailRow$Plan", name := "<init>", desc := "()V" } : Jvm.MethodName)) ∈ lw_all := lw_g (lw_at lw_m2 7 rfl) rfl
theorem q350 : (Jvm.Cond.code ({ cls := "PailRow$Plan", name := "<init>", desc := "()V" } : Jvm.MethodName) prog_11_method_1_code (1 : Nat) (Option.none : Option Jvm.ClassFile.FieldType)) ∈ lw_all := lw_g (lw_at lw_m2 8 rfl) rfl
theorem q351 : (Jvm.Cond.methodLink "PailRow$Plan" (3 : Nat) ({ cls := "java/lang/Object", name := "<init>", desc := "()V" } : Jvm.MethodName)) ∈ lw_all := lw_g (lw_at lw_m2 9 rfl) rfl
theorem q352 : (Jvm.Cond.classLink "PailRow$Plan" (9 : Nat) "PailRow$Thing") ∈ lw_all := lw_g (lw_at lw_m2 10 rfl) rfl
theorem q354 : (Jvm.Cond.fieldLink "PailRow$Plan" (11 : Nat) "PailRow$Plan" "things" "[LPailRow$Thing;") ∈ lw_all := lw_g (lw_at lw_m2 12 rfl) rfl
theorem q359 : (Jvm.Cond.laysFinal "PailRow$Plan" "PailRow$Plan" "things" "[LPailRow$Thing;") ∈ lw_all := lw_g (lw_at lw_m2 17 rfl) rfl
theorem q360 : (Jvm.Cond.soleField "PailRow$Plan" "things") ∈ lw_all := lw_g (lw_at lw_m2 18 rfl) rfl
theorem q361 : (Jvm.Cond.lays "PailRow$Plan" "PailRow$Plan" "many" "I") ∈ lw_all := lw_g (lw_at lw_m2 19 rfl) rfl
theorem q362 : (Jvm.Cond.soleField "PailRow$Plan" "many") ∈ lw_all := lw_g (lw_at lw_m2 20 rfl) rfl
theorem q363 : (Jvm.Cond.superclass "PailRow$Plan" "java/lang/Object") ∈ lw_all := lw_g (lw_at lw_m2 21 rfl) rfl
theorem q2352 : (Jvm.Cond.castable "PailRow$Plan" "java/lang/Object") ∈ lw_tbl := lw_at lw_m10 90 rfl
theorem in_X5 : ∀ w ∈ wsX50, w ∈ lw_all := lw_in wsX50 [359, 361] (by decide +kernel) (by decide +kernel)
/-! PailRow$Reader -/
set_option maxRecDepth 100000
def RX6 : String := "PailRow$Reader"
abbrev cX6_init : ByteArray := prog_13_method_1_code
def yX6_init : MethodName := ⟨RX6, "<init>", "(LPailRow;I)V"⟩
def dkwX6_init_0 : List UInt8 := [42, 43, 181, 0, 3, 42, 183, 0, 9, 42, 28, 181, 0, 15, 177]
abbrev dktX6_init_0 : List UInt8 := dkwX6_init_0 ++ []
theorem dksX6_init_0 : cX6_init.data.toList.drop 0 = dktX6_init_0 := by decide +kernel
theorem dX6_init_0 : decode cX6_init 0 = .ok (.aload_n 0, 1) := dk_42 (dk_at dksX6_init_0 0 rfl rfl)
theorem dX6_init_1 : decode cX6_init 1 = .ok (.aload_n 1, 1) := dk_43 (dk_at dksX6_init_0 1 rfl rfl)
theorem dX6_init_2 : decode cX6_init 2 = .ok (.putfield 3, 3) := dk_181 0 3 (dk_at dksX6_init_0 2 rfl rfl)
theorem dX6_init_5 : decode cX6_init 5 = .ok (.aload_n 0, 1) := dk_42 (dk_at dksX6_init_0 5 rfl rfl)
theorem dX6_init_6 : decode cX6_init 6 = .ok (.invokespecial 9, 3) := dk_183 0 9 (dk_at dksX6_init_0 6 rfl rfl)
theorem dX6_init_9 : decode cX6_init 9 = .ok (.aload_n 0, 1) := dk_42 (dk_at dksX6_init_0 9 rfl rfl)
theorem dX6_init_10 : decode cX6_init 10 = .ok (.iload_n 2, 1) := dk_28 (dk_at dksX6_init_0 10 rfl rfl)
theorem dX6_init_11 : decode cX6_init 11 = .ok (.putfield 15, 3) := dk_181 0 15 (dk_at dksX6_init_0 11 rfl rfl)
theorem dX6_init_14 : decode cX6_init 14 = .ok (.return_, 1) := dk_177 (dk_at dksX6_init_0 14 rfl rfl)
abbrev cX6_begin : ByteArray := prog_13_method_2_code
def yX6_begin : MethodName := ⟨RX6, "begin", "()V"⟩
def dkwX6_begin_0 : List UInt8 := [42, 3, 181, 0, 19, 42, 182, 0, 22, 177]
abbrev dktX6_begin_0 : List UInt8 := dkwX6_begin_0 ++ []
theorem dksX6_begin_0 : cX6_begin.data.toList.drop 0 = dktX6_begin_0 := by decide +kernel
theorem dX6_begin_0 : decode cX6_begin 0 = .ok (.aload_n 0, 1) := dk_42 (dk_at dksX6_begin_0 0 rfl rfl)
theorem dX6_begin_1 : decode cX6_begin 1 = .ok (.iconst 0, 1) := dk_3 (dk_at dksX6_begin_0 1 rfl rfl)
theorem dX6_begin_2 : decode cX6_begin 2 = .ok (.putfield 19, 3) := dk_181 0 19 (dk_at dksX6_begin_0 2 rfl rfl)
theorem dX6_begin_5 : decode cX6_begin 5 = .ok (.aload_n 0, 1) := dk_42 (dk_at dksX6_begin_0 5 rfl rfl)
theorem dX6_begin_6 : decode cX6_begin 6 = .ok (.invokevirtual 22, 3) := dk_182 0 22 (dk_at dksX6_begin_0 6 rfl rfl)
theorem dX6_begin_9 : decode cX6_begin 9 = .ok (.return_, 1) := dk_177 (dk_at dksX6_begin_0 9 rfl rfl)
abbrev cX6_next : ByteArray := prog_13_method_6_code
def yX6_next : MethodName := ⟨RX6, "next", "()V"⟩
def dkwX6_next_7 : List UInt8 := [42, 27, 181, 0, 57, 42, 89, 180, 0, 19, 4, 96, 181, 0, 19, 177]
abbrev dktX6_next_7 : List UInt8 := dkwX6_next_7 ++ []
def dkwX6_next_6 : List UInt8 := [16, 41, 159, 0, 14, 27, 16, 60, 16, 62, 184, 0, 32, 153, 0, 7, 6, 167, 0, 4, 7, 181, 0, 43]
abbrev dktX6_next_6 : List UInt8 := dkwX6_next_6 ++ dktX6_next_7
def dkwX6_next_5 : List UInt8 := [182, 0, 46, 182, 0, 53, 167, 0, 56, 42, 27, 16, 59, 159, 0, 26, 27, 16, 40, 159, 0, 20, 27]
abbrev dktX6_next_5 : List UInt8 := dkwX6_next_5 ++ dktX6_next_6
def dkwX6_next_4 : List UInt8 := [167, 0, 84, 42, 27, 182, 0, 46, 154, 0, 11, 42, 27, 182, 0, 50, 153, 0, 15, 42, 42, 27]
abbrev dktX6_next_4 : List UInt8 := dkwX6_next_4 ++ dktX6_next_5
def dkwX6_next_3 : List UInt8 := [181, 0, 40, 42, 7, 181, 0, 43, 177, 42, 182, 0, 36, 60, 27, 156, 0, 11, 42, 3, 181, 0, 43]
abbrev dktX6_next_3 : List UInt8 := dkwX6_next_3 ++ dktX6_next_4
def dkwX6_next_2 : List UInt8 := [180, 0, 15, 164, 0, 28, 42, 180, 0, 19, 42, 180, 0, 15, 161, 0, 17, 42, 42, 180, 0, 15]
abbrev dktX6_next_2 : List UInt8 := dkwX6_next_2 ++ dktX6_next_3
def dkwX6_next_1 : List UInt8 := [96, 181, 0, 19, 167, 255, 228, 42, 42, 180, 0, 19, 181, 0, 40, 42, 180, 0, 3, 180, 0, 25, 42]
abbrev dktX6_next_1 : List UInt8 := dkwX6_next_1 ++ dktX6_next_2
def dkwX6_next_0 : List UInt8 := [42, 182, 0, 36, 16, 32, 159, 0, 12, 42, 182, 0, 36, 16, 10, 160, 0, 16, 42, 89, 180, 0, 19, 4]
abbrev dktX6_next_0 : List UInt8 := dkwX6_next_0 ++ dktX6_next_1
theorem dksX6_next_0 : cX6_next.data.toList.drop 0 = dktX6_next_0 := by decide +kernel
theorem dksX6_next_1 : cX6_next.data.toList.drop 24 = dktX6_next_1 := dk_seg dksX6_next_0 24 rfl rfl
theorem dksX6_next_2 : cX6_next.data.toList.drop 47 = dktX6_next_2 := dk_seg dksX6_next_1 23 rfl rfl
theorem dksX6_next_3 : cX6_next.data.toList.drop 69 = dktX6_next_3 := dk_seg dksX6_next_2 22 rfl rfl
theorem dksX6_next_4 : cX6_next.data.toList.drop 92 = dktX6_next_4 := dk_seg dksX6_next_3 23 rfl rfl
theorem dksX6_next_5 : cX6_next.data.toList.drop 114 = dktX6_next_5 := dk_seg dksX6_next_4 22 rfl rfl
theorem dksX6_next_6 : cX6_next.data.toList.drop 137 = dktX6_next_6 := dk_seg dksX6_next_5 23 rfl rfl
theorem dksX6_next_7 : cX6_next.data.toList.drop 161 = dktX6_next_7 := dk_seg dksX6_next_6 24 rfl rfl
theorem dX6_next_0 : decode cX6_next 0 = .ok (.aload_n 0, 1) := dk_42 (dk_at dksX6_next_0 0 rfl rfl)
theorem dX6_next_1 : decode cX6_next 1 = .ok (.invokevirtual 36, 3) := dk_182 0 36 (dk_at dksX6_next_0 1 rfl rfl)
theorem dX6_next_4 : decode cX6_next 4 = .ok (.bipush 32, 2) := dk_16 32 (dk_at dksX6_next_0 4 rfl rfl)
theorem dX6_next_6 : decode cX6_next 6 = .ok (.if_icmp .eq 12, 3) := dk_159 0 12 (dk_at dksX6_next_0 6 rfl rfl)
theorem dX6_next_9 : decode cX6_next 9 = .ok (.aload_n 0, 1) := dk_42 (dk_at dksX6_next_0 9 rfl rfl)
theorem dX6_next_10 : decode cX6_next 10 = .ok (.invokevirtual 36, 3) := dk_182 0 36 (dk_at dksX6_next_0 10 rfl rfl)
theorem dX6_next_13 : decode cX6_next 13 = .ok (.bipush 10, 2) := dk_16 10 (dk_at dksX6_next_0 13 rfl rfl)
theorem dX6_next_15 : decode cX6_next 15 = .ok (.if_icmp .ne 16, 3) := dk_160 0 16 (dk_at dksX6_next_0 15 rfl rfl)
theorem dX6_next_18 : decode cX6_next 18 = .ok (.aload_n 0, 1) := dk_42 (dk_at dksX6_next_0 18 rfl rfl)
theorem dX6_next_19 : decode cX6_next 19 = .ok (.dup, 1) := dk_89 (dk_at dksX6_next_0 19 rfl rfl)
theorem dX6_next_20 : decode cX6_next 20 = .ok (.getfield 19, 3) := dk_180 0 19 (dk_at dksX6_next_0 20 rfl rfl)
theorem dX6_next_23 : decode cX6_next 23 = .ok (.iconst 1, 1) := dk_4 (dk_at dksX6_next_0 23 rfl rfl)
theorem dX6_next_24 : decode cX6_next 24 = .ok (.iadd, 1) := dk_96 (dk_at dksX6_next_1 0 rfl rfl)
theorem dX6_next_25 : decode cX6_next 25 = .ok (.putfield 19, 3) := dk_181 0 19 (dk_at dksX6_next_1 1 rfl rfl)
theorem dX6_next_28 : decode cX6_next 28 = .ok (.goto (-28), 3) := dk_167 255 228 (dk_at dksX6_next_1 4 rfl rfl)
theorem dX6_next_31 : decode cX6_next 31 = .ok (.aload_n 0, 1) := dk_42 (dk_at dksX6_next_1 7 rfl rfl)
theorem dX6_next_32 : decode cX6_next 32 = .ok (.aload_n 0, 1) := dk_42 (dk_at dksX6_next_1 8 rfl rfl)
theorem dX6_next_33 : decode cX6_next 33 = .ok (.getfield 19, 3) := dk_180 0 19 (dk_at dksX6_next_1 9 rfl rfl)
theorem dX6_next_36 : decode cX6_next 36 = .ok (.putfield 40, 3) := dk_181 0 40 (dk_at dksX6_next_1 12 rfl rfl)
theorem dX6_next_39 : decode cX6_next 39 = .ok (.aload_n 0, 1) := dk_42 (dk_at dksX6_next_1 15 rfl rfl)
theorem dX6_next_40 : decode cX6_next 40 = .ok (.getfield 3, 3) := dk_180 0 3 (dk_at dksX6_next_1 16 rfl rfl)
theorem dX6_next_43 : decode cX6_next 43 = .ok (.getfield 25, 3) := dk_180 0 25 (dk_at dksX6_next_1 19 rfl rfl)
theorem dX6_next_46 : decode cX6_next 46 = .ok (.aload_n 0, 1) := dk_42 (dk_at dksX6_next_1 22 rfl rfl)
theorem dX6_next_47 : decode cX6_next 47 = .ok (.getfield 15, 3) := dk_180 0 15 (dk_at dksX6_next_2 0 rfl rfl)
theorem dX6_next_50 : decode cX6_next 50 = .ok (.if_icmp .le 28, 3) := dk_164 0 28 (dk_at dksX6_next_2 3 rfl rfl)
theorem dX6_next_53 : decode cX6_next 53 = .ok (.aload_n 0, 1) := dk_42 (dk_at dksX6_next_2 6 rfl rfl)
theorem dX6_next_54 : decode cX6_next 54 = .ok (.getfield 19, 3) := dk_180 0 19 (dk_at dksX6_next_2 7 rfl rfl)
theorem dX6_next_57 : decode cX6_next 57 = .ok (.aload_n 0, 1) := dk_42 (dk_at dksX6_next_2 10 rfl rfl)
theorem dX6_next_58 : decode cX6_next 58 = .ok (.getfield 15, 3) := dk_180 0 15 (dk_at dksX6_next_2 11 rfl rfl)
theorem dX6_next_61 : decode cX6_next 61 = .ok (.if_icmp .lt 17, 3) := dk_161 0 17 (dk_at dksX6_next_2 14 rfl rfl)
theorem dX6_next_64 : decode cX6_next 64 = .ok (.aload_n 0, 1) := dk_42 (dk_at dksX6_next_2 17 rfl rfl)
theorem dX6_next_65 : decode cX6_next 65 = .ok (.aload_n 0, 1) := dk_42 (dk_at dksX6_next_2 18 rfl rfl)
theorem dX6_next_66 : decode cX6_next 66 = .ok (.getfield 15, 3) := dk_180 0 15 (dk_at dksX6_next_2 19 rfl rfl)
theorem dX6_next_69 : decode cX6_next 69 = .ok (.putfield 40, 3) := dk_181 0 40 (dk_at dksX6_next_3 0 rfl rfl)
theorem dX6_next_72 : decode cX6_next 72 = .ok (.aload_n 0, 1) := dk_42 (dk_at dksX6_next_3 3 rfl rfl)
theorem dX6_next_73 : decode cX6_next 73 = .ok (.iconst 4, 1) := dk_7 (dk_at dksX6_next_3 4 rfl rfl)
theorem dX6_next_74 : decode cX6_next 74 = .ok (.putfield 43, 3) := dk_181 0 43 (dk_at dksX6_next_3 5 rfl rfl)
theorem dX6_next_77 : decode cX6_next 77 = .ok (.return_, 1) := dk_177 (dk_at dksX6_next_3 8 rfl rfl)
theorem dX6_next_78 : decode cX6_next 78 = .ok (.aload_n 0, 1) := dk_42 (dk_at dksX6_next_3 9 rfl rfl)
theorem dX6_next_79 : decode cX6_next 79 = .ok (.invokevirtual 36, 3) := dk_182 0 36 (dk_at dksX6_next_3 10 rfl rfl)
theorem dX6_next_82 : decode cX6_next 82 = .ok (.istore_n 1, 1) := dk_60 (dk_at dksX6_next_3 13 rfl rfl)
theorem dX6_next_83 : decode cX6_next 83 = .ok (.iload_n 1, 1) := dk_27 (dk_at dksX6_next_3 14 rfl rfl)
theorem dX6_next_84 : decode cX6_next 84 = .ok (.ifCond .ge 11, 3) := dk_156 0 11 (dk_at dksX6_next_3 15 rfl rfl)
theorem dX6_next_87 : decode cX6_next 87 = .ok (.aload_n 0, 1) := dk_42 (dk_at dksX6_next_3 18 rfl rfl)
theorem dX6_next_88 : decode cX6_next 88 = .ok (.iconst 0, 1) := dk_3 (dk_at dksX6_next_3 19 rfl rfl)
theorem dX6_next_89 : decode cX6_next 89 = .ok (.putfield 43, 3) := dk_181 0 43 (dk_at dksX6_next_3 20 rfl rfl)
theorem dX6_next_92 : decode cX6_next 92 = .ok (.goto 84, 3) := dk_167 0 84 (dk_at dksX6_next_4 0 rfl rfl)
theorem dX6_next_95 : decode cX6_next 95 = .ok (.aload_n 0, 1) := dk_42 (dk_at dksX6_next_4 3 rfl rfl)
theorem dX6_next_96 : decode cX6_next 96 = .ok (.iload_n 1, 1) := dk_27 (dk_at dksX6_next_4 4 rfl rfl)
theorem dX6_next_97 : decode cX6_next 97 = .ok (.invokevirtual 46, 3) := dk_182 0 46 (dk_at dksX6_next_4 5 rfl rfl)
theorem dX6_next_100 : decode cX6_next 100 = .ok (.ifCond .ne 11, 3) := dk_154 0 11 (dk_at dksX6_next_4 8 rfl rfl)
theorem dX6_next_103 : decode cX6_next 103 = .ok (.aload_n 0, 1) := dk_42 (dk_at dksX6_next_4 11 rfl rfl)
theorem dX6_next_104 : decode cX6_next 104 = .ok (.iload_n 1, 1) := dk_27 (dk_at dksX6_next_4 12 rfl rfl)
theorem dX6_next_105 : decode cX6_next 105 = .ok (.invokevirtual 50, 3) := dk_182 0 50 (dk_at dksX6_next_4 13 rfl rfl)
theorem dX6_next_108 : decode cX6_next 108 = .ok (.ifCond .eq 15, 3) := dk_153 0 15 (dk_at dksX6_next_4 16 rfl rfl)
theorem dX6_next_111 : decode cX6_next 111 = .ok (.aload_n 0, 1) := dk_42 (dk_at dksX6_next_4 19 rfl rfl)
theorem dX6_next_112 : decode cX6_next 112 = .ok (.aload_n 0, 1) := dk_42 (dk_at dksX6_next_4 20 rfl rfl)
theorem dX6_next_113 : decode cX6_next 113 = .ok (.iload_n 1, 1) := dk_27 (dk_at dksX6_next_4 21 rfl rfl)
theorem dX6_next_114 : decode cX6_next 114 = .ok (.invokevirtual 46, 3) := dk_182 0 46 (dk_at dksX6_next_5 0 rfl rfl)
theorem dX6_next_117 : decode cX6_next 117 = .ok (.invokevirtual 53, 3) := dk_182 0 53 (dk_at dksX6_next_5 3 rfl rfl)
theorem dX6_next_120 : decode cX6_next 120 = .ok (.goto 56, 3) := dk_167 0 56 (dk_at dksX6_next_5 6 rfl rfl)
theorem dX6_next_123 : decode cX6_next 123 = .ok (.aload_n 0, 1) := dk_42 (dk_at dksX6_next_5 9 rfl rfl)
theorem dX6_next_124 : decode cX6_next 124 = .ok (.iload_n 1, 1) := dk_27 (dk_at dksX6_next_5 10 rfl rfl)
theorem dX6_next_125 : decode cX6_next 125 = .ok (.bipush 59, 2) := dk_16 59 (dk_at dksX6_next_5 11 rfl rfl)
theorem dX6_next_127 : decode cX6_next 127 = .ok (.if_icmp .eq 26, 3) := dk_159 0 26 (dk_at dksX6_next_5 13 rfl rfl)
theorem dX6_next_130 : decode cX6_next 130 = .ok (.iload_n 1, 1) := dk_27 (dk_at dksX6_next_5 16 rfl rfl)
theorem dX6_next_131 : decode cX6_next 131 = .ok (.bipush 40, 2) := dk_16 40 (dk_at dksX6_next_5 17 rfl rfl)
theorem dX6_next_133 : decode cX6_next 133 = .ok (.if_icmp .eq 20, 3) := dk_159 0 20 (dk_at dksX6_next_5 19 rfl rfl)
theorem dX6_next_136 : decode cX6_next 136 = .ok (.iload_n 1, 1) := dk_27 (dk_at dksX6_next_5 22 rfl rfl)
theorem dX6_next_137 : decode cX6_next 137 = .ok (.bipush 41, 2) := dk_16 41 (dk_at dksX6_next_6 0 rfl rfl)
theorem dX6_next_139 : decode cX6_next 139 = .ok (.if_icmp .eq 14, 3) := dk_159 0 14 (dk_at dksX6_next_6 2 rfl rfl)
theorem dX6_next_142 : decode cX6_next 142 = .ok (.iload_n 1, 1) := dk_27 (dk_at dksX6_next_6 5 rfl rfl)
theorem dX6_next_143 : decode cX6_next 143 = .ok (.bipush 60, 2) := dk_16 60 (dk_at dksX6_next_6 6 rfl rfl)
theorem dX6_next_145 : decode cX6_next 145 = .ok (.bipush 62, 2) := dk_16 62 (dk_at dksX6_next_6 8 rfl rfl)
theorem dX6_next_147 : decode cX6_next 147 = .ok (.invokestatic 32, 3) := dk_184 0 32 (dk_at dksX6_next_6 10 rfl rfl)
theorem dX6_next_150 : decode cX6_next 150 = .ok (.ifCond .eq 7, 3) := dk_153 0 7 (dk_at dksX6_next_6 13 rfl rfl)
theorem dX6_next_153 : decode cX6_next 153 = .ok (.iconst 3, 1) := dk_6 (dk_at dksX6_next_6 16 rfl rfl)
theorem dX6_next_154 : decode cX6_next 154 = .ok (.goto 4, 3) := dk_167 0 4 (dk_at dksX6_next_6 17 rfl rfl)
theorem dX6_next_157 : decode cX6_next 157 = .ok (.iconst 4, 1) := dk_7 (dk_at dksX6_next_6 20 rfl rfl)
theorem dX6_next_158 : decode cX6_next 158 = .ok (.putfield 43, 3) := dk_181 0 43 (dk_at dksX6_next_6 21 rfl rfl)
theorem dX6_next_161 : decode cX6_next 161 = .ok (.aload_n 0, 1) := dk_42 (dk_at dksX6_next_7 0 rfl rfl)
theorem dX6_next_162 : decode cX6_next 162 = .ok (.iload_n 1, 1) := dk_27 (dk_at dksX6_next_7 1 rfl rfl)
theorem dX6_next_163 : decode cX6_next 163 = .ok (.putfield 57, 3) := dk_181 0 57 (dk_at dksX6_next_7 2 rfl rfl)
theorem dX6_next_166 : decode cX6_next 166 = .ok (.aload_n 0, 1) := dk_42 (dk_at dksX6_next_7 5 rfl rfl)
theorem dX6_next_167 : decode cX6_next 167 = .ok (.dup, 1) := dk_89 (dk_at dksX6_next_7 6 rfl rfl)
theorem dX6_next_168 : decode cX6_next 168 = .ok (.getfield 19, 3) := dk_180 0 19 (dk_at dksX6_next_7 7 rfl rfl)
theorem dX6_next_171 : decode cX6_next 171 = .ok (.iconst 1, 1) := dk_4 (dk_at dksX6_next_7 10 rfl rfl)
theorem dX6_next_172 : decode cX6_next 172 = .ok (.iadd, 1) := dk_96 (dk_at dksX6_next_7 11 rfl rfl)
theorem dX6_next_173 : decode cX6_next 173 = .ok (.putfield 19, 3) := dk_181 0 19 (dk_at dksX6_next_7 12 rfl rfl)
theorem dX6_next_176 : decode cX6_next 176 = .ok (.return_, 1) := dk_177 (dk_at dksX6_next_7 15 rfl rfl)
abbrev cX6_peek : ByteArray := prog_13_method_3_code
def yX6_peek : MethodName := ⟨RX6, "peek", "()I"⟩
def dkwX6_peek_1 : List UInt8 := [180, 0, 19, 51, 17, 0, 255, 126, 167, 0, 4, 2, 172]
abbrev dktX6_peek_1 : List UInt8 := dkwX6_peek_1 ++ []
def dkwX6_peek_0 : List UInt8 := [42, 180, 0, 19, 42, 180, 0, 3, 180, 0, 25, 162, 0, 22, 42, 180, 0, 3, 180, 0, 28, 42]
abbrev dktX6_peek_0 : List UInt8 := dkwX6_peek_0 ++ dktX6_peek_1
theorem dksX6_peek_0 : cX6_peek.data.toList.drop 0 = dktX6_peek_0 := by decide +kernel
theorem dksX6_peek_1 : cX6_peek.data.toList.drop 22 = dktX6_peek_1 := dk_seg dksX6_peek_0 22 rfl rfl
theorem dX6_peek_0 : decode cX6_peek 0 = .ok (.aload_n 0, 1) := dk_42 (dk_at dksX6_peek_0 0 rfl rfl)
theorem dX6_peek_1 : decode cX6_peek 1 = .ok (.getfield 19, 3) := dk_180 0 19 (dk_at dksX6_peek_0 1 rfl rfl)
theorem dX6_peek_4 : decode cX6_peek 4 = .ok (.aload_n 0, 1) := dk_42 (dk_at dksX6_peek_0 4 rfl rfl)
theorem dX6_peek_5 : decode cX6_peek 5 = .ok (.getfield 3, 3) := dk_180 0 3 (dk_at dksX6_peek_0 5 rfl rfl)
theorem dX6_peek_8 : decode cX6_peek 8 = .ok (.getfield 25, 3) := dk_180 0 25 (dk_at dksX6_peek_0 8 rfl rfl)
theorem dX6_peek_11 : decode cX6_peek 11 = .ok (.if_icmp .ge 22, 3) := dk_162 0 22 (dk_at dksX6_peek_0 11 rfl rfl)
theorem dX6_peek_14 : decode cX6_peek 14 = .ok (.aload_n 0, 1) := dk_42 (dk_at dksX6_peek_0 14 rfl rfl)
theorem dX6_peek_15 : decode cX6_peek 15 = .ok (.getfield 3, 3) := dk_180 0 3 (dk_at dksX6_peek_0 15 rfl rfl)
theorem dX6_peek_18 : decode cX6_peek 18 = .ok (.getfield 28, 3) := dk_180 0 28 (dk_at dksX6_peek_0 18 rfl rfl)
theorem dX6_peek_21 : decode cX6_peek 21 = .ok (.aload_n 0, 1) := dk_42 (dk_at dksX6_peek_0 21 rfl rfl)
theorem dX6_peek_22 : decode cX6_peek 22 = .ok (.getfield 19, 3) := dk_180 0 19 (dk_at dksX6_peek_1 0 rfl rfl)
theorem dX6_peek_25 : decode cX6_peek 25 = .ok (.baload, 1) := dk_51 (dk_at dksX6_peek_1 3 rfl rfl)
theorem dX6_peek_26 : decode cX6_peek 26 = .ok (.sipush 255, 3) := dk_17 0 255 (dk_at dksX6_peek_1 4 rfl rfl)
theorem dX6_peek_29 : decode cX6_peek 29 = .ok (.iand, 1) := dk_126 (dk_at dksX6_peek_1 7 rfl rfl)
theorem dX6_peek_30 : decode cX6_peek 30 = .ok (.goto 4, 3) := dk_167 0 4 (dk_at dksX6_peek_1 8 rfl rfl)
theorem dX6_peek_33 : decode cX6_peek 33 = .ok (.iconst (-1), 1) := dk_2 (dk_at dksX6_peek_1 11 rfl rfl)
theorem dX6_peek_34 : decode cX6_peek 34 = .ok (.ireturn, 1) := dk_172 (dk_at dksX6_peek_1 12 rfl rfl)
abbrev cX6_isLetter : ByteArray := prog_13_method_4_code
def yX6_isLetter : MethodName := ⟨RX6, "isLetter", "(I)Z"⟩
def dkwX6_isLetter_0 : List UInt8 := [27, 16, 97, 16, 122, 184, 0, 32, 172]
abbrev dktX6_isLetter_0 : List UInt8 := dkwX6_isLetter_0 ++ []
theorem dksX6_isLetter_0 : cX6_isLetter.data.toList.drop 0 = dktX6_isLetter_0 := by decide +kernel
theorem dX6_isLetter_0 : decode cX6_isLetter 0 = .ok (.iload_n 1, 1) := dk_27 (dk_at dksX6_isLetter_0 0 rfl rfl)
theorem dX6_isLetter_1 : decode cX6_isLetter 1 = .ok (.bipush 97, 2) := dk_16 97 (dk_at dksX6_isLetter_0 1 rfl rfl)
theorem dX6_isLetter_3 : decode cX6_isLetter 3 = .ok (.bipush 122, 2) := dk_16 122 (dk_at dksX6_isLetter_0 3 rfl rfl)
theorem dX6_isLetter_5 : decode cX6_isLetter 5 = .ok (.invokestatic 32, 3) := dk_184 0 32 (dk_at dksX6_isLetter_0 5 rfl rfl)
theorem dX6_isLetter_8 : decode cX6_isLetter 8 = .ok (.ireturn, 1) := dk_172 (dk_at dksX6_isLetter_0 8 rfl rfl)
abbrev cX6_isDigit : ByteArray := prog_13_method_5_code
def yX6_isDigit : MethodName := ⟨RX6, "isDigit", "(I)Z"⟩
def dkwX6_isDigit_0 : List UInt8 := [27, 16, 48, 16, 57, 184, 0, 32, 172]
abbrev dktX6_isDigit_0 : List UInt8 := dkwX6_isDigit_0 ++ []
theorem dksX6_isDigit_0 : cX6_isDigit.data.toList.drop 0 = dktX6_isDigit_0 := by decide +kernel
theorem dX6_isDigit_0 : decode cX6_isDigit 0 = .ok (.iload_n 1, 1) := dk_27 (dk_at dksX6_isDigit_0 0 rfl rfl)
theorem dX6_isDigit_1 : decode cX6_isDigit 1 = .ok (.bipush 48, 2) := dk_16 48 (dk_at dksX6_isDigit_0 1 rfl rfl)
theorem dX6_isDigit_3 : decode cX6_isDigit 3 = .ok (.bipush 57, 2) := dk_16 57 (dk_at dksX6_isDigit_0 3 rfl rfl)
theorem dX6_isDigit_5 : decode cX6_isDigit 5 = .ok (.invokestatic 32, 3) := dk_184 0 32 (dk_at dksX6_isDigit_0 5 rfl rfl)
theorem dX6_isDigit_8 : decode cX6_isDigit 8 = .ok (.ireturn, 1) := dk_172 (dk_at dksX6_isDigit_0 8 rfl rfl)
abbrev cX6_run : ByteArray := prog_13_method_7_code
def yX6_run : MethodName := ⟨RX6, "run", "(Z)V"⟩
def dkwX6_run_8 : List UInt8 := [177]
abbrev dktX6_run_8 : List UInt8 := dkwX6_run_8 ++ []
def dkwX6_run_7 : List UInt8 := [167, 0, 5, 16, 8, 164, 0, 7, 7, 167, 0, 12, 27, 153, 0, 7, 4, 167, 0, 4, 5, 181, 0, 43]
abbrev dktX6_run_7 : List UInt8 := dkwX6_run_7 ++ dktX6_run_8
def dkwX6_run_6 : List UInt8 := [180, 0, 40, 100, 181, 0, 64, 42, 28, 153, 0, 21, 42, 180, 0, 64, 27, 153, 0, 8, 16, 6]
abbrev dktX6_run_6 : List UInt8 := dkwX6_run_6 ++ dktX6_run_7
def dkwX6_run_5 : List UInt8 := [181, 0, 57, 42, 89, 180, 0, 19, 4, 96, 181, 0, 19, 167, 255, 138, 42, 42, 180, 0, 19, 42]
abbrev dktX6_run_5 : List UInt8 := dkwX6_run_5 ++ dktX6_run_6
def dkwX6_run_4 : List UInt8 := [100, 16, 8, 162, 0, 22, 42, 16, 10, 42, 180, 0, 57, 104, 42, 182, 0, 36, 96, 16, 48, 100]
abbrev dktX6_run_4 : List UInt8 := dkwX6_run_4 ++ dktX6_run_5
def dkwX6_run_3 : List UInt8 := [42, 180, 0, 60, 16, 8, 121, 42, 182, 0, 36, 133, 129, 181, 0, 60, 42, 180, 0, 19, 42, 180, 0, 40]
abbrev dktX6_run_3 : List UInt8 := dkwX6_run_3 ++ dktX6_run_4
def dkwX6_run_2 : List UInt8 := [160, 0, 7, 4, 167, 0, 4, 3, 61, 42, 180, 0, 19, 42, 180, 0, 40, 100, 16, 6, 162, 0, 20, 42]
abbrev dktX6_run_2 : List UInt8 := dkwX6_run_2 ++ dktX6_run_3
def dkwX6_run_1 : List UInt8 := [42, 182, 0, 36, 182, 0, 50, 153, 0, 102, 28, 153, 0, 19, 42, 42, 182, 0, 36, 182, 0, 46, 27]
abbrev dktX6_run_1 : List UInt8 := dkwX6_run_1 ++ dktX6_run_2
def dkwX6_run_0 : List UInt8 := [4, 61, 42, 3, 181, 0, 57, 42, 9, 181, 0, 60, 42, 42, 182, 0, 36, 182, 0, 46, 154, 0, 14, 42]
abbrev dktX6_run_0 : List UInt8 := dkwX6_run_0 ++ dktX6_run_1
theorem dksX6_run_0 : cX6_run.data.toList.drop 0 = dktX6_run_0 := by decide +kernel
theorem dksX6_run_1 : cX6_run.data.toList.drop 24 = dktX6_run_1 := dk_seg dksX6_run_0 24 rfl rfl
theorem dksX6_run_2 : cX6_run.data.toList.drop 47 = dktX6_run_2 := dk_seg dksX6_run_1 23 rfl rfl
theorem dksX6_run_3 : cX6_run.data.toList.drop 71 = dktX6_run_3 := dk_seg dksX6_run_2 24 rfl rfl
theorem dksX6_run_4 : cX6_run.data.toList.drop 95 = dktX6_run_4 := dk_seg dksX6_run_3 24 rfl rfl
theorem dksX6_run_5 : cX6_run.data.toList.drop 117 = dktX6_run_5 := dk_seg dksX6_run_4 22 rfl rfl
theorem dksX6_run_6 : cX6_run.data.toList.drop 139 = dktX6_run_6 := dk_seg dksX6_run_5 22 rfl rfl
theorem dksX6_run_7 : cX6_run.data.toList.drop 161 = dktX6_run_7 := dk_seg dksX6_run_6 22 rfl rfl
theorem dksX6_run_8 : cX6_run.data.toList.drop 185 = dktX6_run_8 := dk_seg dksX6_run_7 24 rfl rfl
theorem dX6_run_0 : decode cX6_run 0 = .ok (.iconst 1, 1) := dk_4 (dk_at dksX6_run_0 0 rfl rfl)
theorem dX6_run_1 : decode cX6_run 1 = .ok (.istore_n 2, 1) := dk_61 (dk_at dksX6_run_0 1 rfl rfl)
theorem dX6_run_2 : decode cX6_run 2 = .ok (.aload_n 0, 1) := dk_42 (dk_at dksX6_run_0 2 rfl rfl)
theorem dX6_run_3 : decode cX6_run 3 = .ok (.iconst 0, 1) := dk_3 (dk_at dksX6_run_0 3 rfl rfl)
theorem dX6_run_4 : decode cX6_run 4 = .ok (.putfield 57, 3) := dk_181 0 57 (dk_at dksX6_run_0 4 rfl rfl)
theorem dX6_run_7 : decode cX6_run 7 = .ok (.aload_n 0, 1) := dk_42 (dk_at dksX6_run_0 7 rfl rfl)
theorem dX6_run_8 : decode cX6_run 8 = .ok (.lconst 0, 1) := dk_9 (dk_at dksX6_run_0 8 rfl rfl)
theorem dX6_run_9 : decode cX6_run 9 = .ok (.putfield 60, 3) := dk_181 0 60 (dk_at dksX6_run_0 9 rfl rfl)
theorem dX6_run_12 : decode cX6_run 12 = .ok (.aload_n 0, 1) := dk_42 (dk_at dksX6_run_0 12 rfl rfl)
theorem dX6_run_13 : decode cX6_run 13 = .ok (.aload_n 0, 1) := dk_42 (dk_at dksX6_run_0 13 rfl rfl)
theorem dX6_run_14 : decode cX6_run 14 = .ok (.invokevirtual 36, 3) := dk_182 0 36 (dk_at dksX6_run_0 14 rfl rfl)
theorem dX6_run_17 : decode cX6_run 17 = .ok (.invokevirtual 46, 3) := dk_182 0 46 (dk_at dksX6_run_0 17 rfl rfl)
theorem dX6_run_20 : decode cX6_run 20 = .ok (.ifCond .ne 14, 3) := dk_154 0 14 (dk_at dksX6_run_0 20 rfl rfl)
theorem dX6_run_23 : decode cX6_run 23 = .ok (.aload_n 0, 1) := dk_42 (dk_at dksX6_run_0 23 rfl rfl)
theorem dX6_run_24 : decode cX6_run 24 = .ok (.aload_n 0, 1) := dk_42 (dk_at dksX6_run_1 0 rfl rfl)
theorem dX6_run_25 : decode cX6_run 25 = .ok (.invokevirtual 36, 3) := dk_182 0 36 (dk_at dksX6_run_1 1 rfl rfl)
theorem dX6_run_28 : decode cX6_run 28 = .ok (.invokevirtual 50, 3) := dk_182 0 50 (dk_at dksX6_run_1 4 rfl rfl)
theorem dX6_run_31 : decode cX6_run 31 = .ok (.ifCond .eq 102, 3) := dk_153 0 102 (dk_at dksX6_run_1 7 rfl rfl)
theorem dX6_run_34 : decode cX6_run 34 = .ok (.iload_n 2, 1) := dk_28 (dk_at dksX6_run_1 10 rfl rfl)
theorem dX6_run_35 : decode cX6_run 35 = .ok (.ifCond .eq 19, 3) := dk_153 0 19 (dk_at dksX6_run_1 11 rfl rfl)
theorem dX6_run_38 : decode cX6_run 38 = .ok (.aload_n 0, 1) := dk_42 (dk_at dksX6_run_1 14 rfl rfl)
theorem dX6_run_39 : decode cX6_run 39 = .ok (.aload_n 0, 1) := dk_42 (dk_at dksX6_run_1 15 rfl rfl)
theorem dX6_run_40 : decode cX6_run 40 = .ok (.invokevirtual 36, 3) := dk_182 0 36 (dk_at dksX6_run_1 16 rfl rfl)
theorem dX6_run_43 : decode cX6_run 43 = .ok (.invokevirtual 46, 3) := dk_182 0 46 (dk_at dksX6_run_1 19 rfl rfl)
theorem dX6_run_46 : decode cX6_run 46 = .ok (.iload_n 1, 1) := dk_27 (dk_at dksX6_run_1 22 rfl rfl)
theorem dX6_run_47 : decode cX6_run 47 = .ok (.if_icmp .ne 7, 3) := dk_160 0 7 (dk_at dksX6_run_2 0 rfl rfl)
theorem dX6_run_50 : decode cX6_run 50 = .ok (.iconst 1, 1) := dk_4 (dk_at dksX6_run_2 3 rfl rfl)
theorem dX6_run_51 : decode cX6_run 51 = .ok (.goto 4, 3) := dk_167 0 4 (dk_at dksX6_run_2 4 rfl rfl)
theorem dX6_run_54 : decode cX6_run 54 = .ok (.iconst 0, 1) := dk_3 (dk_at dksX6_run_2 7 rfl rfl)
theorem dX6_run_55 : decode cX6_run 55 = .ok (.istore_n 2, 1) := dk_61 (dk_at dksX6_run_2 8 rfl rfl)
theorem dX6_run_56 : decode cX6_run 56 = .ok (.aload_n 0, 1) := dk_42 (dk_at dksX6_run_2 9 rfl rfl)
theorem dX6_run_57 : decode cX6_run 57 = .ok (.getfield 19, 3) := dk_180 0 19 (dk_at dksX6_run_2 10 rfl rfl)
theorem dX6_run_60 : decode cX6_run 60 = .ok (.aload_n 0, 1) := dk_42 (dk_at dksX6_run_2 13 rfl rfl)
theorem dX6_run_61 : decode cX6_run 61 = .ok (.getfield 40, 3) := dk_180 0 40 (dk_at dksX6_run_2 14 rfl rfl)
theorem dX6_run_64 : decode cX6_run 64 = .ok (.isub, 1) := dk_100 (dk_at dksX6_run_2 17 rfl rfl)
theorem dX6_run_65 : decode cX6_run 65 = .ok (.bipush 6, 2) := dk_16 6 (dk_at dksX6_run_2 18 rfl rfl)
theorem dX6_run_67 : decode cX6_run 67 = .ok (.if_icmp .ge 20, 3) := dk_162 0 20 (dk_at dksX6_run_2 20 rfl rfl)
theorem dX6_run_70 : decode cX6_run 70 = .ok (.aload_n 0, 1) := dk_42 (dk_at dksX6_run_2 23 rfl rfl)
theorem dX6_run_71 : decode cX6_run 71 = .ok (.aload_n 0, 1) := dk_42 (dk_at dksX6_run_3 0 rfl rfl)
theorem dX6_run_72 : decode cX6_run 72 = .ok (.getfield 60, 3) := dk_180 0 60 (dk_at dksX6_run_3 1 rfl rfl)
theorem dX6_run_75 : decode cX6_run 75 = .ok (.bipush 8, 2) := dk_16 8 (dk_at dksX6_run_3 4 rfl rfl)
theorem dX6_run_77 : decode cX6_run 77 = .ok (.lshl, 1) := dk_121 (dk_at dksX6_run_3 6 rfl rfl)
theorem dX6_run_78 : decode cX6_run 78 = .ok (.aload_n 0, 1) := dk_42 (dk_at dksX6_run_3 7 rfl rfl)
theorem dX6_run_79 : decode cX6_run 79 = .ok (.invokevirtual 36, 3) := dk_182 0 36 (dk_at dksX6_run_3 8 rfl rfl)
theorem dX6_run_82 : decode cX6_run 82 = .ok (.i2l, 1) := dk_133 (dk_at dksX6_run_3 11 rfl rfl)
theorem dX6_run_83 : decode cX6_run 83 = .ok (.lor, 1) := dk_129 (dk_at dksX6_run_3 12 rfl rfl)
theorem dX6_run_84 : decode cX6_run 84 = .ok (.putfield 60, 3) := dk_181 0 60 (dk_at dksX6_run_3 13 rfl rfl)
theorem dX6_run_87 : decode cX6_run 87 = .ok (.aload_n 0, 1) := dk_42 (dk_at dksX6_run_3 16 rfl rfl)
theorem dX6_run_88 : decode cX6_run 88 = .ok (.getfield 19, 3) := dk_180 0 19 (dk_at dksX6_run_3 17 rfl rfl)
theorem dX6_run_91 : decode cX6_run 91 = .ok (.aload_n 0, 1) := dk_42 (dk_at dksX6_run_3 20 rfl rfl)
theorem dX6_run_92 : decode cX6_run 92 = .ok (.getfield 40, 3) := dk_180 0 40 (dk_at dksX6_run_3 21 rfl rfl)
theorem dX6_run_95 : decode cX6_run 95 = .ok (.isub, 1) := dk_100 (dk_at dksX6_run_4 0 rfl rfl)
theorem dX6_run_96 : decode cX6_run 96 = .ok (.bipush 8, 2) := dk_16 8 (dk_at dksX6_run_4 1 rfl rfl)
theorem dX6_run_98 : decode cX6_run 98 = .ok (.if_icmp .ge 22, 3) := dk_162 0 22 (dk_at dksX6_run_4 3 rfl rfl)
theorem dX6_run_101 : decode cX6_run 101 = .ok (.aload_n 0, 1) := dk_42 (dk_at dksX6_run_4 6 rfl rfl)
theorem dX6_run_102 : decode cX6_run 102 = .ok (.bipush 10, 2) := dk_16 10 (dk_at dksX6_run_4 7 rfl rfl)
theorem dX6_run_104 : decode cX6_run 104 = .ok (.aload_n 0, 1) := dk_42 (dk_at dksX6_run_4 9 rfl rfl)
theorem dX6_run_105 : decode cX6_run 105 = .ok (.getfield 57, 3) := dk_180 0 57 (dk_at dksX6_run_4 10 rfl rfl)
theorem dX6_run_108 : decode cX6_run 108 = .ok (.imul, 1) := dk_104 (dk_at dksX6_run_4 13 rfl rfl)
theorem dX6_run_109 : decode cX6_run 109 = .ok (.aload_n 0, 1) := dk_42 (dk_at dksX6_run_4 14 rfl rfl)
theorem dX6_run_110 : decode cX6_run 110 = .ok (.invokevirtual 36, 3) := dk_182 0 36 (dk_at dksX6_run_4 15 rfl rfl)
theorem dX6_run_113 : decode cX6_run 113 = .ok (.iadd, 1) := dk_96 (dk_at dksX6_run_4 18 rfl rfl)
theorem dX6_run_114 : decode cX6_run 114 = .ok (.bipush 48, 2) := dk_16 48 (dk_at dksX6_run_4 19 rfl rfl)
theorem dX6_run_116 : decode cX6_run 116 = .ok (.isub, 1) := dk_100 (dk_at dksX6_run_4 21 rfl rfl)
theorem dX6_run_117 : decode cX6_run 117 = .ok (.putfield 57, 3) := dk_181 0 57 (dk_at dksX6_run_5 0 rfl rfl)
theorem dX6_run_120 : decode cX6_run 120 = .ok (.aload_n 0, 1) := dk_42 (dk_at dksX6_run_5 3 rfl rfl)
theorem dX6_run_121 : decode cX6_run 121 = .ok (.dup, 1) := dk_89 (dk_at dksX6_run_5 4 rfl rfl)
theorem dX6_run_122 : decode cX6_run 122 = .ok (.getfield 19, 3) := dk_180 0 19 (dk_at dksX6_run_5 5 rfl rfl)
theorem dX6_run_125 : decode cX6_run 125 = .ok (.iconst 1, 1) := dk_4 (dk_at dksX6_run_5 8 rfl rfl)
theorem dX6_run_126 : decode cX6_run 126 = .ok (.iadd, 1) := dk_96 (dk_at dksX6_run_5 9 rfl rfl)
theorem dX6_run_127 : decode cX6_run 127 = .ok (.putfield 19, 3) := dk_181 0 19 (dk_at dksX6_run_5 10 rfl rfl)
theorem dX6_run_130 : decode cX6_run 130 = .ok (.goto (-118), 3) := dk_167 255 138 (dk_at dksX6_run_5 13 rfl rfl)
theorem dX6_run_133 : decode cX6_run 133 = .ok (.aload_n 0, 1) := dk_42 (dk_at dksX6_run_5 16 rfl rfl)
theorem dX6_run_134 : decode cX6_run 134 = .ok (.aload_n 0, 1) := dk_42 (dk_at dksX6_run_5 17 rfl rfl)
theorem dX6_run_135 : decode cX6_run 135 = .ok (.getfield 19, 3) := dk_180 0 19 (dk_at dksX6_run_5 18 rfl rfl)
theorem dX6_run_138 : decode cX6_run 138 = .ok (.aload_n 0, 1) := dk_42 (dk_at dksX6_run_5 21 rfl rfl)
theorem dX6_run_139 : decode cX6_run 139 = .ok (.getfield 40, 3) := dk_180 0 40 (dk_at dksX6_run_6 0 rfl rfl)
theorem dX6_run_142 : decode cX6_run 142 = .ok (.isub, 1) := dk_100 (dk_at dksX6_run_6 3 rfl rfl)
theorem dX6_run_143 : decode cX6_run 143 = .ok (.putfield 64, 3) := dk_181 0 64 (dk_at dksX6_run_6 4 rfl rfl)
theorem dX6_run_146 : decode cX6_run 146 = .ok (.aload_n 0, 1) := dk_42 (dk_at dksX6_run_6 7 rfl rfl)
theorem dX6_run_147 : decode cX6_run 147 = .ok (.iload_n 2, 1) := dk_28 (dk_at dksX6_run_6 8 rfl rfl)
theorem dX6_run_148 : decode cX6_run 148 = .ok (.ifCond .eq 21, 3) := dk_153 0 21 (dk_at dksX6_run_6 9 rfl rfl)
theorem dX6_run_151 : decode cX6_run 151 = .ok (.aload_n 0, 1) := dk_42 (dk_at dksX6_run_6 12 rfl rfl)
theorem dX6_run_152 : decode cX6_run 152 = .ok (.getfield 64, 3) := dk_180 0 64 (dk_at dksX6_run_6 13 rfl rfl)
theorem dX6_run_155 : decode cX6_run 155 = .ok (.iload_n 1, 1) := dk_27 (dk_at dksX6_run_6 16 rfl rfl)
theorem dX6_run_156 : decode cX6_run 156 = .ok (.ifCond .eq 8, 3) := dk_153 0 8 (dk_at dksX6_run_6 17 rfl rfl)
theorem dX6_run_159 : decode cX6_run 159 = .ok (.bipush 6, 2) := dk_16 6 (dk_at dksX6_run_6 20 rfl rfl)
theorem dX6_run_161 : decode cX6_run 161 = .ok (.goto 5, 3) := dk_167 0 5 (dk_at dksX6_run_7 0 rfl rfl)
theorem dX6_run_164 : decode cX6_run 164 = .ok (.bipush 8, 2) := dk_16 8 (dk_at dksX6_run_7 3 rfl rfl)
theorem dX6_run_166 : decode cX6_run 166 = .ok (.if_icmp .le 7, 3) := dk_164 0 7 (dk_at dksX6_run_7 5 rfl rfl)
theorem dX6_run_169 : decode cX6_run 169 = .ok (.iconst 4, 1) := dk_7 (dk_at dksX6_run_7 8 rfl rfl)
theorem dX6_run_170 : decode cX6_run 170 = .ok (.goto 12, 3) := dk_167 0 12 (dk_at dksX6_run_7 9 rfl rfl)
theorem dX6_run_173 : decode cX6_run 173 = .ok (.iload_n 1, 1) := dk_27 (dk_at dksX6_run_7 12 rfl rfl)
theorem dX6_run_174 : decode cX6_run 174 = .ok (.ifCond .eq 7, 3) := dk_153 0 7 (dk_at dksX6_run_7 13 rfl rfl)
theorem dX6_run_177 : decode cX6_run 177 = .ok (.iconst 1, 1) := dk_4 (dk_at dksX6_run_7 16 rfl rfl)
theorem dX6_run_178 : decode cX6_run 178 = .ok (.goto 4, 3) := dk_167 0 4 (dk_at dksX6_run_7 17 rfl rfl)
theorem dX6_run_181 : decode cX6_run 181 = .ok (.iconst 2, 1) := dk_5 (dk_at dksX6_run_7 20 rfl rfl)
theorem dX6_run_182 : decode cX6_run 182 = .ok (.putfield 43, 3) := dk_181 0 43 (dk_at dksX6_run_7 21 rfl rfl)
theorem dX6_run_185 : decode cX6_run 185 = .ok (.return_, 1) := dk_177 (dk_at dksX6_run_8 0 rfl rfl)
abbrev cX6_find : ByteArray := prog_13_method_10_code
def yX6_find : MethodName := ⟨RX6, "find", "([Ljava/lang/String;)I"⟩
def dkwX6_find_1 : List UInt8 := [167, 255, 235, 2, 172]
abbrev dktX6_find_1 : List UInt8 := dkwX6_find_1 ++ []
def dkwX6_find_0 : List UInt8 := [3, 61, 28, 43, 190, 162, 0, 21, 42, 43, 28, 50, 182, 0, 76, 153, 0, 5, 28, 172, 132, 2, 1]
abbrev dktX6_find_0 : List UInt8 := dkwX6_find_0 ++ dktX6_find_1
theorem dksX6_find_0 : cX6_find.data.toList.drop 0 = dktX6_find_0 := by decide +kernel
theorem dksX6_find_1 : cX6_find.data.toList.drop 23 = dktX6_find_1 := dk_seg dksX6_find_0 23 rfl rfl
theorem dX6_find_0 : decode cX6_find 0 = .ok (.iconst 0, 1) := dk_3 (dk_at dksX6_find_0 0 rfl rfl)
theorem dX6_find_1 : decode cX6_find 1 = .ok (.istore_n 2, 1) := dk_61 (dk_at dksX6_find_0 1 rfl rfl)
theorem dX6_find_2 : decode cX6_find 2 = .ok (.iload_n 2, 1) := dk_28 (dk_at dksX6_find_0 2 rfl rfl)
theorem dX6_find_3 : decode cX6_find 3 = .ok (.aload_n 1, 1) := dk_43 (dk_at dksX6_find_0 3 rfl rfl)
theorem dX6_find_4 : decode cX6_find 4 = .ok (.arraylength, 1) := dk_190 (dk_at dksX6_find_0 4 rfl rfl)
theorem dX6_find_5 : decode cX6_find 5 = .ok (.if_icmp .ge 21, 3) := dk_162 0 21 (dk_at dksX6_find_0 5 rfl rfl)
theorem dX6_find_8 : decode cX6_find 8 = .ok (.aload_n 0, 1) := dk_42 (dk_at dksX6_find_0 8 rfl rfl)
theorem dX6_find_9 : decode cX6_find 9 = .ok (.aload_n 1, 1) := dk_43 (dk_at dksX6_find_0 9 rfl rfl)
theorem dX6_find_10 : decode cX6_find 10 = .ok (.iload_n 2, 1) := dk_28 (dk_at dksX6_find_0 10 rfl rfl)
theorem dX6_find_11 : decode cX6_find 11 = .ok (.aaload, 1) := dk_50 (dk_at dksX6_find_0 11 rfl rfl)
theorem dX6_find_12 : decode cX6_find 12 = .ok (.invokevirtual 76, 3) := dk_182 0 76 (dk_at dksX6_find_0 12 rfl rfl)
theorem dX6_find_15 : decode cX6_find 15 = .ok (.ifCond .eq 5, 3) := dk_153 0 5 (dk_at dksX6_find_0 15 rfl rfl)
theorem dX6_find_18 : decode cX6_find 18 = .ok (.iload_n 2, 1) := dk_28 (dk_at dksX6_find_0 18 rfl rfl)
theorem dX6_find_19 : decode cX6_find 19 = .ok (.ireturn, 1) := dk_172 (dk_at dksX6_find_0 19 rfl rfl)
theorem dX6_find_20 : decode cX6_find 20 = .ok (.iinc 2 1, 3) := dk_132 2 1 (dk_at dksX6_find_0 20 rfl rfl)
theorem dX6_find_23 : decode cX6_find 23 = .ok (.goto (-21), 3) := dk_167 255 235 (dk_at dksX6_find_1 0 rfl rfl)
theorem dX6_find_26 : decode cX6_find 26 = .ok (.iconst (-1), 1) := dk_2 (dk_at dksX6_find_1 3 rfl rfl)
theorem dX6_find_27 : decode cX6_find 27 = .ok (.ireturn, 1) := dk_172 (dk_at dksX6_find_1 4 rfl rfl)
abbrev cX6_is : ByteArray := prog_13_method_8_code
def yX6_is : MethodName := ⟨RX6, "is", "(Ljava/lang/String;)Z"⟩
def dkwX6_is_2 : List UInt8 := [182, 0, 72, 159, 0, 5, 3, 172, 132, 2, 1, 167, 255, 221, 4, 172]
abbrev dktX6_is_2 : List UInt8 := dkwX6_is_2 ++ []
def dkwX6_is_1 : List UInt8 := [42, 180, 0, 64, 162, 0, 33, 42, 180, 0, 3, 180, 0, 28, 42, 180, 0, 40, 28, 96, 51, 43, 28]
abbrev dktX6_is_1 : List UInt8 := dkwX6_is_1 ++ dktX6_is_2
def dkwX6_is_0 : List UInt8 := [42, 180, 0, 43, 4, 160, 0, 14, 42, 180, 0, 64, 43, 182, 0, 67, 159, 0, 5, 3, 172, 3, 61, 28]
abbrev dktX6_is_0 : List UInt8 := dkwX6_is_0 ++ dktX6_is_1
theorem dksX6_is_0 : cX6_is.data.toList.drop 0 = dktX6_is_0 := by decide +kernel
theorem dksX6_is_1 : cX6_is.data.toList.drop 24 = dktX6_is_1 := dk_seg dksX6_is_0 24 rfl rfl
theorem dksX6_is_2 : cX6_is.data.toList.drop 47 = dktX6_is_2 := dk_seg dksX6_is_1 23 rfl rfl
theorem dX6_is_0 : decode cX6_is 0 = .ok (.aload_n 0, 1) := dk_42 (dk_at dksX6_is_0 0 rfl rfl)
theorem dX6_is_1 : decode cX6_is 1 = .ok (.getfield 43, 3) := dk_180 0 43 (dk_at dksX6_is_0 1 rfl rfl)
theorem dX6_is_4 : decode cX6_is 4 = .ok (.iconst 1, 1) := dk_4 (dk_at dksX6_is_0 4 rfl rfl)
theorem dX6_is_5 : decode cX6_is 5 = .ok (.if_icmp .ne 14, 3) := dk_160 0 14 (dk_at dksX6_is_0 5 rfl rfl)
theorem dX6_is_8 : decode cX6_is 8 = .ok (.aload_n 0, 1) := dk_42 (dk_at dksX6_is_0 8 rfl rfl)
theorem dX6_is_9 : decode cX6_is 9 = .ok (.getfield 64, 3) := dk_180 0 64 (dk_at dksX6_is_0 9 rfl rfl)
theorem dX6_is_12 : decode cX6_is 12 = .ok (.aload_n 1, 1) := dk_43 (dk_at dksX6_is_0 12 rfl rfl)
theorem dX6_is_13 : decode cX6_is 13 = .ok (.invokevirtual 67, 3) := dk_182 0 67 (dk_at dksX6_is_0 13 rfl rfl)
theorem dX6_is_16 : decode cX6_is 16 = .ok (.if_icmp .eq 5, 3) := dk_159 0 5 (dk_at dksX6_is_0 16 rfl rfl)
theorem dX6_is_19 : decode cX6_is 19 = .ok (.iconst 0, 1) := dk_3 (dk_at dksX6_is_0 19 rfl rfl)
theorem dX6_is_20 : decode cX6_is 20 = .ok (.ireturn, 1) := dk_172 (dk_at dksX6_is_0 20 rfl rfl)
theorem dX6_is_21 : decode cX6_is 21 = .ok (.iconst 0, 1) := dk_3 (dk_at dksX6_is_0 21 rfl rfl)
theorem dX6_is_22 : decode cX6_is 22 = .ok (.istore_n 2, 1) := dk_61 (dk_at dksX6_is_0 22 rfl rfl)
theorem dX6_is_23 : decode cX6_is 23 = .ok (.iload_n 2, 1) := dk_28 (dk_at dksX6_is_0 23 rfl rfl)
theorem dX6_is_24 : decode cX6_is 24 = .ok (.aload_n 0, 1) := dk_42 (dk_at dksX6_is_1 0 rfl rfl)
theorem dX6_is_25 : decode cX6_is 25 = .ok (.getfield 64, 3) := dk_180 0 64 (dk_at dksX6_is_1 1 rfl rfl)
theorem dX6_is_28 : decode cX6_is 28 = .ok (.if_icmp .ge 33, 3) := dk_162 0 33 (dk_at dksX6_is_1 4 rfl rfl)
theorem dX6_is_31 : decode cX6_is 31 = .ok (.aload_n 0, 1) := dk_42 (dk_at dksX6_is_1 7 rfl rfl)
theorem dX6_is_32 : decode cX6_is 32 = .ok (.getfield 3, 3) := dk_180 0 3 (dk_at dksX6_is_1 8 rfl rfl)
theorem dX6_is_35 : decode cX6_is 35 = .ok (.getfield 28, 3) := dk_180 0 28 (dk_at dksX6_is_1 11 rfl rfl)
theorem dX6_is_38 : decode cX6_is 38 = .ok (.aload_n 0, 1) := dk_42 (dk_at dksX6_is_1 14 rfl rfl)
theorem dX6_is_39 : decode cX6_is 39 = .ok (.getfield 40, 3) := dk_180 0 40 (dk_at dksX6_is_1 15 rfl rfl)
theorem dX6_is_42 : decode cX6_is 42 = .ok (.iload_n 2, 1) := dk_28 (dk_at dksX6_is_1 18 rfl rfl)
theorem dX6_is_43 : decode cX6_is 43 = .ok (.iadd, 1) := dk_96 (dk_at dksX6_is_1 19 rfl rfl)
theorem dX6_is_44 : decode cX6_is 44 = .ok (.baload, 1) := dk_51 (dk_at dksX6_is_1 20 rfl rfl)
theorem dX6_is_45 : decode cX6_is 45 = .ok (.aload_n 1, 1) := dk_43 (dk_at dksX6_is_1 21 rfl rfl)
theorem dX6_is_46 : decode cX6_is 46 = .ok (.iload_n 2, 1) := dk_28 (dk_at dksX6_is_1 22 rfl rfl)
theorem dX6_is_47 : decode cX6_is 47 = .ok (.invokevirtual 72, 3) := dk_182 0 72 (dk_at dksX6_is_2 0 rfl rfl)
theorem dX6_is_50 : decode cX6_is 50 = .ok (.if_icmp .eq 5, 3) := dk_159 0 5 (dk_at dksX6_is_2 3 rfl rfl)
theorem dX6_is_53 : decode cX6_is 53 = .ok (.iconst 0, 1) := dk_3 (dk_at dksX6_is_2 6 rfl rfl)
theorem dX6_is_54 : decode cX6_is 54 = .ok (.ireturn, 1) := dk_172 (dk_at dksX6_is_2 7 rfl rfl)
theorem dX6_is_55 : decode cX6_is 55 = .ok (.iinc 2 1, 3) := dk_132 2 1 (dk_at dksX6_is_2 8 rfl rfl)
theorem dX6_is_58 : decode cX6_is 58 = .ok (.goto (-35), 3) := dk_167 255 221 (dk_at dksX6_is_2 11 rfl rfl)
theorem dX6_is_61 : decode cX6_is 61 = .ok (.iconst 1, 1) := dk_4 (dk_at dksX6_is_2 14 rfl rfl)
theorem dX6_is_62 : decode cX6_is 62 = .ok (.ireturn, 1) := dk_172 (dk_at dksX6_is_2 15 rfl rfl)
abbrev cX6_must : ByteArray := prog_13_method_14_code
def yX6_must : MethodName := ⟨RX6, "must", "(ZI)V"⟩
def dkwX6_must_0 : List UInt8 := [27, 154, 0, 9, 42, 28, 182, 0, 121, 191, 177]
abbrev dktX6_must_0 : List UInt8 := dkwX6_must_0 ++ []
theorem dksX6_must_0 : cX6_must.data.toList.drop 0 = dktX6_must_0 := by decide +kernel
theorem dX6_must_0 : decode cX6_must 0 = .ok (.iload_n 1, 1) := dk_27 (dk_at dksX6_must_0 0 rfl rfl)
theorem dX6_must_1 : decode cX6_must 1 = .ok (.ifCond .ne 9, 3) := dk_154 0 9 (dk_at dksX6_must_0 1 rfl rfl)
theorem dX6_must_4 : decode cX6_must 4 = .ok (.aload_n 0, 1) := dk_42 (dk_at dksX6_must_0 4 rfl rfl)
theorem dX6_must_5 : decode cX6_must 5 = .ok (.iload_n 2, 1) := dk_28 (dk_at dksX6_must_0 5 rfl rfl)
theorem dX6_must_6 : decode cX6_must 6 = .ok (.invokevirtual 121, 3) := dk_182 0 121 (dk_at dksX6_must_0 6 rfl rfl)
theorem dX6_must_9 : decode cX6_must 9 = .ok (.athrow, 1) := dk_191 (dk_at dksX6_must_0 9 rfl rfl)
theorem dX6_must_10 : decode cX6_must 10 = .ok (.return_, 1) := dk_177 (dk_at dksX6_must_0 10 rfl rfl)
abbrev cX6_wrong : ByteArray := prog_13_method_13_code
def yX6_wrong : MethodName := ⟨RX6, "wrong", "(I)LPailRow$Fault;"⟩
def dkwX6_wrong_1 : List UInt8 := [181, 0, 118, 42, 180, 0, 3, 180, 0, 109, 176]
abbrev dktX6_wrong_1 : List UInt8 := dkwX6_wrong_1 ++ []
def dkwX6_wrong_0 : List UInt8 := [42, 180, 0, 3, 180, 0, 109, 27, 181, 0, 113, 42, 180, 0, 3, 180, 0, 109, 42, 180, 0, 40]
abbrev dktX6_wrong_0 : List UInt8 := dkwX6_wrong_0 ++ dktX6_wrong_1
theorem dksX6_wrong_0 : cX6_wrong.data.toList.drop 0 = dktX6_wrong_0 := by decide +kernel
theorem dksX6_wrong_1 : cX6_wrong.data.toList.drop 22 = dktX6_wrong_1 := dk_seg dksX6_wrong_0 22 rfl rfl
theorem dX6_wrong_0 : decode cX6_wrong 0 = .ok (.aload_n 0, 1) := dk_42 (dk_at dksX6_wrong_0 0 rfl rfl)
theorem dX6_wrong_1 : decode cX6_wrong 1 = .ok (.getfield 3, 3) := dk_180 0 3 (dk_at dksX6_wrong_0 1 rfl rfl)
theorem dX6_wrong_4 : decode cX6_wrong 4 = .ok (.getfield 109, 3) := dk_180 0 109 (dk_at dksX6_wrong_0 4 rfl rfl)
theorem dX6_wrong_7 : decode cX6_wrong 7 = .ok (.iload_n 1, 1) := dk_27 (dk_at dksX6_wrong_0 7 rfl rfl)
theorem dX6_wrong_8 : decode cX6_wrong 8 = .ok (.putfield 113, 3) := dk_181 0 113 (dk_at dksX6_wrong_0 8 rfl rfl)
theorem dX6_wrong_11 : decode cX6_wrong 11 = .ok (.aload_n 0, 1) := dk_42 (dk_at dksX6_wrong_0 11 rfl rfl)
theorem dX6_wrong_12 : decode cX6_wrong 12 = .ok (.getfield 3, 3) := dk_180 0 3 (dk_at dksX6_wrong_0 12 rfl rfl)
theorem dX6_wrong_15 : decode cX6_wrong 15 = .ok (.getfield 109, 3) := dk_180 0 109 (dk_at dksX6_wrong_0 15 rfl rfl)
theorem dX6_wrong_18 : decode cX6_wrong 18 = .ok (.aload_n 0, 1) := dk_42 (dk_at dksX6_wrong_0 18 rfl rfl)
theorem dX6_wrong_19 : decode cX6_wrong 19 = .ok (.getfield 40, 3) := dk_180 0 40 (dk_at dksX6_wrong_0 19 rfl rfl)
theorem dX6_wrong_22 : decode cX6_wrong 22 = .ok (.putfield 118, 3) := dk_181 0 118 (dk_at dksX6_wrong_1 0 rfl rfl)
theorem dX6_wrong_25 : decode cX6_wrong 25 = .ok (.aload_n 0, 1) := dk_42 (dk_at dksX6_wrong_1 3 rfl rfl)
theorem dX6_wrong_26 : decode cX6_wrong 26 = .ok (.getfield 3, 3) := dk_180 0 3 (dk_at dksX6_wrong_1 4 rfl rfl)
theorem dX6_wrong_29 : decode cX6_wrong 29 = .ok (.getfield 109, 3) := dk_180 0 109 (dk_at dksX6_wrong_1 7 rfl rfl)
theorem dX6_wrong_32 : decode cX6_wrong 32 = .ok (.areturn, 1) := dk_176 (dk_at dksX6_wrong_1 10 rfl rfl)
abbrev cX6_isName : ByteArray := prog_13_method_11_code
def yX6_isName : MethodName := ⟨RX6, "isName", "()Z"⟩
def dkwX6_isName_3 : List UInt8 := [167, 0, 4, 3, 172]
abbrev dktX6_isName_3 : List UInt8 := dkwX6_isName_3 ++ []
def dkwX6_isName_2 : List UInt8 := [182, 0, 84, 2, 160, 0, 22, 42, 42, 180, 0, 3, 180, 0, 94, 182, 0, 84, 2, 160, 0, 7, 4]
abbrev dktX6_isName_2 : List UInt8 := dkwX6_isName_2 ++ dktX6_isName_3
def dkwX6_isName_1 : List UInt8 := [42, 180, 0, 3, 180, 0, 88, 182, 0, 84, 2, 160, 0, 37, 42, 42, 180, 0, 3, 180, 0, 91]
abbrev dktX6_isName_1 : List UInt8 := dkwX6_isName_1 ++ dktX6_isName_2
def dkwX6_isName_0 : List UInt8 := [42, 180, 0, 43, 4, 160, 0, 67, 42, 42, 180, 0, 3, 180, 0, 80, 182, 0, 84, 2, 160, 0, 52, 42]
abbrev dktX6_isName_0 : List UInt8 := dkwX6_isName_0 ++ dktX6_isName_1
theorem dksX6_isName_0 : cX6_isName.data.toList.drop 0 = dktX6_isName_0 := by decide +kernel
theorem dksX6_isName_1 : cX6_isName.data.toList.drop 24 = dktX6_isName_1 := dk_seg dksX6_isName_0 24 rfl rfl
theorem dksX6_isName_2 : cX6_isName.data.toList.drop 46 = dktX6_isName_2 := dk_seg dksX6_isName_1 22 rfl rfl
theorem dksX6_isName_3 : cX6_isName.data.toList.drop 69 = dktX6_isName_3 := dk_seg dksX6_isName_2 23 rfl rfl
theorem dX6_isName_0 : decode cX6_isName 0 = .ok (.aload_n 0, 1) := dk_42 (dk_at dksX6_isName_0 0 rfl rfl)
theorem dX6_isName_1 : decode cX6_isName 1 = .ok (.getfield 43, 3) := dk_180 0 43 (dk_at dksX6_isName_0 1 rfl rfl)
theorem dX6_isName_4 : decode cX6_isName 4 = .ok (.iconst 1, 1) := dk_4 (dk_at dksX6_isName_0 4 rfl rfl)
theorem dX6_isName_5 : decode cX6_isName 5 = .ok (.if_icmp .ne 67, 3) := dk_160 0 67 (dk_at dksX6_isName_0 5 rfl rfl)
theorem dX6_isName_8 : decode cX6_isName 8 = .ok (.aload_n 0, 1) := dk_42 (dk_at dksX6_isName_0 8 rfl rfl)
theorem dX6_isName_9 : decode cX6_isName 9 = .ok (.aload_n 0, 1) := dk_42 (dk_at dksX6_isName_0 9 rfl rfl)
theorem dX6_isName_10 : decode cX6_isName 10 = .ok (.getfield 3, 3) := dk_180 0 3 (dk_at dksX6_isName_0 10 rfl rfl)
theorem dX6_isName_13 : decode cX6_isName 13 = .ok (.getfield 80, 3) := dk_180 0 80 (dk_at dksX6_isName_0 13 rfl rfl)
theorem dX6_isName_16 : decode cX6_isName 16 = .ok (.invokevirtual 84, 3) := dk_182 0 84 (dk_at dksX6_isName_0 16 rfl rfl)
theorem dX6_isName_19 : decode cX6_isName 19 = .ok (.iconst (-1), 1) := dk_2 (dk_at dksX6_isName_0 19 rfl rfl)
theorem dX6_isName_20 : decode cX6_isName 20 = .ok (.if_icmp .ne 52, 3) := dk_160 0 52 (dk_at dksX6_isName_0 20 rfl rfl)
theorem dX6_isName_23 : decode cX6_isName 23 = .ok (.aload_n 0, 1) := dk_42 (dk_at dksX6_isName_0 23 rfl rfl)
theorem dX6_isName_24 : decode cX6_isName 24 = .ok (.aload_n 0, 1) := dk_42 (dk_at dksX6_isName_1 0 rfl rfl)
theorem dX6_isName_25 : decode cX6_isName 25 = .ok (.getfield 3, 3) := dk_180 0 3 (dk_at dksX6_isName_1 1 rfl rfl)
theorem dX6_isName_28 : decode cX6_isName 28 = .ok (.getfield 88, 3) := dk_180 0 88 (dk_at dksX6_isName_1 4 rfl rfl)
theorem dX6_isName_31 : decode cX6_isName 31 = .ok (.invokevirtual 84, 3) := dk_182 0 84 (dk_at dksX6_isName_1 7 rfl rfl)
theorem dX6_isName_34 : decode cX6_isName 34 = .ok (.iconst (-1), 1) := dk_2 (dk_at dksX6_isName_1 10 rfl rfl)
theorem dX6_isName_35 : decode cX6_isName 35 = .ok (.if_icmp .ne 37, 3) := dk_160 0 37 (dk_at dksX6_isName_1 11 rfl rfl)
theorem dX6_isName_38 : decode cX6_isName 38 = .ok (.aload_n 0, 1) := dk_42 (dk_at dksX6_isName_1 14 rfl rfl)
theorem dX6_isName_39 : decode cX6_isName 39 = .ok (.aload_n 0, 1) := dk_42 (dk_at dksX6_isName_1 15 rfl rfl)
theorem dX6_isName_40 : decode cX6_isName 40 = .ok (.getfield 3, 3) := dk_180 0 3 (dk_at dksX6_isName_1 16 rfl rfl)
theorem dX6_isName_43 : decode cX6_isName 43 = .ok (.getfield 91, 3) := dk_180 0 91 (dk_at dksX6_isName_1 19 rfl rfl)
theorem dX6_isName_46 : decode cX6_isName 46 = .ok (.invokevirtual 84, 3) := dk_182 0 84 (dk_at dksX6_isName_2 0 rfl rfl)
theorem dX6_isName_49 : decode cX6_isName 49 = .ok (.iconst (-1), 1) := dk_2 (dk_at dksX6_isName_2 3 rfl rfl)
theorem dX6_isName_50 : decode cX6_isName 50 = .ok (.if_icmp .ne 22, 3) := dk_160 0 22 (dk_at dksX6_isName_2 4 rfl rfl)
theorem dX6_isName_53 : decode cX6_isName 53 = .ok (.aload_n 0, 1) := dk_42 (dk_at dksX6_isName_2 7 rfl rfl)
theorem dX6_isName_54 : decode cX6_isName 54 = .ok (.aload_n 0, 1) := dk_42 (dk_at dksX6_isName_2 8 rfl rfl)
theorem dX6_isName_55 : decode cX6_isName 55 = .ok (.getfield 3, 3) := dk_180 0 3 (dk_at dksX6_isName_2 9 rfl rfl)
theorem dX6_isName_58 : decode cX6_isName 58 = .ok (.getfield 94, 3) := dk_180 0 94 (dk_at dksX6_isName_2 12 rfl rfl)
theorem dX6_isName_61 : decode cX6_isName 61 = .ok (.invokevirtual 84, 3) := dk_182 0 84 (dk_at dksX6_isName_2 15 rfl rfl)
theorem dX6_isName_64 : decode cX6_isName 64 = .ok (.iconst (-1), 1) := dk_2 (dk_at dksX6_isName_2 18 rfl rfl)
theorem dX6_isName_65 : decode cX6_isName 65 = .ok (.if_icmp .ne 7, 3) := dk_160 0 7 (dk_at dksX6_isName_2 19 rfl rfl)
theorem dX6_isName_68 : decode cX6_isName 68 = .ok (.iconst 1, 1) := dk_4 (dk_at dksX6_isName_2 22 rfl rfl)
theorem dX6_isName_69 : decode cX6_isName 69 = .ok (.goto 4, 3) := dk_167 0 4 (dk_at dksX6_isName_3 0 rfl rfl)
theorem dX6_isName_72 : decode cX6_isName 72 = .ok (.iconst 0, 1) := dk_3 (dk_at dksX6_isName_3 3 rfl rfl)
theorem dX6_isName_73 : decode cX6_isName 73 = .ok (.ireturn, 1) := dk_172 (dk_at dksX6_isName_3 4 rfl rfl)
abbrev cX6_man : ByteArray := prog_13_method_12_code
def yX6_man : MethodName := ⟨RX6, "man", "(LPailRow$Yard;)I"⟩
def dkwX6_man_1 : List UInt8 := [154, 0, 5, 28, 172, 132, 2, 1, 167, 255, 226, 2, 172]
abbrev dktX6_man_1 : List UInt8 := dkwX6_man_1 ++ []
def dkwX6_man_0 : List UInt8 := [3, 61, 28, 43, 180, 0, 97, 162, 0, 28, 43, 180, 0, 102, 28, 50, 180, 0, 106, 42, 180, 0, 60, 148]
abbrev dktX6_man_0 : List UInt8 := dkwX6_man_0 ++ dktX6_man_1
theorem dksX6_man_0 : cX6_man.data.toList.drop 0 = dktX6_man_0 := by decide +kernel
theorem dksX6_man_1 : cX6_man.data.toList.drop 24 = dktX6_man_1 := dk_seg dksX6_man_0 24 rfl rfl
theorem dX6_man_0 : decode cX6_man 0 = .ok (.iconst 0, 1) := dk_3 (dk_at dksX6_man_0 0 rfl rfl)
theorem dX6_man_1 : decode cX6_man 1 = .ok (.istore_n 2, 1) := dk_61 (dk_at dksX6_man_0 1 rfl rfl)
theorem dX6_man_2 : decode cX6_man 2 = .ok (.iload_n 2, 1) := dk_28 (dk_at dksX6_man_0 2 rfl rfl)
theorem dX6_man_3 : decode cX6_man 3 = .ok (.aload_n 1, 1) := dk_43 (dk_at dksX6_man_0 3 rfl rfl)
theorem dX6_man_4 : decode cX6_man 4 = .ok (.getfield 97, 3) := dk_180 0 97 (dk_at dksX6_man_0 4 rfl rfl)
theorem dX6_man_7 : decode cX6_man 7 = .ok (.if_icmp .ge 28, 3) := dk_162 0 28 (dk_at dksX6_man_0 7 rfl rfl)
theorem dX6_man_10 : decode cX6_man 10 = .ok (.aload_n 1, 1) := dk_43 (dk_at dksX6_man_0 10 rfl rfl)
theorem dX6_man_11 : decode cX6_man 11 = .ok (.getfield 102, 3) := dk_180 0 102 (dk_at dksX6_man_0 11 rfl rfl)
theorem dX6_man_14 : decode cX6_man 14 = .ok (.iload_n 2, 1) := dk_28 (dk_at dksX6_man_0 14 rfl rfl)
theorem dX6_man_15 : decode cX6_man 15 = .ok (.aaload, 1) := dk_50 (dk_at dksX6_man_0 15 rfl rfl)
theorem dX6_man_16 : decode cX6_man 16 = .ok (.getfield 106, 3) := dk_180 0 106 (dk_at dksX6_man_0 16 rfl rfl)
theorem dX6_man_19 : decode cX6_man 19 = .ok (.aload_n 0, 1) := dk_42 (dk_at dksX6_man_0 19 rfl rfl)
theorem dX6_man_20 : decode cX6_man 20 = .ok (.getfield 60, 3) := dk_180 0 60 (dk_at dksX6_man_0 20 rfl rfl)
theorem dX6_man_23 : decode cX6_man 23 = .ok (.lcmp, 1) := dk_148 (dk_at dksX6_man_0 23 rfl rfl)
theorem dX6_man_24 : decode cX6_man 24 = .ok (.ifCond .ne 5, 3) := dk_154 0 5 (dk_at dksX6_man_1 0 rfl rfl)
theorem dX6_man_27 : decode cX6_man 27 = .ok (.iload_n 2, 1) := dk_28 (dk_at dksX6_man_1 3 rfl rfl)
theorem dX6_man_28 : decode cX6_man 28 = .ok (.ireturn, 1) := dk_172 (dk_at dksX6_man_1 4 rfl rfl)
theorem dX6_man_29 : decode cX6_man 29 = .ok (.iinc 2 1, 3) := dk_132 2 1 (dk_at dksX6_man_1 5 rfl rfl)
theorem dX6_man_32 : decode cX6_man 32 = .ok (.goto (-30), 3) := dk_167 255 226 (dk_at dksX6_man_1 8 rfl rfl)
theorem dX6_man_35 : decode cX6_man 35 = .ok (.iconst (-1), 1) := dk_2 (dk_at dksX6_man_1 11 rfl rfl)
theorem dX6_man_36 : decode cX6_man 36 = .ok (.ireturn, 1) := dk_172 (dk_at dksX6_man_1 12 rfl rfl)
abbrev cX6_number : ByteArray := prog_13_method_16_code
def yX6_number : MethodName := ⟨RX6, "number", "(II)I"⟩
def dkwX6_number_1 : List UInt8 := [28, 184, 0, 32, 5, 182, 0, 127, 42, 180, 0, 57, 62, 42, 182, 0, 22, 29, 172]
abbrev dktX6_number_1 : List UInt8 := dkwX6_number_1 ++ []
def dkwX6_number_0 : List UInt8 := [42, 42, 180, 0, 43, 5, 160, 0, 7, 4, 167, 0, 4, 3, 4, 182, 0, 127, 42, 42, 180, 0, 57, 27]
abbrev dktX6_number_0 : List UInt8 := dkwX6_number_0 ++ dktX6_number_1
theorem dksX6_number_0 : cX6_number.data.toList.drop 0 = dktX6_number_0 := by decide +kernel
theorem dksX6_number_1 : cX6_number.data.toList.drop 24 = dktX6_number_1 := dk_seg dksX6_number_0 24 rfl rfl
theorem dX6_number_0 : decode cX6_number 0 = .ok (.aload_n 0, 1) := dk_42 (dk_at dksX6_number_0 0 rfl rfl)
theorem dX6_number_1 : decode cX6_number 1 = .ok (.aload_n 0, 1) := dk_42 (dk_at dksX6_number_0 1 rfl rfl)
theorem dX6_number_2 : decode cX6_number 2 = .ok (.getfield 43, 3) := dk_180 0 43 (dk_at dksX6_number_0 2 rfl rfl)
theorem dX6_number_5 : decode cX6_number 5 = .ok (.iconst 2, 1) := dk_5 (dk_at dksX6_number_0 5 rfl rfl)
theorem dX6_number_6 : decode cX6_number 6 = .ok (.if_icmp .ne 7, 3) := dk_160 0 7 (dk_at dksX6_number_0 6 rfl rfl)
theorem dX6_number_9 : decode cX6_number 9 = .ok (.iconst 1, 1) := dk_4 (dk_at dksX6_number_0 9 rfl rfl)
theorem dX6_number_10 : decode cX6_number 10 = .ok (.goto 4, 3) := dk_167 0 4 (dk_at dksX6_number_0 10 rfl rfl)
theorem dX6_number_13 : decode cX6_number 13 = .ok (.iconst 0, 1) := dk_3 (dk_at dksX6_number_0 13 rfl rfl)
theorem dX6_number_14 : decode cX6_number 14 = .ok (.iconst 1, 1) := dk_4 (dk_at dksX6_number_0 14 rfl rfl)
theorem dX6_number_15 : decode cX6_number 15 = .ok (.invokevirtual 127, 3) := dk_182 0 127 (dk_at dksX6_number_0 15 rfl rfl)
theorem dX6_number_18 : decode cX6_number 18 = .ok (.aload_n 0, 1) := dk_42 (dk_at dksX6_number_0 18 rfl rfl)
theorem dX6_number_19 : decode cX6_number 19 = .ok (.aload_n 0, 1) := dk_42 (dk_at dksX6_number_0 19 rfl rfl)
theorem dX6_number_20 : decode cX6_number 20 = .ok (.getfield 57, 3) := dk_180 0 57 (dk_at dksX6_number_0 20 rfl rfl)
theorem dX6_number_23 : decode cX6_number 23 = .ok (.iload_n 1, 1) := dk_27 (dk_at dksX6_number_0 23 rfl rfl)
theorem dX6_number_24 : decode cX6_number 24 = .ok (.iload_n 2, 1) := dk_28 (dk_at dksX6_number_1 0 rfl rfl)
theorem dX6_number_25 : decode cX6_number 25 = .ok (.invokestatic 32, 3) := dk_184 0 32 (dk_at dksX6_number_1 1 rfl rfl)
theorem dX6_number_28 : decode cX6_number 28 = .ok (.iconst 2, 1) := dk_5 (dk_at dksX6_number_1 4 rfl rfl)
theorem dX6_number_29 : decode cX6_number 29 = .ok (.invokevirtual 127, 3) := dk_182 0 127 (dk_at dksX6_number_1 5 rfl rfl)
theorem dX6_number_32 : decode cX6_number 32 = .ok (.aload_n 0, 1) := dk_42 (dk_at dksX6_number_1 8 rfl rfl)
theorem dX6_number_33 : decode cX6_number 33 = .ok (.getfield 57, 3) := dk_180 0 57 (dk_at dksX6_number_1 9 rfl rfl)
theorem dX6_number_36 : decode cX6_number 36 = .ok (.istore_n 3, 1) := dk_62 (dk_at dksX6_number_1 12 rfl rfl)
theorem dX6_number_37 : decode cX6_number 37 = .ok (.aload_n 0, 1) := dk_42 (dk_at dksX6_number_1 13 rfl rfl)
theorem dX6_number_38 : decode cX6_number 38 = .ok (.invokevirtual 22, 3) := dk_182 0 22 (dk_at dksX6_number_1 14 rfl rfl)
theorem dX6_number_41 : decode cX6_number 41 = .ok (.iload_n 3, 1) := dk_29 (dk_at dksX6_number_1 17 rfl rfl)
theorem dX6_number_42 : decode cX6_number 42 = .ok (.ireturn, 1) := dk_172 (dk_at dksX6_number_1 18 rfl rfl)
abbrev cX6_sign : ByteArray := prog_13_method_15_code
def yX6_sign : MethodName := ⟨RX6, "sign", "(I)V"⟩
def dkwX6_sign_0 : List UInt8 := [42, 42, 27, 182, 0, 125, 4, 182, 0, 127, 42, 182, 0, 22, 177]
abbrev dktX6_sign_0 : List UInt8 := dkwX6_sign_0 ++ []
theorem dksX6_sign_0 : cX6_sign.data.toList.drop 0 = dktX6_sign_0 := by decide +kernel
theorem dX6_sign_0 : decode cX6_sign 0 = .ok (.aload_n 0, 1) := dk_42 (dk_at dksX6_sign_0 0 rfl rfl)
theorem dX6_sign_1 : decode cX6_sign 1 = .ok (.aload_n 0, 1) := dk_42 (dk_at dksX6_sign_0 1 rfl rfl)
theorem dX6_sign_2 : decode cX6_sign 2 = .ok (.iload_n 1, 1) := dk_27 (dk_at dksX6_sign_0 2 rfl rfl)
theorem dX6_sign_3 : decode cX6_sign 3 = .ok (.invokevirtual 125, 3) := dk_182 0 125 (dk_at dksX6_sign_0 3 rfl rfl)
theorem dX6_sign_6 : decode cX6_sign 6 = .ok (.iconst 1, 1) := dk_4 (dk_at dksX6_sign_0 6 rfl rfl)
theorem dX6_sign_7 : decode cX6_sign 7 = .ok (.invokevirtual 127, 3) := dk_182 0 127 (dk_at dksX6_sign_0 7 rfl rfl)
theorem dX6_sign_10 : decode cX6_sign 10 = .ok (.aload_n 0, 1) := dk_42 (dk_at dksX6_sign_0 10 rfl rfl)
theorem dX6_sign_11 : decode cX6_sign 11 = .ok (.invokevirtual 22, 3) := dk_182 0 22 (dk_at dksX6_sign_0 11 rfl rfl)
theorem dX6_sign_14 : decode cX6_sign 14 = .ok (.return_, 1) := dk_177 (dk_at dksX6_sign_0 14 rfl rfl)
abbrev cX6_is_2 : ByteArray := prog_13_method_9_code
def yX6_is_2 : MethodName := ⟨RX6, "is", "(I)Z"⟩
def dkwX6_is_2_0 : List UInt8 := [42, 180, 0, 43, 6, 160, 0, 15, 42, 180, 0, 57, 27, 160, 0, 7, 4, 167, 0, 4, 3, 172]
abbrev dktX6_is_2_0 : List UInt8 := dkwX6_is_2_0 ++ []
theorem dksX6_is_2_0 : cX6_is_2.data.toList.drop 0 = dktX6_is_2_0 := by decide +kernel
theorem dX6_is_2_0 : decode cX6_is_2 0 = .ok (.aload_n 0, 1) := dk_42 (dk_at dksX6_is_2_0 0 rfl rfl)
theorem dX6_is_2_1 : decode cX6_is_2 1 = .ok (.getfield 43, 3) := dk_180 0 43 (dk_at dksX6_is_2_0 1 rfl rfl)
theorem dX6_is_2_4 : decode cX6_is_2 4 = .ok (.iconst 3, 1) := dk_6 (dk_at dksX6_is_2_0 4 rfl rfl)
theorem dX6_is_2_5 : decode cX6_is_2 5 = .ok (.if_icmp .ne 15, 3) := dk_160 0 15 (dk_at dksX6_is_2_0 5 rfl rfl)
theorem dX6_is_2_8 : decode cX6_is_2 8 = .ok (.aload_n 0, 1) := dk_42 (dk_at dksX6_is_2_0 8 rfl rfl)
theorem dX6_is_2_9 : decode cX6_is_2 9 = .ok (.getfield 57, 3) := dk_180 0 57 (dk_at dksX6_is_2_0 9 rfl rfl)
theorem dX6_is_2_12 : decode cX6_is_2 12 = .ok (.iload_n 1, 1) := dk_27 (dk_at dksX6_is_2_0 12 rfl rfl)
theorem dX6_is_2_13 : decode cX6_is_2 13 = .ok (.if_icmp .ne 7, 3) := dk_160 0 7 (dk_at dksX6_is_2_0 13 rfl rfl)
theorem dX6_is_2_16 : decode cX6_is_2 16 = .ok (.iconst 1, 1) := dk_4 (dk_at dksX6_is_2_0 16 rfl rfl)
theorem dX6_is_2_17 : decode cX6_is_2 17 = .ok (.goto 4, 3) := dk_167 0 4 (dk_at dksX6_is_2_0 17 rfl rfl)
theorem dX6_is_2_20 : decode cX6_is_2 20 = .ok (.iconst 0, 1) := dk_3 (dk_at dksX6_is_2_0 20 rfl rfl)
theorem dX6_is_2_21 : decode cX6_is_2 21 = .ok (.ireturn, 1) := dk_172 (dk_at dksX6_is_2_0 21 rfl rfl)
theorem q110 : (Jvm.Cond.initialized "PailRow$Reader") ∈ lw_all := lw_g (lw_at lw_m1 8 rfl) rfl
theorem q191 : (Jvm.Cond.fieldLink "PailRow$Reader" (113 : Nat) "PailRow$Fault" "kind" "I") ∈ lw_all := lw_g (lw_at lw_m1 89 rfl) rfl
theorem q193 : (Jvm.Cond.fieldLink "PailRow$Reader" (118 : Nat) "PailRow$Fault" "place" "I") ∈ lw_all := lw_g (lw_at lw_m1 91 rfl) rfl
theorem q260 : (Jvm.Cond.fieldLinkNest "PailRow$Reader" (102 : Nat) "PailRow$Yard" "men" "[LPailRow$Man;" "PailRow") ∈ lw_tbl := lw_at lw_m1 158 rfl
theorem q271 : (Jvm.Cond.fieldLinkNest "PailRow$Reader" (97 : Nat) "PailRow$Yard" "manMany" "I" "PailRow") ∈ lw_tbl := lw_at lw_m1 169 rfl
theorem q384 : (Jvm.Cond.instanceMethod ({ cls := "PailRow$Reader", name := "<init>", desc := "(LPailRow;I)V" } : Jvm.MethodName)) ∈ lw_all := lw_g (lw_at lw_m2 42 rfl) rfl
theorem q385 : (Jvm.Cond.code ({ cls := "PailRow$Reader", name := "<init>", desc := "(LPailRow;I)V" } : Jvm.MethodName) prog_13_method_1_code (3 : Nat) (Option.none : Option Jvm.ClassFile.FieldType)) ∈ lw_all := lw_g (lw_at lw_m2 43 rfl) rfl
theorem q386 : (Jvm.Cond.methodLink "PailRow$Reader" (9 : Nat) ({ cls := "java/lang/Object", name := "<init>", desc := "()V" } : Jvm.MethodName)) ∈ lw_all := lw_g (lw_at lw_m2 44 rfl) rfl
theorem q389 : (Jvm.Cond.fieldLink "PailRow$Reader" (15 : Nat) "PailRow$Reader" "most" "I") ∈ lw_all := lw_g (lw_at lw_m2 47 rfl) rfl
theorem q390 : (Jvm.Cond.fieldLink "PailRow$Reader" (19 : Nat) "PailRow$Reader" "p" "I") ∈ lw_all := lw_g (lw_at lw_m2 48 rfl) rfl
theorem q393 : (Jvm.Cond.fieldLink "PailRow$Reader" (40 : Nat) "PailRow$Reader" "at" "I") ∈ lw_all := lw_g (lw_at lw_m2 51 rfl) rfl
theorem q400 : (Jvm.Cond.fieldLink "PailRow$Reader" (43 : Nat) "PailRow$Reader" "token" "I") ∈ lw_all := lw_g (lw_at lw_m2 58 rfl) rfl
theorem q407 : (Jvm.Cond.fieldLink "PailRow$Reader" (57 : Nat) "PailRow$Reader" "value" "I") ∈ lw_all := lw_g (lw_at lw_m2 65 rfl) rfl
theorem q410 : (Jvm.Cond.fieldLink "PailRow$Reader" (64 : Nat) "PailRow$Reader" "many" "I") ∈ lw_all := lw_g (lw_at lw_m2 68 rfl) rfl
theorem q413 : (Jvm.Cond.fieldLink "PailRow$Reader" (60 : Nat) "PailRow$Reader" "name" "J") ∈ lw_all := lw_g (lw_at lw_m2 71 rfl) rfl
theorem q414 : (Jvm.Cond.fieldLink "PailRow$Reader" (3 : Nat) "PailRow$Reader" "this$0" "LPailRow;") ∈ lw_all := lw_g (lw_at lw_m2 72 rfl) rfl
theorem q420 : (Jvm.Cond.soleField "PailRow$Reader" "most") ∈ lw_all := lw_g (lw_at lw_m2 78 rfl) rfl
theorem q422 : (Jvm.Cond.soleField "PailRow$Reader" "p") ∈ lw_all := lw_g (lw_at lw_m2 80 rfl) rfl
theorem q424 : (Jvm.Cond.soleField "PailRow$Reader" "at") ∈ lw_all := lw_g (lw_at lw_m2 82 rfl) rfl
theorem q426 : (Jvm.Cond.soleField "PailRow$Reader" "token") ∈ lw_all := lw_g (lw_at lw_m2 84 rfl) rfl
theorem q428 : (Jvm.Cond.soleField "PailRow$Reader" "value") ∈ lw_all := lw_g (lw_at lw_m2 86 rfl) rfl
theorem q430 : (Jvm.Cond.soleField "PailRow$Reader" "many") ∈ lw_all := lw_g (lw_at lw_m2 88 rfl) rfl
theorem q432 : (Jvm.Cond.soleField "PailRow$Reader" "name") ∈ lw_all := lw_g (lw_at lw_m2 90 rfl) rfl
theorem q434 : (Jvm.Cond.soleField "PailRow$Reader" "this$0") ∈ lw_all := lw_g (lw_at lw_m2 92 rfl) rfl
theorem q641 : (Jvm.Cond.fieldLinkNest "PailRow$Reader" (28 : Nat) "PailRow" "tape" "[B" "PailRow") ∈ lw_tbl := lw_at lw_m3 59 rfl
theorem q644 : (Jvm.Cond.fieldLinkNest "PailRow$Reader" (25 : Nat) "PailRow" "size" "I" "PailRow") ∈ lw_tbl := lw_at lw_m3 62 rfl
theorem q647 : (Jvm.Cond.fieldLinkNest "PailRow$Reader" (109 : Nat) "PailRow" "broken" "LPailRow$Fault;" "PailRow") ∈ lw_tbl := lw_at lw_m3 65 rfl
theorem q650 : (Jvm.Cond.fieldLinkNest "PailRow$Reader" (80 : Nat) "PailRow" "lines" "[Ljava/lang/String;" "PailRow") ∈ lw_tbl := lw_at lw_m3 68 rfl
theorem q653 : (Jvm.Cond.fieldLinkNest "PailRow$Reader" (88 : Nat) "PailRow" "winds" "[Ljava/lang/String;" "PailRow") ∈ lw_tbl := lw_at lw_m3 71 rfl
theorem q656 : (Jvm.Cond.fieldLinkNest "PailRow$Reader" (91 : Nat) "PailRow" "things" "[Ljava/lang/String;" "PailRow") ∈ lw_tbl := lw_at lw_m3 74 rfl
theorem q658 : (Jvm.Cond.fieldLinkNest "PailRow$Reader" (94 : Nat) "PailRow" "words" "[Ljava/lang/String;" "PailRow") ∈ lw_tbl := lw_at lw_m3 76 rfl
theorem q841 : (Jvm.Cond.declares ({ cls := "PailRow$Reader", name := "begin", desc := "()V" } : Jvm.MethodName)) ∈ lw_tbl := lw_at lw_m4 19 rfl
theorem q843 : (Jvm.Cond.instanceMethod ({ cls := "PailRow$Reader", name := "begin", desc := "()V" } : Jvm.MethodName)) ∈ lw_all := lw_g (lw_at lw_m4 21 rfl) rfl
theorem q844 : (Jvm.Cond.code ({ cls := "PailRow$Reader", name := "begin", desc := "()V" } : Jvm.MethodName) prog_13_method_2_code (1 : Nat) (Option.none : Option Jvm.ClassFile.FieldType)) ∈ lw_all := lw_g (lw_at lw_m4 22 rfl) rfl
theorem q845 : (Jvm.Cond.methodLink "PailRow$Reader" (22 : Nat) ({ cls := "PailRow$Reader", name := "next", desc := "()V" } : Jvm.MethodName)) ∈ lw_all := lw_g (lw_at lw_m4 23 rfl) rfl
theorem q846 : (Jvm.Cond.instanceMethod ({ cls := "PailRow$Reader", name := "next", desc := "()V" } : Jvm.MethodName)) ∈ lw_all := lw_g (lw_at lw_m4 24 rfl) rfl
theorem q847 : (Jvm.Cond.sameMethod "PailRow$Reader" "PailRow$Reader" "next" "()V") ∈ lw_all := lw_g (lw_at lw_m4 25 rfl) rfl
theorem q851 : (Jvm.Cond.code ({ cls := "PailRow$Reader", name := "next", desc := "()V" } : Jvm.MethodName) prog_13_method_6_code (2 : Nat) (Option.none : Option Jvm.ClassFile.FieldType)) ∈ lw_all := lw_g (lw_at lw_m4 29 rfl) rfl
theorem q852 : (Jvm.Cond.methodLink "PailRow$Reader" (36 : Nat) ({ cls := "PailRow$Reader", name := "peek", desc := "()I" } : Jvm.MethodName)) ∈ lw_all := lw_g (lw_at lw_m4 30 rfl) rfl
theorem q853 : (Jvm.Cond.privateMethod ({ cls := "PailRow$Reader", name := "peek", desc := "()I" } : Jvm.MethodName)) ∈ lw_tbl := lw_at lw_m4 31 rfl
theorem q854 : (Jvm.Cond.instanceMethod ({ cls := "PailRow$Reader", name := "peek", desc := "()I" } : Jvm.MethodName)) ∈ lw_all := lw_g (lw_at lw_m4 32 rfl) rfl
theorem q855 : (Jvm.Cond.code ({ cls := "PailRow$Reader", name := "peek", desc := "()I" } : Jvm.MethodName) prog_13_method_3_code (1 : Nat) (Option.some Jvm.ClassFile.FieldType.int)) ∈ lw_all := lw_g (lw_at lw_m4 33 rfl) rfl
theorem q856 : (Jvm.Cond.methodLink "PailRow$Reader" (46 : Nat) ({ cls := "PailRow$Reader", name := "isLetter", desc := "(I)Z" } : Jvm.MethodName)) ∈ lw_all := lw_g (lw_at lw_m4 34 rfl) rfl
theorem q857 : (Jvm.Cond.privateMethod ({ cls := "PailRow$Reader", name := "isLetter", desc := "(I)Z" } : Jvm.MethodName)) ∈ lw_tbl := lw_at lw_m4 35 rfl
theorem q858 : (Jvm.Cond.instanceMethod ({ cls := "PailRow$Reader", name := "isLetter", desc := "(I)Z" } : Jvm.MethodName)) ∈ lw_all := lw_g (lw_at lw_m4 36 rfl) rfl
theorem q859 : (Jvm.Cond.code ({ cls := "PailRow$Reader", name := "isLetter", desc := "(I)Z" } : Jvm.MethodName) prog_13_method_4_code (2 : Nat) (Option.some Jvm.ClassFile.FieldType.boolean)) ∈ lw_all := lw_g (lw_at lw_m4 37 rfl) rfl
theorem q860 : (Jvm.Cond.methodLinkNest "PailRow$Reader" (32 : Nat) ({ cls := "PailRow", name := "isIn", desc := "(III)Z" } : Jvm.MethodName) "PailRow") ∈ lw_tbl := lw_at lw_m4 38 rfl
theorem q863 : (Jvm.Cond.methodLink "PailRow$Reader" (50 : Nat) ({ cls := "PailRow$Reader", name := "isDigit", desc := "(I)Z" } : Jvm.MethodName)) ∈ lw_all := lw_g (lw_at lw_m4 41 rfl) rfl
theorem q864 : (Jvm.Cond.privateMethod ({ cls := "PailRow$Reader", name := "isDigit", desc := "(I)Z" } : Jvm.MethodName)) ∈ lw_tbl := lw_at lw_m4 42 rfl
theorem q865 : (Jvm.Cond.instanceMethod ({ cls := "PailRow$Reader", name := "isDigit", desc := "(I)Z" } : Jvm.MethodName)) ∈ lw_all := lw_g (lw_at lw_m4 43 rfl) rfl
theorem q866 : (Jvm.Cond.code ({ cls := "PailRow$Reader", name := "isDigit", desc := "(I)Z" } : Jvm.MethodName) prog_13_method_5_code (2 : Nat) (Option.some Jvm.ClassFile.FieldType.boolean)) ∈ lw_all := lw_g (lw_at lw_m4 44 rfl) rfl
theorem q867 : (Jvm.Cond.methodLink "PailRow$Reader" (53 : Nat) ({ cls := "PailRow$Reader", name := "run", desc := "(Z)V" } : Jvm.MethodName)) ∈ lw_all := lw_g (lw_at lw_m4 45 rfl) rfl
theorem q868 : (Jvm.Cond.privateMethod ({ cls := "PailRow$Reader", name := "run", desc := "(Z)V" } : Jvm.MethodName)) ∈ lw_tbl := lw_at lw_m4 46 rfl
theorem q869 : (Jvm.Cond.instanceMethod ({ cls := "PailRow$Reader", name := "run", desc := "(Z)V" } : Jvm.MethodName)) ∈ lw_all := lw_g (lw_at lw_m4 47 rfl) rfl
theorem q870 : (Jvm.Cond.code ({ cls := "PailRow$Reader", name := "run", desc := "(Z)V" } : Jvm.MethodName) prog_13_method_7_code (3 : Nat) (Option.none : Option Jvm.ClassFile.FieldType)) ∈ lw_all := lw_g (lw_at lw_m4 48 rfl) rfl
theorem q873 : (Jvm.Cond.declares ({ cls := "PailRow$Reader", name := "find", desc := "([Ljava/lang/String;)I" } : Jvm.MethodName)) ∈ lw_tbl := lw_at lw_m4 51 rfl
theorem q875 : (Jvm.Cond.instanceMethod ({ cls := "PailRow$Reader", name := "find", desc := "([Ljava/lang/String;)I" } : Jvm.MethodName)) ∈ lw_all := lw_g (lw_at lw_m4 53 rfl) rfl
theorem q876 : (Jvm.Cond.code ({ cls := "PailRow$Reader", name := "find", desc := "([Ljava/lang/String;)I" } : Jvm.MethodName) prog_13_method_10_code (3 : Nat) (Option.some Jvm.ClassFile.FieldType.int)) ∈ lw_all := lw_g (lw_at lw_m4 54 rfl) rfl
theorem q877 : (Jvm.Cond.methodLink "PailRow$Reader" (76 : Nat) ({ cls := "PailRow$Reader", name := "is", desc := "(Ljava/lang/String;)Z" } : Jvm.MethodName)) ∈ lw_all := lw_g (lw_at lw_m4 55 rfl) rfl
theorem q878 : (Jvm.Cond.instanceMethod ({ cls := "PailRow$Reader", name := "is", desc := "(Ljava/lang/String;)Z" } : Jvm.MethodName)) ∈ lw_all := lw_g (lw_at lw_m4 56 rfl) rfl
theorem q879 : (Jvm.Cond.sameMethod "PailRow$Reader" "PailRow$Reader" "is" "(Ljava/lang/String;)Z") ∈ lw_all := lw_g (lw_at lw_m4 57 rfl) rfl
theorem q883 : (Jvm.Cond.code ({ cls := "PailRow$Reader", name := "is", desc := "(Ljava/lang/String;)Z" } : Jvm.MethodName) prog_13_method_8_code (3 : Nat) (Option.some Jvm.ClassFile.FieldType.boolean)) ∈ lw_all := lw_g (lw_at lw_m4 61 rfl) rfl
theorem q884 : (Jvm.Cond.methodLink "PailRow$Reader" (67 : Nat) ({ cls := "java/lang/String", name := "length", desc := "()I" } : Jvm.MethodName)) ∈ lw_all := lw_g (lw_at lw_m4 62 rfl) rfl
theorem q894 : (Jvm.Cond.methodLink "PailRow$Reader" (72 : Nat) ({ cls := "java/lang/String", name := "charAt", desc := "(I)C" } : Jvm.MethodName)) ∈ lw_all := lw_g (lw_at lw_m4 72 rfl) rfl
theorem q934 : (Jvm.Cond.declares ({ cls := "PailRow$Reader", name := "must", desc := "(ZI)V" } : Jvm.MethodName)) ∈ lw_tbl := lw_at lw_m4 112 rfl
theorem q936 : (Jvm.Cond.instanceMethod ({ cls := "PailRow$Reader", name := "must", desc := "(ZI)V" } : Jvm.MethodName)) ∈ lw_all := lw_g (lw_at lw_m4 114 rfl) rfl
theorem q937 : (Jvm.Cond.code ({ cls := "PailRow$Reader", name := "must", desc := "(ZI)V" } : Jvm.MethodName) prog_13_method_14_code (3 : Nat) (Option.none : Option Jvm.ClassFile.FieldType)) ∈ lw_all := lw_g (lw_at lw_m4 115 rfl) rfl
theorem q938 : (Jvm.Cond.methodLink "PailRow$Reader" (121 : Nat) ({ cls := "PailRow$Reader", name := "wrong", desc := "(I)LPailRow$Fault;" } : Jvm.MethodName)) ∈ lw_all := lw_g (lw_at lw_m4 116 rfl) rfl
theorem q939 : (Jvm.Cond.instanceMethod ({ cls := "PailRow$Reader", name := "wrong", desc := "(I)LPailRow$Fault;" } : Jvm.MethodName)) ∈ lw_all := lw_g (lw_at lw_m4 117 rfl) rfl
theorem q940 : (Jvm.Cond.sameMethod "PailRow$Reader" "PailRow$Reader" "wrong" "(I)LPailRow$Fault;") ∈ lw_all := lw_g (lw_at lw_m4 118 rfl) rfl
theorem q944 : (Jvm.Cond.code ({ cls := "PailRow$Reader", name := "wrong", desc := "(I)LPailRow$Fault;" } : Jvm.MethodName) prog_13_method_13_code (2 : Nat) (Option.some (Jvm.ClassFile.FieldType.object "PailRow$Fault"))) ∈ lw_all := lw_g (lw_at lw_m4 122 rfl) rfl
theorem q947 : (Jvm.Cond.declares ({ cls := "PailRow$Reader", name := "next", desc := "()V" } : Jvm.MethodName)) ∈ lw_tbl := lw_at lw_m4 125 rfl
theorem q959 : (Jvm.Cond.declares ({ cls := "PailRow$Reader", name := "isName", desc := "()Z" } : Jvm.MethodName)) ∈ lw_tbl := lw_at lw_m4 137 rfl
theorem q961 : (Jvm.Cond.instanceMethod ({ cls := "PailRow$Reader", name := "isName", desc := "()Z" } : Jvm.MethodName)) ∈ lw_all := lw_g (lw_at lw_m4 139 rfl) rfl
theorem q962 : (Jvm.Cond.code ({ cls := "PailRow$Reader", name := "isName", desc := "()Z" } : Jvm.MethodName) prog_13_method_11_code (1 : Nat) (Option.some Jvm.ClassFile.FieldType.boolean)) ∈ lw_all := lw_g (lw_at lw_m4 140 rfl) rfl
theorem q963 : (Jvm.Cond.methodLink "PailRow$Reader" (84 : Nat) ({ cls := "PailRow$Reader", name := "find", desc := "([Ljava/lang/String;)I" } : Jvm.MethodName)) ∈ lw_all := lw_g (lw_at lw_m4 141 rfl) rfl
theorem q966 : (Jvm.Cond.declares ({ cls := "PailRow$Reader", name := "man", desc := "(LPailRow$Yard;)I" } : Jvm.MethodName)) ∈ lw_tbl := lw_at lw_m4 144 rfl
theorem q968 : (Jvm.Cond.instanceMethod ({ cls := "PailRow$Reader", name := "man", desc := "(LPailRow$Yard;)I" } : Jvm.MethodName)) ∈ lw_all := lw_g (lw_at lw_m4 146 rfl) rfl
theorem q969 : (Jvm.Cond.code ({ cls := "PailRow$Reader", name := "man", desc := "(LPailRow$Yard;)I" } : Jvm.MethodName) prog_13_method_12_code (3 : Nat) (Option.some Jvm.ClassFile.FieldType.int)) ∈ lw_all := lw_g (lw_at lw_m4 147 rfl) rfl
theorem q972 : (Jvm.Cond.declares ({ cls := "PailRow$Reader", name := "number", desc := "(II)I" } : Jvm.MethodName)) ∈ lw_tbl := lw_at lw_m4 150 rfl
theorem q974 : (Jvm.Cond.instanceMethod ({ cls := "PailRow$Reader", name := "number", desc := "(II)I" } : Jvm.MethodName)) ∈ lw_all := lw_g (lw_at lw_m4 152 rfl) rfl
theorem q975 : (Jvm.Cond.code ({ cls := "PailRow$Reader", name := "number", desc := "(II)I" } : Jvm.MethodName) prog_13_method_16_code (4 : Nat) (Option.some Jvm.ClassFile.FieldType.int)) ∈ lw_all := lw_g (lw_at lw_m4 153 rfl) rfl
theorem q976 : (Jvm.Cond.methodLink "PailRow$Reader" (127 : Nat) ({ cls := "PailRow$Reader", name := "must", desc := "(ZI)V" } : Jvm.MethodName)) ∈ lw_all := lw_g (lw_at lw_m4 154 rfl) rfl
theorem q984 : (Jvm.Cond.fieldLinkNest "PailRow$Reader" (106 : Nat) "PailRow$Man" "name" "J" "PailRow") ∈ lw_tbl := lw_at lw_m4 162 rfl
theorem q1013 : (Jvm.Cond.declares ({ cls := "PailRow$Reader", name := "sign", desc := "(I)V" } : Jvm.MethodName)) ∈ lw_tbl := lw_at lw_m4 191 rfl
theorem q1015 : (Jvm.Cond.instanceMethod ({ cls := "PailRow$Reader", name := "sign", desc := "(I)V" } : Jvm.MethodName)) ∈ lw_all := lw_g (lw_at lw_m4 193 rfl) rfl
theorem q1016 : (Jvm.Cond.code ({ cls := "PailRow$Reader", name := "sign", desc := "(I)V" } : Jvm.MethodName) prog_13_method_15_code (2 : Nat) (Option.none : Option Jvm.ClassFile.FieldType)) ∈ lw_all := lw_g (lw_at lw_m4 194 rfl) rfl
theorem q1017 : (Jvm.Cond.methodLink "PailRow$Reader" (125 : Nat) ({ cls := "PailRow$Reader", name := "is", desc := "(I)Z" } : Jvm.MethodName)) ∈ lw_all := lw_g (lw_at lw_m4 195 rfl) rfl
theorem q1018 : (Jvm.Cond.instanceMethod ({ cls := "PailRow$Reader", name := "is", desc := "(I)Z" } : Jvm.MethodName)) ∈ lw_all := lw_g (lw_at lw_m4 196 rfl) rfl
theorem q1019 : (Jvm.Cond.sameMethod "PailRow$Reader" "PailRow$Reader" "is" "(I)Z") ∈ lw_all := lw_g (lw_at lw_m4 197 rfl) rfl
theorem q1023 : (Jvm.Cond.code ({ cls := "PailRow$Reader", name := "is", desc := "(I)Z" } : Jvm.MethodName) prog_13_method_9_code (2 : Nat) (Option.some Jvm.ClassFile.FieldType.boolean)) ∈ lw_all := lw_g (lw_at lw_m4 201 rfl) rfl
theorem q1046 : (Jvm.Cond.declares ({ cls := "PailRow$Reader", name := "is", desc := "(Ljava/lang/String;)Z" } : Jvm.MethodName)) ∈ lw_tbl := lw_at lw_m4 224 rfl
theorem q1434 : (Jvm.Cond.declares ({ cls := "PailRow$Reader", name := "is", desc := "(I)Z" } : Jvm.MethodName)) ∈ lw_tbl := lw_at lw_m6 132 rfl
theorem q2330 : (Jvm.Cond.sameMethod "PailRow$Reader" "PailRow$Reader" "peek" "()I") ∈ lw_all := lw_g (lw_at lw_m10 68 rfl) rfl
theorem q2331 : (Jvm.Cond.sameMethod "PailRow$Reader" "PailRow$Reader" "isLetter" "(I)Z") ∈ lw_all := lw_g (lw_at lw_m10 69 rfl) rfl
theorem q2332 : (Jvm.Cond.sameMethod "PailRow$Reader" "PailRow$Reader" "isDigit" "(I)Z") ∈ lw_all := lw_g (lw_at lw_m10 70 rfl) rfl
theorem q2333 : (Jvm.Cond.sameMethod "PailRow$Reader" "PailRow$Reader" "run" "(Z)V") ∈ lw_all := lw_g (lw_at lw_m10 71 rfl) rfl
theorem q2334 : (Jvm.Cond.sameMethod "PailRow$Reader" "PailRow$Reader" "find" "([Ljava/lang/String;)I") ∈ lw_all := lw_g (lw_at lw_m10 72 rfl) rfl
theorem q2338 : (Jvm.Cond.sameMethod "PailRow$Reader" "PailRow$Reader" "must" "(ZI)V") ∈ lw_all := lw_g (lw_at lw_m10 76 rfl) rfl
/-! PailRow$YardReader -/
set_option maxRecDepth 100000
def RX7 : String := "PailRow$YardReader"
def TX7 : u_T := fun k => match k with
  | 0 => ("PailRow$Reader", "most", "I", true)
  | 1 => ("PailRow$Reader", "p", "I", false)
  | 2 => ("PailRow$Reader", "at", "I", false)
  | 3 => ("PailRow$Reader", "token", "I", false)
  | 4 => ("PailRow$Reader", "value", "I", false)
  | 5 => ("PailRow$Reader", "many", "I", false)
  | 6 => ("PailRow$Reader", "name", "J", false)
  | 7 => ("PailRow$Reader", "this$0", "LPailRow;", true)
  | 8 => ("PailRow$YardReader", "y", "LPailRow$Yard;", false)
  | _ => ("PailRow$YardReader", "this$0", "LPailRow;", true)
def tyX7 : Nat → FieldType := fun k => match k with
  | 0 => .int
  | 1 => .int
  | 2 => .int
  | 3 => .int
  | 4 => .int
  | 5 => .int
  | 6 => .long
  | 7 => .object "PailRow"
  | 8 => .object "PailRow$Yard"
  | _ => .object "PailRow"
abbrev wsX70 : List Cond := u_ws RX7 TX7 10
-- two fields of one name: no nmX7
theorem tyX7_ok : ∀ k, k < 10 → parseFieldDescriptor (TX7 k).2.2.1 = some (tyX7 k) := by decide +kernel
abbrev cX7_init : ByteArray := prog_21_method_1_code
def yX7_init : MethodName := ⟨RX7, "<init>", "(LPailRow;)V"⟩
def dkwX7_init_0 : List UInt8 := [42, 43, 181, 0, 3, 42, 43, 17, 2, 188, 183, 0, 9, 177]
abbrev dktX7_init_0 : List UInt8 := dkwX7_init_0 ++ []
theorem dksX7_init_0 : cX7_init.data.toList.drop 0 = dktX7_init_0 := by decide +kernel
theorem dX7_init_0 : decode cX7_init 0 = .ok (.aload_n 0, 1) := dk_42 (dk_at dksX7_init_0 0 rfl rfl)
theorem dX7_init_1 : decode cX7_init 1 = .ok (.aload_n 1, 1) := dk_43 (dk_at dksX7_init_0 1 rfl rfl)
theorem dX7_init_2 : decode cX7_init 2 = .ok (.putfield 3, 3) := dk_181 0 3 (dk_at dksX7_init_0 2 rfl rfl)
theorem dX7_init_5 : decode cX7_init 5 = .ok (.aload_n 0, 1) := dk_42 (dk_at dksX7_init_0 5 rfl rfl)
theorem dX7_init_6 : decode cX7_init 6 = .ok (.aload_n 1, 1) := dk_43 (dk_at dksX7_init_0 6 rfl rfl)
theorem dX7_init_7 : decode cX7_init 7 = .ok (.sipush 700, 3) := dk_17 2 188 (dk_at dksX7_init_0 7 rfl rfl)
theorem dX7_init_10 : decode cX7_init 10 = .ok (.invokespecial 9, 3) := dk_183 0 9 (dk_at dksX7_init_0 10 rfl rfl)
theorem dX7_init_13 : decode cX7_init 13 = .ok (.return_, 1) := dk_177 (dk_at dksX7_init_0 13 rfl rfl)
abbrev cX7_read : ByteArray := prog_21_method_2_code
def yX7_read : MethodName := ⟨RX7, "read", "(LPailRow$Yard;)I"⟩
def dkwX7_read_7 : List UInt8 := [167, 255, 109, 28, 172]
abbrev dktX7_read_7 : List UInt8 := dkwX7_read_7 ++ []
def dkwX7_read_6 : List UInt8 := [120, 128, 62, 42, 182, 0, 47, 42, 21, 4, 182, 0, 50, 42, 16, 59, 182, 0, 54, 132, 2, 1]
abbrev dktX7_read_6 : List UInt8 := dkwX7_read_6 ++ dktX7_read_7
def dkwX7_read_5 : List UInt8 := [180, 0, 15, 180, 0, 44, 16, 8, 162, 0, 7, 4, 167, 0, 4, 3, 7, 182, 0, 35, 29, 4, 21, 4]
abbrev dktX7_read_5 : List UInt8 := dkwX7_read_5 ++ dktX7_read_6
def dkwX7_read_4 : List UInt8 := [180, 0, 39, 16, 12, 162, 0, 7, 4, 167, 0, 31, 3, 167, 0, 27, 21, 4, 16, 8, 160, 0, 15, 42]
abbrev dktX7_read_4 : List UInt8 := dkwX7_read_4 ++ dktX7_read_5
def dkwX7_read_3 : List UInt8 := [154, 0, 7, 4, 167, 0, 4, 3, 6, 182, 0, 35, 42, 21, 4, 154, 0, 23, 42, 180, 0, 15]
abbrev dktX7_read_3 : List UInt8 := dkwX7_read_3 ++ dktX7_read_4
def dkwX7_read_2 : List UInt8 := [182, 0, 35, 42, 21, 4, 153, 0, 19, 21, 4, 16, 7, 163, 0, 12, 29, 21, 4, 122, 4, 126]
abbrev dktX7_read_2 : List UInt8 := dkwX7_read_2 ++ dktX7_read_3
def dkwX7_read_1 : List UInt8 := [180, 0, 3, 180, 0, 27, 182, 0, 31, 54, 4, 42, 21, 4, 2, 159, 0, 7, 4, 167, 0, 4, 3, 4]
abbrev dktX7_read_1 : List UInt8 := dkwX7_read_1 ++ dktX7_read_2
def dkwX7_read_0 : List UInt8 := [42, 43, 181, 0, 15, 3, 61, 3, 62, 42, 182, 0, 19, 42, 180, 0, 23, 153, 0, 146, 42, 42]
abbrev dktX7_read_0 : List UInt8 := dkwX7_read_0 ++ dktX7_read_1
theorem dksX7_read_0 : cX7_read.data.toList.drop 0 = dktX7_read_0 := by decide +kernel
theorem dksX7_read_1 : cX7_read.data.toList.drop 22 = dktX7_read_1 := dk_seg dksX7_read_0 22 rfl rfl
theorem dksX7_read_2 : cX7_read.data.toList.drop 46 = dktX7_read_2 := dk_seg dksX7_read_1 24 rfl rfl
theorem dksX7_read_3 : cX7_read.data.toList.drop 68 = dktX7_read_3 := dk_seg dksX7_read_2 22 rfl rfl
theorem dksX7_read_4 : cX7_read.data.toList.drop 90 = dktX7_read_4 := dk_seg dksX7_read_3 22 rfl rfl
theorem dksX7_read_5 : cX7_read.data.toList.drop 114 = dktX7_read_5 := dk_seg dksX7_read_4 24 rfl rfl
theorem dksX7_read_6 : cX7_read.data.toList.drop 138 = dktX7_read_6 := dk_seg dksX7_read_5 24 rfl rfl
theorem dksX7_read_7 : cX7_read.data.toList.drop 160 = dktX7_read_7 := dk_seg dksX7_read_6 22 rfl rfl
theorem dX7_read_0 : decode cX7_read 0 = .ok (.aload_n 0, 1) := dk_42 (dk_at dksX7_read_0 0 rfl rfl)
theorem dX7_read_1 : decode cX7_read 1 = .ok (.aload_n 1, 1) := dk_43 (dk_at dksX7_read_0 1 rfl rfl)
theorem dX7_read_2 : decode cX7_read 2 = .ok (.putfield 15, 3) := dk_181 0 15 (dk_at dksX7_read_0 2 rfl rfl)
theorem dX7_read_5 : decode cX7_read 5 = .ok (.iconst 0, 1) := dk_3 (dk_at dksX7_read_0 5 rfl rfl)
theorem dX7_read_6 : decode cX7_read 6 = .ok (.istore_n 2, 1) := dk_61 (dk_at dksX7_read_0 6 rfl rfl)
theorem dX7_read_7 : decode cX7_read 7 = .ok (.iconst 0, 1) := dk_3 (dk_at dksX7_read_0 7 rfl rfl)
theorem dX7_read_8 : decode cX7_read 8 = .ok (.istore_n 3, 1) := dk_62 (dk_at dksX7_read_0 8 rfl rfl)
theorem dX7_read_9 : decode cX7_read 9 = .ok (.aload_n 0, 1) := dk_42 (dk_at dksX7_read_0 9 rfl rfl)
theorem dX7_read_10 : decode cX7_read 10 = .ok (.invokevirtual 19, 3) := dk_182 0 19 (dk_at dksX7_read_0 10 rfl rfl)
theorem dX7_read_13 : decode cX7_read 13 = .ok (.aload_n 0, 1) := dk_42 (dk_at dksX7_read_0 13 rfl rfl)
theorem dX7_read_14 : decode cX7_read 14 = .ok (.getfield 23, 3) := dk_180 0 23 (dk_at dksX7_read_0 14 rfl rfl)
theorem dX7_read_17 : decode cX7_read 17 = .ok (.ifCond .eq 146, 3) := dk_153 0 146 (dk_at dksX7_read_0 17 rfl rfl)
theorem dX7_read_20 : decode cX7_read 20 = .ok (.aload_n 0, 1) := dk_42 (dk_at dksX7_read_0 20 rfl rfl)
theorem dX7_read_21 : decode cX7_read 21 = .ok (.aload_n 0, 1) := dk_42 (dk_at dksX7_read_0 21 rfl rfl)
theorem dX7_read_22 : decode cX7_read 22 = .ok (.getfield 3, 3) := dk_180 0 3 (dk_at dksX7_read_1 0 rfl rfl)
theorem dX7_read_25 : decode cX7_read 25 = .ok (.getfield 27, 3) := dk_180 0 27 (dk_at dksX7_read_1 3 rfl rfl)
theorem dX7_read_28 : decode cX7_read 28 = .ok (.invokevirtual 31, 3) := dk_182 0 31 (dk_at dksX7_read_1 6 rfl rfl)
theorem dX7_read_31 : decode cX7_read 31 = .ok (.istore 4, 2) := dk_54 4 (dk_at dksX7_read_1 9 rfl rfl)
theorem dX7_read_33 : decode cX7_read 33 = .ok (.aload_n 0, 1) := dk_42 (dk_at dksX7_read_1 11 rfl rfl)
theorem dX7_read_34 : decode cX7_read 34 = .ok (.iload 4, 2) := dk_21 4 (dk_at dksX7_read_1 12 rfl rfl)
theorem dX7_read_36 : decode cX7_read 36 = .ok (.iconst (-1), 1) := dk_2 (dk_at dksX7_read_1 14 rfl rfl)
theorem dX7_read_37 : decode cX7_read 37 = .ok (.if_icmp .eq 7, 3) := dk_159 0 7 (dk_at dksX7_read_1 15 rfl rfl)
theorem dX7_read_40 : decode cX7_read 40 = .ok (.iconst 1, 1) := dk_4 (dk_at dksX7_read_1 18 rfl rfl)
theorem dX7_read_41 : decode cX7_read 41 = .ok (.goto 4, 3) := dk_167 0 4 (dk_at dksX7_read_1 19 rfl rfl)
theorem dX7_read_44 : decode cX7_read 44 = .ok (.iconst 0, 1) := dk_3 (dk_at dksX7_read_1 22 rfl rfl)
theorem dX7_read_45 : decode cX7_read 45 = .ok (.iconst 1, 1) := dk_4 (dk_at dksX7_read_1 23 rfl rfl)
theorem dX7_read_46 : decode cX7_read 46 = .ok (.invokevirtual 35, 3) := dk_182 0 35 (dk_at dksX7_read_2 0 rfl rfl)
theorem dX7_read_49 : decode cX7_read 49 = .ok (.aload_n 0, 1) := dk_42 (dk_at dksX7_read_2 3 rfl rfl)
theorem dX7_read_50 : decode cX7_read 50 = .ok (.iload 4, 2) := dk_21 4 (dk_at dksX7_read_2 4 rfl rfl)
theorem dX7_read_52 : decode cX7_read 52 = .ok (.ifCond .eq 19, 3) := dk_153 0 19 (dk_at dksX7_read_2 6 rfl rfl)
theorem dX7_read_55 : decode cX7_read 55 = .ok (.iload 4, 2) := dk_21 4 (dk_at dksX7_read_2 9 rfl rfl)
theorem dX7_read_57 : decode cX7_read 57 = .ok (.bipush 7, 2) := dk_16 7 (dk_at dksX7_read_2 11 rfl rfl)
theorem dX7_read_59 : decode cX7_read 59 = .ok (.if_icmp .gt 12, 3) := dk_163 0 12 (dk_at dksX7_read_2 13 rfl rfl)
theorem dX7_read_62 : decode cX7_read 62 = .ok (.iload_n 3, 1) := dk_29 (dk_at dksX7_read_2 16 rfl rfl)
theorem dX7_read_63 : decode cX7_read 63 = .ok (.iload 4, 2) := dk_21 4 (dk_at dksX7_read_2 17 rfl rfl)
theorem dX7_read_65 : decode cX7_read 65 = .ok (.ishr, 1) := dk_122 (dk_at dksX7_read_2 19 rfl rfl)
theorem dX7_read_66 : decode cX7_read 66 = .ok (.iconst 1, 1) := dk_4 (dk_at dksX7_read_2 20 rfl rfl)
theorem dX7_read_67 : decode cX7_read 67 = .ok (.iand, 1) := dk_126 (dk_at dksX7_read_2 21 rfl rfl)
theorem dX7_read_68 : decode cX7_read 68 = .ok (.ifCond .ne 7, 3) := dk_154 0 7 (dk_at dksX7_read_3 0 rfl rfl)
theorem dX7_read_71 : decode cX7_read 71 = .ok (.iconst 1, 1) := dk_4 (dk_at dksX7_read_3 3 rfl rfl)
theorem dX7_read_72 : decode cX7_read 72 = .ok (.goto 4, 3) := dk_167 0 4 (dk_at dksX7_read_3 4 rfl rfl)
theorem dX7_read_75 : decode cX7_read 75 = .ok (.iconst 0, 1) := dk_3 (dk_at dksX7_read_3 7 rfl rfl)
theorem dX7_read_76 : decode cX7_read 76 = .ok (.iconst 3, 1) := dk_6 (dk_at dksX7_read_3 8 rfl rfl)
theorem dX7_read_77 : decode cX7_read 77 = .ok (.invokevirtual 35, 3) := dk_182 0 35 (dk_at dksX7_read_3 9 rfl rfl)
theorem dX7_read_80 : decode cX7_read 80 = .ok (.aload_n 0, 1) := dk_42 (dk_at dksX7_read_3 12 rfl rfl)
theorem dX7_read_81 : decode cX7_read 81 = .ok (.iload 4, 2) := dk_21 4 (dk_at dksX7_read_3 13 rfl rfl)
theorem dX7_read_83 : decode cX7_read 83 = .ok (.ifCond .ne 23, 3) := dk_154 0 23 (dk_at dksX7_read_3 15 rfl rfl)
theorem dX7_read_86 : decode cX7_read 86 = .ok (.aload_n 0, 1) := dk_42 (dk_at dksX7_read_3 18 rfl rfl)
theorem dX7_read_87 : decode cX7_read 87 = .ok (.getfield 15, 3) := dk_180 0 15 (dk_at dksX7_read_3 19 rfl rfl)
theorem dX7_read_90 : decode cX7_read 90 = .ok (.getfield 39, 3) := dk_180 0 39 (dk_at dksX7_read_4 0 rfl rfl)
theorem dX7_read_93 : decode cX7_read 93 = .ok (.bipush 12, 2) := dk_16 12 (dk_at dksX7_read_4 3 rfl rfl)
theorem dX7_read_95 : decode cX7_read 95 = .ok (.if_icmp .ge 7, 3) := dk_162 0 7 (dk_at dksX7_read_4 5 rfl rfl)
theorem dX7_read_98 : decode cX7_read 98 = .ok (.iconst 1, 1) := dk_4 (dk_at dksX7_read_4 8 rfl rfl)
theorem dX7_read_99 : decode cX7_read 99 = .ok (.goto 31, 3) := dk_167 0 31 (dk_at dksX7_read_4 9 rfl rfl)
theorem dX7_read_102 : decode cX7_read 102 = .ok (.iconst 0, 1) := dk_3 (dk_at dksX7_read_4 12 rfl rfl)
theorem dX7_read_103 : decode cX7_read 103 = .ok (.goto 27, 3) := dk_167 0 27 (dk_at dksX7_read_4 13 rfl rfl)
theorem dX7_read_106 : decode cX7_read 106 = .ok (.iload 4, 2) := dk_21 4 (dk_at dksX7_read_4 16 rfl rfl)
theorem dX7_read_108 : decode cX7_read 108 = .ok (.bipush 8, 2) := dk_16 8 (dk_at dksX7_read_4 18 rfl rfl)
theorem dX7_read_110 : decode cX7_read 110 = .ok (.if_icmp .ne 15, 3) := dk_160 0 15 (dk_at dksX7_read_4 20 rfl rfl)
theorem dX7_read_113 : decode cX7_read 113 = .ok (.aload_n 0, 1) := dk_42 (dk_at dksX7_read_4 23 rfl rfl)
theorem dX7_read_114 : decode cX7_read 114 = .ok (.getfield 15, 3) := dk_180 0 15 (dk_at dksX7_read_5 0 rfl rfl)
theorem dX7_read_117 : decode cX7_read 117 = .ok (.getfield 44, 3) := dk_180 0 44 (dk_at dksX7_read_5 3 rfl rfl)
theorem dX7_read_120 : decode cX7_read 120 = .ok (.bipush 8, 2) := dk_16 8 (dk_at dksX7_read_5 6 rfl rfl)
theorem dX7_read_122 : decode cX7_read 122 = .ok (.if_icmp .ge 7, 3) := dk_162 0 7 (dk_at dksX7_read_5 8 rfl rfl)
theorem dX7_read_125 : decode cX7_read 125 = .ok (.iconst 1, 1) := dk_4 (dk_at dksX7_read_5 11 rfl rfl)
theorem dX7_read_126 : decode cX7_read 126 = .ok (.goto 4, 3) := dk_167 0 4 (dk_at dksX7_read_5 12 rfl rfl)
theorem dX7_read_129 : decode cX7_read 129 = .ok (.iconst 0, 1) := dk_3 (dk_at dksX7_read_5 15 rfl rfl)
theorem dX7_read_130 : decode cX7_read 130 = .ok (.iconst 4, 1) := dk_7 (dk_at dksX7_read_5 16 rfl rfl)
theorem dX7_read_131 : decode cX7_read 131 = .ok (.invokevirtual 35, 3) := dk_182 0 35 (dk_at dksX7_read_5 17 rfl rfl)
theorem dX7_read_134 : decode cX7_read 134 = .ok (.iload_n 3, 1) := dk_29 (dk_at dksX7_read_5 20 rfl rfl)
theorem dX7_read_135 : decode cX7_read 135 = .ok (.iconst 1, 1) := dk_4 (dk_at dksX7_read_5 21 rfl rfl)
theorem dX7_read_136 : decode cX7_read 136 = .ok (.iload 4, 2) := dk_21 4 (dk_at dksX7_read_5 22 rfl rfl)
theorem dX7_read_138 : decode cX7_read 138 = .ok (.ishl, 1) := dk_120 (dk_at dksX7_read_6 0 rfl rfl)
theorem dX7_read_139 : decode cX7_read 139 = .ok (.ior, 1) := dk_128 (dk_at dksX7_read_6 1 rfl rfl)
theorem dX7_read_140 : decode cX7_read 140 = .ok (.istore_n 3, 1) := dk_62 (dk_at dksX7_read_6 2 rfl rfl)
theorem dX7_read_141 : decode cX7_read 141 = .ok (.aload_n 0, 1) := dk_42 (dk_at dksX7_read_6 3 rfl rfl)
theorem dX7_read_142 : decode cX7_read 142 = .ok (.invokevirtual 47, 3) := dk_182 0 47 (dk_at dksX7_read_6 4 rfl rfl)
theorem dX7_read_145 : decode cX7_read 145 = .ok (.aload_n 0, 1) := dk_42 (dk_at dksX7_read_6 7 rfl rfl)
theorem dX7_read_146 : decode cX7_read 146 = .ok (.iload 4, 2) := dk_21 4 (dk_at dksX7_read_6 8 rfl rfl)
theorem dX7_read_148 : decode cX7_read 148 = .ok (.invokevirtual 50, 3) := dk_182 0 50 (dk_at dksX7_read_6 10 rfl rfl)
theorem dX7_read_151 : decode cX7_read 151 = .ok (.aload_n 0, 1) := dk_42 (dk_at dksX7_read_6 13 rfl rfl)
theorem dX7_read_152 : decode cX7_read 152 = .ok (.bipush 59, 2) := dk_16 59 (dk_at dksX7_read_6 14 rfl rfl)
theorem dX7_read_154 : decode cX7_read 154 = .ok (.invokevirtual 54, 3) := dk_182 0 54 (dk_at dksX7_read_6 16 rfl rfl)
theorem dX7_read_157 : decode cX7_read 157 = .ok (.iinc 2 1, 3) := dk_132 2 1 (dk_at dksX7_read_6 19 rfl rfl)
theorem dX7_read_160 : decode cX7_read 160 = .ok (.goto (-147), 3) := dk_167 255 109 (dk_at dksX7_read_7 0 rfl rfl)
theorem dX7_read_163 : decode cX7_read 163 = .ok (.iload_n 2, 1) := dk_28 (dk_at dksX7_read_7 3 rfl rfl)
theorem dX7_read_164 : decode cX7_read 164 = .ok (.ireturn, 1) := dk_172 (dk_at dksX7_read_7 4 rfl rfl)
abbrev cX7_line : ByteArray := prog_21_method_3_code
def yX7_line : MethodName := ⟨RX7, "line", "(I)V"⟩
def dkwX7_line_10 : List UInt8 := [167, 0, 14, 42, 182, 0, 94, 167, 0, 7, 42, 182, 0, 97, 177]
abbrev dktX7_line_10 : List UInt8 := dkwX7_line_10 ++ []
def dkwX7_line_9 : List UInt8 := [180, 0, 15, 180, 0, 91, 2, 159, 0, 7, 4, 167, 0, 4, 3, 4, 182, 0, 35, 42, 182, 0, 47]
abbrev dktX7_line_9 : List UInt8 := dkwX7_line_9 ++ dktX7_line_10
def dkwX7_line_8 : List UInt8 := [167, 0, 60, 42, 180, 0, 15, 42, 42, 180, 0, 3, 180, 0, 88, 182, 0, 31, 181, 0, 91, 42, 42]
abbrev dktX7_line_8 : List UInt8 := dkwX7_line_8 ++ dktX7_line_9
def dkwX7_line_7 : List UInt8 := [182, 0, 60, 181, 0, 82, 167, 0, 77, 42, 180, 0, 15, 42, 4, 16, 9, 182, 0, 60, 181, 0, 85]
abbrev dktX7_line_7 : List UInt8 := dkwX7_line_7 ++ dktX7_line_8
def dkwX7_line_6 : List UInt8 := [180, 0, 15, 42, 3, 16, 99, 182, 0, 60, 181, 0, 79, 167, 0, 94, 42, 180, 0, 15, 42, 4, 16, 99]
abbrev dktX7_line_6 : List UInt8 := dkwX7_line_6 ++ dktX7_line_7
def dkwX7_line_5 : List UInt8 := [181, 0, 73, 42, 180, 0, 15, 42, 3, 17, 39, 15, 182, 0, 60, 181, 0, 76, 167, 0, 111, 42]
abbrev dktX7_line_5 : List UInt8 := dkwX7_line_5 ++ dktX7_line_6
def dkwX7_line_4 : List UInt8 := [16, 20, 182, 0, 60, 181, 0, 70, 167, 0, 143, 42, 180, 0, 15, 42, 4, 16, 30, 182, 0, 60]
abbrev dktX7_line_4 : List UInt8 := dkwX7_line_4 ++ dktX7_line_5
def dkwX7_line_3 : List UInt8 := [167, 0, 174, 42, 180, 0, 15, 42, 4, 16, 30, 182, 0, 60, 181, 0, 67, 42, 180, 0, 15, 42, 4]
abbrev dktX7_line_3 : List UInt8 := dkwX7_line_3 ++ dktX7_line_4
def dkwX7_line_2 : List UInt8 := [42, 182, 0, 57, 167, 0, 192, 42, 180, 0, 15, 42, 16, 10, 16, 99, 182, 0, 60, 181, 0, 64]
abbrev dktX7_line_2 : List UInt8 := dkwX7_line_2 ++ dktX7_line_3
def dkwX7_line_1 : List UInt8 := [170, 0, 0, 0, 0, 0, 243, 0, 0, 0, 0, 0, 0, 0, 8, 0, 0, 0, 51, 0, 0, 0, 58, 0, 0, 0, 76, 0, 0, 0, 107, 0, 0, 0, 139, 0, 0, 0, 156, 0, 0, 0, 173, 0, 0, 0, 190, 0, 0, 0, 236]
abbrev dktX7_line_1 : List UInt8 := dkwX7_line_1 ++ dktX7_line_2
def dkwX7_line_0 : List UInt8 := [27]
abbrev dktX7_line_0 : List UInt8 := dkwX7_line_0 ++ dktX7_line_1
theorem dksX7_line_0 : cX7_line.data.toList.drop 0 = dktX7_line_0 := by decide +kernel
theorem dksX7_line_1 : cX7_line.data.toList.drop 1 = dktX7_line_1 := dk_seg dksX7_line_0 1 rfl rfl
theorem dksX7_line_2 : cX7_line.data.toList.drop 52 = dktX7_line_2 := dk_seg dksX7_line_1 51 rfl rfl
theorem dksX7_line_3 : cX7_line.data.toList.drop 74 = dktX7_line_3 := dk_seg dksX7_line_2 22 rfl rfl
theorem dksX7_line_4 : cX7_line.data.toList.drop 97 = dktX7_line_4 := dk_seg dksX7_line_3 23 rfl rfl
theorem dksX7_line_5 : cX7_line.data.toList.drop 119 = dktX7_line_5 := dk_seg dksX7_line_4 22 rfl rfl
theorem dksX7_line_6 : cX7_line.data.toList.drop 141 = dktX7_line_6 := dk_seg dksX7_line_5 22 rfl rfl
theorem dksX7_line_7 : cX7_line.data.toList.drop 165 = dktX7_line_7 := dk_seg dksX7_line_6 24 rfl rfl
theorem dksX7_line_8 : cX7_line.data.toList.drop 188 = dktX7_line_8 := dk_seg dksX7_line_7 23 rfl rfl
theorem dksX7_line_9 : cX7_line.data.toList.drop 211 = dktX7_line_9 := dk_seg dksX7_line_8 23 rfl rfl
theorem dksX7_line_10 : cX7_line.data.toList.drop 234 = dktX7_line_10 := dk_seg dksX7_line_9 23 rfl rfl
theorem dX7_line_0 : decode cX7_line 0 = .ok (.iload_n 1, 1) := dk_27 (dk_at dksX7_line_0 0 rfl rfl)
theorem dX7_line_1 : decode cX7_line 1 = .ok (.tableswitch 243 0 8 #[51, 58, 76, 107, 139, 156, 173, 190, 236], 51) := by decide +kernel
theorem dX7_line_52 : decode cX7_line 52 = .ok (.aload_n 0, 1) := dk_42 (dk_at dksX7_line_2 0 rfl rfl)
theorem dX7_line_53 : decode cX7_line 53 = .ok (.invokevirtual 57, 3) := dk_182 0 57 (dk_at dksX7_line_2 1 rfl rfl)
theorem dX7_line_56 : decode cX7_line 56 = .ok (.goto 192, 3) := dk_167 0 192 (dk_at dksX7_line_2 4 rfl rfl)
theorem dX7_line_59 : decode cX7_line 59 = .ok (.aload_n 0, 1) := dk_42 (dk_at dksX7_line_2 7 rfl rfl)
theorem dX7_line_60 : decode cX7_line 60 = .ok (.getfield 15, 3) := dk_180 0 15 (dk_at dksX7_line_2 8 rfl rfl)
theorem dX7_line_63 : decode cX7_line 63 = .ok (.aload_n 0, 1) := dk_42 (dk_at dksX7_line_2 11 rfl rfl)
theorem dX7_line_64 : decode cX7_line 64 = .ok (.bipush 10, 2) := dk_16 10 (dk_at dksX7_line_2 12 rfl rfl)
theorem dX7_line_66 : decode cX7_line 66 = .ok (.bipush 99, 2) := dk_16 99 (dk_at dksX7_line_2 14 rfl rfl)
theorem dX7_line_68 : decode cX7_line 68 = .ok (.invokevirtual 60, 3) := dk_182 0 60 (dk_at dksX7_line_2 16 rfl rfl)
theorem dX7_line_71 : decode cX7_line 71 = .ok (.putfield 64, 3) := dk_181 0 64 (dk_at dksX7_line_2 19 rfl rfl)
theorem dX7_line_74 : decode cX7_line 74 = .ok (.goto 174, 3) := dk_167 0 174 (dk_at dksX7_line_3 0 rfl rfl)
theorem dX7_line_77 : decode cX7_line 77 = .ok (.aload_n 0, 1) := dk_42 (dk_at dksX7_line_3 3 rfl rfl)
theorem dX7_line_78 : decode cX7_line 78 = .ok (.getfield 15, 3) := dk_180 0 15 (dk_at dksX7_line_3 4 rfl rfl)
theorem dX7_line_81 : decode cX7_line 81 = .ok (.aload_n 0, 1) := dk_42 (dk_at dksX7_line_3 7 rfl rfl)
theorem dX7_line_82 : decode cX7_line 82 = .ok (.iconst 1, 1) := dk_4 (dk_at dksX7_line_3 8 rfl rfl)
theorem dX7_line_83 : decode cX7_line 83 = .ok (.bipush 30, 2) := dk_16 30 (dk_at dksX7_line_3 9 rfl rfl)
theorem dX7_line_85 : decode cX7_line 85 = .ok (.invokevirtual 60, 3) := dk_182 0 60 (dk_at dksX7_line_3 11 rfl rfl)
theorem dX7_line_88 : decode cX7_line 88 = .ok (.putfield 67, 3) := dk_181 0 67 (dk_at dksX7_line_3 14 rfl rfl)
theorem dX7_line_91 : decode cX7_line 91 = .ok (.aload_n 0, 1) := dk_42 (dk_at dksX7_line_3 17 rfl rfl)
theorem dX7_line_92 : decode cX7_line 92 = .ok (.getfield 15, 3) := dk_180 0 15 (dk_at dksX7_line_3 18 rfl rfl)
theorem dX7_line_95 : decode cX7_line 95 = .ok (.aload_n 0, 1) := dk_42 (dk_at dksX7_line_3 21 rfl rfl)
theorem dX7_line_96 : decode cX7_line 96 = .ok (.iconst 1, 1) := dk_4 (dk_at dksX7_line_3 22 rfl rfl)
theorem dX7_line_97 : decode cX7_line 97 = .ok (.bipush 20, 2) := dk_16 20 (dk_at dksX7_line_4 0 rfl rfl)
theorem dX7_line_99 : decode cX7_line 99 = .ok (.invokevirtual 60, 3) := dk_182 0 60 (dk_at dksX7_line_4 2 rfl rfl)
theorem dX7_line_102 : decode cX7_line 102 = .ok (.putfield 70, 3) := dk_181 0 70 (dk_at dksX7_line_4 5 rfl rfl)
theorem dX7_line_105 : decode cX7_line 105 = .ok (.goto 143, 3) := dk_167 0 143 (dk_at dksX7_line_4 8 rfl rfl)
theorem dX7_line_108 : decode cX7_line 108 = .ok (.aload_n 0, 1) := dk_42 (dk_at dksX7_line_4 11 rfl rfl)
theorem dX7_line_109 : decode cX7_line 109 = .ok (.getfield 15, 3) := dk_180 0 15 (dk_at dksX7_line_4 12 rfl rfl)
theorem dX7_line_112 : decode cX7_line 112 = .ok (.aload_n 0, 1) := dk_42 (dk_at dksX7_line_4 15 rfl rfl)
theorem dX7_line_113 : decode cX7_line 113 = .ok (.iconst 1, 1) := dk_4 (dk_at dksX7_line_4 16 rfl rfl)
theorem dX7_line_114 : decode cX7_line 114 = .ok (.bipush 30, 2) := dk_16 30 (dk_at dksX7_line_4 17 rfl rfl)
theorem dX7_line_116 : decode cX7_line 116 = .ok (.invokevirtual 60, 3) := dk_182 0 60 (dk_at dksX7_line_4 19 rfl rfl)
theorem dX7_line_119 : decode cX7_line 119 = .ok (.putfield 73, 3) := dk_181 0 73 (dk_at dksX7_line_5 0 rfl rfl)
theorem dX7_line_122 : decode cX7_line 122 = .ok (.aload_n 0, 1) := dk_42 (dk_at dksX7_line_5 3 rfl rfl)
theorem dX7_line_123 : decode cX7_line 123 = .ok (.getfield 15, 3) := dk_180 0 15 (dk_at dksX7_line_5 4 rfl rfl)
theorem dX7_line_126 : decode cX7_line 126 = .ok (.aload_n 0, 1) := dk_42 (dk_at dksX7_line_5 7 rfl rfl)
theorem dX7_line_127 : decode cX7_line 127 = .ok (.iconst 0, 1) := dk_3 (dk_at dksX7_line_5 8 rfl rfl)
theorem dX7_line_128 : decode cX7_line 128 = .ok (.sipush 9999, 3) := dk_17 39 15 (dk_at dksX7_line_5 9 rfl rfl)
theorem dX7_line_131 : decode cX7_line 131 = .ok (.invokevirtual 60, 3) := dk_182 0 60 (dk_at dksX7_line_5 12 rfl rfl)
theorem dX7_line_134 : decode cX7_line 134 = .ok (.putfield 76, 3) := dk_181 0 76 (dk_at dksX7_line_5 15 rfl rfl)
theorem dX7_line_137 : decode cX7_line 137 = .ok (.goto 111, 3) := dk_167 0 111 (dk_at dksX7_line_5 18 rfl rfl)
theorem dX7_line_140 : decode cX7_line 140 = .ok (.aload_n 0, 1) := dk_42 (dk_at dksX7_line_5 21 rfl rfl)
theorem dX7_line_141 : decode cX7_line 141 = .ok (.getfield 15, 3) := dk_180 0 15 (dk_at dksX7_line_6 0 rfl rfl)
theorem dX7_line_144 : decode cX7_line 144 = .ok (.aload_n 0, 1) := dk_42 (dk_at dksX7_line_6 3 rfl rfl)
theorem dX7_line_145 : decode cX7_line 145 = .ok (.iconst 0, 1) := dk_3 (dk_at dksX7_line_6 4 rfl rfl)
theorem dX7_line_146 : decode cX7_line 146 = .ok (.bipush 99, 2) := dk_16 99 (dk_at dksX7_line_6 5 rfl rfl)
theorem dX7_line_148 : decode cX7_line 148 = .ok (.invokevirtual 60, 3) := dk_182 0 60 (dk_at dksX7_line_6 7 rfl rfl)
theorem dX7_line_151 : decode cX7_line 151 = .ok (.putfield 79, 3) := dk_181 0 79 (dk_at dksX7_line_6 10 rfl rfl)
theorem dX7_line_154 : decode cX7_line 154 = .ok (.goto 94, 3) := dk_167 0 94 (dk_at dksX7_line_6 13 rfl rfl)
theorem dX7_line_157 : decode cX7_line 157 = .ok (.aload_n 0, 1) := dk_42 (dk_at dksX7_line_6 16 rfl rfl)
theorem dX7_line_158 : decode cX7_line 158 = .ok (.getfield 15, 3) := dk_180 0 15 (dk_at dksX7_line_6 17 rfl rfl)
theorem dX7_line_161 : decode cX7_line 161 = .ok (.aload_n 0, 1) := dk_42 (dk_at dksX7_line_6 20 rfl rfl)
theorem dX7_line_162 : decode cX7_line 162 = .ok (.iconst 1, 1) := dk_4 (dk_at dksX7_line_6 21 rfl rfl)
theorem dX7_line_163 : decode cX7_line 163 = .ok (.bipush 99, 2) := dk_16 99 (dk_at dksX7_line_6 22 rfl rfl)
theorem dX7_line_165 : decode cX7_line 165 = .ok (.invokevirtual 60, 3) := dk_182 0 60 (dk_at dksX7_line_7 0 rfl rfl)
theorem dX7_line_168 : decode cX7_line 168 = .ok (.putfield 82, 3) := dk_181 0 82 (dk_at dksX7_line_7 3 rfl rfl)
theorem dX7_line_171 : decode cX7_line 171 = .ok (.goto 77, 3) := dk_167 0 77 (dk_at dksX7_line_7 6 rfl rfl)
theorem dX7_line_174 : decode cX7_line 174 = .ok (.aload_n 0, 1) := dk_42 (dk_at dksX7_line_7 9 rfl rfl)
theorem dX7_line_175 : decode cX7_line 175 = .ok (.getfield 15, 3) := dk_180 0 15 (dk_at dksX7_line_7 10 rfl rfl)
theorem dX7_line_178 : decode cX7_line 178 = .ok (.aload_n 0, 1) := dk_42 (dk_at dksX7_line_7 13 rfl rfl)
theorem dX7_line_179 : decode cX7_line 179 = .ok (.iconst 1, 1) := dk_4 (dk_at dksX7_line_7 14 rfl rfl)
theorem dX7_line_180 : decode cX7_line 180 = .ok (.bipush 9, 2) := dk_16 9 (dk_at dksX7_line_7 15 rfl rfl)
theorem dX7_line_182 : decode cX7_line 182 = .ok (.invokevirtual 60, 3) := dk_182 0 60 (dk_at dksX7_line_7 17 rfl rfl)
theorem dX7_line_185 : decode cX7_line 185 = .ok (.putfield 85, 3) := dk_181 0 85 (dk_at dksX7_line_7 20 rfl rfl)
theorem dX7_line_188 : decode cX7_line 188 = .ok (.goto 60, 3) := dk_167 0 60 (dk_at dksX7_line_8 0 rfl rfl)
theorem dX7_line_191 : decode cX7_line 191 = .ok (.aload_n 0, 1) := dk_42 (dk_at dksX7_line_8 3 rfl rfl)
theorem dX7_line_192 : decode cX7_line 192 = .ok (.getfield 15, 3) := dk_180 0 15 (dk_at dksX7_line_8 4 rfl rfl)
theorem dX7_line_195 : decode cX7_line 195 = .ok (.aload_n 0, 1) := dk_42 (dk_at dksX7_line_8 7 rfl rfl)
theorem dX7_line_196 : decode cX7_line 196 = .ok (.aload_n 0, 1) := dk_42 (dk_at dksX7_line_8 8 rfl rfl)
theorem dX7_line_197 : decode cX7_line 197 = .ok (.getfield 3, 3) := dk_180 0 3 (dk_at dksX7_line_8 9 rfl rfl)
theorem dX7_line_200 : decode cX7_line 200 = .ok (.getfield 88, 3) := dk_180 0 88 (dk_at dksX7_line_8 12 rfl rfl)
theorem dX7_line_203 : decode cX7_line 203 = .ok (.invokevirtual 31, 3) := dk_182 0 31 (dk_at dksX7_line_8 15 rfl rfl)
theorem dX7_line_206 : decode cX7_line 206 = .ok (.putfield 91, 3) := dk_181 0 91 (dk_at dksX7_line_8 18 rfl rfl)
theorem dX7_line_209 : decode cX7_line 209 = .ok (.aload_n 0, 1) := dk_42 (dk_at dksX7_line_8 21 rfl rfl)
theorem dX7_line_210 : decode cX7_line 210 = .ok (.aload_n 0, 1) := dk_42 (dk_at dksX7_line_8 22 rfl rfl)
theorem dX7_line_211 : decode cX7_line 211 = .ok (.getfield 15, 3) := dk_180 0 15 (dk_at dksX7_line_9 0 rfl rfl)
theorem dX7_line_214 : decode cX7_line 214 = .ok (.getfield 91, 3) := dk_180 0 91 (dk_at dksX7_line_9 3 rfl rfl)
theorem dX7_line_217 : decode cX7_line 217 = .ok (.iconst (-1), 1) := dk_2 (dk_at dksX7_line_9 6 rfl rfl)
theorem dX7_line_218 : decode cX7_line 218 = .ok (.if_icmp .eq 7, 3) := dk_159 0 7 (dk_at dksX7_line_9 7 rfl rfl)
theorem dX7_line_221 : decode cX7_line 221 = .ok (.iconst 1, 1) := dk_4 (dk_at dksX7_line_9 10 rfl rfl)
theorem dX7_line_222 : decode cX7_line 222 = .ok (.goto 4, 3) := dk_167 0 4 (dk_at dksX7_line_9 11 rfl rfl)
theorem dX7_line_225 : decode cX7_line 225 = .ok (.iconst 0, 1) := dk_3 (dk_at dksX7_line_9 14 rfl rfl)
theorem dX7_line_226 : decode cX7_line 226 = .ok (.iconst 1, 1) := dk_4 (dk_at dksX7_line_9 15 rfl rfl)
theorem dX7_line_227 : decode cX7_line 227 = .ok (.invokevirtual 35, 3) := dk_182 0 35 (dk_at dksX7_line_9 16 rfl rfl)
theorem dX7_line_230 : decode cX7_line 230 = .ok (.aload_n 0, 1) := dk_42 (dk_at dksX7_line_9 19 rfl rfl)
theorem dX7_line_231 : decode cX7_line 231 = .ok (.invokevirtual 47, 3) := dk_182 0 47 (dk_at dksX7_line_9 20 rfl rfl)
theorem dX7_line_234 : decode cX7_line 234 = .ok (.goto 14, 3) := dk_167 0 14 (dk_at dksX7_line_10 0 rfl rfl)
theorem dX7_line_237 : decode cX7_line 237 = .ok (.aload_n 0, 1) := dk_42 (dk_at dksX7_line_10 3 rfl rfl)
theorem dX7_line_238 : decode cX7_line 238 = .ok (.invokevirtual 94, 3) := dk_182 0 94 (dk_at dksX7_line_10 4 rfl rfl)
theorem dX7_line_241 : decode cX7_line 241 = .ok (.goto 7, 3) := dk_167 0 7 (dk_at dksX7_line_10 7 rfl rfl)
theorem dX7_line_244 : decode cX7_line 244 = .ok (.aload_n 0, 1) := dk_42 (dk_at dksX7_line_10 10 rfl rfl)
theorem dX7_line_245 : decode cX7_line 245 = .ok (.invokevirtual 97, 3) := dk_182 0 97 (dk_at dksX7_line_10 11 rfl rfl)
theorem dX7_line_248 : decode cX7_line 248 = .ok (.return_, 1) := dk_177 (dk_at dksX7_line_10 14 rfl rfl)
abbrev cX7_man : ByteArray := prog_21_method_4_code
def yX7_man : MethodName := ⟨RX7, "man", "()V"⟩
def dkwX7_man_4 : List UInt8 := [180, 0, 39, 4, 96, 181, 0, 39, 177]
abbrev dktX7_man_4 : List UInt8 := dkwX7_man_4 ++ []
def dkwX7_man_3 : List UInt8 := [187, 0, 115, 89, 31, 29, 21, 4, 42, 4, 16, 99, 182, 0, 60, 183, 0, 117, 83, 42, 180, 0, 15, 89]
abbrev dktX7_man_3 : List UInt8 := dkwX7_man_3 ++ dktX7_man_4
def dkwX7_man_2 : List UInt8 := [62, 42, 4, 16, 9, 182, 0, 60, 54, 4, 42, 180, 0, 15, 180, 0, 111, 42, 180, 0, 15, 180, 0, 39]
abbrev dktX7_man_2 : List UInt8 := dkwX7_man_2 ++ dktX7_man_3
def dkwX7_man_1 : List UInt8 := [167, 0, 4, 3, 6, 182, 0, 35, 42, 180, 0, 107, 64, 42, 182, 0, 47, 42, 4, 16, 9, 182, 0, 60]
abbrev dktX7_man_1 : List UInt8 := dkwX7_man_1 ++ dktX7_man_2
def dkwX7_man_0 : List UInt8 := [42, 42, 182, 0, 100, 4, 182, 0, 35, 42, 42, 42, 180, 0, 15, 182, 0, 104, 2, 160, 0, 7, 4]
abbrev dktX7_man_0 : List UInt8 := dkwX7_man_0 ++ dktX7_man_1
theorem dksX7_man_0 : cX7_man.data.toList.drop 0 = dktX7_man_0 := by decide +kernel
theorem dksX7_man_1 : cX7_man.data.toList.drop 23 = dktX7_man_1 := dk_seg dksX7_man_0 23 rfl rfl
theorem dksX7_man_2 : cX7_man.data.toList.drop 47 = dktX7_man_2 := dk_seg dksX7_man_1 24 rfl rfl
theorem dksX7_man_3 : cX7_man.data.toList.drop 71 = dktX7_man_3 := dk_seg dksX7_man_2 24 rfl rfl
theorem dksX7_man_4 : cX7_man.data.toList.drop 95 = dktX7_man_4 := dk_seg dksX7_man_3 24 rfl rfl
theorem dX7_man_0 : decode cX7_man 0 = .ok (.aload_n 0, 1) := dk_42 (dk_at dksX7_man_0 0 rfl rfl)
theorem dX7_man_1 : decode cX7_man 1 = .ok (.aload_n 0, 1) := dk_42 (dk_at dksX7_man_0 1 rfl rfl)
theorem dX7_man_2 : decode cX7_man 2 = .ok (.invokevirtual 100, 3) := dk_182 0 100 (dk_at dksX7_man_0 2 rfl rfl)
theorem dX7_man_5 : decode cX7_man 5 = .ok (.iconst 1, 1) := dk_4 (dk_at dksX7_man_0 5 rfl rfl)
theorem dX7_man_6 : decode cX7_man 6 = .ok (.invokevirtual 35, 3) := dk_182 0 35 (dk_at dksX7_man_0 6 rfl rfl)
theorem dX7_man_9 : decode cX7_man 9 = .ok (.aload_n 0, 1) := dk_42 (dk_at dksX7_man_0 9 rfl rfl)
theorem dX7_man_10 : decode cX7_man 10 = .ok (.aload_n 0, 1) := dk_42 (dk_at dksX7_man_0 10 rfl rfl)
theorem dX7_man_11 : decode cX7_man 11 = .ok (.aload_n 0, 1) := dk_42 (dk_at dksX7_man_0 11 rfl rfl)
theorem dX7_man_12 : decode cX7_man 12 = .ok (.getfield 15, 3) := dk_180 0 15 (dk_at dksX7_man_0 12 rfl rfl)
theorem dX7_man_15 : decode cX7_man 15 = .ok (.invokevirtual 104, 3) := dk_182 0 104 (dk_at dksX7_man_0 15 rfl rfl)
theorem dX7_man_18 : decode cX7_man 18 = .ok (.iconst (-1), 1) := dk_2 (dk_at dksX7_man_0 18 rfl rfl)
theorem dX7_man_19 : decode cX7_man 19 = .ok (.if_icmp .ne 7, 3) := dk_160 0 7 (dk_at dksX7_man_0 19 rfl rfl)
theorem dX7_man_22 : decode cX7_man 22 = .ok (.iconst 1, 1) := dk_4 (dk_at dksX7_man_0 22 rfl rfl)
theorem dX7_man_23 : decode cX7_man 23 = .ok (.goto 4, 3) := dk_167 0 4 (dk_at dksX7_man_1 0 rfl rfl)
theorem dX7_man_26 : decode cX7_man 26 = .ok (.iconst 0, 1) := dk_3 (dk_at dksX7_man_1 3 rfl rfl)
theorem dX7_man_27 : decode cX7_man 27 = .ok (.iconst 3, 1) := dk_6 (dk_at dksX7_man_1 4 rfl rfl)
theorem dX7_man_28 : decode cX7_man 28 = .ok (.invokevirtual 35, 3) := dk_182 0 35 (dk_at dksX7_man_1 5 rfl rfl)
theorem dX7_man_31 : decode cX7_man 31 = .ok (.aload_n 0, 1) := dk_42 (dk_at dksX7_man_1 8 rfl rfl)
theorem dX7_man_32 : decode cX7_man 32 = .ok (.getfield 107, 3) := dk_180 0 107 (dk_at dksX7_man_1 9 rfl rfl)
theorem dX7_man_35 : decode cX7_man 35 = .ok (.lstore_n 1, 1) := dk_64 (dk_at dksX7_man_1 12 rfl rfl)
theorem dX7_man_36 : decode cX7_man 36 = .ok (.aload_n 0, 1) := dk_42 (dk_at dksX7_man_1 13 rfl rfl)
theorem dX7_man_37 : decode cX7_man 37 = .ok (.invokevirtual 47, 3) := dk_182 0 47 (dk_at dksX7_man_1 14 rfl rfl)
theorem dX7_man_40 : decode cX7_man 40 = .ok (.aload_n 0, 1) := dk_42 (dk_at dksX7_man_1 17 rfl rfl)
theorem dX7_man_41 : decode cX7_man 41 = .ok (.iconst 1, 1) := dk_4 (dk_at dksX7_man_1 18 rfl rfl)
theorem dX7_man_42 : decode cX7_man 42 = .ok (.bipush 9, 2) := dk_16 9 (dk_at dksX7_man_1 19 rfl rfl)
theorem dX7_man_44 : decode cX7_man 44 = .ok (.invokevirtual 60, 3) := dk_182 0 60 (dk_at dksX7_man_1 21 rfl rfl)
theorem dX7_man_47 : decode cX7_man 47 = .ok (.istore_n 3, 1) := dk_62 (dk_at dksX7_man_2 0 rfl rfl)
theorem dX7_man_48 : decode cX7_man 48 = .ok (.aload_n 0, 1) := dk_42 (dk_at dksX7_man_2 1 rfl rfl)
theorem dX7_man_49 : decode cX7_man 49 = .ok (.iconst 1, 1) := dk_4 (dk_at dksX7_man_2 2 rfl rfl)
theorem dX7_man_50 : decode cX7_man 50 = .ok (.bipush 9, 2) := dk_16 9 (dk_at dksX7_man_2 3 rfl rfl)
theorem dX7_man_52 : decode cX7_man 52 = .ok (.invokevirtual 60, 3) := dk_182 0 60 (dk_at dksX7_man_2 5 rfl rfl)
theorem dX7_man_55 : decode cX7_man 55 = .ok (.istore 4, 2) := dk_54 4 (dk_at dksX7_man_2 8 rfl rfl)
theorem dX7_man_57 : decode cX7_man 57 = .ok (.aload_n 0, 1) := dk_42 (dk_at dksX7_man_2 10 rfl rfl)
theorem dX7_man_58 : decode cX7_man 58 = .ok (.getfield 15, 3) := dk_180 0 15 (dk_at dksX7_man_2 11 rfl rfl)
theorem dX7_man_61 : decode cX7_man 61 = .ok (.getfield 111, 3) := dk_180 0 111 (dk_at dksX7_man_2 14 rfl rfl)
theorem dX7_man_64 : decode cX7_man 64 = .ok (.aload_n 0, 1) := dk_42 (dk_at dksX7_man_2 17 rfl rfl)
theorem dX7_man_65 : decode cX7_man 65 = .ok (.getfield 15, 3) := dk_180 0 15 (dk_at dksX7_man_2 18 rfl rfl)
theorem dX7_man_68 : decode cX7_man 68 = .ok (.getfield 39, 3) := dk_180 0 39 (dk_at dksX7_man_2 21 rfl rfl)
theorem dX7_man_71 : decode cX7_man 71 = .ok (.new 115, 3) := dk_187 0 115 (dk_at dksX7_man_3 0 rfl rfl)
theorem dX7_man_74 : decode cX7_man 74 = .ok (.dup, 1) := dk_89 (dk_at dksX7_man_3 3 rfl rfl)
theorem dX7_man_75 : decode cX7_man 75 = .ok (.lload_n 1, 1) := dk_31 (dk_at dksX7_man_3 4 rfl rfl)
theorem dX7_man_76 : decode cX7_man 76 = .ok (.iload_n 3, 1) := dk_29 (dk_at dksX7_man_3 5 rfl rfl)
theorem dX7_man_77 : decode cX7_man 77 = .ok (.iload 4, 2) := dk_21 4 (dk_at dksX7_man_3 6 rfl rfl)
theorem dX7_man_79 : decode cX7_man 79 = .ok (.aload_n 0, 1) := dk_42 (dk_at dksX7_man_3 8 rfl rfl)
theorem dX7_man_80 : decode cX7_man 80 = .ok (.iconst 1, 1) := dk_4 (dk_at dksX7_man_3 9 rfl rfl)
theorem dX7_man_81 : decode cX7_man 81 = .ok (.bipush 99, 2) := dk_16 99 (dk_at dksX7_man_3 10 rfl rfl)
theorem dX7_man_83 : decode cX7_man 83 = .ok (.invokevirtual 60, 3) := dk_182 0 60 (dk_at dksX7_man_3 12 rfl rfl)
theorem dX7_man_86 : decode cX7_man 86 = .ok (.invokespecial 117, 3) := dk_183 0 117 (dk_at dksX7_man_3 15 rfl rfl)
theorem dX7_man_89 : decode cX7_man 89 = .ok (.aastore, 1) := dk_83 (dk_at dksX7_man_3 18 rfl rfl)
theorem dX7_man_90 : decode cX7_man 90 = .ok (.aload_n 0, 1) := dk_42 (dk_at dksX7_man_3 19 rfl rfl)
theorem dX7_man_91 : decode cX7_man 91 = .ok (.getfield 15, 3) := dk_180 0 15 (dk_at dksX7_man_3 20 rfl rfl)
theorem dX7_man_94 : decode cX7_man 94 = .ok (.dup, 1) := dk_89 (dk_at dksX7_man_3 23 rfl rfl)
theorem dX7_man_95 : decode cX7_man 95 = .ok (.getfield 39, 3) := dk_180 0 39 (dk_at dksX7_man_4 0 rfl rfl)
theorem dX7_man_98 : decode cX7_man 98 = .ok (.iconst 1, 1) := dk_4 (dk_at dksX7_man_4 3 rfl rfl)
theorem dX7_man_99 : decode cX7_man 99 = .ok (.iadd, 1) := dk_96 (dk_at dksX7_man_4 4 rfl rfl)
theorem dX7_man_100 : decode cX7_man 100 = .ok (.putfield 39, 3) := dk_181 0 39 (dk_at dksX7_man_4 5 rfl rfl)
theorem dX7_man_103 : decode cX7_man 103 = .ok (.return_, 1) := dk_177 (dk_at dksX7_man_4 8 rfl rfl)
abbrev cX7_cells : ByteArray := prog_21_method_5_code
def yX7_cells : MethodName := ⟨RX7, "cells", "()V"⟩
def dkwX7_cells_5 : List UInt8 := [180, 0, 15, 89, 180, 0, 44, 4, 96, 181, 0, 44, 42, 182, 0, 47, 177]
abbrev dktX7_cells_5 : List UInt8 := dkwX7_cells_5 ++ []
def dkwX7_cells_4 : List UInt8 := [180, 0, 3, 180, 0, 130, 42, 180, 0, 134, 27, 96, 51, 16, 48, 100, 79, 132, 1, 1, 167, 255, 208, 42]
abbrev dktX7_cells_4 : List UInt8 := dkwX7_cells_4 ++ dktX7_cells_5
def dkwX7_cells_3 : List UInt8 := [162, 0, 46, 42, 180, 0, 15, 180, 0, 126, 16, 8, 42, 180, 0, 15, 180, 0, 44, 104, 27, 96, 42]
abbrev dktX7_cells_3 : List UInt8 := dkwX7_cells_3 ++ dktX7_cells_4
def dkwX7_cells_2 : List UInt8 := [3, 5, 182, 0, 35, 42, 180, 0, 15, 42, 180, 0, 120, 181, 0, 123, 3, 60, 27, 42, 180, 0, 120]
abbrev dktX7_cells_2 : List UInt8 := dkwX7_cells_2 ++ dktX7_cells_3
def dkwX7_cells_1 : List UInt8 := [180, 0, 44, 153, 0, 17, 42, 180, 0, 120, 42, 180, 0, 15, 180, 0, 123, 160, 0, 7, 4, 167, 0, 4]
abbrev dktX7_cells_1 : List UInt8 := dkwX7_cells_1 ++ dktX7_cells_2
def dkwX7_cells_0 : List UInt8 := [42, 42, 180, 0, 23, 5, 160, 0, 7, 4, 167, 0, 4, 3, 4, 182, 0, 35, 42, 42, 180, 0, 15]
abbrev dktX7_cells_0 : List UInt8 := dkwX7_cells_0 ++ dktX7_cells_1
theorem dksX7_cells_0 : cX7_cells.data.toList.drop 0 = dktX7_cells_0 := by decide +kernel
theorem dksX7_cells_1 : cX7_cells.data.toList.drop 23 = dktX7_cells_1 := dk_seg dksX7_cells_0 23 rfl rfl
theorem dksX7_cells_2 : cX7_cells.data.toList.drop 47 = dktX7_cells_2 := dk_seg dksX7_cells_1 24 rfl rfl
theorem dksX7_cells_3 : cX7_cells.data.toList.drop 70 = dktX7_cells_3 := dk_seg dksX7_cells_2 23 rfl rfl
theorem dksX7_cells_4 : cX7_cells.data.toList.drop 93 = dktX7_cells_4 := dk_seg dksX7_cells_3 23 rfl rfl
theorem dksX7_cells_5 : cX7_cells.data.toList.drop 117 = dktX7_cells_5 := dk_seg dksX7_cells_4 24 rfl rfl
theorem dX7_cells_0 : decode cX7_cells 0 = .ok (.aload_n 0, 1) := dk_42 (dk_at dksX7_cells_0 0 rfl rfl)
theorem dX7_cells_1 : decode cX7_cells 1 = .ok (.aload_n 0, 1) := dk_42 (dk_at dksX7_cells_0 1 rfl rfl)
theorem dX7_cells_2 : decode cX7_cells 2 = .ok (.getfield 23, 3) := dk_180 0 23 (dk_at dksX7_cells_0 2 rfl rfl)
theorem dX7_cells_5 : decode cX7_cells 5 = .ok (.iconst 2, 1) := dk_5 (dk_at dksX7_cells_0 5 rfl rfl)
theorem dX7_cells_6 : decode cX7_cells 6 = .ok (.if_icmp .ne 7, 3) := dk_160 0 7 (dk_at dksX7_cells_0 6 rfl rfl)
theorem dX7_cells_9 : decode cX7_cells 9 = .ok (.iconst 1, 1) := dk_4 (dk_at dksX7_cells_0 9 rfl rfl)
theorem dX7_cells_10 : decode cX7_cells 10 = .ok (.goto 4, 3) := dk_167 0 4 (dk_at dksX7_cells_0 10 rfl rfl)
theorem dX7_cells_13 : decode cX7_cells 13 = .ok (.iconst 0, 1) := dk_3 (dk_at dksX7_cells_0 13 rfl rfl)
theorem dX7_cells_14 : decode cX7_cells 14 = .ok (.iconst 1, 1) := dk_4 (dk_at dksX7_cells_0 14 rfl rfl)
theorem dX7_cells_15 : decode cX7_cells 15 = .ok (.invokevirtual 35, 3) := dk_182 0 35 (dk_at dksX7_cells_0 15 rfl rfl)
theorem dX7_cells_18 : decode cX7_cells 18 = .ok (.aload_n 0, 1) := dk_42 (dk_at dksX7_cells_0 18 rfl rfl)
theorem dX7_cells_19 : decode cX7_cells 19 = .ok (.aload_n 0, 1) := dk_42 (dk_at dksX7_cells_0 19 rfl rfl)
theorem dX7_cells_20 : decode cX7_cells 20 = .ok (.getfield 15, 3) := dk_180 0 15 (dk_at dksX7_cells_0 20 rfl rfl)
theorem dX7_cells_23 : decode cX7_cells 23 = .ok (.getfield 44, 3) := dk_180 0 44 (dk_at dksX7_cells_1 0 rfl rfl)
theorem dX7_cells_26 : decode cX7_cells 26 = .ok (.ifCond .eq 17, 3) := dk_153 0 17 (dk_at dksX7_cells_1 3 rfl rfl)
theorem dX7_cells_29 : decode cX7_cells 29 = .ok (.aload_n 0, 1) := dk_42 (dk_at dksX7_cells_1 6 rfl rfl)
theorem dX7_cells_30 : decode cX7_cells 30 = .ok (.getfield 120, 3) := dk_180 0 120 (dk_at dksX7_cells_1 7 rfl rfl)
theorem dX7_cells_33 : decode cX7_cells 33 = .ok (.aload_n 0, 1) := dk_42 (dk_at dksX7_cells_1 10 rfl rfl)
theorem dX7_cells_34 : decode cX7_cells 34 = .ok (.getfield 15, 3) := dk_180 0 15 (dk_at dksX7_cells_1 11 rfl rfl)
theorem dX7_cells_37 : decode cX7_cells 37 = .ok (.getfield 123, 3) := dk_180 0 123 (dk_at dksX7_cells_1 14 rfl rfl)
theorem dX7_cells_40 : decode cX7_cells 40 = .ok (.if_icmp .ne 7, 3) := dk_160 0 7 (dk_at dksX7_cells_1 17 rfl rfl)
theorem dX7_cells_43 : decode cX7_cells 43 = .ok (.iconst 1, 1) := dk_4 (dk_at dksX7_cells_1 20 rfl rfl)
theorem dX7_cells_44 : decode cX7_cells 44 = .ok (.goto 4, 3) := dk_167 0 4 (dk_at dksX7_cells_1 21 rfl rfl)
theorem dX7_cells_47 : decode cX7_cells 47 = .ok (.iconst 0, 1) := dk_3 (dk_at dksX7_cells_2 0 rfl rfl)
theorem dX7_cells_48 : decode cX7_cells 48 = .ok (.iconst 2, 1) := dk_5 (dk_at dksX7_cells_2 1 rfl rfl)
theorem dX7_cells_49 : decode cX7_cells 49 = .ok (.invokevirtual 35, 3) := dk_182 0 35 (dk_at dksX7_cells_2 2 rfl rfl)
theorem dX7_cells_52 : decode cX7_cells 52 = .ok (.aload_n 0, 1) := dk_42 (dk_at dksX7_cells_2 5 rfl rfl)
theorem dX7_cells_53 : decode cX7_cells 53 = .ok (.getfield 15, 3) := dk_180 0 15 (dk_at dksX7_cells_2 6 rfl rfl)
theorem dX7_cells_56 : decode cX7_cells 56 = .ok (.aload_n 0, 1) := dk_42 (dk_at dksX7_cells_2 9 rfl rfl)
theorem dX7_cells_57 : decode cX7_cells 57 = .ok (.getfield 120, 3) := dk_180 0 120 (dk_at dksX7_cells_2 10 rfl rfl)
theorem dX7_cells_60 : decode cX7_cells 60 = .ok (.putfield 123, 3) := dk_181 0 123 (dk_at dksX7_cells_2 13 rfl rfl)
theorem dX7_cells_63 : decode cX7_cells 63 = .ok (.iconst 0, 1) := dk_3 (dk_at dksX7_cells_2 16 rfl rfl)
theorem dX7_cells_64 : decode cX7_cells 64 = .ok (.istore_n 1, 1) := dk_60 (dk_at dksX7_cells_2 17 rfl rfl)
theorem dX7_cells_65 : decode cX7_cells 65 = .ok (.iload_n 1, 1) := dk_27 (dk_at dksX7_cells_2 18 rfl rfl)
theorem dX7_cells_66 : decode cX7_cells 66 = .ok (.aload_n 0, 1) := dk_42 (dk_at dksX7_cells_2 19 rfl rfl)
theorem dX7_cells_67 : decode cX7_cells 67 = .ok (.getfield 120, 3) := dk_180 0 120 (dk_at dksX7_cells_2 20 rfl rfl)
theorem dX7_cells_70 : decode cX7_cells 70 = .ok (.if_icmp .ge 46, 3) := dk_162 0 46 (dk_at dksX7_cells_3 0 rfl rfl)
theorem dX7_cells_73 : decode cX7_cells 73 = .ok (.aload_n 0, 1) := dk_42 (dk_at dksX7_cells_3 3 rfl rfl)
theorem dX7_cells_74 : decode cX7_cells 74 = .ok (.getfield 15, 3) := dk_180 0 15 (dk_at dksX7_cells_3 4 rfl rfl)
theorem dX7_cells_77 : decode cX7_cells 77 = .ok (.getfield 126, 3) := dk_180 0 126 (dk_at dksX7_cells_3 7 rfl rfl)
theorem dX7_cells_80 : decode cX7_cells 80 = .ok (.bipush 8, 2) := dk_16 8 (dk_at dksX7_cells_3 10 rfl rfl)
theorem dX7_cells_82 : decode cX7_cells 82 = .ok (.aload_n 0, 1) := dk_42 (dk_at dksX7_cells_3 12 rfl rfl)
theorem dX7_cells_83 : decode cX7_cells 83 = .ok (.getfield 15, 3) := dk_180 0 15 (dk_at dksX7_cells_3 13 rfl rfl)
theorem dX7_cells_86 : decode cX7_cells 86 = .ok (.getfield 44, 3) := dk_180 0 44 (dk_at dksX7_cells_3 16 rfl rfl)
theorem dX7_cells_89 : decode cX7_cells 89 = .ok (.imul, 1) := dk_104 (dk_at dksX7_cells_3 19 rfl rfl)
theorem dX7_cells_90 : decode cX7_cells 90 = .ok (.iload_n 1, 1) := dk_27 (dk_at dksX7_cells_3 20 rfl rfl)
theorem dX7_cells_91 : decode cX7_cells 91 = .ok (.iadd, 1) := dk_96 (dk_at dksX7_cells_3 21 rfl rfl)
theorem dX7_cells_92 : decode cX7_cells 92 = .ok (.aload_n 0, 1) := dk_42 (dk_at dksX7_cells_3 22 rfl rfl)
theorem dX7_cells_93 : decode cX7_cells 93 = .ok (.getfield 3, 3) := dk_180 0 3 (dk_at dksX7_cells_4 0 rfl rfl)
theorem dX7_cells_96 : decode cX7_cells 96 = .ok (.getfield 130, 3) := dk_180 0 130 (dk_at dksX7_cells_4 3 rfl rfl)
theorem dX7_cells_99 : decode cX7_cells 99 = .ok (.aload_n 0, 1) := dk_42 (dk_at dksX7_cells_4 6 rfl rfl)
theorem dX7_cells_100 : decode cX7_cells 100 = .ok (.getfield 134, 3) := dk_180 0 134 (dk_at dksX7_cells_4 7 rfl rfl)
theorem dX7_cells_103 : decode cX7_cells 103 = .ok (.iload_n 1, 1) := dk_27 (dk_at dksX7_cells_4 10 rfl rfl)
theorem dX7_cells_104 : decode cX7_cells 104 = .ok (.iadd, 1) := dk_96 (dk_at dksX7_cells_4 11 rfl rfl)
theorem dX7_cells_105 : decode cX7_cells 105 = .ok (.baload, 1) := dk_51 (dk_at dksX7_cells_4 12 rfl rfl)
theorem dX7_cells_106 : decode cX7_cells 106 = .ok (.bipush 48, 2) := dk_16 48 (dk_at dksX7_cells_4 13 rfl rfl)
theorem dX7_cells_108 : decode cX7_cells 108 = .ok (.isub, 1) := dk_100 (dk_at dksX7_cells_4 15 rfl rfl)
theorem dX7_cells_109 : decode cX7_cells 109 = .ok (.iastore, 1) := dk_79 (dk_at dksX7_cells_4 16 rfl rfl)
theorem dX7_cells_110 : decode cX7_cells 110 = .ok (.iinc 1 1, 3) := dk_132 1 1 (dk_at dksX7_cells_4 17 rfl rfl)
theorem dX7_cells_113 : decode cX7_cells 113 = .ok (.goto (-48), 3) := dk_167 255 208 (dk_at dksX7_cells_4 20 rfl rfl)
theorem dX7_cells_116 : decode cX7_cells 116 = .ok (.aload_n 0, 1) := dk_42 (dk_at dksX7_cells_4 23 rfl rfl)
theorem dX7_cells_117 : decode cX7_cells 117 = .ok (.getfield 15, 3) := dk_180 0 15 (dk_at dksX7_cells_5 0 rfl rfl)
theorem dX7_cells_120 : decode cX7_cells 120 = .ok (.dup, 1) := dk_89 (dk_at dksX7_cells_5 3 rfl rfl)
theorem dX7_cells_121 : decode cX7_cells 121 = .ok (.getfield 44, 3) := dk_180 0 44 (dk_at dksX7_cells_5 4 rfl rfl)
theorem dX7_cells_124 : decode cX7_cells 124 = .ok (.iconst 1, 1) := dk_4 (dk_at dksX7_cells_5 7 rfl rfl)
theorem dX7_cells_125 : decode cX7_cells 125 = .ok (.iadd, 1) := dk_96 (dk_at dksX7_cells_5 8 rfl rfl)
theorem dX7_cells_126 : decode cX7_cells 126 = .ok (.putfield 44, 3) := dk_181 0 44 (dk_at dksX7_cells_5 9 rfl rfl)
theorem dX7_cells_129 : decode cX7_cells 129 = .ok (.aload_n 0, 1) := dk_42 (dk_at dksX7_cells_5 12 rfl rfl)
theorem dX7_cells_130 : decode cX7_cells 130 = .ok (.invokevirtual 47, 3) := dk_182 0 47 (dk_at dksX7_cells_5 13 rfl rfl)
theorem dX7_cells_133 : decode cX7_cells 133 = .ok (.return_, 1) := dk_177 (dk_at dksX7_cells_5 16 rfl rfl)
abbrev cX7_burn : ByteArray := prog_21_method_6_code
def yX7_burn : MethodName := ⟨RX7, "burn", "()V"⟩
def dkwX7_burn_5 : List UInt8 := [180, 0, 137, 104, 27, 96, 4, 84, 42, 182, 0, 47, 177]
abbrev dktX7_burn_5 : List UInt8 := dkwX7_burn_5 ++ []
def dkwX7_burn_4 : List UInt8 := [154, 0, 7, 4, 167, 0, 4, 3, 6, 182, 0, 35, 42, 180, 0, 15, 180, 0, 140, 16, 8, 42]
abbrev dktX7_burn_4 : List UInt8 := dkwX7_burn_4 ++ dktX7_burn_5
def dkwX7_burn_3 : List UInt8 := [3, 5, 182, 0, 35, 42, 42, 180, 0, 15, 180, 0, 140, 16, 8, 42, 180, 0, 137, 104, 27, 96, 51]
abbrev dktX7_burn_3 : List UInt8 := dkwX7_burn_3 ++ dktX7_burn_4
def dkwX7_burn_2 : List UInt8 := [42, 180, 0, 15, 180, 0, 126, 16, 8, 42, 180, 0, 137, 104, 27, 96, 46, 158, 0, 7, 4, 167, 0, 4]
abbrev dktX7_burn_2 : List UInt8 := dkwX7_burn_2 ++ dktX7_burn_3
def dkwX7_burn_1 : List UInt8 := [4, 167, 0, 4, 3, 4, 182, 0, 35, 42, 42, 180, 0, 137, 42, 180, 0, 15, 180, 0, 44, 162, 0, 27]
abbrev dktX7_burn_1 : List UInt8 := dkwX7_burn_1 ++ dktX7_burn_2
def dkwX7_burn_0 : List UInt8 := [42, 3, 42, 180, 0, 15, 180, 0, 123, 4, 100, 182, 0, 60, 60, 42, 42, 180, 0, 23, 5, 160, 0, 7]
abbrev dktX7_burn_0 : List UInt8 := dkwX7_burn_0 ++ dktX7_burn_1
theorem dksX7_burn_0 : cX7_burn.data.toList.drop 0 = dktX7_burn_0 := by decide +kernel
theorem dksX7_burn_1 : cX7_burn.data.toList.drop 24 = dktX7_burn_1 := dk_seg dksX7_burn_0 24 rfl rfl
theorem dksX7_burn_2 : cX7_burn.data.toList.drop 48 = dktX7_burn_2 := dk_seg dksX7_burn_1 24 rfl rfl
theorem dksX7_burn_3 : cX7_burn.data.toList.drop 72 = dktX7_burn_3 := dk_seg dksX7_burn_2 24 rfl rfl
theorem dksX7_burn_4 : cX7_burn.data.toList.drop 95 = dktX7_burn_4 := dk_seg dksX7_burn_3 23 rfl rfl
theorem dksX7_burn_5 : cX7_burn.data.toList.drop 117 = dktX7_burn_5 := dk_seg dksX7_burn_4 22 rfl rfl
theorem dX7_burn_0 : decode cX7_burn 0 = .ok (.aload_n 0, 1) := dk_42 (dk_at dksX7_burn_0 0 rfl rfl)
theorem dX7_burn_1 : decode cX7_burn 1 = .ok (.iconst 0, 1) := dk_3 (dk_at dksX7_burn_0 1 rfl rfl)
theorem dX7_burn_2 : decode cX7_burn 2 = .ok (.aload_n 0, 1) := dk_42 (dk_at dksX7_burn_0 2 rfl rfl)
theorem dX7_burn_3 : decode cX7_burn 3 = .ok (.getfield 15, 3) := dk_180 0 15 (dk_at dksX7_burn_0 3 rfl rfl)
theorem dX7_burn_6 : decode cX7_burn 6 = .ok (.getfield 123, 3) := dk_180 0 123 (dk_at dksX7_burn_0 6 rfl rfl)
theorem dX7_burn_9 : decode cX7_burn 9 = .ok (.iconst 1, 1) := dk_4 (dk_at dksX7_burn_0 9 rfl rfl)
theorem dX7_burn_10 : decode cX7_burn 10 = .ok (.isub, 1) := dk_100 (dk_at dksX7_burn_0 10 rfl rfl)
theorem dX7_burn_11 : decode cX7_burn 11 = .ok (.invokevirtual 60, 3) := dk_182 0 60 (dk_at dksX7_burn_0 11 rfl rfl)
theorem dX7_burn_14 : decode cX7_burn 14 = .ok (.istore_n 1, 1) := dk_60 (dk_at dksX7_burn_0 14 rfl rfl)
theorem dX7_burn_15 : decode cX7_burn 15 = .ok (.aload_n 0, 1) := dk_42 (dk_at dksX7_burn_0 15 rfl rfl)
theorem dX7_burn_16 : decode cX7_burn 16 = .ok (.aload_n 0, 1) := dk_42 (dk_at dksX7_burn_0 16 rfl rfl)
theorem dX7_burn_17 : decode cX7_burn 17 = .ok (.getfield 23, 3) := dk_180 0 23 (dk_at dksX7_burn_0 17 rfl rfl)
theorem dX7_burn_20 : decode cX7_burn 20 = .ok (.iconst 2, 1) := dk_5 (dk_at dksX7_burn_0 20 rfl rfl)
theorem dX7_burn_21 : decode cX7_burn 21 = .ok (.if_icmp .ne 7, 3) := dk_160 0 7 (dk_at dksX7_burn_0 21 rfl rfl)
theorem dX7_burn_24 : decode cX7_burn 24 = .ok (.iconst 1, 1) := dk_4 (dk_at dksX7_burn_1 0 rfl rfl)
theorem dX7_burn_25 : decode cX7_burn 25 = .ok (.goto 4, 3) := dk_167 0 4 (dk_at dksX7_burn_1 1 rfl rfl)
theorem dX7_burn_28 : decode cX7_burn 28 = .ok (.iconst 0, 1) := dk_3 (dk_at dksX7_burn_1 4 rfl rfl)
theorem dX7_burn_29 : decode cX7_burn 29 = .ok (.iconst 1, 1) := dk_4 (dk_at dksX7_burn_1 5 rfl rfl)
theorem dX7_burn_30 : decode cX7_burn 30 = .ok (.invokevirtual 35, 3) := dk_182 0 35 (dk_at dksX7_burn_1 6 rfl rfl)
theorem dX7_burn_33 : decode cX7_burn 33 = .ok (.aload_n 0, 1) := dk_42 (dk_at dksX7_burn_1 9 rfl rfl)
theorem dX7_burn_34 : decode cX7_burn 34 = .ok (.aload_n 0, 1) := dk_42 (dk_at dksX7_burn_1 10 rfl rfl)
theorem dX7_burn_35 : decode cX7_burn 35 = .ok (.getfield 137, 3) := dk_180 0 137 (dk_at dksX7_burn_1 11 rfl rfl)
theorem dX7_burn_38 : decode cX7_burn 38 = .ok (.aload_n 0, 1) := dk_42 (dk_at dksX7_burn_1 14 rfl rfl)
theorem dX7_burn_39 : decode cX7_burn 39 = .ok (.getfield 15, 3) := dk_180 0 15 (dk_at dksX7_burn_1 15 rfl rfl)
theorem dX7_burn_42 : decode cX7_burn 42 = .ok (.getfield 44, 3) := dk_180 0 44 (dk_at dksX7_burn_1 18 rfl rfl)
theorem dX7_burn_45 : decode cX7_burn 45 = .ok (.if_icmp .ge 27, 3) := dk_162 0 27 (dk_at dksX7_burn_1 21 rfl rfl)
theorem dX7_burn_48 : decode cX7_burn 48 = .ok (.aload_n 0, 1) := dk_42 (dk_at dksX7_burn_2 0 rfl rfl)
theorem dX7_burn_49 : decode cX7_burn 49 = .ok (.getfield 15, 3) := dk_180 0 15 (dk_at dksX7_burn_2 1 rfl rfl)
theorem dX7_burn_52 : decode cX7_burn 52 = .ok (.getfield 126, 3) := dk_180 0 126 (dk_at dksX7_burn_2 4 rfl rfl)
theorem dX7_burn_55 : decode cX7_burn 55 = .ok (.bipush 8, 2) := dk_16 8 (dk_at dksX7_burn_2 7 rfl rfl)
theorem dX7_burn_57 : decode cX7_burn 57 = .ok (.aload_n 0, 1) := dk_42 (dk_at dksX7_burn_2 9 rfl rfl)
theorem dX7_burn_58 : decode cX7_burn 58 = .ok (.getfield 137, 3) := dk_180 0 137 (dk_at dksX7_burn_2 10 rfl rfl)
theorem dX7_burn_61 : decode cX7_burn 61 = .ok (.imul, 1) := dk_104 (dk_at dksX7_burn_2 13 rfl rfl)
theorem dX7_burn_62 : decode cX7_burn 62 = .ok (.iload_n 1, 1) := dk_27 (dk_at dksX7_burn_2 14 rfl rfl)
theorem dX7_burn_63 : decode cX7_burn 63 = .ok (.iadd, 1) := dk_96 (dk_at dksX7_burn_2 15 rfl rfl)
theorem dX7_burn_64 : decode cX7_burn 64 = .ok (.iaload, 1) := dk_46 (dk_at dksX7_burn_2 16 rfl rfl)
theorem dX7_burn_65 : decode cX7_burn 65 = .ok (.ifCond .le 7, 3) := dk_158 0 7 (dk_at dksX7_burn_2 17 rfl rfl)
theorem dX7_burn_68 : decode cX7_burn 68 = .ok (.iconst 1, 1) := dk_4 (dk_at dksX7_burn_2 20 rfl rfl)
theorem dX7_burn_69 : decode cX7_burn 69 = .ok (.goto 4, 3) := dk_167 0 4 (dk_at dksX7_burn_2 21 rfl rfl)
theorem dX7_burn_72 : decode cX7_burn 72 = .ok (.iconst 0, 1) := dk_3 (dk_at dksX7_burn_3 0 rfl rfl)
theorem dX7_burn_73 : decode cX7_burn 73 = .ok (.iconst 2, 1) := dk_5 (dk_at dksX7_burn_3 1 rfl rfl)
theorem dX7_burn_74 : decode cX7_burn 74 = .ok (.invokevirtual 35, 3) := dk_182 0 35 (dk_at dksX7_burn_3 2 rfl rfl)
theorem dX7_burn_77 : decode cX7_burn 77 = .ok (.aload_n 0, 1) := dk_42 (dk_at dksX7_burn_3 5 rfl rfl)
theorem dX7_burn_78 : decode cX7_burn 78 = .ok (.aload_n 0, 1) := dk_42 (dk_at dksX7_burn_3 6 rfl rfl)
theorem dX7_burn_79 : decode cX7_burn 79 = .ok (.getfield 15, 3) := dk_180 0 15 (dk_at dksX7_burn_3 7 rfl rfl)
theorem dX7_burn_82 : decode cX7_burn 82 = .ok (.getfield 140, 3) := dk_180 0 140 (dk_at dksX7_burn_3 10 rfl rfl)
theorem dX7_burn_85 : decode cX7_burn 85 = .ok (.bipush 8, 2) := dk_16 8 (dk_at dksX7_burn_3 13 rfl rfl)
theorem dX7_burn_87 : decode cX7_burn 87 = .ok (.aload_n 0, 1) := dk_42 (dk_at dksX7_burn_3 15 rfl rfl)
theorem dX7_burn_88 : decode cX7_burn 88 = .ok (.getfield 137, 3) := dk_180 0 137 (dk_at dksX7_burn_3 16 rfl rfl)
theorem dX7_burn_91 : decode cX7_burn 91 = .ok (.imul, 1) := dk_104 (dk_at dksX7_burn_3 19 rfl rfl)
theorem dX7_burn_92 : decode cX7_burn 92 = .ok (.iload_n 1, 1) := dk_27 (dk_at dksX7_burn_3 20 rfl rfl)
theorem dX7_burn_93 : decode cX7_burn 93 = .ok (.iadd, 1) := dk_96 (dk_at dksX7_burn_3 21 rfl rfl)
theorem dX7_burn_94 : decode cX7_burn 94 = .ok (.baload, 1) := dk_51 (dk_at dksX7_burn_3 22 rfl rfl)
theorem dX7_burn_95 : decode cX7_burn 95 = .ok (.ifCond .ne 7, 3) := dk_154 0 7 (dk_at dksX7_burn_4 0 rfl rfl)
theorem dX7_burn_98 : decode cX7_burn 98 = .ok (.iconst 1, 1) := dk_4 (dk_at dksX7_burn_4 3 rfl rfl)
theorem dX7_burn_99 : decode cX7_burn 99 = .ok (.goto 4, 3) := dk_167 0 4 (dk_at dksX7_burn_4 4 rfl rfl)
theorem dX7_burn_102 : decode cX7_burn 102 = .ok (.iconst 0, 1) := dk_3 (dk_at dksX7_burn_4 7 rfl rfl)
theorem dX7_burn_103 : decode cX7_burn 103 = .ok (.iconst 3, 1) := dk_6 (dk_at dksX7_burn_4 8 rfl rfl)
theorem dX7_burn_104 : decode cX7_burn 104 = .ok (.invokevirtual 35, 3) := dk_182 0 35 (dk_at dksX7_burn_4 9 rfl rfl)
theorem dX7_burn_107 : decode cX7_burn 107 = .ok (.aload_n 0, 1) := dk_42 (dk_at dksX7_burn_4 12 rfl rfl)
theorem dX7_burn_108 : decode cX7_burn 108 = .ok (.getfield 15, 3) := dk_180 0 15 (dk_at dksX7_burn_4 13 rfl rfl)
theorem dX7_burn_111 : decode cX7_burn 111 = .ok (.getfield 140, 3) := dk_180 0 140 (dk_at dksX7_burn_4 16 rfl rfl)
theorem dX7_burn_114 : decode cX7_burn 114 = .ok (.bipush 8, 2) := dk_16 8 (dk_at dksX7_burn_4 19 rfl rfl)
theorem dX7_burn_116 : decode cX7_burn 116 = .ok (.aload_n 0, 1) := dk_42 (dk_at dksX7_burn_4 21 rfl rfl)
theorem dX7_burn_117 : decode cX7_burn 117 = .ok (.getfield 137, 3) := dk_180 0 137 (dk_at dksX7_burn_5 0 rfl rfl)
theorem dX7_burn_120 : decode cX7_burn 120 = .ok (.imul, 1) := dk_104 (dk_at dksX7_burn_5 3 rfl rfl)
theorem dX7_burn_121 : decode cX7_burn 121 = .ok (.iload_n 1, 1) := dk_27 (dk_at dksX7_burn_5 4 rfl rfl)
theorem dX7_burn_122 : decode cX7_burn 122 = .ok (.iadd, 1) := dk_96 (dk_at dksX7_burn_5 5 rfl rfl)
theorem dX7_burn_123 : decode cX7_burn 123 = .ok (.iconst 1, 1) := dk_4 (dk_at dksX7_burn_5 6 rfl rfl)
theorem dX7_burn_124 : decode cX7_burn 124 = .ok (.bastore, 1) := dk_84 (dk_at dksX7_burn_5 7 rfl rfl)
theorem dX7_burn_125 : decode cX7_burn 125 = .ok (.aload_n 0, 1) := dk_42 (dk_at dksX7_burn_5 8 rfl rfl)
theorem dX7_burn_126 : decode cX7_burn 126 = .ok (.invokevirtual 47, 3) := dk_182 0 47 (dk_at dksX7_burn_5 9 rfl rfl)
theorem dX7_burn_129 : decode cX7_burn 129 = .ok (.return_, 1) := dk_177 (dk_at dksX7_burn_5 12 rfl rfl)
theorem q111 : (Jvm.Cond.initialized "PailRow$YardReader") ∈ lw_all := lw_g (lw_at lw_m1 9 rfl) rfl
theorem q259 : (Jvm.Cond.fieldLinkNest "PailRow$YardReader" (111 : Nat) "PailRow$Yard" "men" "[LPailRow$Man;" "PailRow") ∈ lw_tbl := lw_at lw_m1 157 rfl
theorem q264 : (Jvm.Cond.fieldLinkNest "PailRow$YardReader" (126 : Nat) "PailRow$Yard" "fuel" "[I" "PailRow") ∈ lw_tbl := lw_at lw_m1 162 rfl
theorem q268 : (Jvm.Cond.fieldLinkNest "PailRow$YardReader" (140 : Nat) "PailRow$Yard" "burns" "[Z" "PailRow") ∈ lw_tbl := lw_at lw_m1 166 rfl
theorem q270 : (Jvm.Cond.fieldLinkNest "PailRow$YardReader" (39 : Nat) "PailRow$Yard" "manMany" "I" "PailRow") ∈ lw_tbl := lw_at lw_m1 168 rfl
theorem q275 : (Jvm.Cond.fieldLinkNest "PailRow$YardReader" (123 : Nat) "PailRow$Yard" "columns" "I" "PailRow") ∈ lw_tbl := lw_at lw_m1 173 rfl
theorem q279 : (Jvm.Cond.fieldLinkNest "PailRow$YardReader" (44 : Nat) "PailRow$Yard" "rows" "I" "PailRow") ∈ lw_tbl := lw_at lw_m1 177 rfl
theorem q284 : (Jvm.Cond.fieldLinkNest "PailRow$YardReader" (64 : Nat) "PailRow$Yard" "way" "I" "PailRow") ∈ lw_tbl := lw_at lw_m1 182 rfl
theorem q290 : (Jvm.Cond.fieldLinkNest "PailRow$YardReader" (67 : Nat) "PailRow$Yard" "pails" "I" "PailRow") ∈ lw_tbl := lw_at lw_m1 188 rfl
theorem q293 : (Jvm.Cond.fieldLinkNest "PailRow$YardReader" (70 : Nat) "PailRow$Yard" "hold" "I" "PailRow") ∈ lw_tbl := lw_at lw_m1 191 rfl
theorem q298 : (Jvm.Cond.fieldLinkNest "PailRow$YardReader" (73 : Nat) "PailRow$Yard" "draw" "I" "PailRow") ∈ lw_tbl := lw_at lw_m1 196 rfl
theorem q300 : (Jvm.Cond.fieldLinkNest "PailRow$YardReader" (76 : Nat) "PailRow$Yard" "water" "I" "PailRow") ∈ lw_tbl := lw_at lw_m1 198 rfl
theorem q302 : (Jvm.Cond.fieldLinkNest "PailRow$YardReader" (79 : Nat) "PailRow$Yard" "spill" "I" "PailRow") ∈ lw_tbl := lw_at lw_m1 200 rfl
theorem q305 : (Jvm.Cond.fieldLinkNest "PailRow$YardReader" (82 : Nat) "PailRow$Yard" "back" "I" "PailRow") ∈ lw_tbl := lw_at lw_m1 203 rfl
theorem q309 : (Jvm.Cond.fieldLinkNest "PailRow$YardReader" (85 : Nat) "PailRow$Yard" "thrown" "I" "PailRow") ∈ lw_tbl := lw_at lw_m1 207 rfl
theorem q311 : (Jvm.Cond.fieldLinkNest "PailRow$YardReader" (91 : Nat) "PailRow$Yard" "wind" "I" "PailRow") ∈ lw_tbl := lw_at lw_m1 209 rfl
theorem q379 : (Jvm.Cond.instantiable "PailRow$YardReader" (10 : Nat)) ∈ lw_all := lw_g (lw_at lw_m2 37 rfl) rfl
theorem q381 : (Jvm.Cond.instanceMethod ({ cls := "PailRow$YardReader", name := "<init>", desc := "(LPailRow;)V" } : Jvm.MethodName)) ∈ lw_all := lw_g (lw_at lw_m2 39 rfl) rfl
theorem q382 : (Jvm.Cond.code ({ cls := "PailRow$YardReader", name := "<init>", desc := "(LPailRow;)V" } : Jvm.MethodName) prog_21_method_1_code (2 : Nat) (Option.none : Option Jvm.ClassFile.FieldType)) ∈ lw_all := lw_g (lw_at lw_m2 40 rfl) rfl
theorem q383 : (Jvm.Cond.methodLink "PailRow$YardReader" (9 : Nat) ({ cls := "PailRow$Reader", name := "<init>", desc := "(LPailRow;I)V" } : Jvm.MethodName)) ∈ lw_all := lw_g (lw_at lw_m2 41 rfl) rfl
theorem q387 : (Jvm.Cond.fieldLink "PailRow$YardReader" (15 : Nat) "PailRow$YardReader" "y" "LPailRow$Yard;") ∈ lw_all := lw_g (lw_at lw_m2 45 rfl) rfl
theorem q388 : (Jvm.Cond.fieldLink "PailRow$YardReader" (3 : Nat) "PailRow$YardReader" "this$0" "LPailRow;") ∈ lw_all := lw_g (lw_at lw_m2 46 rfl) rfl
theorem q391 : (Jvm.Cond.fieldLink "PailRow$YardReader" (134 : Nat) "PailRow$YardReader" "at" "I") ∈ lw_all := lw_g (lw_at lw_m2 49 rfl) rfl
theorem q392 : (Jvm.Cond.sameField "PailRow$YardReader" "PailRow$Reader" "at" "I") ∈ lw_all := lw_g (lw_at lw_m2 50 rfl) rfl
theorem q394 : (Jvm.Cond.fieldLink "PailRow$YardReader" (23 : Nat) "PailRow$YardReader" "token" "I") ∈ lw_all := lw_g (lw_at lw_m2 52 rfl) rfl
theorem q395 : (Jvm.Cond.sameField "PailRow$YardReader" "PailRow$Reader" "token" "I") ∈ lw_all := lw_g (lw_at lw_m2 53 rfl) rfl
theorem q403 : (Jvm.Cond.fieldLink "PailRow$YardReader" (137 : Nat) "PailRow$YardReader" "value" "I") ∈ lw_all := lw_g (lw_at lw_m2 61 rfl) rfl
theorem q404 : (Jvm.Cond.sameField "PailRow$YardReader" "PailRow$Reader" "value" "I") ∈ lw_all := lw_g (lw_at lw_m2 62 rfl) rfl
theorem q408 : (Jvm.Cond.fieldLink "PailRow$YardReader" (120 : Nat) "PailRow$YardReader" "many" "I") ∈ lw_all := lw_g (lw_at lw_m2 66 rfl) rfl
theorem q409 : (Jvm.Cond.sameField "PailRow$YardReader" "PailRow$Reader" "many" "I") ∈ lw_all := lw_g (lw_at lw_m2 67 rfl) rfl
theorem q411 : (Jvm.Cond.fieldLink "PailRow$YardReader" (107 : Nat) "PailRow$YardReader" "name" "J") ∈ lw_all := lw_g (lw_at lw_m2 69 rfl) rfl
theorem q412 : (Jvm.Cond.sameField "PailRow$YardReader" "PailRow$Reader" "name" "J") ∈ lw_all := lw_g (lw_at lw_m2 70 rfl) rfl
theorem q415 : (Jvm.Cond.lays "PailRow$YardReader" "PailRow$YardReader" "y" "LPailRow$Yard;") ∈ lw_all := lw_g (lw_at lw_m2 73 rfl) rfl
theorem q416 : (Jvm.Cond.soleField "PailRow$YardReader" "y") ∈ lw_all := lw_g (lw_at lw_m2 74 rfl) rfl
theorem q417 : (Jvm.Cond.laysFinal "PailRow$YardReader" "PailRow$YardReader" "this$0" "LPailRow;") ∈ lw_all := lw_g (lw_at lw_m2 75 rfl) rfl
theorem q418 : (Jvm.Cond.soleField "PailRow$YardReader" "this$0") ∈ lw_all := lw_g (lw_at lw_m2 76 rfl) rfl
theorem q419 : (Jvm.Cond.laysFinal "PailRow$YardReader" "PailRow$Reader" "most" "I") ∈ lw_all := lw_g (lw_at lw_m2 77 rfl) rfl
theorem q421 : (Jvm.Cond.lays "PailRow$YardReader" "PailRow$Reader" "p" "I") ∈ lw_all := lw_g (lw_at lw_m2 79 rfl) rfl
theorem q423 : (Jvm.Cond.lays "PailRow$YardReader" "PailRow$Reader" "at" "I") ∈ lw_all := lw_g (lw_at lw_m2 81 rfl) rfl
theorem q425 : (Jvm.Cond.lays "PailRow$YardReader" "PailRow$Reader" "token" "I") ∈ lw_all := lw_g (lw_at lw_m2 83 rfl) rfl
theorem q427 : (Jvm.Cond.lays "PailRow$YardReader" "PailRow$Reader" "value" "I") ∈ lw_all := lw_g (lw_at lw_m2 85 rfl) rfl
theorem q429 : (Jvm.Cond.lays "PailRow$YardReader" "PailRow$Reader" "many" "I") ∈ lw_all := lw_g (lw_at lw_m2 87 rfl) rfl
theorem q431 : (Jvm.Cond.lays "PailRow$YardReader" "PailRow$Reader" "name" "J") ∈ lw_all := lw_g (lw_at lw_m2 89 rfl) rfl
theorem q433 : (Jvm.Cond.laysFinal "PailRow$YardReader" "PailRow$Reader" "this$0" "LPailRow;") ∈ lw_all := lw_g (lw_at lw_m2 91 rfl) rfl
theorem q435 : (Jvm.Cond.superclass "PailRow$YardReader" "PailRow$Reader") ∈ lw_all := lw_g (lw_at lw_m2 93 rfl) rfl
theorem q642 : (Jvm.Cond.fieldLinkNest "PailRow$YardReader" (130 : Nat) "PailRow" "tape" "[B" "PailRow") ∈ lw_tbl := lw_at lw_m3 60 rfl
theorem q649 : (Jvm.Cond.fieldLinkNest "PailRow$YardReader" (27 : Nat) "PailRow" "lines" "[Ljava/lang/String;" "PailRow") ∈ lw_tbl := lw_at lw_m3 67 rfl
theorem q652 : (Jvm.Cond.fieldLinkNest "PailRow$YardReader" (88 : Nat) "PailRow" "winds" "[Ljava/lang/String;" "PailRow") ∈ lw_tbl := lw_at lw_m3 70 rfl
theorem q836 : (Jvm.Cond.instanceMethod ({ cls := "PailRow$YardReader", name := "read", desc := "(LPailRow$Yard;)I" } : Jvm.MethodName)) ∈ lw_all := lw_g (lw_at lw_m4 14 rfl) rfl
theorem q837 : (Jvm.Cond.selects "PailRow$YardReader" ({ cls := "PailRow$YardReader", name := "read", desc := "(LPailRow$Yard;)I" } : Jvm.MethodName) ({ cls := "PailRow$YardReader", name := "read", desc := "(LPailRow$Yard;)I" } : Jvm.MethodName)) ∈ lw_all := lw_g (lw_at lw_m4 15 rfl) rfl
theorem q838 : (Jvm.Cond.code ({ cls := "PailRow$YardReader", name := "read", desc := "(LPailRow$Yard;)I" } : Jvm.MethodName) prog_21_method_2_code (5 : Nat) (Option.some Jvm.ClassFile.FieldType.int)) ∈ lw_all := lw_g (lw_at lw_m4 16 rfl) rfl
theorem q839 : (Jvm.Cond.methodLink "PailRow$YardReader" (19 : Nat) ({ cls := "PailRow$YardReader", name := "begin", desc := "()V" } : Jvm.MethodName)) ∈ lw_all := lw_g (lw_at lw_m4 17 rfl) rfl
theorem q840 : (Jvm.Cond.sameMethod "PailRow$YardReader" "PailRow$Reader" "begin" "()V") ∈ lw_all := lw_g (lw_at lw_m4 18 rfl) rfl
theorem q842 : (Jvm.Cond.selects "PailRow$YardReader" ({ cls := "PailRow$YardReader", name := "begin", desc := "()V" } : Jvm.MethodName) ({ cls := "PailRow$Reader", name := "begin", desc := "()V" } : Jvm.MethodName)) ∈ lw_all := lw_g (lw_at lw_m4 20 rfl) rfl
theorem q850 : (Jvm.Cond.selects "PailRow$YardReader" ({ cls := "PailRow$Reader", name := "next", desc := "()V" } : Jvm.MethodName) ({ cls := "PailRow$Reader", name := "next", desc := "()V" } : Jvm.MethodName)) ∈ lw_all := lw_g (lw_at lw_m4 28 rfl) rfl
theorem q871 : (Jvm.Cond.methodLink "PailRow$YardReader" (31 : Nat) ({ cls := "PailRow$YardReader", name := "find", desc := "([Ljava/lang/String;)I" } : Jvm.MethodName)) ∈ lw_all := lw_g (lw_at lw_m4 49 rfl) rfl
theorem q872 : (Jvm.Cond.sameMethod "PailRow$YardReader" "PailRow$Reader" "find" "([Ljava/lang/String;)I") ∈ lw_all := lw_g (lw_at lw_m4 50 rfl) rfl
theorem q874 : (Jvm.Cond.selects "PailRow$YardReader" ({ cls := "PailRow$YardReader", name := "find", desc := "([Ljava/lang/String;)I" } : Jvm.MethodName) ({ cls := "PailRow$Reader", name := "find", desc := "([Ljava/lang/String;)I" } : Jvm.MethodName)) ∈ lw_all := lw_g (lw_at lw_m4 52 rfl) rfl
theorem q882 : (Jvm.Cond.selects "PailRow$YardReader" ({ cls := "PailRow$Reader", name := "is", desc := "(Ljava/lang/String;)Z" } : Jvm.MethodName) ({ cls := "PailRow$Reader", name := "is", desc := "(Ljava/lang/String;)Z" } : Jvm.MethodName)) ∈ lw_all := lw_g (lw_at lw_m4 60 rfl) rfl
theorem q932 : (Jvm.Cond.methodLink "PailRow$YardReader" (35 : Nat) ({ cls := "PailRow$YardReader", name := "must", desc := "(ZI)V" } : Jvm.MethodName)) ∈ lw_all := lw_g (lw_at lw_m4 110 rfl) rfl
theorem q933 : (Jvm.Cond.sameMethod "PailRow$YardReader" "PailRow$Reader" "must" "(ZI)V") ∈ lw_all := lw_g (lw_at lw_m4 111 rfl) rfl
theorem q935 : (Jvm.Cond.selects "PailRow$YardReader" ({ cls := "PailRow$YardReader", name := "must", desc := "(ZI)V" } : Jvm.MethodName) ({ cls := "PailRow$Reader", name := "must", desc := "(ZI)V" } : Jvm.MethodName)) ∈ lw_all := lw_g (lw_at lw_m4 113 rfl) rfl
theorem q943 : (Jvm.Cond.selects "PailRow$YardReader" ({ cls := "PailRow$Reader", name := "wrong", desc := "(I)LPailRow$Fault;" } : Jvm.MethodName) ({ cls := "PailRow$Reader", name := "wrong", desc := "(I)LPailRow$Fault;" } : Jvm.MethodName)) ∈ lw_all := lw_g (lw_at lw_m4 121 rfl) rfl
theorem q945 : (Jvm.Cond.methodLink "PailRow$YardReader" (47 : Nat) ({ cls := "PailRow$YardReader", name := "next", desc := "()V" } : Jvm.MethodName)) ∈ lw_all := lw_g (lw_at lw_m4 123 rfl) rfl
theorem q946 : (Jvm.Cond.sameMethod "PailRow$YardReader" "PailRow$Reader" "next" "()V") ∈ lw_all := lw_g (lw_at lw_m4 124 rfl) rfl
theorem q948 : (Jvm.Cond.selects "PailRow$YardReader" ({ cls := "PailRow$YardReader", name := "next", desc := "()V" } : Jvm.MethodName) ({ cls := "PailRow$Reader", name := "next", desc := "()V" } : Jvm.MethodName)) ∈ lw_all := lw_g (lw_at lw_m4 126 rfl) rfl
theorem q949 : (Jvm.Cond.methodLink "PailRow$YardReader" (50 : Nat) ({ cls := "PailRow$YardReader", name := "line", desc := "(I)V" } : Jvm.MethodName)) ∈ lw_all := lw_g (lw_at lw_m4 127 rfl) rfl
theorem q950 : (Jvm.Cond.privateMethod ({ cls := "PailRow$YardReader", name := "line", desc := "(I)V" } : Jvm.MethodName)) ∈ lw_tbl := lw_at lw_m4 128 rfl
theorem q951 : (Jvm.Cond.instanceMethod ({ cls := "PailRow$YardReader", name := "line", desc := "(I)V" } : Jvm.MethodName)) ∈ lw_all := lw_g (lw_at lw_m4 129 rfl) rfl
theorem q952 : (Jvm.Cond.code ({ cls := "PailRow$YardReader", name := "line", desc := "(I)V" } : Jvm.MethodName) prog_21_method_3_code (2 : Nat) (Option.none : Option Jvm.ClassFile.FieldType)) ∈ lw_all := lw_g (lw_at lw_m4 130 rfl) rfl
theorem q953 : (Jvm.Cond.methodLink "PailRow$YardReader" (57 : Nat) ({ cls := "PailRow$YardReader", name := "man", desc := "()V" } : Jvm.MethodName)) ∈ lw_all := lw_g (lw_at lw_m4 131 rfl) rfl
theorem q954 : (Jvm.Cond.privateMethod ({ cls := "PailRow$YardReader", name := "man", desc := "()V" } : Jvm.MethodName)) ∈ lw_tbl := lw_at lw_m4 132 rfl
theorem q955 : (Jvm.Cond.instanceMethod ({ cls := "PailRow$YardReader", name := "man", desc := "()V" } : Jvm.MethodName)) ∈ lw_all := lw_g (lw_at lw_m4 133 rfl) rfl
theorem q956 : (Jvm.Cond.code ({ cls := "PailRow$YardReader", name := "man", desc := "()V" } : Jvm.MethodName) prog_21_method_4_code (5 : Nat) (Option.none : Option Jvm.ClassFile.FieldType)) ∈ lw_all := lw_g (lw_at lw_m4 134 rfl) rfl
theorem q957 : (Jvm.Cond.methodLink "PailRow$YardReader" (100 : Nat) ({ cls := "PailRow$YardReader", name := "isName", desc := "()Z" } : Jvm.MethodName)) ∈ lw_all := lw_g (lw_at lw_m4 135 rfl) rfl
theorem q958 : (Jvm.Cond.sameMethod "PailRow$YardReader" "PailRow$Reader" "isName" "()Z") ∈ lw_all := lw_g (lw_at lw_m4 136 rfl) rfl
theorem q960 : (Jvm.Cond.selects "PailRow$YardReader" ({ cls := "PailRow$YardReader", name := "isName", desc := "()Z" } : Jvm.MethodName) ({ cls := "PailRow$Reader", name := "isName", desc := "()Z" } : Jvm.MethodName)) ∈ lw_all := lw_g (lw_at lw_m4 138 rfl) rfl
theorem q964 : (Jvm.Cond.methodLink "PailRow$YardReader" (104 : Nat) ({ cls := "PailRow$YardReader", name := "man", desc := "(LPailRow$Yard;)I" } : Jvm.MethodName)) ∈ lw_all := lw_g (lw_at lw_m4 142 rfl) rfl
theorem q965 : (Jvm.Cond.sameMethod "PailRow$YardReader" "PailRow$Reader" "man" "(LPailRow$Yard;)I") ∈ lw_all := lw_g (lw_at lw_m4 143 rfl) rfl
theorem q967 : (Jvm.Cond.selects "PailRow$YardReader" ({ cls := "PailRow$YardReader", name := "man", desc := "(LPailRow$Yard;)I" } : Jvm.MethodName) ({ cls := "PailRow$Reader", name := "man", desc := "(LPailRow$Yard;)I" } : Jvm.MethodName)) ∈ lw_all := lw_g (lw_at lw_m4 145 rfl) rfl
theorem q970 : (Jvm.Cond.methodLink "PailRow$YardReader" (60 : Nat) ({ cls := "PailRow$YardReader", name := "number", desc := "(II)I" } : Jvm.MethodName)) ∈ lw_all := lw_g (lw_at lw_m4 148 rfl) rfl
theorem q971 : (Jvm.Cond.sameMethod "PailRow$YardReader" "PailRow$Reader" "number" "(II)I") ∈ lw_all := lw_g (lw_at lw_m4 149 rfl) rfl
theorem q973 : (Jvm.Cond.selects "PailRow$YardReader" ({ cls := "PailRow$YardReader", name := "number", desc := "(II)I" } : Jvm.MethodName) ({ cls := "PailRow$Reader", name := "number", desc := "(II)I" } : Jvm.MethodName)) ∈ lw_all := lw_g (lw_at lw_m4 151 rfl) rfl
theorem q977 : (Jvm.Cond.classLink "PailRow$YardReader" (115 : Nat) "PailRow$Man") ∈ lw_all := lw_g (lw_at lw_m4 155 rfl) rfl
theorem q979 : (Jvm.Cond.methodLink "PailRow$YardReader" (117 : Nat) ({ cls := "PailRow$Man", name := "<init>", desc := "(JIII)V" } : Jvm.MethodName)) ∈ lw_all := lw_g (lw_at lw_m4 157 rfl) rfl
theorem q1003 : (Jvm.Cond.methodLink "PailRow$YardReader" (94 : Nat) ({ cls := "PailRow$YardReader", name := "cells", desc := "()V" } : Jvm.MethodName)) ∈ lw_all := lw_g (lw_at lw_m4 181 rfl) rfl
theorem q1004 : (Jvm.Cond.privateMethod ({ cls := "PailRow$YardReader", name := "cells", desc := "()V" } : Jvm.MethodName)) ∈ lw_tbl := lw_at lw_m4 182 rfl
theorem q1005 : (Jvm.Cond.instanceMethod ({ cls := "PailRow$YardReader", name := "cells", desc := "()V" } : Jvm.MethodName)) ∈ lw_all := lw_g (lw_at lw_m4 183 rfl) rfl
theorem q1006 : (Jvm.Cond.code ({ cls := "PailRow$YardReader", name := "cells", desc := "()V" } : Jvm.MethodName) prog_21_method_5_code (2 : Nat) (Option.none : Option Jvm.ClassFile.FieldType)) ∈ lw_all := lw_g (lw_at lw_m4 184 rfl) rfl
theorem q1007 : (Jvm.Cond.methodLink "PailRow$YardReader" (97 : Nat) ({ cls := "PailRow$YardReader", name := "burn", desc := "()V" } : Jvm.MethodName)) ∈ lw_all := lw_g (lw_at lw_m4 185 rfl) rfl
theorem q1008 : (Jvm.Cond.privateMethod ({ cls := "PailRow$YardReader", name := "burn", desc := "()V" } : Jvm.MethodName)) ∈ lw_tbl := lw_at lw_m4 186 rfl
theorem q1009 : (Jvm.Cond.instanceMethod ({ cls := "PailRow$YardReader", name := "burn", desc := "()V" } : Jvm.MethodName)) ∈ lw_all := lw_g (lw_at lw_m4 187 rfl) rfl
theorem q1010 : (Jvm.Cond.code ({ cls := "PailRow$YardReader", name := "burn", desc := "()V" } : Jvm.MethodName) prog_21_method_6_code (2 : Nat) (Option.none : Option Jvm.ClassFile.FieldType)) ∈ lw_all := lw_g (lw_at lw_m4 188 rfl) rfl
theorem q1011 : (Jvm.Cond.methodLink "PailRow$YardReader" (54 : Nat) ({ cls := "PailRow$YardReader", name := "sign", desc := "(I)V" } : Jvm.MethodName)) ∈ lw_all := lw_g (lw_at lw_m4 189 rfl) rfl
theorem q1012 : (Jvm.Cond.sameMethod "PailRow$YardReader" "PailRow$Reader" "sign" "(I)V") ∈ lw_all := lw_g (lw_at lw_m4 190 rfl) rfl
theorem q1014 : (Jvm.Cond.selects "PailRow$YardReader" ({ cls := "PailRow$YardReader", name := "sign", desc := "(I)V" } : Jvm.MethodName) ({ cls := "PailRow$Reader", name := "sign", desc := "(I)V" } : Jvm.MethodName)) ∈ lw_all := lw_g (lw_at lw_m4 192 rfl) rfl
theorem q1022 : (Jvm.Cond.selects "PailRow$YardReader" ({ cls := "PailRow$Reader", name := "is", desc := "(I)Z" } : Jvm.MethodName) ({ cls := "PailRow$Reader", name := "is", desc := "(I)Z" } : Jvm.MethodName)) ∈ lw_all := lw_g (lw_at lw_m4 200 rfl) rfl
theorem q2337 : (Jvm.Cond.selects "PailRow$YardReader" ({ cls := "PailRow$Reader", name := "find", desc := "([Ljava/lang/String;)I" } : Jvm.MethodName) ({ cls := "PailRow$Reader", name := "find", desc := "([Ljava/lang/String;)I" } : Jvm.MethodName)) ∈ lw_all := lw_g (lw_at lw_m10 75 rfl) rfl
theorem q2341 : (Jvm.Cond.selects "PailRow$YardReader" ({ cls := "PailRow$Reader", name := "must", desc := "(ZI)V" } : Jvm.MethodName) ({ cls := "PailRow$Reader", name := "must", desc := "(ZI)V" } : Jvm.MethodName)) ∈ lw_all := lw_g (lw_at lw_m10 79 rfl) rfl
theorem q2353 : (Jvm.Cond.castable "PailRow$YardReader" "java/lang/Object") ∈ lw_tbl := lw_at lw_m10 91 rfl
theorem in_X7 : ∀ w ∈ wsX70, w ∈ lw_all := lw_in wsX70 [419, 421, 423, 425, 427, 429, 431, 433, 415, 417] (by decide +kernel) (by decide +kernel)
/-! PailRow$PlanReader -/
set_option maxRecDepth 100000
def RX8 : String := "PailRow$PlanReader"
def TX8 : u_T := fun k => match k with
  | 0 => ("PailRow$Reader", "most", "I", true)
  | 1 => ("PailRow$Reader", "p", "I", false)
  | 2 => ("PailRow$Reader", "at", "I", false)
  | 3 => ("PailRow$Reader", "token", "I", false)
  | 4 => ("PailRow$Reader", "value", "I", false)
  | 5 => ("PailRow$Reader", "many", "I", false)
  | 6 => ("PailRow$Reader", "name", "J", false)
  | 7 => ("PailRow$Reader", "this$0", "LPailRow;", true)
  | 8 => ("PailRow$PlanReader", "last", "I", false)
  | _ => ("PailRow$PlanReader", "this$0", "LPailRow;", true)
def tyX8 : Nat → FieldType := fun k => match k with
  | 0 => .int
  | 1 => .int
  | 2 => .int
  | 3 => .int
  | 4 => .int
  | 5 => .int
  | 6 => .long
  | 7 => .object "PailRow"
  | 8 => .int
  | _ => .object "PailRow"
abbrev wsX80 : List Cond := u_ws RX8 TX8 10
-- two fields of one name: no nmX8
theorem tyX8_ok : ∀ k, k < 10 → parseFieldDescriptor (TX8 k).2.2.1 = some (tyX8 k) := by decide +kernel
abbrev cX8_init : ByteArray := prog_12_method_1_code
def yX8_init : MethodName := ⟨RX8, "<init>", "(LPailRow;)V"⟩
def dkwX8_init_0 : List UInt8 := [42, 43, 181, 0, 3, 42, 43, 17, 1, 144, 183, 0, 9, 177]
abbrev dktX8_init_0 : List UInt8 := dkwX8_init_0 ++ []
theorem dksX8_init_0 : cX8_init.data.toList.drop 0 = dktX8_init_0 := by decide +kernel
theorem dX8_init_0 : decode cX8_init 0 = .ok (.aload_n 0, 1) := dk_42 (dk_at dksX8_init_0 0 rfl rfl)
theorem dX8_init_1 : decode cX8_init 1 = .ok (.aload_n 1, 1) := dk_43 (dk_at dksX8_init_0 1 rfl rfl)
theorem dX8_init_2 : decode cX8_init 2 = .ok (.putfield 3, 3) := dk_181 0 3 (dk_at dksX8_init_0 2 rfl rfl)
theorem dX8_init_5 : decode cX8_init 5 = .ok (.aload_n 0, 1) := dk_42 (dk_at dksX8_init_0 5 rfl rfl)
theorem dX8_init_6 : decode cX8_init 6 = .ok (.aload_n 1, 1) := dk_43 (dk_at dksX8_init_0 6 rfl rfl)
theorem dX8_init_7 : decode cX8_init 7 = .ok (.sipush 400, 3) := dk_17 1 144 (dk_at dksX8_init_0 7 rfl rfl)
theorem dX8_init_10 : decode cX8_init 10 = .ok (.invokespecial 9, 3) := dk_183 0 9 (dk_at dksX8_init_0 10 rfl rfl)
theorem dX8_init_13 : decode cX8_init 13 = .ok (.return_, 1) := dk_177 (dk_at dksX8_init_0 13 rfl rfl)
abbrev cX8_read : ByteArray := prog_12_method_2_code
def yX8_read : MethodName := ⟨RX8, "read", "()LPailRow$Plan;"⟩
def dkwX8_read_4 : List UInt8 := [181, 0, 40, 42, 16, 59, 182, 0, 58, 167, 255, 172, 43, 176]
abbrev dktX8_read_4 : List UInt8 := dkwX8_read_4 ++ []
def dkwX8_read_3 : List UInt8 := [181, 0, 20, 43, 180, 0, 50, 43, 180, 0, 40, 42, 182, 0, 54, 83, 43, 89, 180, 0, 40, 4, 96]
abbrev dktX8_read_3 : List UInt8 := dkwX8_read_3 ++ dktX8_read_4
def dkwX8_read_2 : List UInt8 := [167, 0, 4, 3, 7, 182, 0, 36, 42, 182, 0, 43, 42, 42, 42, 180, 0, 20, 16, 59, 182, 0, 46]
abbrev dktX8_read_2 : List UInt8 := dkwX8_read_2 ++ dktX8_read_3
def dkwX8_read_1 : List UInt8 := [42, 42, 18, 30, 182, 0, 32, 4, 182, 0, 36, 42, 43, 180, 0, 40, 16, 20, 162, 0, 7, 4]
abbrev dktX8_read_1 : List UInt8 := dkwX8_read_1 ++ dktX8_read_2
def dkwX8_read_0 : List UInt8 := [187, 0, 15, 89, 183, 0, 17, 76, 42, 3, 181, 0, 20, 42, 182, 0, 24, 42, 180, 0, 27, 153, 0, 83]
abbrev dktX8_read_0 : List UInt8 := dkwX8_read_0 ++ dktX8_read_1
theorem dksX8_read_0 : cX8_read.data.toList.drop 0 = dktX8_read_0 := by decide +kernel
theorem dksX8_read_1 : cX8_read.data.toList.drop 24 = dktX8_read_1 := dk_seg dksX8_read_0 24 rfl rfl
theorem dksX8_read_2 : cX8_read.data.toList.drop 46 = dktX8_read_2 := dk_seg dksX8_read_1 22 rfl rfl
theorem dksX8_read_3 : cX8_read.data.toList.drop 69 = dktX8_read_3 := dk_seg dksX8_read_2 23 rfl rfl
theorem dksX8_read_4 : cX8_read.data.toList.drop 92 = dktX8_read_4 := dk_seg dksX8_read_3 23 rfl rfl
theorem dX8_read_0 : decode cX8_read 0 = .ok (.new 15, 3) := dk_187 0 15 (dk_at dksX8_read_0 0 rfl rfl)
theorem dX8_read_3 : decode cX8_read 3 = .ok (.dup, 1) := dk_89 (dk_at dksX8_read_0 3 rfl rfl)
theorem dX8_read_4 : decode cX8_read 4 = .ok (.invokespecial 17, 3) := dk_183 0 17 (dk_at dksX8_read_0 4 rfl rfl)
theorem dX8_read_7 : decode cX8_read 7 = .ok (.astore_n 1, 1) := dk_76 (dk_at dksX8_read_0 7 rfl rfl)
theorem dX8_read_8 : decode cX8_read 8 = .ok (.aload_n 0, 1) := dk_42 (dk_at dksX8_read_0 8 rfl rfl)
theorem dX8_read_9 : decode cX8_read 9 = .ok (.iconst 0, 1) := dk_3 (dk_at dksX8_read_0 9 rfl rfl)
theorem dX8_read_10 : decode cX8_read 10 = .ok (.putfield 20, 3) := dk_181 0 20 (dk_at dksX8_read_0 10 rfl rfl)
theorem dX8_read_13 : decode cX8_read 13 = .ok (.aload_n 0, 1) := dk_42 (dk_at dksX8_read_0 13 rfl rfl)
theorem dX8_read_14 : decode cX8_read 14 = .ok (.invokevirtual 24, 3) := dk_182 0 24 (dk_at dksX8_read_0 14 rfl rfl)
theorem dX8_read_17 : decode cX8_read 17 = .ok (.aload_n 0, 1) := dk_42 (dk_at dksX8_read_0 17 rfl rfl)
theorem dX8_read_18 : decode cX8_read 18 = .ok (.getfield 27, 3) := dk_180 0 27 (dk_at dksX8_read_0 18 rfl rfl)
theorem dX8_read_21 : decode cX8_read 21 = .ok (.ifCond .eq 83, 3) := dk_153 0 83 (dk_at dksX8_read_0 21 rfl rfl)
theorem dX8_read_24 : decode cX8_read 24 = .ok (.aload_n 0, 1) := dk_42 (dk_at dksX8_read_1 0 rfl rfl)
theorem dX8_read_25 : decode cX8_read 25 = .ok (.aload_n 0, 1) := dk_42 (dk_at dksX8_read_1 1 rfl rfl)
theorem dX8_read_26 : decode cX8_read 26 = .ok (.ldc 30, 2) := dk_18 30 (dk_at dksX8_read_1 2 rfl rfl)
theorem dX8_read_28 : decode cX8_read 28 = .ok (.invokevirtual 32, 3) := dk_182 0 32 (dk_at dksX8_read_1 4 rfl rfl)
theorem dX8_read_31 : decode cX8_read 31 = .ok (.iconst 1, 1) := dk_4 (dk_at dksX8_read_1 7 rfl rfl)
theorem dX8_read_32 : decode cX8_read 32 = .ok (.invokevirtual 36, 3) := dk_182 0 36 (dk_at dksX8_read_1 8 rfl rfl)
theorem dX8_read_35 : decode cX8_read 35 = .ok (.aload_n 0, 1) := dk_42 (dk_at dksX8_read_1 11 rfl rfl)
theorem dX8_read_36 : decode cX8_read 36 = .ok (.aload_n 1, 1) := dk_43 (dk_at dksX8_read_1 12 rfl rfl)
theorem dX8_read_37 : decode cX8_read 37 = .ok (.getfield 40, 3) := dk_180 0 40 (dk_at dksX8_read_1 13 rfl rfl)
theorem dX8_read_40 : decode cX8_read 40 = .ok (.bipush 20, 2) := dk_16 20 (dk_at dksX8_read_1 16 rfl rfl)
theorem dX8_read_42 : decode cX8_read 42 = .ok (.if_icmp .ge 7, 3) := dk_162 0 7 (dk_at dksX8_read_1 18 rfl rfl)
theorem dX8_read_45 : decode cX8_read 45 = .ok (.iconst 1, 1) := dk_4 (dk_at dksX8_read_1 21 rfl rfl)
theorem dX8_read_46 : decode cX8_read 46 = .ok (.goto 4, 3) := dk_167 0 4 (dk_at dksX8_read_2 0 rfl rfl)
theorem dX8_read_49 : decode cX8_read 49 = .ok (.iconst 0, 1) := dk_3 (dk_at dksX8_read_2 3 rfl rfl)
theorem dX8_read_50 : decode cX8_read 50 = .ok (.iconst 4, 1) := dk_7 (dk_at dksX8_read_2 4 rfl rfl)
theorem dX8_read_51 : decode cX8_read 51 = .ok (.invokevirtual 36, 3) := dk_182 0 36 (dk_at dksX8_read_2 5 rfl rfl)
theorem dX8_read_54 : decode cX8_read 54 = .ok (.aload_n 0, 1) := dk_42 (dk_at dksX8_read_2 8 rfl rfl)
theorem dX8_read_55 : decode cX8_read 55 = .ok (.invokevirtual 43, 3) := dk_182 0 43 (dk_at dksX8_read_2 9 rfl rfl)
theorem dX8_read_58 : decode cX8_read 58 = .ok (.aload_n 0, 1) := dk_42 (dk_at dksX8_read_2 12 rfl rfl)
theorem dX8_read_59 : decode cX8_read 59 = .ok (.aload_n 0, 1) := dk_42 (dk_at dksX8_read_2 13 rfl rfl)
theorem dX8_read_60 : decode cX8_read 60 = .ok (.aload_n 0, 1) := dk_42 (dk_at dksX8_read_2 14 rfl rfl)
theorem dX8_read_61 : decode cX8_read 61 = .ok (.getfield 20, 3) := dk_180 0 20 (dk_at dksX8_read_2 15 rfl rfl)
theorem dX8_read_64 : decode cX8_read 64 = .ok (.bipush 59, 2) := dk_16 59 (dk_at dksX8_read_2 18 rfl rfl)
theorem dX8_read_66 : decode cX8_read 66 = .ok (.invokevirtual 46, 3) := dk_182 0 46 (dk_at dksX8_read_2 20 rfl rfl)
theorem dX8_read_69 : decode cX8_read 69 = .ok (.putfield 20, 3) := dk_181 0 20 (dk_at dksX8_read_3 0 rfl rfl)
theorem dX8_read_72 : decode cX8_read 72 = .ok (.aload_n 1, 1) := dk_43 (dk_at dksX8_read_3 3 rfl rfl)
theorem dX8_read_73 : decode cX8_read 73 = .ok (.getfield 50, 3) := dk_180 0 50 (dk_at dksX8_read_3 4 rfl rfl)
theorem dX8_read_76 : decode cX8_read 76 = .ok (.aload_n 1, 1) := dk_43 (dk_at dksX8_read_3 7 rfl rfl)
theorem dX8_read_77 : decode cX8_read 77 = .ok (.getfield 40, 3) := dk_180 0 40 (dk_at dksX8_read_3 8 rfl rfl)
theorem dX8_read_80 : decode cX8_read 80 = .ok (.aload_n 0, 1) := dk_42 (dk_at dksX8_read_3 11 rfl rfl)
theorem dX8_read_81 : decode cX8_read 81 = .ok (.invokevirtual 54, 3) := dk_182 0 54 (dk_at dksX8_read_3 12 rfl rfl)
theorem dX8_read_84 : decode cX8_read 84 = .ok (.aastore, 1) := dk_83 (dk_at dksX8_read_3 15 rfl rfl)
theorem dX8_read_85 : decode cX8_read 85 = .ok (.aload_n 1, 1) := dk_43 (dk_at dksX8_read_3 16 rfl rfl)
theorem dX8_read_86 : decode cX8_read 86 = .ok (.dup, 1) := dk_89 (dk_at dksX8_read_3 17 rfl rfl)
theorem dX8_read_87 : decode cX8_read 87 = .ok (.getfield 40, 3) := dk_180 0 40 (dk_at dksX8_read_3 18 rfl rfl)
theorem dX8_read_90 : decode cX8_read 90 = .ok (.iconst 1, 1) := dk_4 (dk_at dksX8_read_3 21 rfl rfl)
theorem dX8_read_91 : decode cX8_read 91 = .ok (.iadd, 1) := dk_96 (dk_at dksX8_read_3 22 rfl rfl)
theorem dX8_read_92 : decode cX8_read 92 = .ok (.putfield 40, 3) := dk_181 0 40 (dk_at dksX8_read_4 0 rfl rfl)
theorem dX8_read_95 : decode cX8_read 95 = .ok (.aload_n 0, 1) := dk_42 (dk_at dksX8_read_4 3 rfl rfl)
theorem dX8_read_96 : decode cX8_read 96 = .ok (.bipush 59, 2) := dk_16 59 (dk_at dksX8_read_4 4 rfl rfl)
theorem dX8_read_98 : decode cX8_read 98 = .ok (.invokevirtual 58, 3) := dk_182 0 58 (dk_at dksX8_read_4 6 rfl rfl)
theorem dX8_read_101 : decode cX8_read 101 = .ok (.goto (-84), 3) := dk_167 255 172 (dk_at dksX8_read_4 9 rfl rfl)
theorem dX8_read_104 : decode cX8_read 104 = .ok (.aload_n 1, 1) := dk_43 (dk_at dksX8_read_4 12 rfl rfl)
theorem dX8_read_105 : decode cX8_read 105 = .ok (.areturn, 1) := dk_176 (dk_at dksX8_read_4 13 rfl rfl)
abbrev cX8_thing : ByteArray := prog_12_method_3_code
def yX8_thing : MethodName := ⟨RX8, "thing", "()LPailRow$Thing;"⟩
def dkwX8_thing_6 : List UInt8 := [89, 42, 180, 0, 20, 27, 42, 180, 0, 88, 1, 3, 183, 0, 75, 77, 42, 182, 0, 43, 44, 176]
abbrev dktX8_thing_6 : List UInt8 := dkwX8_thing_6 ++ []
def dkwX8_thing_5 : List UInt8 := [180, 0, 78, 180, 0, 82, 180, 0, 97, 162, 0, 7, 4, 167, 0, 4, 3, 5, 182, 0, 36, 187, 0, 73]
abbrev dktX8_thing_5 : List UInt8 := dkwX8_thing_5 ++ dktX8_thing_6
def dkwX8_thing_4 : List UInt8 := [180, 0, 78, 180, 0, 82, 42, 180, 0, 88, 182, 0, 91, 167, 0, 28, 42, 180, 0, 88, 42, 180, 0, 3]
abbrev dktX8_thing_4 : List UInt8 := dkwX8_thing_4 ++ dktX8_thing_5
def dkwX8_thing_3 : List UInt8 := [160, 0, 7, 4, 167, 0, 4, 3, 4, 182, 0, 36, 42, 27, 6, 160, 0, 23, 42, 180, 0, 3]
abbrev dktX8_thing_3 : List UInt8 := dkwX8_thing_3 ++ dktX8_thing_4
def dkwX8_thing_2 : List UInt8 := [187, 0, 73, 89, 42, 180, 0, 20, 27, 3, 1, 3, 183, 0, 75, 176, 42, 42, 180, 0, 27, 5]
abbrev dktX8_thing_2 : List UInt8 := dkwX8_thing_2 ++ dktX8_thing_3
def dkwX8_thing_1 : List UInt8 := [182, 0, 36, 42, 182, 0, 43, 27, 5, 162, 0, 9, 42, 27, 182, 0, 69, 176, 27, 5, 160, 0, 19]
abbrev dktX8_thing_1 : List UInt8 := dkwX8_thing_1 ++ dktX8_thing_2
def dkwX8_thing_0 : List UInt8 := [42, 42, 180, 0, 3, 180, 0, 62, 182, 0, 65, 60, 42, 27, 2, 159, 0, 7, 4, 167, 0, 4, 3, 4]
abbrev dktX8_thing_0 : List UInt8 := dkwX8_thing_0 ++ dktX8_thing_1
theorem dksX8_thing_0 : cX8_thing.data.toList.drop 0 = dktX8_thing_0 := by decide +kernel
theorem dksX8_thing_1 : cX8_thing.data.toList.drop 24 = dktX8_thing_1 := dk_seg dksX8_thing_0 24 rfl rfl
theorem dksX8_thing_2 : cX8_thing.data.toList.drop 47 = dktX8_thing_2 := dk_seg dksX8_thing_1 23 rfl rfl
theorem dksX8_thing_3 : cX8_thing.data.toList.drop 69 = dktX8_thing_3 := dk_seg dksX8_thing_2 22 rfl rfl
theorem dksX8_thing_4 : cX8_thing.data.toList.drop 91 = dktX8_thing_4 := dk_seg dksX8_thing_3 22 rfl rfl
theorem dksX8_thing_5 : cX8_thing.data.toList.drop 115 = dktX8_thing_5 := dk_seg dksX8_thing_4 24 rfl rfl
theorem dksX8_thing_6 : cX8_thing.data.toList.drop 139 = dktX8_thing_6 := dk_seg dksX8_thing_5 24 rfl rfl
theorem dX8_thing_0 : decode cX8_thing 0 = .ok (.aload_n 0, 1) := dk_42 (dk_at dksX8_thing_0 0 rfl rfl)
theorem dX8_thing_1 : decode cX8_thing 1 = .ok (.aload_n 0, 1) := dk_42 (dk_at dksX8_thing_0 1 rfl rfl)
theorem dX8_thing_2 : decode cX8_thing 2 = .ok (.getfield 3, 3) := dk_180 0 3 (dk_at dksX8_thing_0 2 rfl rfl)
theorem dX8_thing_5 : decode cX8_thing 5 = .ok (.getfield 62, 3) := dk_180 0 62 (dk_at dksX8_thing_0 5 rfl rfl)
theorem dX8_thing_8 : decode cX8_thing 8 = .ok (.invokevirtual 65, 3) := dk_182 0 65 (dk_at dksX8_thing_0 8 rfl rfl)
theorem dX8_thing_11 : decode cX8_thing 11 = .ok (.istore_n 1, 1) := dk_60 (dk_at dksX8_thing_0 11 rfl rfl)
theorem dX8_thing_12 : decode cX8_thing 12 = .ok (.aload_n 0, 1) := dk_42 (dk_at dksX8_thing_0 12 rfl rfl)
theorem dX8_thing_13 : decode cX8_thing 13 = .ok (.iload_n 1, 1) := dk_27 (dk_at dksX8_thing_0 13 rfl rfl)
theorem dX8_thing_14 : decode cX8_thing 14 = .ok (.iconst (-1), 1) := dk_2 (dk_at dksX8_thing_0 14 rfl rfl)
theorem dX8_thing_15 : decode cX8_thing 15 = .ok (.if_icmp .eq 7, 3) := dk_159 0 7 (dk_at dksX8_thing_0 15 rfl rfl)
theorem dX8_thing_18 : decode cX8_thing 18 = .ok (.iconst 1, 1) := dk_4 (dk_at dksX8_thing_0 18 rfl rfl)
theorem dX8_thing_19 : decode cX8_thing 19 = .ok (.goto 4, 3) := dk_167 0 4 (dk_at dksX8_thing_0 19 rfl rfl)
theorem dX8_thing_22 : decode cX8_thing 22 = .ok (.iconst 0, 1) := dk_3 (dk_at dksX8_thing_0 22 rfl rfl)
theorem dX8_thing_23 : decode cX8_thing 23 = .ok (.iconst 1, 1) := dk_4 (dk_at dksX8_thing_0 23 rfl rfl)
theorem dX8_thing_24 : decode cX8_thing 24 = .ok (.invokevirtual 36, 3) := dk_182 0 36 (dk_at dksX8_thing_1 0 rfl rfl)
theorem dX8_thing_27 : decode cX8_thing 27 = .ok (.aload_n 0, 1) := dk_42 (dk_at dksX8_thing_1 3 rfl rfl)
theorem dX8_thing_28 : decode cX8_thing 28 = .ok (.invokevirtual 43, 3) := dk_182 0 43 (dk_at dksX8_thing_1 4 rfl rfl)
theorem dX8_thing_31 : decode cX8_thing 31 = .ok (.iload_n 1, 1) := dk_27 (dk_at dksX8_thing_1 7 rfl rfl)
theorem dX8_thing_32 : decode cX8_thing 32 = .ok (.iconst 2, 1) := dk_5 (dk_at dksX8_thing_1 8 rfl rfl)
theorem dX8_thing_33 : decode cX8_thing 33 = .ok (.if_icmp .ge 9, 3) := dk_162 0 9 (dk_at dksX8_thing_1 9 rfl rfl)
theorem dX8_thing_36 : decode cX8_thing 36 = .ok (.aload_n 0, 1) := dk_42 (dk_at dksX8_thing_1 12 rfl rfl)
theorem dX8_thing_37 : decode cX8_thing 37 = .ok (.iload_n 1, 1) := dk_27 (dk_at dksX8_thing_1 13 rfl rfl)
theorem dX8_thing_38 : decode cX8_thing 38 = .ok (.invokevirtual 69, 3) := dk_182 0 69 (dk_at dksX8_thing_1 14 rfl rfl)
theorem dX8_thing_41 : decode cX8_thing 41 = .ok (.areturn, 1) := dk_176 (dk_at dksX8_thing_1 17 rfl rfl)
theorem dX8_thing_42 : decode cX8_thing 42 = .ok (.iload_n 1, 1) := dk_27 (dk_at dksX8_thing_1 18 rfl rfl)
theorem dX8_thing_43 : decode cX8_thing 43 = .ok (.iconst 2, 1) := dk_5 (dk_at dksX8_thing_1 19 rfl rfl)
theorem dX8_thing_44 : decode cX8_thing 44 = .ok (.if_icmp .ne 19, 3) := dk_160 0 19 (dk_at dksX8_thing_1 20 rfl rfl)
theorem dX8_thing_47 : decode cX8_thing 47 = .ok (.new 73, 3) := dk_187 0 73 (dk_at dksX8_thing_2 0 rfl rfl)
theorem dX8_thing_50 : decode cX8_thing 50 = .ok (.dup, 1) := dk_89 (dk_at dksX8_thing_2 3 rfl rfl)
theorem dX8_thing_51 : decode cX8_thing 51 = .ok (.aload_n 0, 1) := dk_42 (dk_at dksX8_thing_2 4 rfl rfl)
theorem dX8_thing_52 : decode cX8_thing 52 = .ok (.getfield 20, 3) := dk_180 0 20 (dk_at dksX8_thing_2 5 rfl rfl)
theorem dX8_thing_55 : decode cX8_thing 55 = .ok (.iload_n 1, 1) := dk_27 (dk_at dksX8_thing_2 8 rfl rfl)
theorem dX8_thing_56 : decode cX8_thing 56 = .ok (.iconst 0, 1) := dk_3 (dk_at dksX8_thing_2 9 rfl rfl)
theorem dX8_thing_57 : decode cX8_thing 57 = .ok (.aconst_null, 1) := dk_1 (dk_at dksX8_thing_2 10 rfl rfl)
theorem dX8_thing_58 : decode cX8_thing 58 = .ok (.iconst 0, 1) := dk_3 (dk_at dksX8_thing_2 11 rfl rfl)
theorem dX8_thing_59 : decode cX8_thing 59 = .ok (.invokespecial 75, 3) := dk_183 0 75 (dk_at dksX8_thing_2 12 rfl rfl)
theorem dX8_thing_62 : decode cX8_thing 62 = .ok (.areturn, 1) := dk_176 (dk_at dksX8_thing_2 15 rfl rfl)
theorem dX8_thing_63 : decode cX8_thing 63 = .ok (.aload_n 0, 1) := dk_42 (dk_at dksX8_thing_2 16 rfl rfl)
theorem dX8_thing_64 : decode cX8_thing 64 = .ok (.aload_n 0, 1) := dk_42 (dk_at dksX8_thing_2 17 rfl rfl)
theorem dX8_thing_65 : decode cX8_thing 65 = .ok (.getfield 27, 3) := dk_180 0 27 (dk_at dksX8_thing_2 18 rfl rfl)
theorem dX8_thing_68 : decode cX8_thing 68 = .ok (.iconst 2, 1) := dk_5 (dk_at dksX8_thing_2 21 rfl rfl)
theorem dX8_thing_69 : decode cX8_thing 69 = .ok (.if_icmp .ne 7, 3) := dk_160 0 7 (dk_at dksX8_thing_3 0 rfl rfl)
theorem dX8_thing_72 : decode cX8_thing 72 = .ok (.iconst 1, 1) := dk_4 (dk_at dksX8_thing_3 3 rfl rfl)
theorem dX8_thing_73 : decode cX8_thing 73 = .ok (.goto 4, 3) := dk_167 0 4 (dk_at dksX8_thing_3 4 rfl rfl)
theorem dX8_thing_76 : decode cX8_thing 76 = .ok (.iconst 0, 1) := dk_3 (dk_at dksX8_thing_3 7 rfl rfl)
theorem dX8_thing_77 : decode cX8_thing 77 = .ok (.iconst 1, 1) := dk_4 (dk_at dksX8_thing_3 8 rfl rfl)
theorem dX8_thing_78 : decode cX8_thing 78 = .ok (.invokevirtual 36, 3) := dk_182 0 36 (dk_at dksX8_thing_3 9 rfl rfl)
theorem dX8_thing_81 : decode cX8_thing 81 = .ok (.aload_n 0, 1) := dk_42 (dk_at dksX8_thing_3 12 rfl rfl)
theorem dX8_thing_82 : decode cX8_thing 82 = .ok (.iload_n 1, 1) := dk_27 (dk_at dksX8_thing_3 13 rfl rfl)
theorem dX8_thing_83 : decode cX8_thing 83 = .ok (.iconst 3, 1) := dk_6 (dk_at dksX8_thing_3 14 rfl rfl)
theorem dX8_thing_84 : decode cX8_thing 84 = .ok (.if_icmp .ne 23, 3) := dk_160 0 23 (dk_at dksX8_thing_3 15 rfl rfl)
theorem dX8_thing_87 : decode cX8_thing 87 = .ok (.aload_n 0, 1) := dk_42 (dk_at dksX8_thing_3 18 rfl rfl)
theorem dX8_thing_88 : decode cX8_thing 88 = .ok (.getfield 3, 3) := dk_180 0 3 (dk_at dksX8_thing_3 19 rfl rfl)
theorem dX8_thing_91 : decode cX8_thing 91 = .ok (.getfield 78, 3) := dk_180 0 78 (dk_at dksX8_thing_4 0 rfl rfl)
theorem dX8_thing_94 : decode cX8_thing 94 = .ok (.getfield 82, 3) := dk_180 0 82 (dk_at dksX8_thing_4 3 rfl rfl)
theorem dX8_thing_97 : decode cX8_thing 97 = .ok (.aload_n 0, 1) := dk_42 (dk_at dksX8_thing_4 6 rfl rfl)
theorem dX8_thing_98 : decode cX8_thing 98 = .ok (.getfield 88, 3) := dk_180 0 88 (dk_at dksX8_thing_4 7 rfl rfl)
theorem dX8_thing_101 : decode cX8_thing 101 = .ok (.invokevirtual 91, 3) := dk_182 0 91 (dk_at dksX8_thing_4 10 rfl rfl)
theorem dX8_thing_104 : decode cX8_thing 104 = .ok (.goto 28, 3) := dk_167 0 28 (dk_at dksX8_thing_4 13 rfl rfl)
theorem dX8_thing_107 : decode cX8_thing 107 = .ok (.aload_n 0, 1) := dk_42 (dk_at dksX8_thing_4 16 rfl rfl)
theorem dX8_thing_108 : decode cX8_thing 108 = .ok (.getfield 88, 3) := dk_180 0 88 (dk_at dksX8_thing_4 17 rfl rfl)
theorem dX8_thing_111 : decode cX8_thing 111 = .ok (.aload_n 0, 1) := dk_42 (dk_at dksX8_thing_4 20 rfl rfl)
theorem dX8_thing_112 : decode cX8_thing 112 = .ok (.getfield 3, 3) := dk_180 0 3 (dk_at dksX8_thing_4 21 rfl rfl)
theorem dX8_thing_115 : decode cX8_thing 115 = .ok (.getfield 78, 3) := dk_180 0 78 (dk_at dksX8_thing_5 0 rfl rfl)
theorem dX8_thing_118 : decode cX8_thing 118 = .ok (.getfield 82, 3) := dk_180 0 82 (dk_at dksX8_thing_5 3 rfl rfl)
theorem dX8_thing_121 : decode cX8_thing 121 = .ok (.getfield 97, 3) := dk_180 0 97 (dk_at dksX8_thing_5 6 rfl rfl)
theorem dX8_thing_124 : decode cX8_thing 124 = .ok (.if_icmp .ge 7, 3) := dk_162 0 7 (dk_at dksX8_thing_5 9 rfl rfl)
theorem dX8_thing_127 : decode cX8_thing 127 = .ok (.iconst 1, 1) := dk_4 (dk_at dksX8_thing_5 12 rfl rfl)
theorem dX8_thing_128 : decode cX8_thing 128 = .ok (.goto 4, 3) := dk_167 0 4 (dk_at dksX8_thing_5 13 rfl rfl)
theorem dX8_thing_131 : decode cX8_thing 131 = .ok (.iconst 0, 1) := dk_3 (dk_at dksX8_thing_5 16 rfl rfl)
theorem dX8_thing_132 : decode cX8_thing 132 = .ok (.iconst 2, 1) := dk_5 (dk_at dksX8_thing_5 17 rfl rfl)
theorem dX8_thing_133 : decode cX8_thing 133 = .ok (.invokevirtual 36, 3) := dk_182 0 36 (dk_at dksX8_thing_5 18 rfl rfl)
theorem dX8_thing_136 : decode cX8_thing 136 = .ok (.new 73, 3) := dk_187 0 73 (dk_at dksX8_thing_5 21 rfl rfl)
theorem dX8_thing_139 : decode cX8_thing 139 = .ok (.dup, 1) := dk_89 (dk_at dksX8_thing_6 0 rfl rfl)
theorem dX8_thing_140 : decode cX8_thing 140 = .ok (.aload_n 0, 1) := dk_42 (dk_at dksX8_thing_6 1 rfl rfl)
theorem dX8_thing_141 : decode cX8_thing 141 = .ok (.getfield 20, 3) := dk_180 0 20 (dk_at dksX8_thing_6 2 rfl rfl)
theorem dX8_thing_144 : decode cX8_thing 144 = .ok (.iload_n 1, 1) := dk_27 (dk_at dksX8_thing_6 5 rfl rfl)
theorem dX8_thing_145 : decode cX8_thing 145 = .ok (.aload_n 0, 1) := dk_42 (dk_at dksX8_thing_6 6 rfl rfl)
theorem dX8_thing_146 : decode cX8_thing 146 = .ok (.getfield 88, 3) := dk_180 0 88 (dk_at dksX8_thing_6 7 rfl rfl)
theorem dX8_thing_149 : decode cX8_thing 149 = .ok (.aconst_null, 1) := dk_1 (dk_at dksX8_thing_6 10 rfl rfl)
theorem dX8_thing_150 : decode cX8_thing 150 = .ok (.iconst 0, 1) := dk_3 (dk_at dksX8_thing_6 11 rfl rfl)
theorem dX8_thing_151 : decode cX8_thing 151 = .ok (.invokespecial 75, 3) := dk_183 0 75 (dk_at dksX8_thing_6 12 rfl rfl)
theorem dX8_thing_154 : decode cX8_thing 154 = .ok (.astore_n 2, 1) := dk_77 (dk_at dksX8_thing_6 15 rfl rfl)
theorem dX8_thing_155 : decode cX8_thing 155 = .ok (.aload_n 0, 1) := dk_42 (dk_at dksX8_thing_6 16 rfl rfl)
theorem dX8_thing_156 : decode cX8_thing 156 = .ok (.invokevirtual 43, 3) := dk_182 0 43 (dk_at dksX8_thing_6 17 rfl rfl)
theorem dX8_thing_159 : decode cX8_thing 159 = .ok (.aload_n 2, 1) := dk_44 (dk_at dksX8_thing_6 20 rfl rfl)
theorem dX8_thing_160 : decode cX8_thing 160 = .ok (.areturn, 1) := dk_176 (dk_at dksX8_thing_6 21 rfl rfl)
abbrev cX8_men : ByteArray := prog_12_method_4_code
def yX8_men : MethodName := ⟨RX8, "men", "(I)LPailRow$Thing;"⟩
def dkwX8_men_5 : List UInt8 := [180, 0, 20, 27, 3, 44, 29, 183, 0, 75, 176]
abbrev dktX8_men_5 : List UInt8 := dkwX8_men_5 ++ []
def dkwX8_men_4 : List UInt8 := [4, 159, 0, 8, 29, 4, 164, 0, 7, 4, 167, 0, 4, 3, 4, 182, 0, 36, 187, 0, 73, 89, 42]
abbrev dktX8_men_4 : List UInt8 := dkwX8_men_4 ++ dktX8_men_5
def dkwX8_men_3 : List UInt8 := [4, 21, 5, 120, 128, 54, 4, 44, 29, 21, 5, 79, 132, 3, 1, 42, 182, 0, 43, 167, 255, 186, 42, 27]
abbrev dktX8_men_3 : List UInt8 := dkwX8_men_3 ++ dktX8_men_4
def dkwX8_men_2 : List UInt8 := [159, 0, 17, 21, 4, 21, 5, 122, 4, 126, 154, 0, 7, 4, 167, 0, 4, 3, 6, 182, 0, 36, 21, 4]
abbrev dktX8_men_2 : List UInt8 := dkwX8_men_2 ++ dktX8_men_3
def dkwX8_men_1 : List UInt8 := [153, 0, 69, 42, 42, 180, 0, 3, 180, 0, 78, 180, 0, 82, 182, 0, 104, 54, 5, 42, 21, 5, 2]
abbrev dktX8_men_1 : List UInt8 := dkwX8_men_1 ++ dktX8_men_2
def dkwX8_men_0 : List UInt8 := [16, 12, 188, 10, 77, 3, 62, 3, 54, 4, 42, 42, 182, 0, 100, 4, 182, 0, 36, 42, 182, 0, 100]
abbrev dktX8_men_0 : List UInt8 := dkwX8_men_0 ++ dktX8_men_1
theorem dksX8_men_0 : cX8_men.data.toList.drop 0 = dktX8_men_0 := by decide +kernel
theorem dksX8_men_1 : cX8_men.data.toList.drop 23 = dktX8_men_1 := dk_seg dksX8_men_0 23 rfl rfl
theorem dksX8_men_2 : cX8_men.data.toList.drop 46 = dktX8_men_2 := dk_seg dksX8_men_1 23 rfl rfl
theorem dksX8_men_3 : cX8_men.data.toList.drop 70 = dktX8_men_3 := dk_seg dksX8_men_2 24 rfl rfl
theorem dksX8_men_4 : cX8_men.data.toList.drop 94 = dktX8_men_4 := dk_seg dksX8_men_3 24 rfl rfl
theorem dksX8_men_5 : cX8_men.data.toList.drop 117 = dktX8_men_5 := dk_seg dksX8_men_4 23 rfl rfl
theorem dX8_men_0 : decode cX8_men 0 = .ok (.bipush 12, 2) := dk_16 12 (dk_at dksX8_men_0 0 rfl rfl)
theorem dX8_men_2 : decode cX8_men 2 = .ok (.newarray .int, 2) := dk_188_10 (dk_at dksX8_men_0 2 rfl rfl)
theorem dX8_men_4 : decode cX8_men 4 = .ok (.astore_n 2, 1) := dk_77 (dk_at dksX8_men_0 4 rfl rfl)
theorem dX8_men_5 : decode cX8_men 5 = .ok (.iconst 0, 1) := dk_3 (dk_at dksX8_men_0 5 rfl rfl)
theorem dX8_men_6 : decode cX8_men 6 = .ok (.istore_n 3, 1) := dk_62 (dk_at dksX8_men_0 6 rfl rfl)
theorem dX8_men_7 : decode cX8_men 7 = .ok (.iconst 0, 1) := dk_3 (dk_at dksX8_men_0 7 rfl rfl)
theorem dX8_men_8 : decode cX8_men 8 = .ok (.istore 4, 2) := dk_54 4 (dk_at dksX8_men_0 8 rfl rfl)
theorem dX8_men_10 : decode cX8_men 10 = .ok (.aload_n 0, 1) := dk_42 (dk_at dksX8_men_0 10 rfl rfl)
theorem dX8_men_11 : decode cX8_men 11 = .ok (.aload_n 0, 1) := dk_42 (dk_at dksX8_men_0 11 rfl rfl)
theorem dX8_men_12 : decode cX8_men 12 = .ok (.invokevirtual 100, 3) := dk_182 0 100 (dk_at dksX8_men_0 12 rfl rfl)
theorem dX8_men_15 : decode cX8_men 15 = .ok (.iconst 1, 1) := dk_4 (dk_at dksX8_men_0 15 rfl rfl)
theorem dX8_men_16 : decode cX8_men 16 = .ok (.invokevirtual 36, 3) := dk_182 0 36 (dk_at dksX8_men_0 16 rfl rfl)
theorem dX8_men_19 : decode cX8_men 19 = .ok (.aload_n 0, 1) := dk_42 (dk_at dksX8_men_0 19 rfl rfl)
theorem dX8_men_20 : decode cX8_men 20 = .ok (.invokevirtual 100, 3) := dk_182 0 100 (dk_at dksX8_men_0 20 rfl rfl)
theorem dX8_men_23 : decode cX8_men 23 = .ok (.ifCond .eq 69, 3) := dk_153 0 69 (dk_at dksX8_men_1 0 rfl rfl)
theorem dX8_men_26 : decode cX8_men 26 = .ok (.aload_n 0, 1) := dk_42 (dk_at dksX8_men_1 3 rfl rfl)
theorem dX8_men_27 : decode cX8_men 27 = .ok (.aload_n 0, 1) := dk_42 (dk_at dksX8_men_1 4 rfl rfl)
theorem dX8_men_28 : decode cX8_men 28 = .ok (.getfield 3, 3) := dk_180 0 3 (dk_at dksX8_men_1 5 rfl rfl)
theorem dX8_men_31 : decode cX8_men 31 = .ok (.getfield 78, 3) := dk_180 0 78 (dk_at dksX8_men_1 8 rfl rfl)
theorem dX8_men_34 : decode cX8_men 34 = .ok (.getfield 82, 3) := dk_180 0 82 (dk_at dksX8_men_1 11 rfl rfl)
theorem dX8_men_37 : decode cX8_men 37 = .ok (.invokevirtual 104, 3) := dk_182 0 104 (dk_at dksX8_men_1 14 rfl rfl)
theorem dX8_men_40 : decode cX8_men 40 = .ok (.istore 5, 2) := dk_54 5 (dk_at dksX8_men_1 17 rfl rfl)
theorem dX8_men_42 : decode cX8_men 42 = .ok (.aload_n 0, 1) := dk_42 (dk_at dksX8_men_1 19 rfl rfl)
theorem dX8_men_43 : decode cX8_men 43 = .ok (.iload 5, 2) := dk_21 5 (dk_at dksX8_men_1 20 rfl rfl)
theorem dX8_men_45 : decode cX8_men 45 = .ok (.iconst (-1), 1) := dk_2 (dk_at dksX8_men_1 22 rfl rfl)
theorem dX8_men_46 : decode cX8_men 46 = .ok (.if_icmp .eq 17, 3) := dk_159 0 17 (dk_at dksX8_men_2 0 rfl rfl)
theorem dX8_men_49 : decode cX8_men 49 = .ok (.iload 4, 2) := dk_21 4 (dk_at dksX8_men_2 3 rfl rfl)
theorem dX8_men_51 : decode cX8_men 51 = .ok (.iload 5, 2) := dk_21 5 (dk_at dksX8_men_2 5 rfl rfl)
theorem dX8_men_53 : decode cX8_men 53 = .ok (.ishr, 1) := dk_122 (dk_at dksX8_men_2 7 rfl rfl)
theorem dX8_men_54 : decode cX8_men 54 = .ok (.iconst 1, 1) := dk_4 (dk_at dksX8_men_2 8 rfl rfl)
theorem dX8_men_55 : decode cX8_men 55 = .ok (.iand, 1) := dk_126 (dk_at dksX8_men_2 9 rfl rfl)
theorem dX8_men_56 : decode cX8_men 56 = .ok (.ifCond .ne 7, 3) := dk_154 0 7 (dk_at dksX8_men_2 10 rfl rfl)
theorem dX8_men_59 : decode cX8_men 59 = .ok (.iconst 1, 1) := dk_4 (dk_at dksX8_men_2 13 rfl rfl)
theorem dX8_men_60 : decode cX8_men 60 = .ok (.goto 4, 3) := dk_167 0 4 (dk_at dksX8_men_2 14 rfl rfl)
theorem dX8_men_63 : decode cX8_men 63 = .ok (.iconst 0, 1) := dk_3 (dk_at dksX8_men_2 17 rfl rfl)
theorem dX8_men_64 : decode cX8_men 64 = .ok (.iconst 3, 1) := dk_6 (dk_at dksX8_men_2 18 rfl rfl)
theorem dX8_men_65 : decode cX8_men 65 = .ok (.invokevirtual 36, 3) := dk_182 0 36 (dk_at dksX8_men_2 19 rfl rfl)
theorem dX8_men_68 : decode cX8_men 68 = .ok (.iload 4, 2) := dk_21 4 (dk_at dksX8_men_2 22 rfl rfl)
theorem dX8_men_70 : decode cX8_men 70 = .ok (.iconst 1, 1) := dk_4 (dk_at dksX8_men_3 0 rfl rfl)
theorem dX8_men_71 : decode cX8_men 71 = .ok (.iload 5, 2) := dk_21 5 (dk_at dksX8_men_3 1 rfl rfl)
theorem dX8_men_73 : decode cX8_men 73 = .ok (.ishl, 1) := dk_120 (dk_at dksX8_men_3 3 rfl rfl)
theorem dX8_men_74 : decode cX8_men 74 = .ok (.ior, 1) := dk_128 (dk_at dksX8_men_3 4 rfl rfl)
theorem dX8_men_75 : decode cX8_men 75 = .ok (.istore 4, 2) := dk_54 4 (dk_at dksX8_men_3 5 rfl rfl)
theorem dX8_men_77 : decode cX8_men 77 = .ok (.aload_n 2, 1) := dk_44 (dk_at dksX8_men_3 7 rfl rfl)
theorem dX8_men_78 : decode cX8_men 78 = .ok (.iload_n 3, 1) := dk_29 (dk_at dksX8_men_3 8 rfl rfl)
theorem dX8_men_79 : decode cX8_men 79 = .ok (.iload 5, 2) := dk_21 5 (dk_at dksX8_men_3 9 rfl rfl)
theorem dX8_men_81 : decode cX8_men 81 = .ok (.iastore, 1) := dk_79 (dk_at dksX8_men_3 11 rfl rfl)
theorem dX8_men_82 : decode cX8_men 82 = .ok (.iinc 3 1, 3) := dk_132 3 1 (dk_at dksX8_men_3 12 rfl rfl)
theorem dX8_men_85 : decode cX8_men 85 = .ok (.aload_n 0, 1) := dk_42 (dk_at dksX8_men_3 15 rfl rfl)
theorem dX8_men_86 : decode cX8_men 86 = .ok (.invokevirtual 43, 3) := dk_182 0 43 (dk_at dksX8_men_3 16 rfl rfl)
theorem dX8_men_89 : decode cX8_men 89 = .ok (.goto (-70), 3) := dk_167 255 186 (dk_at dksX8_men_3 19 rfl rfl)
theorem dX8_men_92 : decode cX8_men 92 = .ok (.aload_n 0, 1) := dk_42 (dk_at dksX8_men_3 22 rfl rfl)
theorem dX8_men_93 : decode cX8_men 93 = .ok (.iload_n 1, 1) := dk_27 (dk_at dksX8_men_3 23 rfl rfl)
theorem dX8_men_94 : decode cX8_men 94 = .ok (.iconst 1, 1) := dk_4 (dk_at dksX8_men_4 0 rfl rfl)
theorem dX8_men_95 : decode cX8_men 95 = .ok (.if_icmp .eq 8, 3) := dk_159 0 8 (dk_at dksX8_men_4 1 rfl rfl)
theorem dX8_men_98 : decode cX8_men 98 = .ok (.iload_n 3, 1) := dk_29 (dk_at dksX8_men_4 4 rfl rfl)
theorem dX8_men_99 : decode cX8_men 99 = .ok (.iconst 1, 1) := dk_4 (dk_at dksX8_men_4 5 rfl rfl)
theorem dX8_men_100 : decode cX8_men 100 = .ok (.if_icmp .le 7, 3) := dk_164 0 7 (dk_at dksX8_men_4 6 rfl rfl)
theorem dX8_men_103 : decode cX8_men 103 = .ok (.iconst 1, 1) := dk_4 (dk_at dksX8_men_4 9 rfl rfl)
theorem dX8_men_104 : decode cX8_men 104 = .ok (.goto 4, 3) := dk_167 0 4 (dk_at dksX8_men_4 10 rfl rfl)
theorem dX8_men_107 : decode cX8_men 107 = .ok (.iconst 0, 1) := dk_3 (dk_at dksX8_men_4 13 rfl rfl)
theorem dX8_men_108 : decode cX8_men 108 = .ok (.iconst 1, 1) := dk_4 (dk_at dksX8_men_4 14 rfl rfl)
theorem dX8_men_109 : decode cX8_men 109 = .ok (.invokevirtual 36, 3) := dk_182 0 36 (dk_at dksX8_men_4 15 rfl rfl)
theorem dX8_men_112 : decode cX8_men 112 = .ok (.new 73, 3) := dk_187 0 73 (dk_at dksX8_men_4 18 rfl rfl)
theorem dX8_men_115 : decode cX8_men 115 = .ok (.dup, 1) := dk_89 (dk_at dksX8_men_4 21 rfl rfl)
theorem dX8_men_116 : decode cX8_men 116 = .ok (.aload_n 0, 1) := dk_42 (dk_at dksX8_men_4 22 rfl rfl)
theorem dX8_men_117 : decode cX8_men 117 = .ok (.getfield 20, 3) := dk_180 0 20 (dk_at dksX8_men_5 0 rfl rfl)
theorem dX8_men_120 : decode cX8_men 120 = .ok (.iload_n 1, 1) := dk_27 (dk_at dksX8_men_5 3 rfl rfl)
theorem dX8_men_121 : decode cX8_men 121 = .ok (.iconst 0, 1) := dk_3 (dk_at dksX8_men_5 4 rfl rfl)
theorem dX8_men_122 : decode cX8_men 122 = .ok (.aload_n 2, 1) := dk_44 (dk_at dksX8_men_5 5 rfl rfl)
theorem dX8_men_123 : decode cX8_men 123 = .ok (.iload_n 3, 1) := dk_29 (dk_at dksX8_men_5 6 rfl rfl)
theorem dX8_men_124 : decode cX8_men 124 = .ok (.invokespecial 75, 3) := dk_183 0 75 (dk_at dksX8_men_5 7 rfl rfl)
theorem dX8_men_127 : decode cX8_men 127 = .ok (.areturn, 1) := dk_176 (dk_at dksX8_men_5 10 rfl rfl)
theorem q112 : (Jvm.Cond.initialized "PailRow$PlanReader") ∈ lw_all := lw_g (lw_at lw_m1 10 rfl) rfl
theorem q274 : (Jvm.Cond.fieldLinkNest "PailRow$PlanReader" (97 : Nat) "PailRow$Yard" "columns" "I" "PailRow") ∈ lw_tbl := lw_at lw_m1 172 rfl
theorem q355 : (Jvm.Cond.fieldLinkNest "PailRow$PlanReader" (50 : Nat) "PailRow$Plan" "things" "[LPailRow$Thing;" "PailRow") ∈ lw_tbl := lw_at lw_m2 13 rfl
theorem q357 : (Jvm.Cond.fieldLinkNest "PailRow$PlanReader" (40 : Nat) "PailRow$Plan" "many" "I" "PailRow") ∈ lw_tbl := lw_at lw_m2 15 rfl
theorem q365 : (Jvm.Cond.fieldLinkNest "PailRow$PlanReader" (82 : Nat) "PailRow$State" "yard" "LPailRow$Yard;" "PailRow") ∈ lw_tbl := lw_at lw_m2 23 rfl
theorem q398 : (Jvm.Cond.fieldLink "PailRow$PlanReader" (27 : Nat) "PailRow$PlanReader" "token" "I") ∈ lw_all := lw_g (lw_at lw_m2 56 rfl) rfl
theorem q399 : (Jvm.Cond.sameField "PailRow$PlanReader" "PailRow$Reader" "token" "I") ∈ lw_all := lw_g (lw_at lw_m2 57 rfl) rfl
theorem q401 : (Jvm.Cond.fieldLink "PailRow$PlanReader" (88 : Nat) "PailRow$PlanReader" "value" "I") ∈ lw_all := lw_g (lw_at lw_m2 59 rfl) rfl
theorem q402 : (Jvm.Cond.sameField "PailRow$PlanReader" "PailRow$Reader" "value" "I") ∈ lw_all := lw_g (lw_at lw_m2 60 rfl) rfl
theorem q437 : (Jvm.Cond.instantiable "PailRow$PlanReader" (10 : Nat)) ∈ lw_all := lw_g (lw_at lw_m2 95 rfl) rfl
theorem q439 : (Jvm.Cond.instanceMethod ({ cls := "PailRow$PlanReader", name := "<init>", desc := "(LPailRow;)V" } : Jvm.MethodName)) ∈ lw_all := lw_g (lw_at lw_m2 97 rfl) rfl
theorem q440 : (Jvm.Cond.code ({ cls := "PailRow$PlanReader", name := "<init>", desc := "(LPailRow;)V" } : Jvm.MethodName) prog_12_method_1_code (2 : Nat) (Option.none : Option Jvm.ClassFile.FieldType)) ∈ lw_all := lw_g (lw_at lw_m2 98 rfl) rfl
theorem q441 : (Jvm.Cond.methodLink "PailRow$PlanReader" (9 : Nat) ({ cls := "PailRow$Reader", name := "<init>", desc := "(LPailRow;I)V" } : Jvm.MethodName)) ∈ lw_all := lw_g (lw_at lw_m2 99 rfl) rfl
theorem q442 : (Jvm.Cond.fieldLink "PailRow$PlanReader" (20 : Nat) "PailRow$PlanReader" "last" "I") ∈ lw_all := lw_g (lw_at lw_m2 100 rfl) rfl
theorem q443 : (Jvm.Cond.fieldLink "PailRow$PlanReader" (3 : Nat) "PailRow$PlanReader" "this$0" "LPailRow;") ∈ lw_all := lw_g (lw_at lw_m2 101 rfl) rfl
theorem q444 : (Jvm.Cond.lays "PailRow$PlanReader" "PailRow$PlanReader" "last" "I") ∈ lw_all := lw_g (lw_at lw_m2 102 rfl) rfl
theorem q445 : (Jvm.Cond.soleField "PailRow$PlanReader" "last") ∈ lw_all := lw_g (lw_at lw_m2 103 rfl) rfl
theorem q446 : (Jvm.Cond.laysFinal "PailRow$PlanReader" "PailRow$PlanReader" "this$0" "LPailRow;") ∈ lw_all := lw_g (lw_at lw_m2 104 rfl) rfl
theorem q447 : (Jvm.Cond.soleField "PailRow$PlanReader" "this$0") ∈ lw_all := lw_g (lw_at lw_m2 105 rfl) rfl
theorem q448 : (Jvm.Cond.laysFinal "PailRow$PlanReader" "PailRow$Reader" "most" "I") ∈ lw_all := lw_g (lw_at lw_m2 106 rfl) rfl
theorem q449 : (Jvm.Cond.lays "PailRow$PlanReader" "PailRow$Reader" "p" "I") ∈ lw_all := lw_g (lw_at lw_m2 107 rfl) rfl
theorem q450 : (Jvm.Cond.lays "PailRow$PlanReader" "PailRow$Reader" "at" "I") ∈ lw_all := lw_g (lw_at lw_m2 108 rfl) rfl
theorem q451 : (Jvm.Cond.lays "PailRow$PlanReader" "PailRow$Reader" "token" "I") ∈ lw_all := lw_g (lw_at lw_m2 109 rfl) rfl
theorem q452 : (Jvm.Cond.lays "PailRow$PlanReader" "PailRow$Reader" "value" "I") ∈ lw_all := lw_g (lw_at lw_m2 110 rfl) rfl
theorem q453 : (Jvm.Cond.lays "PailRow$PlanReader" "PailRow$Reader" "many" "I") ∈ lw_all := lw_g (lw_at lw_m2 111 rfl) rfl
theorem q454 : (Jvm.Cond.lays "PailRow$PlanReader" "PailRow$Reader" "name" "J") ∈ lw_all := lw_g (lw_at lw_m2 112 rfl) rfl
theorem q455 : (Jvm.Cond.laysFinal "PailRow$PlanReader" "PailRow$Reader" "this$0" "LPailRow;") ∈ lw_all := lw_g (lw_at lw_m2 113 rfl) rfl
theorem q456 : (Jvm.Cond.superclass "PailRow$PlanReader" "PailRow$Reader") ∈ lw_all := lw_g (lw_at lw_m2 114 rfl) rfl
theorem q655 : (Jvm.Cond.fieldLinkNest "PailRow$PlanReader" (62 : Nat) "PailRow" "things" "[Ljava/lang/String;" "PailRow") ∈ lw_tbl := lw_at lw_m3 73 rfl
theorem q660 : (Jvm.Cond.fieldLinkNest "PailRow$PlanReader" (78 : Nat) "PailRow" "now" "LPailRow$State;" "PailRow") ∈ lw_tbl := lw_at lw_m3 78 rfl
theorem q848 : (Jvm.Cond.selects "PailRow$PlanReader" ({ cls := "PailRow$Reader", name := "next", desc := "()V" } : Jvm.MethodName) ({ cls := "PailRow$Reader", name := "next", desc := "()V" } : Jvm.MethodName)) ∈ lw_all := lw_g (lw_at lw_m4 26 rfl) rfl
theorem q880 : (Jvm.Cond.selects "PailRow$PlanReader" ({ cls := "PailRow$Reader", name := "is", desc := "(Ljava/lang/String;)Z" } : Jvm.MethodName) ({ cls := "PailRow$Reader", name := "is", desc := "(Ljava/lang/String;)Z" } : Jvm.MethodName)) ∈ lw_all := lw_g (lw_at lw_m4 58 rfl) rfl
theorem q941 : (Jvm.Cond.selects "PailRow$PlanReader" ({ cls := "PailRow$Reader", name := "wrong", desc := "(I)LPailRow$Fault;" } : Jvm.MethodName) ({ cls := "PailRow$Reader", name := "wrong", desc := "(I)LPailRow$Fault;" } : Jvm.MethodName)) ∈ lw_all := lw_g (lw_at lw_m4 119 rfl) rfl
theorem q1020 : (Jvm.Cond.selects "PailRow$PlanReader" ({ cls := "PailRow$Reader", name := "is", desc := "(I)Z" } : Jvm.MethodName) ({ cls := "PailRow$Reader", name := "is", desc := "(I)Z" } : Jvm.MethodName)) ∈ lw_all := lw_g (lw_at lw_m4 198 rfl) rfl
theorem q1035 : (Jvm.Cond.instanceMethod ({ cls := "PailRow$PlanReader", name := "read", desc := "()LPailRow$Plan;" } : Jvm.MethodName)) ∈ lw_all := lw_g (lw_at lw_m4 213 rfl) rfl
theorem q1036 : (Jvm.Cond.selects "PailRow$PlanReader" ({ cls := "PailRow$PlanReader", name := "read", desc := "()LPailRow$Plan;" } : Jvm.MethodName) ({ cls := "PailRow$PlanReader", name := "read", desc := "()LPailRow$Plan;" } : Jvm.MethodName)) ∈ lw_all := lw_g (lw_at lw_m4 214 rfl) rfl
theorem q1037 : (Jvm.Cond.code ({ cls := "PailRow$PlanReader", name := "read", desc := "()LPailRow$Plan;" } : Jvm.MethodName) prog_12_method_2_code (2 : Nat) (Option.some (Jvm.ClassFile.FieldType.object "PailRow$Plan"))) ∈ lw_all := lw_g (lw_at lw_m4 215 rfl) rfl
theorem q1038 : (Jvm.Cond.classLink "PailRow$PlanReader" (15 : Nat) "PailRow$Plan") ∈ lw_all := lw_g (lw_at lw_m4 216 rfl) rfl
theorem q1039 : (Jvm.Cond.methodLinkNest "PailRow$PlanReader" (17 : Nat) ({ cls := "PailRow$Plan", name := "<init>", desc := "()V" } : Jvm.MethodName) "PailRow") ∈ lw_tbl := lw_at lw_m4 217 rfl
theorem q1040 : (Jvm.Cond.methodLink "PailRow$PlanReader" (24 : Nat) ({ cls := "PailRow$PlanReader", name := "begin", desc := "()V" } : Jvm.MethodName)) ∈ lw_all := lw_g (lw_at lw_m4 218 rfl) rfl
theorem q1041 : (Jvm.Cond.sameMethod "PailRow$PlanReader" "PailRow$Reader" "begin" "()V") ∈ lw_all := lw_g (lw_at lw_m4 219 rfl) rfl
theorem q1042 : (Jvm.Cond.selects "PailRow$PlanReader" ({ cls := "PailRow$PlanReader", name := "begin", desc := "()V" } : Jvm.MethodName) ({ cls := "PailRow$Reader", name := "begin", desc := "()V" } : Jvm.MethodName)) ∈ lw_all := lw_g (lw_at lw_m4 220 rfl) rfl
theorem q1043 : (Jvm.Cond.stringRef "PailRow$PlanReader" (30 : Nat) "at") ∈ lw_tbl := lw_at lw_m4 221 rfl
theorem q1044 : (Jvm.Cond.methodLink "PailRow$PlanReader" (32 : Nat) ({ cls := "PailRow$PlanReader", name := "is", desc := "(Ljava/lang/String;)Z" } : Jvm.MethodName)) ∈ lw_all := lw_g (lw_at lw_m4 222 rfl) rfl
theorem q1045 : (Jvm.Cond.sameMethod "PailRow$PlanReader" "PailRow$Reader" "is" "(Ljava/lang/String;)Z") ∈ lw_all := lw_g (lw_at lw_m4 223 rfl) rfl
theorem q1047 : (Jvm.Cond.selects "PailRow$PlanReader" ({ cls := "PailRow$PlanReader", name := "is", desc := "(Ljava/lang/String;)Z" } : Jvm.MethodName) ({ cls := "PailRow$Reader", name := "is", desc := "(Ljava/lang/String;)Z" } : Jvm.MethodName)) ∈ lw_all := lw_g (lw_at lw_m4 225 rfl) rfl
theorem q1048 : (Jvm.Cond.methodLink "PailRow$PlanReader" (36 : Nat) ({ cls := "PailRow$PlanReader", name := "must", desc := "(ZI)V" } : Jvm.MethodName)) ∈ lw_all := lw_g (lw_at lw_m4 226 rfl) rfl
theorem q1049 : (Jvm.Cond.sameMethod "PailRow$PlanReader" "PailRow$Reader" "must" "(ZI)V") ∈ lw_all := lw_g (lw_at lw_m4 227 rfl) rfl
theorem q1050 : (Jvm.Cond.selects "PailRow$PlanReader" ({ cls := "PailRow$PlanReader", name := "must", desc := "(ZI)V" } : Jvm.MethodName) ({ cls := "PailRow$Reader", name := "must", desc := "(ZI)V" } : Jvm.MethodName)) ∈ lw_all := lw_g (lw_at lw_m4 228 rfl) rfl
theorem q1051 : (Jvm.Cond.methodLink "PailRow$PlanReader" (43 : Nat) ({ cls := "PailRow$PlanReader", name := "next", desc := "()V" } : Jvm.MethodName)) ∈ lw_all := lw_g (lw_at lw_m4 229 rfl) rfl
theorem q1052 : (Jvm.Cond.sameMethod "PailRow$PlanReader" "PailRow$Reader" "next" "()V") ∈ lw_all := lw_g (lw_at lw_m4 230 rfl) rfl
theorem q1053 : (Jvm.Cond.selects "PailRow$PlanReader" ({ cls := "PailRow$PlanReader", name := "next", desc := "()V" } : Jvm.MethodName) ({ cls := "PailRow$Reader", name := "next", desc := "()V" } : Jvm.MethodName)) ∈ lw_all := lw_g (lw_at lw_m4 231 rfl) rfl
theorem q1054 : (Jvm.Cond.methodLink "PailRow$PlanReader" (46 : Nat) ({ cls := "PailRow$PlanReader", name := "number", desc := "(II)I" } : Jvm.MethodName)) ∈ lw_all := lw_g (lw_at lw_m4 232 rfl) rfl
theorem q1055 : (Jvm.Cond.sameMethod "PailRow$PlanReader" "PailRow$Reader" "number" "(II)I") ∈ lw_all := lw_g (lw_at lw_m4 233 rfl) rfl
theorem q1056 : (Jvm.Cond.selects "PailRow$PlanReader" ({ cls := "PailRow$PlanReader", name := "number", desc := "(II)I" } : Jvm.MethodName) ({ cls := "PailRow$Reader", name := "number", desc := "(II)I" } : Jvm.MethodName)) ∈ lw_all := lw_g (lw_at lw_m4 234 rfl) rfl
theorem q1057 : (Jvm.Cond.methodLink "PailRow$PlanReader" (54 : Nat) ({ cls := "PailRow$PlanReader", name := "thing", desc := "()LPailRow$Thing;" } : Jvm.MethodName)) ∈ lw_all := lw_g (lw_at lw_m4 235 rfl) rfl
theorem q1058 : (Jvm.Cond.privateMethod ({ cls := "PailRow$PlanReader", name := "thing", desc := "()LPailRow$Thing;" } : Jvm.MethodName)) ∈ lw_tbl := lw_at lw_m4 236 rfl
theorem q1059 : (Jvm.Cond.instanceMethod ({ cls := "PailRow$PlanReader", name := "thing", desc := "()LPailRow$Thing;" } : Jvm.MethodName)) ∈ lw_all := lw_g (lw_at lw_m4 237 rfl) rfl
theorem q1060 : (Jvm.Cond.code ({ cls := "PailRow$PlanReader", name := "thing", desc := "()LPailRow$Thing;" } : Jvm.MethodName) prog_12_method_3_code (3 : Nat) (Option.some (Jvm.ClassFile.FieldType.object "PailRow$Thing"))) ∈ lw_all := lw_g (lw_at lw_m4 238 rfl) rfl
theorem q1061 : (Jvm.Cond.methodLink "PailRow$PlanReader" (65 : Nat) ({ cls := "PailRow$PlanReader", name := "find", desc := "([Ljava/lang/String;)I" } : Jvm.MethodName)) ∈ lw_all := lw_g (lw_at lw_m4 239 rfl) rfl
theorem q1062 : (Jvm.Cond.sameMethod "PailRow$PlanReader" "PailRow$Reader" "find" "([Ljava/lang/String;)I") ∈ lw_all := lw_g (lw_at lw_m5 0 rfl) rfl
theorem q1063 : (Jvm.Cond.selects "PailRow$PlanReader" ({ cls := "PailRow$PlanReader", name := "find", desc := "([Ljava/lang/String;)I" } : Jvm.MethodName) ({ cls := "PailRow$Reader", name := "find", desc := "([Ljava/lang/String;)I" } : Jvm.MethodName)) ∈ lw_all := lw_g (lw_at lw_m5 1 rfl) rfl
theorem q1064 : (Jvm.Cond.methodLink "PailRow$PlanReader" (69 : Nat) ({ cls := "PailRow$PlanReader", name := "men", desc := "(I)LPailRow$Thing;" } : Jvm.MethodName)) ∈ lw_all := lw_g (lw_at lw_m5 2 rfl) rfl
theorem q1065 : (Jvm.Cond.privateMethod ({ cls := "PailRow$PlanReader", name := "men", desc := "(I)LPailRow$Thing;" } : Jvm.MethodName)) ∈ lw_tbl := lw_at lw_m5 3 rfl
theorem q1066 : (Jvm.Cond.instanceMethod ({ cls := "PailRow$PlanReader", name := "men", desc := "(I)LPailRow$Thing;" } : Jvm.MethodName)) ∈ lw_all := lw_g (lw_at lw_m5 4 rfl) rfl
theorem q1067 : (Jvm.Cond.code ({ cls := "PailRow$PlanReader", name := "men", desc := "(I)LPailRow$Thing;" } : Jvm.MethodName) prog_12_method_4_code (6 : Nat) (Option.some (Jvm.ClassFile.FieldType.object "PailRow$Thing"))) ∈ lw_all := lw_g (lw_at lw_m5 5 rfl) rfl
theorem q1068 : (Jvm.Cond.methodLink "PailRow$PlanReader" (100 : Nat) ({ cls := "PailRow$PlanReader", name := "isName", desc := "()Z" } : Jvm.MethodName)) ∈ lw_all := lw_g (lw_at lw_m5 6 rfl) rfl
theorem q1069 : (Jvm.Cond.sameMethod "PailRow$PlanReader" "PailRow$Reader" "isName" "()Z") ∈ lw_all := lw_g (lw_at lw_m5 7 rfl) rfl
theorem q1070 : (Jvm.Cond.selects "PailRow$PlanReader" ({ cls := "PailRow$PlanReader", name := "isName", desc := "()Z" } : Jvm.MethodName) ({ cls := "PailRow$Reader", name := "isName", desc := "()Z" } : Jvm.MethodName)) ∈ lw_all := lw_g (lw_at lw_m5 8 rfl) rfl
theorem q1071 : (Jvm.Cond.methodLink "PailRow$PlanReader" (104 : Nat) ({ cls := "PailRow$PlanReader", name := "man", desc := "(LPailRow$Yard;)I" } : Jvm.MethodName)) ∈ lw_all := lw_g (lw_at lw_m5 9 rfl) rfl
theorem q1072 : (Jvm.Cond.sameMethod "PailRow$PlanReader" "PailRow$Reader" "man" "(LPailRow$Yard;)I") ∈ lw_all := lw_g (lw_at lw_m5 10 rfl) rfl
theorem q1073 : (Jvm.Cond.selects "PailRow$PlanReader" ({ cls := "PailRow$PlanReader", name := "man", desc := "(LPailRow$Yard;)I" } : Jvm.MethodName) ({ cls := "PailRow$Reader", name := "man", desc := "(LPailRow$Yard;)I" } : Jvm.MethodName)) ∈ lw_all := lw_g (lw_at lw_m5 11 rfl) rfl
theorem q1074 : (Jvm.Cond.classLink "PailRow$PlanReader" (73 : Nat) "PailRow$Thing") ∈ lw_all := lw_g (lw_at lw_m5 12 rfl) rfl
theorem q1076 : (Jvm.Cond.methodLink "PailRow$PlanReader" (75 : Nat) ({ cls := "PailRow$Thing", name := "<init>", desc := "(III[II)V" } : Jvm.MethodName)) ∈ lw_all := lw_g (lw_at lw_m5 14 rfl) rfl
theorem q1101 : (Jvm.Cond.methodLink "PailRow$PlanReader" (91 : Nat) ({ cls := "PailRow$Yard", name := "isAim", desc := "(I)Z" } : Jvm.MethodName)) ∈ lw_all := lw_g (lw_at lw_m5 39 rfl) rfl
theorem q1110 : (Jvm.Cond.methodLink "PailRow$PlanReader" (58 : Nat) ({ cls := "PailRow$PlanReader", name := "sign", desc := "(I)V" } : Jvm.MethodName)) ∈ lw_all := lw_g (lw_at lw_m5 48 rfl) rfl
theorem q1111 : (Jvm.Cond.sameMethod "PailRow$PlanReader" "PailRow$Reader" "sign" "(I)V") ∈ lw_all := lw_g (lw_at lw_m5 49 rfl) rfl
theorem q1112 : (Jvm.Cond.selects "PailRow$PlanReader" ({ cls := "PailRow$PlanReader", name := "sign", desc := "(I)V" } : Jvm.MethodName) ({ cls := "PailRow$Reader", name := "sign", desc := "(I)V" } : Jvm.MethodName)) ∈ lw_all := lw_g (lw_at lw_m5 50 rfl) rfl
theorem q2335 : (Jvm.Cond.selects "PailRow$PlanReader" ({ cls := "PailRow$Reader", name := "find", desc := "([Ljava/lang/String;)I" } : Jvm.MethodName) ({ cls := "PailRow$Reader", name := "find", desc := "([Ljava/lang/String;)I" } : Jvm.MethodName)) ∈ lw_all := lw_g (lw_at lw_m10 73 rfl) rfl
theorem q2339 : (Jvm.Cond.selects "PailRow$PlanReader" ({ cls := "PailRow$Reader", name := "must", desc := "(ZI)V" } : Jvm.MethodName) ({ cls := "PailRow$Reader", name := "must", desc := "(ZI)V" } : Jvm.MethodName)) ∈ lw_all := lw_g (lw_at lw_m10 77 rfl) rfl
theorem q2354 : (Jvm.Cond.castable "PailRow$PlanReader" "java/lang/Object") ∈ lw_tbl := lw_at lw_m10 92 rfl
theorem in_X8 : ∀ w ∈ wsX80, w ∈ lw_all := lw_in wsX80 [448, 449, 450, 451, 452, 453, 454, 455, 444, 446] (by decide +kernel) (by decide +kernel)
/-! PailRow$Team -/
set_option maxRecDepth 100000
def RX9 : String := "PailRow$Team"
abbrev cX9_init : ByteArray := prog_18_method_1_code
def yX9_init : MethodName := ⟨RX9, "<init>", "()V"⟩
def dkwX9_init_0 : List UInt8 := [42, 183, 0, 3, 42, 16, 12, 188, 10, 181, 0, 9, 177]
abbrev dktX9_init_0 : List UInt8 := dkwX9_init_0 ++ []
theorem dksX9_init_0 : cX9_init.data.toList.drop 0 = dktX9_init_0 := by decide +kernel
theorem dX9_init_0 : decode cX9_init 0 = .ok (.aload_n 0, 1) := dk_42 (dk_at dksX9_init_0 0 rfl rfl)
theorem dX9_init_1 : decode cX9_init 1 = .ok (.invokespecial 3, 3) := dk_183 0 3 (dk_at dksX9_init_0 1 rfl rfl)
theorem dX9_init_4 : decode cX9_init 4 = .ok (.aload_n 0, 1) := dk_42 (dk_at dksX9_init_0 4 rfl rfl)
theorem dX9_init_5 : decode cX9_init 5 = .ok (.bipush 12, 2) := dk_16 12 (dk_at dksX9_init_0 5 rfl rfl)
theorem dX9_init_7 : decode cX9_init 7 = .ok (.newarray .int, 2) := dk_188_10 (dk_at dksX9_init_0 7 rfl rfl)
theorem dX9_init_9 : decode cX9_init 9 = .ok (.putfield 9, 3) := dk_181 0 9 (dk_at dksX9_init_0 9 rfl rfl)
theorem dX9_init_12 : decode cX9_init 12 = .ok (.return_, 1) := dk_177 (dk_at dksX9_init_0 12 rfl rfl)
abbrev cX9_begin : ByteArray := prog_18_method_2_code
def yX9_begin : MethodName := ⟨RX9, "begin", "(LPailRow$Yard;[III)V"⟩
def dkwX9_begin_1 : List UInt8 := [181, 0, 29, 42, 3, 181, 0, 32, 42, 3, 181, 0, 35, 177]
abbrev dktX9_begin_1 : List UInt8 := dkwX9_begin_1 ++ []
def dkwX9_begin_0 : List UInt8 := [42, 43, 181, 0, 15, 42, 29, 181, 0, 19, 44, 3, 42, 180, 0, 9, 3, 29, 184, 0, 23, 42, 21, 4]
abbrev dktX9_begin_0 : List UInt8 := dkwX9_begin_0 ++ dktX9_begin_1
theorem dksX9_begin_0 : cX9_begin.data.toList.drop 0 = dktX9_begin_0 := by decide +kernel
theorem dksX9_begin_1 : cX9_begin.data.toList.drop 24 = dktX9_begin_1 := dk_seg dksX9_begin_0 24 rfl rfl
theorem dX9_begin_0 : decode cX9_begin 0 = .ok (.aload_n 0, 1) := dk_42 (dk_at dksX9_begin_0 0 rfl rfl)
theorem dX9_begin_1 : decode cX9_begin 1 = .ok (.aload_n 1, 1) := dk_43 (dk_at dksX9_begin_0 1 rfl rfl)
theorem dX9_begin_2 : decode cX9_begin 2 = .ok (.putfield 15, 3) := dk_181 0 15 (dk_at dksX9_begin_0 2 rfl rfl)
theorem dX9_begin_5 : decode cX9_begin 5 = .ok (.aload_n 0, 1) := dk_42 (dk_at dksX9_begin_0 5 rfl rfl)
theorem dX9_begin_6 : decode cX9_begin 6 = .ok (.iload_n 3, 1) := dk_29 (dk_at dksX9_begin_0 6 rfl rfl)
theorem dX9_begin_7 : decode cX9_begin 7 = .ok (.putfield 19, 3) := dk_181 0 19 (dk_at dksX9_begin_0 7 rfl rfl)
theorem dX9_begin_10 : decode cX9_begin 10 = .ok (.aload_n 2, 1) := dk_44 (dk_at dksX9_begin_0 10 rfl rfl)
theorem dX9_begin_11 : decode cX9_begin 11 = .ok (.iconst 0, 1) := dk_3 (dk_at dksX9_begin_0 11 rfl rfl)
theorem dX9_begin_12 : decode cX9_begin 12 = .ok (.aload_n 0, 1) := dk_42 (dk_at dksX9_begin_0 12 rfl rfl)
theorem dX9_begin_13 : decode cX9_begin 13 = .ok (.getfield 9, 3) := dk_180 0 9 (dk_at dksX9_begin_0 13 rfl rfl)
theorem dX9_begin_16 : decode cX9_begin 16 = .ok (.iconst 0, 1) := dk_3 (dk_at dksX9_begin_0 16 rfl rfl)
theorem dX9_begin_17 : decode cX9_begin 17 = .ok (.iload_n 3, 1) := dk_29 (dk_at dksX9_begin_0 17 rfl rfl)
theorem dX9_begin_18 : decode cX9_begin 18 = .ok (.invokestatic 23, 3) := dk_184 0 23 (dk_at dksX9_begin_0 18 rfl rfl)
theorem dX9_begin_21 : decode cX9_begin 21 = .ok (.aload_n 0, 1) := dk_42 (dk_at dksX9_begin_0 21 rfl rfl)
theorem dX9_begin_22 : decode cX9_begin 22 = .ok (.iload 4, 2) := dk_21 4 (dk_at dksX9_begin_0 22 rfl rfl)
theorem dX9_begin_24 : decode cX9_begin 24 = .ok (.putfield 29, 3) := dk_181 0 29 (dk_at dksX9_begin_1 0 rfl rfl)
theorem dX9_begin_27 : decode cX9_begin 27 = .ok (.aload_n 0, 1) := dk_42 (dk_at dksX9_begin_1 3 rfl rfl)
theorem dX9_begin_28 : decode cX9_begin 28 = .ok (.iconst 0, 1) := dk_3 (dk_at dksX9_begin_1 4 rfl rfl)
theorem dX9_begin_29 : decode cX9_begin 29 = .ok (.putfield 32, 3) := dk_181 0 32 (dk_at dksX9_begin_1 5 rfl rfl)
theorem dX9_begin_32 : decode cX9_begin 32 = .ok (.aload_n 0, 1) := dk_42 (dk_at dksX9_begin_1 8 rfl rfl)
theorem dX9_begin_33 : decode cX9_begin 33 = .ok (.iconst 0, 1) := dk_3 (dk_at dksX9_begin_1 9 rfl rfl)
theorem dX9_begin_34 : decode cX9_begin 34 = .ok (.putfield 35, 3) := dk_181 0 35 (dk_at dksX9_begin_1 10 rfl rfl)
theorem dX9_begin_37 : decode cX9_begin 37 = .ok (.return_, 1) := dk_177 (dk_at dksX9_begin_1 13 rfl rfl)
abbrev cX9_goes : ByteArray := prog_18_method_5_code
def yX9_goes : MethodName := ⟨RX9, "goes", "(I)I"⟩
def dkwX9_goes_1 : List UInt8 := [182, 0, 43, 132, 3, 1, 167, 255, 234, 42, 180, 0, 32, 28, 100, 172]
abbrev dktX9_goes_1 : List UInt8 := dkwX9_goes_1 ++ []
def dkwX9_goes_0 : List UInt8 := [42, 180, 0, 32, 61, 3, 62, 29, 27, 162, 0, 23, 42, 89, 180, 0, 35, 4, 96, 181, 0, 35, 42]
abbrev dktX9_goes_0 : List UInt8 := dkwX9_goes_0 ++ dktX9_goes_1
theorem dksX9_goes_0 : cX9_goes.data.toList.drop 0 = dktX9_goes_0 := by decide +kernel
theorem dksX9_goes_1 : cX9_goes.data.toList.drop 23 = dktX9_goes_1 := dk_seg dksX9_goes_0 23 rfl rfl
theorem dX9_goes_0 : decode cX9_goes 0 = .ok (.aload_n 0, 1) := dk_42 (dk_at dksX9_goes_0 0 rfl rfl)
theorem dX9_goes_1 : decode cX9_goes 1 = .ok (.getfield 32, 3) := dk_180 0 32 (dk_at dksX9_goes_0 1 rfl rfl)
theorem dX9_goes_4 : decode cX9_goes 4 = .ok (.istore_n 2, 1) := dk_61 (dk_at dksX9_goes_0 4 rfl rfl)
theorem dX9_goes_5 : decode cX9_goes 5 = .ok (.iconst 0, 1) := dk_3 (dk_at dksX9_goes_0 5 rfl rfl)
theorem dX9_goes_6 : decode cX9_goes 6 = .ok (.istore_n 3, 1) := dk_62 (dk_at dksX9_goes_0 6 rfl rfl)
theorem dX9_goes_7 : decode cX9_goes 7 = .ok (.iload_n 3, 1) := dk_29 (dk_at dksX9_goes_0 7 rfl rfl)
theorem dX9_goes_8 : decode cX9_goes 8 = .ok (.iload_n 1, 1) := dk_27 (dk_at dksX9_goes_0 8 rfl rfl)
theorem dX9_goes_9 : decode cX9_goes 9 = .ok (.if_icmp .ge 23, 3) := dk_162 0 23 (dk_at dksX9_goes_0 9 rfl rfl)
theorem dX9_goes_12 : decode cX9_goes 12 = .ok (.aload_n 0, 1) := dk_42 (dk_at dksX9_goes_0 12 rfl rfl)
theorem dX9_goes_13 : decode cX9_goes 13 = .ok (.dup, 1) := dk_89 (dk_at dksX9_goes_0 13 rfl rfl)
theorem dX9_goes_14 : decode cX9_goes 14 = .ok (.getfield 35, 3) := dk_180 0 35 (dk_at dksX9_goes_0 14 rfl rfl)
theorem dX9_goes_17 : decode cX9_goes 17 = .ok (.iconst 1, 1) := dk_4 (dk_at dksX9_goes_0 17 rfl rfl)
theorem dX9_goes_18 : decode cX9_goes 18 = .ok (.iadd, 1) := dk_96 (dk_at dksX9_goes_0 18 rfl rfl)
theorem dX9_goes_19 : decode cX9_goes 19 = .ok (.putfield 35, 3) := dk_181 0 35 (dk_at dksX9_goes_0 19 rfl rfl)
theorem dX9_goes_22 : decode cX9_goes 22 = .ok (.aload_n 0, 1) := dk_42 (dk_at dksX9_goes_0 22 rfl rfl)
theorem dX9_goes_23 : decode cX9_goes 23 = .ok (.invokevirtual 43, 3) := dk_182 0 43 (dk_at dksX9_goes_1 0 rfl rfl)
theorem dX9_goes_26 : decode cX9_goes 26 = .ok (.iinc 3 1, 3) := dk_132 3 1 (dk_at dksX9_goes_1 3 rfl rfl)
theorem dX9_goes_29 : decode cX9_goes 29 = .ok (.goto (-22), 3) := dk_167 255 234 (dk_at dksX9_goes_1 6 rfl rfl)
theorem dX9_goes_32 : decode cX9_goes 32 = .ok (.aload_n 0, 1) := dk_42 (dk_at dksX9_goes_1 9 rfl rfl)
theorem dX9_goes_33 : decode cX9_goes 33 = .ok (.getfield 32, 3) := dk_180 0 32 (dk_at dksX9_goes_1 10 rfl rfl)
theorem dX9_goes_36 : decode cX9_goes 36 = .ok (.iload_n 2, 1) := dk_28 (dk_at dksX9_goes_1 13 rfl rfl)
theorem dX9_goes_37 : decode cX9_goes 37 = .ok (.isub, 1) := dk_100 (dk_at dksX9_goes_1 14 rfl rfl)
theorem dX9_goes_38 : decode cX9_goes 38 = .ok (.ireturn, 1) := dk_172 (dk_at dksX9_goes_1 15 rfl rfl)
abbrev cX9_man : ByteArray := prog_18_method_3_code
def yX9_man : MethodName := ⟨RX9, "man", "(I)LPailRow$Man;"⟩
def dkwX9_man_0 : List UInt8 := [42, 180, 0, 15, 180, 0, 38, 42, 180, 0, 9, 27, 46, 50, 176]
abbrev dktX9_man_0 : List UInt8 := dkwX9_man_0 ++ []
theorem dksX9_man_0 : cX9_man.data.toList.drop 0 = dktX9_man_0 := by decide +kernel
theorem dX9_man_0 : decode cX9_man 0 = .ok (.aload_n 0, 1) := dk_42 (dk_at dksX9_man_0 0 rfl rfl)
theorem dX9_man_1 : decode cX9_man 1 = .ok (.getfield 15, 3) := dk_180 0 15 (dk_at dksX9_man_0 1 rfl rfl)
theorem dX9_man_4 : decode cX9_man 4 = .ok (.getfield 38, 3) := dk_180 0 38 (dk_at dksX9_man_0 4 rfl rfl)
theorem dX9_man_7 : decode cX9_man 7 = .ok (.aload_n 0, 1) := dk_42 (dk_at dksX9_man_0 7 rfl rfl)
theorem dX9_man_8 : decode cX9_man 8 = .ok (.getfield 9, 3) := dk_180 0 9 (dk_at dksX9_man_0 8 rfl rfl)
theorem dX9_man_11 : decode cX9_man 11 = .ok (.iload_n 1, 1) := dk_27 (dk_at dksX9_man_0 11 rfl rfl)
theorem dX9_man_12 : decode cX9_man 12 = .ok (.iaload, 1) := dk_46 (dk_at dksX9_man_0 12 rfl rfl)
theorem dX9_man_13 : decode cX9_man 13 = .ok (.aaload, 1) := dk_50 (dk_at dksX9_man_0 13 rfl rfl)
theorem dX9_man_14 : decode cX9_man 14 = .ok (.areturn, 1) := dk_176 (dk_at dksX9_man_0 14 rfl rfl)
abbrev cX9_draws : ByteArray := prog_18_method_6_code
def yX9_draws : MethodName := ⟨RX9, "draws", "()I"⟩
def dkwX9_draws_1 : List UInt8 := [181, 0, 29, 27, 172]
abbrev dktX9_draws_1 : List UInt8 := dkwX9_draws_1 ++ []
def dkwX9_draws_0 : List UInt8 := [42, 180, 0, 15, 180, 0, 46, 42, 180, 0, 29, 184, 0, 49, 60, 42, 89, 180, 0, 29, 27, 100]
abbrev dktX9_draws_0 : List UInt8 := dkwX9_draws_0 ++ dktX9_draws_1
theorem dksX9_draws_0 : cX9_draws.data.toList.drop 0 = dktX9_draws_0 := by decide +kernel
theorem dksX9_draws_1 : cX9_draws.data.toList.drop 22 = dktX9_draws_1 := dk_seg dksX9_draws_0 22 rfl rfl
theorem dX9_draws_0 : decode cX9_draws 0 = .ok (.aload_n 0, 1) := dk_42 (dk_at dksX9_draws_0 0 rfl rfl)
theorem dX9_draws_1 : decode cX9_draws 1 = .ok (.getfield 15, 3) := dk_180 0 15 (dk_at dksX9_draws_0 1 rfl rfl)
theorem dX9_draws_4 : decode cX9_draws 4 = .ok (.getfield 46, 3) := dk_180 0 46 (dk_at dksX9_draws_0 4 rfl rfl)
theorem dX9_draws_7 : decode cX9_draws 7 = .ok (.aload_n 0, 1) := dk_42 (dk_at dksX9_draws_0 7 rfl rfl)
theorem dX9_draws_8 : decode cX9_draws 8 = .ok (.getfield 29, 3) := dk_180 0 29 (dk_at dksX9_draws_0 8 rfl rfl)
theorem dX9_draws_11 : decode cX9_draws 11 = .ok (.invokestatic 49, 3) := dk_184 0 49 (dk_at dksX9_draws_0 11 rfl rfl)
theorem dX9_draws_14 : decode cX9_draws 14 = .ok (.istore_n 1, 1) := dk_60 (dk_at dksX9_draws_0 14 rfl rfl)
theorem dX9_draws_15 : decode cX9_draws 15 = .ok (.aload_n 0, 1) := dk_42 (dk_at dksX9_draws_0 15 rfl rfl)
theorem dX9_draws_16 : decode cX9_draws 16 = .ok (.dup, 1) := dk_89 (dk_at dksX9_draws_0 16 rfl rfl)
theorem dX9_draws_17 : decode cX9_draws 17 = .ok (.getfield 29, 3) := dk_180 0 29 (dk_at dksX9_draws_0 17 rfl rfl)
theorem dX9_draws_20 : decode cX9_draws 20 = .ok (.iload_n 1, 1) := dk_27 (dk_at dksX9_draws_0 20 rfl rfl)
theorem dX9_draws_21 : decode cX9_draws 21 = .ok (.isub, 1) := dk_100 (dk_at dksX9_draws_0 21 rfl rfl)
theorem dX9_draws_22 : decode cX9_draws 22 = .ok (.putfield 29, 3) := dk_181 0 29 (dk_at dksX9_draws_1 0 rfl rfl)
theorem dX9_draws_25 : decode cX9_draws 25 = .ok (.iload_n 1, 1) := dk_27 (dk_at dksX9_draws_1 3 rfl rfl)
theorem dX9_draws_26 : decode cX9_draws 26 = .ok (.ireturn, 1) := dk_172 (dk_at dksX9_draws_1 4 rfl rfl)
theorem q113 : (Jvm.Cond.initialized "PailRow$Team") ∈ lw_all := lw_g (lw_at lw_m1 11 rfl) rfl
theorem q258 : (Jvm.Cond.fieldLinkNest "PailRow$Team" (38 : Nat) "PailRow$Yard" "men" "[LPailRow$Man;" "PailRow") ∈ lw_tbl := lw_at lw_m1 156 rfl
theorem q294 : (Jvm.Cond.fieldLinkNest "PailRow$Team" (46 : Nat) "PailRow$Yard" "hold" "I" "PailRow") ∈ lw_tbl := lw_at lw_m1 192 rfl
theorem q463 : (Jvm.Cond.instanceMethod ({ cls := "PailRow$Team", name := "<init>", desc := "()V" } : Jvm.MethodName)) ∈ lw_all := lw_g (lw_at lw_m2 121 rfl) rfl
theorem q464 : (Jvm.Cond.code ({ cls := "PailRow$Team", name := "<init>", desc := "()V" } : Jvm.MethodName) prog_18_method_1_code (1 : Nat) (Option.none : Option Jvm.ClassFile.FieldType)) ∈ lw_all := lw_g (lw_at lw_m2 122 rfl) rfl
theorem q465 : (Jvm.Cond.methodLink "PailRow$Team" (3 : Nat) ({ cls := "java/lang/Object", name := "<init>", desc := "()V" } : Jvm.MethodName)) ∈ lw_all := lw_g (lw_at lw_m2 123 rfl) rfl
theorem q485 : (Jvm.Cond.fieldLink "PailRow$Team" (9 : Nat) "PailRow$Team" "men" "[I") ∈ lw_all := lw_g (lw_at lw_m2 143 rfl) rfl
theorem q486 : (Jvm.Cond.fieldLink "PailRow$Team" (15 : Nat) "PailRow$Team" "yard" "LPailRow$Yard;") ∈ lw_all := lw_g (lw_at lw_m2 144 rfl) rfl
theorem q491 : (Jvm.Cond.fieldLink "PailRow$Team" (19 : Nat) "PailRow$Team" "many" "I") ∈ lw_all := lw_g (lw_at lw_m2 149 rfl) rfl
theorem q497 : (Jvm.Cond.fieldLink "PailRow$Team" (29 : Nat) "PailRow$Team" "water" "I") ∈ lw_all := lw_g (lw_at lw_m2 155 rfl) rfl
theorem q504 : (Jvm.Cond.fieldLink "PailRow$Team" (32 : Nat) "PailRow$Team" "thrown" "I") ∈ lw_all := lw_g (lw_at lw_m2 162 rfl) rfl
theorem q510 : (Jvm.Cond.fieldLink "PailRow$Team" (35 : Nat) "PailRow$Team" "tick" "I") ∈ lw_all := lw_g (lw_at lw_m2 168 rfl) rfl
theorem q540 : (Jvm.Cond.soleField "PailRow$Team" "men") ∈ lw_all := lw_g (lw_at lw_m2 198 rfl) rfl
theorem q542 : (Jvm.Cond.soleField "PailRow$Team" "yard") ∈ lw_all := lw_g (lw_at lw_m2 200 rfl) rfl
theorem q544 : (Jvm.Cond.soleField "PailRow$Team" "many") ∈ lw_all := lw_g (lw_at lw_m2 202 rfl) rfl
theorem q546 : (Jvm.Cond.soleField "PailRow$Team" "water") ∈ lw_all := lw_g (lw_at lw_m2 204 rfl) rfl
theorem q548 : (Jvm.Cond.soleField "PailRow$Team" "thrown") ∈ lw_all := lw_g (lw_at lw_m2 206 rfl) rfl
theorem q550 : (Jvm.Cond.soleField "PailRow$Team" "tick") ∈ lw_all := lw_g (lw_at lw_m2 208 rfl) rfl
theorem q1138 : (Jvm.Cond.instanceMethod ({ cls := "PailRow$Team", name := "begin", desc := "(LPailRow$Yard;[III)V" } : Jvm.MethodName)) ∈ lw_all := lw_g (lw_at lw_m5 76 rfl) rfl
theorem q1139 : (Jvm.Cond.code ({ cls := "PailRow$Team", name := "begin", desc := "(LPailRow$Yard;[III)V" } : Jvm.MethodName) prog_18_method_2_code (5 : Nat) (Option.none : Option Jvm.ClassFile.FieldType)) ∈ lw_all := lw_g (lw_at lw_m5 77 rfl) rfl
theorem q1140 : (Jvm.Cond.methodLink "PailRow$Team" (23 : Nat) ({ cls := "java/lang/System", name := "arraycopy", desc := "(Ljava/lang/Object;ILjava/lang/Object;II)V" } : Jvm.MethodName)) ∈ lw_all := lw_g (lw_at lw_m5 78 rfl) rfl
theorem q1145 : (Jvm.Cond.declares ({ cls := "PailRow$Team", name := "goes", desc := "(I)I" } : Jvm.MethodName)) ∈ lw_tbl := lw_at lw_m5 83 rfl
theorem q1147 : (Jvm.Cond.instanceMethod ({ cls := "PailRow$Team", name := "goes", desc := "(I)I" } : Jvm.MethodName)) ∈ lw_all := lw_g (lw_at lw_m5 85 rfl) rfl
theorem q1148 : (Jvm.Cond.code ({ cls := "PailRow$Team", name := "goes", desc := "(I)I" } : Jvm.MethodName) prog_18_method_5_code (4 : Nat) (Option.some Jvm.ClassFile.FieldType.int)) ∈ lw_all := lw_g (lw_at lw_m5 86 rfl) rfl
theorem q1149 : (Jvm.Cond.methodLink "PailRow$Team" (43 : Nat) ({ cls := "PailRow$Team", name := "ticks", desc := "()V" } : Jvm.MethodName)) ∈ lw_all := lw_g (lw_at lw_m5 87 rfl) rfl
theorem q1150 : (Jvm.Cond.declares ({ cls := "PailRow$Team", name := "ticks", desc := "()V" } : Jvm.MethodName)) ∈ lw_tbl := lw_at lw_m5 88 rfl
theorem q1151 : (Jvm.Cond.sameMethod "PailRow$Team" "PailRow$Team" "ticks" "()V") ∈ lw_all := lw_g (lw_at lw_m5 89 rfl) rfl
theorem q1172 : (Jvm.Cond.declares ({ cls := "PailRow$Team", name := "man", desc := "(I)LPailRow$Man;" } : Jvm.MethodName)) ∈ lw_tbl := lw_at lw_m5 110 rfl
theorem q1174 : (Jvm.Cond.instanceMethod ({ cls := "PailRow$Team", name := "man", desc := "(I)LPailRow$Man;" } : Jvm.MethodName)) ∈ lw_all := lw_g (lw_at lw_m5 112 rfl) rfl
theorem q1175 : (Jvm.Cond.code ({ cls := "PailRow$Team", name := "man", desc := "(I)LPailRow$Man;" } : Jvm.MethodName) prog_18_method_3_code (2 : Nat) (Option.some (Jvm.ClassFile.FieldType.object "PailRow$Man"))) ∈ lw_all := lw_g (lw_at lw_m5 113 rfl) rfl
theorem q1178 : (Jvm.Cond.declares ({ cls := "PailRow$Team", name := "draws", desc := "()I" } : Jvm.MethodName)) ∈ lw_tbl := lw_at lw_m5 116 rfl
theorem q1180 : (Jvm.Cond.instanceMethod ({ cls := "PailRow$Team", name := "draws", desc := "()I" } : Jvm.MethodName)) ∈ lw_all := lw_g (lw_at lw_m5 118 rfl) rfl
theorem q1181 : (Jvm.Cond.code ({ cls := "PailRow$Team", name := "draws", desc := "()I" } : Jvm.MethodName) prog_18_method_6_code (2 : Nat) (Option.some Jvm.ClassFile.FieldType.int)) ∈ lw_all := lw_g (lw_at lw_m5 119 rfl) rfl
theorem q1182 : (Jvm.Cond.methodLink "PailRow$Team" (49 : Nat) ({ cls := "java/lang/Math", name := "min", desc := "(II)I" } : Jvm.MethodName)) ∈ lw_all := lw_g (lw_at lw_m5 120 rfl) rfl
theorem q2342 : (Jvm.Cond.sameMethod "PailRow$Team" "PailRow$Team" "begin" "(LPailRow$Yard;[III)V") ∈ lw_all := lw_g (lw_at lw_m10 80 rfl) rfl
theorem q2345 : (Jvm.Cond.sameMethod "PailRow$Team" "PailRow$Team" "goes" "(I)I") ∈ lw_all := lw_g (lw_at lw_m10 83 rfl) rfl
/-! PailRow$Row -/
set_option maxRecDepth 100000
def RX10 : String := "PailRow$Row"
def TX10 : u_T := fun k => match k with
  | 0 => ("PailRow$Team", "men", "[I", true)
  | 1 => ("PailRow$Team", "yard", "LPailRow$Yard;", false)
  | 2 => ("PailRow$Team", "many", "I", false)
  | 3 => ("PailRow$Team", "water", "I", false)
  | 4 => ("PailRow$Team", "thrown", "I", false)
  | 5 => ("PailRow$Team", "tick", "I", false)
  | 6 => ("PailRow$Row", "done", "[I", true)
  | 7 => ("PailRow$Row", "busy", "[I", true)
  | 8 => ("PailRow$Row", "litres", "[I", true)
  | 9 => ("PailRow$Row", "stands", "[I", true)
  | 10 => ("PailRow$Row", "first", "[I", true)
  | 11 => ("PailRow$Row", "heaps", "[I", true)
  | 12 => ("PailRow$Row", "pails", "[[I", true)
  | 13 => ("PailRow$Row", "backs", "[I", true)
  | 14 => ("PailRow$Row", "empties", "I", false)
  | 15 => ("PailRow$Row", "backFirst", "I", false)
  | 16 => ("PailRow$Row", "backMany", "I", false)
  | 17 => ("PailRow$Row", "drawn", "I", false)
  | _ => ("PailRow$Row", "spilt", "I", false)
def tyX10 : Nat → FieldType := fun k => match k with
  | 0 => .array .int
  | 1 => .object "PailRow$Yard"
  | 2 => .int
  | 3 => .int
  | 4 => .int
  | 5 => .int
  | 6 => .array .int
  | 7 => .array .int
  | 8 => .array .int
  | 9 => .array .int
  | 10 => .array .int
  | 11 => .array .int
  | 12 => .array (.array .int)
  | 13 => .array .int
  | 14 => .int
  | 15 => .int
  | 16 => .int
  | 17 => .int
  | _ => .int
abbrev wsX100 : List Cond := u_ws RX10 TX10 19
set_option maxRecDepth 100000 in
theorem nmX10 : ∀ a, a < 19 → ∀ b, b < 19 → a ≠ b → (TX10 a).2.1 ≠ (TX10 b).2.1 := by decide +kernel
set_option maxRecDepth 100000 in
theorem tyX10_ok : ∀ k, k < 19 → parseFieldDescriptor (TX10 k).2.2.1 = some (tyX10 k) := by decide +kernel
abbrev cX10_init : ByteArray := prog_14_method_1_code
def yX10_init : MethodName := ⟨RX10, "<init>", "()V"⟩
def dkwX10_init_3 : List UInt8 := [181, 0, 35, 177]
abbrev dktX10_init_3 : List UInt8 := dkwX10_init_3 ++ []
def dkwX10_init_2 : List UInt8 := [188, 10, 181, 0, 27, 42, 16, 12, 16, 30, 197, 0, 30, 2, 181, 0, 32, 42, 16, 30, 188, 10]
abbrev dktX10_init_2 : List UInt8 := dkwX10_init_2 ++ dktX10_init_3
def dkwX10_init_1 : List UInt8 := [188, 10, 181, 0, 18, 42, 16, 12, 188, 10, 181, 0, 21, 42, 16, 12, 188, 10, 181, 0, 24, 42, 16, 12]
abbrev dktX10_init_1 : List UInt8 := dkwX10_init_1 ++ dktX10_init_2
def dkwX10_init_0 : List UInt8 := [42, 183, 0, 3, 42, 16, 12, 188, 10, 181, 0, 9, 42, 16, 12, 188, 10, 181, 0, 15, 42, 16, 12]
abbrev dktX10_init_0 : List UInt8 := dkwX10_init_0 ++ dktX10_init_1
theorem dksX10_init_0 : cX10_init.data.toList.drop 0 = dktX10_init_0 := by decide +kernel
theorem dksX10_init_1 : cX10_init.data.toList.drop 23 = dktX10_init_1 := dk_seg dksX10_init_0 23 rfl rfl
theorem dksX10_init_2 : cX10_init.data.toList.drop 47 = dktX10_init_2 := dk_seg dksX10_init_1 24 rfl rfl
theorem dksX10_init_3 : cX10_init.data.toList.drop 69 = dktX10_init_3 := dk_seg dksX10_init_2 22 rfl rfl
theorem dX10_init_0 : decode cX10_init 0 = .ok (.aload_n 0, 1) := dk_42 (dk_at dksX10_init_0 0 rfl rfl)
theorem dX10_init_1 : decode cX10_init 1 = .ok (.invokespecial 3, 3) := dk_183 0 3 (dk_at dksX10_init_0 1 rfl rfl)
theorem dX10_init_4 : decode cX10_init 4 = .ok (.aload_n 0, 1) := dk_42 (dk_at dksX10_init_0 4 rfl rfl)
theorem dX10_init_5 : decode cX10_init 5 = .ok (.bipush 12, 2) := dk_16 12 (dk_at dksX10_init_0 5 rfl rfl)
theorem dX10_init_7 : decode cX10_init 7 = .ok (.newarray .int, 2) := dk_188_10 (dk_at dksX10_init_0 7 rfl rfl)
theorem dX10_init_9 : decode cX10_init 9 = .ok (.putfield 9, 3) := dk_181 0 9 (dk_at dksX10_init_0 9 rfl rfl)
theorem dX10_init_12 : decode cX10_init 12 = .ok (.aload_n 0, 1) := dk_42 (dk_at dksX10_init_0 12 rfl rfl)
theorem dX10_init_13 : decode cX10_init 13 = .ok (.bipush 12, 2) := dk_16 12 (dk_at dksX10_init_0 13 rfl rfl)
theorem dX10_init_15 : decode cX10_init 15 = .ok (.newarray .int, 2) := dk_188_10 (dk_at dksX10_init_0 15 rfl rfl)
theorem dX10_init_17 : decode cX10_init 17 = .ok (.putfield 15, 3) := dk_181 0 15 (dk_at dksX10_init_0 17 rfl rfl)
theorem dX10_init_20 : decode cX10_init 20 = .ok (.aload_n 0, 1) := dk_42 (dk_at dksX10_init_0 20 rfl rfl)
theorem dX10_init_21 : decode cX10_init 21 = .ok (.bipush 12, 2) := dk_16 12 (dk_at dksX10_init_0 21 rfl rfl)
theorem dX10_init_23 : decode cX10_init 23 = .ok (.newarray .int, 2) := dk_188_10 (dk_at dksX10_init_1 0 rfl rfl)
theorem dX10_init_25 : decode cX10_init 25 = .ok (.putfield 18, 3) := dk_181 0 18 (dk_at dksX10_init_1 2 rfl rfl)
theorem dX10_init_28 : decode cX10_init 28 = .ok (.aload_n 0, 1) := dk_42 (dk_at dksX10_init_1 5 rfl rfl)
theorem dX10_init_29 : decode cX10_init 29 = .ok (.bipush 12, 2) := dk_16 12 (dk_at dksX10_init_1 6 rfl rfl)
theorem dX10_init_31 : decode cX10_init 31 = .ok (.newarray .int, 2) := dk_188_10 (dk_at dksX10_init_1 8 rfl rfl)
theorem dX10_init_33 : decode cX10_init 33 = .ok (.putfield 21, 3) := dk_181 0 21 (dk_at dksX10_init_1 10 rfl rfl)
theorem dX10_init_36 : decode cX10_init 36 = .ok (.aload_n 0, 1) := dk_42 (dk_at dksX10_init_1 13 rfl rfl)
theorem dX10_init_37 : decode cX10_init 37 = .ok (.bipush 12, 2) := dk_16 12 (dk_at dksX10_init_1 14 rfl rfl)
theorem dX10_init_39 : decode cX10_init 39 = .ok (.newarray .int, 2) := dk_188_10 (dk_at dksX10_init_1 16 rfl rfl)
theorem dX10_init_41 : decode cX10_init 41 = .ok (.putfield 24, 3) := dk_181 0 24 (dk_at dksX10_init_1 18 rfl rfl)
theorem dX10_init_44 : decode cX10_init 44 = .ok (.aload_n 0, 1) := dk_42 (dk_at dksX10_init_1 21 rfl rfl)
theorem dX10_init_45 : decode cX10_init 45 = .ok (.bipush 12, 2) := dk_16 12 (dk_at dksX10_init_1 22 rfl rfl)
theorem dX10_init_47 : decode cX10_init 47 = .ok (.newarray .int, 2) := dk_188_10 (dk_at dksX10_init_2 0 rfl rfl)
theorem dX10_init_49 : decode cX10_init 49 = .ok (.putfield 27, 3) := dk_181 0 27 (dk_at dksX10_init_2 2 rfl rfl)
theorem dX10_init_52 : decode cX10_init 52 = .ok (.aload_n 0, 1) := dk_42 (dk_at dksX10_init_2 5 rfl rfl)
theorem dX10_init_53 : decode cX10_init 53 = .ok (.bipush 12, 2) := dk_16 12 (dk_at dksX10_init_2 6 rfl rfl)
theorem dX10_init_55 : decode cX10_init 55 = .ok (.bipush 30, 2) := dk_16 30 (dk_at dksX10_init_2 8 rfl rfl)
theorem dX10_init_57 : decode cX10_init 57 = .ok (.multianewarray 30 2, 4) := by decide +kernel
theorem dX10_init_61 : decode cX10_init 61 = .ok (.putfield 32, 3) := dk_181 0 32 (dk_at dksX10_init_2 14 rfl rfl)
theorem dX10_init_64 : decode cX10_init 64 = .ok (.aload_n 0, 1) := dk_42 (dk_at dksX10_init_2 17 rfl rfl)
theorem dX10_init_65 : decode cX10_init 65 = .ok (.bipush 30, 2) := dk_16 30 (dk_at dksX10_init_2 18 rfl rfl)
theorem dX10_init_67 : decode cX10_init 67 = .ok (.newarray .int, 2) := dk_188_10 (dk_at dksX10_init_2 20 rfl rfl)
theorem dX10_init_69 : decode cX10_init 69 = .ok (.putfield 35, 3) := dk_181 0 35 (dk_at dksX10_init_3 0 rfl rfl)
theorem dX10_init_72 : decode cX10_init 72 = .ok (.return_, 1) := dk_177 (dk_at dksX10_init_3 3 rfl rfl)
abbrev cX10_begin : ByteArray := prog_14_method_2_code
def yX10_begin : MethodName := ⟨RX10, "begin", "(LPailRow$Yard;[III)V"⟩
def dkwX10_begin_4 : List UInt8 := [181, 0, 56, 42, 3, 181, 0, 59, 177]
abbrev dktX10_begin_4 : List UInt8 := dkwX10_begin_4 ++ []
def dkwX10_begin_3 : List UInt8 := [167, 255, 198, 42, 43, 180, 0, 42, 181, 0, 47, 42, 3, 181, 0, 50, 42, 3, 181, 0, 53, 42, 3]
abbrev dktX10_begin_3 : List UInt8 := dkwX10_begin_3 ++ dktX10_begin_4
def dkwX10_begin_2 : List UInt8 := [21, 5, 3, 79, 42, 180, 0, 24, 21, 5, 3, 79, 42, 180, 0, 27, 21, 5, 3, 79, 132, 5, 1]
abbrev dktX10_begin_2 : List UInt8 := dkwX10_begin_2 ++ dktX10_begin_3
def dkwX10_begin_1 : List UInt8 := [21, 5, 3, 79, 42, 180, 0, 15, 21, 5, 3, 79, 42, 180, 0, 18, 21, 5, 3, 79, 42, 180, 0, 21]
abbrev dktX10_begin_1 : List UInt8 := dkwX10_begin_1 ++ dktX10_begin_2
def dkwX10_begin_0 : List UInt8 := [42, 43, 44, 29, 21, 4, 183, 0, 38, 3, 54, 5, 21, 5, 16, 12, 162, 0, 57, 42, 180, 0, 9]
abbrev dktX10_begin_0 : List UInt8 := dkwX10_begin_0 ++ dktX10_begin_1
theorem dksX10_begin_0 : cX10_begin.data.toList.drop 0 = dktX10_begin_0 := by decide +kernel
theorem dksX10_begin_1 : cX10_begin.data.toList.drop 23 = dktX10_begin_1 := dk_seg dksX10_begin_0 23 rfl rfl
theorem dksX10_begin_2 : cX10_begin.data.toList.drop 47 = dktX10_begin_2 := dk_seg dksX10_begin_1 24 rfl rfl
theorem dksX10_begin_3 : cX10_begin.data.toList.drop 70 = dktX10_begin_3 := dk_seg dksX10_begin_2 23 rfl rfl
theorem dksX10_begin_4 : cX10_begin.data.toList.drop 93 = dktX10_begin_4 := dk_seg dksX10_begin_3 23 rfl rfl
theorem dX10_begin_0 : decode cX10_begin 0 = .ok (.aload_n 0, 1) := dk_42 (dk_at dksX10_begin_0 0 rfl rfl)
theorem dX10_begin_1 : decode cX10_begin 1 = .ok (.aload_n 1, 1) := dk_43 (dk_at dksX10_begin_0 1 rfl rfl)
theorem dX10_begin_2 : decode cX10_begin 2 = .ok (.aload_n 2, 1) := dk_44 (dk_at dksX10_begin_0 2 rfl rfl)
theorem dX10_begin_3 : decode cX10_begin 3 = .ok (.iload_n 3, 1) := dk_29 (dk_at dksX10_begin_0 3 rfl rfl)
theorem dX10_begin_4 : decode cX10_begin 4 = .ok (.iload 4, 2) := dk_21 4 (dk_at dksX10_begin_0 4 rfl rfl)
theorem dX10_begin_6 : decode cX10_begin 6 = .ok (.invokespecial 38, 3) := dk_183 0 38 (dk_at dksX10_begin_0 6 rfl rfl)
theorem dX10_begin_9 : decode cX10_begin 9 = .ok (.iconst 0, 1) := dk_3 (dk_at dksX10_begin_0 9 rfl rfl)
theorem dX10_begin_10 : decode cX10_begin 10 = .ok (.istore 5, 2) := dk_54 5 (dk_at dksX10_begin_0 10 rfl rfl)
theorem dX10_begin_12 : decode cX10_begin 12 = .ok (.iload 5, 2) := dk_21 5 (dk_at dksX10_begin_0 12 rfl rfl)
theorem dX10_begin_14 : decode cX10_begin 14 = .ok (.bipush 12, 2) := dk_16 12 (dk_at dksX10_begin_0 14 rfl rfl)
theorem dX10_begin_16 : decode cX10_begin 16 = .ok (.if_icmp .ge 57, 3) := dk_162 0 57 (dk_at dksX10_begin_0 16 rfl rfl)
theorem dX10_begin_19 : decode cX10_begin 19 = .ok (.aload_n 0, 1) := dk_42 (dk_at dksX10_begin_0 19 rfl rfl)
theorem dX10_begin_20 : decode cX10_begin 20 = .ok (.getfield 9, 3) := dk_180 0 9 (dk_at dksX10_begin_0 20 rfl rfl)
theorem dX10_begin_23 : decode cX10_begin 23 = .ok (.iload 5, 2) := dk_21 5 (dk_at dksX10_begin_1 0 rfl rfl)
theorem dX10_begin_25 : decode cX10_begin 25 = .ok (.iconst 0, 1) := dk_3 (dk_at dksX10_begin_1 2 rfl rfl)
theorem dX10_begin_26 : decode cX10_begin 26 = .ok (.iastore, 1) := dk_79 (dk_at dksX10_begin_1 3 rfl rfl)
theorem dX10_begin_27 : decode cX10_begin 27 = .ok (.aload_n 0, 1) := dk_42 (dk_at dksX10_begin_1 4 rfl rfl)
theorem dX10_begin_28 : decode cX10_begin 28 = .ok (.getfield 15, 3) := dk_180 0 15 (dk_at dksX10_begin_1 5 rfl rfl)
theorem dX10_begin_31 : decode cX10_begin 31 = .ok (.iload 5, 2) := dk_21 5 (dk_at dksX10_begin_1 8 rfl rfl)
theorem dX10_begin_33 : decode cX10_begin 33 = .ok (.iconst 0, 1) := dk_3 (dk_at dksX10_begin_1 10 rfl rfl)
theorem dX10_begin_34 : decode cX10_begin 34 = .ok (.iastore, 1) := dk_79 (dk_at dksX10_begin_1 11 rfl rfl)
theorem dX10_begin_35 : decode cX10_begin 35 = .ok (.aload_n 0, 1) := dk_42 (dk_at dksX10_begin_1 12 rfl rfl)
theorem dX10_begin_36 : decode cX10_begin 36 = .ok (.getfield 18, 3) := dk_180 0 18 (dk_at dksX10_begin_1 13 rfl rfl)
theorem dX10_begin_39 : decode cX10_begin 39 = .ok (.iload 5, 2) := dk_21 5 (dk_at dksX10_begin_1 16 rfl rfl)
theorem dX10_begin_41 : decode cX10_begin 41 = .ok (.iconst 0, 1) := dk_3 (dk_at dksX10_begin_1 18 rfl rfl)
theorem dX10_begin_42 : decode cX10_begin 42 = .ok (.iastore, 1) := dk_79 (dk_at dksX10_begin_1 19 rfl rfl)
theorem dX10_begin_43 : decode cX10_begin 43 = .ok (.aload_n 0, 1) := dk_42 (dk_at dksX10_begin_1 20 rfl rfl)
theorem dX10_begin_44 : decode cX10_begin 44 = .ok (.getfield 21, 3) := dk_180 0 21 (dk_at dksX10_begin_1 21 rfl rfl)
theorem dX10_begin_47 : decode cX10_begin 47 = .ok (.iload 5, 2) := dk_21 5 (dk_at dksX10_begin_2 0 rfl rfl)
theorem dX10_begin_49 : decode cX10_begin 49 = .ok (.iconst 0, 1) := dk_3 (dk_at dksX10_begin_2 2 rfl rfl)
theorem dX10_begin_50 : decode cX10_begin 50 = .ok (.iastore, 1) := dk_79 (dk_at dksX10_begin_2 3 rfl rfl)
theorem dX10_begin_51 : decode cX10_begin 51 = .ok (.aload_n 0, 1) := dk_42 (dk_at dksX10_begin_2 4 rfl rfl)
theorem dX10_begin_52 : decode cX10_begin 52 = .ok (.getfield 24, 3) := dk_180 0 24 (dk_at dksX10_begin_2 5 rfl rfl)
theorem dX10_begin_55 : decode cX10_begin 55 = .ok (.iload 5, 2) := dk_21 5 (dk_at dksX10_begin_2 8 rfl rfl)
theorem dX10_begin_57 : decode cX10_begin 57 = .ok (.iconst 0, 1) := dk_3 (dk_at dksX10_begin_2 10 rfl rfl)
theorem dX10_begin_58 : decode cX10_begin 58 = .ok (.iastore, 1) := dk_79 (dk_at dksX10_begin_2 11 rfl rfl)
theorem dX10_begin_59 : decode cX10_begin 59 = .ok (.aload_n 0, 1) := dk_42 (dk_at dksX10_begin_2 12 rfl rfl)
theorem dX10_begin_60 : decode cX10_begin 60 = .ok (.getfield 27, 3) := dk_180 0 27 (dk_at dksX10_begin_2 13 rfl rfl)
theorem dX10_begin_63 : decode cX10_begin 63 = .ok (.iload 5, 2) := dk_21 5 (dk_at dksX10_begin_2 16 rfl rfl)
theorem dX10_begin_65 : decode cX10_begin 65 = .ok (.iconst 0, 1) := dk_3 (dk_at dksX10_begin_2 18 rfl rfl)
theorem dX10_begin_66 : decode cX10_begin 66 = .ok (.iastore, 1) := dk_79 (dk_at dksX10_begin_2 19 rfl rfl)
theorem dX10_begin_67 : decode cX10_begin 67 = .ok (.iinc 5 1, 3) := dk_132 5 1 (dk_at dksX10_begin_2 20 rfl rfl)
theorem dX10_begin_70 : decode cX10_begin 70 = .ok (.goto (-58), 3) := dk_167 255 198 (dk_at dksX10_begin_3 0 rfl rfl)
theorem dX10_begin_73 : decode cX10_begin 73 = .ok (.aload_n 0, 1) := dk_42 (dk_at dksX10_begin_3 3 rfl rfl)
theorem dX10_begin_74 : decode cX10_begin 74 = .ok (.aload_n 1, 1) := dk_43 (dk_at dksX10_begin_3 4 rfl rfl)
theorem dX10_begin_75 : decode cX10_begin 75 = .ok (.getfield 42, 3) := dk_180 0 42 (dk_at dksX10_begin_3 5 rfl rfl)
theorem dX10_begin_78 : decode cX10_begin 78 = .ok (.putfield 47, 3) := dk_181 0 47 (dk_at dksX10_begin_3 8 rfl rfl)
theorem dX10_begin_81 : decode cX10_begin 81 = .ok (.aload_n 0, 1) := dk_42 (dk_at dksX10_begin_3 11 rfl rfl)
theorem dX10_begin_82 : decode cX10_begin 82 = .ok (.iconst 0, 1) := dk_3 (dk_at dksX10_begin_3 12 rfl rfl)
theorem dX10_begin_83 : decode cX10_begin 83 = .ok (.putfield 50, 3) := dk_181 0 50 (dk_at dksX10_begin_3 13 rfl rfl)
theorem dX10_begin_86 : decode cX10_begin 86 = .ok (.aload_n 0, 1) := dk_42 (dk_at dksX10_begin_3 16 rfl rfl)
theorem dX10_begin_87 : decode cX10_begin 87 = .ok (.iconst 0, 1) := dk_3 (dk_at dksX10_begin_3 17 rfl rfl)
theorem dX10_begin_88 : decode cX10_begin 88 = .ok (.putfield 53, 3) := dk_181 0 53 (dk_at dksX10_begin_3 18 rfl rfl)
theorem dX10_begin_91 : decode cX10_begin 91 = .ok (.aload_n 0, 1) := dk_42 (dk_at dksX10_begin_3 21 rfl rfl)
theorem dX10_begin_92 : decode cX10_begin 92 = .ok (.iconst 0, 1) := dk_3 (dk_at dksX10_begin_3 22 rfl rfl)
theorem dX10_begin_93 : decode cX10_begin 93 = .ok (.putfield 56, 3) := dk_181 0 56 (dk_at dksX10_begin_4 0 rfl rfl)
theorem dX10_begin_96 : decode cX10_begin 96 = .ok (.aload_n 0, 1) := dk_42 (dk_at dksX10_begin_4 3 rfl rfl)
theorem dX10_begin_97 : decode cX10_begin 97 = .ok (.iconst 0, 1) := dk_3 (dk_at dksX10_begin_4 4 rfl rfl)
theorem dX10_begin_98 : decode cX10_begin 98 = .ok (.putfield 59, 3) := dk_181 0 59 (dk_at dksX10_begin_4 5 rfl rfl)
theorem dX10_begin_101 : decode cX10_begin 101 = .ok (.return_, 1) := dk_177 (dk_at dksX10_begin_4 8 rfl rfl)
abbrev cX10_ticks : ByteArray := prog_14_method_5_code
def yX10_ticks : MethodName := ⟨RX10, "ticks", "()V"⟩
def dkwX10_ticks_8 : List UInt8 := [167, 255, 224, 177]
abbrev dktX10_ticks_8 : List UInt8 := dkwX10_ticks_8 ++ []
def dkwX10_ticks_7 : List UInt8 := [42, 180, 0, 27, 27, 42, 180, 0, 27, 27, 46, 42, 180, 0, 21, 27, 46, 184, 0, 95, 79, 132, 1, 1]
abbrev dktX10_ticks_7 : List UInt8 := dkwX10_ticks_7 ++ dktX10_ticks_8
def dkwX10_ticks_6 : List UInt8 := [158, 0, 8, 42, 27, 182, 0, 110, 132, 1, 255, 167, 255, 172, 4, 60, 27, 42, 180, 0, 69, 162, 0, 30]
abbrev dktX10_ticks_6 : List UInt8 := dkwX10_ticks_6 ++ dktX10_ticks_7
def dkwX10_ticks_5 : List UInt8 := [180, 0, 47, 158, 0, 27, 42, 180, 0, 107, 158, 0, 20, 167, 0, 12, 42, 180, 0, 21, 27, 46]
abbrev dktX10_ticks_5 : List UInt8 := dkwX10_ticks_5 ++ dktX10_ticks_6
def dkwX10_ticks_4 : List UInt8 := [154, 0, 8, 42, 27, 182, 0, 103, 42, 180, 0, 15, 27, 46, 154, 0, 38, 27, 154, 0, 20, 42]
abbrev dktX10_ticks_4 : List UInt8 := dkwX10_ticks_4 ++ dktX10_ticks_5
def dkwX10_ticks_3 : List UInt8 := [180, 0, 15, 27, 46, 158, 0, 27, 42, 180, 0, 15, 27, 92, 46, 4, 100, 79, 42, 180, 0, 15, 27, 46]
abbrev dktX10_ticks_3 : List UInt8 := dkwX10_ticks_3 ++ dktX10_ticks_4
def dkwX10_ticks_2 : List UInt8 := [180, 0, 47, 4, 96, 181, 0, 47, 167, 255, 200, 42, 180, 0, 69, 4, 100, 60, 27, 155, 0, 86, 42]
abbrev dktX10_ticks_2 : List UInt8 := dkwX10_ticks_2 ++ dktX10_ticks_3
def dkwX10_ticks_1 : List UInt8 := [42, 180, 0, 50, 4, 96, 16, 30, 112, 181, 0, 50, 42, 89, 180, 0, 53, 4, 100, 181, 0, 53, 42, 89]
abbrev dktX10_ticks_1 : List UInt8 := dkwX10_ticks_1 ++ dktX10_ticks_2
def dkwX10_ticks_0 : List UInt8 := [42, 180, 0, 53, 158, 0, 55, 42, 180, 0, 35, 42, 180, 0, 50, 46, 42, 180, 0, 100, 160, 0, 39, 42]
abbrev dktX10_ticks_0 : List UInt8 := dkwX10_ticks_0 ++ dktX10_ticks_1
theorem dksX10_ticks_0 : cX10_ticks.data.toList.drop 0 = dktX10_ticks_0 := by decide +kernel
theorem dksX10_ticks_1 : cX10_ticks.data.toList.drop 24 = dktX10_ticks_1 := dk_seg dksX10_ticks_0 24 rfl rfl
theorem dksX10_ticks_2 : cX10_ticks.data.toList.drop 48 = dktX10_ticks_2 := dk_seg dksX10_ticks_1 24 rfl rfl
theorem dksX10_ticks_3 : cX10_ticks.data.toList.drop 71 = dktX10_ticks_3 := dk_seg dksX10_ticks_2 23 rfl rfl
theorem dksX10_ticks_4 : cX10_ticks.data.toList.drop 95 = dktX10_ticks_4 := dk_seg dksX10_ticks_3 24 rfl rfl
theorem dksX10_ticks_5 : cX10_ticks.data.toList.drop 117 = dktX10_ticks_5 := dk_seg dksX10_ticks_4 22 rfl rfl
theorem dksX10_ticks_6 : cX10_ticks.data.toList.drop 139 = dktX10_ticks_6 := dk_seg dksX10_ticks_5 22 rfl rfl
theorem dksX10_ticks_7 : cX10_ticks.data.toList.drop 163 = dktX10_ticks_7 := dk_seg dksX10_ticks_6 24 rfl rfl
theorem dksX10_ticks_8 : cX10_ticks.data.toList.drop 187 = dktX10_ticks_8 := dk_seg dksX10_ticks_7 24 rfl rfl
theorem dX10_ticks_0 : decode cX10_ticks 0 = .ok (.aload_n 0, 1) := dk_42 (dk_at dksX10_ticks_0 0 rfl rfl)
theorem dX10_ticks_1 : decode cX10_ticks 1 = .ok (.getfield 53, 3) := dk_180 0 53 (dk_at dksX10_ticks_0 1 rfl rfl)
theorem dX10_ticks_4 : decode cX10_ticks 4 = .ok (.ifCond .le 55, 3) := dk_158 0 55 (dk_at dksX10_ticks_0 4 rfl rfl)
theorem dX10_ticks_7 : decode cX10_ticks 7 = .ok (.aload_n 0, 1) := dk_42 (dk_at dksX10_ticks_0 7 rfl rfl)
theorem dX10_ticks_8 : decode cX10_ticks 8 = .ok (.getfield 35, 3) := dk_180 0 35 (dk_at dksX10_ticks_0 8 rfl rfl)
theorem dX10_ticks_11 : decode cX10_ticks 11 = .ok (.aload_n 0, 1) := dk_42 (dk_at dksX10_ticks_0 11 rfl rfl)
theorem dX10_ticks_12 : decode cX10_ticks 12 = .ok (.getfield 50, 3) := dk_180 0 50 (dk_at dksX10_ticks_0 12 rfl rfl)
theorem dX10_ticks_15 : decode cX10_ticks 15 = .ok (.iaload, 1) := dk_46 (dk_at dksX10_ticks_0 15 rfl rfl)
theorem dX10_ticks_16 : decode cX10_ticks 16 = .ok (.aload_n 0, 1) := dk_42 (dk_at dksX10_ticks_0 16 rfl rfl)
theorem dX10_ticks_17 : decode cX10_ticks 17 = .ok (.getfield 100, 3) := dk_180 0 100 (dk_at dksX10_ticks_0 17 rfl rfl)
theorem dX10_ticks_20 : decode cX10_ticks 20 = .ok (.if_icmp .ne 39, 3) := dk_160 0 39 (dk_at dksX10_ticks_0 20 rfl rfl)
theorem dX10_ticks_23 : decode cX10_ticks 23 = .ok (.aload_n 0, 1) := dk_42 (dk_at dksX10_ticks_0 23 rfl rfl)
theorem dX10_ticks_24 : decode cX10_ticks 24 = .ok (.aload_n 0, 1) := dk_42 (dk_at dksX10_ticks_1 0 rfl rfl)
theorem dX10_ticks_25 : decode cX10_ticks 25 = .ok (.getfield 50, 3) := dk_180 0 50 (dk_at dksX10_ticks_1 1 rfl rfl)
theorem dX10_ticks_28 : decode cX10_ticks 28 = .ok (.iconst 1, 1) := dk_4 (dk_at dksX10_ticks_1 4 rfl rfl)
theorem dX10_ticks_29 : decode cX10_ticks 29 = .ok (.iadd, 1) := dk_96 (dk_at dksX10_ticks_1 5 rfl rfl)
theorem dX10_ticks_30 : decode cX10_ticks 30 = .ok (.bipush 30, 2) := dk_16 30 (dk_at dksX10_ticks_1 6 rfl rfl)
theorem dX10_ticks_32 : decode cX10_ticks 32 = .ok (.irem, 1) := dk_112 (dk_at dksX10_ticks_1 8 rfl rfl)
theorem dX10_ticks_33 : decode cX10_ticks 33 = .ok (.putfield 50, 3) := dk_181 0 50 (dk_at dksX10_ticks_1 9 rfl rfl)
theorem dX10_ticks_36 : decode cX10_ticks 36 = .ok (.aload_n 0, 1) := dk_42 (dk_at dksX10_ticks_1 12 rfl rfl)
theorem dX10_ticks_37 : decode cX10_ticks 37 = .ok (.dup, 1) := dk_89 (dk_at dksX10_ticks_1 13 rfl rfl)
theorem dX10_ticks_38 : decode cX10_ticks 38 = .ok (.getfield 53, 3) := dk_180 0 53 (dk_at dksX10_ticks_1 14 rfl rfl)
theorem dX10_ticks_41 : decode cX10_ticks 41 = .ok (.iconst 1, 1) := dk_4 (dk_at dksX10_ticks_1 17 rfl rfl)
theorem dX10_ticks_42 : decode cX10_ticks 42 = .ok (.isub, 1) := dk_100 (dk_at dksX10_ticks_1 18 rfl rfl)
theorem dX10_ticks_43 : decode cX10_ticks 43 = .ok (.putfield 53, 3) := dk_181 0 53 (dk_at dksX10_ticks_1 19 rfl rfl)
theorem dX10_ticks_46 : decode cX10_ticks 46 = .ok (.aload_n 0, 1) := dk_42 (dk_at dksX10_ticks_1 22 rfl rfl)
theorem dX10_ticks_47 : decode cX10_ticks 47 = .ok (.dup, 1) := dk_89 (dk_at dksX10_ticks_1 23 rfl rfl)
theorem dX10_ticks_48 : decode cX10_ticks 48 = .ok (.getfield 47, 3) := dk_180 0 47 (dk_at dksX10_ticks_2 0 rfl rfl)
theorem dX10_ticks_51 : decode cX10_ticks 51 = .ok (.iconst 1, 1) := dk_4 (dk_at dksX10_ticks_2 3 rfl rfl)
theorem dX10_ticks_52 : decode cX10_ticks 52 = .ok (.iadd, 1) := dk_96 (dk_at dksX10_ticks_2 4 rfl rfl)
theorem dX10_ticks_53 : decode cX10_ticks 53 = .ok (.putfield 47, 3) := dk_181 0 47 (dk_at dksX10_ticks_2 5 rfl rfl)
theorem dX10_ticks_56 : decode cX10_ticks 56 = .ok (.goto (-56), 3) := dk_167 255 200 (dk_at dksX10_ticks_2 8 rfl rfl)
theorem dX10_ticks_59 : decode cX10_ticks 59 = .ok (.aload_n 0, 1) := dk_42 (dk_at dksX10_ticks_2 11 rfl rfl)
theorem dX10_ticks_60 : decode cX10_ticks 60 = .ok (.getfield 69, 3) := dk_180 0 69 (dk_at dksX10_ticks_2 12 rfl rfl)
theorem dX10_ticks_63 : decode cX10_ticks 63 = .ok (.iconst 1, 1) := dk_4 (dk_at dksX10_ticks_2 15 rfl rfl)
theorem dX10_ticks_64 : decode cX10_ticks 64 = .ok (.isub, 1) := dk_100 (dk_at dksX10_ticks_2 16 rfl rfl)
theorem dX10_ticks_65 : decode cX10_ticks 65 = .ok (.istore_n 1, 1) := dk_60 (dk_at dksX10_ticks_2 17 rfl rfl)
theorem dX10_ticks_66 : decode cX10_ticks 66 = .ok (.iload_n 1, 1) := dk_27 (dk_at dksX10_ticks_2 18 rfl rfl)
theorem dX10_ticks_67 : decode cX10_ticks 67 = .ok (.ifCond .lt 86, 3) := dk_155 0 86 (dk_at dksX10_ticks_2 19 rfl rfl)
theorem dX10_ticks_70 : decode cX10_ticks 70 = .ok (.aload_n 0, 1) := dk_42 (dk_at dksX10_ticks_2 22 rfl rfl)
theorem dX10_ticks_71 : decode cX10_ticks 71 = .ok (.getfield 15, 3) := dk_180 0 15 (dk_at dksX10_ticks_3 0 rfl rfl)
theorem dX10_ticks_74 : decode cX10_ticks 74 = .ok (.iload_n 1, 1) := dk_27 (dk_at dksX10_ticks_3 3 rfl rfl)
theorem dX10_ticks_75 : decode cX10_ticks 75 = .ok (.iaload, 1) := dk_46 (dk_at dksX10_ticks_3 4 rfl rfl)
theorem dX10_ticks_76 : decode cX10_ticks 76 = .ok (.ifCond .le 27, 3) := dk_158 0 27 (dk_at dksX10_ticks_3 5 rfl rfl)
theorem dX10_ticks_79 : decode cX10_ticks 79 = .ok (.aload_n 0, 1) := dk_42 (dk_at dksX10_ticks_3 8 rfl rfl)
theorem dX10_ticks_80 : decode cX10_ticks 80 = .ok (.getfield 15, 3) := dk_180 0 15 (dk_at dksX10_ticks_3 9 rfl rfl)
theorem dX10_ticks_83 : decode cX10_ticks 83 = .ok (.iload_n 1, 1) := dk_27 (dk_at dksX10_ticks_3 12 rfl rfl)
theorem dX10_ticks_84 : decode cX10_ticks 84 = .ok (.dup2, 1) := dk_92 (dk_at dksX10_ticks_3 13 rfl rfl)
theorem dX10_ticks_85 : decode cX10_ticks 85 = .ok (.iaload, 1) := dk_46 (dk_at dksX10_ticks_3 14 rfl rfl)
theorem dX10_ticks_86 : decode cX10_ticks 86 = .ok (.iconst 1, 1) := dk_4 (dk_at dksX10_ticks_3 15 rfl rfl)
theorem dX10_ticks_87 : decode cX10_ticks 87 = .ok (.isub, 1) := dk_100 (dk_at dksX10_ticks_3 16 rfl rfl)
theorem dX10_ticks_88 : decode cX10_ticks 88 = .ok (.iastore, 1) := dk_79 (dk_at dksX10_ticks_3 17 rfl rfl)
theorem dX10_ticks_89 : decode cX10_ticks 89 = .ok (.aload_n 0, 1) := dk_42 (dk_at dksX10_ticks_3 18 rfl rfl)
theorem dX10_ticks_90 : decode cX10_ticks 90 = .ok (.getfield 15, 3) := dk_180 0 15 (dk_at dksX10_ticks_3 19 rfl rfl)
theorem dX10_ticks_93 : decode cX10_ticks 93 = .ok (.iload_n 1, 1) := dk_27 (dk_at dksX10_ticks_3 22 rfl rfl)
theorem dX10_ticks_94 : decode cX10_ticks 94 = .ok (.iaload, 1) := dk_46 (dk_at dksX10_ticks_3 23 rfl rfl)
theorem dX10_ticks_95 : decode cX10_ticks 95 = .ok (.ifCond .ne 8, 3) := dk_154 0 8 (dk_at dksX10_ticks_4 0 rfl rfl)
theorem dX10_ticks_98 : decode cX10_ticks 98 = .ok (.aload_n 0, 1) := dk_42 (dk_at dksX10_ticks_4 3 rfl rfl)
theorem dX10_ticks_99 : decode cX10_ticks 99 = .ok (.iload_n 1, 1) := dk_27 (dk_at dksX10_ticks_4 4 rfl rfl)
theorem dX10_ticks_100 : decode cX10_ticks 100 = .ok (.invokevirtual 103, 3) := dk_182 0 103 (dk_at dksX10_ticks_4 5 rfl rfl)
theorem dX10_ticks_103 : decode cX10_ticks 103 = .ok (.aload_n 0, 1) := dk_42 (dk_at dksX10_ticks_4 8 rfl rfl)
theorem dX10_ticks_104 : decode cX10_ticks 104 = .ok (.getfield 15, 3) := dk_180 0 15 (dk_at dksX10_ticks_4 9 rfl rfl)
theorem dX10_ticks_107 : decode cX10_ticks 107 = .ok (.iload_n 1, 1) := dk_27 (dk_at dksX10_ticks_4 12 rfl rfl)
theorem dX10_ticks_108 : decode cX10_ticks 108 = .ok (.iaload, 1) := dk_46 (dk_at dksX10_ticks_4 13 rfl rfl)
theorem dX10_ticks_109 : decode cX10_ticks 109 = .ok (.ifCond .ne 38, 3) := dk_154 0 38 (dk_at dksX10_ticks_4 14 rfl rfl)
theorem dX10_ticks_112 : decode cX10_ticks 112 = .ok (.iload_n 1, 1) := dk_27 (dk_at dksX10_ticks_4 17 rfl rfl)
theorem dX10_ticks_113 : decode cX10_ticks 113 = .ok (.ifCond .ne 20, 3) := dk_154 0 20 (dk_at dksX10_ticks_4 18 rfl rfl)
theorem dX10_ticks_116 : decode cX10_ticks 116 = .ok (.aload_n 0, 1) := dk_42 (dk_at dksX10_ticks_4 21 rfl rfl)
theorem dX10_ticks_117 : decode cX10_ticks 117 = .ok (.getfield 47, 3) := dk_180 0 47 (dk_at dksX10_ticks_5 0 rfl rfl)
theorem dX10_ticks_120 : decode cX10_ticks 120 = .ok (.ifCond .le 27, 3) := dk_158 0 27 (dk_at dksX10_ticks_5 3 rfl rfl)
theorem dX10_ticks_123 : decode cX10_ticks 123 = .ok (.aload_n 0, 1) := dk_42 (dk_at dksX10_ticks_5 6 rfl rfl)
theorem dX10_ticks_124 : decode cX10_ticks 124 = .ok (.getfield 107, 3) := dk_180 0 107 (dk_at dksX10_ticks_5 7 rfl rfl)
theorem dX10_ticks_127 : decode cX10_ticks 127 = .ok (.ifCond .le 20, 3) := dk_158 0 20 (dk_at dksX10_ticks_5 10 rfl rfl)
theorem dX10_ticks_130 : decode cX10_ticks 130 = .ok (.goto 12, 3) := dk_167 0 12 (dk_at dksX10_ticks_5 13 rfl rfl)
theorem dX10_ticks_133 : decode cX10_ticks 133 = .ok (.aload_n 0, 1) := dk_42 (dk_at dksX10_ticks_5 16 rfl rfl)
theorem dX10_ticks_134 : decode cX10_ticks 134 = .ok (.getfield 21, 3) := dk_180 0 21 (dk_at dksX10_ticks_5 17 rfl rfl)
theorem dX10_ticks_137 : decode cX10_ticks 137 = .ok (.iload_n 1, 1) := dk_27 (dk_at dksX10_ticks_5 20 rfl rfl)
theorem dX10_ticks_138 : decode cX10_ticks 138 = .ok (.iaload, 1) := dk_46 (dk_at dksX10_ticks_5 21 rfl rfl)
theorem dX10_ticks_139 : decode cX10_ticks 139 = .ok (.ifCond .le 8, 3) := dk_158 0 8 (dk_at dksX10_ticks_6 0 rfl rfl)
theorem dX10_ticks_142 : decode cX10_ticks 142 = .ok (.aload_n 0, 1) := dk_42 (dk_at dksX10_ticks_6 3 rfl rfl)
theorem dX10_ticks_143 : decode cX10_ticks 143 = .ok (.iload_n 1, 1) := dk_27 (dk_at dksX10_ticks_6 4 rfl rfl)
theorem dX10_ticks_144 : decode cX10_ticks 144 = .ok (.invokevirtual 110, 3) := dk_182 0 110 (dk_at dksX10_ticks_6 5 rfl rfl)
theorem dX10_ticks_147 : decode cX10_ticks 147 = .ok (.iinc 1 (-1), 3) := dk_132 1 255 (dk_at dksX10_ticks_6 8 rfl rfl)
theorem dX10_ticks_150 : decode cX10_ticks 150 = .ok (.goto (-84), 3) := dk_167 255 172 (dk_at dksX10_ticks_6 11 rfl rfl)
theorem dX10_ticks_153 : decode cX10_ticks 153 = .ok (.iconst 1, 1) := dk_4 (dk_at dksX10_ticks_6 14 rfl rfl)
theorem dX10_ticks_154 : decode cX10_ticks 154 = .ok (.istore_n 1, 1) := dk_60 (dk_at dksX10_ticks_6 15 rfl rfl)
theorem dX10_ticks_155 : decode cX10_ticks 155 = .ok (.iload_n 1, 1) := dk_27 (dk_at dksX10_ticks_6 16 rfl rfl)
theorem dX10_ticks_156 : decode cX10_ticks 156 = .ok (.aload_n 0, 1) := dk_42 (dk_at dksX10_ticks_6 17 rfl rfl)
theorem dX10_ticks_157 : decode cX10_ticks 157 = .ok (.getfield 69, 3) := dk_180 0 69 (dk_at dksX10_ticks_6 18 rfl rfl)
theorem dX10_ticks_160 : decode cX10_ticks 160 = .ok (.if_icmp .ge 30, 3) := dk_162 0 30 (dk_at dksX10_ticks_6 21 rfl rfl)
theorem dX10_ticks_163 : decode cX10_ticks 163 = .ok (.aload_n 0, 1) := dk_42 (dk_at dksX10_ticks_7 0 rfl rfl)
theorem dX10_ticks_164 : decode cX10_ticks 164 = .ok (.getfield 27, 3) := dk_180 0 27 (dk_at dksX10_ticks_7 1 rfl rfl)
theorem dX10_ticks_167 : decode cX10_ticks 167 = .ok (.iload_n 1, 1) := dk_27 (dk_at dksX10_ticks_7 4 rfl rfl)
theorem dX10_ticks_168 : decode cX10_ticks 168 = .ok (.aload_n 0, 1) := dk_42 (dk_at dksX10_ticks_7 5 rfl rfl)
theorem dX10_ticks_169 : decode cX10_ticks 169 = .ok (.getfield 27, 3) := dk_180 0 27 (dk_at dksX10_ticks_7 6 rfl rfl)
theorem dX10_ticks_172 : decode cX10_ticks 172 = .ok (.iload_n 1, 1) := dk_27 (dk_at dksX10_ticks_7 9 rfl rfl)
theorem dX10_ticks_173 : decode cX10_ticks 173 = .ok (.iaload, 1) := dk_46 (dk_at dksX10_ticks_7 10 rfl rfl)
theorem dX10_ticks_174 : decode cX10_ticks 174 = .ok (.aload_n 0, 1) := dk_42 (dk_at dksX10_ticks_7 11 rfl rfl)
theorem dX10_ticks_175 : decode cX10_ticks 175 = .ok (.getfield 21, 3) := dk_180 0 21 (dk_at dksX10_ticks_7 12 rfl rfl)
theorem dX10_ticks_178 : decode cX10_ticks 178 = .ok (.iload_n 1, 1) := dk_27 (dk_at dksX10_ticks_7 15 rfl rfl)
theorem dX10_ticks_179 : decode cX10_ticks 179 = .ok (.iaload, 1) := dk_46 (dk_at dksX10_ticks_7 16 rfl rfl)
theorem dX10_ticks_180 : decode cX10_ticks 180 = .ok (.invokestatic 95, 3) := dk_184 0 95 (dk_at dksX10_ticks_7 17 rfl rfl)
theorem dX10_ticks_183 : decode cX10_ticks 183 = .ok (.iastore, 1) := dk_79 (dk_at dksX10_ticks_7 20 rfl rfl)
theorem dX10_ticks_184 : decode cX10_ticks 184 = .ok (.iinc 1 1, 3) := dk_132 1 1 (dk_at dksX10_ticks_7 21 rfl rfl)
theorem dX10_ticks_187 : decode cX10_ticks 187 = .ok (.goto (-32), 3) := dk_167 255 224 (dk_at dksX10_ticks_8 0 rfl rfl)
theorem dX10_ticks_190 : decode cX10_ticks 190 = .ok (.return_, 1) := dk_177 (dk_at dksX10_ticks_8 3 rfl rfl)
abbrev cX10_ends : ByteArray := prog_14_method_6_code
def yX10_ends : MethodName := ⟨RX10, "ends", "(I)V"⟩
def dkwX10_ends_6 : List UInt8 := [46, 28, 100, 79, 42, 180, 0, 21, 27, 4, 96, 92, 46, 4, 96, 79, 177]
abbrev dktX10_ends_6 : List UInt8 := dkwX10_ends_6 ++ []
def dkwX10_ends_5 : List UInt8 := [180, 0, 24, 27, 4, 96, 46, 42, 180, 0, 21, 27, 4, 96, 46, 96, 16, 30, 112, 42, 180, 0, 18, 27]
abbrev dktX10_ends_5 : List UInt8 := dkwX10_ends_5 ++ dktX10_ends_6
def dkwX10_ends_4 : List UInt8 := [16, 100, 108, 61, 42, 89, 180, 0, 59, 28, 96, 181, 0, 59, 42, 180, 0, 32, 27, 4, 96, 50, 42]
abbrev dktX10_ends_4 : List UInt8 := dkwX10_ends_4 ++ dktX10_ends_5
def dkwX10_ends_3 : List UInt8 := [180, 0, 53, 4, 96, 181, 0, 53, 177, 42, 180, 0, 18, 27, 46, 42, 180, 0, 62, 180, 0, 117, 104]
abbrev dktX10_ends_3 : List UInt8 := dkwX10_ends_3 ++ dktX10_ends_4
def dkwX10_ends_2 : List UInt8 := [180, 0, 53, 96, 16, 30, 112, 42, 180, 0, 100, 42, 180, 0, 62, 180, 0, 114, 96, 79, 42, 89]
abbrev dktX10_ends_2 : List UInt8 := dkwX10_ends_2 ++ dktX10_ends_3
def dkwX10_ends_1 : List UInt8 := [180, 0, 113, 42, 180, 0, 18, 27, 46, 96, 181, 0, 113, 42, 180, 0, 35, 42, 180, 0, 50, 42]
abbrev dktX10_ends_1 : List UInt8 := dkwX10_ends_1 ++ dktX10_ends_2
def dkwX10_ends_0 : List UInt8 := [42, 180, 0, 9, 27, 92, 46, 4, 96, 79, 27, 42, 180, 0, 69, 4, 100, 160, 0, 58, 42, 89]
abbrev dktX10_ends_0 : List UInt8 := dkwX10_ends_0 ++ dktX10_ends_1
theorem dksX10_ends_0 : cX10_ends.data.toList.drop 0 = dktX10_ends_0 := by decide +kernel
theorem dksX10_ends_1 : cX10_ends.data.toList.drop 22 = dktX10_ends_1 := dk_seg dksX10_ends_0 22 rfl rfl
theorem dksX10_ends_2 : cX10_ends.data.toList.drop 44 = dktX10_ends_2 := dk_seg dksX10_ends_1 22 rfl rfl
theorem dksX10_ends_3 : cX10_ends.data.toList.drop 66 = dktX10_ends_3 := dk_seg dksX10_ends_2 22 rfl rfl
theorem dksX10_ends_4 : cX10_ends.data.toList.drop 89 = dktX10_ends_4 := dk_seg dksX10_ends_3 23 rfl rfl
theorem dksX10_ends_5 : cX10_ends.data.toList.drop 112 = dktX10_ends_5 := dk_seg dksX10_ends_4 23 rfl rfl
theorem dksX10_ends_6 : cX10_ends.data.toList.drop 136 = dktX10_ends_6 := dk_seg dksX10_ends_5 24 rfl rfl
theorem dX10_ends_0 : decode cX10_ends 0 = .ok (.aload_n 0, 1) := dk_42 (dk_at dksX10_ends_0 0 rfl rfl)
theorem dX10_ends_1 : decode cX10_ends 1 = .ok (.getfield 9, 3) := dk_180 0 9 (dk_at dksX10_ends_0 1 rfl rfl)
theorem dX10_ends_4 : decode cX10_ends 4 = .ok (.iload_n 1, 1) := dk_27 (dk_at dksX10_ends_0 4 rfl rfl)
theorem dX10_ends_5 : decode cX10_ends 5 = .ok (.dup2, 1) := dk_92 (dk_at dksX10_ends_0 5 rfl rfl)
theorem dX10_ends_6 : decode cX10_ends 6 = .ok (.iaload, 1) := dk_46 (dk_at dksX10_ends_0 6 rfl rfl)
theorem dX10_ends_7 : decode cX10_ends 7 = .ok (.iconst 1, 1) := dk_4 (dk_at dksX10_ends_0 7 rfl rfl)
theorem dX10_ends_8 : decode cX10_ends 8 = .ok (.iadd, 1) := dk_96 (dk_at dksX10_ends_0 8 rfl rfl)
theorem dX10_ends_9 : decode cX10_ends 9 = .ok (.iastore, 1) := dk_79 (dk_at dksX10_ends_0 9 rfl rfl)
theorem dX10_ends_10 : decode cX10_ends 10 = .ok (.iload_n 1, 1) := dk_27 (dk_at dksX10_ends_0 10 rfl rfl)
theorem dX10_ends_11 : decode cX10_ends 11 = .ok (.aload_n 0, 1) := dk_42 (dk_at dksX10_ends_0 11 rfl rfl)
theorem dX10_ends_12 : decode cX10_ends 12 = .ok (.getfield 69, 3) := dk_180 0 69 (dk_at dksX10_ends_0 12 rfl rfl)
theorem dX10_ends_15 : decode cX10_ends 15 = .ok (.iconst 1, 1) := dk_4 (dk_at dksX10_ends_0 15 rfl rfl)
theorem dX10_ends_16 : decode cX10_ends 16 = .ok (.isub, 1) := dk_100 (dk_at dksX10_ends_0 16 rfl rfl)
theorem dX10_ends_17 : decode cX10_ends 17 = .ok (.if_icmp .ne 58, 3) := dk_160 0 58 (dk_at dksX10_ends_0 17 rfl rfl)
theorem dX10_ends_20 : decode cX10_ends 20 = .ok (.aload_n 0, 1) := dk_42 (dk_at dksX10_ends_0 20 rfl rfl)
theorem dX10_ends_21 : decode cX10_ends 21 = .ok (.dup, 1) := dk_89 (dk_at dksX10_ends_0 21 rfl rfl)
theorem dX10_ends_22 : decode cX10_ends 22 = .ok (.getfield 113, 3) := dk_180 0 113 (dk_at dksX10_ends_1 0 rfl rfl)
theorem dX10_ends_25 : decode cX10_ends 25 = .ok (.aload_n 0, 1) := dk_42 (dk_at dksX10_ends_1 3 rfl rfl)
theorem dX10_ends_26 : decode cX10_ends 26 = .ok (.getfield 18, 3) := dk_180 0 18 (dk_at dksX10_ends_1 4 rfl rfl)
theorem dX10_ends_29 : decode cX10_ends 29 = .ok (.iload_n 1, 1) := dk_27 (dk_at dksX10_ends_1 7 rfl rfl)
theorem dX10_ends_30 : decode cX10_ends 30 = .ok (.iaload, 1) := dk_46 (dk_at dksX10_ends_1 8 rfl rfl)
theorem dX10_ends_31 : decode cX10_ends 31 = .ok (.iadd, 1) := dk_96 (dk_at dksX10_ends_1 9 rfl rfl)
theorem dX10_ends_32 : decode cX10_ends 32 = .ok (.putfield 113, 3) := dk_181 0 113 (dk_at dksX10_ends_1 10 rfl rfl)
theorem dX10_ends_35 : decode cX10_ends 35 = .ok (.aload_n 0, 1) := dk_42 (dk_at dksX10_ends_1 13 rfl rfl)
theorem dX10_ends_36 : decode cX10_ends 36 = .ok (.getfield 35, 3) := dk_180 0 35 (dk_at dksX10_ends_1 14 rfl rfl)
theorem dX10_ends_39 : decode cX10_ends 39 = .ok (.aload_n 0, 1) := dk_42 (dk_at dksX10_ends_1 17 rfl rfl)
theorem dX10_ends_40 : decode cX10_ends 40 = .ok (.getfield 50, 3) := dk_180 0 50 (dk_at dksX10_ends_1 18 rfl rfl)
theorem dX10_ends_43 : decode cX10_ends 43 = .ok (.aload_n 0, 1) := dk_42 (dk_at dksX10_ends_1 21 rfl rfl)
theorem dX10_ends_44 : decode cX10_ends 44 = .ok (.getfield 53, 3) := dk_180 0 53 (dk_at dksX10_ends_2 0 rfl rfl)
theorem dX10_ends_47 : decode cX10_ends 47 = .ok (.iadd, 1) := dk_96 (dk_at dksX10_ends_2 3 rfl rfl)
theorem dX10_ends_48 : decode cX10_ends 48 = .ok (.bipush 30, 2) := dk_16 30 (dk_at dksX10_ends_2 4 rfl rfl)
theorem dX10_ends_50 : decode cX10_ends 50 = .ok (.irem, 1) := dk_112 (dk_at dksX10_ends_2 6 rfl rfl)
theorem dX10_ends_51 : decode cX10_ends 51 = .ok (.aload_n 0, 1) := dk_42 (dk_at dksX10_ends_2 7 rfl rfl)
theorem dX10_ends_52 : decode cX10_ends 52 = .ok (.getfield 100, 3) := dk_180 0 100 (dk_at dksX10_ends_2 8 rfl rfl)
theorem dX10_ends_55 : decode cX10_ends 55 = .ok (.aload_n 0, 1) := dk_42 (dk_at dksX10_ends_2 11 rfl rfl)
theorem dX10_ends_56 : decode cX10_ends 56 = .ok (.getfield 62, 3) := dk_180 0 62 (dk_at dksX10_ends_2 12 rfl rfl)
theorem dX10_ends_59 : decode cX10_ends 59 = .ok (.getfield 114, 3) := dk_180 0 114 (dk_at dksX10_ends_2 15 rfl rfl)
theorem dX10_ends_62 : decode cX10_ends 62 = .ok (.iadd, 1) := dk_96 (dk_at dksX10_ends_2 18 rfl rfl)
theorem dX10_ends_63 : decode cX10_ends 63 = .ok (.iastore, 1) := dk_79 (dk_at dksX10_ends_2 19 rfl rfl)
theorem dX10_ends_64 : decode cX10_ends 64 = .ok (.aload_n 0, 1) := dk_42 (dk_at dksX10_ends_2 20 rfl rfl)
theorem dX10_ends_65 : decode cX10_ends 65 = .ok (.dup, 1) := dk_89 (dk_at dksX10_ends_2 21 rfl rfl)
theorem dX10_ends_66 : decode cX10_ends 66 = .ok (.getfield 53, 3) := dk_180 0 53 (dk_at dksX10_ends_3 0 rfl rfl)
theorem dX10_ends_69 : decode cX10_ends 69 = .ok (.iconst 1, 1) := dk_4 (dk_at dksX10_ends_3 3 rfl rfl)
theorem dX10_ends_70 : decode cX10_ends 70 = .ok (.iadd, 1) := dk_96 (dk_at dksX10_ends_3 4 rfl rfl)
theorem dX10_ends_71 : decode cX10_ends 71 = .ok (.putfield 53, 3) := dk_181 0 53 (dk_at dksX10_ends_3 5 rfl rfl)
theorem dX10_ends_74 : decode cX10_ends 74 = .ok (.return_, 1) := dk_177 (dk_at dksX10_ends_3 8 rfl rfl)
theorem dX10_ends_75 : decode cX10_ends 75 = .ok (.aload_n 0, 1) := dk_42 (dk_at dksX10_ends_3 9 rfl rfl)
theorem dX10_ends_76 : decode cX10_ends 76 = .ok (.getfield 18, 3) := dk_180 0 18 (dk_at dksX10_ends_3 10 rfl rfl)
theorem dX10_ends_79 : decode cX10_ends 79 = .ok (.iload_n 1, 1) := dk_27 (dk_at dksX10_ends_3 13 rfl rfl)
theorem dX10_ends_80 : decode cX10_ends 80 = .ok (.iaload, 1) := dk_46 (dk_at dksX10_ends_3 14 rfl rfl)
theorem dX10_ends_81 : decode cX10_ends 81 = .ok (.aload_n 0, 1) := dk_42 (dk_at dksX10_ends_3 15 rfl rfl)
theorem dX10_ends_82 : decode cX10_ends 82 = .ok (.getfield 62, 3) := dk_180 0 62 (dk_at dksX10_ends_3 16 rfl rfl)
theorem dX10_ends_85 : decode cX10_ends 85 = .ok (.getfield 117, 3) := dk_180 0 117 (dk_at dksX10_ends_3 19 rfl rfl)
theorem dX10_ends_88 : decode cX10_ends 88 = .ok (.imul, 1) := dk_104 (dk_at dksX10_ends_3 22 rfl rfl)
theorem dX10_ends_89 : decode cX10_ends 89 = .ok (.bipush 100, 2) := dk_16 100 (dk_at dksX10_ends_4 0 rfl rfl)
theorem dX10_ends_91 : decode cX10_ends 91 = .ok (.idiv, 1) := dk_108 (dk_at dksX10_ends_4 2 rfl rfl)
theorem dX10_ends_92 : decode cX10_ends 92 = .ok (.istore_n 2, 1) := dk_61 (dk_at dksX10_ends_4 3 rfl rfl)
theorem dX10_ends_93 : decode cX10_ends 93 = .ok (.aload_n 0, 1) := dk_42 (dk_at dksX10_ends_4 4 rfl rfl)
theorem dX10_ends_94 : decode cX10_ends 94 = .ok (.dup, 1) := dk_89 (dk_at dksX10_ends_4 5 rfl rfl)
theorem dX10_ends_95 : decode cX10_ends 95 = .ok (.getfield 59, 3) := dk_180 0 59 (dk_at dksX10_ends_4 6 rfl rfl)
theorem dX10_ends_98 : decode cX10_ends 98 = .ok (.iload_n 2, 1) := dk_28 (dk_at dksX10_ends_4 9 rfl rfl)
theorem dX10_ends_99 : decode cX10_ends 99 = .ok (.iadd, 1) := dk_96 (dk_at dksX10_ends_4 10 rfl rfl)
theorem dX10_ends_100 : decode cX10_ends 100 = .ok (.putfield 59, 3) := dk_181 0 59 (dk_at dksX10_ends_4 11 rfl rfl)
theorem dX10_ends_103 : decode cX10_ends 103 = .ok (.aload_n 0, 1) := dk_42 (dk_at dksX10_ends_4 14 rfl rfl)
theorem dX10_ends_104 : decode cX10_ends 104 = .ok (.getfield 32, 3) := dk_180 0 32 (dk_at dksX10_ends_4 15 rfl rfl)
theorem dX10_ends_107 : decode cX10_ends 107 = .ok (.iload_n 1, 1) := dk_27 (dk_at dksX10_ends_4 18 rfl rfl)
theorem dX10_ends_108 : decode cX10_ends 108 = .ok (.iconst 1, 1) := dk_4 (dk_at dksX10_ends_4 19 rfl rfl)
theorem dX10_ends_109 : decode cX10_ends 109 = .ok (.iadd, 1) := dk_96 (dk_at dksX10_ends_4 20 rfl rfl)
theorem dX10_ends_110 : decode cX10_ends 110 = .ok (.aaload, 1) := dk_50 (dk_at dksX10_ends_4 21 rfl rfl)
theorem dX10_ends_111 : decode cX10_ends 111 = .ok (.aload_n 0, 1) := dk_42 (dk_at dksX10_ends_4 22 rfl rfl)
theorem dX10_ends_112 : decode cX10_ends 112 = .ok (.getfield 24, 3) := dk_180 0 24 (dk_at dksX10_ends_5 0 rfl rfl)
theorem dX10_ends_115 : decode cX10_ends 115 = .ok (.iload_n 1, 1) := dk_27 (dk_at dksX10_ends_5 3 rfl rfl)
theorem dX10_ends_116 : decode cX10_ends 116 = .ok (.iconst 1, 1) := dk_4 (dk_at dksX10_ends_5 4 rfl rfl)
theorem dX10_ends_117 : decode cX10_ends 117 = .ok (.iadd, 1) := dk_96 (dk_at dksX10_ends_5 5 rfl rfl)
theorem dX10_ends_118 : decode cX10_ends 118 = .ok (.iaload, 1) := dk_46 (dk_at dksX10_ends_5 6 rfl rfl)
theorem dX10_ends_119 : decode cX10_ends 119 = .ok (.aload_n 0, 1) := dk_42 (dk_at dksX10_ends_5 7 rfl rfl)
theorem dX10_ends_120 : decode cX10_ends 120 = .ok (.getfield 21, 3) := dk_180 0 21 (dk_at dksX10_ends_5 8 rfl rfl)
theorem dX10_ends_123 : decode cX10_ends 123 = .ok (.iload_n 1, 1) := dk_27 (dk_at dksX10_ends_5 11 rfl rfl)
theorem dX10_ends_124 : decode cX10_ends 124 = .ok (.iconst 1, 1) := dk_4 (dk_at dksX10_ends_5 12 rfl rfl)
theorem dX10_ends_125 : decode cX10_ends 125 = .ok (.iadd, 1) := dk_96 (dk_at dksX10_ends_5 13 rfl rfl)
theorem dX10_ends_126 : decode cX10_ends 126 = .ok (.iaload, 1) := dk_46 (dk_at dksX10_ends_5 14 rfl rfl)
theorem dX10_ends_127 : decode cX10_ends 127 = .ok (.iadd, 1) := dk_96 (dk_at dksX10_ends_5 15 rfl rfl)
theorem dX10_ends_128 : decode cX10_ends 128 = .ok (.bipush 30, 2) := dk_16 30 (dk_at dksX10_ends_5 16 rfl rfl)
theorem dX10_ends_130 : decode cX10_ends 130 = .ok (.irem, 1) := dk_112 (dk_at dksX10_ends_5 18 rfl rfl)
theorem dX10_ends_131 : decode cX10_ends 131 = .ok (.aload_n 0, 1) := dk_42 (dk_at dksX10_ends_5 19 rfl rfl)
theorem dX10_ends_132 : decode cX10_ends 132 = .ok (.getfield 18, 3) := dk_180 0 18 (dk_at dksX10_ends_5 20 rfl rfl)
theorem dX10_ends_135 : decode cX10_ends 135 = .ok (.iload_n 1, 1) := dk_27 (dk_at dksX10_ends_5 23 rfl rfl)
theorem dX10_ends_136 : decode cX10_ends 136 = .ok (.iaload, 1) := dk_46 (dk_at dksX10_ends_6 0 rfl rfl)
theorem dX10_ends_137 : decode cX10_ends 137 = .ok (.iload_n 2, 1) := dk_28 (dk_at dksX10_ends_6 1 rfl rfl)
theorem dX10_ends_138 : decode cX10_ends 138 = .ok (.isub, 1) := dk_100 (dk_at dksX10_ends_6 2 rfl rfl)
theorem dX10_ends_139 : decode cX10_ends 139 = .ok (.iastore, 1) := dk_79 (dk_at dksX10_ends_6 3 rfl rfl)
theorem dX10_ends_140 : decode cX10_ends 140 = .ok (.aload_n 0, 1) := dk_42 (dk_at dksX10_ends_6 4 rfl rfl)
theorem dX10_ends_141 : decode cX10_ends 141 = .ok (.getfield 21, 3) := dk_180 0 21 (dk_at dksX10_ends_6 5 rfl rfl)
theorem dX10_ends_144 : decode cX10_ends 144 = .ok (.iload_n 1, 1) := dk_27 (dk_at dksX10_ends_6 8 rfl rfl)
theorem dX10_ends_145 : decode cX10_ends 145 = .ok (.iconst 1, 1) := dk_4 (dk_at dksX10_ends_6 9 rfl rfl)
theorem dX10_ends_146 : decode cX10_ends 146 = .ok (.iadd, 1) := dk_96 (dk_at dksX10_ends_6 10 rfl rfl)
theorem dX10_ends_147 : decode cX10_ends 147 = .ok (.dup2, 1) := dk_92 (dk_at dksX10_ends_6 11 rfl rfl)
theorem dX10_ends_148 : decode cX10_ends 148 = .ok (.iaload, 1) := dk_46 (dk_at dksX10_ends_6 12 rfl rfl)
theorem dX10_ends_149 : decode cX10_ends 149 = .ok (.iconst 1, 1) := dk_4 (dk_at dksX10_ends_6 13 rfl rfl)
theorem dX10_ends_150 : decode cX10_ends 150 = .ok (.iadd, 1) := dk_96 (dk_at dksX10_ends_6 14 rfl rfl)
theorem dX10_ends_151 : decode cX10_ends 151 = .ok (.iastore, 1) := dk_79 (dk_at dksX10_ends_6 15 rfl rfl)
theorem dX10_ends_152 : decode cX10_ends 152 = .ok (.return_, 1) := dk_177 (dk_at dksX10_ends_6 16 rfl rfl)
abbrev cX10_starts : ByteArray := prog_14_method_7_code
def yX10_starts : MethodName := ⟨RX10, "starts", "(I)V"⟩
def dkwX10_starts_5 : List UInt8 := [46, 4, 100, 79, 177]
abbrev dktX10_starts_5 : List UInt8 := dkwX10_starts_5 ++ []
def dkwX10_starts_4 : List UInt8 := [79, 42, 180, 0, 24, 27, 42, 180, 0, 24, 27, 46, 4, 96, 16, 30, 112, 79, 42, 180, 0, 21, 27, 92]
abbrev dktX10_starts_4 : List UInt8 := dkwX10_starts_4 ++ dktX10_starts_5
def dkwX10_starts_3 : List UInt8 := [46, 96, 181, 0, 56, 177, 42, 180, 0, 18, 27, 42, 180, 0, 32, 27, 50, 42, 180, 0, 24, 27, 46, 46]
abbrev dktX10_starts_3 : List UInt8 := dkwX10_starts_3 ++ dktX10_starts_4
def dkwX10_starts_2 : List UInt8 := [100, 181, 0, 47, 42, 180, 0, 18, 27, 42, 182, 0, 123, 79, 42, 89, 180, 0, 56, 42, 180, 0, 18, 27]
abbrev dktX10_starts_2 : List UInt8 := dkwX10_starts_2 ++ dktX10_starts_3
def dkwX10_starts_1 : List UInt8 := [180, 0, 120, 104, 161, 0, 7, 5, 167, 0, 4, 4, 104, 79, 27, 154, 0, 39, 42, 89, 180, 0, 47, 4]
abbrev dktX10_starts_1 : List UInt8 := dkwX10_starts_1 ++ dktX10_starts_2
def dkwX10_starts_0 : List UInt8 := [42, 180, 0, 15, 27, 42, 27, 182, 0, 91, 42, 180, 0, 9, 27, 46, 16, 10, 42, 27, 182, 0, 76]
abbrev dktX10_starts_0 : List UInt8 := dkwX10_starts_0 ++ dktX10_starts_1
theorem dksX10_starts_0 : cX10_starts.data.toList.drop 0 = dktX10_starts_0 := by decide +kernel
theorem dksX10_starts_1 : cX10_starts.data.toList.drop 23 = dktX10_starts_1 := dk_seg dksX10_starts_0 23 rfl rfl
theorem dksX10_starts_2 : cX10_starts.data.toList.drop 47 = dktX10_starts_2 := dk_seg dksX10_starts_1 24 rfl rfl
theorem dksX10_starts_3 : cX10_starts.data.toList.drop 71 = dktX10_starts_3 := dk_seg dksX10_starts_2 24 rfl rfl
theorem dksX10_starts_4 : cX10_starts.data.toList.drop 95 = dktX10_starts_4 := dk_seg dksX10_starts_3 24 rfl rfl
theorem dksX10_starts_5 : cX10_starts.data.toList.drop 119 = dktX10_starts_5 := dk_seg dksX10_starts_4 24 rfl rfl
theorem dX10_starts_0 : decode cX10_starts 0 = .ok (.aload_n 0, 1) := dk_42 (dk_at dksX10_starts_0 0 rfl rfl)
theorem dX10_starts_1 : decode cX10_starts 1 = .ok (.getfield 15, 3) := dk_180 0 15 (dk_at dksX10_starts_0 1 rfl rfl)
theorem dX10_starts_4 : decode cX10_starts 4 = .ok (.iload_n 1, 1) := dk_27 (dk_at dksX10_starts_0 4 rfl rfl)
theorem dX10_starts_5 : decode cX10_starts 5 = .ok (.aload_n 0, 1) := dk_42 (dk_at dksX10_starts_0 5 rfl rfl)
theorem dX10_starts_6 : decode cX10_starts 6 = .ok (.iload_n 1, 1) := dk_27 (dk_at dksX10_starts_0 6 rfl rfl)
theorem dX10_starts_7 : decode cX10_starts 7 = .ok (.invokevirtual 91, 3) := dk_182 0 91 (dk_at dksX10_starts_0 7 rfl rfl)
theorem dX10_starts_10 : decode cX10_starts 10 = .ok (.aload_n 0, 1) := dk_42 (dk_at dksX10_starts_0 10 rfl rfl)
theorem dX10_starts_11 : decode cX10_starts 11 = .ok (.getfield 9, 3) := dk_180 0 9 (dk_at dksX10_starts_0 11 rfl rfl)
theorem dX10_starts_14 : decode cX10_starts 14 = .ok (.iload_n 1, 1) := dk_27 (dk_at dksX10_starts_0 14 rfl rfl)
theorem dX10_starts_15 : decode cX10_starts 15 = .ok (.iaload, 1) := dk_46 (dk_at dksX10_starts_0 15 rfl rfl)
theorem dX10_starts_16 : decode cX10_starts 16 = .ok (.bipush 10, 2) := dk_16 10 (dk_at dksX10_starts_0 16 rfl rfl)
theorem dX10_starts_18 : decode cX10_starts 18 = .ok (.aload_n 0, 1) := dk_42 (dk_at dksX10_starts_0 18 rfl rfl)
theorem dX10_starts_19 : decode cX10_starts 19 = .ok (.iload_n 1, 1) := dk_27 (dk_at dksX10_starts_0 19 rfl rfl)
theorem dX10_starts_20 : decode cX10_starts 20 = .ok (.invokevirtual 76, 3) := dk_182 0 76 (dk_at dksX10_starts_0 20 rfl rfl)
theorem dX10_starts_23 : decode cX10_starts 23 = .ok (.getfield 120, 3) := dk_180 0 120 (dk_at dksX10_starts_1 0 rfl rfl)
theorem dX10_starts_26 : decode cX10_starts 26 = .ok (.imul, 1) := dk_104 (dk_at dksX10_starts_1 3 rfl rfl)
theorem dX10_starts_27 : decode cX10_starts 27 = .ok (.if_icmp .lt 7, 3) := dk_161 0 7 (dk_at dksX10_starts_1 4 rfl rfl)
theorem dX10_starts_30 : decode cX10_starts 30 = .ok (.iconst 2, 1) := dk_5 (dk_at dksX10_starts_1 7 rfl rfl)
theorem dX10_starts_31 : decode cX10_starts 31 = .ok (.goto 4, 3) := dk_167 0 4 (dk_at dksX10_starts_1 8 rfl rfl)
theorem dX10_starts_34 : decode cX10_starts 34 = .ok (.iconst 1, 1) := dk_4 (dk_at dksX10_starts_1 11 rfl rfl)
theorem dX10_starts_35 : decode cX10_starts 35 = .ok (.imul, 1) := dk_104 (dk_at dksX10_starts_1 12 rfl rfl)
theorem dX10_starts_36 : decode cX10_starts 36 = .ok (.iastore, 1) := dk_79 (dk_at dksX10_starts_1 13 rfl rfl)
theorem dX10_starts_37 : decode cX10_starts 37 = .ok (.iload_n 1, 1) := dk_27 (dk_at dksX10_starts_1 14 rfl rfl)
theorem dX10_starts_38 : decode cX10_starts 38 = .ok (.ifCond .ne 39, 3) := dk_154 0 39 (dk_at dksX10_starts_1 15 rfl rfl)
theorem dX10_starts_41 : decode cX10_starts 41 = .ok (.aload_n 0, 1) := dk_42 (dk_at dksX10_starts_1 18 rfl rfl)
theorem dX10_starts_42 : decode cX10_starts 42 = .ok (.dup, 1) := dk_89 (dk_at dksX10_starts_1 19 rfl rfl)
theorem dX10_starts_43 : decode cX10_starts 43 = .ok (.getfield 47, 3) := dk_180 0 47 (dk_at dksX10_starts_1 20 rfl rfl)
theorem dX10_starts_46 : decode cX10_starts 46 = .ok (.iconst 1, 1) := dk_4 (dk_at dksX10_starts_1 23 rfl rfl)
theorem dX10_starts_47 : decode cX10_starts 47 = .ok (.isub, 1) := dk_100 (dk_at dksX10_starts_2 0 rfl rfl)
theorem dX10_starts_48 : decode cX10_starts 48 = .ok (.putfield 47, 3) := dk_181 0 47 (dk_at dksX10_starts_2 1 rfl rfl)
theorem dX10_starts_51 : decode cX10_starts 51 = .ok (.aload_n 0, 1) := dk_42 (dk_at dksX10_starts_2 4 rfl rfl)
theorem dX10_starts_52 : decode cX10_starts 52 = .ok (.getfield 18, 3) := dk_180 0 18 (dk_at dksX10_starts_2 5 rfl rfl)
theorem dX10_starts_55 : decode cX10_starts 55 = .ok (.iload_n 1, 1) := dk_27 (dk_at dksX10_starts_2 8 rfl rfl)
theorem dX10_starts_56 : decode cX10_starts 56 = .ok (.aload_n 0, 1) := dk_42 (dk_at dksX10_starts_2 9 rfl rfl)
theorem dX10_starts_57 : decode cX10_starts 57 = .ok (.invokevirtual 123, 3) := dk_182 0 123 (dk_at dksX10_starts_2 10 rfl rfl)
theorem dX10_starts_60 : decode cX10_starts 60 = .ok (.iastore, 1) := dk_79 (dk_at dksX10_starts_2 13 rfl rfl)
theorem dX10_starts_61 : decode cX10_starts 61 = .ok (.aload_n 0, 1) := dk_42 (dk_at dksX10_starts_2 14 rfl rfl)
theorem dX10_starts_62 : decode cX10_starts 62 = .ok (.dup, 1) := dk_89 (dk_at dksX10_starts_2 15 rfl rfl)
theorem dX10_starts_63 : decode cX10_starts 63 = .ok (.getfield 56, 3) := dk_180 0 56 (dk_at dksX10_starts_2 16 rfl rfl)
theorem dX10_starts_66 : decode cX10_starts 66 = .ok (.aload_n 0, 1) := dk_42 (dk_at dksX10_starts_2 19 rfl rfl)
theorem dX10_starts_67 : decode cX10_starts 67 = .ok (.getfield 18, 3) := dk_180 0 18 (dk_at dksX10_starts_2 20 rfl rfl)
theorem dX10_starts_70 : decode cX10_starts 70 = .ok (.iload_n 1, 1) := dk_27 (dk_at dksX10_starts_2 23 rfl rfl)
theorem dX10_starts_71 : decode cX10_starts 71 = .ok (.iaload, 1) := dk_46 (dk_at dksX10_starts_3 0 rfl rfl)
theorem dX10_starts_72 : decode cX10_starts 72 = .ok (.iadd, 1) := dk_96 (dk_at dksX10_starts_3 1 rfl rfl)
theorem dX10_starts_73 : decode cX10_starts 73 = .ok (.putfield 56, 3) := dk_181 0 56 (dk_at dksX10_starts_3 2 rfl rfl)
theorem dX10_starts_76 : decode cX10_starts 76 = .ok (.return_, 1) := dk_177 (dk_at dksX10_starts_3 5 rfl rfl)
theorem dX10_starts_77 : decode cX10_starts 77 = .ok (.aload_n 0, 1) := dk_42 (dk_at dksX10_starts_3 6 rfl rfl)
theorem dX10_starts_78 : decode cX10_starts 78 = .ok (.getfield 18, 3) := dk_180 0 18 (dk_at dksX10_starts_3 7 rfl rfl)
theorem dX10_starts_81 : decode cX10_starts 81 = .ok (.iload_n 1, 1) := dk_27 (dk_at dksX10_starts_3 10 rfl rfl)
theorem dX10_starts_82 : decode cX10_starts 82 = .ok (.aload_n 0, 1) := dk_42 (dk_at dksX10_starts_3 11 rfl rfl)
theorem dX10_starts_83 : decode cX10_starts 83 = .ok (.getfield 32, 3) := dk_180 0 32 (dk_at dksX10_starts_3 12 rfl rfl)
theorem dX10_starts_86 : decode cX10_starts 86 = .ok (.iload_n 1, 1) := dk_27 (dk_at dksX10_starts_3 15 rfl rfl)
theorem dX10_starts_87 : decode cX10_starts 87 = .ok (.aaload, 1) := dk_50 (dk_at dksX10_starts_3 16 rfl rfl)
theorem dX10_starts_88 : decode cX10_starts 88 = .ok (.aload_n 0, 1) := dk_42 (dk_at dksX10_starts_3 17 rfl rfl)
theorem dX10_starts_89 : decode cX10_starts 89 = .ok (.getfield 24, 3) := dk_180 0 24 (dk_at dksX10_starts_3 18 rfl rfl)
theorem dX10_starts_92 : decode cX10_starts 92 = .ok (.iload_n 1, 1) := dk_27 (dk_at dksX10_starts_3 21 rfl rfl)
theorem dX10_starts_93 : decode cX10_starts 93 = .ok (.iaload, 1) := dk_46 (dk_at dksX10_starts_3 22 rfl rfl)
theorem dX10_starts_94 : decode cX10_starts 94 = .ok (.iaload, 1) := dk_46 (dk_at dksX10_starts_3 23 rfl rfl)
theorem dX10_starts_95 : decode cX10_starts 95 = .ok (.iastore, 1) := dk_79 (dk_at dksX10_starts_4 0 rfl rfl)
theorem dX10_starts_96 : decode cX10_starts 96 = .ok (.aload_n 0, 1) := dk_42 (dk_at dksX10_starts_4 1 rfl rfl)
theorem dX10_starts_97 : decode cX10_starts 97 = .ok (.getfield 24, 3) := dk_180 0 24 (dk_at dksX10_starts_4 2 rfl rfl)
theorem dX10_starts_100 : decode cX10_starts 100 = .ok (.iload_n 1, 1) := dk_27 (dk_at dksX10_starts_4 5 rfl rfl)
theorem dX10_starts_101 : decode cX10_starts 101 = .ok (.aload_n 0, 1) := dk_42 (dk_at dksX10_starts_4 6 rfl rfl)
theorem dX10_starts_102 : decode cX10_starts 102 = .ok (.getfield 24, 3) := dk_180 0 24 (dk_at dksX10_starts_4 7 rfl rfl)
theorem dX10_starts_105 : decode cX10_starts 105 = .ok (.iload_n 1, 1) := dk_27 (dk_at dksX10_starts_4 10 rfl rfl)
theorem dX10_starts_106 : decode cX10_starts 106 = .ok (.iaload, 1) := dk_46 (dk_at dksX10_starts_4 11 rfl rfl)
theorem dX10_starts_107 : decode cX10_starts 107 = .ok (.iconst 1, 1) := dk_4 (dk_at dksX10_starts_4 12 rfl rfl)
theorem dX10_starts_108 : decode cX10_starts 108 = .ok (.iadd, 1) := dk_96 (dk_at dksX10_starts_4 13 rfl rfl)
theorem dX10_starts_109 : decode cX10_starts 109 = .ok (.bipush 30, 2) := dk_16 30 (dk_at dksX10_starts_4 14 rfl rfl)
theorem dX10_starts_111 : decode cX10_starts 111 = .ok (.irem, 1) := dk_112 (dk_at dksX10_starts_4 16 rfl rfl)
theorem dX10_starts_112 : decode cX10_starts 112 = .ok (.iastore, 1) := dk_79 (dk_at dksX10_starts_4 17 rfl rfl)
theorem dX10_starts_113 : decode cX10_starts 113 = .ok (.aload_n 0, 1) := dk_42 (dk_at dksX10_starts_4 18 rfl rfl)
theorem dX10_starts_114 : decode cX10_starts 114 = .ok (.getfield 21, 3) := dk_180 0 21 (dk_at dksX10_starts_4 19 rfl rfl)
theorem dX10_starts_117 : decode cX10_starts 117 = .ok (.iload_n 1, 1) := dk_27 (dk_at dksX10_starts_4 22 rfl rfl)
theorem dX10_starts_118 : decode cX10_starts 118 = .ok (.dup2, 1) := dk_92 (dk_at dksX10_starts_4 23 rfl rfl)
theorem dX10_starts_119 : decode cX10_starts 119 = .ok (.iaload, 1) := dk_46 (dk_at dksX10_starts_5 0 rfl rfl)
theorem dX10_starts_120 : decode cX10_starts 120 = .ok (.iconst 1, 1) := dk_4 (dk_at dksX10_starts_5 1 rfl rfl)
theorem dX10_starts_121 : decode cX10_starts 121 = .ok (.isub, 1) := dk_100 (dk_at dksX10_starts_5 2 rfl rfl)
theorem dX10_starts_122 : decode cX10_starts 122 = .ok (.iastore, 1) := dk_79 (dk_at dksX10_starts_5 3 rfl rfl)
theorem dX10_starts_123 : decode cX10_starts 123 = .ok (.return_, 1) := dk_177 (dk_at dksX10_starts_5 4 rfl rfl)
abbrev cX10_time : ByteArray := prog_14_method_3_code
def yX10_time : MethodName := ⟨RX10, "time", "(I)I"⟩
def dkwX10_time_2 : List UInt8 := [4, 100, 160, 0, 13, 42, 180, 0, 62, 180, 0, 88, 167, 0, 4, 28, 96, 172]
abbrev dktX10_time_2 : List UInt8 := dkwX10_time_2 ++ []
def dkwX10_time_1 : List UInt8 := [180, 0, 80, 27, 154, 0, 15, 42, 180, 0, 62, 180, 0, 85, 28, 96, 167, 0, 24, 27, 42, 180, 0, 69]
abbrev dktX10_time_1 : List UInt8 := dkwX10_time_1 ++ dktX10_time_2
def dkwX10_time_0 : List UInt8 := [42, 180, 0, 62, 180, 0, 66, 42, 180, 0, 69, 4, 100, 184, 0, 72, 7, 108, 61, 42, 27, 182, 0, 76]
abbrev dktX10_time_0 : List UInt8 := dkwX10_time_0 ++ dktX10_time_1
theorem dksX10_time_0 : cX10_time.data.toList.drop 0 = dktX10_time_0 := by decide +kernel
theorem dksX10_time_1 : cX10_time.data.toList.drop 24 = dktX10_time_1 := dk_seg dksX10_time_0 24 rfl rfl
theorem dksX10_time_2 : cX10_time.data.toList.drop 48 = dktX10_time_2 := dk_seg dksX10_time_1 24 rfl rfl
theorem dX10_time_0 : decode cX10_time 0 = .ok (.aload_n 0, 1) := dk_42 (dk_at dksX10_time_0 0 rfl rfl)
theorem dX10_time_1 : decode cX10_time 1 = .ok (.getfield 62, 3) := dk_180 0 62 (dk_at dksX10_time_0 1 rfl rfl)
theorem dX10_time_4 : decode cX10_time 4 = .ok (.getfield 66, 3) := dk_180 0 66 (dk_at dksX10_time_0 4 rfl rfl)
theorem dX10_time_7 : decode cX10_time 7 = .ok (.aload_n 0, 1) := dk_42 (dk_at dksX10_time_0 7 rfl rfl)
theorem dX10_time_8 : decode cX10_time 8 = .ok (.getfield 69, 3) := dk_180 0 69 (dk_at dksX10_time_0 8 rfl rfl)
theorem dX10_time_11 : decode cX10_time 11 = .ok (.iconst 1, 1) := dk_4 (dk_at dksX10_time_0 11 rfl rfl)
theorem dX10_time_12 : decode cX10_time 12 = .ok (.isub, 1) := dk_100 (dk_at dksX10_time_0 12 rfl rfl)
theorem dX10_time_13 : decode cX10_time 13 = .ok (.invokestatic 72, 3) := dk_184 0 72 (dk_at dksX10_time_0 13 rfl rfl)
theorem dX10_time_16 : decode cX10_time 16 = .ok (.iconst 4, 1) := dk_7 (dk_at dksX10_time_0 16 rfl rfl)
theorem dX10_time_17 : decode cX10_time 17 = .ok (.idiv, 1) := dk_108 (dk_at dksX10_time_0 17 rfl rfl)
theorem dX10_time_18 : decode cX10_time 18 = .ok (.istore_n 2, 1) := dk_61 (dk_at dksX10_time_0 18 rfl rfl)
theorem dX10_time_19 : decode cX10_time 19 = .ok (.aload_n 0, 1) := dk_42 (dk_at dksX10_time_0 19 rfl rfl)
theorem dX10_time_20 : decode cX10_time 20 = .ok (.iload_n 1, 1) := dk_27 (dk_at dksX10_time_0 20 rfl rfl)
theorem dX10_time_21 : decode cX10_time 21 = .ok (.invokevirtual 76, 3) := dk_182 0 76 (dk_at dksX10_time_0 21 rfl rfl)
theorem dX10_time_24 : decode cX10_time 24 = .ok (.getfield 80, 3) := dk_180 0 80 (dk_at dksX10_time_1 0 rfl rfl)
theorem dX10_time_27 : decode cX10_time 27 = .ok (.iload_n 1, 1) := dk_27 (dk_at dksX10_time_1 3 rfl rfl)
theorem dX10_time_28 : decode cX10_time 28 = .ok (.ifCond .ne 15, 3) := dk_154 0 15 (dk_at dksX10_time_1 4 rfl rfl)
theorem dX10_time_31 : decode cX10_time 31 = .ok (.aload_n 0, 1) := dk_42 (dk_at dksX10_time_1 7 rfl rfl)
theorem dX10_time_32 : decode cX10_time 32 = .ok (.getfield 62, 3) := dk_180 0 62 (dk_at dksX10_time_1 8 rfl rfl)
theorem dX10_time_35 : decode cX10_time 35 = .ok (.getfield 85, 3) := dk_180 0 85 (dk_at dksX10_time_1 11 rfl rfl)
theorem dX10_time_38 : decode cX10_time 38 = .ok (.iload_n 2, 1) := dk_28 (dk_at dksX10_time_1 14 rfl rfl)
theorem dX10_time_39 : decode cX10_time 39 = .ok (.iadd, 1) := dk_96 (dk_at dksX10_time_1 15 rfl rfl)
theorem dX10_time_40 : decode cX10_time 40 = .ok (.goto 24, 3) := dk_167 0 24 (dk_at dksX10_time_1 16 rfl rfl)
theorem dX10_time_43 : decode cX10_time 43 = .ok (.iload_n 1, 1) := dk_27 (dk_at dksX10_time_1 19 rfl rfl)
theorem dX10_time_44 : decode cX10_time 44 = .ok (.aload_n 0, 1) := dk_42 (dk_at dksX10_time_1 20 rfl rfl)
theorem dX10_time_45 : decode cX10_time 45 = .ok (.getfield 69, 3) := dk_180 0 69 (dk_at dksX10_time_1 21 rfl rfl)
theorem dX10_time_48 : decode cX10_time 48 = .ok (.iconst 1, 1) := dk_4 (dk_at dksX10_time_2 0 rfl rfl)
theorem dX10_time_49 : decode cX10_time 49 = .ok (.isub, 1) := dk_100 (dk_at dksX10_time_2 1 rfl rfl)
theorem dX10_time_50 : decode cX10_time 50 = .ok (.if_icmp .ne 13, 3) := dk_160 0 13 (dk_at dksX10_time_2 2 rfl rfl)
theorem dX10_time_53 : decode cX10_time 53 = .ok (.aload_n 0, 1) := dk_42 (dk_at dksX10_time_2 5 rfl rfl)
theorem dX10_time_54 : decode cX10_time 54 = .ok (.getfield 62, 3) := dk_180 0 62 (dk_at dksX10_time_2 6 rfl rfl)
theorem dX10_time_57 : decode cX10_time 57 = .ok (.getfield 88, 3) := dk_180 0 88 (dk_at dksX10_time_2 9 rfl rfl)
theorem dX10_time_60 : decode cX10_time 60 = .ok (.goto 4, 3) := dk_167 0 4 (dk_at dksX10_time_2 12 rfl rfl)
theorem dX10_time_63 : decode cX10_time 63 = .ok (.iload_n 2, 1) := dk_28 (dk_at dksX10_time_2 15 rfl rfl)
theorem dX10_time_64 : decode cX10_time 64 = .ok (.iadd, 1) := dk_96 (dk_at dksX10_time_2 16 rfl rfl)
theorem dX10_time_65 : decode cX10_time 65 = .ok (.ireturn, 1) := dk_172 (dk_at dksX10_time_2 17 rfl rfl)
abbrev cX10_heap : ByteArray := prog_14_method_8_code
def yX10_heap : MethodName := ⟨RX10, "heap", "()I"⟩
def dkwX10_heap_1 : List UInt8 := [167, 0, 9, 42, 180, 0, 27, 27, 46, 164, 0, 5, 28, 60, 132, 2, 1, 167, 255, 220, 27, 172]
abbrev dktX10_heap_1 : List UInt8 := dkwX10_heap_1 ++ []
def dkwX10_heap_0 : List UInt8 := [3, 60, 4, 61, 28, 42, 180, 0, 69, 162, 0, 34, 42, 180, 0, 27, 28, 46, 27, 154, 0, 7, 3]
abbrev dktX10_heap_0 : List UInt8 := dkwX10_heap_0 ++ dktX10_heap_1
theorem dksX10_heap_0 : cX10_heap.data.toList.drop 0 = dktX10_heap_0 := by decide +kernel
theorem dksX10_heap_1 : cX10_heap.data.toList.drop 23 = dktX10_heap_1 := dk_seg dksX10_heap_0 23 rfl rfl
theorem dX10_heap_0 : decode cX10_heap 0 = .ok (.iconst 0, 1) := dk_3 (dk_at dksX10_heap_0 0 rfl rfl)
theorem dX10_heap_1 : decode cX10_heap 1 = .ok (.istore_n 1, 1) := dk_60 (dk_at dksX10_heap_0 1 rfl rfl)
theorem dX10_heap_2 : decode cX10_heap 2 = .ok (.iconst 1, 1) := dk_4 (dk_at dksX10_heap_0 2 rfl rfl)
theorem dX10_heap_3 : decode cX10_heap 3 = .ok (.istore_n 2, 1) := dk_61 (dk_at dksX10_heap_0 3 rfl rfl)
theorem dX10_heap_4 : decode cX10_heap 4 = .ok (.iload_n 2, 1) := dk_28 (dk_at dksX10_heap_0 4 rfl rfl)
theorem dX10_heap_5 : decode cX10_heap 5 = .ok (.aload_n 0, 1) := dk_42 (dk_at dksX10_heap_0 5 rfl rfl)
theorem dX10_heap_6 : decode cX10_heap 6 = .ok (.getfield 69, 3) := dk_180 0 69 (dk_at dksX10_heap_0 6 rfl rfl)
theorem dX10_heap_9 : decode cX10_heap 9 = .ok (.if_icmp .ge 34, 3) := dk_162 0 34 (dk_at dksX10_heap_0 9 rfl rfl)
theorem dX10_heap_12 : decode cX10_heap 12 = .ok (.aload_n 0, 1) := dk_42 (dk_at dksX10_heap_0 12 rfl rfl)
theorem dX10_heap_13 : decode cX10_heap 13 = .ok (.getfield 27, 3) := dk_180 0 27 (dk_at dksX10_heap_0 13 rfl rfl)
theorem dX10_heap_16 : decode cX10_heap 16 = .ok (.iload_n 2, 1) := dk_28 (dk_at dksX10_heap_0 16 rfl rfl)
theorem dX10_heap_17 : decode cX10_heap 17 = .ok (.iaload, 1) := dk_46 (dk_at dksX10_heap_0 17 rfl rfl)
theorem dX10_heap_18 : decode cX10_heap 18 = .ok (.iload_n 1, 1) := dk_27 (dk_at dksX10_heap_0 18 rfl rfl)
theorem dX10_heap_19 : decode cX10_heap 19 = .ok (.ifCond .ne 7, 3) := dk_154 0 7 (dk_at dksX10_heap_0 19 rfl rfl)
theorem dX10_heap_22 : decode cX10_heap 22 = .ok (.iconst 0, 1) := dk_3 (dk_at dksX10_heap_0 22 rfl rfl)
theorem dX10_heap_23 : decode cX10_heap 23 = .ok (.goto 9, 3) := dk_167 0 9 (dk_at dksX10_heap_1 0 rfl rfl)
theorem dX10_heap_26 : decode cX10_heap 26 = .ok (.aload_n 0, 1) := dk_42 (dk_at dksX10_heap_1 3 rfl rfl)
theorem dX10_heap_27 : decode cX10_heap 27 = .ok (.getfield 27, 3) := dk_180 0 27 (dk_at dksX10_heap_1 4 rfl rfl)
theorem dX10_heap_30 : decode cX10_heap 30 = .ok (.iload_n 1, 1) := dk_27 (dk_at dksX10_heap_1 7 rfl rfl)
theorem dX10_heap_31 : decode cX10_heap 31 = .ok (.iaload, 1) := dk_46 (dk_at dksX10_heap_1 8 rfl rfl)
theorem dX10_heap_32 : decode cX10_heap 32 = .ok (.if_icmp .le 5, 3) := dk_164 0 5 (dk_at dksX10_heap_1 9 rfl rfl)
theorem dX10_heap_35 : decode cX10_heap 35 = .ok (.iload_n 2, 1) := dk_28 (dk_at dksX10_heap_1 12 rfl rfl)
theorem dX10_heap_36 : decode cX10_heap 36 = .ok (.istore_n 1, 1) := dk_60 (dk_at dksX10_heap_1 13 rfl rfl)
theorem dX10_heap_37 : decode cX10_heap 37 = .ok (.iinc 2 1, 3) := dk_132 2 1 (dk_at dksX10_heap_1 14 rfl rfl)
theorem dX10_heap_40 : decode cX10_heap 40 = .ok (.goto (-36), 3) := dk_167 255 220 (dk_at dksX10_heap_1 17 rfl rfl)
theorem dX10_heap_43 : decode cX10_heap 43 = .ok (.iload_n 1, 1) := dk_27 (dk_at dksX10_heap_1 20 rfl rfl)
theorem dX10_heap_44 : decode cX10_heap 44 = .ok (.ireturn, 1) := dk_172 (dk_at dksX10_heap_1 21 rfl rfl)
abbrev cX10_period : ByteArray := prog_14_method_4_code
def yX10_period : MethodName := ⟨RX10, "period", "()I"⟩
def dkwX10_period_1 : List UInt8 := [132, 2, 1, 167, 255, 235, 27, 172]
abbrev dktX10_period_1 : List UInt8 := dkwX10_period_1 ++ []
def dkwX10_period_0 : List UInt8 := [3, 60, 3, 61, 28, 42, 180, 0, 69, 162, 0, 19, 27, 42, 28, 182, 0, 91, 184, 0, 95, 60]
abbrev dktX10_period_0 : List UInt8 := dkwX10_period_0 ++ dktX10_period_1
theorem dksX10_period_0 : cX10_period.data.toList.drop 0 = dktX10_period_0 := by decide +kernel
theorem dksX10_period_1 : cX10_period.data.toList.drop 22 = dktX10_period_1 := dk_seg dksX10_period_0 22 rfl rfl
theorem dX10_period_0 : decode cX10_period 0 = .ok (.iconst 0, 1) := dk_3 (dk_at dksX10_period_0 0 rfl rfl)
theorem dX10_period_1 : decode cX10_period 1 = .ok (.istore_n 1, 1) := dk_60 (dk_at dksX10_period_0 1 rfl rfl)
theorem dX10_period_2 : decode cX10_period 2 = .ok (.iconst 0, 1) := dk_3 (dk_at dksX10_period_0 2 rfl rfl)
theorem dX10_period_3 : decode cX10_period 3 = .ok (.istore_n 2, 1) := dk_61 (dk_at dksX10_period_0 3 rfl rfl)
theorem dX10_period_4 : decode cX10_period 4 = .ok (.iload_n 2, 1) := dk_28 (dk_at dksX10_period_0 4 rfl rfl)
theorem dX10_period_5 : decode cX10_period 5 = .ok (.aload_n 0, 1) := dk_42 (dk_at dksX10_period_0 5 rfl rfl)
theorem dX10_period_6 : decode cX10_period 6 = .ok (.getfield 69, 3) := dk_180 0 69 (dk_at dksX10_period_0 6 rfl rfl)
theorem dX10_period_9 : decode cX10_period 9 = .ok (.if_icmp .ge 19, 3) := dk_162 0 19 (dk_at dksX10_period_0 9 rfl rfl)
theorem dX10_period_12 : decode cX10_period 12 = .ok (.iload_n 1, 1) := dk_27 (dk_at dksX10_period_0 12 rfl rfl)
theorem dX10_period_13 : decode cX10_period 13 = .ok (.aload_n 0, 1) := dk_42 (dk_at dksX10_period_0 13 rfl rfl)
theorem dX10_period_14 : decode cX10_period 14 = .ok (.iload_n 2, 1) := dk_28 (dk_at dksX10_period_0 14 rfl rfl)
theorem dX10_period_15 : decode cX10_period 15 = .ok (.invokevirtual 91, 3) := dk_182 0 91 (dk_at dksX10_period_0 15 rfl rfl)
theorem dX10_period_18 : decode cX10_period 18 = .ok (.invokestatic 95, 3) := dk_184 0 95 (dk_at dksX10_period_0 18 rfl rfl)
theorem dX10_period_21 : decode cX10_period 21 = .ok (.istore_n 1, 1) := dk_60 (dk_at dksX10_period_0 21 rfl rfl)
theorem dX10_period_22 : decode cX10_period 22 = .ok (.iinc 2 1, 3) := dk_132 2 1 (dk_at dksX10_period_1 0 rfl rfl)
theorem dX10_period_25 : decode cX10_period 25 = .ok (.goto (-21), 3) := dk_167 255 235 (dk_at dksX10_period_1 3 rfl rfl)
theorem dX10_period_28 : decode cX10_period 28 = .ok (.iload_n 1, 1) := dk_27 (dk_at dksX10_period_1 6 rfl rfl)
theorem dX10_period_29 : decode cX10_period 29 = .ok (.ireturn, 1) := dk_172 (dk_at dksX10_period_1 7 rfl rfl)
theorem q114 : (Jvm.Cond.initialized "PailRow$Row") ∈ lw_all := lw_g (lw_at lw_m1 12 rfl) rfl
theorem q283 : (Jvm.Cond.fieldLinkNest "PailRow$Row" (66 : Nat) "PailRow$Yard" "way" "I" "PailRow") ∈ lw_tbl := lw_at lw_m1 181 rfl
theorem q289 : (Jvm.Cond.fieldLinkNest "PailRow$Row" (42 : Nat) "PailRow$Yard" "pails" "I" "PailRow") ∈ lw_tbl := lw_at lw_m1 187 rfl
theorem q296 : (Jvm.Cond.fieldLinkNest "PailRow$Row" (85 : Nat) "PailRow$Yard" "draw" "I" "PailRow") ∈ lw_tbl := lw_at lw_m1 194 rfl
theorem q303 : (Jvm.Cond.fieldLinkNest "PailRow$Row" (117 : Nat) "PailRow$Yard" "spill" "I" "PailRow") ∈ lw_tbl := lw_at lw_m1 201 rfl
theorem q306 : (Jvm.Cond.fieldLinkNest "PailRow$Row" (114 : Nat) "PailRow$Yard" "back" "I" "PailRow") ∈ lw_tbl := lw_at lw_m1 204 rfl
theorem q308 : (Jvm.Cond.fieldLinkNest "PailRow$Row" (88 : Nat) "PailRow$Yard" "thrown" "I" "PailRow") ∈ lw_tbl := lw_at lw_m1 206 rfl
theorem q458 : (Jvm.Cond.instantiable "PailRow$Row" (19 : Nat)) ∈ lw_all := lw_g (lw_at lw_m2 116 rfl) rfl
theorem q460 : (Jvm.Cond.instanceMethod ({ cls := "PailRow$Row", name := "<init>", desc := "()V" } : Jvm.MethodName)) ∈ lw_all := lw_g (lw_at lw_m2 118 rfl) rfl
theorem q461 : (Jvm.Cond.code ({ cls := "PailRow$Row", name := "<init>", desc := "()V" } : Jvm.MethodName) prog_14_method_1_code (1 : Nat) (Option.none : Option Jvm.ClassFile.FieldType)) ∈ lw_all := lw_g (lw_at lw_m2 119 rfl) rfl
theorem q462 : (Jvm.Cond.methodLinkNest "PailRow$Row" (3 : Nat) ({ cls := "PailRow$Team", name := "<init>", desc := "()V" } : Jvm.MethodName) "PailRow") ∈ lw_tbl := lw_at lw_m2 120 rfl
theorem q466 : (Jvm.Cond.classLink "PailRow$Row" (30 : Nat) "[[I") ∈ lw_all := lw_g (lw_at lw_m2 124 rfl) rfl
theorem q468 : (Jvm.Cond.fieldLink "PailRow$Row" (9 : Nat) "PailRow$Row" "done" "[I") ∈ lw_all := lw_g (lw_at lw_m2 126 rfl) rfl
theorem q470 : (Jvm.Cond.fieldLink "PailRow$Row" (15 : Nat) "PailRow$Row" "busy" "[I") ∈ lw_all := lw_g (lw_at lw_m2 128 rfl) rfl
theorem q471 : (Jvm.Cond.fieldLink "PailRow$Row" (18 : Nat) "PailRow$Row" "litres" "[I") ∈ lw_all := lw_g (lw_at lw_m2 129 rfl) rfl
theorem q472 : (Jvm.Cond.fieldLink "PailRow$Row" (21 : Nat) "PailRow$Row" "stands" "[I") ∈ lw_all := lw_g (lw_at lw_m2 130 rfl) rfl
theorem q473 : (Jvm.Cond.fieldLink "PailRow$Row" (24 : Nat) "PailRow$Row" "first" "[I") ∈ lw_all := lw_g (lw_at lw_m2 131 rfl) rfl
theorem q474 : (Jvm.Cond.fieldLink "PailRow$Row" (27 : Nat) "PailRow$Row" "heaps" "[I") ∈ lw_all := lw_g (lw_at lw_m2 132 rfl) rfl
theorem q476 : (Jvm.Cond.fieldLink "PailRow$Row" (32 : Nat) "PailRow$Row" "pails" "[[I") ∈ lw_all := lw_g (lw_at lw_m2 134 rfl) rfl
theorem q477 : (Jvm.Cond.fieldLink "PailRow$Row" (35 : Nat) "PailRow$Row" "backs" "[I") ∈ lw_all := lw_g (lw_at lw_m2 135 rfl) rfl
theorem q478 : (Jvm.Cond.fieldLink "PailRow$Row" (47 : Nat) "PailRow$Row" "empties" "I") ∈ lw_all := lw_g (lw_at lw_m2 136 rfl) rfl
theorem q479 : (Jvm.Cond.fieldLink "PailRow$Row" (50 : Nat) "PailRow$Row" "backFirst" "I") ∈ lw_all := lw_g (lw_at lw_m2 137 rfl) rfl
theorem q480 : (Jvm.Cond.fieldLink "PailRow$Row" (53 : Nat) "PailRow$Row" "backMany" "I") ∈ lw_all := lw_g (lw_at lw_m2 138 rfl) rfl
theorem q481 : (Jvm.Cond.fieldLink "PailRow$Row" (56 : Nat) "PailRow$Row" "drawn" "I") ∈ lw_all := lw_g (lw_at lw_m2 139 rfl) rfl
theorem q483 : (Jvm.Cond.fieldLink "PailRow$Row" (59 : Nat) "PailRow$Row" "spilt" "I") ∈ lw_all := lw_g (lw_at lw_m2 141 rfl) rfl
theorem q487 : (Jvm.Cond.fieldLink "PailRow$Row" (62 : Nat) "PailRow$Row" "yard" "LPailRow$Yard;") ∈ lw_all := lw_g (lw_at lw_m2 145 rfl) rfl
theorem q488 : (Jvm.Cond.sameField "PailRow$Row" "PailRow$Team" "yard" "LPailRow$Yard;") ∈ lw_all := lw_g (lw_at lw_m2 146 rfl) rfl
theorem q494 : (Jvm.Cond.fieldLink "PailRow$Row" (69 : Nat) "PailRow$Row" "many" "I") ∈ lw_all := lw_g (lw_at lw_m2 152 rfl) rfl
theorem q495 : (Jvm.Cond.sameField "PailRow$Row" "PailRow$Team" "many" "I") ∈ lw_all := lw_g (lw_at lw_m2 153 rfl) rfl
theorem q500 : (Jvm.Cond.fieldLink "PailRow$Row" (107 : Nat) "PailRow$Row" "water" "I") ∈ lw_all := lw_g (lw_at lw_m2 158 rfl) rfl
theorem q501 : (Jvm.Cond.sameField "PailRow$Row" "PailRow$Team" "water" "I") ∈ lw_all := lw_g (lw_at lw_m2 159 rfl) rfl
theorem q507 : (Jvm.Cond.fieldLink "PailRow$Row" (113 : Nat) "PailRow$Row" "thrown" "I") ∈ lw_all := lw_g (lw_at lw_m2 165 rfl) rfl
theorem q508 : (Jvm.Cond.sameField "PailRow$Row" "PailRow$Team" "thrown" "I") ∈ lw_all := lw_g (lw_at lw_m2 166 rfl) rfl
theorem q511 : (Jvm.Cond.fieldLink "PailRow$Row" (100 : Nat) "PailRow$Row" "tick" "I") ∈ lw_all := lw_g (lw_at lw_m2 169 rfl) rfl
theorem q512 : (Jvm.Cond.sameField "PailRow$Row" "PailRow$Team" "tick" "I") ∈ lw_all := lw_g (lw_at lw_m2 170 rfl) rfl
theorem q513 : (Jvm.Cond.laysFinal "PailRow$Row" "PailRow$Row" "done" "[I") ∈ lw_all := lw_g (lw_at lw_m2 171 rfl) rfl
theorem q514 : (Jvm.Cond.soleField "PailRow$Row" "done") ∈ lw_all := lw_g (lw_at lw_m2 172 rfl) rfl
theorem q515 : (Jvm.Cond.laysFinal "PailRow$Row" "PailRow$Row" "busy" "[I") ∈ lw_all := lw_g (lw_at lw_m2 173 rfl) rfl
theorem q516 : (Jvm.Cond.soleField "PailRow$Row" "busy") ∈ lw_all := lw_g (lw_at lw_m2 174 rfl) rfl
theorem q517 : (Jvm.Cond.laysFinal "PailRow$Row" "PailRow$Row" "litres" "[I") ∈ lw_all := lw_g (lw_at lw_m2 175 rfl) rfl
theorem q518 : (Jvm.Cond.soleField "PailRow$Row" "litres") ∈ lw_all := lw_g (lw_at lw_m2 176 rfl) rfl
theorem q519 : (Jvm.Cond.laysFinal "PailRow$Row" "PailRow$Row" "stands" "[I") ∈ lw_all := lw_g (lw_at lw_m2 177 rfl) rfl
theorem q520 : (Jvm.Cond.soleField "PailRow$Row" "stands") ∈ lw_all := lw_g (lw_at lw_m2 178 rfl) rfl
theorem q521 : (Jvm.Cond.laysFinal "PailRow$Row" "PailRow$Row" "first" "[I") ∈ lw_all := lw_g (lw_at lw_m2 179 rfl) rfl
theorem q522 : (Jvm.Cond.soleField "PailRow$Row" "first") ∈ lw_all := lw_g (lw_at lw_m2 180 rfl) rfl
theorem q523 : (Jvm.Cond.laysFinal "PailRow$Row" "PailRow$Row" "heaps" "[I") ∈ lw_all := lw_g (lw_at lw_m2 181 rfl) rfl
theorem q524 : (Jvm.Cond.soleField "PailRow$Row" "heaps") ∈ lw_all := lw_g (lw_at lw_m2 182 rfl) rfl
theorem q525 : (Jvm.Cond.laysFinal "PailRow$Row" "PailRow$Row" "pails" "[[I") ∈ lw_all := lw_g (lw_at lw_m2 183 rfl) rfl
theorem q526 : (Jvm.Cond.soleField "PailRow$Row" "pails") ∈ lw_all := lw_g (lw_at lw_m2 184 rfl) rfl
theorem q527 : (Jvm.Cond.laysFinal "PailRow$Row" "PailRow$Row" "backs" "[I") ∈ lw_all := lw_g (lw_at lw_m2 185 rfl) rfl
theorem q528 : (Jvm.Cond.soleField "PailRow$Row" "backs") ∈ lw_all := lw_g (lw_at lw_m2 186 rfl) rfl
theorem q529 : (Jvm.Cond.lays "PailRow$Row" "PailRow$Row" "empties" "I") ∈ lw_all := lw_g (lw_at lw_m2 187 rfl) rfl
theorem q530 : (Jvm.Cond.soleField "PailRow$Row" "empties") ∈ lw_all := lw_g (lw_at lw_m2 188 rfl) rfl
theorem q531 : (Jvm.Cond.lays "PailRow$Row" "PailRow$Row" "backFirst" "I") ∈ lw_all := lw_g (lw_at lw_m2 189 rfl) rfl
theorem q532 : (Jvm.Cond.soleField "PailRow$Row" "backFirst") ∈ lw_all := lw_g (lw_at lw_m2 190 rfl) rfl
theorem q533 : (Jvm.Cond.lays "PailRow$Row" "PailRow$Row" "backMany" "I") ∈ lw_all := lw_g (lw_at lw_m2 191 rfl) rfl
theorem q534 : (Jvm.Cond.soleField "PailRow$Row" "backMany") ∈ lw_all := lw_g (lw_at lw_m2 192 rfl) rfl
theorem q535 : (Jvm.Cond.lays "PailRow$Row" "PailRow$Row" "drawn" "I") ∈ lw_all := lw_g (lw_at lw_m2 193 rfl) rfl
theorem q536 : (Jvm.Cond.soleField "PailRow$Row" "drawn") ∈ lw_all := lw_g (lw_at lw_m2 194 rfl) rfl
theorem q537 : (Jvm.Cond.lays "PailRow$Row" "PailRow$Row" "spilt" "I") ∈ lw_all := lw_g (lw_at lw_m2 195 rfl) rfl
theorem q538 : (Jvm.Cond.soleField "PailRow$Row" "spilt") ∈ lw_all := lw_g (lw_at lw_m2 196 rfl) rfl
theorem q539 : (Jvm.Cond.laysFinal "PailRow$Row" "PailRow$Team" "men" "[I") ∈ lw_all := lw_g (lw_at lw_m2 197 rfl) rfl
theorem q541 : (Jvm.Cond.lays "PailRow$Row" "PailRow$Team" "yard" "LPailRow$Yard;") ∈ lw_all := lw_g (lw_at lw_m2 199 rfl) rfl
theorem q543 : (Jvm.Cond.lays "PailRow$Row" "PailRow$Team" "many" "I") ∈ lw_all := lw_g (lw_at lw_m2 201 rfl) rfl
theorem q545 : (Jvm.Cond.lays "PailRow$Row" "PailRow$Team" "water" "I") ∈ lw_all := lw_g (lw_at lw_m2 203 rfl) rfl
theorem q547 : (Jvm.Cond.lays "PailRow$Row" "PailRow$Team" "thrown" "I") ∈ lw_all := lw_g (lw_at lw_m2 205 rfl) rfl
theorem q549 : (Jvm.Cond.lays "PailRow$Row" "PailRow$Team" "tick" "I") ∈ lw_all := lw_g (lw_at lw_m2 207 rfl) rfl
theorem q551 : (Jvm.Cond.superclass "PailRow$Row" "PailRow$Team") ∈ lw_all := lw_g (lw_at lw_m2 209 rfl) rfl
theorem q986 : (Jvm.Cond.fieldLinkNest "PailRow$Row" (80 : Nat) "PailRow$Man" "hand" "I" "PailRow") ∈ lw_tbl := lw_at lw_m4 164 rfl
theorem q992 : (Jvm.Cond.fieldLinkNest "PailRow$Row" (120 : Nat) "PailRow$Man" "power" "I" "PailRow") ∈ lw_tbl := lw_at lw_m4 170 rfl
theorem q1134 : (Jvm.Cond.instanceMethod ({ cls := "PailRow$Row", name := "begin", desc := "(LPailRow$Yard;[III)V" } : Jvm.MethodName)) ∈ lw_all := lw_g (lw_at lw_m5 72 rfl) rfl
theorem q1135 : (Jvm.Cond.selects "PailRow$Row" ({ cls := "PailRow$Row", name := "begin", desc := "(LPailRow$Yard;[III)V" } : Jvm.MethodName) ({ cls := "PailRow$Row", name := "begin", desc := "(LPailRow$Yard;[III)V" } : Jvm.MethodName)) ∈ lw_all := lw_g (lw_at lw_m5 73 rfl) rfl
theorem q1136 : (Jvm.Cond.code ({ cls := "PailRow$Row", name := "begin", desc := "(LPailRow$Yard;[III)V" } : Jvm.MethodName) prog_14_method_2_code (6 : Nat) (Option.none : Option Jvm.ClassFile.FieldType)) ∈ lw_all := lw_g (lw_at lw_m5 74 rfl) rfl
theorem q1137 : (Jvm.Cond.methodLink "PailRow$Row" (38 : Nat) ({ cls := "PailRow$Team", name := "begin", desc := "(LPailRow$Yard;[III)V" } : Jvm.MethodName)) ∈ lw_all := lw_g (lw_at lw_m5 75 rfl) rfl
theorem q1144 : (Jvm.Cond.sameMethod "PailRow$Row" "PailRow$Team" "goes" "(I)I") ∈ lw_all := lw_g (lw_at lw_m5 82 rfl) rfl
theorem q1146 : (Jvm.Cond.selects "PailRow$Row" ({ cls := "PailRow$Row", name := "goes", desc := "(I)I" } : Jvm.MethodName) ({ cls := "PailRow$Team", name := "goes", desc := "(I)I" } : Jvm.MethodName)) ∈ lw_all := lw_g (lw_at lw_m5 84 rfl) rfl
theorem q1152 : (Jvm.Cond.selects "PailRow$Row" ({ cls := "PailRow$Team", name := "ticks", desc := "()V" } : Jvm.MethodName) ({ cls := "PailRow$Row", name := "ticks", desc := "()V" } : Jvm.MethodName)) ∈ lw_all := lw_g (lw_at lw_m5 90 rfl) rfl
theorem q1153 : (Jvm.Cond.instanceMethod ({ cls := "PailRow$Row", name := "ticks", desc := "()V" } : Jvm.MethodName)) ∈ lw_all := lw_g (lw_at lw_m5 91 rfl) rfl
theorem q1154 : (Jvm.Cond.code ({ cls := "PailRow$Row", name := "ticks", desc := "()V" } : Jvm.MethodName) prog_14_method_5_code (2 : Nat) (Option.none : Option Jvm.ClassFile.FieldType)) ∈ lw_all := lw_g (lw_at lw_m5 92 rfl) rfl
theorem q1155 : (Jvm.Cond.methodLink "PailRow$Row" (103 : Nat) ({ cls := "PailRow$Row", name := "ends", desc := "(I)V" } : Jvm.MethodName)) ∈ lw_all := lw_g (lw_at lw_m5 93 rfl) rfl
theorem q1156 : (Jvm.Cond.privateMethod ({ cls := "PailRow$Row", name := "ends", desc := "(I)V" } : Jvm.MethodName)) ∈ lw_tbl := lw_at lw_m5 94 rfl
theorem q1157 : (Jvm.Cond.instanceMethod ({ cls := "PailRow$Row", name := "ends", desc := "(I)V" } : Jvm.MethodName)) ∈ lw_all := lw_g (lw_at lw_m5 95 rfl) rfl
theorem q1158 : (Jvm.Cond.code ({ cls := "PailRow$Row", name := "ends", desc := "(I)V" } : Jvm.MethodName) prog_14_method_6_code (3 : Nat) (Option.none : Option Jvm.ClassFile.FieldType)) ∈ lw_all := lw_g (lw_at lw_m5 96 rfl) rfl
theorem q1159 : (Jvm.Cond.methodLink "PailRow$Row" (110 : Nat) ({ cls := "PailRow$Row", name := "starts", desc := "(I)V" } : Jvm.MethodName)) ∈ lw_all := lw_g (lw_at lw_m5 97 rfl) rfl
theorem q1160 : (Jvm.Cond.privateMethod ({ cls := "PailRow$Row", name := "starts", desc := "(I)V" } : Jvm.MethodName)) ∈ lw_tbl := lw_at lw_m5 98 rfl
theorem q1161 : (Jvm.Cond.instanceMethod ({ cls := "PailRow$Row", name := "starts", desc := "(I)V" } : Jvm.MethodName)) ∈ lw_all := lw_g (lw_at lw_m5 99 rfl) rfl
theorem q1162 : (Jvm.Cond.code ({ cls := "PailRow$Row", name := "starts", desc := "(I)V" } : Jvm.MethodName) prog_14_method_7_code (2 : Nat) (Option.none : Option Jvm.ClassFile.FieldType)) ∈ lw_all := lw_g (lw_at lw_m5 100 rfl) rfl
theorem q1163 : (Jvm.Cond.methodLink "PailRow$Row" (91 : Nat) ({ cls := "PailRow$Row", name := "time", desc := "(I)I" } : Jvm.MethodName)) ∈ lw_all := lw_g (lw_at lw_m5 101 rfl) rfl
theorem q1164 : (Jvm.Cond.instanceMethod ({ cls := "PailRow$Row", name := "time", desc := "(I)I" } : Jvm.MethodName)) ∈ lw_all := lw_g (lw_at lw_m5 102 rfl) rfl
theorem q1165 : (Jvm.Cond.selects "PailRow$Row" ({ cls := "PailRow$Row", name := "time", desc := "(I)I" } : Jvm.MethodName) ({ cls := "PailRow$Row", name := "time", desc := "(I)I" } : Jvm.MethodName)) ∈ lw_all := lw_g (lw_at lw_m5 103 rfl) rfl
theorem q1166 : (Jvm.Cond.code ({ cls := "PailRow$Row", name := "time", desc := "(I)I" } : Jvm.MethodName) prog_14_method_3_code (3 : Nat) (Option.some Jvm.ClassFile.FieldType.int)) ∈ lw_all := lw_g (lw_at lw_m5 104 rfl) rfl
theorem q1167 : (Jvm.Cond.methodLinkNest "PailRow$Row" (72 : Nat) ({ cls := "PailRow", name := "up", desc := "(II)I" } : Jvm.MethodName) "PailRow") ∈ lw_tbl := lw_at lw_m5 105 rfl
theorem q1170 : (Jvm.Cond.methodLink "PailRow$Row" (76 : Nat) ({ cls := "PailRow$Row", name := "man", desc := "(I)LPailRow$Man;" } : Jvm.MethodName)) ∈ lw_all := lw_g (lw_at lw_m5 108 rfl) rfl
theorem q1171 : (Jvm.Cond.sameMethod "PailRow$Row" "PailRow$Team" "man" "(I)LPailRow$Man;") ∈ lw_all := lw_g (lw_at lw_m5 109 rfl) rfl
theorem q1173 : (Jvm.Cond.selects "PailRow$Row" ({ cls := "PailRow$Row", name := "man", desc := "(I)LPailRow$Man;" } : Jvm.MethodName) ({ cls := "PailRow$Team", name := "man", desc := "(I)LPailRow$Man;" } : Jvm.MethodName)) ∈ lw_all := lw_g (lw_at lw_m5 111 rfl) rfl
theorem q1176 : (Jvm.Cond.methodLink "PailRow$Row" (123 : Nat) ({ cls := "PailRow$Row", name := "draws", desc := "()I" } : Jvm.MethodName)) ∈ lw_all := lw_g (lw_at lw_m5 114 rfl) rfl
theorem q1177 : (Jvm.Cond.sameMethod "PailRow$Row" "PailRow$Team" "draws" "()I") ∈ lw_all := lw_g (lw_at lw_m5 115 rfl) rfl
theorem q1179 : (Jvm.Cond.selects "PailRow$Row" ({ cls := "PailRow$Row", name := "draws", desc := "()I" } : Jvm.MethodName) ({ cls := "PailRow$Team", name := "draws", desc := "()I" } : Jvm.MethodName)) ∈ lw_all := lw_g (lw_at lw_m5 117 rfl) rfl
theorem q1185 : (Jvm.Cond.methodLink "PailRow$Row" (95 : Nat) ({ cls := "java/lang/Math", name := "max", desc := "(II)I" } : Jvm.MethodName)) ∈ lw_all := lw_g (lw_at lw_m5 123 rfl) rfl
theorem q1207 : (Jvm.Cond.instanceMethod ({ cls := "PailRow$Row", name := "heap", desc := "()I" } : Jvm.MethodName)) ∈ lw_all := lw_g (lw_at lw_m5 145 rfl) rfl
theorem q1208 : (Jvm.Cond.selects "PailRow$Row" ({ cls := "PailRow$Row", name := "heap", desc := "()I" } : Jvm.MethodName) ({ cls := "PailRow$Row", name := "heap", desc := "()I" } : Jvm.MethodName)) ∈ lw_all := lw_g (lw_at lw_m5 146 rfl) rfl
theorem q1209 : (Jvm.Cond.code ({ cls := "PailRow$Row", name := "heap", desc := "()I" } : Jvm.MethodName) prog_14_method_8_code (3 : Nat) (Option.some Jvm.ClassFile.FieldType.int)) ∈ lw_all := lw_g (lw_at lw_m5 147 rfl) rfl
theorem q1224 : (Jvm.Cond.instanceMethod ({ cls := "PailRow$Row", name := "period", desc := "()I" } : Jvm.MethodName)) ∈ lw_all := lw_g (lw_at lw_m5 162 rfl) rfl
theorem q1225 : (Jvm.Cond.selects "PailRow$Row" ({ cls := "PailRow$Row", name := "period", desc := "()I" } : Jvm.MethodName) ({ cls := "PailRow$Row", name := "period", desc := "()I" } : Jvm.MethodName)) ∈ lw_all := lw_g (lw_at lw_m5 163 rfl) rfl
theorem q1226 : (Jvm.Cond.code ({ cls := "PailRow$Row", name := "period", desc := "()I" } : Jvm.MethodName) prog_14_method_4_code (3 : Nat) (Option.some Jvm.ClassFile.FieldType.int)) ∈ lw_all := lw_g (lw_at lw_m5 164 rfl) rfl
theorem q2343 : (Jvm.Cond.selects "PailRow$Row" ({ cls := "PailRow$Team", name := "begin", desc := "(LPailRow$Yard;[III)V" } : Jvm.MethodName) ({ cls := "PailRow$Row", name := "begin", desc := "(LPailRow$Yard;[III)V" } : Jvm.MethodName)) ∈ lw_all := lw_g (lw_at lw_m10 81 rfl) rfl
theorem q2346 : (Jvm.Cond.selects "PailRow$Row" ({ cls := "PailRow$Team", name := "goes", desc := "(I)I" } : Jvm.MethodName) ({ cls := "PailRow$Team", name := "goes", desc := "(I)I" } : Jvm.MethodName)) ∈ lw_all := lw_g (lw_at lw_m10 84 rfl) rfl
theorem q2355 : (Jvm.Cond.castable "PailRow$Row" "java/lang/Object") ∈ lw_tbl := lw_at lw_m10 93 rfl
theorem in_X10 : ∀ w ∈ wsX100, w ∈ lw_all := lw_in wsX100 [539, 541, 543, 545, 547, 549, 513, 515, 517, 519, 521, 523, 525, 527, 529, 531, 533, 535, 537] (by decide +kernel) (by decide +kernel)
/-! PailRow$Runners -/
set_option maxRecDepth 100000
def RX11 : String := "PailRow$Runners"
def TX11 : u_T := fun k => match k with
  | 0 => ("PailRow$Team", "men", "[I", true)
  | 1 => ("PailRow$Team", "yard", "LPailRow$Yard;", false)
  | 2 => ("PailRow$Team", "many", "I", false)
  | 3 => ("PailRow$Team", "water", "I", false)
  | 4 => ("PailRow$Team", "thrown", "I", false)
  | 5 => ("PailRow$Team", "tick", "I", false)
  | 6 => ("PailRow$Runners", "does", "[I", true)
  | 7 => ("PailRow$Runners", "left", "[I", true)
  | 8 => ("PailRow$Runners", "litres", "[I", true)
  | _ => ("PailRow$Runners", "drawing", "Z", false)
def tyX11 : Nat → FieldType := fun k => match k with
  | 0 => .array .int
  | 1 => .object "PailRow$Yard"
  | 2 => .int
  | 3 => .int
  | 4 => .int
  | 5 => .int
  | 6 => .array .int
  | 7 => .array .int
  | 8 => .array .int
  | _ => .boolean
abbrev wsX110 : List Cond := u_ws RX11 TX11 10
theorem nmX11 : ∀ a, a < 10 → ∀ b, b < 10 → a ≠ b → (TX11 a).2.1 ≠ (TX11 b).2.1 := by decide +kernel
theorem tyX11_ok : ∀ k, k < 10 → parseFieldDescriptor (TX11 k).2.2.1 = some (tyX11 k) := by decide +kernel
abbrev cX11_init : ByteArray := prog_15_method_1_code
def yX11_init : MethodName := ⟨RX11, "<init>", "()V"⟩
def dkwX11_init_1 : List UInt8 := [188, 10, 181, 0, 18, 177]
abbrev dktX11_init_1 : List UInt8 := dkwX11_init_1 ++ []
def dkwX11_init_0 : List UInt8 := [42, 183, 0, 3, 42, 16, 12, 188, 10, 181, 0, 9, 42, 16, 12, 188, 10, 181, 0, 15, 42, 16, 12]
abbrev dktX11_init_0 : List UInt8 := dkwX11_init_0 ++ dktX11_init_1
theorem dksX11_init_0 : cX11_init.data.toList.drop 0 = dktX11_init_0 := by decide +kernel
theorem dksX11_init_1 : cX11_init.data.toList.drop 23 = dktX11_init_1 := dk_seg dksX11_init_0 23 rfl rfl
theorem dX11_init_0 : decode cX11_init 0 = .ok (.aload_n 0, 1) := dk_42 (dk_at dksX11_init_0 0 rfl rfl)
theorem dX11_init_1 : decode cX11_init 1 = .ok (.invokespecial 3, 3) := dk_183 0 3 (dk_at dksX11_init_0 1 rfl rfl)
theorem dX11_init_4 : decode cX11_init 4 = .ok (.aload_n 0, 1) := dk_42 (dk_at dksX11_init_0 4 rfl rfl)
theorem dX11_init_5 : decode cX11_init 5 = .ok (.bipush 12, 2) := dk_16 12 (dk_at dksX11_init_0 5 rfl rfl)
theorem dX11_init_7 : decode cX11_init 7 = .ok (.newarray .int, 2) := dk_188_10 (dk_at dksX11_init_0 7 rfl rfl)
theorem dX11_init_9 : decode cX11_init 9 = .ok (.putfield 9, 3) := dk_181 0 9 (dk_at dksX11_init_0 9 rfl rfl)
theorem dX11_init_12 : decode cX11_init 12 = .ok (.aload_n 0, 1) := dk_42 (dk_at dksX11_init_0 12 rfl rfl)
theorem dX11_init_13 : decode cX11_init 13 = .ok (.bipush 12, 2) := dk_16 12 (dk_at dksX11_init_0 13 rfl rfl)
theorem dX11_init_15 : decode cX11_init 15 = .ok (.newarray .int, 2) := dk_188_10 (dk_at dksX11_init_0 15 rfl rfl)
theorem dX11_init_17 : decode cX11_init 17 = .ok (.putfield 15, 3) := dk_181 0 15 (dk_at dksX11_init_0 17 rfl rfl)
theorem dX11_init_20 : decode cX11_init 20 = .ok (.aload_n 0, 1) := dk_42 (dk_at dksX11_init_0 20 rfl rfl)
theorem dX11_init_21 : decode cX11_init 21 = .ok (.bipush 12, 2) := dk_16 12 (dk_at dksX11_init_0 21 rfl rfl)
theorem dX11_init_23 : decode cX11_init 23 = .ok (.newarray .int, 2) := dk_188_10 (dk_at dksX11_init_1 0 rfl rfl)
theorem dX11_init_25 : decode cX11_init 25 = .ok (.putfield 18, 3) := dk_181 0 18 (dk_at dksX11_init_1 2 rfl rfl)
theorem dX11_init_28 : decode cX11_init 28 = .ok (.return_, 1) := dk_177 (dk_at dksX11_init_1 5 rfl rfl)
abbrev cX11_ticks : ByteArray := prog_15_method_3_code
def yX11_ticks : MethodName := ⟨RX11, "ticks", "()V"⟩
def dkwX11_ticks_4 : List UInt8 := [27, 42, 180, 0, 55, 180, 0, 59, 79, 132, 1, 1, 167, 255, 151, 177]
abbrev dktX11_ticks_4 : List UInt8 := dkwX11_ticks_4 ++ []
def dkwX11_ticks_3 : List UInt8 := [181, 0, 37, 42, 180, 0, 18, 27, 42, 182, 0, 51, 79, 42, 180, 0, 9, 27, 4, 79, 42, 180, 0, 15]
abbrev dktX11_ticks_3 : List UInt8 := dkwX11_ticks_3 ++ dktX11_ticks_4
def dkwX11_ticks_2 : List UInt8 := [46, 154, 0, 55, 42, 180, 0, 37, 154, 0, 48, 42, 180, 0, 48, 154, 0, 6, 167, 0, 38, 42, 4]
abbrev dktX11_ticks_2 : List UInt8 := dkwX11_ticks_2 ++ dktX11_ticks_3
def dkwX11_ticks_1 : List UInt8 := [92, 46, 4, 100, 79, 42, 180, 0, 15, 27, 46, 154, 0, 8, 42, 27, 182, 0, 44, 42, 180, 0, 9, 27]
abbrev dktX11_ticks_1 : List UInt8 := dkwX11_ticks_1 ++ dktX11_ticks_2
def dkwX11_ticks_0 : List UInt8 := [3, 60, 27, 42, 180, 0, 41, 162, 0, 103, 42, 180, 0, 9, 27, 46, 153, 0, 27, 42, 180, 0, 15, 27]
abbrev dktX11_ticks_0 : List UInt8 := dkwX11_ticks_0 ++ dktX11_ticks_1
theorem dksX11_ticks_0 : cX11_ticks.data.toList.drop 0 = dktX11_ticks_0 := by decide +kernel
theorem dksX11_ticks_1 : cX11_ticks.data.toList.drop 24 = dktX11_ticks_1 := dk_seg dksX11_ticks_0 24 rfl rfl
theorem dksX11_ticks_2 : cX11_ticks.data.toList.drop 48 = dktX11_ticks_2 := dk_seg dksX11_ticks_1 24 rfl rfl
theorem dksX11_ticks_3 : cX11_ticks.data.toList.drop 71 = dktX11_ticks_3 := dk_seg dksX11_ticks_2 23 rfl rfl
theorem dksX11_ticks_4 : cX11_ticks.data.toList.drop 95 = dktX11_ticks_4 := dk_seg dksX11_ticks_3 24 rfl rfl
theorem dX11_ticks_0 : decode cX11_ticks 0 = .ok (.iconst 0, 1) := dk_3 (dk_at dksX11_ticks_0 0 rfl rfl)
theorem dX11_ticks_1 : decode cX11_ticks 1 = .ok (.istore_n 1, 1) := dk_60 (dk_at dksX11_ticks_0 1 rfl rfl)
theorem dX11_ticks_2 : decode cX11_ticks 2 = .ok (.iload_n 1, 1) := dk_27 (dk_at dksX11_ticks_0 2 rfl rfl)
theorem dX11_ticks_3 : decode cX11_ticks 3 = .ok (.aload_n 0, 1) := dk_42 (dk_at dksX11_ticks_0 3 rfl rfl)
theorem dX11_ticks_4 : decode cX11_ticks 4 = .ok (.getfield 41, 3) := dk_180 0 41 (dk_at dksX11_ticks_0 4 rfl rfl)
theorem dX11_ticks_7 : decode cX11_ticks 7 = .ok (.if_icmp .ge 103, 3) := dk_162 0 103 (dk_at dksX11_ticks_0 7 rfl rfl)
theorem dX11_ticks_10 : decode cX11_ticks 10 = .ok (.aload_n 0, 1) := dk_42 (dk_at dksX11_ticks_0 10 rfl rfl)
theorem dX11_ticks_11 : decode cX11_ticks 11 = .ok (.getfield 9, 3) := dk_180 0 9 (dk_at dksX11_ticks_0 11 rfl rfl)
theorem dX11_ticks_14 : decode cX11_ticks 14 = .ok (.iload_n 1, 1) := dk_27 (dk_at dksX11_ticks_0 14 rfl rfl)
theorem dX11_ticks_15 : decode cX11_ticks 15 = .ok (.iaload, 1) := dk_46 (dk_at dksX11_ticks_0 15 rfl rfl)
theorem dX11_ticks_16 : decode cX11_ticks 16 = .ok (.ifCond .eq 27, 3) := dk_153 0 27 (dk_at dksX11_ticks_0 16 rfl rfl)
theorem dX11_ticks_19 : decode cX11_ticks 19 = .ok (.aload_n 0, 1) := dk_42 (dk_at dksX11_ticks_0 19 rfl rfl)
theorem dX11_ticks_20 : decode cX11_ticks 20 = .ok (.getfield 15, 3) := dk_180 0 15 (dk_at dksX11_ticks_0 20 rfl rfl)
theorem dX11_ticks_23 : decode cX11_ticks 23 = .ok (.iload_n 1, 1) := dk_27 (dk_at dksX11_ticks_0 23 rfl rfl)
theorem dX11_ticks_24 : decode cX11_ticks 24 = .ok (.dup2, 1) := dk_92 (dk_at dksX11_ticks_1 0 rfl rfl)
theorem dX11_ticks_25 : decode cX11_ticks 25 = .ok (.iaload, 1) := dk_46 (dk_at dksX11_ticks_1 1 rfl rfl)
theorem dX11_ticks_26 : decode cX11_ticks 26 = .ok (.iconst 1, 1) := dk_4 (dk_at dksX11_ticks_1 2 rfl rfl)
theorem dX11_ticks_27 : decode cX11_ticks 27 = .ok (.isub, 1) := dk_100 (dk_at dksX11_ticks_1 3 rfl rfl)
theorem dX11_ticks_28 : decode cX11_ticks 28 = .ok (.iastore, 1) := dk_79 (dk_at dksX11_ticks_1 4 rfl rfl)
theorem dX11_ticks_29 : decode cX11_ticks 29 = .ok (.aload_n 0, 1) := dk_42 (dk_at dksX11_ticks_1 5 rfl rfl)
theorem dX11_ticks_30 : decode cX11_ticks 30 = .ok (.getfield 15, 3) := dk_180 0 15 (dk_at dksX11_ticks_1 6 rfl rfl)
theorem dX11_ticks_33 : decode cX11_ticks 33 = .ok (.iload_n 1, 1) := dk_27 (dk_at dksX11_ticks_1 9 rfl rfl)
theorem dX11_ticks_34 : decode cX11_ticks 34 = .ok (.iaload, 1) := dk_46 (dk_at dksX11_ticks_1 10 rfl rfl)
theorem dX11_ticks_35 : decode cX11_ticks 35 = .ok (.ifCond .ne 8, 3) := dk_154 0 8 (dk_at dksX11_ticks_1 11 rfl rfl)
theorem dX11_ticks_38 : decode cX11_ticks 38 = .ok (.aload_n 0, 1) := dk_42 (dk_at dksX11_ticks_1 14 rfl rfl)
theorem dX11_ticks_39 : decode cX11_ticks 39 = .ok (.iload_n 1, 1) := dk_27 (dk_at dksX11_ticks_1 15 rfl rfl)
theorem dX11_ticks_40 : decode cX11_ticks 40 = .ok (.invokevirtual 44, 3) := dk_182 0 44 (dk_at dksX11_ticks_1 16 rfl rfl)
theorem dX11_ticks_43 : decode cX11_ticks 43 = .ok (.aload_n 0, 1) := dk_42 (dk_at dksX11_ticks_1 19 rfl rfl)
theorem dX11_ticks_44 : decode cX11_ticks 44 = .ok (.getfield 9, 3) := dk_180 0 9 (dk_at dksX11_ticks_1 20 rfl rfl)
theorem dX11_ticks_47 : decode cX11_ticks 47 = .ok (.iload_n 1, 1) := dk_27 (dk_at dksX11_ticks_1 23 rfl rfl)
theorem dX11_ticks_48 : decode cX11_ticks 48 = .ok (.iaload, 1) := dk_46 (dk_at dksX11_ticks_2 0 rfl rfl)
theorem dX11_ticks_49 : decode cX11_ticks 49 = .ok (.ifCond .ne 55, 3) := dk_154 0 55 (dk_at dksX11_ticks_2 1 rfl rfl)
theorem dX11_ticks_52 : decode cX11_ticks 52 = .ok (.aload_n 0, 1) := dk_42 (dk_at dksX11_ticks_2 4 rfl rfl)
theorem dX11_ticks_53 : decode cX11_ticks 53 = .ok (.getfield 37, 3) := dk_180 0 37 (dk_at dksX11_ticks_2 5 rfl rfl)
theorem dX11_ticks_56 : decode cX11_ticks 56 = .ok (.ifCond .ne 48, 3) := dk_154 0 48 (dk_at dksX11_ticks_2 8 rfl rfl)
theorem dX11_ticks_59 : decode cX11_ticks 59 = .ok (.aload_n 0, 1) := dk_42 (dk_at dksX11_ticks_2 11 rfl rfl)
theorem dX11_ticks_60 : decode cX11_ticks 60 = .ok (.getfield 48, 3) := dk_180 0 48 (dk_at dksX11_ticks_2 12 rfl rfl)
theorem dX11_ticks_63 : decode cX11_ticks 63 = .ok (.ifCond .ne 6, 3) := dk_154 0 6 (dk_at dksX11_ticks_2 15 rfl rfl)
theorem dX11_ticks_66 : decode cX11_ticks 66 = .ok (.goto 38, 3) := dk_167 0 38 (dk_at dksX11_ticks_2 18 rfl rfl)
theorem dX11_ticks_69 : decode cX11_ticks 69 = .ok (.aload_n 0, 1) := dk_42 (dk_at dksX11_ticks_2 21 rfl rfl)
theorem dX11_ticks_70 : decode cX11_ticks 70 = .ok (.iconst 1, 1) := dk_4 (dk_at dksX11_ticks_2 22 rfl rfl)
theorem dX11_ticks_71 : decode cX11_ticks 71 = .ok (.putfield 37, 3) := dk_181 0 37 (dk_at dksX11_ticks_3 0 rfl rfl)
theorem dX11_ticks_74 : decode cX11_ticks 74 = .ok (.aload_n 0, 1) := dk_42 (dk_at dksX11_ticks_3 3 rfl rfl)
theorem dX11_ticks_75 : decode cX11_ticks 75 = .ok (.getfield 18, 3) := dk_180 0 18 (dk_at dksX11_ticks_3 4 rfl rfl)
theorem dX11_ticks_78 : decode cX11_ticks 78 = .ok (.iload_n 1, 1) := dk_27 (dk_at dksX11_ticks_3 7 rfl rfl)
theorem dX11_ticks_79 : decode cX11_ticks 79 = .ok (.aload_n 0, 1) := dk_42 (dk_at dksX11_ticks_3 8 rfl rfl)
theorem dX11_ticks_80 : decode cX11_ticks 80 = .ok (.invokevirtual 51, 3) := dk_182 0 51 (dk_at dksX11_ticks_3 9 rfl rfl)
theorem dX11_ticks_83 : decode cX11_ticks 83 = .ok (.iastore, 1) := dk_79 (dk_at dksX11_ticks_3 12 rfl rfl)
theorem dX11_ticks_84 : decode cX11_ticks 84 = .ok (.aload_n 0, 1) := dk_42 (dk_at dksX11_ticks_3 13 rfl rfl)
theorem dX11_ticks_85 : decode cX11_ticks 85 = .ok (.getfield 9, 3) := dk_180 0 9 (dk_at dksX11_ticks_3 14 rfl rfl)
theorem dX11_ticks_88 : decode cX11_ticks 88 = .ok (.iload_n 1, 1) := dk_27 (dk_at dksX11_ticks_3 17 rfl rfl)
theorem dX11_ticks_89 : decode cX11_ticks 89 = .ok (.iconst 1, 1) := dk_4 (dk_at dksX11_ticks_3 18 rfl rfl)
theorem dX11_ticks_90 : decode cX11_ticks 90 = .ok (.iastore, 1) := dk_79 (dk_at dksX11_ticks_3 19 rfl rfl)
theorem dX11_ticks_91 : decode cX11_ticks 91 = .ok (.aload_n 0, 1) := dk_42 (dk_at dksX11_ticks_3 20 rfl rfl)
theorem dX11_ticks_92 : decode cX11_ticks 92 = .ok (.getfield 15, 3) := dk_180 0 15 (dk_at dksX11_ticks_3 21 rfl rfl)
theorem dX11_ticks_95 : decode cX11_ticks 95 = .ok (.iload_n 1, 1) := dk_27 (dk_at dksX11_ticks_4 0 rfl rfl)
theorem dX11_ticks_96 : decode cX11_ticks 96 = .ok (.aload_n 0, 1) := dk_42 (dk_at dksX11_ticks_4 1 rfl rfl)
theorem dX11_ticks_97 : decode cX11_ticks 97 = .ok (.getfield 55, 3) := dk_180 0 55 (dk_at dksX11_ticks_4 2 rfl rfl)
theorem dX11_ticks_100 : decode cX11_ticks 100 = .ok (.getfield 59, 3) := dk_180 0 59 (dk_at dksX11_ticks_4 5 rfl rfl)
theorem dX11_ticks_103 : decode cX11_ticks 103 = .ok (.iastore, 1) := dk_79 (dk_at dksX11_ticks_4 8 rfl rfl)
theorem dX11_ticks_104 : decode cX11_ticks 104 = .ok (.iinc 1 1, 3) := dk_132 1 1 (dk_at dksX11_ticks_4 9 rfl rfl)
theorem dX11_ticks_107 : decode cX11_ticks 107 = .ok (.goto (-105), 3) := dk_167 255 151 (dk_at dksX11_ticks_4 12 rfl rfl)
theorem dX11_ticks_110 : decode cX11_ticks 110 = .ok (.return_, 1) := dk_177 (dk_at dksX11_ticks_4 15 rfl rfl)
abbrev cX11_ends : ByteArray := prog_15_method_4_code
def yX11_ends : MethodName := ⟨RX11, "ends", "(I)V"⟩
def dkwX11_ends_4 : List UInt8 := [4, 96, 79, 177]
abbrev dktX11_ends_4 : List UInt8 := dkwX11_ends_4 ++ []
def dkwX11_ends_3 : List UInt8 := [180, 0, 9, 27, 42, 180, 0, 9, 27, 46, 6, 160, 0, 7, 3, 167, 0, 11, 42, 180, 0, 9, 27, 46]
abbrev dktX11_ends_3 : List UInt8 := dkwX11_ends_3 ++ dktX11_ends_4
def dkwX11_ends_2 : List UInt8 := [160, 0, 22, 42, 89, 180, 0, 77, 42, 180, 0, 18, 27, 46, 5, 184, 0, 74, 96, 181, 0, 77, 42]
abbrev dktX11_ends_2 : List UInt8 := dkwX11_ends_2 ++ dktX11_ends_3
def dkwX11_ends_1 : List UInt8 := [42, 180, 0, 9, 27, 46, 4, 160, 0, 8, 42, 3, 181, 0, 37, 42, 180, 0, 9, 27, 46, 5]
abbrev dktX11_ends_1 : List UInt8 := dkwX11_ends_1 ++ dktX11_ends_2
def dkwX11_ends_0 : List UInt8 := [42, 180, 0, 15, 27, 42, 180, 0, 55, 180, 0, 62, 42, 27, 182, 0, 65, 180, 0, 69, 184, 0, 74, 79]
abbrev dktX11_ends_0 : List UInt8 := dkwX11_ends_0 ++ dktX11_ends_1
theorem dksX11_ends_0 : cX11_ends.data.toList.drop 0 = dktX11_ends_0 := by decide +kernel
theorem dksX11_ends_1 : cX11_ends.data.toList.drop 24 = dktX11_ends_1 := dk_seg dksX11_ends_0 24 rfl rfl
theorem dksX11_ends_2 : cX11_ends.data.toList.drop 46 = dktX11_ends_2 := dk_seg dksX11_ends_1 22 rfl rfl
theorem dksX11_ends_3 : cX11_ends.data.toList.drop 69 = dktX11_ends_3 := dk_seg dksX11_ends_2 23 rfl rfl
theorem dksX11_ends_4 : cX11_ends.data.toList.drop 93 = dktX11_ends_4 := dk_seg dksX11_ends_3 24 rfl rfl
theorem dX11_ends_0 : decode cX11_ends 0 = .ok (.aload_n 0, 1) := dk_42 (dk_at dksX11_ends_0 0 rfl rfl)
theorem dX11_ends_1 : decode cX11_ends 1 = .ok (.getfield 15, 3) := dk_180 0 15 (dk_at dksX11_ends_0 1 rfl rfl)
theorem dX11_ends_4 : decode cX11_ends 4 = .ok (.iload_n 1, 1) := dk_27 (dk_at dksX11_ends_0 4 rfl rfl)
theorem dX11_ends_5 : decode cX11_ends 5 = .ok (.aload_n 0, 1) := dk_42 (dk_at dksX11_ends_0 5 rfl rfl)
theorem dX11_ends_6 : decode cX11_ends 6 = .ok (.getfield 55, 3) := dk_180 0 55 (dk_at dksX11_ends_0 6 rfl rfl)
theorem dX11_ends_9 : decode cX11_ends 9 = .ok (.getfield 62, 3) := dk_180 0 62 (dk_at dksX11_ends_0 9 rfl rfl)
theorem dX11_ends_12 : decode cX11_ends 12 = .ok (.aload_n 0, 1) := dk_42 (dk_at dksX11_ends_0 12 rfl rfl)
theorem dX11_ends_13 : decode cX11_ends 13 = .ok (.iload_n 1, 1) := dk_27 (dk_at dksX11_ends_0 13 rfl rfl)
theorem dX11_ends_14 : decode cX11_ends 14 = .ok (.invokevirtual 65, 3) := dk_182 0 65 (dk_at dksX11_ends_0 14 rfl rfl)
theorem dX11_ends_17 : decode cX11_ends 17 = .ok (.getfield 69, 3) := dk_180 0 69 (dk_at dksX11_ends_0 17 rfl rfl)
theorem dX11_ends_20 : decode cX11_ends 20 = .ok (.invokestatic 74, 3) := dk_184 0 74 (dk_at dksX11_ends_0 20 rfl rfl)
theorem dX11_ends_23 : decode cX11_ends 23 = .ok (.iastore, 1) := dk_79 (dk_at dksX11_ends_0 23 rfl rfl)
theorem dX11_ends_24 : decode cX11_ends 24 = .ok (.aload_n 0, 1) := dk_42 (dk_at dksX11_ends_1 0 rfl rfl)
theorem dX11_ends_25 : decode cX11_ends 25 = .ok (.getfield 9, 3) := dk_180 0 9 (dk_at dksX11_ends_1 1 rfl rfl)
theorem dX11_ends_28 : decode cX11_ends 28 = .ok (.iload_n 1, 1) := dk_27 (dk_at dksX11_ends_1 4 rfl rfl)
theorem dX11_ends_29 : decode cX11_ends 29 = .ok (.iaload, 1) := dk_46 (dk_at dksX11_ends_1 5 rfl rfl)
theorem dX11_ends_30 : decode cX11_ends 30 = .ok (.iconst 1, 1) := dk_4 (dk_at dksX11_ends_1 6 rfl rfl)
theorem dX11_ends_31 : decode cX11_ends 31 = .ok (.if_icmp .ne 8, 3) := dk_160 0 8 (dk_at dksX11_ends_1 7 rfl rfl)
theorem dX11_ends_34 : decode cX11_ends 34 = .ok (.aload_n 0, 1) := dk_42 (dk_at dksX11_ends_1 10 rfl rfl)
theorem dX11_ends_35 : decode cX11_ends 35 = .ok (.iconst 0, 1) := dk_3 (dk_at dksX11_ends_1 11 rfl rfl)
theorem dX11_ends_36 : decode cX11_ends 36 = .ok (.putfield 37, 3) := dk_181 0 37 (dk_at dksX11_ends_1 12 rfl rfl)
theorem dX11_ends_39 : decode cX11_ends 39 = .ok (.aload_n 0, 1) := dk_42 (dk_at dksX11_ends_1 15 rfl rfl)
theorem dX11_ends_40 : decode cX11_ends 40 = .ok (.getfield 9, 3) := dk_180 0 9 (dk_at dksX11_ends_1 16 rfl rfl)
theorem dX11_ends_43 : decode cX11_ends 43 = .ok (.iload_n 1, 1) := dk_27 (dk_at dksX11_ends_1 19 rfl rfl)
theorem dX11_ends_44 : decode cX11_ends 44 = .ok (.iaload, 1) := dk_46 (dk_at dksX11_ends_1 20 rfl rfl)
theorem dX11_ends_45 : decode cX11_ends 45 = .ok (.iconst 2, 1) := dk_5 (dk_at dksX11_ends_1 21 rfl rfl)
theorem dX11_ends_46 : decode cX11_ends 46 = .ok (.if_icmp .ne 22, 3) := dk_160 0 22 (dk_at dksX11_ends_2 0 rfl rfl)
theorem dX11_ends_49 : decode cX11_ends 49 = .ok (.aload_n 0, 1) := dk_42 (dk_at dksX11_ends_2 3 rfl rfl)
theorem dX11_ends_50 : decode cX11_ends 50 = .ok (.dup, 1) := dk_89 (dk_at dksX11_ends_2 4 rfl rfl)
theorem dX11_ends_51 : decode cX11_ends 51 = .ok (.getfield 77, 3) := dk_180 0 77 (dk_at dksX11_ends_2 5 rfl rfl)
theorem dX11_ends_54 : decode cX11_ends 54 = .ok (.aload_n 0, 1) := dk_42 (dk_at dksX11_ends_2 8 rfl rfl)
theorem dX11_ends_55 : decode cX11_ends 55 = .ok (.getfield 18, 3) := dk_180 0 18 (dk_at dksX11_ends_2 9 rfl rfl)
theorem dX11_ends_58 : decode cX11_ends 58 = .ok (.iload_n 1, 1) := dk_27 (dk_at dksX11_ends_2 12 rfl rfl)
theorem dX11_ends_59 : decode cX11_ends 59 = .ok (.iaload, 1) := dk_46 (dk_at dksX11_ends_2 13 rfl rfl)
theorem dX11_ends_60 : decode cX11_ends 60 = .ok (.iconst 2, 1) := dk_5 (dk_at dksX11_ends_2 14 rfl rfl)
theorem dX11_ends_61 : decode cX11_ends 61 = .ok (.invokestatic 74, 3) := dk_184 0 74 (dk_at dksX11_ends_2 15 rfl rfl)
theorem dX11_ends_64 : decode cX11_ends 64 = .ok (.iadd, 1) := dk_96 (dk_at dksX11_ends_2 18 rfl rfl)
theorem dX11_ends_65 : decode cX11_ends 65 = .ok (.putfield 77, 3) := dk_181 0 77 (dk_at dksX11_ends_2 19 rfl rfl)
theorem dX11_ends_68 : decode cX11_ends 68 = .ok (.aload_n 0, 1) := dk_42 (dk_at dksX11_ends_2 22 rfl rfl)
theorem dX11_ends_69 : decode cX11_ends 69 = .ok (.getfield 9, 3) := dk_180 0 9 (dk_at dksX11_ends_3 0 rfl rfl)
theorem dX11_ends_72 : decode cX11_ends 72 = .ok (.iload_n 1, 1) := dk_27 (dk_at dksX11_ends_3 3 rfl rfl)
theorem dX11_ends_73 : decode cX11_ends 73 = .ok (.aload_n 0, 1) := dk_42 (dk_at dksX11_ends_3 4 rfl rfl)
theorem dX11_ends_74 : decode cX11_ends 74 = .ok (.getfield 9, 3) := dk_180 0 9 (dk_at dksX11_ends_3 5 rfl rfl)
theorem dX11_ends_77 : decode cX11_ends 77 = .ok (.iload_n 1, 1) := dk_27 (dk_at dksX11_ends_3 8 rfl rfl)
theorem dX11_ends_78 : decode cX11_ends 78 = .ok (.iaload, 1) := dk_46 (dk_at dksX11_ends_3 9 rfl rfl)
theorem dX11_ends_79 : decode cX11_ends 79 = .ok (.iconst 3, 1) := dk_6 (dk_at dksX11_ends_3 10 rfl rfl)
theorem dX11_ends_80 : decode cX11_ends 80 = .ok (.if_icmp .ne 7, 3) := dk_160 0 7 (dk_at dksX11_ends_3 11 rfl rfl)
theorem dX11_ends_83 : decode cX11_ends 83 = .ok (.iconst 0, 1) := dk_3 (dk_at dksX11_ends_3 14 rfl rfl)
theorem dX11_ends_84 : decode cX11_ends 84 = .ok (.goto 11, 3) := dk_167 0 11 (dk_at dksX11_ends_3 15 rfl rfl)
theorem dX11_ends_87 : decode cX11_ends 87 = .ok (.aload_n 0, 1) := dk_42 (dk_at dksX11_ends_3 18 rfl rfl)
theorem dX11_ends_88 : decode cX11_ends 88 = .ok (.getfield 9, 3) := dk_180 0 9 (dk_at dksX11_ends_3 19 rfl rfl)
theorem dX11_ends_91 : decode cX11_ends 91 = .ok (.iload_n 1, 1) := dk_27 (dk_at dksX11_ends_3 22 rfl rfl)
theorem dX11_ends_92 : decode cX11_ends 92 = .ok (.iaload, 1) := dk_46 (dk_at dksX11_ends_3 23 rfl rfl)
theorem dX11_ends_93 : decode cX11_ends 93 = .ok (.iconst 1, 1) := dk_4 (dk_at dksX11_ends_4 0 rfl rfl)
theorem dX11_ends_94 : decode cX11_ends 94 = .ok (.iadd, 1) := dk_96 (dk_at dksX11_ends_4 1 rfl rfl)
theorem dX11_ends_95 : decode cX11_ends 95 = .ok (.iastore, 1) := dk_79 (dk_at dksX11_ends_4 2 rfl rfl)
theorem dX11_ends_96 : decode cX11_ends 96 = .ok (.return_, 1) := dk_177 (dk_at dksX11_ends_4 3 rfl rfl)
abbrev cX11_begin : ByteArray := prog_15_method_2_code
def yX11_begin : MethodName := ⟨RX11, "begin", "(LPailRow$Yard;[III)V"⟩
def dkwX11_begin_1 : List UInt8 := [21, 5, 16, 12, 162, 0, 17, 42, 180, 0, 9, 21, 5, 3, 79, 132, 5, 1, 167, 255, 238, 177]
abbrev dktX11_begin_1 : List UInt8 := dkwX11_begin_1 ++ []
def dkwX11_begin_0 : List UInt8 := [42, 43, 44, 29, 43, 180, 0, 21, 184, 0, 27, 21, 4, 183, 0, 33, 42, 3, 181, 0, 37, 3, 54, 5]
abbrev dktX11_begin_0 : List UInt8 := dkwX11_begin_0 ++ dktX11_begin_1
theorem dksX11_begin_0 : cX11_begin.data.toList.drop 0 = dktX11_begin_0 := by decide +kernel
theorem dksX11_begin_1 : cX11_begin.data.toList.drop 24 = dktX11_begin_1 := dk_seg dksX11_begin_0 24 rfl rfl
theorem dX11_begin_0 : decode cX11_begin 0 = .ok (.aload_n 0, 1) := dk_42 (dk_at dksX11_begin_0 0 rfl rfl)
theorem dX11_begin_1 : decode cX11_begin 1 = .ok (.aload_n 1, 1) := dk_43 (dk_at dksX11_begin_0 1 rfl rfl)
theorem dX11_begin_2 : decode cX11_begin 2 = .ok (.aload_n 2, 1) := dk_44 (dk_at dksX11_begin_0 2 rfl rfl)
theorem dX11_begin_3 : decode cX11_begin 3 = .ok (.iload_n 3, 1) := dk_29 (dk_at dksX11_begin_0 3 rfl rfl)
theorem dX11_begin_4 : decode cX11_begin 4 = .ok (.aload_n 1, 1) := dk_43 (dk_at dksX11_begin_0 4 rfl rfl)
theorem dX11_begin_5 : decode cX11_begin 5 = .ok (.getfield 21, 3) := dk_180 0 21 (dk_at dksX11_begin_0 5 rfl rfl)
theorem dX11_begin_8 : decode cX11_begin 8 = .ok (.invokestatic 27, 3) := dk_184 0 27 (dk_at dksX11_begin_0 8 rfl rfl)
theorem dX11_begin_11 : decode cX11_begin 11 = .ok (.iload 4, 2) := dk_21 4 (dk_at dksX11_begin_0 11 rfl rfl)
theorem dX11_begin_13 : decode cX11_begin 13 = .ok (.invokespecial 33, 3) := dk_183 0 33 (dk_at dksX11_begin_0 13 rfl rfl)
theorem dX11_begin_16 : decode cX11_begin 16 = .ok (.aload_n 0, 1) := dk_42 (dk_at dksX11_begin_0 16 rfl rfl)
theorem dX11_begin_17 : decode cX11_begin 17 = .ok (.iconst 0, 1) := dk_3 (dk_at dksX11_begin_0 17 rfl rfl)
theorem dX11_begin_18 : decode cX11_begin 18 = .ok (.putfield 37, 3) := dk_181 0 37 (dk_at dksX11_begin_0 18 rfl rfl)
theorem dX11_begin_21 : decode cX11_begin 21 = .ok (.iconst 0, 1) := dk_3 (dk_at dksX11_begin_0 21 rfl rfl)
theorem dX11_begin_22 : decode cX11_begin 22 = .ok (.istore 5, 2) := dk_54 5 (dk_at dksX11_begin_0 22 rfl rfl)
theorem dX11_begin_24 : decode cX11_begin 24 = .ok (.iload 5, 2) := dk_21 5 (dk_at dksX11_begin_1 0 rfl rfl)
theorem dX11_begin_26 : decode cX11_begin 26 = .ok (.bipush 12, 2) := dk_16 12 (dk_at dksX11_begin_1 2 rfl rfl)
theorem dX11_begin_28 : decode cX11_begin 28 = .ok (.if_icmp .ge 17, 3) := dk_162 0 17 (dk_at dksX11_begin_1 4 rfl rfl)
theorem dX11_begin_31 : decode cX11_begin 31 = .ok (.aload_n 0, 1) := dk_42 (dk_at dksX11_begin_1 7 rfl rfl)
theorem dX11_begin_32 : decode cX11_begin 32 = .ok (.getfield 9, 3) := dk_180 0 9 (dk_at dksX11_begin_1 8 rfl rfl)
theorem dX11_begin_35 : decode cX11_begin 35 = .ok (.iload 5, 2) := dk_21 5 (dk_at dksX11_begin_1 11 rfl rfl)
theorem dX11_begin_37 : decode cX11_begin 37 = .ok (.iconst 0, 1) := dk_3 (dk_at dksX11_begin_1 13 rfl rfl)
theorem dX11_begin_38 : decode cX11_begin 38 = .ok (.iastore, 1) := dk_79 (dk_at dksX11_begin_1 14 rfl rfl)
theorem dX11_begin_39 : decode cX11_begin 39 = .ok (.iinc 5 1, 3) := dk_132 5 1 (dk_at dksX11_begin_1 15 rfl rfl)
theorem dX11_begin_42 : decode cX11_begin 42 = .ok (.goto (-18), 3) := dk_167 255 238 (dk_at dksX11_begin_1 18 rfl rfl)
theorem dX11_begin_45 : decode cX11_begin 45 = .ok (.return_, 1) := dk_177 (dk_at dksX11_begin_1 21 rfl rfl)
theorem q115 : (Jvm.Cond.initialized "PailRow$Runners") ∈ lw_all := lw_g (lw_at lw_m1 13 rfl) rfl
theorem q285 : (Jvm.Cond.fieldLinkNest "PailRow$Runners" (62 : Nat) "PailRow$Yard" "way" "I" "PailRow") ∈ lw_tbl := lw_at lw_m1 183 rfl
theorem q288 : (Jvm.Cond.fieldLinkNest "PailRow$Runners" (21 : Nat) "PailRow$Yard" "pails" "I" "PailRow") ∈ lw_tbl := lw_at lw_m1 186 rfl
theorem q297 : (Jvm.Cond.fieldLinkNest "PailRow$Runners" (59 : Nat) "PailRow$Yard" "draw" "I" "PailRow") ∈ lw_tbl := lw_at lw_m1 195 rfl
theorem q489 : (Jvm.Cond.fieldLink "PailRow$Runners" (55 : Nat) "PailRow$Runners" "yard" "LPailRow$Yard;") ∈ lw_all := lw_g (lw_at lw_m2 147 rfl) rfl
theorem q490 : (Jvm.Cond.sameField "PailRow$Runners" "PailRow$Team" "yard" "LPailRow$Yard;") ∈ lw_all := lw_g (lw_at lw_m2 148 rfl) rfl
theorem q492 : (Jvm.Cond.fieldLink "PailRow$Runners" (41 : Nat) "PailRow$Runners" "many" "I") ∈ lw_all := lw_g (lw_at lw_m2 150 rfl) rfl
theorem q493 : (Jvm.Cond.sameField "PailRow$Runners" "PailRow$Team" "many" "I") ∈ lw_all := lw_g (lw_at lw_m2 151 rfl) rfl
theorem q498 : (Jvm.Cond.fieldLink "PailRow$Runners" (48 : Nat) "PailRow$Runners" "water" "I") ∈ lw_all := lw_g (lw_at lw_m2 156 rfl) rfl
theorem q499 : (Jvm.Cond.sameField "PailRow$Runners" "PailRow$Team" "water" "I") ∈ lw_all := lw_g (lw_at lw_m2 157 rfl) rfl
theorem q505 : (Jvm.Cond.fieldLink "PailRow$Runners" (77 : Nat) "PailRow$Runners" "thrown" "I") ∈ lw_all := lw_g (lw_at lw_m2 163 rfl) rfl
theorem q506 : (Jvm.Cond.sameField "PailRow$Runners" "PailRow$Team" "thrown" "I") ∈ lw_all := lw_g (lw_at lw_m2 164 rfl) rfl
theorem q553 : (Jvm.Cond.instantiable "PailRow$Runners" (10 : Nat)) ∈ lw_all := lw_g (lw_at lw_m2 211 rfl) rfl
theorem q555 : (Jvm.Cond.instanceMethod ({ cls := "PailRow$Runners", name := "<init>", desc := "()V" } : Jvm.MethodName)) ∈ lw_all := lw_g (lw_at lw_m2 213 rfl) rfl
theorem q556 : (Jvm.Cond.code ({ cls := "PailRow$Runners", name := "<init>", desc := "()V" } : Jvm.MethodName) prog_15_method_1_code (1 : Nat) (Option.none : Option Jvm.ClassFile.FieldType)) ∈ lw_all := lw_g (lw_at lw_m2 214 rfl) rfl
theorem q557 : (Jvm.Cond.methodLinkNest "PailRow$Runners" (3 : Nat) ({ cls := "PailRow$Team", name := "<init>", desc := "()V" } : Jvm.MethodName) "PailRow") ∈ lw_tbl := lw_at lw_m2 215 rfl
theorem q558 : (Jvm.Cond.fieldLink "PailRow$Runners" (9 : Nat) "PailRow$Runners" "does" "[I") ∈ lw_all := lw_g (lw_at lw_m2 216 rfl) rfl
theorem q559 : (Jvm.Cond.fieldLink "PailRow$Runners" (15 : Nat) "PailRow$Runners" "left" "[I") ∈ lw_all := lw_g (lw_at lw_m2 217 rfl) rfl
theorem q560 : (Jvm.Cond.fieldLink "PailRow$Runners" (18 : Nat) "PailRow$Runners" "litres" "[I") ∈ lw_all := lw_g (lw_at lw_m2 218 rfl) rfl
theorem q561 : (Jvm.Cond.fieldLink "PailRow$Runners" (37 : Nat) "PailRow$Runners" "drawing" "Z") ∈ lw_all := lw_g (lw_at lw_m2 219 rfl) rfl
theorem q562 : (Jvm.Cond.laysFinal "PailRow$Runners" "PailRow$Runners" "does" "[I") ∈ lw_all := lw_g (lw_at lw_m2 220 rfl) rfl
theorem q563 : (Jvm.Cond.soleField "PailRow$Runners" "does") ∈ lw_all := lw_g (lw_at lw_m2 221 rfl) rfl
theorem q564 : (Jvm.Cond.laysFinal "PailRow$Runners" "PailRow$Runners" "left" "[I") ∈ lw_all := lw_g (lw_at lw_m2 222 rfl) rfl
theorem q565 : (Jvm.Cond.soleField "PailRow$Runners" "left") ∈ lw_all := lw_g (lw_at lw_m2 223 rfl) rfl
theorem q566 : (Jvm.Cond.laysFinal "PailRow$Runners" "PailRow$Runners" "litres" "[I") ∈ lw_all := lw_g (lw_at lw_m2 224 rfl) rfl
theorem q567 : (Jvm.Cond.soleField "PailRow$Runners" "litres") ∈ lw_all := lw_g (lw_at lw_m2 225 rfl) rfl
theorem q568 : (Jvm.Cond.lays "PailRow$Runners" "PailRow$Runners" "drawing" "Z") ∈ lw_all := lw_g (lw_at lw_m2 226 rfl) rfl
theorem q569 : (Jvm.Cond.soleField "PailRow$Runners" "drawing") ∈ lw_all := lw_g (lw_at lw_m2 227 rfl) rfl
theorem q570 : (Jvm.Cond.laysFinal "PailRow$Runners" "PailRow$Team" "men" "[I") ∈ lw_all := lw_g (lw_at lw_m2 228 rfl) rfl
theorem q571 : (Jvm.Cond.lays "PailRow$Runners" "PailRow$Team" "yard" "LPailRow$Yard;") ∈ lw_all := lw_g (lw_at lw_m2 229 rfl) rfl
theorem q572 : (Jvm.Cond.lays "PailRow$Runners" "PailRow$Team" "many" "I") ∈ lw_all := lw_g (lw_at lw_m2 230 rfl) rfl
theorem q573 : (Jvm.Cond.lays "PailRow$Runners" "PailRow$Team" "water" "I") ∈ lw_all := lw_g (lw_at lw_m2 231 rfl) rfl
theorem q574 : (Jvm.Cond.lays "PailRow$Runners" "PailRow$Team" "thrown" "I") ∈ lw_all := lw_g (lw_at lw_m2 232 rfl) rfl
theorem q575 : (Jvm.Cond.lays "PailRow$Runners" "PailRow$Team" "tick" "I") ∈ lw_all := lw_g (lw_at lw_m2 233 rfl) rfl
theorem q576 : (Jvm.Cond.superclass "PailRow$Runners" "PailRow$Team") ∈ lw_all := lw_g (lw_at lw_m2 234 rfl) rfl
theorem q989 : (Jvm.Cond.fieldLinkNest "PailRow$Runners" (69 : Nat) "PailRow$Man" "pace" "I" "PailRow") ∈ lw_tbl := lw_at lw_m4 167 rfl
theorem q1188 : (Jvm.Cond.selects "PailRow$Runners" ({ cls := "PailRow$Team", name := "ticks", desc := "()V" } : Jvm.MethodName) ({ cls := "PailRow$Runners", name := "ticks", desc := "()V" } : Jvm.MethodName)) ∈ lw_all := lw_g (lw_at lw_m5 126 rfl) rfl
theorem q1189 : (Jvm.Cond.instanceMethod ({ cls := "PailRow$Runners", name := "ticks", desc := "()V" } : Jvm.MethodName)) ∈ lw_all := lw_g (lw_at lw_m5 127 rfl) rfl
theorem q1190 : (Jvm.Cond.code ({ cls := "PailRow$Runners", name := "ticks", desc := "()V" } : Jvm.MethodName) prog_15_method_3_code (2 : Nat) (Option.none : Option Jvm.ClassFile.FieldType)) ∈ lw_all := lw_g (lw_at lw_m5 128 rfl) rfl
theorem q1191 : (Jvm.Cond.methodLink "PailRow$Runners" (44 : Nat) ({ cls := "PailRow$Runners", name := "ends", desc := "(I)V" } : Jvm.MethodName)) ∈ lw_all := lw_g (lw_at lw_m5 129 rfl) rfl
theorem q1192 : (Jvm.Cond.privateMethod ({ cls := "PailRow$Runners", name := "ends", desc := "(I)V" } : Jvm.MethodName)) ∈ lw_tbl := lw_at lw_m5 130 rfl
theorem q1193 : (Jvm.Cond.instanceMethod ({ cls := "PailRow$Runners", name := "ends", desc := "(I)V" } : Jvm.MethodName)) ∈ lw_all := lw_g (lw_at lw_m5 131 rfl) rfl
theorem q1194 : (Jvm.Cond.code ({ cls := "PailRow$Runners", name := "ends", desc := "(I)V" } : Jvm.MethodName) prog_15_method_4_code (2 : Nat) (Option.none : Option Jvm.ClassFile.FieldType)) ∈ lw_all := lw_g (lw_at lw_m5 132 rfl) rfl
theorem q1195 : (Jvm.Cond.methodLink "PailRow$Runners" (65 : Nat) ({ cls := "PailRow$Runners", name := "man", desc := "(I)LPailRow$Man;" } : Jvm.MethodName)) ∈ lw_all := lw_g (lw_at lw_m5 133 rfl) rfl
theorem q1196 : (Jvm.Cond.sameMethod "PailRow$Runners" "PailRow$Team" "man" "(I)LPailRow$Man;") ∈ lw_all := lw_g (lw_at lw_m5 134 rfl) rfl
theorem q1197 : (Jvm.Cond.selects "PailRow$Runners" ({ cls := "PailRow$Runners", name := "man", desc := "(I)LPailRow$Man;" } : Jvm.MethodName) ({ cls := "PailRow$Team", name := "man", desc := "(I)LPailRow$Man;" } : Jvm.MethodName)) ∈ lw_all := lw_g (lw_at lw_m5 135 rfl) rfl
theorem q1198 : (Jvm.Cond.methodLinkNest "PailRow$Runners" (74 : Nat) ({ cls := "PailRow", name := "up", desc := "(II)I" } : Jvm.MethodName) "PailRow") ∈ lw_tbl := lw_at lw_m5 136 rfl
theorem q1199 : (Jvm.Cond.methodLink "PailRow$Runners" (51 : Nat) ({ cls := "PailRow$Runners", name := "draws", desc := "()I" } : Jvm.MethodName)) ∈ lw_all := lw_g (lw_at lw_m5 137 rfl) rfl
theorem q1200 : (Jvm.Cond.sameMethod "PailRow$Runners" "PailRow$Team" "draws" "()I") ∈ lw_all := lw_g (lw_at lw_m5 138 rfl) rfl
theorem q1201 : (Jvm.Cond.selects "PailRow$Runners" ({ cls := "PailRow$Runners", name := "draws", desc := "()I" } : Jvm.MethodName) ({ cls := "PailRow$Team", name := "draws", desc := "()I" } : Jvm.MethodName)) ∈ lw_all := lw_g (lw_at lw_m5 139 rfl) rfl
theorem q1249 : (Jvm.Cond.instanceMethod ({ cls := "PailRow$Runners", name := "begin", desc := "(LPailRow$Yard;[III)V" } : Jvm.MethodName)) ∈ lw_all := lw_g (lw_at lw_m5 187 rfl) rfl
theorem q1250 : (Jvm.Cond.selects "PailRow$Runners" ({ cls := "PailRow$Runners", name := "begin", desc := "(LPailRow$Yard;[III)V" } : Jvm.MethodName) ({ cls := "PailRow$Runners", name := "begin", desc := "(LPailRow$Yard;[III)V" } : Jvm.MethodName)) ∈ lw_all := lw_g (lw_at lw_m5 188 rfl) rfl
theorem q1251 : (Jvm.Cond.code ({ cls := "PailRow$Runners", name := "begin", desc := "(LPailRow$Yard;[III)V" } : Jvm.MethodName) prog_15_method_2_code (6 : Nat) (Option.none : Option Jvm.ClassFile.FieldType)) ∈ lw_all := lw_g (lw_at lw_m5 189 rfl) rfl
theorem q1252 : (Jvm.Cond.methodLink "PailRow$Runners" (27 : Nat) ({ cls := "java/lang/Math", name := "min", desc := "(II)I" } : Jvm.MethodName)) ∈ lw_all := lw_g (lw_at lw_m5 190 rfl) rfl
theorem q1253 : (Jvm.Cond.methodLink "PailRow$Runners" (33 : Nat) ({ cls := "PailRow$Team", name := "begin", desc := "(LPailRow$Yard;[III)V" } : Jvm.MethodName)) ∈ lw_all := lw_g (lw_at lw_m5 191 rfl) rfl
theorem q1255 : (Jvm.Cond.sameMethod "PailRow$Runners" "PailRow$Team" "goes" "(I)I") ∈ lw_all := lw_g (lw_at lw_m5 193 rfl) rfl
theorem q1256 : (Jvm.Cond.selects "PailRow$Runners" ({ cls := "PailRow$Runners", name := "goes", desc := "(I)I" } : Jvm.MethodName) ({ cls := "PailRow$Team", name := "goes", desc := "(I)I" } : Jvm.MethodName)) ∈ lw_all := lw_g (lw_at lw_m5 194 rfl) rfl
theorem q2344 : (Jvm.Cond.selects "PailRow$Runners" ({ cls := "PailRow$Team", name := "begin", desc := "(LPailRow$Yard;[III)V" } : Jvm.MethodName) ({ cls := "PailRow$Runners", name := "begin", desc := "(LPailRow$Yard;[III)V" } : Jvm.MethodName)) ∈ lw_all := lw_g (lw_at lw_m10 82 rfl) rfl
theorem q2347 : (Jvm.Cond.selects "PailRow$Runners" ({ cls := "PailRow$Team", name := "goes", desc := "(I)I" } : Jvm.MethodName) ({ cls := "PailRow$Team", name := "goes", desc := "(I)I" } : Jvm.MethodName)) ∈ lw_all := lw_g (lw_at lw_m10 85 rfl) rfl
theorem q2356 : (Jvm.Cond.castable "PailRow$Runners" "java/lang/Object") ∈ lw_tbl := lw_at lw_m10 94 rfl
theorem in_X11 : ∀ w ∈ wsX110, w ∈ lw_all := lw_in wsX110 [570, 571, 572, 573, 574, 575, 562, 564, 566, 568] (by decide +kernel) (by decide +kernel)
/-! PailRow$Barn -/
set_option maxRecDepth 100000
def RX12 : String := "PailRow$Barn"
def TX12 : u_T := fun k => match k with
  | 0 => ("PailRow$Barn", "fuel", "[I", true)
  | 1 => ("PailRow$Barn", "wet", "[I", true)
  | 2 => ("PailRow$Barn", "heat", "[I", true)
  | 3 => ("PailRow$Barn", "burns", "[Z", true)
  | 4 => ("PailRow$Barn", "yard", "LPailRow$Yard;", false)
  | _ => ("PailRow$Barn", "lost", "I", false)
def tyX12 : Nat → FieldType := fun k => match k with
  | 0 => .array .int
  | 1 => .array .int
  | 2 => .array .int
  | 3 => .array .boolean
  | 4 => .object "PailRow$Yard"
  | _ => .int
abbrev wsX120 : List Cond := u_ws RX12 TX12 6
theorem nmX12 : ∀ a, a < 6 → ∀ b, b < 6 → a ≠ b → (TX12 a).2.1 ≠ (TX12 b).2.1 := by decide +kernel
theorem tyX12_ok : ∀ k, k < 6 → parseFieldDescriptor (TX12 k).2.2.1 = some (tyX12 k) := by decide +kernel
abbrev cX12_init : ByteArray := prog_3_method_1_code
def yX12_init : MethodName := ⟨RX12, "<init>", "()V"⟩
def dkwX12_init_1 : List UInt8 := [188, 10, 181, 0, 18, 42, 16, 64, 188, 4, 181, 0, 21, 177]
abbrev dktX12_init_1 : List UInt8 := dkwX12_init_1 ++ []
def dkwX12_init_0 : List UInt8 := [42, 183, 0, 3, 42, 16, 64, 188, 10, 181, 0, 9, 42, 16, 64, 188, 10, 181, 0, 15, 42, 16, 64]
abbrev dktX12_init_0 : List UInt8 := dkwX12_init_0 ++ dktX12_init_1
theorem dksX12_init_0 : cX12_init.data.toList.drop 0 = dktX12_init_0 := by decide +kernel
theorem dksX12_init_1 : cX12_init.data.toList.drop 23 = dktX12_init_1 := dk_seg dksX12_init_0 23 rfl rfl
theorem dX12_init_0 : decode cX12_init 0 = .ok (.aload_n 0, 1) := dk_42 (dk_at dksX12_init_0 0 rfl rfl)
theorem dX12_init_1 : decode cX12_init 1 = .ok (.invokespecial 3, 3) := dk_183 0 3 (dk_at dksX12_init_0 1 rfl rfl)
theorem dX12_init_4 : decode cX12_init 4 = .ok (.aload_n 0, 1) := dk_42 (dk_at dksX12_init_0 4 rfl rfl)
theorem dX12_init_5 : decode cX12_init 5 = .ok (.bipush 64, 2) := dk_16 64 (dk_at dksX12_init_0 5 rfl rfl)
theorem dX12_init_7 : decode cX12_init 7 = .ok (.newarray .int, 2) := dk_188_10 (dk_at dksX12_init_0 7 rfl rfl)
theorem dX12_init_9 : decode cX12_init 9 = .ok (.putfield 9, 3) := dk_181 0 9 (dk_at dksX12_init_0 9 rfl rfl)
theorem dX12_init_12 : decode cX12_init 12 = .ok (.aload_n 0, 1) := dk_42 (dk_at dksX12_init_0 12 rfl rfl)
theorem dX12_init_13 : decode cX12_init 13 = .ok (.bipush 64, 2) := dk_16 64 (dk_at dksX12_init_0 13 rfl rfl)
theorem dX12_init_15 : decode cX12_init 15 = .ok (.newarray .int, 2) := dk_188_10 (dk_at dksX12_init_0 15 rfl rfl)
theorem dX12_init_17 : decode cX12_init 17 = .ok (.putfield 15, 3) := dk_181 0 15 (dk_at dksX12_init_0 17 rfl rfl)
theorem dX12_init_20 : decode cX12_init 20 = .ok (.aload_n 0, 1) := dk_42 (dk_at dksX12_init_0 20 rfl rfl)
theorem dX12_init_21 : decode cX12_init 21 = .ok (.bipush 64, 2) := dk_16 64 (dk_at dksX12_init_0 21 rfl rfl)
theorem dX12_init_23 : decode cX12_init 23 = .ok (.newarray .int, 2) := dk_188_10 (dk_at dksX12_init_1 0 rfl rfl)
theorem dX12_init_25 : decode cX12_init 25 = .ok (.putfield 18, 3) := dk_181 0 18 (dk_at dksX12_init_1 2 rfl rfl)
theorem dX12_init_28 : decode cX12_init 28 = .ok (.aload_n 0, 1) := dk_42 (dk_at dksX12_init_1 5 rfl rfl)
theorem dX12_init_29 : decode cX12_init 29 = .ok (.bipush 64, 2) := dk_16 64 (dk_at dksX12_init_1 6 rfl rfl)
theorem dX12_init_31 : decode cX12_init 31 = .ok (.newarray .boolean, 2) := dk_188_4 (dk_at dksX12_init_1 8 rfl rfl)
theorem dX12_init_33 : decode cX12_init 33 = .ok (.putfield 21, 3) := dk_181 0 21 (dk_at dksX12_init_1 10 rfl rfl)
theorem dX12_init_36 : decode cX12_init 36 = .ok (.return_, 1) := dk_177 (dk_at dksX12_init_1 13 rfl rfl)
abbrev cX12_begin : ByteArray := prog_3_method_2_code
def yX12_begin : MethodName := ⟨RX12, "begin", "(LPailRow$Yard;)V"⟩
def dkwX12_begin_2 : List UInt8 := [84, 132, 2, 1, 167, 255, 216, 177]
abbrev dktX12_begin_2 : List UInt8 := dkwX12_begin_2 ++ []
def dkwX12_begin_1 : List UInt8 := [180, 0, 33, 28, 46, 79, 42, 180, 0, 15, 28, 3, 79, 42, 180, 0, 21, 28, 43, 180, 0, 36, 28, 51]
abbrev dktX12_begin_1 : List UInt8 := dkwX12_begin_1 ++ dktX12_begin_2
def dkwX12_begin_0 : List UInt8 := [42, 43, 181, 0, 25, 42, 3, 181, 0, 29, 3, 61, 28, 16, 64, 162, 0, 40, 42, 180, 0, 9, 28, 43]
abbrev dktX12_begin_0 : List UInt8 := dkwX12_begin_0 ++ dktX12_begin_1
theorem dksX12_begin_0 : cX12_begin.data.toList.drop 0 = dktX12_begin_0 := by decide +kernel
theorem dksX12_begin_1 : cX12_begin.data.toList.drop 24 = dktX12_begin_1 := dk_seg dksX12_begin_0 24 rfl rfl
theorem dksX12_begin_2 : cX12_begin.data.toList.drop 48 = dktX12_begin_2 := dk_seg dksX12_begin_1 24 rfl rfl
theorem dX12_begin_0 : decode cX12_begin 0 = .ok (.aload_n 0, 1) := dk_42 (dk_at dksX12_begin_0 0 rfl rfl)
theorem dX12_begin_1 : decode cX12_begin 1 = .ok (.aload_n 1, 1) := dk_43 (dk_at dksX12_begin_0 1 rfl rfl)
theorem dX12_begin_2 : decode cX12_begin 2 = .ok (.putfield 25, 3) := dk_181 0 25 (dk_at dksX12_begin_0 2 rfl rfl)
theorem dX12_begin_5 : decode cX12_begin 5 = .ok (.aload_n 0, 1) := dk_42 (dk_at dksX12_begin_0 5 rfl rfl)
theorem dX12_begin_6 : decode cX12_begin 6 = .ok (.iconst 0, 1) := dk_3 (dk_at dksX12_begin_0 6 rfl rfl)
theorem dX12_begin_7 : decode cX12_begin 7 = .ok (.putfield 29, 3) := dk_181 0 29 (dk_at dksX12_begin_0 7 rfl rfl)
theorem dX12_begin_10 : decode cX12_begin 10 = .ok (.iconst 0, 1) := dk_3 (dk_at dksX12_begin_0 10 rfl rfl)
theorem dX12_begin_11 : decode cX12_begin 11 = .ok (.istore_n 2, 1) := dk_61 (dk_at dksX12_begin_0 11 rfl rfl)
theorem dX12_begin_12 : decode cX12_begin 12 = .ok (.iload_n 2, 1) := dk_28 (dk_at dksX12_begin_0 12 rfl rfl)
theorem dX12_begin_13 : decode cX12_begin 13 = .ok (.bipush 64, 2) := dk_16 64 (dk_at dksX12_begin_0 13 rfl rfl)
theorem dX12_begin_15 : decode cX12_begin 15 = .ok (.if_icmp .ge 40, 3) := dk_162 0 40 (dk_at dksX12_begin_0 15 rfl rfl)
theorem dX12_begin_18 : decode cX12_begin 18 = .ok (.aload_n 0, 1) := dk_42 (dk_at dksX12_begin_0 18 rfl rfl)
theorem dX12_begin_19 : decode cX12_begin 19 = .ok (.getfield 9, 3) := dk_180 0 9 (dk_at dksX12_begin_0 19 rfl rfl)
theorem dX12_begin_22 : decode cX12_begin 22 = .ok (.iload_n 2, 1) := dk_28 (dk_at dksX12_begin_0 22 rfl rfl)
theorem dX12_begin_23 : decode cX12_begin 23 = .ok (.aload_n 1, 1) := dk_43 (dk_at dksX12_begin_0 23 rfl rfl)
theorem dX12_begin_24 : decode cX12_begin 24 = .ok (.getfield 33, 3) := dk_180 0 33 (dk_at dksX12_begin_1 0 rfl rfl)
theorem dX12_begin_27 : decode cX12_begin 27 = .ok (.iload_n 2, 1) := dk_28 (dk_at dksX12_begin_1 3 rfl rfl)
theorem dX12_begin_28 : decode cX12_begin 28 = .ok (.iaload, 1) := dk_46 (dk_at dksX12_begin_1 4 rfl rfl)
theorem dX12_begin_29 : decode cX12_begin 29 = .ok (.iastore, 1) := dk_79 (dk_at dksX12_begin_1 5 rfl rfl)
theorem dX12_begin_30 : decode cX12_begin 30 = .ok (.aload_n 0, 1) := dk_42 (dk_at dksX12_begin_1 6 rfl rfl)
theorem dX12_begin_31 : decode cX12_begin 31 = .ok (.getfield 15, 3) := dk_180 0 15 (dk_at dksX12_begin_1 7 rfl rfl)
theorem dX12_begin_34 : decode cX12_begin 34 = .ok (.iload_n 2, 1) := dk_28 (dk_at dksX12_begin_1 10 rfl rfl)
theorem dX12_begin_35 : decode cX12_begin 35 = .ok (.iconst 0, 1) := dk_3 (dk_at dksX12_begin_1 11 rfl rfl)
theorem dX12_begin_36 : decode cX12_begin 36 = .ok (.iastore, 1) := dk_79 (dk_at dksX12_begin_1 12 rfl rfl)
theorem dX12_begin_37 : decode cX12_begin 37 = .ok (.aload_n 0, 1) := dk_42 (dk_at dksX12_begin_1 13 rfl rfl)
theorem dX12_begin_38 : decode cX12_begin 38 = .ok (.getfield 21, 3) := dk_180 0 21 (dk_at dksX12_begin_1 14 rfl rfl)
theorem dX12_begin_41 : decode cX12_begin 41 = .ok (.iload_n 2, 1) := dk_28 (dk_at dksX12_begin_1 17 rfl rfl)
theorem dX12_begin_42 : decode cX12_begin 42 = .ok (.aload_n 1, 1) := dk_43 (dk_at dksX12_begin_1 18 rfl rfl)
theorem dX12_begin_43 : decode cX12_begin 43 = .ok (.getfield 36, 3) := dk_180 0 36 (dk_at dksX12_begin_1 19 rfl rfl)
theorem dX12_begin_46 : decode cX12_begin 46 = .ok (.iload_n 2, 1) := dk_28 (dk_at dksX12_begin_1 22 rfl rfl)
theorem dX12_begin_47 : decode cX12_begin 47 = .ok (.baload, 1) := dk_51 (dk_at dksX12_begin_1 23 rfl rfl)
theorem dX12_begin_48 : decode cX12_begin 48 = .ok (.bastore, 1) := dk_84 (dk_at dksX12_begin_2 0 rfl rfl)
theorem dX12_begin_49 : decode cX12_begin 49 = .ok (.iinc 2 1, 3) := dk_132 2 1 (dk_at dksX12_begin_2 1 rfl rfl)
theorem dX12_begin_52 : decode cX12_begin 52 = .ok (.goto (-40), 3) := dk_167 255 216 (dk_at dksX12_begin_2 4 rfl rfl)
theorem dX12_begin_55 : decode cX12_begin 55 = .ok (.return_, 1) := dk_177 (dk_at dksX12_begin_2 7 rfl rfl)
abbrev cX12_burning : ByteArray := prog_3_method_4_code
def yX12_burning : MethodName := ⟨RX12, "burning", "()I"⟩
def dkwX12_burning_1 : List UInt8 := [3, 96, 60, 132, 2, 1, 167, 255, 230, 27, 172]
abbrev dktX12_burning_1 : List UInt8 := dkwX12_burning_1 ++ []
def dkwX12_burning_0 : List UInt8 := [3, 60, 3, 61, 28, 16, 64, 162, 0, 26, 27, 42, 180, 0, 21, 28, 51, 153, 0, 7, 4, 167, 0, 4]
abbrev dktX12_burning_0 : List UInt8 := dkwX12_burning_0 ++ dktX12_burning_1
theorem dksX12_burning_0 : cX12_burning.data.toList.drop 0 = dktX12_burning_0 := by decide +kernel
theorem dksX12_burning_1 : cX12_burning.data.toList.drop 24 = dktX12_burning_1 := dk_seg dksX12_burning_0 24 rfl rfl
theorem dX12_burning_0 : decode cX12_burning 0 = .ok (.iconst 0, 1) := dk_3 (dk_at dksX12_burning_0 0 rfl rfl)
theorem dX12_burning_1 : decode cX12_burning 1 = .ok (.istore_n 1, 1) := dk_60 (dk_at dksX12_burning_0 1 rfl rfl)
theorem dX12_burning_2 : decode cX12_burning 2 = .ok (.iconst 0, 1) := dk_3 (dk_at dksX12_burning_0 2 rfl rfl)
theorem dX12_burning_3 : decode cX12_burning 3 = .ok (.istore_n 2, 1) := dk_61 (dk_at dksX12_burning_0 3 rfl rfl)
theorem dX12_burning_4 : decode cX12_burning 4 = .ok (.iload_n 2, 1) := dk_28 (dk_at dksX12_burning_0 4 rfl rfl)
theorem dX12_burning_5 : decode cX12_burning 5 = .ok (.bipush 64, 2) := dk_16 64 (dk_at dksX12_burning_0 5 rfl rfl)
theorem dX12_burning_7 : decode cX12_burning 7 = .ok (.if_icmp .ge 26, 3) := dk_162 0 26 (dk_at dksX12_burning_0 7 rfl rfl)
theorem dX12_burning_10 : decode cX12_burning 10 = .ok (.iload_n 1, 1) := dk_27 (dk_at dksX12_burning_0 10 rfl rfl)
theorem dX12_burning_11 : decode cX12_burning 11 = .ok (.aload_n 0, 1) := dk_42 (dk_at dksX12_burning_0 11 rfl rfl)
theorem dX12_burning_12 : decode cX12_burning 12 = .ok (.getfield 21, 3) := dk_180 0 21 (dk_at dksX12_burning_0 12 rfl rfl)
theorem dX12_burning_15 : decode cX12_burning 15 = .ok (.iload_n 2, 1) := dk_28 (dk_at dksX12_burning_0 15 rfl rfl)
theorem dX12_burning_16 : decode cX12_burning 16 = .ok (.baload, 1) := dk_51 (dk_at dksX12_burning_0 16 rfl rfl)
theorem dX12_burning_17 : decode cX12_burning 17 = .ok (.ifCond .eq 7, 3) := dk_153 0 7 (dk_at dksX12_burning_0 17 rfl rfl)
theorem dX12_burning_20 : decode cX12_burning 20 = .ok (.iconst 1, 1) := dk_4 (dk_at dksX12_burning_0 20 rfl rfl)
theorem dX12_burning_21 : decode cX12_burning 21 = .ok (.goto 4, 3) := dk_167 0 4 (dk_at dksX12_burning_0 21 rfl rfl)
theorem dX12_burning_24 : decode cX12_burning 24 = .ok (.iconst 0, 1) := dk_3 (dk_at dksX12_burning_1 0 rfl rfl)
theorem dX12_burning_25 : decode cX12_burning 25 = .ok (.iadd, 1) := dk_96 (dk_at dksX12_burning_1 1 rfl rfl)
theorem dX12_burning_26 : decode cX12_burning 26 = .ok (.istore_n 1, 1) := dk_60 (dk_at dksX12_burning_1 2 rfl rfl)
theorem dX12_burning_27 : decode cX12_burning 27 = .ok (.iinc 2 1, 3) := dk_132 2 1 (dk_at dksX12_burning_1 3 rfl rfl)
theorem dX12_burning_30 : decode cX12_burning 30 = .ok (.goto (-26), 3) := dk_167 255 230 (dk_at dksX12_burning_1 6 rfl rfl)
theorem dX12_burning_33 : decode cX12_burning 33 = .ok (.iload_n 1, 1) := dk_27 (dk_at dksX12_burning_1 9 rfl rfl)
theorem dX12_burning_34 : decode cX12_burning 34 = .ok (.ireturn, 1) := dk_172 (dk_at dksX12_burning_1 10 rfl rfl)
abbrev cX12_be : ByteArray := prog_3_method_3_code
def yX12_be : MethodName := ⟨RX12, "be", "(LPailRow$Barn;)V"⟩
def dkwX12_be_2 : List UInt8 := [43, 180, 0, 21, 3, 42, 180, 0, 21, 3, 16, 64, 184, 0, 37, 177]
abbrev dktX12_be_2 : List UInt8 := dkwX12_be_2 ++ []
def dkwX12_be_1 : List UInt8 := [180, 0, 9, 3, 16, 64, 184, 0, 37, 43, 180, 0, 15, 3, 42, 180, 0, 15, 3, 16, 64, 184, 0, 37]
abbrev dktX12_be_1 : List UInt8 := dkwX12_be_1 ++ dktX12_be_2
def dkwX12_be_0 : List UInt8 := [42, 43, 180, 0, 25, 181, 0, 25, 42, 43, 180, 0, 29, 181, 0, 29, 43, 180, 0, 9, 3, 42]
abbrev dktX12_be_0 : List UInt8 := dkwX12_be_0 ++ dktX12_be_1
theorem dksX12_be_0 : cX12_be.data.toList.drop 0 = dktX12_be_0 := by decide +kernel
theorem dksX12_be_1 : cX12_be.data.toList.drop 22 = dktX12_be_1 := dk_seg dksX12_be_0 22 rfl rfl
theorem dksX12_be_2 : cX12_be.data.toList.drop 46 = dktX12_be_2 := dk_seg dksX12_be_1 24 rfl rfl
theorem dX12_be_0 : decode cX12_be 0 = .ok (.aload_n 0, 1) := dk_42 (dk_at dksX12_be_0 0 rfl rfl)
theorem dX12_be_1 : decode cX12_be 1 = .ok (.aload_n 1, 1) := dk_43 (dk_at dksX12_be_0 1 rfl rfl)
theorem dX12_be_2 : decode cX12_be 2 = .ok (.getfield 25, 3) := dk_180 0 25 (dk_at dksX12_be_0 2 rfl rfl)
theorem dX12_be_5 : decode cX12_be 5 = .ok (.putfield 25, 3) := dk_181 0 25 (dk_at dksX12_be_0 5 rfl rfl)
theorem dX12_be_8 : decode cX12_be 8 = .ok (.aload_n 0, 1) := dk_42 (dk_at dksX12_be_0 8 rfl rfl)
theorem dX12_be_9 : decode cX12_be 9 = .ok (.aload_n 1, 1) := dk_43 (dk_at dksX12_be_0 9 rfl rfl)
theorem dX12_be_10 : decode cX12_be 10 = .ok (.getfield 29, 3) := dk_180 0 29 (dk_at dksX12_be_0 10 rfl rfl)
theorem dX12_be_13 : decode cX12_be 13 = .ok (.putfield 29, 3) := dk_181 0 29 (dk_at dksX12_be_0 13 rfl rfl)
theorem dX12_be_16 : decode cX12_be 16 = .ok (.aload_n 1, 1) := dk_43 (dk_at dksX12_be_0 16 rfl rfl)
theorem dX12_be_17 : decode cX12_be 17 = .ok (.getfield 9, 3) := dk_180 0 9 (dk_at dksX12_be_0 17 rfl rfl)
theorem dX12_be_20 : decode cX12_be 20 = .ok (.iconst 0, 1) := dk_3 (dk_at dksX12_be_0 20 rfl rfl)
theorem dX12_be_21 : decode cX12_be 21 = .ok (.aload_n 0, 1) := dk_42 (dk_at dksX12_be_0 21 rfl rfl)
theorem dX12_be_22 : decode cX12_be 22 = .ok (.getfield 9, 3) := dk_180 0 9 (dk_at dksX12_be_1 0 rfl rfl)
theorem dX12_be_25 : decode cX12_be 25 = .ok (.iconst 0, 1) := dk_3 (dk_at dksX12_be_1 3 rfl rfl)
theorem dX12_be_26 : decode cX12_be 26 = .ok (.bipush 64, 2) := dk_16 64 (dk_at dksX12_be_1 4 rfl rfl)
theorem dX12_be_28 : decode cX12_be 28 = .ok (.invokestatic 37, 3) := dk_184 0 37 (dk_at dksX12_be_1 6 rfl rfl)
theorem dX12_be_31 : decode cX12_be 31 = .ok (.aload_n 1, 1) := dk_43 (dk_at dksX12_be_1 9 rfl rfl)
theorem dX12_be_32 : decode cX12_be 32 = .ok (.getfield 15, 3) := dk_180 0 15 (dk_at dksX12_be_1 10 rfl rfl)
theorem dX12_be_35 : decode cX12_be 35 = .ok (.iconst 0, 1) := dk_3 (dk_at dksX12_be_1 13 rfl rfl)
theorem dX12_be_36 : decode cX12_be 36 = .ok (.aload_n 0, 1) := dk_42 (dk_at dksX12_be_1 14 rfl rfl)
theorem dX12_be_37 : decode cX12_be 37 = .ok (.getfield 15, 3) := dk_180 0 15 (dk_at dksX12_be_1 15 rfl rfl)
theorem dX12_be_40 : decode cX12_be 40 = .ok (.iconst 0, 1) := dk_3 (dk_at dksX12_be_1 18 rfl rfl)
theorem dX12_be_41 : decode cX12_be 41 = .ok (.bipush 64, 2) := dk_16 64 (dk_at dksX12_be_1 19 rfl rfl)
theorem dX12_be_43 : decode cX12_be 43 = .ok (.invokestatic 37, 3) := dk_184 0 37 (dk_at dksX12_be_1 21 rfl rfl)
theorem dX12_be_46 : decode cX12_be 46 = .ok (.aload_n 1, 1) := dk_43 (dk_at dksX12_be_2 0 rfl rfl)
theorem dX12_be_47 : decode cX12_be 47 = .ok (.getfield 21, 3) := dk_180 0 21 (dk_at dksX12_be_2 1 rfl rfl)
theorem dX12_be_50 : decode cX12_be 50 = .ok (.iconst 0, 1) := dk_3 (dk_at dksX12_be_2 4 rfl rfl)
theorem dX12_be_51 : decode cX12_be 51 = .ok (.aload_n 0, 1) := dk_42 (dk_at dksX12_be_2 5 rfl rfl)
theorem dX12_be_52 : decode cX12_be 52 = .ok (.getfield 21, 3) := dk_180 0 21 (dk_at dksX12_be_2 6 rfl rfl)
theorem dX12_be_55 : decode cX12_be 55 = .ok (.iconst 0, 1) := dk_3 (dk_at dksX12_be_2 9 rfl rfl)
theorem dX12_be_56 : decode cX12_be 56 = .ok (.bipush 64, 2) := dk_16 64 (dk_at dksX12_be_2 10 rfl rfl)
theorem dX12_be_58 : decode cX12_be 58 = .ok (.invokestatic 37, 3) := dk_184 0 37 (dk_at dksX12_be_2 12 rfl rfl)
theorem dX12_be_61 : decode cX12_be 61 = .ok (.return_, 1) := dk_177 (dk_at dksX12_be_2 15 rfl rfl)
abbrev cX12_aimed : ByteArray := prog_3_method_9_code
def yX12_aimed : MethodName := ⟨RX12, "aimed", "(I)I"⟩
def dkwX12_aimed_5 : List UInt8 := [62, 132, 4, 1, 167, 255, 188, 29, 172]
abbrev dktX12_aimed_5 : List UInt8 := dkwX12_aimed_5 ++ []
def dkwX12_aimed_4 : List UInt8 := [162, 0, 25, 167, 0, 19, 42, 180, 0, 9, 21, 4, 46, 42, 180, 0, 9, 29, 46, 164, 0, 6, 21, 4]
abbrev dktX12_aimed_4 : List UInt8 := dkwX12_aimed_4 ++ dktX12_aimed_5
def dkwX12_aimed_3 : List UInt8 := [29, 2, 159, 0, 43, 27, 5, 160, 0, 22, 42, 180, 0, 9, 21, 4, 46, 42, 180, 0, 9, 29, 46]
abbrev dktX12_aimed_3 : List UInt8 := dkwX12_aimed_3 ++ dktX12_aimed_4
def dkwX12_aimed_2 : List UInt8 := [28, 172, 2, 62, 3, 54, 4, 21, 4, 16, 64, 162, 0, 67, 42, 180, 0, 21, 21, 4, 51, 153, 0, 51]
abbrev dktX12_aimed_2 : List UInt8 := dkwX12_aimed_2 ++ dktX12_aimed_3
def dkwX12_aimed_1 : List UInt8 := [172, 27, 6, 160, 0, 10, 42, 182, 0, 63, 167, 0, 4, 2, 61, 27, 153, 0, 8, 28, 2, 159, 0, 5]
abbrev dktX12_aimed_1 : List UInt8 := dkwX12_aimed_1 ++ dktX12_aimed_2
def dkwX12_aimed_0 : List UInt8 := [27, 16, 100, 161, 0, 22, 16, 8, 27, 16, 100, 100, 16, 10, 108, 104, 27, 16, 100, 100, 16, 10, 112, 96]
abbrev dktX12_aimed_0 : List UInt8 := dkwX12_aimed_0 ++ dktX12_aimed_1
theorem dksX12_aimed_0 : cX12_aimed.data.toList.drop 0 = dktX12_aimed_0 := by decide +kernel
theorem dksX12_aimed_1 : cX12_aimed.data.toList.drop 24 = dktX12_aimed_1 := dk_seg dksX12_aimed_0 24 rfl rfl
theorem dksX12_aimed_2 : cX12_aimed.data.toList.drop 48 = dktX12_aimed_2 := dk_seg dksX12_aimed_1 24 rfl rfl
theorem dksX12_aimed_3 : cX12_aimed.data.toList.drop 72 = dktX12_aimed_3 := dk_seg dksX12_aimed_2 24 rfl rfl
theorem dksX12_aimed_4 : cX12_aimed.data.toList.drop 95 = dktX12_aimed_4 := dk_seg dksX12_aimed_3 23 rfl rfl
theorem dksX12_aimed_5 : cX12_aimed.data.toList.drop 119 = dktX12_aimed_5 := dk_seg dksX12_aimed_4 24 rfl rfl
theorem dX12_aimed_0 : decode cX12_aimed 0 = .ok (.iload_n 1, 1) := dk_27 (dk_at dksX12_aimed_0 0 rfl rfl)
theorem dX12_aimed_1 : decode cX12_aimed 1 = .ok (.bipush 100, 2) := dk_16 100 (dk_at dksX12_aimed_0 1 rfl rfl)
theorem dX12_aimed_3 : decode cX12_aimed 3 = .ok (.if_icmp .lt 22, 3) := dk_161 0 22 (dk_at dksX12_aimed_0 3 rfl rfl)
theorem dX12_aimed_6 : decode cX12_aimed 6 = .ok (.bipush 8, 2) := dk_16 8 (dk_at dksX12_aimed_0 6 rfl rfl)
theorem dX12_aimed_8 : decode cX12_aimed 8 = .ok (.iload_n 1, 1) := dk_27 (dk_at dksX12_aimed_0 8 rfl rfl)
theorem dX12_aimed_9 : decode cX12_aimed 9 = .ok (.bipush 100, 2) := dk_16 100 (dk_at dksX12_aimed_0 9 rfl rfl)
theorem dX12_aimed_11 : decode cX12_aimed 11 = .ok (.isub, 1) := dk_100 (dk_at dksX12_aimed_0 11 rfl rfl)
theorem dX12_aimed_12 : decode cX12_aimed 12 = .ok (.bipush 10, 2) := dk_16 10 (dk_at dksX12_aimed_0 12 rfl rfl)
theorem dX12_aimed_14 : decode cX12_aimed 14 = .ok (.idiv, 1) := dk_108 (dk_at dksX12_aimed_0 14 rfl rfl)
theorem dX12_aimed_15 : decode cX12_aimed 15 = .ok (.imul, 1) := dk_104 (dk_at dksX12_aimed_0 15 rfl rfl)
theorem dX12_aimed_16 : decode cX12_aimed 16 = .ok (.iload_n 1, 1) := dk_27 (dk_at dksX12_aimed_0 16 rfl rfl)
theorem dX12_aimed_17 : decode cX12_aimed 17 = .ok (.bipush 100, 2) := dk_16 100 (dk_at dksX12_aimed_0 17 rfl rfl)
theorem dX12_aimed_19 : decode cX12_aimed 19 = .ok (.isub, 1) := dk_100 (dk_at dksX12_aimed_0 19 rfl rfl)
theorem dX12_aimed_20 : decode cX12_aimed 20 = .ok (.bipush 10, 2) := dk_16 10 (dk_at dksX12_aimed_0 20 rfl rfl)
theorem dX12_aimed_22 : decode cX12_aimed 22 = .ok (.irem, 1) := dk_112 (dk_at dksX12_aimed_0 22 rfl rfl)
theorem dX12_aimed_23 : decode cX12_aimed 23 = .ok (.iadd, 1) := dk_96 (dk_at dksX12_aimed_0 23 rfl rfl)
theorem dX12_aimed_24 : decode cX12_aimed 24 = .ok (.ireturn, 1) := dk_172 (dk_at dksX12_aimed_1 0 rfl rfl)
theorem dX12_aimed_25 : decode cX12_aimed 25 = .ok (.iload_n 1, 1) := dk_27 (dk_at dksX12_aimed_1 1 rfl rfl)
theorem dX12_aimed_26 : decode cX12_aimed 26 = .ok (.iconst 3, 1) := dk_6 (dk_at dksX12_aimed_1 2 rfl rfl)
theorem dX12_aimed_27 : decode cX12_aimed 27 = .ok (.if_icmp .ne 10, 3) := dk_160 0 10 (dk_at dksX12_aimed_1 3 rfl rfl)
theorem dX12_aimed_30 : decode cX12_aimed 30 = .ok (.aload_n 0, 1) := dk_42 (dk_at dksX12_aimed_1 6 rfl rfl)
theorem dX12_aimed_31 : decode cX12_aimed 31 = .ok (.invokevirtual 63, 3) := dk_182 0 63 (dk_at dksX12_aimed_1 7 rfl rfl)
theorem dX12_aimed_34 : decode cX12_aimed 34 = .ok (.goto 4, 3) := dk_167 0 4 (dk_at dksX12_aimed_1 10 rfl rfl)
theorem dX12_aimed_37 : decode cX12_aimed 37 = .ok (.iconst (-1), 1) := dk_2 (dk_at dksX12_aimed_1 13 rfl rfl)
theorem dX12_aimed_38 : decode cX12_aimed 38 = .ok (.istore_n 2, 1) := dk_61 (dk_at dksX12_aimed_1 14 rfl rfl)
theorem dX12_aimed_39 : decode cX12_aimed 39 = .ok (.iload_n 1, 1) := dk_27 (dk_at dksX12_aimed_1 15 rfl rfl)
theorem dX12_aimed_40 : decode cX12_aimed 40 = .ok (.ifCond .eq 8, 3) := dk_153 0 8 (dk_at dksX12_aimed_1 16 rfl rfl)
theorem dX12_aimed_43 : decode cX12_aimed 43 = .ok (.iload_n 2, 1) := dk_28 (dk_at dksX12_aimed_1 19 rfl rfl)
theorem dX12_aimed_44 : decode cX12_aimed 44 = .ok (.iconst (-1), 1) := dk_2 (dk_at dksX12_aimed_1 20 rfl rfl)
theorem dX12_aimed_45 : decode cX12_aimed 45 = .ok (.if_icmp .eq 5, 3) := dk_159 0 5 (dk_at dksX12_aimed_1 21 rfl rfl)
theorem dX12_aimed_48 : decode cX12_aimed 48 = .ok (.iload_n 2, 1) := dk_28 (dk_at dksX12_aimed_2 0 rfl rfl)
theorem dX12_aimed_49 : decode cX12_aimed 49 = .ok (.ireturn, 1) := dk_172 (dk_at dksX12_aimed_2 1 rfl rfl)
theorem dX12_aimed_50 : decode cX12_aimed 50 = .ok (.iconst (-1), 1) := dk_2 (dk_at dksX12_aimed_2 2 rfl rfl)
theorem dX12_aimed_51 : decode cX12_aimed 51 = .ok (.istore_n 3, 1) := dk_62 (dk_at dksX12_aimed_2 3 rfl rfl)
theorem dX12_aimed_52 : decode cX12_aimed 52 = .ok (.iconst 0, 1) := dk_3 (dk_at dksX12_aimed_2 4 rfl rfl)
theorem dX12_aimed_53 : decode cX12_aimed 53 = .ok (.istore 4, 2) := dk_54 4 (dk_at dksX12_aimed_2 5 rfl rfl)
theorem dX12_aimed_55 : decode cX12_aimed 55 = .ok (.iload 4, 2) := dk_21 4 (dk_at dksX12_aimed_2 7 rfl rfl)
theorem dX12_aimed_57 : decode cX12_aimed 57 = .ok (.bipush 64, 2) := dk_16 64 (dk_at dksX12_aimed_2 9 rfl rfl)
theorem dX12_aimed_59 : decode cX12_aimed 59 = .ok (.if_icmp .ge 67, 3) := dk_162 0 67 (dk_at dksX12_aimed_2 11 rfl rfl)
theorem dX12_aimed_62 : decode cX12_aimed 62 = .ok (.aload_n 0, 1) := dk_42 (dk_at dksX12_aimed_2 14 rfl rfl)
theorem dX12_aimed_63 : decode cX12_aimed 63 = .ok (.getfield 21, 3) := dk_180 0 21 (dk_at dksX12_aimed_2 15 rfl rfl)
theorem dX12_aimed_66 : decode cX12_aimed 66 = .ok (.iload 4, 2) := dk_21 4 (dk_at dksX12_aimed_2 18 rfl rfl)
theorem dX12_aimed_68 : decode cX12_aimed 68 = .ok (.baload, 1) := dk_51 (dk_at dksX12_aimed_2 20 rfl rfl)
theorem dX12_aimed_69 : decode cX12_aimed 69 = .ok (.ifCond .eq 51, 3) := dk_153 0 51 (dk_at dksX12_aimed_2 21 rfl rfl)
theorem dX12_aimed_72 : decode cX12_aimed 72 = .ok (.iload_n 3, 1) := dk_29 (dk_at dksX12_aimed_3 0 rfl rfl)
theorem dX12_aimed_73 : decode cX12_aimed 73 = .ok (.iconst (-1), 1) := dk_2 (dk_at dksX12_aimed_3 1 rfl rfl)
theorem dX12_aimed_74 : decode cX12_aimed 74 = .ok (.if_icmp .eq 43, 3) := dk_159 0 43 (dk_at dksX12_aimed_3 2 rfl rfl)
theorem dX12_aimed_77 : decode cX12_aimed 77 = .ok (.iload_n 1, 1) := dk_27 (dk_at dksX12_aimed_3 5 rfl rfl)
theorem dX12_aimed_78 : decode cX12_aimed 78 = .ok (.iconst 2, 1) := dk_5 (dk_at dksX12_aimed_3 6 rfl rfl)
theorem dX12_aimed_79 : decode cX12_aimed 79 = .ok (.if_icmp .ne 22, 3) := dk_160 0 22 (dk_at dksX12_aimed_3 7 rfl rfl)
theorem dX12_aimed_82 : decode cX12_aimed 82 = .ok (.aload_n 0, 1) := dk_42 (dk_at dksX12_aimed_3 10 rfl rfl)
theorem dX12_aimed_83 : decode cX12_aimed 83 = .ok (.getfield 9, 3) := dk_180 0 9 (dk_at dksX12_aimed_3 11 rfl rfl)
theorem dX12_aimed_86 : decode cX12_aimed 86 = .ok (.iload 4, 2) := dk_21 4 (dk_at dksX12_aimed_3 14 rfl rfl)
theorem dX12_aimed_88 : decode cX12_aimed 88 = .ok (.iaload, 1) := dk_46 (dk_at dksX12_aimed_3 16 rfl rfl)
theorem dX12_aimed_89 : decode cX12_aimed 89 = .ok (.aload_n 0, 1) := dk_42 (dk_at dksX12_aimed_3 17 rfl rfl)
theorem dX12_aimed_90 : decode cX12_aimed 90 = .ok (.getfield 9, 3) := dk_180 0 9 (dk_at dksX12_aimed_3 18 rfl rfl)
theorem dX12_aimed_93 : decode cX12_aimed 93 = .ok (.iload_n 3, 1) := dk_29 (dk_at dksX12_aimed_3 21 rfl rfl)
theorem dX12_aimed_94 : decode cX12_aimed 94 = .ok (.iaload, 1) := dk_46 (dk_at dksX12_aimed_3 22 rfl rfl)
theorem dX12_aimed_95 : decode cX12_aimed 95 = .ok (.if_icmp .ge 25, 3) := dk_162 0 25 (dk_at dksX12_aimed_4 0 rfl rfl)
theorem dX12_aimed_98 : decode cX12_aimed 98 = .ok (.goto 19, 3) := dk_167 0 19 (dk_at dksX12_aimed_4 3 rfl rfl)
theorem dX12_aimed_101 : decode cX12_aimed 101 = .ok (.aload_n 0, 1) := dk_42 (dk_at dksX12_aimed_4 6 rfl rfl)
theorem dX12_aimed_102 : decode cX12_aimed 102 = .ok (.getfield 9, 3) := dk_180 0 9 (dk_at dksX12_aimed_4 7 rfl rfl)
theorem dX12_aimed_105 : decode cX12_aimed 105 = .ok (.iload 4, 2) := dk_21 4 (dk_at dksX12_aimed_4 10 rfl rfl)
theorem dX12_aimed_107 : decode cX12_aimed 107 = .ok (.iaload, 1) := dk_46 (dk_at dksX12_aimed_4 12 rfl rfl)
theorem dX12_aimed_108 : decode cX12_aimed 108 = .ok (.aload_n 0, 1) := dk_42 (dk_at dksX12_aimed_4 13 rfl rfl)
theorem dX12_aimed_109 : decode cX12_aimed 109 = .ok (.getfield 9, 3) := dk_180 0 9 (dk_at dksX12_aimed_4 14 rfl rfl)
theorem dX12_aimed_112 : decode cX12_aimed 112 = .ok (.iload_n 3, 1) := dk_29 (dk_at dksX12_aimed_4 17 rfl rfl)
theorem dX12_aimed_113 : decode cX12_aimed 113 = .ok (.iaload, 1) := dk_46 (dk_at dksX12_aimed_4 18 rfl rfl)
theorem dX12_aimed_114 : decode cX12_aimed 114 = .ok (.if_icmp .le 6, 3) := dk_164 0 6 (dk_at dksX12_aimed_4 19 rfl rfl)
theorem dX12_aimed_117 : decode cX12_aimed 117 = .ok (.iload 4, 2) := dk_21 4 (dk_at dksX12_aimed_4 22 rfl rfl)
theorem dX12_aimed_119 : decode cX12_aimed 119 = .ok (.istore_n 3, 1) := dk_62 (dk_at dksX12_aimed_5 0 rfl rfl)
theorem dX12_aimed_120 : decode cX12_aimed 120 = .ok (.iinc 4 1, 3) := dk_132 4 1 (dk_at dksX12_aimed_5 1 rfl rfl)
theorem dX12_aimed_123 : decode cX12_aimed 123 = .ok (.goto (-68), 3) := dk_167 255 188 (dk_at dksX12_aimed_5 4 rfl rfl)
theorem dX12_aimed_126 : decode cX12_aimed 126 = .ok (.iload_n 3, 1) := dk_29 (dk_at dksX12_aimed_5 7 rfl rfl)
theorem dX12_aimed_127 : decode cX12_aimed 127 = .ok (.ireturn, 1) := dk_172 (dk_at dksX12_aimed_5 8 rfl rfl)
abbrev cX12_hottest : ByteArray := prog_3_method_10_code
def yX12_hottest : MethodName := ⟨RX12, "hottest", "()I"⟩
def dkwX12_hottest_3 : List UInt8 := [132, 3, 1, 167, 255, 206, 132, 2, 1, 167, 255, 187, 27, 172]
abbrev dktX12_hottest_3 : List UInt8 := dkwX12_hottest_3 ++ []
def dkwX12_hottest_2 : List UInt8 := [160, 0, 7, 3, 167, 0, 9, 42, 180, 0, 18, 27, 46, 164, 0, 10, 16, 8, 28, 104, 29, 96, 60]
abbrev dktX12_hottest_2 : List UInt8 := dkwX12_hottest_2 ++ dktX12_hottest_3
def dkwX12_hottest_1 : List UInt8 := [180, 0, 25, 180, 0, 53, 162, 0, 45, 42, 180, 0, 18, 16, 8, 28, 104, 29, 96, 46, 27, 2]
abbrev dktX12_hottest_1 : List UInt8 := dkwX12_hottest_1 ++ dktX12_hottest_2
def dkwX12_hottest_0 : List UInt8 := [42, 182, 0, 60, 2, 60, 3, 61, 28, 42, 180, 0, 25, 180, 0, 50, 162, 0, 64, 3, 62, 29, 42]
abbrev dktX12_hottest_0 : List UInt8 := dkwX12_hottest_0 ++ dktX12_hottest_1
theorem dksX12_hottest_0 : cX12_hottest.data.toList.drop 0 = dktX12_hottest_0 := by decide +kernel
theorem dksX12_hottest_1 : cX12_hottest.data.toList.drop 23 = dktX12_hottest_1 := dk_seg dksX12_hottest_0 23 rfl rfl
theorem dksX12_hottest_2 : cX12_hottest.data.toList.drop 45 = dktX12_hottest_2 := dk_seg dksX12_hottest_1 22 rfl rfl
theorem dksX12_hottest_3 : cX12_hottest.data.toList.drop 68 = dktX12_hottest_3 := dk_seg dksX12_hottest_2 23 rfl rfl
theorem dX12_hottest_0 : decode cX12_hottest 0 = .ok (.aload_n 0, 1) := dk_42 (dk_at dksX12_hottest_0 0 rfl rfl)
theorem dX12_hottest_1 : decode cX12_hottest 1 = .ok (.invokevirtual 60, 3) := dk_182 0 60 (dk_at dksX12_hottest_0 1 rfl rfl)
theorem dX12_hottest_4 : decode cX12_hottest 4 = .ok (.iconst (-1), 1) := dk_2 (dk_at dksX12_hottest_0 4 rfl rfl)
theorem dX12_hottest_5 : decode cX12_hottest 5 = .ok (.istore_n 1, 1) := dk_60 (dk_at dksX12_hottest_0 5 rfl rfl)
theorem dX12_hottest_6 : decode cX12_hottest 6 = .ok (.iconst 0, 1) := dk_3 (dk_at dksX12_hottest_0 6 rfl rfl)
theorem dX12_hottest_7 : decode cX12_hottest 7 = .ok (.istore_n 2, 1) := dk_61 (dk_at dksX12_hottest_0 7 rfl rfl)
theorem dX12_hottest_8 : decode cX12_hottest 8 = .ok (.iload_n 2, 1) := dk_28 (dk_at dksX12_hottest_0 8 rfl rfl)
theorem dX12_hottest_9 : decode cX12_hottest 9 = .ok (.aload_n 0, 1) := dk_42 (dk_at dksX12_hottest_0 9 rfl rfl)
theorem dX12_hottest_10 : decode cX12_hottest 10 = .ok (.getfield 25, 3) := dk_180 0 25 (dk_at dksX12_hottest_0 10 rfl rfl)
theorem dX12_hottest_13 : decode cX12_hottest 13 = .ok (.getfield 50, 3) := dk_180 0 50 (dk_at dksX12_hottest_0 13 rfl rfl)
theorem dX12_hottest_16 : decode cX12_hottest 16 = .ok (.if_icmp .ge 64, 3) := dk_162 0 64 (dk_at dksX12_hottest_0 16 rfl rfl)
theorem dX12_hottest_19 : decode cX12_hottest 19 = .ok (.iconst 0, 1) := dk_3 (dk_at dksX12_hottest_0 19 rfl rfl)
theorem dX12_hottest_20 : decode cX12_hottest 20 = .ok (.istore_n 3, 1) := dk_62 (dk_at dksX12_hottest_0 20 rfl rfl)
theorem dX12_hottest_21 : decode cX12_hottest 21 = .ok (.iload_n 3, 1) := dk_29 (dk_at dksX12_hottest_0 21 rfl rfl)
theorem dX12_hottest_22 : decode cX12_hottest 22 = .ok (.aload_n 0, 1) := dk_42 (dk_at dksX12_hottest_0 22 rfl rfl)
theorem dX12_hottest_23 : decode cX12_hottest 23 = .ok (.getfield 25, 3) := dk_180 0 25 (dk_at dksX12_hottest_1 0 rfl rfl)
theorem dX12_hottest_26 : decode cX12_hottest 26 = .ok (.getfield 53, 3) := dk_180 0 53 (dk_at dksX12_hottest_1 3 rfl rfl)
theorem dX12_hottest_29 : decode cX12_hottest 29 = .ok (.if_icmp .ge 45, 3) := dk_162 0 45 (dk_at dksX12_hottest_1 6 rfl rfl)
theorem dX12_hottest_32 : decode cX12_hottest 32 = .ok (.aload_n 0, 1) := dk_42 (dk_at dksX12_hottest_1 9 rfl rfl)
theorem dX12_hottest_33 : decode cX12_hottest 33 = .ok (.getfield 18, 3) := dk_180 0 18 (dk_at dksX12_hottest_1 10 rfl rfl)
theorem dX12_hottest_36 : decode cX12_hottest 36 = .ok (.bipush 8, 2) := dk_16 8 (dk_at dksX12_hottest_1 13 rfl rfl)
theorem dX12_hottest_38 : decode cX12_hottest 38 = .ok (.iload_n 2, 1) := dk_28 (dk_at dksX12_hottest_1 15 rfl rfl)
theorem dX12_hottest_39 : decode cX12_hottest 39 = .ok (.imul, 1) := dk_104 (dk_at dksX12_hottest_1 16 rfl rfl)
theorem dX12_hottest_40 : decode cX12_hottest 40 = .ok (.iload_n 3, 1) := dk_29 (dk_at dksX12_hottest_1 17 rfl rfl)
theorem dX12_hottest_41 : decode cX12_hottest 41 = .ok (.iadd, 1) := dk_96 (dk_at dksX12_hottest_1 18 rfl rfl)
theorem dX12_hottest_42 : decode cX12_hottest 42 = .ok (.iaload, 1) := dk_46 (dk_at dksX12_hottest_1 19 rfl rfl)
theorem dX12_hottest_43 : decode cX12_hottest 43 = .ok (.iload_n 1, 1) := dk_27 (dk_at dksX12_hottest_1 20 rfl rfl)
theorem dX12_hottest_44 : decode cX12_hottest 44 = .ok (.iconst (-1), 1) := dk_2 (dk_at dksX12_hottest_1 21 rfl rfl)
theorem dX12_hottest_45 : decode cX12_hottest 45 = .ok (.if_icmp .ne 7, 3) := dk_160 0 7 (dk_at dksX12_hottest_2 0 rfl rfl)
theorem dX12_hottest_48 : decode cX12_hottest 48 = .ok (.iconst 0, 1) := dk_3 (dk_at dksX12_hottest_2 3 rfl rfl)
theorem dX12_hottest_49 : decode cX12_hottest 49 = .ok (.goto 9, 3) := dk_167 0 9 (dk_at dksX12_hottest_2 4 rfl rfl)
theorem dX12_hottest_52 : decode cX12_hottest 52 = .ok (.aload_n 0, 1) := dk_42 (dk_at dksX12_hottest_2 7 rfl rfl)
theorem dX12_hottest_53 : decode cX12_hottest 53 = .ok (.getfield 18, 3) := dk_180 0 18 (dk_at dksX12_hottest_2 8 rfl rfl)
theorem dX12_hottest_56 : decode cX12_hottest 56 = .ok (.iload_n 1, 1) := dk_27 (dk_at dksX12_hottest_2 11 rfl rfl)
theorem dX12_hottest_57 : decode cX12_hottest 57 = .ok (.iaload, 1) := dk_46 (dk_at dksX12_hottest_2 12 rfl rfl)
theorem dX12_hottest_58 : decode cX12_hottest 58 = .ok (.if_icmp .le 10, 3) := dk_164 0 10 (dk_at dksX12_hottest_2 13 rfl rfl)
theorem dX12_hottest_61 : decode cX12_hottest 61 = .ok (.bipush 8, 2) := dk_16 8 (dk_at dksX12_hottest_2 16 rfl rfl)
theorem dX12_hottest_63 : decode cX12_hottest 63 = .ok (.iload_n 2, 1) := dk_28 (dk_at dksX12_hottest_2 18 rfl rfl)
theorem dX12_hottest_64 : decode cX12_hottest 64 = .ok (.imul, 1) := dk_104 (dk_at dksX12_hottest_2 19 rfl rfl)
theorem dX12_hottest_65 : decode cX12_hottest 65 = .ok (.iload_n 3, 1) := dk_29 (dk_at dksX12_hottest_2 20 rfl rfl)
theorem dX12_hottest_66 : decode cX12_hottest 66 = .ok (.iadd, 1) := dk_96 (dk_at dksX12_hottest_2 21 rfl rfl)
theorem dX12_hottest_67 : decode cX12_hottest 67 = .ok (.istore_n 1, 1) := dk_60 (dk_at dksX12_hottest_2 22 rfl rfl)
theorem dX12_hottest_68 : decode cX12_hottest 68 = .ok (.iinc 3 1, 3) := dk_132 3 1 (dk_at dksX12_hottest_3 0 rfl rfl)
theorem dX12_hottest_71 : decode cX12_hottest 71 = .ok (.goto (-50), 3) := dk_167 255 206 (dk_at dksX12_hottest_3 3 rfl rfl)
theorem dX12_hottest_74 : decode cX12_hottest 74 = .ok (.iinc 2 1, 3) := dk_132 2 1 (dk_at dksX12_hottest_3 6 rfl rfl)
theorem dX12_hottest_77 : decode cX12_hottest 77 = .ok (.goto (-69), 3) := dk_167 255 187 (dk_at dksX12_hottest_3 9 rfl rfl)
theorem dX12_hottest_80 : decode cX12_hottest 80 = .ok (.iload_n 1, 1) := dk_27 (dk_at dksX12_hottest_3 12 rfl rfl)
theorem dX12_hottest_81 : decode cX12_hottest 81 = .ok (.ireturn, 1) := dk_172 (dk_at dksX12_hottest_3 13 rfl rfl)
abbrev cX12_warm : ByteArray := prog_3_method_6_code
def yX12_warm : MethodName := ⟨RX12, "warm", "()V"⟩
def dkwX12_warm_4 : List UInt8 := [182, 0, 56, 96, 79, 132, 2, 1, 167, 255, 168, 132, 1, 1, 167, 255, 149, 177]
abbrev dktX12_warm_4 : List UInt8 := dkwX12_warm_4 ++ []
def dkwX12_warm_3 : List UInt8 := [4, 100, 27, 4, 182, 0, 56, 96, 42, 28, 27, 4, 100, 5, 182, 0, 56, 96, 42, 28, 4, 96, 27, 6]
abbrev dktX12_warm_3 : List UInt8 := dkwX12_warm_3 ++ dktX12_warm_4
def dkwX12_warm_2 : List UInt8 := [42, 180, 0, 9, 29, 46, 154, 0, 7, 3, 167, 0, 42, 42, 28, 27, 4, 96, 3, 182, 0, 56, 42, 28]
abbrev dktX12_warm_2 : List UInt8 := dkwX12_warm_2 ++ dktX12_warm_3
def dkwX12_warm_1 : List UInt8 := [162, 0, 83, 16, 8, 27, 104, 28, 96, 62, 42, 180, 0, 18, 29, 42, 180, 0, 21, 29, 51, 154, 0, 12]
abbrev dktX12_warm_1 : List UInt8 := dkwX12_warm_1 ++ dktX12_warm_2
def dkwX12_warm_0 : List UInt8 := [3, 60, 27, 42, 180, 0, 25, 180, 0, 50, 162, 0, 102, 3, 61, 28, 42, 180, 0, 25, 180, 0, 53]
abbrev dktX12_warm_0 : List UInt8 := dkwX12_warm_0 ++ dktX12_warm_1
theorem dksX12_warm_0 : cX12_warm.data.toList.drop 0 = dktX12_warm_0 := by decide +kernel
theorem dksX12_warm_1 : cX12_warm.data.toList.drop 23 = dktX12_warm_1 := dk_seg dksX12_warm_0 23 rfl rfl
theorem dksX12_warm_2 : cX12_warm.data.toList.drop 47 = dktX12_warm_2 := dk_seg dksX12_warm_1 24 rfl rfl
theorem dksX12_warm_3 : cX12_warm.data.toList.drop 71 = dktX12_warm_3 := dk_seg dksX12_warm_2 24 rfl rfl
theorem dksX12_warm_4 : cX12_warm.data.toList.drop 95 = dktX12_warm_4 := dk_seg dksX12_warm_3 24 rfl rfl
theorem dX12_warm_0 : decode cX12_warm 0 = .ok (.iconst 0, 1) := dk_3 (dk_at dksX12_warm_0 0 rfl rfl)
theorem dX12_warm_1 : decode cX12_warm 1 = .ok (.istore_n 1, 1) := dk_60 (dk_at dksX12_warm_0 1 rfl rfl)
theorem dX12_warm_2 : decode cX12_warm 2 = .ok (.iload_n 1, 1) := dk_27 (dk_at dksX12_warm_0 2 rfl rfl)
theorem dX12_warm_3 : decode cX12_warm 3 = .ok (.aload_n 0, 1) := dk_42 (dk_at dksX12_warm_0 3 rfl rfl)
theorem dX12_warm_4 : decode cX12_warm 4 = .ok (.getfield 25, 3) := dk_180 0 25 (dk_at dksX12_warm_0 4 rfl rfl)
theorem dX12_warm_7 : decode cX12_warm 7 = .ok (.getfield 50, 3) := dk_180 0 50 (dk_at dksX12_warm_0 7 rfl rfl)
theorem dX12_warm_10 : decode cX12_warm 10 = .ok (.if_icmp .ge 102, 3) := dk_162 0 102 (dk_at dksX12_warm_0 10 rfl rfl)
theorem dX12_warm_13 : decode cX12_warm 13 = .ok (.iconst 0, 1) := dk_3 (dk_at dksX12_warm_0 13 rfl rfl)
theorem dX12_warm_14 : decode cX12_warm 14 = .ok (.istore_n 2, 1) := dk_61 (dk_at dksX12_warm_0 14 rfl rfl)
theorem dX12_warm_15 : decode cX12_warm 15 = .ok (.iload_n 2, 1) := dk_28 (dk_at dksX12_warm_0 15 rfl rfl)
theorem dX12_warm_16 : decode cX12_warm 16 = .ok (.aload_n 0, 1) := dk_42 (dk_at dksX12_warm_0 16 rfl rfl)
theorem dX12_warm_17 : decode cX12_warm 17 = .ok (.getfield 25, 3) := dk_180 0 25 (dk_at dksX12_warm_0 17 rfl rfl)
theorem dX12_warm_20 : decode cX12_warm 20 = .ok (.getfield 53, 3) := dk_180 0 53 (dk_at dksX12_warm_0 20 rfl rfl)
theorem dX12_warm_23 : decode cX12_warm 23 = .ok (.if_icmp .ge 83, 3) := dk_162 0 83 (dk_at dksX12_warm_1 0 rfl rfl)
theorem dX12_warm_26 : decode cX12_warm 26 = .ok (.bipush 8, 2) := dk_16 8 (dk_at dksX12_warm_1 3 rfl rfl)
theorem dX12_warm_28 : decode cX12_warm 28 = .ok (.iload_n 1, 1) := dk_27 (dk_at dksX12_warm_1 5 rfl rfl)
theorem dX12_warm_29 : decode cX12_warm 29 = .ok (.imul, 1) := dk_104 (dk_at dksX12_warm_1 6 rfl rfl)
theorem dX12_warm_30 : decode cX12_warm 30 = .ok (.iload_n 2, 1) := dk_28 (dk_at dksX12_warm_1 7 rfl rfl)
theorem dX12_warm_31 : decode cX12_warm 31 = .ok (.iadd, 1) := dk_96 (dk_at dksX12_warm_1 8 rfl rfl)
theorem dX12_warm_32 : decode cX12_warm 32 = .ok (.istore_n 3, 1) := dk_62 (dk_at dksX12_warm_1 9 rfl rfl)
theorem dX12_warm_33 : decode cX12_warm 33 = .ok (.aload_n 0, 1) := dk_42 (dk_at dksX12_warm_1 10 rfl rfl)
theorem dX12_warm_34 : decode cX12_warm 34 = .ok (.getfield 18, 3) := dk_180 0 18 (dk_at dksX12_warm_1 11 rfl rfl)
theorem dX12_warm_37 : decode cX12_warm 37 = .ok (.iload_n 3, 1) := dk_29 (dk_at dksX12_warm_1 14 rfl rfl)
theorem dX12_warm_38 : decode cX12_warm 38 = .ok (.aload_n 0, 1) := dk_42 (dk_at dksX12_warm_1 15 rfl rfl)
theorem dX12_warm_39 : decode cX12_warm 39 = .ok (.getfield 21, 3) := dk_180 0 21 (dk_at dksX12_warm_1 16 rfl rfl)
theorem dX12_warm_42 : decode cX12_warm 42 = .ok (.iload_n 3, 1) := dk_29 (dk_at dksX12_warm_1 19 rfl rfl)
theorem dX12_warm_43 : decode cX12_warm 43 = .ok (.baload, 1) := dk_51 (dk_at dksX12_warm_1 20 rfl rfl)
theorem dX12_warm_44 : decode cX12_warm 44 = .ok (.ifCond .ne 12, 3) := dk_154 0 12 (dk_at dksX12_warm_1 21 rfl rfl)
theorem dX12_warm_47 : decode cX12_warm 47 = .ok (.aload_n 0, 1) := dk_42 (dk_at dksX12_warm_2 0 rfl rfl)
theorem dX12_warm_48 : decode cX12_warm 48 = .ok (.getfield 9, 3) := dk_180 0 9 (dk_at dksX12_warm_2 1 rfl rfl)
theorem dX12_warm_51 : decode cX12_warm 51 = .ok (.iload_n 3, 1) := dk_29 (dk_at dksX12_warm_2 4 rfl rfl)
theorem dX12_warm_52 : decode cX12_warm 52 = .ok (.iaload, 1) := dk_46 (dk_at dksX12_warm_2 5 rfl rfl)
theorem dX12_warm_53 : decode cX12_warm 53 = .ok (.ifCond .ne 7, 3) := dk_154 0 7 (dk_at dksX12_warm_2 6 rfl rfl)
theorem dX12_warm_56 : decode cX12_warm 56 = .ok (.iconst 0, 1) := dk_3 (dk_at dksX12_warm_2 9 rfl rfl)
theorem dX12_warm_57 : decode cX12_warm 57 = .ok (.goto 42, 3) := dk_167 0 42 (dk_at dksX12_warm_2 10 rfl rfl)
theorem dX12_warm_60 : decode cX12_warm 60 = .ok (.aload_n 0, 1) := dk_42 (dk_at dksX12_warm_2 13 rfl rfl)
theorem dX12_warm_61 : decode cX12_warm 61 = .ok (.iload_n 2, 1) := dk_28 (dk_at dksX12_warm_2 14 rfl rfl)
theorem dX12_warm_62 : decode cX12_warm 62 = .ok (.iload_n 1, 1) := dk_27 (dk_at dksX12_warm_2 15 rfl rfl)
theorem dX12_warm_63 : decode cX12_warm 63 = .ok (.iconst 1, 1) := dk_4 (dk_at dksX12_warm_2 16 rfl rfl)
theorem dX12_warm_64 : decode cX12_warm 64 = .ok (.iadd, 1) := dk_96 (dk_at dksX12_warm_2 17 rfl rfl)
theorem dX12_warm_65 : decode cX12_warm 65 = .ok (.iconst 0, 1) := dk_3 (dk_at dksX12_warm_2 18 rfl rfl)
theorem dX12_warm_66 : decode cX12_warm 66 = .ok (.invokevirtual 56, 3) := dk_182 0 56 (dk_at dksX12_warm_2 19 rfl rfl)
theorem dX12_warm_69 : decode cX12_warm 69 = .ok (.aload_n 0, 1) := dk_42 (dk_at dksX12_warm_2 22 rfl rfl)
theorem dX12_warm_70 : decode cX12_warm 70 = .ok (.iload_n 2, 1) := dk_28 (dk_at dksX12_warm_2 23 rfl rfl)
theorem dX12_warm_71 : decode cX12_warm 71 = .ok (.iconst 1, 1) := dk_4 (dk_at dksX12_warm_3 0 rfl rfl)
theorem dX12_warm_72 : decode cX12_warm 72 = .ok (.isub, 1) := dk_100 (dk_at dksX12_warm_3 1 rfl rfl)
theorem dX12_warm_73 : decode cX12_warm 73 = .ok (.iload_n 1, 1) := dk_27 (dk_at dksX12_warm_3 2 rfl rfl)
theorem dX12_warm_74 : decode cX12_warm 74 = .ok (.iconst 1, 1) := dk_4 (dk_at dksX12_warm_3 3 rfl rfl)
theorem dX12_warm_75 : decode cX12_warm 75 = .ok (.invokevirtual 56, 3) := dk_182 0 56 (dk_at dksX12_warm_3 4 rfl rfl)
theorem dX12_warm_78 : decode cX12_warm 78 = .ok (.iadd, 1) := dk_96 (dk_at dksX12_warm_3 7 rfl rfl)
theorem dX12_warm_79 : decode cX12_warm 79 = .ok (.aload_n 0, 1) := dk_42 (dk_at dksX12_warm_3 8 rfl rfl)
theorem dX12_warm_80 : decode cX12_warm 80 = .ok (.iload_n 2, 1) := dk_28 (dk_at dksX12_warm_3 9 rfl rfl)
theorem dX12_warm_81 : decode cX12_warm 81 = .ok (.iload_n 1, 1) := dk_27 (dk_at dksX12_warm_3 10 rfl rfl)
theorem dX12_warm_82 : decode cX12_warm 82 = .ok (.iconst 1, 1) := dk_4 (dk_at dksX12_warm_3 11 rfl rfl)
theorem dX12_warm_83 : decode cX12_warm 83 = .ok (.isub, 1) := dk_100 (dk_at dksX12_warm_3 12 rfl rfl)
theorem dX12_warm_84 : decode cX12_warm 84 = .ok (.iconst 2, 1) := dk_5 (dk_at dksX12_warm_3 13 rfl rfl)
theorem dX12_warm_85 : decode cX12_warm 85 = .ok (.invokevirtual 56, 3) := dk_182 0 56 (dk_at dksX12_warm_3 14 rfl rfl)
theorem dX12_warm_88 : decode cX12_warm 88 = .ok (.iadd, 1) := dk_96 (dk_at dksX12_warm_3 17 rfl rfl)
theorem dX12_warm_89 : decode cX12_warm 89 = .ok (.aload_n 0, 1) := dk_42 (dk_at dksX12_warm_3 18 rfl rfl)
theorem dX12_warm_90 : decode cX12_warm 90 = .ok (.iload_n 2, 1) := dk_28 (dk_at dksX12_warm_3 19 rfl rfl)
theorem dX12_warm_91 : decode cX12_warm 91 = .ok (.iconst 1, 1) := dk_4 (dk_at dksX12_warm_3 20 rfl rfl)
theorem dX12_warm_92 : decode cX12_warm 92 = .ok (.iadd, 1) := dk_96 (dk_at dksX12_warm_3 21 rfl rfl)
theorem dX12_warm_93 : decode cX12_warm 93 = .ok (.iload_n 1, 1) := dk_27 (dk_at dksX12_warm_3 22 rfl rfl)
theorem dX12_warm_94 : decode cX12_warm 94 = .ok (.iconst 3, 1) := dk_6 (dk_at dksX12_warm_3 23 rfl rfl)
theorem dX12_warm_95 : decode cX12_warm 95 = .ok (.invokevirtual 56, 3) := dk_182 0 56 (dk_at dksX12_warm_4 0 rfl rfl)
theorem dX12_warm_98 : decode cX12_warm 98 = .ok (.iadd, 1) := dk_96 (dk_at dksX12_warm_4 3 rfl rfl)
theorem dX12_warm_99 : decode cX12_warm 99 = .ok (.iastore, 1) := dk_79 (dk_at dksX12_warm_4 4 rfl rfl)
theorem dX12_warm_100 : decode cX12_warm 100 = .ok (.iinc 2 1, 3) := dk_132 2 1 (dk_at dksX12_warm_4 5 rfl rfl)
theorem dX12_warm_103 : decode cX12_warm 103 = .ok (.goto (-88), 3) := dk_167 255 168 (dk_at dksX12_warm_4 8 rfl rfl)
theorem dX12_warm_106 : decode cX12_warm 106 = .ok (.iinc 1 1, 3) := dk_132 1 1 (dk_at dksX12_warm_4 11 rfl rfl)
theorem dX12_warm_109 : decode cX12_warm 109 = .ok (.goto (-107), 3) := dk_167 255 149 (dk_at dksX12_warm_4 14 rfl rfl)
theorem dX12_warm_112 : decode cX12_warm 112 = .ok (.return_, 1) := dk_177 (dk_at dksX12_warm_4 17 rfl rfl)
abbrev cX12_gives : ByteArray := prog_3_method_5_code
def yX12_gives : MethodName := ⟨RX12, "gives", "(III)I"⟩
def dkwX12_gives_4 : List UInt8 := [172]
abbrev dktX12_gives_4 : List UInt8 := dkwX12_gives_4 ++ []
def dkwX12_gives_3 : List UInt8 := [159, 0, 22, 42, 180, 0, 25, 180, 0, 47, 29, 5, 96, 7, 112, 160, 0, 7, 3, 167, 0, 5, 21, 4]
abbrev dktX12_gives_3 : List UInt8 := dkwX12_gives_3 ++ dktX12_gives_4
def dkwX12_gives_2 : List UInt8 := [180, 0, 47, 29, 160, 0, 10, 5, 21, 4, 104, 167, 0, 35, 42, 180, 0, 25, 180, 0, 47, 2]
abbrev dktX12_gives_2 : List UInt8 := dkwX12_gives_2 ++ dktX12_gives_3
def dkwX12_gives_1 : List UInt8 := [154, 0, 5, 3, 172, 42, 180, 0, 9, 16, 8, 28, 104, 27, 96, 46, 54, 4, 42, 180, 0, 25]
abbrev dktX12_gives_1 : List UInt8 := dkwX12_gives_1 ++ dktX12_gives_2
def dkwX12_gives_0 : List UInt8 := [42, 180, 0, 25, 27, 28, 182, 0, 43, 153, 0, 17, 42, 180, 0, 21, 16, 8, 28, 104, 27, 96, 51]
abbrev dktX12_gives_0 : List UInt8 := dkwX12_gives_0 ++ dktX12_gives_1
theorem dksX12_gives_0 : cX12_gives.data.toList.drop 0 = dktX12_gives_0 := by decide +kernel
theorem dksX12_gives_1 : cX12_gives.data.toList.drop 23 = dktX12_gives_1 := dk_seg dksX12_gives_0 23 rfl rfl
theorem dksX12_gives_2 : cX12_gives.data.toList.drop 45 = dktX12_gives_2 := dk_seg dksX12_gives_1 22 rfl rfl
theorem dksX12_gives_3 : cX12_gives.data.toList.drop 67 = dktX12_gives_3 := dk_seg dksX12_gives_2 22 rfl rfl
theorem dksX12_gives_4 : cX12_gives.data.toList.drop 91 = dktX12_gives_4 := dk_seg dksX12_gives_3 24 rfl rfl
theorem dX12_gives_0 : decode cX12_gives 0 = .ok (.aload_n 0, 1) := dk_42 (dk_at dksX12_gives_0 0 rfl rfl)
theorem dX12_gives_1 : decode cX12_gives 1 = .ok (.getfield 25, 3) := dk_180 0 25 (dk_at dksX12_gives_0 1 rfl rfl)
theorem dX12_gives_4 : decode cX12_gives 4 = .ok (.iload_n 1, 1) := dk_27 (dk_at dksX12_gives_0 4 rfl rfl)
theorem dX12_gives_5 : decode cX12_gives 5 = .ok (.iload_n 2, 1) := dk_28 (dk_at dksX12_gives_0 5 rfl rfl)
theorem dX12_gives_6 : decode cX12_gives 6 = .ok (.invokevirtual 43, 3) := dk_182 0 43 (dk_at dksX12_gives_0 6 rfl rfl)
theorem dX12_gives_9 : decode cX12_gives 9 = .ok (.ifCond .eq 17, 3) := dk_153 0 17 (dk_at dksX12_gives_0 9 rfl rfl)
theorem dX12_gives_12 : decode cX12_gives 12 = .ok (.aload_n 0, 1) := dk_42 (dk_at dksX12_gives_0 12 rfl rfl)
theorem dX12_gives_13 : decode cX12_gives 13 = .ok (.getfield 21, 3) := dk_180 0 21 (dk_at dksX12_gives_0 13 rfl rfl)
theorem dX12_gives_16 : decode cX12_gives 16 = .ok (.bipush 8, 2) := dk_16 8 (dk_at dksX12_gives_0 16 rfl rfl)
theorem dX12_gives_18 : decode cX12_gives 18 = .ok (.iload_n 2, 1) := dk_28 (dk_at dksX12_gives_0 18 rfl rfl)
theorem dX12_gives_19 : decode cX12_gives 19 = .ok (.imul, 1) := dk_104 (dk_at dksX12_gives_0 19 rfl rfl)
theorem dX12_gives_20 : decode cX12_gives 20 = .ok (.iload_n 1, 1) := dk_27 (dk_at dksX12_gives_0 20 rfl rfl)
theorem dX12_gives_21 : decode cX12_gives 21 = .ok (.iadd, 1) := dk_96 (dk_at dksX12_gives_0 21 rfl rfl)
theorem dX12_gives_22 : decode cX12_gives 22 = .ok (.baload, 1) := dk_51 (dk_at dksX12_gives_0 22 rfl rfl)
theorem dX12_gives_23 : decode cX12_gives 23 = .ok (.ifCond .ne 5, 3) := dk_154 0 5 (dk_at dksX12_gives_1 0 rfl rfl)
theorem dX12_gives_26 : decode cX12_gives 26 = .ok (.iconst 0, 1) := dk_3 (dk_at dksX12_gives_1 3 rfl rfl)
theorem dX12_gives_27 : decode cX12_gives 27 = .ok (.ireturn, 1) := dk_172 (dk_at dksX12_gives_1 4 rfl rfl)
theorem dX12_gives_28 : decode cX12_gives 28 = .ok (.aload_n 0, 1) := dk_42 (dk_at dksX12_gives_1 5 rfl rfl)
theorem dX12_gives_29 : decode cX12_gives 29 = .ok (.getfield 9, 3) := dk_180 0 9 (dk_at dksX12_gives_1 6 rfl rfl)
theorem dX12_gives_32 : decode cX12_gives 32 = .ok (.bipush 8, 2) := dk_16 8 (dk_at dksX12_gives_1 9 rfl rfl)
theorem dX12_gives_34 : decode cX12_gives 34 = .ok (.iload_n 2, 1) := dk_28 (dk_at dksX12_gives_1 11 rfl rfl)
theorem dX12_gives_35 : decode cX12_gives 35 = .ok (.imul, 1) := dk_104 (dk_at dksX12_gives_1 12 rfl rfl)
theorem dX12_gives_36 : decode cX12_gives 36 = .ok (.iload_n 1, 1) := dk_27 (dk_at dksX12_gives_1 13 rfl rfl)
theorem dX12_gives_37 : decode cX12_gives 37 = .ok (.iadd, 1) := dk_96 (dk_at dksX12_gives_1 14 rfl rfl)
theorem dX12_gives_38 : decode cX12_gives 38 = .ok (.iaload, 1) := dk_46 (dk_at dksX12_gives_1 15 rfl rfl)
theorem dX12_gives_39 : decode cX12_gives 39 = .ok (.istore 4, 2) := dk_54 4 (dk_at dksX12_gives_1 16 rfl rfl)
theorem dX12_gives_41 : decode cX12_gives 41 = .ok (.aload_n 0, 1) := dk_42 (dk_at dksX12_gives_1 18 rfl rfl)
theorem dX12_gives_42 : decode cX12_gives 42 = .ok (.getfield 25, 3) := dk_180 0 25 (dk_at dksX12_gives_1 19 rfl rfl)
theorem dX12_gives_45 : decode cX12_gives 45 = .ok (.getfield 47, 3) := dk_180 0 47 (dk_at dksX12_gives_2 0 rfl rfl)
theorem dX12_gives_48 : decode cX12_gives 48 = .ok (.iload_n 3, 1) := dk_29 (dk_at dksX12_gives_2 3 rfl rfl)
theorem dX12_gives_49 : decode cX12_gives 49 = .ok (.if_icmp .ne 10, 3) := dk_160 0 10 (dk_at dksX12_gives_2 4 rfl rfl)
theorem dX12_gives_52 : decode cX12_gives 52 = .ok (.iconst 2, 1) := dk_5 (dk_at dksX12_gives_2 7 rfl rfl)
theorem dX12_gives_53 : decode cX12_gives 53 = .ok (.iload 4, 2) := dk_21 4 (dk_at dksX12_gives_2 8 rfl rfl)
theorem dX12_gives_55 : decode cX12_gives 55 = .ok (.imul, 1) := dk_104 (dk_at dksX12_gives_2 10 rfl rfl)
theorem dX12_gives_56 : decode cX12_gives 56 = .ok (.goto 35, 3) := dk_167 0 35 (dk_at dksX12_gives_2 11 rfl rfl)
theorem dX12_gives_59 : decode cX12_gives 59 = .ok (.aload_n 0, 1) := dk_42 (dk_at dksX12_gives_2 14 rfl rfl)
theorem dX12_gives_60 : decode cX12_gives 60 = .ok (.getfield 25, 3) := dk_180 0 25 (dk_at dksX12_gives_2 15 rfl rfl)
theorem dX12_gives_63 : decode cX12_gives 63 = .ok (.getfield 47, 3) := dk_180 0 47 (dk_at dksX12_gives_2 18 rfl rfl)
theorem dX12_gives_66 : decode cX12_gives 66 = .ok (.iconst (-1), 1) := dk_2 (dk_at dksX12_gives_2 21 rfl rfl)
theorem dX12_gives_67 : decode cX12_gives 67 = .ok (.if_icmp .eq 22, 3) := dk_159 0 22 (dk_at dksX12_gives_3 0 rfl rfl)
theorem dX12_gives_70 : decode cX12_gives 70 = .ok (.aload_n 0, 1) := dk_42 (dk_at dksX12_gives_3 3 rfl rfl)
theorem dX12_gives_71 : decode cX12_gives 71 = .ok (.getfield 25, 3) := dk_180 0 25 (dk_at dksX12_gives_3 4 rfl rfl)
theorem dX12_gives_74 : decode cX12_gives 74 = .ok (.getfield 47, 3) := dk_180 0 47 (dk_at dksX12_gives_3 7 rfl rfl)
theorem dX12_gives_77 : decode cX12_gives 77 = .ok (.iload_n 3, 1) := dk_29 (dk_at dksX12_gives_3 10 rfl rfl)
theorem dX12_gives_78 : decode cX12_gives 78 = .ok (.iconst 2, 1) := dk_5 (dk_at dksX12_gives_3 11 rfl rfl)
theorem dX12_gives_79 : decode cX12_gives 79 = .ok (.iadd, 1) := dk_96 (dk_at dksX12_gives_3 12 rfl rfl)
theorem dX12_gives_80 : decode cX12_gives 80 = .ok (.iconst 4, 1) := dk_7 (dk_at dksX12_gives_3 13 rfl rfl)
theorem dX12_gives_81 : decode cX12_gives 81 = .ok (.irem, 1) := dk_112 (dk_at dksX12_gives_3 14 rfl rfl)
theorem dX12_gives_82 : decode cX12_gives 82 = .ok (.if_icmp .ne 7, 3) := dk_160 0 7 (dk_at dksX12_gives_3 15 rfl rfl)
theorem dX12_gives_85 : decode cX12_gives 85 = .ok (.iconst 0, 1) := dk_3 (dk_at dksX12_gives_3 18 rfl rfl)
theorem dX12_gives_86 : decode cX12_gives 86 = .ok (.goto 5, 3) := dk_167 0 5 (dk_at dksX12_gives_3 19 rfl rfl)
theorem dX12_gives_89 : decode cX12_gives 89 = .ok (.iload 4, 2) := dk_21 4 (dk_at dksX12_gives_3 22 rfl rfl)
theorem dX12_gives_91 : decode cX12_gives 91 = .ok (.ireturn, 1) := dk_172 (dk_at dksX12_gives_4 0 rfl rfl)
abbrev cX12_minute : ByteArray := prog_3_method_7_code
def yX12_minute : MethodName := ⟨RX12, "minute", "(II)V"⟩
def dkwX12_minute_8 : List UInt8 := [104, 21, 4, 96, 4, 84, 132, 4, 1, 167, 255, 197, 132, 3, 1, 167, 255, 177, 177]
abbrev dktX12_minute_8 : List UInt8 := dkwX12_minute_8 ++ []
def dkwX12_minute_7 : List UInt8 := [180, 0, 15, 16, 8, 29, 104, 21, 4, 96, 46, 5, 108, 96, 161, 0, 16, 42, 180, 0, 21, 16, 8, 29]
abbrev dktX12_minute_7 : List UInt8 := dkwX12_minute_7 ++ dktX12_minute_8
def dkwX12_minute_6 : List UInt8 := [180, 0, 25, 180, 0, 53, 162, 0, 53, 42, 180, 0, 18, 16, 8, 29, 104, 21, 4, 96, 46, 8, 42]
abbrev dktX12_minute_6 : List UInt8 := dkwX12_minute_6 ++ dktX12_minute_7
def dkwX12_minute_5 : List UInt8 := [167, 255, 195, 3, 62, 29, 42, 180, 0, 25, 180, 0, 50, 162, 0, 74, 3, 54, 4, 21, 4, 42]
abbrev dktX12_minute_5 : List UInt8 := dkwX12_minute_5 ++ dktX12_minute_6
def dkwX12_minute_4 : List UInt8 := [180, 0, 21, 29, 42, 180, 0, 9, 29, 46, 158, 0, 7, 4, 167, 0, 4, 3, 84, 132, 3, 1]
abbrev dktX12_minute_4 : List UInt8 := dkwX12_minute_4 ++ dktX12_minute_5
def dkwX12_minute_3 : List UInt8 := [167, 0, 43, 42, 180, 0, 9, 29, 92, 46, 4, 100, 79, 42, 89, 180, 0, 29, 4, 96, 181, 0, 29, 42]
abbrev dktX12_minute_3 : List UInt8 := dkwX12_minute_3 ++ dktX12_minute_4
def dkwX12_minute_2 : List UInt8 := [84, 42, 182, 0, 60, 3, 62, 29, 16, 64, 162, 0, 61, 42, 180, 0, 21, 29, 51, 154, 0, 6]
abbrev dktX12_minute_2 : List UInt8 := dkwX12_minute_2 ++ dktX12_minute_3
def dkwX12_minute_1 : List UInt8 := [42, 180, 0, 15, 27, 46, 16, 10, 42, 180, 0, 9, 27, 46, 104, 161, 0, 10, 42, 180, 0, 21, 27, 3]
abbrev dktX12_minute_1 : List UInt8 := dkwX12_minute_1 ++ dktX12_minute_2
def dkwX12_minute_0 : List UInt8 := [27, 2, 159, 0, 47, 42, 180, 0, 15, 27, 92, 46, 28, 96, 79, 42, 180, 0, 21, 27, 51, 153, 0, 28]
abbrev dktX12_minute_0 : List UInt8 := dkwX12_minute_0 ++ dktX12_minute_1
theorem dksX12_minute_0 : cX12_minute.data.toList.drop 0 = dktX12_minute_0 := by decide +kernel
theorem dksX12_minute_1 : cX12_minute.data.toList.drop 24 = dktX12_minute_1 := dk_seg dksX12_minute_0 24 rfl rfl
theorem dksX12_minute_2 : cX12_minute.data.toList.drop 48 = dktX12_minute_2 := dk_seg dksX12_minute_1 24 rfl rfl
theorem dksX12_minute_3 : cX12_minute.data.toList.drop 70 = dktX12_minute_3 := dk_seg dksX12_minute_2 22 rfl rfl
theorem dksX12_minute_4 : cX12_minute.data.toList.drop 94 = dktX12_minute_4 := dk_seg dksX12_minute_3 24 rfl rfl
theorem dksX12_minute_5 : cX12_minute.data.toList.drop 116 = dktX12_minute_5 := dk_seg dksX12_minute_4 22 rfl rfl
theorem dksX12_minute_6 : cX12_minute.data.toList.drop 138 = dktX12_minute_6 := dk_seg dksX12_minute_5 22 rfl rfl
theorem dksX12_minute_7 : cX12_minute.data.toList.drop 161 = dktX12_minute_7 := dk_seg dksX12_minute_6 23 rfl rfl
theorem dksX12_minute_8 : cX12_minute.data.toList.drop 185 = dktX12_minute_8 := dk_seg dksX12_minute_7 24 rfl rfl
theorem dX12_minute_0 : decode cX12_minute 0 = .ok (.iload_n 1, 1) := dk_27 (dk_at dksX12_minute_0 0 rfl rfl)
theorem dX12_minute_1 : decode cX12_minute 1 = .ok (.iconst (-1), 1) := dk_2 (dk_at dksX12_minute_0 1 rfl rfl)
theorem dX12_minute_2 : decode cX12_minute 2 = .ok (.if_icmp .eq 47, 3) := dk_159 0 47 (dk_at dksX12_minute_0 2 rfl rfl)
theorem dX12_minute_5 : decode cX12_minute 5 = .ok (.aload_n 0, 1) := dk_42 (dk_at dksX12_minute_0 5 rfl rfl)
theorem dX12_minute_6 : decode cX12_minute 6 = .ok (.getfield 15, 3) := dk_180 0 15 (dk_at dksX12_minute_0 6 rfl rfl)
theorem dX12_minute_9 : decode cX12_minute 9 = .ok (.iload_n 1, 1) := dk_27 (dk_at dksX12_minute_0 9 rfl rfl)
theorem dX12_minute_10 : decode cX12_minute 10 = .ok (.dup2, 1) := dk_92 (dk_at dksX12_minute_0 10 rfl rfl)
theorem dX12_minute_11 : decode cX12_minute 11 = .ok (.iaload, 1) := dk_46 (dk_at dksX12_minute_0 11 rfl rfl)
theorem dX12_minute_12 : decode cX12_minute 12 = .ok (.iload_n 2, 1) := dk_28 (dk_at dksX12_minute_0 12 rfl rfl)
theorem dX12_minute_13 : decode cX12_minute 13 = .ok (.iadd, 1) := dk_96 (dk_at dksX12_minute_0 13 rfl rfl)
theorem dX12_minute_14 : decode cX12_minute 14 = .ok (.iastore, 1) := dk_79 (dk_at dksX12_minute_0 14 rfl rfl)
theorem dX12_minute_15 : decode cX12_minute 15 = .ok (.aload_n 0, 1) := dk_42 (dk_at dksX12_minute_0 15 rfl rfl)
theorem dX12_minute_16 : decode cX12_minute 16 = .ok (.getfield 21, 3) := dk_180 0 21 (dk_at dksX12_minute_0 16 rfl rfl)
theorem dX12_minute_19 : decode cX12_minute 19 = .ok (.iload_n 1, 1) := dk_27 (dk_at dksX12_minute_0 19 rfl rfl)
theorem dX12_minute_20 : decode cX12_minute 20 = .ok (.baload, 1) := dk_51 (dk_at dksX12_minute_0 20 rfl rfl)
theorem dX12_minute_21 : decode cX12_minute 21 = .ok (.ifCond .eq 28, 3) := dk_153 0 28 (dk_at dksX12_minute_0 21 rfl rfl)
theorem dX12_minute_24 : decode cX12_minute 24 = .ok (.aload_n 0, 1) := dk_42 (dk_at dksX12_minute_1 0 rfl rfl)
theorem dX12_minute_25 : decode cX12_minute 25 = .ok (.getfield 15, 3) := dk_180 0 15 (dk_at dksX12_minute_1 1 rfl rfl)
theorem dX12_minute_28 : decode cX12_minute 28 = .ok (.iload_n 1, 1) := dk_27 (dk_at dksX12_minute_1 4 rfl rfl)
theorem dX12_minute_29 : decode cX12_minute 29 = .ok (.iaload, 1) := dk_46 (dk_at dksX12_minute_1 5 rfl rfl)
theorem dX12_minute_30 : decode cX12_minute 30 = .ok (.bipush 10, 2) := dk_16 10 (dk_at dksX12_minute_1 6 rfl rfl)
theorem dX12_minute_32 : decode cX12_minute 32 = .ok (.aload_n 0, 1) := dk_42 (dk_at dksX12_minute_1 8 rfl rfl)
theorem dX12_minute_33 : decode cX12_minute 33 = .ok (.getfield 9, 3) := dk_180 0 9 (dk_at dksX12_minute_1 9 rfl rfl)
theorem dX12_minute_36 : decode cX12_minute 36 = .ok (.iload_n 1, 1) := dk_27 (dk_at dksX12_minute_1 12 rfl rfl)
theorem dX12_minute_37 : decode cX12_minute 37 = .ok (.iaload, 1) := dk_46 (dk_at dksX12_minute_1 13 rfl rfl)
theorem dX12_minute_38 : decode cX12_minute 38 = .ok (.imul, 1) := dk_104 (dk_at dksX12_minute_1 14 rfl rfl)
theorem dX12_minute_39 : decode cX12_minute 39 = .ok (.if_icmp .lt 10, 3) := dk_161 0 10 (dk_at dksX12_minute_1 15 rfl rfl)
theorem dX12_minute_42 : decode cX12_minute 42 = .ok (.aload_n 0, 1) := dk_42 (dk_at dksX12_minute_1 18 rfl rfl)
theorem dX12_minute_43 : decode cX12_minute 43 = .ok (.getfield 21, 3) := dk_180 0 21 (dk_at dksX12_minute_1 19 rfl rfl)
theorem dX12_minute_46 : decode cX12_minute 46 = .ok (.iload_n 1, 1) := dk_27 (dk_at dksX12_minute_1 22 rfl rfl)
theorem dX12_minute_47 : decode cX12_minute 47 = .ok (.iconst 0, 1) := dk_3 (dk_at dksX12_minute_1 23 rfl rfl)
theorem dX12_minute_48 : decode cX12_minute 48 = .ok (.bastore, 1) := dk_84 (dk_at dksX12_minute_2 0 rfl rfl)
theorem dX12_minute_49 : decode cX12_minute 49 = .ok (.aload_n 0, 1) := dk_42 (dk_at dksX12_minute_2 1 rfl rfl)
theorem dX12_minute_50 : decode cX12_minute 50 = .ok (.invokevirtual 60, 3) := dk_182 0 60 (dk_at dksX12_minute_2 2 rfl rfl)
theorem dX12_minute_53 : decode cX12_minute 53 = .ok (.iconst 0, 1) := dk_3 (dk_at dksX12_minute_2 5 rfl rfl)
theorem dX12_minute_54 : decode cX12_minute 54 = .ok (.istore_n 3, 1) := dk_62 (dk_at dksX12_minute_2 6 rfl rfl)
theorem dX12_minute_55 : decode cX12_minute 55 = .ok (.iload_n 3, 1) := dk_29 (dk_at dksX12_minute_2 7 rfl rfl)
theorem dX12_minute_56 : decode cX12_minute 56 = .ok (.bipush 64, 2) := dk_16 64 (dk_at dksX12_minute_2 8 rfl rfl)
theorem dX12_minute_58 : decode cX12_minute 58 = .ok (.if_icmp .ge 61, 3) := dk_162 0 61 (dk_at dksX12_minute_2 10 rfl rfl)
theorem dX12_minute_61 : decode cX12_minute 61 = .ok (.aload_n 0, 1) := dk_42 (dk_at dksX12_minute_2 13 rfl rfl)
theorem dX12_minute_62 : decode cX12_minute 62 = .ok (.getfield 21, 3) := dk_180 0 21 (dk_at dksX12_minute_2 14 rfl rfl)
theorem dX12_minute_65 : decode cX12_minute 65 = .ok (.iload_n 3, 1) := dk_29 (dk_at dksX12_minute_2 17 rfl rfl)
theorem dX12_minute_66 : decode cX12_minute 66 = .ok (.baload, 1) := dk_51 (dk_at dksX12_minute_2 18 rfl rfl)
theorem dX12_minute_67 : decode cX12_minute 67 = .ok (.ifCond .ne 6, 3) := dk_154 0 6 (dk_at dksX12_minute_2 19 rfl rfl)
theorem dX12_minute_70 : decode cX12_minute 70 = .ok (.goto 43, 3) := dk_167 0 43 (dk_at dksX12_minute_3 0 rfl rfl)
theorem dX12_minute_73 : decode cX12_minute 73 = .ok (.aload_n 0, 1) := dk_42 (dk_at dksX12_minute_3 3 rfl rfl)
theorem dX12_minute_74 : decode cX12_minute 74 = .ok (.getfield 9, 3) := dk_180 0 9 (dk_at dksX12_minute_3 4 rfl rfl)
theorem dX12_minute_77 : decode cX12_minute 77 = .ok (.iload_n 3, 1) := dk_29 (dk_at dksX12_minute_3 7 rfl rfl)
theorem dX12_minute_78 : decode cX12_minute 78 = .ok (.dup2, 1) := dk_92 (dk_at dksX12_minute_3 8 rfl rfl)
theorem dX12_minute_79 : decode cX12_minute 79 = .ok (.iaload, 1) := dk_46 (dk_at dksX12_minute_3 9 rfl rfl)
theorem dX12_minute_80 : decode cX12_minute 80 = .ok (.iconst 1, 1) := dk_4 (dk_at dksX12_minute_3 10 rfl rfl)
theorem dX12_minute_81 : decode cX12_minute 81 = .ok (.isub, 1) := dk_100 (dk_at dksX12_minute_3 11 rfl rfl)
theorem dX12_minute_82 : decode cX12_minute 82 = .ok (.iastore, 1) := dk_79 (dk_at dksX12_minute_3 12 rfl rfl)
theorem dX12_minute_83 : decode cX12_minute 83 = .ok (.aload_n 0, 1) := dk_42 (dk_at dksX12_minute_3 13 rfl rfl)
theorem dX12_minute_84 : decode cX12_minute 84 = .ok (.dup, 1) := dk_89 (dk_at dksX12_minute_3 14 rfl rfl)
theorem dX12_minute_85 : decode cX12_minute 85 = .ok (.getfield 29, 3) := dk_180 0 29 (dk_at dksX12_minute_3 15 rfl rfl)
theorem dX12_minute_88 : decode cX12_minute 88 = .ok (.iconst 1, 1) := dk_4 (dk_at dksX12_minute_3 18 rfl rfl)
theorem dX12_minute_89 : decode cX12_minute 89 = .ok (.iadd, 1) := dk_96 (dk_at dksX12_minute_3 19 rfl rfl)
theorem dX12_minute_90 : decode cX12_minute 90 = .ok (.putfield 29, 3) := dk_181 0 29 (dk_at dksX12_minute_3 20 rfl rfl)
theorem dX12_minute_93 : decode cX12_minute 93 = .ok (.aload_n 0, 1) := dk_42 (dk_at dksX12_minute_3 23 rfl rfl)
theorem dX12_minute_94 : decode cX12_minute 94 = .ok (.getfield 21, 3) := dk_180 0 21 (dk_at dksX12_minute_4 0 rfl rfl)
theorem dX12_minute_97 : decode cX12_minute 97 = .ok (.iload_n 3, 1) := dk_29 (dk_at dksX12_minute_4 3 rfl rfl)
theorem dX12_minute_98 : decode cX12_minute 98 = .ok (.aload_n 0, 1) := dk_42 (dk_at dksX12_minute_4 4 rfl rfl)
theorem dX12_minute_99 : decode cX12_minute 99 = .ok (.getfield 9, 3) := dk_180 0 9 (dk_at dksX12_minute_4 5 rfl rfl)
theorem dX12_minute_102 : decode cX12_minute 102 = .ok (.iload_n 3, 1) := dk_29 (dk_at dksX12_minute_4 8 rfl rfl)
theorem dX12_minute_103 : decode cX12_minute 103 = .ok (.iaload, 1) := dk_46 (dk_at dksX12_minute_4 9 rfl rfl)
theorem dX12_minute_104 : decode cX12_minute 104 = .ok (.ifCond .le 7, 3) := dk_158 0 7 (dk_at dksX12_minute_4 10 rfl rfl)
theorem dX12_minute_107 : decode cX12_minute 107 = .ok (.iconst 1, 1) := dk_4 (dk_at dksX12_minute_4 13 rfl rfl)
theorem dX12_minute_108 : decode cX12_minute 108 = .ok (.goto 4, 3) := dk_167 0 4 (dk_at dksX12_minute_4 14 rfl rfl)
theorem dX12_minute_111 : decode cX12_minute 111 = .ok (.iconst 0, 1) := dk_3 (dk_at dksX12_minute_4 17 rfl rfl)
theorem dX12_minute_112 : decode cX12_minute 112 = .ok (.bastore, 1) := dk_84 (dk_at dksX12_minute_4 18 rfl rfl)
theorem dX12_minute_113 : decode cX12_minute 113 = .ok (.iinc 3 1, 3) := dk_132 3 1 (dk_at dksX12_minute_4 19 rfl rfl)
theorem dX12_minute_116 : decode cX12_minute 116 = .ok (.goto (-61), 3) := dk_167 255 195 (dk_at dksX12_minute_5 0 rfl rfl)
theorem dX12_minute_119 : decode cX12_minute 119 = .ok (.iconst 0, 1) := dk_3 (dk_at dksX12_minute_5 3 rfl rfl)
theorem dX12_minute_120 : decode cX12_minute 120 = .ok (.istore_n 3, 1) := dk_62 (dk_at dksX12_minute_5 4 rfl rfl)
theorem dX12_minute_121 : decode cX12_minute 121 = .ok (.iload_n 3, 1) := dk_29 (dk_at dksX12_minute_5 5 rfl rfl)
theorem dX12_minute_122 : decode cX12_minute 122 = .ok (.aload_n 0, 1) := dk_42 (dk_at dksX12_minute_5 6 rfl rfl)
theorem dX12_minute_123 : decode cX12_minute 123 = .ok (.getfield 25, 3) := dk_180 0 25 (dk_at dksX12_minute_5 7 rfl rfl)
theorem dX12_minute_126 : decode cX12_minute 126 = .ok (.getfield 50, 3) := dk_180 0 50 (dk_at dksX12_minute_5 10 rfl rfl)
theorem dX12_minute_129 : decode cX12_minute 129 = .ok (.if_icmp .ge 74, 3) := dk_162 0 74 (dk_at dksX12_minute_5 13 rfl rfl)
theorem dX12_minute_132 : decode cX12_minute 132 = .ok (.iconst 0, 1) := dk_3 (dk_at dksX12_minute_5 16 rfl rfl)
theorem dX12_minute_133 : decode cX12_minute 133 = .ok (.istore 4, 2) := dk_54 4 (dk_at dksX12_minute_5 17 rfl rfl)
theorem dX12_minute_135 : decode cX12_minute 135 = .ok (.iload 4, 2) := dk_21 4 (dk_at dksX12_minute_5 19 rfl rfl)
theorem dX12_minute_137 : decode cX12_minute 137 = .ok (.aload_n 0, 1) := dk_42 (dk_at dksX12_minute_5 21 rfl rfl)
theorem dX12_minute_138 : decode cX12_minute 138 = .ok (.getfield 25, 3) := dk_180 0 25 (dk_at dksX12_minute_6 0 rfl rfl)
theorem dX12_minute_141 : decode cX12_minute 141 = .ok (.getfield 53, 3) := dk_180 0 53 (dk_at dksX12_minute_6 3 rfl rfl)
theorem dX12_minute_144 : decode cX12_minute 144 = .ok (.if_icmp .ge 53, 3) := dk_162 0 53 (dk_at dksX12_minute_6 6 rfl rfl)
theorem dX12_minute_147 : decode cX12_minute 147 = .ok (.aload_n 0, 1) := dk_42 (dk_at dksX12_minute_6 9 rfl rfl)
theorem dX12_minute_148 : decode cX12_minute 148 = .ok (.getfield 18, 3) := dk_180 0 18 (dk_at dksX12_minute_6 10 rfl rfl)
theorem dX12_minute_151 : decode cX12_minute 151 = .ok (.bipush 8, 2) := dk_16 8 (dk_at dksX12_minute_6 13 rfl rfl)
theorem dX12_minute_153 : decode cX12_minute 153 = .ok (.iload_n 3, 1) := dk_29 (dk_at dksX12_minute_6 15 rfl rfl)
theorem dX12_minute_154 : decode cX12_minute 154 = .ok (.imul, 1) := dk_104 (dk_at dksX12_minute_6 16 rfl rfl)
theorem dX12_minute_155 : decode cX12_minute 155 = .ok (.iload 4, 2) := dk_21 4 (dk_at dksX12_minute_6 17 rfl rfl)
theorem dX12_minute_157 : decode cX12_minute 157 = .ok (.iadd, 1) := dk_96 (dk_at dksX12_minute_6 19 rfl rfl)
theorem dX12_minute_158 : decode cX12_minute 158 = .ok (.iaload, 1) := dk_46 (dk_at dksX12_minute_6 20 rfl rfl)
theorem dX12_minute_159 : decode cX12_minute 159 = .ok (.iconst 5, 1) := dk_8 (dk_at dksX12_minute_6 21 rfl rfl)
theorem dX12_minute_160 : decode cX12_minute 160 = .ok (.aload_n 0, 1) := dk_42 (dk_at dksX12_minute_6 22 rfl rfl)
theorem dX12_minute_161 : decode cX12_minute 161 = .ok (.getfield 15, 3) := dk_180 0 15 (dk_at dksX12_minute_7 0 rfl rfl)
theorem dX12_minute_164 : decode cX12_minute 164 = .ok (.bipush 8, 2) := dk_16 8 (dk_at dksX12_minute_7 3 rfl rfl)
theorem dX12_minute_166 : decode cX12_minute 166 = .ok (.iload_n 3, 1) := dk_29 (dk_at dksX12_minute_7 5 rfl rfl)
theorem dX12_minute_167 : decode cX12_minute 167 = .ok (.imul, 1) := dk_104 (dk_at dksX12_minute_7 6 rfl rfl)
theorem dX12_minute_168 : decode cX12_minute 168 = .ok (.iload 4, 2) := dk_21 4 (dk_at dksX12_minute_7 7 rfl rfl)
theorem dX12_minute_170 : decode cX12_minute 170 = .ok (.iadd, 1) := dk_96 (dk_at dksX12_minute_7 9 rfl rfl)
theorem dX12_minute_171 : decode cX12_minute 171 = .ok (.iaload, 1) := dk_46 (dk_at dksX12_minute_7 10 rfl rfl)
theorem dX12_minute_172 : decode cX12_minute 172 = .ok (.iconst 2, 1) := dk_5 (dk_at dksX12_minute_7 11 rfl rfl)
theorem dX12_minute_173 : decode cX12_minute 173 = .ok (.idiv, 1) := dk_108 (dk_at dksX12_minute_7 12 rfl rfl)
theorem dX12_minute_174 : decode cX12_minute 174 = .ok (.iadd, 1) := dk_96 (dk_at dksX12_minute_7 13 rfl rfl)
theorem dX12_minute_175 : decode cX12_minute 175 = .ok (.if_icmp .lt 16, 3) := dk_161 0 16 (dk_at dksX12_minute_7 14 rfl rfl)
theorem dX12_minute_178 : decode cX12_minute 178 = .ok (.aload_n 0, 1) := dk_42 (dk_at dksX12_minute_7 17 rfl rfl)
theorem dX12_minute_179 : decode cX12_minute 179 = .ok (.getfield 21, 3) := dk_180 0 21 (dk_at dksX12_minute_7 18 rfl rfl)
theorem dX12_minute_182 : decode cX12_minute 182 = .ok (.bipush 8, 2) := dk_16 8 (dk_at dksX12_minute_7 21 rfl rfl)
theorem dX12_minute_184 : decode cX12_minute 184 = .ok (.iload_n 3, 1) := dk_29 (dk_at dksX12_minute_7 23 rfl rfl)
theorem dX12_minute_185 : decode cX12_minute 185 = .ok (.imul, 1) := dk_104 (dk_at dksX12_minute_8 0 rfl rfl)
theorem dX12_minute_186 : decode cX12_minute 186 = .ok (.iload 4, 2) := dk_21 4 (dk_at dksX12_minute_8 1 rfl rfl)
theorem dX12_minute_188 : decode cX12_minute 188 = .ok (.iadd, 1) := dk_96 (dk_at dksX12_minute_8 3 rfl rfl)
theorem dX12_minute_189 : decode cX12_minute 189 = .ok (.iconst 1, 1) := dk_4 (dk_at dksX12_minute_8 4 rfl rfl)
theorem dX12_minute_190 : decode cX12_minute 190 = .ok (.bastore, 1) := dk_84 (dk_at dksX12_minute_8 5 rfl rfl)
theorem dX12_minute_191 : decode cX12_minute 191 = .ok (.iinc 4 1, 3) := dk_132 4 1 (dk_at dksX12_minute_8 6 rfl rfl)
theorem dX12_minute_194 : decode cX12_minute 194 = .ok (.goto (-59), 3) := dk_167 255 197 (dk_at dksX12_minute_8 9 rfl rfl)
theorem dX12_minute_197 : decode cX12_minute 197 = .ok (.iinc 3 1, 3) := dk_132 3 1 (dk_at dksX12_minute_8 12 rfl rfl)
theorem dX12_minute_200 : decode cX12_minute 200 = .ok (.goto (-79), 3) := dk_167 255 177 (dk_at dksX12_minute_8 15 rfl rfl)
theorem dX12_minute_203 : decode cX12_minute 203 = .ok (.return_, 1) := dk_177 (dk_at dksX12_minute_8 18 rfl rfl)
abbrev cX12_give : ByteArray := prog_3_method_8_code
def yX12_give : MethodName := ⟨RX12, "give", "(I)I"⟩
def dkwX12_give_2 : List UInt8 := [104, 27, 96, 3, 84, 132, 3, 1, 167, 255, 204, 28, 172]
abbrev dktX12_give_2 : List UInt8 := dkwX12_give_2 ++ []
def dkwX12_give_1 : List UInt8 := [27, 96, 46, 96, 61, 42, 180, 0, 9, 16, 8, 29, 104, 27, 96, 3, 79, 42, 180, 0, 21, 16, 8, 29]
abbrev dktX12_give_1 : List UInt8 := dkwX12_give_1 ++ dktX12_give_2
def dkwX12_give_0 : List UInt8 := [3, 61, 3, 62, 29, 42, 180, 0, 25, 180, 0, 50, 162, 0, 47, 28, 42, 180, 0, 9, 16, 8, 29, 104]
abbrev dktX12_give_0 : List UInt8 := dkwX12_give_0 ++ dktX12_give_1
theorem dksX12_give_0 : cX12_give.data.toList.drop 0 = dktX12_give_0 := by decide +kernel
theorem dksX12_give_1 : cX12_give.data.toList.drop 24 = dktX12_give_1 := dk_seg dksX12_give_0 24 rfl rfl
theorem dksX12_give_2 : cX12_give.data.toList.drop 48 = dktX12_give_2 := dk_seg dksX12_give_1 24 rfl rfl
theorem dX12_give_0 : decode cX12_give 0 = .ok (.iconst 0, 1) := dk_3 (dk_at dksX12_give_0 0 rfl rfl)
theorem dX12_give_1 : decode cX12_give 1 = .ok (.istore_n 2, 1) := dk_61 (dk_at dksX12_give_0 1 rfl rfl)
theorem dX12_give_2 : decode cX12_give 2 = .ok (.iconst 0, 1) := dk_3 (dk_at dksX12_give_0 2 rfl rfl)
theorem dX12_give_3 : decode cX12_give 3 = .ok (.istore_n 3, 1) := dk_62 (dk_at dksX12_give_0 3 rfl rfl)
theorem dX12_give_4 : decode cX12_give 4 = .ok (.iload_n 3, 1) := dk_29 (dk_at dksX12_give_0 4 rfl rfl)
theorem dX12_give_5 : decode cX12_give 5 = .ok (.aload_n 0, 1) := dk_42 (dk_at dksX12_give_0 5 rfl rfl)
theorem dX12_give_6 : decode cX12_give 6 = .ok (.getfield 25, 3) := dk_180 0 25 (dk_at dksX12_give_0 6 rfl rfl)
theorem dX12_give_9 : decode cX12_give 9 = .ok (.getfield 50, 3) := dk_180 0 50 (dk_at dksX12_give_0 9 rfl rfl)
theorem dX12_give_12 : decode cX12_give 12 = .ok (.if_icmp .ge 47, 3) := dk_162 0 47 (dk_at dksX12_give_0 12 rfl rfl)
theorem dX12_give_15 : decode cX12_give 15 = .ok (.iload_n 2, 1) := dk_28 (dk_at dksX12_give_0 15 rfl rfl)
theorem dX12_give_16 : decode cX12_give 16 = .ok (.aload_n 0, 1) := dk_42 (dk_at dksX12_give_0 16 rfl rfl)
theorem dX12_give_17 : decode cX12_give 17 = .ok (.getfield 9, 3) := dk_180 0 9 (dk_at dksX12_give_0 17 rfl rfl)
theorem dX12_give_20 : decode cX12_give 20 = .ok (.bipush 8, 2) := dk_16 8 (dk_at dksX12_give_0 20 rfl rfl)
theorem dX12_give_22 : decode cX12_give 22 = .ok (.iload_n 3, 1) := dk_29 (dk_at dksX12_give_0 22 rfl rfl)
theorem dX12_give_23 : decode cX12_give 23 = .ok (.imul, 1) := dk_104 (dk_at dksX12_give_0 23 rfl rfl)
theorem dX12_give_24 : decode cX12_give 24 = .ok (.iload_n 1, 1) := dk_27 (dk_at dksX12_give_1 0 rfl rfl)
theorem dX12_give_25 : decode cX12_give 25 = .ok (.iadd, 1) := dk_96 (dk_at dksX12_give_1 1 rfl rfl)
theorem dX12_give_26 : decode cX12_give 26 = .ok (.iaload, 1) := dk_46 (dk_at dksX12_give_1 2 rfl rfl)
theorem dX12_give_27 : decode cX12_give 27 = .ok (.iadd, 1) := dk_96 (dk_at dksX12_give_1 3 rfl rfl)
theorem dX12_give_28 : decode cX12_give 28 = .ok (.istore_n 2, 1) := dk_61 (dk_at dksX12_give_1 4 rfl rfl)
theorem dX12_give_29 : decode cX12_give 29 = .ok (.aload_n 0, 1) := dk_42 (dk_at dksX12_give_1 5 rfl rfl)
theorem dX12_give_30 : decode cX12_give 30 = .ok (.getfield 9, 3) := dk_180 0 9 (dk_at dksX12_give_1 6 rfl rfl)
theorem dX12_give_33 : decode cX12_give 33 = .ok (.bipush 8, 2) := dk_16 8 (dk_at dksX12_give_1 9 rfl rfl)
theorem dX12_give_35 : decode cX12_give 35 = .ok (.iload_n 3, 1) := dk_29 (dk_at dksX12_give_1 11 rfl rfl)
theorem dX12_give_36 : decode cX12_give 36 = .ok (.imul, 1) := dk_104 (dk_at dksX12_give_1 12 rfl rfl)
theorem dX12_give_37 : decode cX12_give 37 = .ok (.iload_n 1, 1) := dk_27 (dk_at dksX12_give_1 13 rfl rfl)
theorem dX12_give_38 : decode cX12_give 38 = .ok (.iadd, 1) := dk_96 (dk_at dksX12_give_1 14 rfl rfl)
theorem dX12_give_39 : decode cX12_give 39 = .ok (.iconst 0, 1) := dk_3 (dk_at dksX12_give_1 15 rfl rfl)
theorem dX12_give_40 : decode cX12_give 40 = .ok (.iastore, 1) := dk_79 (dk_at dksX12_give_1 16 rfl rfl)
theorem dX12_give_41 : decode cX12_give 41 = .ok (.aload_n 0, 1) := dk_42 (dk_at dksX12_give_1 17 rfl rfl)
theorem dX12_give_42 : decode cX12_give 42 = .ok (.getfield 21, 3) := dk_180 0 21 (dk_at dksX12_give_1 18 rfl rfl)
theorem dX12_give_45 : decode cX12_give 45 = .ok (.bipush 8, 2) := dk_16 8 (dk_at dksX12_give_1 21 rfl rfl)
theorem dX12_give_47 : decode cX12_give 47 = .ok (.iload_n 3, 1) := dk_29 (dk_at dksX12_give_1 23 rfl rfl)
theorem dX12_give_48 : decode cX12_give 48 = .ok (.imul, 1) := dk_104 (dk_at dksX12_give_2 0 rfl rfl)
theorem dX12_give_49 : decode cX12_give 49 = .ok (.iload_n 1, 1) := dk_27 (dk_at dksX12_give_2 1 rfl rfl)
theorem dX12_give_50 : decode cX12_give 50 = .ok (.iadd, 1) := dk_96 (dk_at dksX12_give_2 2 rfl rfl)
theorem dX12_give_51 : decode cX12_give 51 = .ok (.iconst 0, 1) := dk_3 (dk_at dksX12_give_2 3 rfl rfl)
theorem dX12_give_52 : decode cX12_give 52 = .ok (.bastore, 1) := dk_84 (dk_at dksX12_give_2 4 rfl rfl)
theorem dX12_give_53 : decode cX12_give 53 = .ok (.iinc 3 1, 3) := dk_132 3 1 (dk_at dksX12_give_2 5 rfl rfl)
theorem dX12_give_56 : decode cX12_give 56 = .ok (.goto (-52), 3) := dk_167 255 204 (dk_at dksX12_give_2 8 rfl rfl)
theorem dX12_give_59 : decode cX12_give 59 = .ok (.iload_n 2, 1) := dk_28 (dk_at dksX12_give_2 11 rfl rfl)
theorem dX12_give_60 : decode cX12_give 60 = .ok (.ireturn, 1) := dk_172 (dk_at dksX12_give_2 12 rfl rfl)
theorem q116 : (Jvm.Cond.initialized "PailRow$Barn") ∈ lw_all := lw_g (lw_at lw_m1 14 rfl) rfl
theorem q263 : (Jvm.Cond.fieldLinkNest "PailRow$Barn" (33 : Nat) "PailRow$Yard" "fuel" "[I" "PailRow") ∈ lw_tbl := lw_at lw_m1 161 rfl
theorem q267 : (Jvm.Cond.fieldLinkNest "PailRow$Barn" (36 : Nat) "PailRow$Yard" "burns" "[Z" "PailRow") ∈ lw_tbl := lw_at lw_m1 165 rfl
theorem q276 : (Jvm.Cond.fieldLinkNest "PailRow$Barn" (53 : Nat) "PailRow$Yard" "columns" "I" "PailRow") ∈ lw_tbl := lw_at lw_m1 174 rfl
theorem q280 : (Jvm.Cond.fieldLinkNest "PailRow$Barn" (50 : Nat) "PailRow$Yard" "rows" "I" "PailRow") ∈ lw_tbl := lw_at lw_m1 178 rfl
theorem q312 : (Jvm.Cond.fieldLinkNest "PailRow$Barn" (47 : Nat) "PailRow$Yard" "wind" "I" "PailRow") ∈ lw_tbl := lw_at lw_m1 210 rfl
theorem q578 : (Jvm.Cond.instantiable "PailRow$Barn" (6 : Nat)) ∈ lw_all := lw_g (lw_at lw_m2 236 rfl) rfl
theorem q580 : (Jvm.Cond.instanceMethod ({ cls := "PailRow$Barn", name := "<init>", desc := "()V" } : Jvm.MethodName)) ∈ lw_all := lw_g (lw_at lw_m2 238 rfl) rfl
theorem q581 : (Jvm.Cond.code ({ cls := "PailRow$Barn", name := "<init>", desc := "()V" } : Jvm.MethodName) prog_3_method_1_code (1 : Nat) (Option.none : Option Jvm.ClassFile.FieldType)) ∈ lw_all := lw_g (lw_at lw_m2 239 rfl) rfl
theorem q582 : (Jvm.Cond.methodLink "PailRow$Barn" (3 : Nat) ({ cls := "java/lang/Object", name := "<init>", desc := "()V" } : Jvm.MethodName)) ∈ lw_all := lw_g (lw_at lw_m3 0 rfl) rfl
theorem q583 : (Jvm.Cond.fieldLink "PailRow$Barn" (9 : Nat) "PailRow$Barn" "fuel" "[I") ∈ lw_all := lw_g (lw_at lw_m3 1 rfl) rfl
theorem q585 : (Jvm.Cond.fieldLink "PailRow$Barn" (15 : Nat) "PailRow$Barn" "wet" "[I") ∈ lw_all := lw_g (lw_at lw_m3 3 rfl) rfl
theorem q587 : (Jvm.Cond.fieldLink "PailRow$Barn" (18 : Nat) "PailRow$Barn" "heat" "[I") ∈ lw_all := lw_g (lw_at lw_m3 5 rfl) rfl
theorem q588 : (Jvm.Cond.fieldLink "PailRow$Barn" (21 : Nat) "PailRow$Barn" "burns" "[Z") ∈ lw_all := lw_g (lw_at lw_m3 6 rfl) rfl
theorem q590 : (Jvm.Cond.fieldLink "PailRow$Barn" (25 : Nat) "PailRow$Barn" "yard" "LPailRow$Yard;") ∈ lw_all := lw_g (lw_at lw_m3 8 rfl) rfl
theorem q592 : (Jvm.Cond.fieldLink "PailRow$Barn" (29 : Nat) "PailRow$Barn" "lost" "I") ∈ lw_all := lw_g (lw_at lw_m3 10 rfl) rfl
theorem q594 : (Jvm.Cond.laysFinal "PailRow$Barn" "PailRow$Barn" "fuel" "[I") ∈ lw_all := lw_g (lw_at lw_m3 12 rfl) rfl
theorem q595 : (Jvm.Cond.soleField "PailRow$Barn" "fuel") ∈ lw_all := lw_g (lw_at lw_m3 13 rfl) rfl
theorem q596 : (Jvm.Cond.laysFinal "PailRow$Barn" "PailRow$Barn" "wet" "[I") ∈ lw_all := lw_g (lw_at lw_m3 14 rfl) rfl
theorem q597 : (Jvm.Cond.soleField "PailRow$Barn" "wet") ∈ lw_all := lw_g (lw_at lw_m3 15 rfl) rfl
theorem q598 : (Jvm.Cond.laysFinal "PailRow$Barn" "PailRow$Barn" "heat" "[I") ∈ lw_all := lw_g (lw_at lw_m3 16 rfl) rfl
theorem q599 : (Jvm.Cond.soleField "PailRow$Barn" "heat") ∈ lw_all := lw_g (lw_at lw_m3 17 rfl) rfl
theorem q600 : (Jvm.Cond.laysFinal "PailRow$Barn" "PailRow$Barn" "burns" "[Z") ∈ lw_all := lw_g (lw_at lw_m3 18 rfl) rfl
theorem q601 : (Jvm.Cond.soleField "PailRow$Barn" "burns") ∈ lw_all := lw_g (lw_at lw_m3 19 rfl) rfl
theorem q602 : (Jvm.Cond.lays "PailRow$Barn" "PailRow$Barn" "yard" "LPailRow$Yard;") ∈ lw_all := lw_g (lw_at lw_m3 20 rfl) rfl
theorem q603 : (Jvm.Cond.soleField "PailRow$Barn" "yard") ∈ lw_all := lw_g (lw_at lw_m3 21 rfl) rfl
theorem q604 : (Jvm.Cond.lays "PailRow$Barn" "PailRow$Barn" "lost" "I") ∈ lw_all := lw_g (lw_at lw_m3 22 rfl) rfl
theorem q605 : (Jvm.Cond.soleField "PailRow$Barn" "lost") ∈ lw_all := lw_g (lw_at lw_m3 23 rfl) rfl
theorem q606 : (Jvm.Cond.superclass "PailRow$Barn" "java/lang/Object") ∈ lw_all := lw_g (lw_at lw_m3 24 rfl) rfl
theorem q1321 : (Jvm.Cond.instanceMethod ({ cls := "PailRow$Barn", name := "begin", desc := "(LPailRow$Yard;)V" } : Jvm.MethodName)) ∈ lw_all := lw_g (lw_at lw_m6 19 rfl) rfl
theorem q1322 : (Jvm.Cond.selects "PailRow$Barn" ({ cls := "PailRow$Barn", name := "begin", desc := "(LPailRow$Yard;)V" } : Jvm.MethodName) ({ cls := "PailRow$Barn", name := "begin", desc := "(LPailRow$Yard;)V" } : Jvm.MethodName)) ∈ lw_all := lw_g (lw_at lw_m6 20 rfl) rfl
theorem q1323 : (Jvm.Cond.code ({ cls := "PailRow$Barn", name := "begin", desc := "(LPailRow$Yard;)V" } : Jvm.MethodName) prog_3_method_2_code (3 : Nat) (Option.none : Option Jvm.ClassFile.FieldType)) ∈ lw_all := lw_g (lw_at lw_m6 21 rfl) rfl
theorem q1325 : (Jvm.Cond.instanceMethod ({ cls := "PailRow$Barn", name := "burning", desc := "()I" } : Jvm.MethodName)) ∈ lw_all := lw_g (lw_at lw_m6 23 rfl) rfl
theorem q1326 : (Jvm.Cond.selects "PailRow$Barn" ({ cls := "PailRow$Barn", name := "burning", desc := "()I" } : Jvm.MethodName) ({ cls := "PailRow$Barn", name := "burning", desc := "()I" } : Jvm.MethodName)) ∈ lw_all := lw_g (lw_at lw_m6 24 rfl) rfl
theorem q1327 : (Jvm.Cond.code ({ cls := "PailRow$Barn", name := "burning", desc := "()I" } : Jvm.MethodName) prog_3_method_4_code (3 : Nat) (Option.some Jvm.ClassFile.FieldType.int)) ∈ lw_all := lw_g (lw_at lw_m6 25 rfl) rfl
theorem q1329 : (Jvm.Cond.instanceMethod ({ cls := "PailRow$Barn", name := "be", desc := "(LPailRow$Barn;)V" } : Jvm.MethodName)) ∈ lw_all := lw_g (lw_at lw_m6 27 rfl) rfl
theorem q1330 : (Jvm.Cond.selects "PailRow$Barn" ({ cls := "PailRow$Barn", name := "be", desc := "(LPailRow$Barn;)V" } : Jvm.MethodName) ({ cls := "PailRow$Barn", name := "be", desc := "(LPailRow$Barn;)V" } : Jvm.MethodName)) ∈ lw_all := lw_g (lw_at lw_m6 28 rfl) rfl
theorem q1331 : (Jvm.Cond.code ({ cls := "PailRow$Barn", name := "be", desc := "(LPailRow$Barn;)V" } : Jvm.MethodName) prog_3_method_3_code (2 : Nat) (Option.none : Option Jvm.ClassFile.FieldType)) ∈ lw_all := lw_g (lw_at lw_m6 29 rfl) rfl
theorem q1332 : (Jvm.Cond.methodLink "PailRow$Barn" (37 : Nat) ({ cls := "java/lang/System", name := "arraycopy", desc := "(Ljava/lang/Object;ILjava/lang/Object;II)V" } : Jvm.MethodName)) ∈ lw_all := lw_g (lw_at lw_m6 30 rfl) rfl
theorem q1334 : (Jvm.Cond.instanceMethod ({ cls := "PailRow$Barn", name := "aimed", desc := "(I)I" } : Jvm.MethodName)) ∈ lw_all := lw_g (lw_at lw_m6 32 rfl) rfl
theorem q1335 : (Jvm.Cond.selects "PailRow$Barn" ({ cls := "PailRow$Barn", name := "aimed", desc := "(I)I" } : Jvm.MethodName) ({ cls := "PailRow$Barn", name := "aimed", desc := "(I)I" } : Jvm.MethodName)) ∈ lw_all := lw_g (lw_at lw_m6 33 rfl) rfl
theorem q1336 : (Jvm.Cond.code ({ cls := "PailRow$Barn", name := "aimed", desc := "(I)I" } : Jvm.MethodName) prog_3_method_9_code (5 : Nat) (Option.some Jvm.ClassFile.FieldType.int)) ∈ lw_all := lw_g (lw_at lw_m6 34 rfl) rfl
theorem q1337 : (Jvm.Cond.methodLink "PailRow$Barn" (63 : Nat) ({ cls := "PailRow$Barn", name := "hottest", desc := "()I" } : Jvm.MethodName)) ∈ lw_all := lw_g (lw_at lw_m6 35 rfl) rfl
theorem q1338 : (Jvm.Cond.privateMethod ({ cls := "PailRow$Barn", name := "hottest", desc := "()I" } : Jvm.MethodName)) ∈ lw_tbl := lw_at lw_m6 36 rfl
theorem q1339 : (Jvm.Cond.instanceMethod ({ cls := "PailRow$Barn", name := "hottest", desc := "()I" } : Jvm.MethodName)) ∈ lw_all := lw_g (lw_at lw_m6 37 rfl) rfl
theorem q1340 : (Jvm.Cond.code ({ cls := "PailRow$Barn", name := "hottest", desc := "()I" } : Jvm.MethodName) prog_3_method_10_code (4 : Nat) (Option.some Jvm.ClassFile.FieldType.int)) ∈ lw_all := lw_g (lw_at lw_m6 38 rfl) rfl
theorem q1341 : (Jvm.Cond.methodLink "PailRow$Barn" (60 : Nat) ({ cls := "PailRow$Barn", name := "warm", desc := "()V" } : Jvm.MethodName)) ∈ lw_all := lw_g (lw_at lw_m6 39 rfl) rfl
theorem q1342 : (Jvm.Cond.instanceMethod ({ cls := "PailRow$Barn", name := "warm", desc := "()V" } : Jvm.MethodName)) ∈ lw_all := lw_g (lw_at lw_m6 40 rfl) rfl
theorem q1343 : (Jvm.Cond.selects "PailRow$Barn" ({ cls := "PailRow$Barn", name := "warm", desc := "()V" } : Jvm.MethodName) ({ cls := "PailRow$Barn", name := "warm", desc := "()V" } : Jvm.MethodName)) ∈ lw_all := lw_g (lw_at lw_m6 41 rfl) rfl
theorem q1344 : (Jvm.Cond.code ({ cls := "PailRow$Barn", name := "warm", desc := "()V" } : Jvm.MethodName) prog_3_method_6_code (4 : Nat) (Option.none : Option Jvm.ClassFile.FieldType)) ∈ lw_all := lw_g (lw_at lw_m6 42 rfl) rfl
theorem q1345 : (Jvm.Cond.methodLink "PailRow$Barn" (56 : Nat) ({ cls := "PailRow$Barn", name := "gives", desc := "(III)I" } : Jvm.MethodName)) ∈ lw_all := lw_g (lw_at lw_m6 43 rfl) rfl
theorem q1346 : (Jvm.Cond.privateMethod ({ cls := "PailRow$Barn", name := "gives", desc := "(III)I" } : Jvm.MethodName)) ∈ lw_tbl := lw_at lw_m6 44 rfl
theorem q1347 : (Jvm.Cond.instanceMethod ({ cls := "PailRow$Barn", name := "gives", desc := "(III)I" } : Jvm.MethodName)) ∈ lw_all := lw_g (lw_at lw_m6 45 rfl) rfl
theorem q1348 : (Jvm.Cond.code ({ cls := "PailRow$Barn", name := "gives", desc := "(III)I" } : Jvm.MethodName) prog_3_method_5_code (5 : Nat) (Option.some Jvm.ClassFile.FieldType.int)) ∈ lw_all := lw_g (lw_at lw_m6 46 rfl) rfl
theorem q1349 : (Jvm.Cond.methodLink "PailRow$Barn" (43 : Nat) ({ cls := "PailRow$Yard", name := "isCell", desc := "(II)Z" } : Jvm.MethodName)) ∈ lw_all := lw_g (lw_at lw_m6 47 rfl) rfl
theorem q1351 : (Jvm.Cond.instanceMethod ({ cls := "PailRow$Barn", name := "minute", desc := "(II)V" } : Jvm.MethodName)) ∈ lw_all := lw_g (lw_at lw_m6 49 rfl) rfl
theorem q1352 : (Jvm.Cond.selects "PailRow$Barn" ({ cls := "PailRow$Barn", name := "minute", desc := "(II)V" } : Jvm.MethodName) ({ cls := "PailRow$Barn", name := "minute", desc := "(II)V" } : Jvm.MethodName)) ∈ lw_all := lw_g (lw_at lw_m6 50 rfl) rfl
theorem q1353 : (Jvm.Cond.code ({ cls := "PailRow$Barn", name := "minute", desc := "(II)V" } : Jvm.MethodName) prog_3_method_7_code (5 : Nat) (Option.none : Option Jvm.ClassFile.FieldType)) ∈ lw_all := lw_g (lw_at lw_m6 51 rfl) rfl
theorem q1388 : (Jvm.Cond.instanceMethod ({ cls := "PailRow$Barn", name := "give", desc := "(I)I" } : Jvm.MethodName)) ∈ lw_all := lw_g (lw_at lw_m6 86 rfl) rfl
theorem q1389 : (Jvm.Cond.selects "PailRow$Barn" ({ cls := "PailRow$Barn", name := "give", desc := "(I)I" } : Jvm.MethodName) ({ cls := "PailRow$Barn", name := "give", desc := "(I)I" } : Jvm.MethodName)) ∈ lw_all := lw_g (lw_at lw_m6 87 rfl) rfl
theorem q1390 : (Jvm.Cond.code ({ cls := "PailRow$Barn", name := "give", desc := "(I)I" } : Jvm.MethodName) prog_3_method_8_code (4 : Nat) (Option.some Jvm.ClassFile.FieldType.int)) ∈ lw_all := lw_g (lw_at lw_m6 88 rfl) rfl
theorem q2357 : (Jvm.Cond.castable "PailRow$Barn" "java/lang/Object") ∈ lw_tbl := lw_at lw_m10 95 rfl
theorem in_X12 : ∀ w ∈ wsX120, w ∈ lw_all := lw_in wsX120 [594, 596, 598, 600, 602, 604] (by decide +kernel) (by decide +kernel)
/-! PailRow$SentenceReader -/
set_option maxRecDepth 100000
def RX13 : String := "PailRow$SentenceReader"
def TX13 : u_T := fun k => match k with
  | 0 => ("PailRow$Reader", "most", "I", true)
  | 1 => ("PailRow$Reader", "p", "I", false)
  | 2 => ("PailRow$Reader", "at", "I", false)
  | 3 => ("PailRow$Reader", "token", "I", false)
  | 4 => ("PailRow$Reader", "value", "I", false)
  | 5 => ("PailRow$Reader", "many", "I", false)
  | 6 => ("PailRow$Reader", "name", "J", false)
  | 7 => ("PailRow$Reader", "this$0", "LPailRow;", true)
  | 8 => ("PailRow$SentenceReader", "counts", "[Ljava/lang/String;", true)
  | 9 => ("PailRow$SentenceReader", "ones", "I", false)
  | _ => ("PailRow$SentenceReader", "this$0", "LPailRow;", true)
def tyX13 : Nat → FieldType := fun k => match k with
  | 0 => .int
  | 1 => .int
  | 2 => .int
  | 3 => .int
  | 4 => .int
  | 5 => .int
  | 6 => .long
  | 7 => .object "PailRow"
  | 8 => .array (.object "java/lang/String")
  | 9 => .int
  | _ => .object "PailRow"
abbrev wsX130 : List Cond := u_ws RX13 TX13 11
-- two fields of one name: no nmX13
theorem tyX13_ok : ∀ k, k < 11 → parseFieldDescriptor (TX13 k).2.2.1 = some (tyX13 k) := by decide +kernel
abbrev cX13_init : ByteArray := prog_16_method_1_code
def yX13_init : MethodName := ⟨RX13, "<init>", "(LPailRow;)V"⟩
def dkwX13_init_1 : List UInt8 := [4, 18, 19, 83, 89, 5, 18, 21, 83, 89, 6, 18, 23, 83, 89, 7, 18, 25, 83, 181, 0, 27, 177]
abbrev dktX13_init_1 : List UInt8 := dkwX13_init_1 ++ []
def dkwX13_init_0 : List UInt8 := [42, 43, 181, 0, 3, 42, 43, 17, 0, 200, 183, 0, 9, 42, 8, 189, 0, 15, 89, 3, 18, 17, 83, 89]
abbrev dktX13_init_0 : List UInt8 := dkwX13_init_0 ++ dktX13_init_1
theorem dksX13_init_0 : cX13_init.data.toList.drop 0 = dktX13_init_0 := by decide +kernel
theorem dksX13_init_1 : cX13_init.data.toList.drop 24 = dktX13_init_1 := dk_seg dksX13_init_0 24 rfl rfl
theorem dX13_init_0 : decode cX13_init 0 = .ok (.aload_n 0, 1) := dk_42 (dk_at dksX13_init_0 0 rfl rfl)
theorem dX13_init_1 : decode cX13_init 1 = .ok (.aload_n 1, 1) := dk_43 (dk_at dksX13_init_0 1 rfl rfl)
theorem dX13_init_2 : decode cX13_init 2 = .ok (.putfield 3, 3) := dk_181 0 3 (dk_at dksX13_init_0 2 rfl rfl)
theorem dX13_init_5 : decode cX13_init 5 = .ok (.aload_n 0, 1) := dk_42 (dk_at dksX13_init_0 5 rfl rfl)
theorem dX13_init_6 : decode cX13_init 6 = .ok (.aload_n 1, 1) := dk_43 (dk_at dksX13_init_0 6 rfl rfl)
theorem dX13_init_7 : decode cX13_init 7 = .ok (.sipush 200, 3) := dk_17 0 200 (dk_at dksX13_init_0 7 rfl rfl)
theorem dX13_init_10 : decode cX13_init 10 = .ok (.invokespecial 9, 3) := dk_183 0 9 (dk_at dksX13_init_0 10 rfl rfl)
theorem dX13_init_13 : decode cX13_init 13 = .ok (.aload_n 0, 1) := dk_42 (dk_at dksX13_init_0 13 rfl rfl)
theorem dX13_init_14 : decode cX13_init 14 = .ok (.iconst 5, 1) := dk_8 (dk_at dksX13_init_0 14 rfl rfl)
theorem dX13_init_15 : decode cX13_init 15 = .ok (.anewarray 15, 3) := dk_189 0 15 (dk_at dksX13_init_0 15 rfl rfl)
theorem dX13_init_18 : decode cX13_init 18 = .ok (.dup, 1) := dk_89 (dk_at dksX13_init_0 18 rfl rfl)
theorem dX13_init_19 : decode cX13_init 19 = .ok (.iconst 0, 1) := dk_3 (dk_at dksX13_init_0 19 rfl rfl)
theorem dX13_init_20 : decode cX13_init 20 = .ok (.ldc 17, 2) := dk_18 17 (dk_at dksX13_init_0 20 rfl rfl)
theorem dX13_init_22 : decode cX13_init 22 = .ok (.aastore, 1) := dk_83 (dk_at dksX13_init_0 22 rfl rfl)
theorem dX13_init_23 : decode cX13_init 23 = .ok (.dup, 1) := dk_89 (dk_at dksX13_init_0 23 rfl rfl)
theorem dX13_init_24 : decode cX13_init 24 = .ok (.iconst 1, 1) := dk_4 (dk_at dksX13_init_1 0 rfl rfl)
theorem dX13_init_25 : decode cX13_init 25 = .ok (.ldc 19, 2) := dk_18 19 (dk_at dksX13_init_1 1 rfl rfl)
theorem dX13_init_27 : decode cX13_init 27 = .ok (.aastore, 1) := dk_83 (dk_at dksX13_init_1 3 rfl rfl)
theorem dX13_init_28 : decode cX13_init 28 = .ok (.dup, 1) := dk_89 (dk_at dksX13_init_1 4 rfl rfl)
theorem dX13_init_29 : decode cX13_init 29 = .ok (.iconst 2, 1) := dk_5 (dk_at dksX13_init_1 5 rfl rfl)
theorem dX13_init_30 : decode cX13_init 30 = .ok (.ldc 21, 2) := dk_18 21 (dk_at dksX13_init_1 6 rfl rfl)
theorem dX13_init_32 : decode cX13_init 32 = .ok (.aastore, 1) := dk_83 (dk_at dksX13_init_1 8 rfl rfl)
theorem dX13_init_33 : decode cX13_init 33 = .ok (.dup, 1) := dk_89 (dk_at dksX13_init_1 9 rfl rfl)
theorem dX13_init_34 : decode cX13_init 34 = .ok (.iconst 3, 1) := dk_6 (dk_at dksX13_init_1 10 rfl rfl)
theorem dX13_init_35 : decode cX13_init 35 = .ok (.ldc 23, 2) := dk_18 23 (dk_at dksX13_init_1 11 rfl rfl)
theorem dX13_init_37 : decode cX13_init 37 = .ok (.aastore, 1) := dk_83 (dk_at dksX13_init_1 13 rfl rfl)
theorem dX13_init_38 : decode cX13_init 38 = .ok (.dup, 1) := dk_89 (dk_at dksX13_init_1 14 rfl rfl)
theorem dX13_init_39 : decode cX13_init 39 = .ok (.iconst 4, 1) := dk_7 (dk_at dksX13_init_1 15 rfl rfl)
theorem dX13_init_40 : decode cX13_init 40 = .ok (.ldc 25, 2) := dk_18 25 (dk_at dksX13_init_1 16 rfl rfl)
theorem dX13_init_42 : decode cX13_init 42 = .ok (.aastore, 1) := dk_83 (dk_at dksX13_init_1 18 rfl rfl)
theorem dX13_init_43 : decode cX13_init 43 = .ok (.putfield 27, 3) := dk_181 0 27 (dk_at dksX13_init_1 19 rfl rfl)
theorem dX13_init_46 : decode cX13_init 46 = .ok (.return_, 1) := dk_177 (dk_at dksX13_init_1 22 rfl rfl)
abbrev cX13_read : ByteArray := prog_16_method_2_code
def yX13_read : MethodName := ⟨RX13, "read", "()LPailRow$Cond;"⟩
def dkwX13_read_1 : List UInt8 := [167, 0, 4, 3, 4, 182, 0, 46, 43, 176]
abbrev dktX13_read_1 : List UInt8 := dkwX13_read_1 ++ []
def dkwX13_read_0 : List UInt8 := [42, 3, 181, 0, 31, 42, 182, 0, 35, 42, 4, 182, 0, 39, 76, 42, 42, 180, 0, 43, 154, 0, 7, 4]
abbrev dktX13_read_0 : List UInt8 := dkwX13_read_0 ++ dktX13_read_1
theorem dksX13_read_0 : cX13_read.data.toList.drop 0 = dktX13_read_0 := by decide +kernel
theorem dksX13_read_1 : cX13_read.data.toList.drop 24 = dktX13_read_1 := dk_seg dksX13_read_0 24 rfl rfl
theorem dX13_read_0 : decode cX13_read 0 = .ok (.aload_n 0, 1) := dk_42 (dk_at dksX13_read_0 0 rfl rfl)
theorem dX13_read_1 : decode cX13_read 1 = .ok (.iconst 0, 1) := dk_3 (dk_at dksX13_read_0 1 rfl rfl)
theorem dX13_read_2 : decode cX13_read 2 = .ok (.putfield 31, 3) := dk_181 0 31 (dk_at dksX13_read_0 2 rfl rfl)
theorem dX13_read_5 : decode cX13_read 5 = .ok (.aload_n 0, 1) := dk_42 (dk_at dksX13_read_0 5 rfl rfl)
theorem dX13_read_6 : decode cX13_read 6 = .ok (.invokevirtual 35, 3) := dk_182 0 35 (dk_at dksX13_read_0 6 rfl rfl)
theorem dX13_read_9 : decode cX13_read 9 = .ok (.aload_n 0, 1) := dk_42 (dk_at dksX13_read_0 9 rfl rfl)
theorem dX13_read_10 : decode cX13_read 10 = .ok (.iconst 1, 1) := dk_4 (dk_at dksX13_read_0 10 rfl rfl)
theorem dX13_read_11 : decode cX13_read 11 = .ok (.invokevirtual 39, 3) := dk_182 0 39 (dk_at dksX13_read_0 11 rfl rfl)
theorem dX13_read_14 : decode cX13_read 14 = .ok (.astore_n 1, 1) := dk_76 (dk_at dksX13_read_0 14 rfl rfl)
theorem dX13_read_15 : decode cX13_read 15 = .ok (.aload_n 0, 1) := dk_42 (dk_at dksX13_read_0 15 rfl rfl)
theorem dX13_read_16 : decode cX13_read 16 = .ok (.aload_n 0, 1) := dk_42 (dk_at dksX13_read_0 16 rfl rfl)
theorem dX13_read_17 : decode cX13_read 17 = .ok (.getfield 43, 3) := dk_180 0 43 (dk_at dksX13_read_0 17 rfl rfl)
theorem dX13_read_20 : decode cX13_read 20 = .ok (.ifCond .ne 7, 3) := dk_154 0 7 (dk_at dksX13_read_0 20 rfl rfl)
theorem dX13_read_23 : decode cX13_read 23 = .ok (.iconst 1, 1) := dk_4 (dk_at dksX13_read_0 23 rfl rfl)
theorem dX13_read_24 : decode cX13_read 24 = .ok (.goto 4, 3) := dk_167 0 4 (dk_at dksX13_read_1 0 rfl rfl)
theorem dX13_read_27 : decode cX13_read 27 = .ok (.iconst 0, 1) := dk_3 (dk_at dksX13_read_1 3 rfl rfl)
theorem dX13_read_28 : decode cX13_read 28 = .ok (.iconst 1, 1) := dk_4 (dk_at dksX13_read_1 4 rfl rfl)
theorem dX13_read_29 : decode cX13_read 29 = .ok (.invokevirtual 46, 3) := dk_182 0 46 (dk_at dksX13_read_1 5 rfl rfl)
theorem dX13_read_32 : decode cX13_read 32 = .ok (.aload_n 1, 1) := dk_43 (dk_at dksX13_read_1 8 rfl rfl)
theorem dX13_read_33 : decode cX13_read 33 = .ok (.areturn, 1) := dk_176 (dk_at dksX13_read_1 9 rfl rfl)
abbrev cX13_any : ByteArray := prog_16_method_3_code
def yX13_any : MethodName := ⟨RX13, "any", "(I)LPailRow$Cond;"⟩
def dkwX13_any_1 : List UInt8 := [42, 27, 182, 0, 50, 183, 0, 64, 77, 167, 255, 229, 44, 176]
abbrev dktX13_any_1 : List UInt8 := dkwX13_any_1 ++ []
def dkwX13_any_0 : List UInt8 := [42, 27, 182, 0, 50, 77, 42, 18, 53, 182, 0, 55, 153, 0, 24, 42, 182, 0, 59, 187, 0, 62, 89, 44]
abbrev dktX13_any_0 : List UInt8 := dkwX13_any_0 ++ dktX13_any_1
theorem dksX13_any_0 : cX13_any.data.toList.drop 0 = dktX13_any_0 := by decide +kernel
theorem dksX13_any_1 : cX13_any.data.toList.drop 24 = dktX13_any_1 := dk_seg dksX13_any_0 24 rfl rfl
theorem dX13_any_0 : decode cX13_any 0 = .ok (.aload_n 0, 1) := dk_42 (dk_at dksX13_any_0 0 rfl rfl)
theorem dX13_any_1 : decode cX13_any 1 = .ok (.iload_n 1, 1) := dk_27 (dk_at dksX13_any_0 1 rfl rfl)
theorem dX13_any_2 : decode cX13_any 2 = .ok (.invokevirtual 50, 3) := dk_182 0 50 (dk_at dksX13_any_0 2 rfl rfl)
theorem dX13_any_5 : decode cX13_any 5 = .ok (.astore_n 2, 1) := dk_77 (dk_at dksX13_any_0 5 rfl rfl)
theorem dX13_any_6 : decode cX13_any 6 = .ok (.aload_n 0, 1) := dk_42 (dk_at dksX13_any_0 6 rfl rfl)
theorem dX13_any_7 : decode cX13_any 7 = .ok (.ldc 53, 2) := dk_18 53 (dk_at dksX13_any_0 7 rfl rfl)
theorem dX13_any_9 : decode cX13_any 9 = .ok (.invokevirtual 55, 3) := dk_182 0 55 (dk_at dksX13_any_0 9 rfl rfl)
theorem dX13_any_12 : decode cX13_any 12 = .ok (.ifCond .eq 24, 3) := dk_153 0 24 (dk_at dksX13_any_0 12 rfl rfl)
theorem dX13_any_15 : decode cX13_any 15 = .ok (.aload_n 0, 1) := dk_42 (dk_at dksX13_any_0 15 rfl rfl)
theorem dX13_any_16 : decode cX13_any 16 = .ok (.invokevirtual 59, 3) := dk_182 0 59 (dk_at dksX13_any_0 16 rfl rfl)
theorem dX13_any_19 : decode cX13_any 19 = .ok (.new 62, 3) := dk_187 0 62 (dk_at dksX13_any_0 19 rfl rfl)
theorem dX13_any_22 : decode cX13_any 22 = .ok (.dup, 1) := dk_89 (dk_at dksX13_any_0 22 rfl rfl)
theorem dX13_any_23 : decode cX13_any 23 = .ok (.aload_n 2, 1) := dk_44 (dk_at dksX13_any_0 23 rfl rfl)
theorem dX13_any_24 : decode cX13_any 24 = .ok (.aload_n 0, 1) := dk_42 (dk_at dksX13_any_1 0 rfl rfl)
theorem dX13_any_25 : decode cX13_any 25 = .ok (.iload_n 1, 1) := dk_27 (dk_at dksX13_any_1 1 rfl rfl)
theorem dX13_any_26 : decode cX13_any 26 = .ok (.invokevirtual 50, 3) := dk_182 0 50 (dk_at dksX13_any_1 2 rfl rfl)
theorem dX13_any_29 : decode cX13_any 29 = .ok (.invokespecial 64, 3) := dk_183 0 64 (dk_at dksX13_any_1 5 rfl rfl)
theorem dX13_any_32 : decode cX13_any 32 = .ok (.astore_n 2, 1) := dk_77 (dk_at dksX13_any_1 8 rfl rfl)
theorem dX13_any_33 : decode cX13_any 33 = .ok (.goto (-27), 3) := dk_167 255 229 (dk_at dksX13_any_1 9 rfl rfl)
theorem dX13_any_36 : decode cX13_any 36 = .ok (.aload_n 2, 1) := dk_44 (dk_at dksX13_any_1 12 rfl rfl)
theorem dX13_any_37 : decode cX13_any 37 = .ok (.areturn, 1) := dk_176 (dk_at dksX13_any_1 13 rfl rfl)
abbrev cX13_both : ByteArray := prog_16_method_4_code
def yX13_both : MethodName := ⟨RX13, "both", "(I)LPailRow$Cond;"⟩
def dkwX13_both_1 : List UInt8 := [42, 27, 182, 0, 67, 183, 0, 74, 77, 167, 255, 229, 44, 176]
abbrev dktX13_both_1 : List UInt8 := dkwX13_both_1 ++ []
def dkwX13_both_0 : List UInt8 := [42, 27, 182, 0, 67, 77, 42, 18, 70, 182, 0, 55, 153, 0, 24, 42, 182, 0, 59, 187, 0, 72, 89, 44]
abbrev dktX13_both_0 : List UInt8 := dkwX13_both_0 ++ dktX13_both_1
theorem dksX13_both_0 : cX13_both.data.toList.drop 0 = dktX13_both_0 := by decide +kernel
theorem dksX13_both_1 : cX13_both.data.toList.drop 24 = dktX13_both_1 := dk_seg dksX13_both_0 24 rfl rfl
theorem dX13_both_0 : decode cX13_both 0 = .ok (.aload_n 0, 1) := dk_42 (dk_at dksX13_both_0 0 rfl rfl)
theorem dX13_both_1 : decode cX13_both 1 = .ok (.iload_n 1, 1) := dk_27 (dk_at dksX13_both_0 1 rfl rfl)
theorem dX13_both_2 : decode cX13_both 2 = .ok (.invokevirtual 67, 3) := dk_182 0 67 (dk_at dksX13_both_0 2 rfl rfl)
theorem dX13_both_5 : decode cX13_both 5 = .ok (.astore_n 2, 1) := dk_77 (dk_at dksX13_both_0 5 rfl rfl)
theorem dX13_both_6 : decode cX13_both 6 = .ok (.aload_n 0, 1) := dk_42 (dk_at dksX13_both_0 6 rfl rfl)
theorem dX13_both_7 : decode cX13_both 7 = .ok (.ldc 70, 2) := dk_18 70 (dk_at dksX13_both_0 7 rfl rfl)
theorem dX13_both_9 : decode cX13_both 9 = .ok (.invokevirtual 55, 3) := dk_182 0 55 (dk_at dksX13_both_0 9 rfl rfl)
theorem dX13_both_12 : decode cX13_both 12 = .ok (.ifCond .eq 24, 3) := dk_153 0 24 (dk_at dksX13_both_0 12 rfl rfl)
theorem dX13_both_15 : decode cX13_both 15 = .ok (.aload_n 0, 1) := dk_42 (dk_at dksX13_both_0 15 rfl rfl)
theorem dX13_both_16 : decode cX13_both 16 = .ok (.invokevirtual 59, 3) := dk_182 0 59 (dk_at dksX13_both_0 16 rfl rfl)
theorem dX13_both_19 : decode cX13_both 19 = .ok (.new 72, 3) := dk_187 0 72 (dk_at dksX13_both_0 19 rfl rfl)
theorem dX13_both_22 : decode cX13_both 22 = .ok (.dup, 1) := dk_89 (dk_at dksX13_both_0 22 rfl rfl)
theorem dX13_both_23 : decode cX13_both 23 = .ok (.aload_n 2, 1) := dk_44 (dk_at dksX13_both_0 23 rfl rfl)
theorem dX13_both_24 : decode cX13_both 24 = .ok (.aload_n 0, 1) := dk_42 (dk_at dksX13_both_1 0 rfl rfl)
theorem dX13_both_25 : decode cX13_both 25 = .ok (.iload_n 1, 1) := dk_27 (dk_at dksX13_both_1 1 rfl rfl)
theorem dX13_both_26 : decode cX13_both 26 = .ok (.invokevirtual 67, 3) := dk_182 0 67 (dk_at dksX13_both_1 2 rfl rfl)
theorem dX13_both_29 : decode cX13_both 29 = .ok (.invokespecial 74, 3) := dk_183 0 74 (dk_at dksX13_both_1 5 rfl rfl)
theorem dX13_both_32 : decode cX13_both 32 = .ok (.astore_n 2, 1) := dk_77 (dk_at dksX13_both_1 8 rfl rfl)
theorem dX13_both_33 : decode cX13_both 33 = .ok (.goto (-27), 3) := dk_167 255 229 (dk_at dksX13_both_1 9 rfl rfl)
theorem dX13_both_36 : decode cX13_both 36 = .ok (.aload_n 2, 1) := dk_44 (dk_at dksX13_both_1 12 rfl rfl)
theorem dX13_both_37 : decode cX13_both 37 = .ok (.areturn, 1) := dk_176 (dk_at dksX13_both_1 13 rfl rfl)
abbrev cX13_single : ByteArray := prog_16_method_5_code
def yX13_single : MethodName := ⟨RX13, "single", "(I)LPailRow$Cond;"⟩
def dkwX13_single_6 : List UInt8 := [159, 0, 12, 42, 21, 4, 182, 0, 95, 167, 0, 10, 187, 0, 97, 89, 183, 0, 99, 176]
abbrev dktX13_single_6 : List UInt8 := dkwX13_single_6 ++ []
def dkwX13_single_5 : List UInt8 := [153, 0, 21, 42, 27, 4, 96, 182, 0, 39, 58, 5, 42, 16, 41, 182, 0, 91, 25, 5, 176, 21, 4, 2]
abbrev dktX13_single_5 : List UInt8 := dkwX13_single_5 ++ dktX13_single_6
def dkwX13_single_4 : List UInt8 := [182, 0, 59, 28, 153, 0, 18, 187, 0, 86, 89, 42, 27, 4, 96, 182, 0, 67, 183, 0, 88, 176, 29]
abbrev dktX13_single_4 : List UInt8 := dkwX13_single_4 ++ dktX13_single_5
def dkwX13_single_3 : List UInt8 := [163, 0, 7, 4, 167, 0, 4, 3, 7, 182, 0, 46, 42, 89, 180, 0, 31, 4, 96, 181, 0, 31, 42]
abbrev dktX13_single_3 : List UInt8 := dkwX13_single_3 ++ dktX13_single_4
def dkwX13_single_2 : List UInt8 := [4, 167, 0, 4, 3, 4, 182, 0, 46, 42, 42, 180, 0, 31, 16, 20, 162, 0, 13, 27, 16, 8]
abbrev dktX13_single_2 : List UInt8 := dkwX13_single_2 ++ dktX13_single_3
def dkwX13_single_1 : List UInt8 := [42, 28, 154, 0, 22, 29, 154, 0, 18, 42, 18, 84, 182, 0, 55, 154, 0, 9, 21, 4, 2, 159, 0, 7]
abbrev dktX13_single_1 : List UInt8 := dkwX13_single_1 ++ dktX13_single_2
def dkwX13_single_0 : List UInt8 := [42, 18, 75, 182, 0, 55, 61, 42, 16, 40, 182, 0, 77, 62, 42, 42, 180, 0, 27, 182, 0, 80, 54, 4]
abbrev dktX13_single_0 : List UInt8 := dkwX13_single_0 ++ dktX13_single_1
theorem dksX13_single_0 : cX13_single.data.toList.drop 0 = dktX13_single_0 := by decide +kernel
theorem dksX13_single_1 : cX13_single.data.toList.drop 24 = dktX13_single_1 := dk_seg dksX13_single_0 24 rfl rfl
theorem dksX13_single_2 : cX13_single.data.toList.drop 48 = dktX13_single_2 := dk_seg dksX13_single_1 24 rfl rfl
theorem dksX13_single_3 : cX13_single.data.toList.drop 70 = dktX13_single_3 := dk_seg dksX13_single_2 22 rfl rfl
theorem dksX13_single_4 : cX13_single.data.toList.drop 93 = dktX13_single_4 := dk_seg dksX13_single_3 23 rfl rfl
theorem dksX13_single_5 : cX13_single.data.toList.drop 116 = dktX13_single_5 := dk_seg dksX13_single_4 23 rfl rfl
theorem dksX13_single_6 : cX13_single.data.toList.drop 140 = dktX13_single_6 := dk_seg dksX13_single_5 24 rfl rfl
theorem dX13_single_0 : decode cX13_single 0 = .ok (.aload_n 0, 1) := dk_42 (dk_at dksX13_single_0 0 rfl rfl)
theorem dX13_single_1 : decode cX13_single 1 = .ok (.ldc 75, 2) := dk_18 75 (dk_at dksX13_single_0 1 rfl rfl)
theorem dX13_single_3 : decode cX13_single 3 = .ok (.invokevirtual 55, 3) := dk_182 0 55 (dk_at dksX13_single_0 3 rfl rfl)
theorem dX13_single_6 : decode cX13_single 6 = .ok (.istore_n 2, 1) := dk_61 (dk_at dksX13_single_0 6 rfl rfl)
theorem dX13_single_7 : decode cX13_single 7 = .ok (.aload_n 0, 1) := dk_42 (dk_at dksX13_single_0 7 rfl rfl)
theorem dX13_single_8 : decode cX13_single 8 = .ok (.bipush 40, 2) := dk_16 40 (dk_at dksX13_single_0 8 rfl rfl)
theorem dX13_single_10 : decode cX13_single 10 = .ok (.invokevirtual 77, 3) := dk_182 0 77 (dk_at dksX13_single_0 10 rfl rfl)
theorem dX13_single_13 : decode cX13_single 13 = .ok (.istore_n 3, 1) := dk_62 (dk_at dksX13_single_0 13 rfl rfl)
theorem dX13_single_14 : decode cX13_single 14 = .ok (.aload_n 0, 1) := dk_42 (dk_at dksX13_single_0 14 rfl rfl)
theorem dX13_single_15 : decode cX13_single 15 = .ok (.aload_n 0, 1) := dk_42 (dk_at dksX13_single_0 15 rfl rfl)
theorem dX13_single_16 : decode cX13_single 16 = .ok (.getfield 27, 3) := dk_180 0 27 (dk_at dksX13_single_0 16 rfl rfl)
theorem dX13_single_19 : decode cX13_single 19 = .ok (.invokevirtual 80, 3) := dk_182 0 80 (dk_at dksX13_single_0 19 rfl rfl)
theorem dX13_single_22 : decode cX13_single 22 = .ok (.istore 4, 2) := dk_54 4 (dk_at dksX13_single_0 22 rfl rfl)
theorem dX13_single_24 : decode cX13_single 24 = .ok (.aload_n 0, 1) := dk_42 (dk_at dksX13_single_1 0 rfl rfl)
theorem dX13_single_25 : decode cX13_single 25 = .ok (.iload_n 2, 1) := dk_28 (dk_at dksX13_single_1 1 rfl rfl)
theorem dX13_single_26 : decode cX13_single 26 = .ok (.ifCond .ne 22, 3) := dk_154 0 22 (dk_at dksX13_single_1 2 rfl rfl)
theorem dX13_single_29 : decode cX13_single 29 = .ok (.iload_n 3, 1) := dk_29 (dk_at dksX13_single_1 5 rfl rfl)
theorem dX13_single_30 : decode cX13_single 30 = .ok (.ifCond .ne 18, 3) := dk_154 0 18 (dk_at dksX13_single_1 6 rfl rfl)
theorem dX13_single_33 : decode cX13_single 33 = .ok (.aload_n 0, 1) := dk_42 (dk_at dksX13_single_1 9 rfl rfl)
theorem dX13_single_34 : decode cX13_single 34 = .ok (.ldc 84, 2) := dk_18 84 (dk_at dksX13_single_1 10 rfl rfl)
theorem dX13_single_36 : decode cX13_single 36 = .ok (.invokevirtual 55, 3) := dk_182 0 55 (dk_at dksX13_single_1 12 rfl rfl)
theorem dX13_single_39 : decode cX13_single 39 = .ok (.ifCond .ne 9, 3) := dk_154 0 9 (dk_at dksX13_single_1 15 rfl rfl)
theorem dX13_single_42 : decode cX13_single 42 = .ok (.iload 4, 2) := dk_21 4 (dk_at dksX13_single_1 18 rfl rfl)
theorem dX13_single_44 : decode cX13_single 44 = .ok (.iconst (-1), 1) := dk_2 (dk_at dksX13_single_1 20 rfl rfl)
theorem dX13_single_45 : decode cX13_single 45 = .ok (.if_icmp .eq 7, 3) := dk_159 0 7 (dk_at dksX13_single_1 21 rfl rfl)
theorem dX13_single_48 : decode cX13_single 48 = .ok (.iconst 1, 1) := dk_4 (dk_at dksX13_single_2 0 rfl rfl)
theorem dX13_single_49 : decode cX13_single 49 = .ok (.goto 4, 3) := dk_167 0 4 (dk_at dksX13_single_2 1 rfl rfl)
theorem dX13_single_52 : decode cX13_single 52 = .ok (.iconst 0, 1) := dk_3 (dk_at dksX13_single_2 4 rfl rfl)
theorem dX13_single_53 : decode cX13_single 53 = .ok (.iconst 1, 1) := dk_4 (dk_at dksX13_single_2 5 rfl rfl)
theorem dX13_single_54 : decode cX13_single 54 = .ok (.invokevirtual 46, 3) := dk_182 0 46 (dk_at dksX13_single_2 6 rfl rfl)
theorem dX13_single_57 : decode cX13_single 57 = .ok (.aload_n 0, 1) := dk_42 (dk_at dksX13_single_2 9 rfl rfl)
theorem dX13_single_58 : decode cX13_single 58 = .ok (.aload_n 0, 1) := dk_42 (dk_at dksX13_single_2 10 rfl rfl)
theorem dX13_single_59 : decode cX13_single 59 = .ok (.getfield 31, 3) := dk_180 0 31 (dk_at dksX13_single_2 11 rfl rfl)
theorem dX13_single_62 : decode cX13_single 62 = .ok (.bipush 20, 2) := dk_16 20 (dk_at dksX13_single_2 14 rfl rfl)
theorem dX13_single_64 : decode cX13_single 64 = .ok (.if_icmp .ge 13, 3) := dk_162 0 13 (dk_at dksX13_single_2 16 rfl rfl)
theorem dX13_single_67 : decode cX13_single 67 = .ok (.iload_n 1, 1) := dk_27 (dk_at dksX13_single_2 19 rfl rfl)
theorem dX13_single_68 : decode cX13_single 68 = .ok (.bipush 8, 2) := dk_16 8 (dk_at dksX13_single_2 20 rfl rfl)
theorem dX13_single_70 : decode cX13_single 70 = .ok (.if_icmp .gt 7, 3) := dk_163 0 7 (dk_at dksX13_single_3 0 rfl rfl)
theorem dX13_single_73 : decode cX13_single 73 = .ok (.iconst 1, 1) := dk_4 (dk_at dksX13_single_3 3 rfl rfl)
theorem dX13_single_74 : decode cX13_single 74 = .ok (.goto 4, 3) := dk_167 0 4 (dk_at dksX13_single_3 4 rfl rfl)
theorem dX13_single_77 : decode cX13_single 77 = .ok (.iconst 0, 1) := dk_3 (dk_at dksX13_single_3 7 rfl rfl)
theorem dX13_single_78 : decode cX13_single 78 = .ok (.iconst 4, 1) := dk_7 (dk_at dksX13_single_3 8 rfl rfl)
theorem dX13_single_79 : decode cX13_single 79 = .ok (.invokevirtual 46, 3) := dk_182 0 46 (dk_at dksX13_single_3 9 rfl rfl)
theorem dX13_single_82 : decode cX13_single 82 = .ok (.aload_n 0, 1) := dk_42 (dk_at dksX13_single_3 12 rfl rfl)
theorem dX13_single_83 : decode cX13_single 83 = .ok (.dup, 1) := dk_89 (dk_at dksX13_single_3 13 rfl rfl)
theorem dX13_single_84 : decode cX13_single 84 = .ok (.getfield 31, 3) := dk_180 0 31 (dk_at dksX13_single_3 14 rfl rfl)
theorem dX13_single_87 : decode cX13_single 87 = .ok (.iconst 1, 1) := dk_4 (dk_at dksX13_single_3 17 rfl rfl)
theorem dX13_single_88 : decode cX13_single 88 = .ok (.iadd, 1) := dk_96 (dk_at dksX13_single_3 18 rfl rfl)
theorem dX13_single_89 : decode cX13_single 89 = .ok (.putfield 31, 3) := dk_181 0 31 (dk_at dksX13_single_3 19 rfl rfl)
theorem dX13_single_92 : decode cX13_single 92 = .ok (.aload_n 0, 1) := dk_42 (dk_at dksX13_single_3 22 rfl rfl)
theorem dX13_single_93 : decode cX13_single 93 = .ok (.invokevirtual 59, 3) := dk_182 0 59 (dk_at dksX13_single_4 0 rfl rfl)
theorem dX13_single_96 : decode cX13_single 96 = .ok (.iload_n 2, 1) := dk_28 (dk_at dksX13_single_4 3 rfl rfl)
theorem dX13_single_97 : decode cX13_single 97 = .ok (.ifCond .eq 18, 3) := dk_153 0 18 (dk_at dksX13_single_4 4 rfl rfl)
theorem dX13_single_100 : decode cX13_single 100 = .ok (.new 86, 3) := dk_187 0 86 (dk_at dksX13_single_4 7 rfl rfl)
theorem dX13_single_103 : decode cX13_single 103 = .ok (.dup, 1) := dk_89 (dk_at dksX13_single_4 10 rfl rfl)
theorem dX13_single_104 : decode cX13_single 104 = .ok (.aload_n 0, 1) := dk_42 (dk_at dksX13_single_4 11 rfl rfl)
theorem dX13_single_105 : decode cX13_single 105 = .ok (.iload_n 1, 1) := dk_27 (dk_at dksX13_single_4 12 rfl rfl)
theorem dX13_single_106 : decode cX13_single 106 = .ok (.iconst 1, 1) := dk_4 (dk_at dksX13_single_4 13 rfl rfl)
theorem dX13_single_107 : decode cX13_single 107 = .ok (.iadd, 1) := dk_96 (dk_at dksX13_single_4 14 rfl rfl)
theorem dX13_single_108 : decode cX13_single 108 = .ok (.invokevirtual 67, 3) := dk_182 0 67 (dk_at dksX13_single_4 15 rfl rfl)
theorem dX13_single_111 : decode cX13_single 111 = .ok (.invokespecial 88, 3) := dk_183 0 88 (dk_at dksX13_single_4 18 rfl rfl)
theorem dX13_single_114 : decode cX13_single 114 = .ok (.areturn, 1) := dk_176 (dk_at dksX13_single_4 21 rfl rfl)
theorem dX13_single_115 : decode cX13_single 115 = .ok (.iload_n 3, 1) := dk_29 (dk_at dksX13_single_4 22 rfl rfl)
theorem dX13_single_116 : decode cX13_single 116 = .ok (.ifCond .eq 21, 3) := dk_153 0 21 (dk_at dksX13_single_5 0 rfl rfl)
theorem dX13_single_119 : decode cX13_single 119 = .ok (.aload_n 0, 1) := dk_42 (dk_at dksX13_single_5 3 rfl rfl)
theorem dX13_single_120 : decode cX13_single 120 = .ok (.iload_n 1, 1) := dk_27 (dk_at dksX13_single_5 4 rfl rfl)
theorem dX13_single_121 : decode cX13_single 121 = .ok (.iconst 1, 1) := dk_4 (dk_at dksX13_single_5 5 rfl rfl)
theorem dX13_single_122 : decode cX13_single 122 = .ok (.iadd, 1) := dk_96 (dk_at dksX13_single_5 6 rfl rfl)
theorem dX13_single_123 : decode cX13_single 123 = .ok (.invokevirtual 39, 3) := dk_182 0 39 (dk_at dksX13_single_5 7 rfl rfl)
theorem dX13_single_126 : decode cX13_single 126 = .ok (.astore 5, 2) := dk_58 5 (dk_at dksX13_single_5 10 rfl rfl)
theorem dX13_single_128 : decode cX13_single 128 = .ok (.aload_n 0, 1) := dk_42 (dk_at dksX13_single_5 12 rfl rfl)
theorem dX13_single_129 : decode cX13_single 129 = .ok (.bipush 41, 2) := dk_16 41 (dk_at dksX13_single_5 13 rfl rfl)
theorem dX13_single_131 : decode cX13_single 131 = .ok (.invokevirtual 91, 3) := dk_182 0 91 (dk_at dksX13_single_5 15 rfl rfl)
theorem dX13_single_134 : decode cX13_single 134 = .ok (.aload 5, 2) := dk_25 5 (dk_at dksX13_single_5 18 rfl rfl)
theorem dX13_single_136 : decode cX13_single 136 = .ok (.areturn, 1) := dk_176 (dk_at dksX13_single_5 20 rfl rfl)
theorem dX13_single_137 : decode cX13_single 137 = .ok (.iload 4, 2) := dk_21 4 (dk_at dksX13_single_5 21 rfl rfl)
theorem dX13_single_139 : decode cX13_single 139 = .ok (.iconst (-1), 1) := dk_2 (dk_at dksX13_single_5 23 rfl rfl)
theorem dX13_single_140 : decode cX13_single 140 = .ok (.if_icmp .eq 12, 3) := dk_159 0 12 (dk_at dksX13_single_6 0 rfl rfl)
theorem dX13_single_143 : decode cX13_single 143 = .ok (.aload_n 0, 1) := dk_42 (dk_at dksX13_single_6 3 rfl rfl)
theorem dX13_single_144 : decode cX13_single 144 = .ok (.iload 4, 2) := dk_21 4 (dk_at dksX13_single_6 4 rfl rfl)
theorem dX13_single_146 : decode cX13_single 146 = .ok (.invokevirtual 95, 3) := dk_182 0 95 (dk_at dksX13_single_6 6 rfl rfl)
theorem dX13_single_149 : decode cX13_single 149 = .ok (.goto 10, 3) := dk_167 0 10 (dk_at dksX13_single_6 9 rfl rfl)
theorem dX13_single_152 : decode cX13_single 152 = .ok (.new 97, 3) := dk_187 0 97 (dk_at dksX13_single_6 12 rfl rfl)
theorem dX13_single_155 : decode cX13_single 155 = .ok (.dup, 1) := dk_89 (dk_at dksX13_single_6 15 rfl rfl)
theorem dX13_single_156 : decode cX13_single 156 = .ok (.invokespecial 99, 3) := dk_183 0 99 (dk_at dksX13_single_6 16 rfl rfl)
theorem dX13_single_159 : decode cX13_single 159 = .ok (.areturn, 1) := dk_176 (dk_at dksX13_single_6 19 rfl rfl)
abbrev cX13_counts : ByteArray := prog_16_method_6_code
def yX13_counts : MethodName := ⟨RX13, "counts", "(I)LPailRow$Cond;"⟩
def dkwX13_counts_3 : List UInt8 := [182, 0, 59, 187, 0, 104, 89, 27, 28, 29, 183, 0, 106, 176]
abbrev dktX13_counts_3 : List UInt8 := dkwX13_counts_3 ++ []
def dkwX13_counts_2 : List UInt8 := [42, 42, 180, 0, 43, 5, 160, 0, 7, 4, 167, 0, 4, 3, 4, 182, 0, 46, 42, 180, 0, 101, 62, 42]
abbrev dktX13_counts_2 : List UInt8 := dkwX13_counts_2 ++ dktX13_counts_3
def dkwX13_counts_1 : List UInt8 := [182, 0, 77, 153, 0, 7, 4, 167, 0, 4, 3, 4, 182, 0, 46, 42, 180, 0, 101, 61, 42, 182, 0, 59]
abbrev dktX13_counts_1 : List UInt8 := dkwX13_counts_1 ++ dktX13_counts_2
def dkwX13_counts_0 : List UInt8 := [42, 42, 16, 60, 182, 0, 77, 154, 0, 21, 42, 16, 61, 182, 0, 77, 154, 0, 12, 42, 16, 62]
abbrev dktX13_counts_0 : List UInt8 := dkwX13_counts_0 ++ dktX13_counts_1
theorem dksX13_counts_0 : cX13_counts.data.toList.drop 0 = dktX13_counts_0 := by decide +kernel
theorem dksX13_counts_1 : cX13_counts.data.toList.drop 22 = dktX13_counts_1 := dk_seg dksX13_counts_0 22 rfl rfl
theorem dksX13_counts_2 : cX13_counts.data.toList.drop 46 = dktX13_counts_2 := dk_seg dksX13_counts_1 24 rfl rfl
theorem dksX13_counts_3 : cX13_counts.data.toList.drop 70 = dktX13_counts_3 := dk_seg dksX13_counts_2 24 rfl rfl
theorem dX13_counts_0 : decode cX13_counts 0 = .ok (.aload_n 0, 1) := dk_42 (dk_at dksX13_counts_0 0 rfl rfl)
theorem dX13_counts_1 : decode cX13_counts 1 = .ok (.aload_n 0, 1) := dk_42 (dk_at dksX13_counts_0 1 rfl rfl)
theorem dX13_counts_2 : decode cX13_counts 2 = .ok (.bipush 60, 2) := dk_16 60 (dk_at dksX13_counts_0 2 rfl rfl)
theorem dX13_counts_4 : decode cX13_counts 4 = .ok (.invokevirtual 77, 3) := dk_182 0 77 (dk_at dksX13_counts_0 4 rfl rfl)
theorem dX13_counts_7 : decode cX13_counts 7 = .ok (.ifCond .ne 21, 3) := dk_154 0 21 (dk_at dksX13_counts_0 7 rfl rfl)
theorem dX13_counts_10 : decode cX13_counts 10 = .ok (.aload_n 0, 1) := dk_42 (dk_at dksX13_counts_0 10 rfl rfl)
theorem dX13_counts_11 : decode cX13_counts 11 = .ok (.bipush 61, 2) := dk_16 61 (dk_at dksX13_counts_0 11 rfl rfl)
theorem dX13_counts_13 : decode cX13_counts 13 = .ok (.invokevirtual 77, 3) := dk_182 0 77 (dk_at dksX13_counts_0 13 rfl rfl)
theorem dX13_counts_16 : decode cX13_counts 16 = .ok (.ifCond .ne 12, 3) := dk_154 0 12 (dk_at dksX13_counts_0 16 rfl rfl)
theorem dX13_counts_19 : decode cX13_counts 19 = .ok (.aload_n 0, 1) := dk_42 (dk_at dksX13_counts_0 19 rfl rfl)
theorem dX13_counts_20 : decode cX13_counts 20 = .ok (.bipush 62, 2) := dk_16 62 (dk_at dksX13_counts_0 20 rfl rfl)
theorem dX13_counts_22 : decode cX13_counts 22 = .ok (.invokevirtual 77, 3) := dk_182 0 77 (dk_at dksX13_counts_1 0 rfl rfl)
theorem dX13_counts_25 : decode cX13_counts 25 = .ok (.ifCond .eq 7, 3) := dk_153 0 7 (dk_at dksX13_counts_1 3 rfl rfl)
theorem dX13_counts_28 : decode cX13_counts 28 = .ok (.iconst 1, 1) := dk_4 (dk_at dksX13_counts_1 6 rfl rfl)
theorem dX13_counts_29 : decode cX13_counts 29 = .ok (.goto 4, 3) := dk_167 0 4 (dk_at dksX13_counts_1 7 rfl rfl)
theorem dX13_counts_32 : decode cX13_counts 32 = .ok (.iconst 0, 1) := dk_3 (dk_at dksX13_counts_1 10 rfl rfl)
theorem dX13_counts_33 : decode cX13_counts 33 = .ok (.iconst 1, 1) := dk_4 (dk_at dksX13_counts_1 11 rfl rfl)
theorem dX13_counts_34 : decode cX13_counts 34 = .ok (.invokevirtual 46, 3) := dk_182 0 46 (dk_at dksX13_counts_1 12 rfl rfl)
theorem dX13_counts_37 : decode cX13_counts 37 = .ok (.aload_n 0, 1) := dk_42 (dk_at dksX13_counts_1 15 rfl rfl)
theorem dX13_counts_38 : decode cX13_counts 38 = .ok (.getfield 101, 3) := dk_180 0 101 (dk_at dksX13_counts_1 16 rfl rfl)
theorem dX13_counts_41 : decode cX13_counts 41 = .ok (.istore_n 2, 1) := dk_61 (dk_at dksX13_counts_1 19 rfl rfl)
theorem dX13_counts_42 : decode cX13_counts 42 = .ok (.aload_n 0, 1) := dk_42 (dk_at dksX13_counts_1 20 rfl rfl)
theorem dX13_counts_43 : decode cX13_counts 43 = .ok (.invokevirtual 59, 3) := dk_182 0 59 (dk_at dksX13_counts_1 21 rfl rfl)
theorem dX13_counts_46 : decode cX13_counts 46 = .ok (.aload_n 0, 1) := dk_42 (dk_at dksX13_counts_2 0 rfl rfl)
theorem dX13_counts_47 : decode cX13_counts 47 = .ok (.aload_n 0, 1) := dk_42 (dk_at dksX13_counts_2 1 rfl rfl)
theorem dX13_counts_48 : decode cX13_counts 48 = .ok (.getfield 43, 3) := dk_180 0 43 (dk_at dksX13_counts_2 2 rfl rfl)
theorem dX13_counts_51 : decode cX13_counts 51 = .ok (.iconst 2, 1) := dk_5 (dk_at dksX13_counts_2 5 rfl rfl)
theorem dX13_counts_52 : decode cX13_counts 52 = .ok (.if_icmp .ne 7, 3) := dk_160 0 7 (dk_at dksX13_counts_2 6 rfl rfl)
theorem dX13_counts_55 : decode cX13_counts 55 = .ok (.iconst 1, 1) := dk_4 (dk_at dksX13_counts_2 9 rfl rfl)
theorem dX13_counts_56 : decode cX13_counts 56 = .ok (.goto 4, 3) := dk_167 0 4 (dk_at dksX13_counts_2 10 rfl rfl)
theorem dX13_counts_59 : decode cX13_counts 59 = .ok (.iconst 0, 1) := dk_3 (dk_at dksX13_counts_2 13 rfl rfl)
theorem dX13_counts_60 : decode cX13_counts 60 = .ok (.iconst 1, 1) := dk_4 (dk_at dksX13_counts_2 14 rfl rfl)
theorem dX13_counts_61 : decode cX13_counts 61 = .ok (.invokevirtual 46, 3) := dk_182 0 46 (dk_at dksX13_counts_2 15 rfl rfl)
theorem dX13_counts_64 : decode cX13_counts 64 = .ok (.aload_n 0, 1) := dk_42 (dk_at dksX13_counts_2 18 rfl rfl)
theorem dX13_counts_65 : decode cX13_counts 65 = .ok (.getfield 101, 3) := dk_180 0 101 (dk_at dksX13_counts_2 19 rfl rfl)
theorem dX13_counts_68 : decode cX13_counts 68 = .ok (.istore_n 3, 1) := dk_62 (dk_at dksX13_counts_2 22 rfl rfl)
theorem dX13_counts_69 : decode cX13_counts 69 = .ok (.aload_n 0, 1) := dk_42 (dk_at dksX13_counts_2 23 rfl rfl)
theorem dX13_counts_70 : decode cX13_counts 70 = .ok (.invokevirtual 59, 3) := dk_182 0 59 (dk_at dksX13_counts_3 0 rfl rfl)
theorem dX13_counts_73 : decode cX13_counts 73 = .ok (.new 104, 3) := dk_187 0 104 (dk_at dksX13_counts_3 3 rfl rfl)
theorem dX13_counts_76 : decode cX13_counts 76 = .ok (.dup, 1) := dk_89 (dk_at dksX13_counts_3 6 rfl rfl)
theorem dX13_counts_77 : decode cX13_counts 77 = .ok (.iload_n 1, 1) := dk_27 (dk_at dksX13_counts_3 7 rfl rfl)
theorem dX13_counts_78 : decode cX13_counts 78 = .ok (.iload_n 2, 1) := dk_28 (dk_at dksX13_counts_3 8 rfl rfl)
theorem dX13_counts_79 : decode cX13_counts 79 = .ok (.iload_n 3, 1) := dk_29 (dk_at dksX13_counts_3 9 rfl rfl)
theorem dX13_counts_80 : decode cX13_counts 80 = .ok (.invokespecial 106, 3) := dk_183 0 106 (dk_at dksX13_counts_3 10 rfl rfl)
theorem dX13_counts_83 : decode cX13_counts 83 = .ok (.areturn, 1) := dk_176 (dk_at dksX13_counts_3 13 rfl rfl)
theorem q117 : (Jvm.Cond.initialized "PailRow$SentenceReader") ∈ lw_all := lw_g (lw_at lw_m1 15 rfl) rfl
theorem q396 : (Jvm.Cond.fieldLink "PailRow$SentenceReader" (43 : Nat) "PailRow$SentenceReader" "token" "I") ∈ lw_all := lw_g (lw_at lw_m2 54 rfl) rfl
theorem q397 : (Jvm.Cond.sameField "PailRow$SentenceReader" "PailRow$Reader" "token" "I") ∈ lw_all := lw_g (lw_at lw_m2 55 rfl) rfl
theorem q405 : (Jvm.Cond.fieldLink "PailRow$SentenceReader" (101 : Nat) "PailRow$SentenceReader" "value" "I") ∈ lw_all := lw_g (lw_at lw_m2 63 rfl) rfl
theorem q406 : (Jvm.Cond.sameField "PailRow$SentenceReader" "PailRow$Reader" "value" "I") ∈ lw_all := lw_g (lw_at lw_m2 64 rfl) rfl
theorem q609 : (Jvm.Cond.instantiable "PailRow$SentenceReader" (11 : Nat)) ∈ lw_all := lw_g (lw_at lw_m3 27 rfl) rfl
theorem q611 : (Jvm.Cond.instanceMethod ({ cls := "PailRow$SentenceReader", name := "<init>", desc := "(LPailRow;)V" } : Jvm.MethodName)) ∈ lw_all := lw_g (lw_at lw_m3 29 rfl) rfl
theorem q612 : (Jvm.Cond.code ({ cls := "PailRow$SentenceReader", name := "<init>", desc := "(LPailRow;)V" } : Jvm.MethodName) prog_16_method_1_code (2 : Nat) (Option.none : Option Jvm.ClassFile.FieldType)) ∈ lw_all := lw_g (lw_at lw_m3 30 rfl) rfl
theorem q613 : (Jvm.Cond.methodLink "PailRow$SentenceReader" (9 : Nat) ({ cls := "PailRow$Reader", name := "<init>", desc := "(LPailRow;I)V" } : Jvm.MethodName)) ∈ lw_all := lw_g (lw_at lw_m3 31 rfl) rfl
theorem q614 : (Jvm.Cond.classLink "PailRow$SentenceReader" (15 : Nat) "java/lang/String") ∈ lw_all := lw_g (lw_at lw_m3 32 rfl) rfl
theorem q615 : (Jvm.Cond.stringRef "PailRow$SentenceReader" (17 : Nat) "minute") ∈ lw_tbl := lw_at lw_m3 33 rfl
theorem q616 : (Jvm.Cond.stringRef "PailRow$SentenceReader" (19 : Nat) "thrown") ∈ lw_tbl := lw_at lw_m3 34 rfl
theorem q617 : (Jvm.Cond.stringRef "PailRow$SentenceReader" (21 : Nat) "lost") ∈ lw_tbl := lw_at lw_m3 35 rfl
theorem q618 : (Jvm.Cond.stringRef "PailRow$SentenceReader" (23 : Nat) "burns") ∈ lw_tbl := lw_at lw_m3 36 rfl
theorem q619 : (Jvm.Cond.stringRef "PailRow$SentenceReader" (25 : Nat) "water") ∈ lw_tbl := lw_at lw_m3 37 rfl
theorem q620 : (Jvm.Cond.fieldLink "PailRow$SentenceReader" (27 : Nat) "PailRow$SentenceReader" "counts" "[Ljava/lang/String;") ∈ lw_all := lw_g (lw_at lw_m3 38 rfl) rfl
theorem q621 : (Jvm.Cond.fieldLink "PailRow$SentenceReader" (31 : Nat) "PailRow$SentenceReader" "ones" "I") ∈ lw_all := lw_g (lw_at lw_m3 39 rfl) rfl
theorem q623 : (Jvm.Cond.fieldLink "PailRow$SentenceReader" (3 : Nat) "PailRow$SentenceReader" "this$0" "LPailRow;") ∈ lw_all := lw_g (lw_at lw_m3 41 rfl) rfl
theorem q624 : (Jvm.Cond.laysFinal "PailRow$SentenceReader" "PailRow$SentenceReader" "counts" "[Ljava/lang/String;") ∈ lw_all := lw_g (lw_at lw_m3 42 rfl) rfl
theorem q625 : (Jvm.Cond.soleField "PailRow$SentenceReader" "counts") ∈ lw_all := lw_g (lw_at lw_m3 43 rfl) rfl
theorem q626 : (Jvm.Cond.lays "PailRow$SentenceReader" "PailRow$SentenceReader" "ones" "I") ∈ lw_all := lw_g (lw_at lw_m3 44 rfl) rfl
theorem q627 : (Jvm.Cond.soleField "PailRow$SentenceReader" "ones") ∈ lw_all := lw_g (lw_at lw_m3 45 rfl) rfl
theorem q628 : (Jvm.Cond.laysFinal "PailRow$SentenceReader" "PailRow$SentenceReader" "this$0" "LPailRow;") ∈ lw_all := lw_g (lw_at lw_m3 46 rfl) rfl
theorem q629 : (Jvm.Cond.soleField "PailRow$SentenceReader" "this$0") ∈ lw_all := lw_g (lw_at lw_m3 47 rfl) rfl
theorem q630 : (Jvm.Cond.laysFinal "PailRow$SentenceReader" "PailRow$Reader" "most" "I") ∈ lw_all := lw_g (lw_at lw_m3 48 rfl) rfl
theorem q631 : (Jvm.Cond.lays "PailRow$SentenceReader" "PailRow$Reader" "p" "I") ∈ lw_all := lw_g (lw_at lw_m3 49 rfl) rfl
theorem q632 : (Jvm.Cond.lays "PailRow$SentenceReader" "PailRow$Reader" "at" "I") ∈ lw_all := lw_g (lw_at lw_m3 50 rfl) rfl
theorem q633 : (Jvm.Cond.lays "PailRow$SentenceReader" "PailRow$Reader" "token" "I") ∈ lw_all := lw_g (lw_at lw_m3 51 rfl) rfl
theorem q634 : (Jvm.Cond.lays "PailRow$SentenceReader" "PailRow$Reader" "value" "I") ∈ lw_all := lw_g (lw_at lw_m3 52 rfl) rfl
theorem q635 : (Jvm.Cond.lays "PailRow$SentenceReader" "PailRow$Reader" "many" "I") ∈ lw_all := lw_g (lw_at lw_m3 53 rfl) rfl
theorem q636 : (Jvm.Cond.lays "PailRow$SentenceReader" "PailRow$Reader" "name" "J") ∈ lw_all := lw_g (lw_at lw_m3 54 rfl) rfl
theorem q637 : (Jvm.Cond.laysFinal "PailRow$SentenceReader" "PailRow$Reader" "this$0" "LPailRow;") ∈ lw_all := lw_g (lw_at lw_m3 55 rfl) rfl
theorem q638 : (Jvm.Cond.superclass "PailRow$SentenceReader" "PailRow$Reader") ∈ lw_all := lw_g (lw_at lw_m3 56 rfl) rfl
theorem q849 : (Jvm.Cond.selects "PailRow$SentenceReader" ({ cls := "PailRow$Reader", name := "next", desc := "()V" } : Jvm.MethodName) ({ cls := "PailRow$Reader", name := "next", desc := "()V" } : Jvm.MethodName)) ∈ lw_all := lw_g (lw_at lw_m4 27 rfl) rfl
theorem q881 : (Jvm.Cond.selects "PailRow$SentenceReader" ({ cls := "PailRow$Reader", name := "is", desc := "(Ljava/lang/String;)Z" } : Jvm.MethodName) ({ cls := "PailRow$Reader", name := "is", desc := "(Ljava/lang/String;)Z" } : Jvm.MethodName)) ∈ lw_all := lw_g (lw_at lw_m4 59 rfl) rfl
theorem q942 : (Jvm.Cond.selects "PailRow$SentenceReader" ({ cls := "PailRow$Reader", name := "wrong", desc := "(I)LPailRow$Fault;" } : Jvm.MethodName) ({ cls := "PailRow$Reader", name := "wrong", desc := "(I)LPailRow$Fault;" } : Jvm.MethodName)) ∈ lw_all := lw_g (lw_at lw_m4 120 rfl) rfl
theorem q1021 : (Jvm.Cond.selects "PailRow$SentenceReader" ({ cls := "PailRow$Reader", name := "is", desc := "(I)Z" } : Jvm.MethodName) ({ cls := "PailRow$Reader", name := "is", desc := "(I)Z" } : Jvm.MethodName)) ∈ lw_all := lw_g (lw_at lw_m4 199 rfl) rfl
theorem q1410 : (Jvm.Cond.instanceMethod ({ cls := "PailRow$SentenceReader", name := "read", desc := "()LPailRow$Cond;" } : Jvm.MethodName)) ∈ lw_all := lw_g (lw_at lw_m6 108 rfl) rfl
theorem q1411 : (Jvm.Cond.selects "PailRow$SentenceReader" ({ cls := "PailRow$SentenceReader", name := "read", desc := "()LPailRow$Cond;" } : Jvm.MethodName) ({ cls := "PailRow$SentenceReader", name := "read", desc := "()LPailRow$Cond;" } : Jvm.MethodName)) ∈ lw_all := lw_g (lw_at lw_m6 109 rfl) rfl
theorem q1412 : (Jvm.Cond.code ({ cls := "PailRow$SentenceReader", name := "read", desc := "()LPailRow$Cond;" } : Jvm.MethodName) prog_16_method_2_code (2 : Nat) (Option.some (Jvm.ClassFile.FieldType.object "PailRow$Cond"))) ∈ lw_all := lw_g (lw_at lw_m6 110 rfl) rfl
theorem q1413 : (Jvm.Cond.methodLink "PailRow$SentenceReader" (35 : Nat) ({ cls := "PailRow$SentenceReader", name := "begin", desc := "()V" } : Jvm.MethodName)) ∈ lw_all := lw_g (lw_at lw_m6 111 rfl) rfl
theorem q1414 : (Jvm.Cond.sameMethod "PailRow$SentenceReader" "PailRow$Reader" "begin" "()V") ∈ lw_all := lw_g (lw_at lw_m6 112 rfl) rfl
theorem q1415 : (Jvm.Cond.selects "PailRow$SentenceReader" ({ cls := "PailRow$SentenceReader", name := "begin", desc := "()V" } : Jvm.MethodName) ({ cls := "PailRow$Reader", name := "begin", desc := "()V" } : Jvm.MethodName)) ∈ lw_all := lw_g (lw_at lw_m6 113 rfl) rfl
theorem q1416 : (Jvm.Cond.methodLink "PailRow$SentenceReader" (39 : Nat) ({ cls := "PailRow$SentenceReader", name := "any", desc := "(I)LPailRow$Cond;" } : Jvm.MethodName)) ∈ lw_all := lw_g (lw_at lw_m6 114 rfl) rfl
theorem q1417 : (Jvm.Cond.privateMethod ({ cls := "PailRow$SentenceReader", name := "any", desc := "(I)LPailRow$Cond;" } : Jvm.MethodName)) ∈ lw_tbl := lw_at lw_m6 115 rfl
theorem q1418 : (Jvm.Cond.instanceMethod ({ cls := "PailRow$SentenceReader", name := "any", desc := "(I)LPailRow$Cond;" } : Jvm.MethodName)) ∈ lw_all := lw_g (lw_at lw_m6 116 rfl) rfl
theorem q1419 : (Jvm.Cond.code ({ cls := "PailRow$SentenceReader", name := "any", desc := "(I)LPailRow$Cond;" } : Jvm.MethodName) prog_16_method_3_code (3 : Nat) (Option.some (Jvm.ClassFile.FieldType.object "PailRow$Cond"))) ∈ lw_all := lw_g (lw_at lw_m6 117 rfl) rfl
theorem q1420 : (Jvm.Cond.methodLink "PailRow$SentenceReader" (50 : Nat) ({ cls := "PailRow$SentenceReader", name := "both", desc := "(I)LPailRow$Cond;" } : Jvm.MethodName)) ∈ lw_all := lw_g (lw_at lw_m6 118 rfl) rfl
theorem q1421 : (Jvm.Cond.privateMethod ({ cls := "PailRow$SentenceReader", name := "both", desc := "(I)LPailRow$Cond;" } : Jvm.MethodName)) ∈ lw_tbl := lw_at lw_m6 119 rfl
theorem q1422 : (Jvm.Cond.instanceMethod ({ cls := "PailRow$SentenceReader", name := "both", desc := "(I)LPailRow$Cond;" } : Jvm.MethodName)) ∈ lw_all := lw_g (lw_at lw_m6 120 rfl) rfl
theorem q1423 : (Jvm.Cond.code ({ cls := "PailRow$SentenceReader", name := "both", desc := "(I)LPailRow$Cond;" } : Jvm.MethodName) prog_16_method_4_code (3 : Nat) (Option.some (Jvm.ClassFile.FieldType.object "PailRow$Cond"))) ∈ lw_all := lw_g (lw_at lw_m6 121 rfl) rfl
theorem q1424 : (Jvm.Cond.methodLink "PailRow$SentenceReader" (67 : Nat) ({ cls := "PailRow$SentenceReader", name := "single", desc := "(I)LPailRow$Cond;" } : Jvm.MethodName)) ∈ lw_all := lw_g (lw_at lw_m6 122 rfl) rfl
theorem q1425 : (Jvm.Cond.privateMethod ({ cls := "PailRow$SentenceReader", name := "single", desc := "(I)LPailRow$Cond;" } : Jvm.MethodName)) ∈ lw_tbl := lw_at lw_m6 123 rfl
theorem q1426 : (Jvm.Cond.instanceMethod ({ cls := "PailRow$SentenceReader", name := "single", desc := "(I)LPailRow$Cond;" } : Jvm.MethodName)) ∈ lw_all := lw_g (lw_at lw_m6 124 rfl) rfl
theorem q1427 : (Jvm.Cond.code ({ cls := "PailRow$SentenceReader", name := "single", desc := "(I)LPailRow$Cond;" } : Jvm.MethodName) prog_16_method_5_code (6 : Nat) (Option.some (Jvm.ClassFile.FieldType.object "PailRow$Cond"))) ∈ lw_all := lw_g (lw_at lw_m6 125 rfl) rfl
theorem q1428 : (Jvm.Cond.stringRef "PailRow$SentenceReader" (75 : Nat) "not") ∈ lw_tbl := lw_at lw_m6 126 rfl
theorem q1429 : (Jvm.Cond.methodLink "PailRow$SentenceReader" (55 : Nat) ({ cls := "PailRow$SentenceReader", name := "is", desc := "(Ljava/lang/String;)Z" } : Jvm.MethodName)) ∈ lw_all := lw_g (lw_at lw_m6 127 rfl) rfl
theorem q1430 : (Jvm.Cond.sameMethod "PailRow$SentenceReader" "PailRow$Reader" "is" "(Ljava/lang/String;)Z") ∈ lw_all := lw_g (lw_at lw_m6 128 rfl) rfl
theorem q1431 : (Jvm.Cond.selects "PailRow$SentenceReader" ({ cls := "PailRow$SentenceReader", name := "is", desc := "(Ljava/lang/String;)Z" } : Jvm.MethodName) ({ cls := "PailRow$Reader", name := "is", desc := "(Ljava/lang/String;)Z" } : Jvm.MethodName)) ∈ lw_all := lw_g (lw_at lw_m6 129 rfl) rfl
theorem q1432 : (Jvm.Cond.methodLink "PailRow$SentenceReader" (77 : Nat) ({ cls := "PailRow$SentenceReader", name := "is", desc := "(I)Z" } : Jvm.MethodName)) ∈ lw_all := lw_g (lw_at lw_m6 130 rfl) rfl
theorem q1433 : (Jvm.Cond.sameMethod "PailRow$SentenceReader" "PailRow$Reader" "is" "(I)Z") ∈ lw_all := lw_g (lw_at lw_m6 131 rfl) rfl
theorem q1435 : (Jvm.Cond.selects "PailRow$SentenceReader" ({ cls := "PailRow$SentenceReader", name := "is", desc := "(I)Z" } : Jvm.MethodName) ({ cls := "PailRow$Reader", name := "is", desc := "(I)Z" } : Jvm.MethodName)) ∈ lw_all := lw_g (lw_at lw_m6 133 rfl) rfl
theorem q1436 : (Jvm.Cond.methodLink "PailRow$SentenceReader" (80 : Nat) ({ cls := "PailRow$SentenceReader", name := "find", desc := "([Ljava/lang/String;)I" } : Jvm.MethodName)) ∈ lw_all := lw_g (lw_at lw_m6 134 rfl) rfl
theorem q1437 : (Jvm.Cond.sameMethod "PailRow$SentenceReader" "PailRow$Reader" "find" "([Ljava/lang/String;)I") ∈ lw_all := lw_g (lw_at lw_m6 135 rfl) rfl
theorem q1438 : (Jvm.Cond.selects "PailRow$SentenceReader" ({ cls := "PailRow$SentenceReader", name := "find", desc := "([Ljava/lang/String;)I" } : Jvm.MethodName) ({ cls := "PailRow$Reader", name := "find", desc := "([Ljava/lang/String;)I" } : Jvm.MethodName)) ∈ lw_all := lw_g (lw_at lw_m6 136 rfl) rfl
theorem q1439 : (Jvm.Cond.stringRef "PailRow$SentenceReader" (84 : Nat) "out") ∈ lw_tbl := lw_at lw_m6 137 rfl
theorem q1440 : (Jvm.Cond.methodLink "PailRow$SentenceReader" (46 : Nat) ({ cls := "PailRow$SentenceReader", name := "must", desc := "(ZI)V" } : Jvm.MethodName)) ∈ lw_all := lw_g (lw_at lw_m6 138 rfl) rfl
theorem q1441 : (Jvm.Cond.sameMethod "PailRow$SentenceReader" "PailRow$Reader" "must" "(ZI)V") ∈ lw_all := lw_g (lw_at lw_m6 139 rfl) rfl
theorem q1442 : (Jvm.Cond.selects "PailRow$SentenceReader" ({ cls := "PailRow$SentenceReader", name := "must", desc := "(ZI)V" } : Jvm.MethodName) ({ cls := "PailRow$Reader", name := "must", desc := "(ZI)V" } : Jvm.MethodName)) ∈ lw_all := lw_g (lw_at lw_m6 140 rfl) rfl
theorem q1443 : (Jvm.Cond.methodLink "PailRow$SentenceReader" (59 : Nat) ({ cls := "PailRow$SentenceReader", name := "next", desc := "()V" } : Jvm.MethodName)) ∈ lw_all := lw_g (lw_at lw_m6 141 rfl) rfl
theorem q1444 : (Jvm.Cond.sameMethod "PailRow$SentenceReader" "PailRow$Reader" "next" "()V") ∈ lw_all := lw_g (lw_at lw_m6 142 rfl) rfl
theorem q1445 : (Jvm.Cond.selects "PailRow$SentenceReader" ({ cls := "PailRow$SentenceReader", name := "next", desc := "()V" } : Jvm.MethodName) ({ cls := "PailRow$Reader", name := "next", desc := "()V" } : Jvm.MethodName)) ∈ lw_all := lw_g (lw_at lw_m6 143 rfl) rfl
theorem q1446 : (Jvm.Cond.classLink "PailRow$SentenceReader" (86 : Nat) "PailRow$Not") ∈ lw_all := lw_g (lw_at lw_m6 144 rfl) rfl
theorem q1448 : (Jvm.Cond.methodLink "PailRow$SentenceReader" (88 : Nat) ({ cls := "PailRow$Not", name := "<init>", desc := "(LPailRow$Cond;)V" } : Jvm.MethodName)) ∈ lw_all := lw_g (lw_at lw_m6 146 rfl) rfl
theorem q1459 : (Jvm.Cond.methodLink "PailRow$SentenceReader" (91 : Nat) ({ cls := "PailRow$SentenceReader", name := "sign", desc := "(I)V" } : Jvm.MethodName)) ∈ lw_all := lw_g (lw_at lw_m6 157 rfl) rfl
theorem q1460 : (Jvm.Cond.sameMethod "PailRow$SentenceReader" "PailRow$Reader" "sign" "(I)V") ∈ lw_all := lw_g (lw_at lw_m6 158 rfl) rfl
theorem q1461 : (Jvm.Cond.selects "PailRow$SentenceReader" ({ cls := "PailRow$SentenceReader", name := "sign", desc := "(I)V" } : Jvm.MethodName) ({ cls := "PailRow$Reader", name := "sign", desc := "(I)V" } : Jvm.MethodName)) ∈ lw_all := lw_g (lw_at lw_m6 159 rfl) rfl
theorem q1462 : (Jvm.Cond.methodLink "PailRow$SentenceReader" (95 : Nat) ({ cls := "PailRow$SentenceReader", name := "counts", desc := "(I)LPailRow$Cond;" } : Jvm.MethodName)) ∈ lw_all := lw_g (lw_at lw_m6 160 rfl) rfl
theorem q1463 : (Jvm.Cond.privateMethod ({ cls := "PailRow$SentenceReader", name := "counts", desc := "(I)LPailRow$Cond;" } : Jvm.MethodName)) ∈ lw_tbl := lw_at lw_m6 161 rfl
theorem q1464 : (Jvm.Cond.instanceMethod ({ cls := "PailRow$SentenceReader", name := "counts", desc := "(I)LPailRow$Cond;" } : Jvm.MethodName)) ∈ lw_all := lw_g (lw_at lw_m6 162 rfl) rfl
theorem q1465 : (Jvm.Cond.code ({ cls := "PailRow$SentenceReader", name := "counts", desc := "(I)LPailRow$Cond;" } : Jvm.MethodName) prog_16_method_6_code (4 : Nat) (Option.some (Jvm.ClassFile.FieldType.object "PailRow$Cond"))) ∈ lw_all := lw_g (lw_at lw_m6 163 rfl) rfl
theorem q1466 : (Jvm.Cond.classLink "PailRow$SentenceReader" (104 : Nat) "PailRow$Counts") ∈ lw_all := lw_g (lw_at lw_m6 164 rfl) rfl
theorem q1468 : (Jvm.Cond.methodLink "PailRow$SentenceReader" (106 : Nat) ({ cls := "PailRow$Counts", name := "<init>", desc := "(III)V" } : Jvm.MethodName)) ∈ lw_all := lw_g (lw_at lw_m6 166 rfl) rfl
theorem q1482 : (Jvm.Cond.classLink "PailRow$SentenceReader" (97 : Nat) "PailRow$Out") ∈ lw_all := lw_g (lw_at lw_m6 180 rfl) rfl
theorem q1484 : (Jvm.Cond.methodLinkNest "PailRow$SentenceReader" (99 : Nat) ({ cls := "PailRow$Out", name := "<init>", desc := "()V" } : Jvm.MethodName) "PailRow") ∈ lw_tbl := lw_at lw_m6 182 rfl
theorem q1489 : (Jvm.Cond.stringRef "PailRow$SentenceReader" (70 : Nat) "and") ∈ lw_tbl := lw_at lw_m6 187 rfl
theorem q1490 : (Jvm.Cond.classLink "PailRow$SentenceReader" (72 : Nat) "PailRow$Both") ∈ lw_all := lw_g (lw_at lw_m6 188 rfl) rfl
theorem q1492 : (Jvm.Cond.methodLink "PailRow$SentenceReader" (74 : Nat) ({ cls := "PailRow$Both", name := "<init>", desc := "(LPailRow$Cond;LPailRow$Cond;)V" } : Jvm.MethodName)) ∈ lw_all := lw_g (lw_at lw_m6 190 rfl) rfl
theorem q1503 : (Jvm.Cond.stringRef "PailRow$SentenceReader" (53 : Nat) "or") ∈ lw_tbl := lw_at lw_m6 201 rfl
theorem q1504 : (Jvm.Cond.classLink "PailRow$SentenceReader" (62 : Nat) "PailRow$Any") ∈ lw_all := lw_g (lw_at lw_m6 202 rfl) rfl
theorem q1506 : (Jvm.Cond.methodLink "PailRow$SentenceReader" (64 : Nat) ({ cls := "PailRow$Any", name := "<init>", desc := "(LPailRow$Cond;LPailRow$Cond;)V" } : Jvm.MethodName)) ∈ lw_all := lw_g (lw_at lw_m6 204 rfl) rfl
theorem q2336 : (Jvm.Cond.selects "PailRow$SentenceReader" ({ cls := "PailRow$Reader", name := "find", desc := "([Ljava/lang/String;)I" } : Jvm.MethodName) ({ cls := "PailRow$Reader", name := "find", desc := "([Ljava/lang/String;)I" } : Jvm.MethodName)) ∈ lw_all := lw_g (lw_at lw_m10 74 rfl) rfl
theorem q2340 : (Jvm.Cond.selects "PailRow$SentenceReader" ({ cls := "PailRow$Reader", name := "must", desc := "(ZI)V" } : Jvm.MethodName) ({ cls := "PailRow$Reader", name := "must", desc := "(ZI)V" } : Jvm.MethodName)) ∈ lw_all := lw_g (lw_at lw_m10 78 rfl) rfl
theorem q2358 : (Jvm.Cond.castable "PailRow$SentenceReader" "java/lang/Object") ∈ lw_tbl := lw_at lw_m10 96 rfl
theorem in_X13 : ∀ w ∈ wsX130, w ∈ lw_all := lw_in wsX130 [630, 631, 632, 633, 634, 635, 636, 637, 624, 626, 628] (by decide +kernel) (by decide +kernel)
/-! PailRow$Man -/
set_option maxRecDepth 100000
def RX15 : String := "PailRow$Man"
def TX15 : u_T := fun k => match k with
  | 0 => ("PailRow$Man", "name", "J", true)
  | 1 => ("PailRow$Man", "hand", "I", true)
  | 2 => ("PailRow$Man", "pace", "I", true)
  | _ => ("PailRow$Man", "power", "I", true)
def tyX15 : Nat → FieldType := fun k => match k with
  | 0 => .long
  | 1 => .int
  | 2 => .int
  | _ => .int
abbrev wsX150 : List Cond := u_ws RX15 TX15 4
theorem nmX15 : ∀ a, a < 4 → ∀ b, b < 4 → a ≠ b → (TX15 a).2.1 ≠ (TX15 b).2.1 := by decide +kernel
theorem tyX15_ok : ∀ k, k < 4 → parseFieldDescriptor (TX15 k).2.2.1 = some (tyX15 k) := by decide +kernel
abbrev cX15_init : ByteArray := prog_8_method_1_code
def yX15_init : MethodName := ⟨RX15, "<init>", "(JIII)V"⟩
def dkwX15_init_1 : List UInt8 := [181, 0, 20, 177]
abbrev dktX15_init_1 : List UInt8 := dkwX15_init_1 ++ []
def dkwX15_init_0 : List UInt8 := [42, 183, 0, 1, 42, 31, 181, 0, 7, 42, 29, 181, 0, 13, 42, 21, 4, 181, 0, 17, 42, 21, 5]
abbrev dktX15_init_0 : List UInt8 := dkwX15_init_0 ++ dktX15_init_1
theorem dksX15_init_0 : cX15_init.data.toList.drop 0 = dktX15_init_0 := by decide +kernel
theorem dksX15_init_1 : cX15_init.data.toList.drop 23 = dktX15_init_1 := dk_seg dksX15_init_0 23 rfl rfl
theorem dX15_init_0 : decode cX15_init 0 = .ok (.aload_n 0, 1) := dk_42 (dk_at dksX15_init_0 0 rfl rfl)
theorem dX15_init_1 : decode cX15_init 1 = .ok (.invokespecial 1, 3) := dk_183 0 1 (dk_at dksX15_init_0 1 rfl rfl)
theorem dX15_init_4 : decode cX15_init 4 = .ok (.aload_n 0, 1) := dk_42 (dk_at dksX15_init_0 4 rfl rfl)
theorem dX15_init_5 : decode cX15_init 5 = .ok (.lload_n 1, 1) := dk_31 (dk_at dksX15_init_0 5 rfl rfl)
theorem dX15_init_6 : decode cX15_init 6 = .ok (.putfield 7, 3) := dk_181 0 7 (dk_at dksX15_init_0 6 rfl rfl)
theorem dX15_init_9 : decode cX15_init 9 = .ok (.aload_n 0, 1) := dk_42 (dk_at dksX15_init_0 9 rfl rfl)
theorem dX15_init_10 : decode cX15_init 10 = .ok (.iload_n 3, 1) := dk_29 (dk_at dksX15_init_0 10 rfl rfl)
theorem dX15_init_11 : decode cX15_init 11 = .ok (.putfield 13, 3) := dk_181 0 13 (dk_at dksX15_init_0 11 rfl rfl)
theorem dX15_init_14 : decode cX15_init 14 = .ok (.aload_n 0, 1) := dk_42 (dk_at dksX15_init_0 14 rfl rfl)
theorem dX15_init_15 : decode cX15_init 15 = .ok (.iload 4, 2) := dk_21 4 (dk_at dksX15_init_0 15 rfl rfl)
theorem dX15_init_17 : decode cX15_init 17 = .ok (.putfield 17, 3) := dk_181 0 17 (dk_at dksX15_init_0 17 rfl rfl)
theorem dX15_init_20 : decode cX15_init 20 = .ok (.aload_n 0, 1) := dk_42 (dk_at dksX15_init_0 20 rfl rfl)
theorem dX15_init_21 : decode cX15_init 21 = .ok (.iload 5, 2) := dk_21 5 (dk_at dksX15_init_0 21 rfl rfl)
theorem dX15_init_23 : decode cX15_init 23 = .ok (.putfield 20, 3) := dk_181 0 20 (dk_at dksX15_init_1 0 rfl rfl)
theorem dX15_init_26 : decode cX15_init 26 = .ok (.return_, 1) := dk_177 (dk_at dksX15_init_1 3 rfl rfl)
theorem q123 : (Jvm.Cond.initialized "PailRow$Man") ∈ lw_all := lw_g (lw_at lw_m1 21 rfl) rfl
theorem q978 : (Jvm.Cond.instantiable "PailRow$Man" (4 : Nat)) ∈ lw_all := lw_g (lw_at lw_m4 156 rfl) rfl
theorem q980 : (Jvm.Cond.instanceMethod ({ cls := "PailRow$Man", name := "<init>", desc := "(JIII)V" } : Jvm.MethodName)) ∈ lw_all := lw_g (lw_at lw_m4 158 rfl) rfl
theorem q981 : (Jvm.Cond.code ({ cls := "PailRow$Man", name := "<init>", desc := "(JIII)V" } : Jvm.MethodName) prog_8_method_1_code (6 : Nat) (Option.none : Option Jvm.ClassFile.FieldType)) ∈ lw_all := lw_g (lw_at lw_m4 159 rfl) rfl
theorem q982 : (Jvm.Cond.methodLink "PailRow$Man" (1 : Nat) ({ cls := "java/lang/Object", name := "<init>", desc := "()V" } : Jvm.MethodName)) ∈ lw_all := lw_g (lw_at lw_m4 160 rfl) rfl
theorem q983 : (Jvm.Cond.fieldLink "PailRow$Man" (7 : Nat) "PailRow$Man" "name" "J") ∈ lw_all := lw_g (lw_at lw_m4 161 rfl) rfl
theorem q985 : (Jvm.Cond.fieldLink "PailRow$Man" (13 : Nat) "PailRow$Man" "hand" "I") ∈ lw_all := lw_g (lw_at lw_m4 163 rfl) rfl
theorem q988 : (Jvm.Cond.fieldLink "PailRow$Man" (17 : Nat) "PailRow$Man" "pace" "I") ∈ lw_all := lw_g (lw_at lw_m4 166 rfl) rfl
theorem q991 : (Jvm.Cond.fieldLink "PailRow$Man" (20 : Nat) "PailRow$Man" "power" "I") ∈ lw_all := lw_g (lw_at lw_m4 169 rfl) rfl
theorem q994 : (Jvm.Cond.laysFinal "PailRow$Man" "PailRow$Man" "name" "J") ∈ lw_all := lw_g (lw_at lw_m4 172 rfl) rfl
theorem q995 : (Jvm.Cond.soleField "PailRow$Man" "name") ∈ lw_all := lw_g (lw_at lw_m4 173 rfl) rfl
theorem q996 : (Jvm.Cond.laysFinal "PailRow$Man" "PailRow$Man" "hand" "I") ∈ lw_all := lw_g (lw_at lw_m4 174 rfl) rfl
theorem q997 : (Jvm.Cond.soleField "PailRow$Man" "hand") ∈ lw_all := lw_g (lw_at lw_m4 175 rfl) rfl
theorem q998 : (Jvm.Cond.laysFinal "PailRow$Man" "PailRow$Man" "pace" "I") ∈ lw_all := lw_g (lw_at lw_m4 176 rfl) rfl
theorem q999 : (Jvm.Cond.soleField "PailRow$Man" "pace") ∈ lw_all := lw_g (lw_at lw_m4 177 rfl) rfl
theorem q1000 : (Jvm.Cond.laysFinal "PailRow$Man" "PailRow$Man" "power" "I") ∈ lw_all := lw_g (lw_at lw_m4 178 rfl) rfl
theorem q1001 : (Jvm.Cond.soleField "PailRow$Man" "power") ∈ lw_all := lw_g (lw_at lw_m4 179 rfl) rfl
theorem q1002 : (Jvm.Cond.superclass "PailRow$Man" "java/lang/Object") ∈ lw_all := lw_g (lw_at lw_m4 180 rfl) rfl
theorem q2360 : (Jvm.Cond.castable "PailRow$Man" "java/lang/Object") ∈ lw_tbl := lw_at lw_m10 98 rfl
theorem in_X15 : ∀ w ∈ wsX150, w ∈ lw_all := lw_in wsX150 [994, 996, 998, 1000] (by decide +kernel) (by decide +kernel)
/-! PailRow$Thing -/
set_option maxRecDepth 100000
def RX16 : String := "PailRow$Thing"
def TX16 : u_T := fun k => match k with
  | 0 => ("PailRow$Thing", "minute", "I", true)
  | 1 => ("PailRow$Thing", "what", "I", true)
  | 2 => ("PailRow$Thing", "number", "I", true)
  | 3 => ("PailRow$Thing", "many", "I", true)
  | _ => ("PailRow$Thing", "men", "[I", true)
def tyX16 : Nat → FieldType := fun k => match k with
  | 0 => .int
  | 1 => .int
  | 2 => .int
  | 3 => .int
  | _ => .array .int
abbrev wsX160 : List Cond := u_ws RX16 TX16 5
theorem nmX16 : ∀ a, a < 5 → ∀ b, b < 5 → a ≠ b → (TX16 a).2.1 ≠ (TX16 b).2.1 := by decide +kernel
theorem tyX16_ok : ∀ k, k < 5 → parseFieldDescriptor (TX16 k).2.2.1 = some (tyX16 k) := by decide +kernel
abbrev cX16_init : ByteArray := prog_19_method_1_code
def yX16_init : MethodName := ⟨RX16, "<init>", "(III[II)V"⟩
def dkwX16_init_1 : List UInt8 := [181, 0, 19, 42, 21, 5, 181, 0, 23, 177]
abbrev dktX16_init_1 : List UInt8 := dkwX16_init_1 ++ []
def dkwX16_init_0 : List UInt8 := [42, 183, 0, 1, 42, 27, 181, 0, 7, 42, 28, 181, 0, 13, 42, 29, 181, 0, 16, 42, 25, 4]
abbrev dktX16_init_0 : List UInt8 := dkwX16_init_0 ++ dktX16_init_1
theorem dksX16_init_0 : cX16_init.data.toList.drop 0 = dktX16_init_0 := by decide +kernel
theorem dksX16_init_1 : cX16_init.data.toList.drop 22 = dktX16_init_1 := dk_seg dksX16_init_0 22 rfl rfl
theorem dX16_init_0 : decode cX16_init 0 = .ok (.aload_n 0, 1) := dk_42 (dk_at dksX16_init_0 0 rfl rfl)
theorem dX16_init_1 : decode cX16_init 1 = .ok (.invokespecial 1, 3) := dk_183 0 1 (dk_at dksX16_init_0 1 rfl rfl)
theorem dX16_init_4 : decode cX16_init 4 = .ok (.aload_n 0, 1) := dk_42 (dk_at dksX16_init_0 4 rfl rfl)
theorem dX16_init_5 : decode cX16_init 5 = .ok (.iload_n 1, 1) := dk_27 (dk_at dksX16_init_0 5 rfl rfl)
theorem dX16_init_6 : decode cX16_init 6 = .ok (.putfield 7, 3) := dk_181 0 7 (dk_at dksX16_init_0 6 rfl rfl)
theorem dX16_init_9 : decode cX16_init 9 = .ok (.aload_n 0, 1) := dk_42 (dk_at dksX16_init_0 9 rfl rfl)
theorem dX16_init_10 : decode cX16_init 10 = .ok (.iload_n 2, 1) := dk_28 (dk_at dksX16_init_0 10 rfl rfl)
theorem dX16_init_11 : decode cX16_init 11 = .ok (.putfield 13, 3) := dk_181 0 13 (dk_at dksX16_init_0 11 rfl rfl)
theorem dX16_init_14 : decode cX16_init 14 = .ok (.aload_n 0, 1) := dk_42 (dk_at dksX16_init_0 14 rfl rfl)
theorem dX16_init_15 : decode cX16_init 15 = .ok (.iload_n 3, 1) := dk_29 (dk_at dksX16_init_0 15 rfl rfl)
theorem dX16_init_16 : decode cX16_init 16 = .ok (.putfield 16, 3) := dk_181 0 16 (dk_at dksX16_init_0 16 rfl rfl)
theorem dX16_init_19 : decode cX16_init 19 = .ok (.aload_n 0, 1) := dk_42 (dk_at dksX16_init_0 19 rfl rfl)
theorem dX16_init_20 : decode cX16_init 20 = .ok (.aload 4, 2) := dk_25 4 (dk_at dksX16_init_0 20 rfl rfl)
theorem dX16_init_22 : decode cX16_init 22 = .ok (.putfield 19, 3) := dk_181 0 19 (dk_at dksX16_init_1 0 rfl rfl)
theorem dX16_init_25 : decode cX16_init 25 = .ok (.aload_n 0, 1) := dk_42 (dk_at dksX16_init_1 3 rfl rfl)
theorem dX16_init_26 : decode cX16_init 26 = .ok (.iload 5, 2) := dk_21 5 (dk_at dksX16_init_1 4 rfl rfl)
theorem dX16_init_28 : decode cX16_init 28 = .ok (.putfield 23, 3) := dk_181 0 23 (dk_at dksX16_init_1 6 rfl rfl)
theorem dX16_init_31 : decode cX16_init 31 = .ok (.return_, 1) := dk_177 (dk_at dksX16_init_1 9 rfl rfl)
theorem q128 : (Jvm.Cond.initialized "PailRow$Thing") ∈ lw_all := lw_g (lw_at lw_m1 26 rfl) rfl
theorem q1075 : (Jvm.Cond.instantiable "PailRow$Thing" (5 : Nat)) ∈ lw_all := lw_g (lw_at lw_m5 13 rfl) rfl
theorem q1077 : (Jvm.Cond.instanceMethod ({ cls := "PailRow$Thing", name := "<init>", desc := "(III[II)V" } : Jvm.MethodName)) ∈ lw_all := lw_g (lw_at lw_m5 15 rfl) rfl
theorem q1078 : (Jvm.Cond.code ({ cls := "PailRow$Thing", name := "<init>", desc := "(III[II)V" } : Jvm.MethodName) prog_19_method_1_code (6 : Nat) (Option.none : Option Jvm.ClassFile.FieldType)) ∈ lw_all := lw_g (lw_at lw_m5 16 rfl) rfl
theorem q1079 : (Jvm.Cond.methodLink "PailRow$Thing" (1 : Nat) ({ cls := "java/lang/Object", name := "<init>", desc := "()V" } : Jvm.MethodName)) ∈ lw_all := lw_g (lw_at lw_m5 17 rfl) rfl
theorem q1080 : (Jvm.Cond.fieldLink "PailRow$Thing" (7 : Nat) "PailRow$Thing" "minute" "I") ∈ lw_all := lw_g (lw_at lw_m5 18 rfl) rfl
theorem q1082 : (Jvm.Cond.fieldLink "PailRow$Thing" (13 : Nat) "PailRow$Thing" "what" "I") ∈ lw_all := lw_g (lw_at lw_m5 20 rfl) rfl
theorem q1084 : (Jvm.Cond.fieldLink "PailRow$Thing" (16 : Nat) "PailRow$Thing" "number" "I") ∈ lw_all := lw_g (lw_at lw_m5 22 rfl) rfl
theorem q1086 : (Jvm.Cond.fieldLink "PailRow$Thing" (23 : Nat) "PailRow$Thing" "many" "I") ∈ lw_all := lw_g (lw_at lw_m5 24 rfl) rfl
theorem q1088 : (Jvm.Cond.fieldLink "PailRow$Thing" (19 : Nat) "PailRow$Thing" "men" "[I") ∈ lw_all := lw_g (lw_at lw_m5 26 rfl) rfl
theorem q1090 : (Jvm.Cond.laysFinal "PailRow$Thing" "PailRow$Thing" "minute" "I") ∈ lw_all := lw_g (lw_at lw_m5 28 rfl) rfl
theorem q1091 : (Jvm.Cond.soleField "PailRow$Thing" "minute") ∈ lw_all := lw_g (lw_at lw_m5 29 rfl) rfl
theorem q1092 : (Jvm.Cond.laysFinal "PailRow$Thing" "PailRow$Thing" "what" "I") ∈ lw_all := lw_g (lw_at lw_m5 30 rfl) rfl
theorem q1093 : (Jvm.Cond.soleField "PailRow$Thing" "what") ∈ lw_all := lw_g (lw_at lw_m5 31 rfl) rfl
theorem q1094 : (Jvm.Cond.laysFinal "PailRow$Thing" "PailRow$Thing" "number" "I") ∈ lw_all := lw_g (lw_at lw_m5 32 rfl) rfl
theorem q1095 : (Jvm.Cond.soleField "PailRow$Thing" "number") ∈ lw_all := lw_g (lw_at lw_m5 33 rfl) rfl
theorem q1096 : (Jvm.Cond.laysFinal "PailRow$Thing" "PailRow$Thing" "many" "I") ∈ lw_all := lw_g (lw_at lw_m5 34 rfl) rfl
theorem q1097 : (Jvm.Cond.soleField "PailRow$Thing" "many") ∈ lw_all := lw_g (lw_at lw_m5 35 rfl) rfl
theorem q1098 : (Jvm.Cond.laysFinal "PailRow$Thing" "PailRow$Thing" "men" "[I") ∈ lw_all := lw_g (lw_at lw_m5 36 rfl) rfl
theorem q1099 : (Jvm.Cond.soleField "PailRow$Thing" "men") ∈ lw_all := lw_g (lw_at lw_m5 37 rfl) rfl
theorem q1100 : (Jvm.Cond.superclass "PailRow$Thing" "java/lang/Object") ∈ lw_all := lw_g (lw_at lw_m5 38 rfl) rfl
theorem q2362 : (Jvm.Cond.castable "PailRow$Thing" "java/lang/Object") ∈ lw_tbl := lw_at lw_m10 100 rfl
theorem in_X16 : ∀ w ∈ wsX160, w ∈ lw_all := lw_in wsX160 [1090, 1092, 1094, 1096, 1098] (by decide +kernel) (by decide +kernel)
/-! PailRow$Cond -/
set_option maxRecDepth 100000
def RX17 : String := "PailRow$Cond"
abbrev cX17_init : ByteArray := prog_5_method_1_code
def yX17_init : MethodName := ⟨RX17, "<init>", "()V"⟩
theorem dX17_init_0 : decode cX17_init 0 = .ok (.aload_n 0, 1) := by decide +kernel
theorem dX17_init_1 : decode cX17_init 1 = .ok (.invokespecial 1, 3) := by decide +kernel
theorem dX17_init_4 : decode cX17_init 4 = .ok (.return_, 1) := by decide +kernel
theorem q129 : (Jvm.Cond.initialized "PailRow$Cond") ∈ lw_all := lw_g (lw_at lw_m1 27 rfl) rfl
theorem q1452 : (Jvm.Cond.instanceMethod ({ cls := "PailRow$Cond", name := "<init>", desc := "()V" } : Jvm.MethodName)) ∈ lw_all := lw_g (lw_at lw_m6 150 rfl) rfl
theorem q1453 : (Jvm.Cond.code ({ cls := "PailRow$Cond", name := "<init>", desc := "()V" } : Jvm.MethodName) prog_5_method_1_code (1 : Nat) (Option.none : Option Jvm.ClassFile.FieldType)) ∈ lw_all := lw_g (lw_at lw_m6 151 rfl) rfl
theorem q1454 : (Jvm.Cond.methodLink "PailRow$Cond" (1 : Nat) ({ cls := "java/lang/Object", name := "<init>", desc := "()V" } : Jvm.MethodName)) ∈ lw_all := lw_g (lw_at lw_m6 152 rfl) rfl
theorem q1522 : (Jvm.Cond.declares ({ cls := "PailRow$Cond", name := "is", desc := "(LPailRow;I)Z" } : Jvm.MethodName)) ∈ lw_tbl := lw_at lw_m6 220 rfl
theorem q1523 : (Jvm.Cond.sameMethod "PailRow$Cond" "PailRow$Cond" "is" "(LPailRow;I)Z") ∈ lw_all := lw_g (lw_at lw_m6 221 rfl) rfl
/-! PailRow$Not -/
set_option maxRecDepth 100000
def RX18 : String := "PailRow$Not"
def TX18 : u_T := fun k => match k with
  | _ => ("PailRow$Not", "a", "LPailRow$Cond;", true)
def tyX18 : Nat → FieldType := fun k => match k with
  | _ => .object "PailRow$Cond"
abbrev wsX180 : List Cond := u_ws RX18 TX18 1
theorem nmX18 : ∀ a, a < 1 → ∀ b, b < 1 → a ≠ b → (TX18 a).2.1 ≠ (TX18 b).2.1 := by decide +kernel
theorem tyX18_ok : ∀ k, k < 1 → parseFieldDescriptor (TX18 k).2.2.1 = some (tyX18 k) := by decide +kernel
abbrev cX18_init : ByteArray := prog_9_method_1_code
def yX18_init : MethodName := ⟨RX18, "<init>", "(LPailRow$Cond;)V"⟩
def dkwX18_init_0 : List UInt8 := [42, 183, 0, 1, 42, 43, 181, 0, 7, 177]
abbrev dktX18_init_0 : List UInt8 := dkwX18_init_0 ++ []
theorem dksX18_init_0 : cX18_init.data.toList.drop 0 = dktX18_init_0 := by decide +kernel
theorem dX18_init_0 : decode cX18_init 0 = .ok (.aload_n 0, 1) := dk_42 (dk_at dksX18_init_0 0 rfl rfl)
theorem dX18_init_1 : decode cX18_init 1 = .ok (.invokespecial 1, 3) := dk_183 0 1 (dk_at dksX18_init_0 1 rfl rfl)
theorem dX18_init_4 : decode cX18_init 4 = .ok (.aload_n 0, 1) := dk_42 (dk_at dksX18_init_0 4 rfl rfl)
theorem dX18_init_5 : decode cX18_init 5 = .ok (.aload_n 1, 1) := dk_43 (dk_at dksX18_init_0 5 rfl rfl)
theorem dX18_init_6 : decode cX18_init 6 = .ok (.putfield 7, 3) := dk_181 0 7 (dk_at dksX18_init_0 6 rfl rfl)
theorem dX18_init_9 : decode cX18_init 9 = .ok (.return_, 1) := dk_177 (dk_at dksX18_init_0 9 rfl rfl)
abbrev cX18_is : ByteArray := prog_9_method_2_code
def yX18_is : MethodName := ⟨RX18, "is", "(LPailRow;I)Z"⟩
def dkwX18_is_0 : List UInt8 := [42, 180, 0, 7, 43, 28, 182, 0, 13, 154, 0, 7, 4, 167, 0, 4, 3, 172]
abbrev dktX18_is_0 : List UInt8 := dkwX18_is_0 ++ []
theorem dksX18_is_0 : cX18_is.data.toList.drop 0 = dktX18_is_0 := by decide +kernel
theorem dX18_is_0 : decode cX18_is 0 = .ok (.aload_n 0, 1) := dk_42 (dk_at dksX18_is_0 0 rfl rfl)
theorem dX18_is_1 : decode cX18_is 1 = .ok (.getfield 7, 3) := dk_180 0 7 (dk_at dksX18_is_0 1 rfl rfl)
theorem dX18_is_4 : decode cX18_is 4 = .ok (.aload_n 1, 1) := dk_43 (dk_at dksX18_is_0 4 rfl rfl)
theorem dX18_is_5 : decode cX18_is 5 = .ok (.iload_n 2, 1) := dk_28 (dk_at dksX18_is_0 5 rfl rfl)
theorem dX18_is_6 : decode cX18_is 6 = .ok (.invokevirtual 13, 3) := dk_182 0 13 (dk_at dksX18_is_0 6 rfl rfl)
theorem dX18_is_9 : decode cX18_is 9 = .ok (.ifCond .ne 7, 3) := dk_154 0 7 (dk_at dksX18_is_0 9 rfl rfl)
theorem dX18_is_12 : decode cX18_is 12 = .ok (.iconst 1, 1) := dk_4 (dk_at dksX18_is_0 12 rfl rfl)
theorem dX18_is_13 : decode cX18_is 13 = .ok (.goto 4, 3) := dk_167 0 4 (dk_at dksX18_is_0 13 rfl rfl)
theorem dX18_is_16 : decode cX18_is 16 = .ok (.iconst 0, 1) := dk_3 (dk_at dksX18_is_0 16 rfl rfl)
theorem dX18_is_17 : decode cX18_is 17 = .ok (.ireturn, 1) := dk_172 (dk_at dksX18_is_0 17 rfl rfl)
theorem q130 : (Jvm.Cond.initialized "PailRow$Not") ∈ lw_all := lw_g (lw_at lw_m1 28 rfl) rfl
theorem q1447 : (Jvm.Cond.instantiable "PailRow$Not" (1 : Nat)) ∈ lw_all := lw_g (lw_at lw_m6 145 rfl) rfl
theorem q1449 : (Jvm.Cond.instanceMethod ({ cls := "PailRow$Not", name := "<init>", desc := "(LPailRow$Cond;)V" } : Jvm.MethodName)) ∈ lw_all := lw_g (lw_at lw_m6 147 rfl) rfl
theorem q1450 : (Jvm.Cond.code ({ cls := "PailRow$Not", name := "<init>", desc := "(LPailRow$Cond;)V" } : Jvm.MethodName) prog_9_method_1_code (2 : Nat) (Option.none : Option Jvm.ClassFile.FieldType)) ∈ lw_all := lw_g (lw_at lw_m6 148 rfl) rfl
theorem q1451 : (Jvm.Cond.methodLinkNest "PailRow$Not" (1 : Nat) ({ cls := "PailRow$Cond", name := "<init>", desc := "()V" } : Jvm.MethodName) "PailRow") ∈ lw_tbl := lw_at lw_m6 149 rfl
theorem q1455 : (Jvm.Cond.fieldLink "PailRow$Not" (7 : Nat) "PailRow$Not" "a" "LPailRow$Cond;") ∈ lw_all := lw_g (lw_at lw_m6 153 rfl) rfl
theorem q1456 : (Jvm.Cond.laysFinal "PailRow$Not" "PailRow$Not" "a" "LPailRow$Cond;") ∈ lw_all := lw_g (lw_at lw_m6 154 rfl) rfl
theorem q1457 : (Jvm.Cond.soleField "PailRow$Not" "a") ∈ lw_all := lw_g (lw_at lw_m6 155 rfl) rfl
theorem q1458 : (Jvm.Cond.superclass "PailRow$Not" "PailRow$Cond") ∈ lw_all := lw_g (lw_at lw_m6 156 rfl) rfl
theorem q1537 : (Jvm.Cond.instanceMethod ({ cls := "PailRow$Not", name := "is", desc := "(LPailRow;I)Z" } : Jvm.MethodName)) ∈ lw_all := lw_g (lw_at lw_m6 235 rfl) rfl
theorem q1538 : (Jvm.Cond.code ({ cls := "PailRow$Not", name := "is", desc := "(LPailRow;I)Z" } : Jvm.MethodName) prog_9_method_2_code (3 : Nat) (Option.some Jvm.ClassFile.FieldType.boolean)) ∈ lw_all := lw_g (lw_at lw_m6 236 rfl) rfl
theorem q1539 : (Jvm.Cond.methodLink "PailRow$Not" (13 : Nat) ({ cls := "PailRow$Cond", name := "is", desc := "(LPailRow;I)Z" } : Jvm.MethodName)) ∈ lw_all := lw_g (lw_at lw_m6 237 rfl) rfl
theorem q1544 : (Jvm.Cond.selects "PailRow$Not" ({ cls := "PailRow$Cond", name := "is", desc := "(LPailRow;I)Z" } : Jvm.MethodName) ({ cls := "PailRow$Not", name := "is", desc := "(LPailRow;I)Z" } : Jvm.MethodName)) ∈ lw_all := lw_g (lw_at lw_m7 2 rfl) rfl
theorem q2363 : (Jvm.Cond.castable "PailRow$Not" "java/lang/Object") ∈ lw_tbl := lw_at lw_m10 101 rfl
theorem in_X18 : ∀ w ∈ wsX180, w ∈ lw_all := lw_in wsX180 [1456] (by decide +kernel) (by decide +kernel)
/-! PailRow$Counts -/
set_option maxRecDepth 100000
def RX19 : String := "PailRow$Counts"
def TX19 : u_T := fun k => match k with
  | 0 => ("PailRow$Counts", "what", "I", true)
  | 1 => ("PailRow$Counts", "sign", "I", true)
  | _ => ("PailRow$Counts", "number", "I", true)
def tyX19 : Nat → FieldType := fun k => match k with
  | 0 => .int
  | 1 => .int
  | _ => .int
abbrev wsX190 : List Cond := u_ws RX19 TX19 3
theorem nmX19 : ∀ a, a < 3 → ∀ b, b < 3 → a ≠ b → (TX19 a).2.1 ≠ (TX19 b).2.1 := by decide +kernel
theorem tyX19_ok : ∀ k, k < 3 → parseFieldDescriptor (TX19 k).2.2.1 = some (tyX19 k) := by decide +kernel
abbrev cX19_init : ByteArray := prog_6_method_1_code
def yX19_init : MethodName := ⟨RX19, "<init>", "(III)V"⟩
def dkwX19_init_0 : List UInt8 := [42, 183, 0, 1, 42, 27, 181, 0, 7, 42, 28, 181, 0, 13, 42, 29, 181, 0, 16, 177]
abbrev dktX19_init_0 : List UInt8 := dkwX19_init_0 ++ []
theorem dksX19_init_0 : cX19_init.data.toList.drop 0 = dktX19_init_0 := by decide +kernel
theorem dX19_init_0 : decode cX19_init 0 = .ok (.aload_n 0, 1) := dk_42 (dk_at dksX19_init_0 0 rfl rfl)
theorem dX19_init_1 : decode cX19_init 1 = .ok (.invokespecial 1, 3) := dk_183 0 1 (dk_at dksX19_init_0 1 rfl rfl)
theorem dX19_init_4 : decode cX19_init 4 = .ok (.aload_n 0, 1) := dk_42 (dk_at dksX19_init_0 4 rfl rfl)
theorem dX19_init_5 : decode cX19_init 5 = .ok (.iload_n 1, 1) := dk_27 (dk_at dksX19_init_0 5 rfl rfl)
theorem dX19_init_6 : decode cX19_init 6 = .ok (.putfield 7, 3) := dk_181 0 7 (dk_at dksX19_init_0 6 rfl rfl)
theorem dX19_init_9 : decode cX19_init 9 = .ok (.aload_n 0, 1) := dk_42 (dk_at dksX19_init_0 9 rfl rfl)
theorem dX19_init_10 : decode cX19_init 10 = .ok (.iload_n 2, 1) := dk_28 (dk_at dksX19_init_0 10 rfl rfl)
theorem dX19_init_11 : decode cX19_init 11 = .ok (.putfield 13, 3) := dk_181 0 13 (dk_at dksX19_init_0 11 rfl rfl)
theorem dX19_init_14 : decode cX19_init 14 = .ok (.aload_n 0, 1) := dk_42 (dk_at dksX19_init_0 14 rfl rfl)
theorem dX19_init_15 : decode cX19_init 15 = .ok (.iload_n 3, 1) := dk_29 (dk_at dksX19_init_0 15 rfl rfl)
theorem dX19_init_16 : decode cX19_init 16 = .ok (.putfield 16, 3) := dk_181 0 16 (dk_at dksX19_init_0 16 rfl rfl)
theorem dX19_init_19 : decode cX19_init 19 = .ok (.return_, 1) := dk_177 (dk_at dksX19_init_0 19 rfl rfl)
abbrev cX19_is : ByteArray := prog_6_method_3_code
def yX19_is : MethodName := ⟨RX19, "is", "(LPailRow;I)Z"⟩
def dkwX19_is_3 : List UInt8 := [172]
abbrev dktX19_is_3 : List UInt8 := dkwX19_is_3 ++ []
def dkwX19_is_2 : List UInt8 := [160, 0, 7, 4, 167, 0, 20, 3, 167, 0, 16, 29, 42, 180, 0, 16, 164, 0, 7, 4, 167, 0, 4, 3]
abbrev dktX19_is_2 : List UInt8 := dkwX19_is_2 ++ dktX19_is_3
def dkwX19_is_1 : List UInt8 := [4, 167, 0, 45, 3, 167, 0, 41, 42, 180, 0, 13, 16, 61, 160, 0, 19, 29, 42, 180, 0, 16]
abbrev dktX19_is_1 : List UInt8 := dkwX19_is_1 ++ dktX19_is_2
def dkwX19_is_0 : List UInt8 := [42, 43, 28, 182, 0, 34, 62, 42, 180, 0, 13, 16, 60, 160, 0, 19, 29, 42, 180, 0, 16, 162, 0, 7]
abbrev dktX19_is_0 : List UInt8 := dkwX19_is_0 ++ dktX19_is_1
theorem dksX19_is_0 : cX19_is.data.toList.drop 0 = dktX19_is_0 := by decide +kernel
theorem dksX19_is_1 : cX19_is.data.toList.drop 24 = dktX19_is_1 := dk_seg dksX19_is_0 24 rfl rfl
theorem dksX19_is_2 : cX19_is.data.toList.drop 46 = dktX19_is_2 := dk_seg dksX19_is_1 22 rfl rfl
theorem dksX19_is_3 : cX19_is.data.toList.drop 70 = dktX19_is_3 := dk_seg dksX19_is_2 24 rfl rfl
theorem dX19_is_0 : decode cX19_is 0 = .ok (.aload_n 0, 1) := dk_42 (dk_at dksX19_is_0 0 rfl rfl)
theorem dX19_is_1 : decode cX19_is 1 = .ok (.aload_n 1, 1) := dk_43 (dk_at dksX19_is_0 1 rfl rfl)
theorem dX19_is_2 : decode cX19_is 2 = .ok (.iload_n 2, 1) := dk_28 (dk_at dksX19_is_0 2 rfl rfl)
theorem dX19_is_3 : decode cX19_is 3 = .ok (.invokevirtual 34, 3) := dk_182 0 34 (dk_at dksX19_is_0 3 rfl rfl)
theorem dX19_is_6 : decode cX19_is 6 = .ok (.istore_n 3, 1) := dk_62 (dk_at dksX19_is_0 6 rfl rfl)
theorem dX19_is_7 : decode cX19_is 7 = .ok (.aload_n 0, 1) := dk_42 (dk_at dksX19_is_0 7 rfl rfl)
theorem dX19_is_8 : decode cX19_is 8 = .ok (.getfield 13, 3) := dk_180 0 13 (dk_at dksX19_is_0 8 rfl rfl)
theorem dX19_is_11 : decode cX19_is 11 = .ok (.bipush 60, 2) := dk_16 60 (dk_at dksX19_is_0 11 rfl rfl)
theorem dX19_is_13 : decode cX19_is 13 = .ok (.if_icmp .ne 19, 3) := dk_160 0 19 (dk_at dksX19_is_0 13 rfl rfl)
theorem dX19_is_16 : decode cX19_is 16 = .ok (.iload_n 3, 1) := dk_29 (dk_at dksX19_is_0 16 rfl rfl)
theorem dX19_is_17 : decode cX19_is 17 = .ok (.aload_n 0, 1) := dk_42 (dk_at dksX19_is_0 17 rfl rfl)
theorem dX19_is_18 : decode cX19_is 18 = .ok (.getfield 16, 3) := dk_180 0 16 (dk_at dksX19_is_0 18 rfl rfl)
theorem dX19_is_21 : decode cX19_is 21 = .ok (.if_icmp .ge 7, 3) := dk_162 0 7 (dk_at dksX19_is_0 21 rfl rfl)
theorem dX19_is_24 : decode cX19_is 24 = .ok (.iconst 1, 1) := dk_4 (dk_at dksX19_is_1 0 rfl rfl)
theorem dX19_is_25 : decode cX19_is 25 = .ok (.goto 45, 3) := dk_167 0 45 (dk_at dksX19_is_1 1 rfl rfl)
theorem dX19_is_28 : decode cX19_is 28 = .ok (.iconst 0, 1) := dk_3 (dk_at dksX19_is_1 4 rfl rfl)
theorem dX19_is_29 : decode cX19_is 29 = .ok (.goto 41, 3) := dk_167 0 41 (dk_at dksX19_is_1 5 rfl rfl)
theorem dX19_is_32 : decode cX19_is 32 = .ok (.aload_n 0, 1) := dk_42 (dk_at dksX19_is_1 8 rfl rfl)
theorem dX19_is_33 : decode cX19_is 33 = .ok (.getfield 13, 3) := dk_180 0 13 (dk_at dksX19_is_1 9 rfl rfl)
theorem dX19_is_36 : decode cX19_is 36 = .ok (.bipush 61, 2) := dk_16 61 (dk_at dksX19_is_1 12 rfl rfl)
theorem dX19_is_38 : decode cX19_is 38 = .ok (.if_icmp .ne 19, 3) := dk_160 0 19 (dk_at dksX19_is_1 14 rfl rfl)
theorem dX19_is_41 : decode cX19_is 41 = .ok (.iload_n 3, 1) := dk_29 (dk_at dksX19_is_1 17 rfl rfl)
theorem dX19_is_42 : decode cX19_is 42 = .ok (.aload_n 0, 1) := dk_42 (dk_at dksX19_is_1 18 rfl rfl)
theorem dX19_is_43 : decode cX19_is 43 = .ok (.getfield 16, 3) := dk_180 0 16 (dk_at dksX19_is_1 19 rfl rfl)
theorem dX19_is_46 : decode cX19_is 46 = .ok (.if_icmp .ne 7, 3) := dk_160 0 7 (dk_at dksX19_is_2 0 rfl rfl)
theorem dX19_is_49 : decode cX19_is 49 = .ok (.iconst 1, 1) := dk_4 (dk_at dksX19_is_2 3 rfl rfl)
theorem dX19_is_50 : decode cX19_is 50 = .ok (.goto 20, 3) := dk_167 0 20 (dk_at dksX19_is_2 4 rfl rfl)
theorem dX19_is_53 : decode cX19_is 53 = .ok (.iconst 0, 1) := dk_3 (dk_at dksX19_is_2 7 rfl rfl)
theorem dX19_is_54 : decode cX19_is 54 = .ok (.goto 16, 3) := dk_167 0 16 (dk_at dksX19_is_2 8 rfl rfl)
theorem dX19_is_57 : decode cX19_is 57 = .ok (.iload_n 3, 1) := dk_29 (dk_at dksX19_is_2 11 rfl rfl)
theorem dX19_is_58 : decode cX19_is 58 = .ok (.aload_n 0, 1) := dk_42 (dk_at dksX19_is_2 12 rfl rfl)
theorem dX19_is_59 : decode cX19_is 59 = .ok (.getfield 16, 3) := dk_180 0 16 (dk_at dksX19_is_2 13 rfl rfl)
theorem dX19_is_62 : decode cX19_is 62 = .ok (.if_icmp .le 7, 3) := dk_164 0 7 (dk_at dksX19_is_2 16 rfl rfl)
theorem dX19_is_65 : decode cX19_is 65 = .ok (.iconst 1, 1) := dk_4 (dk_at dksX19_is_2 19 rfl rfl)
theorem dX19_is_66 : decode cX19_is 66 = .ok (.goto 4, 3) := dk_167 0 4 (dk_at dksX19_is_2 20 rfl rfl)
theorem dX19_is_69 : decode cX19_is 69 = .ok (.iconst 0, 1) := dk_3 (dk_at dksX19_is_2 23 rfl rfl)
theorem dX19_is_70 : decode cX19_is 70 = .ok (.ireturn, 1) := dk_172 (dk_at dksX19_is_3 0 rfl rfl)
abbrev cX19_of : ByteArray := prog_6_method_2_code
def yX19_of : MethodName := ⟨RX19, "of", "(LPailRow;I)I"⟩
def dkwX19_of_3 : List UInt8 := [180, 0, 31, 28, 46, 172]
abbrev dktX19_of_3 : List UInt8 := dkwX19_of_3 ++ []
def dkwX19_of_2 : List UInt8 := [28, 172, 43, 180, 0, 19, 28, 46, 172, 43, 180, 0, 25, 28, 46, 172, 43, 180, 0, 28, 28, 46, 172, 43]
abbrev dktX19_of_2 : List UInt8 := dkwX19_of_2 ++ dktX19_of_3
def dkwX19_of_1 : List UInt8 := [170, 0, 0, 0, 0, 0, 0, 55, 0, 0, 0, 0, 0, 0, 0, 3, 0, 0, 0, 32, 0, 0, 0, 34, 0, 0, 0, 41, 0, 0, 0, 48]
abbrev dktX19_of_1 : List UInt8 := dkwX19_of_1 ++ dktX19_of_2
def dkwX19_of_0 : List UInt8 := [42, 180, 0, 7]
abbrev dktX19_of_0 : List UInt8 := dkwX19_of_0 ++ dktX19_of_1
theorem dksX19_of_0 : cX19_of.data.toList.drop 0 = dktX19_of_0 := by decide +kernel
theorem dksX19_of_1 : cX19_of.data.toList.drop 4 = dktX19_of_1 := dk_seg dksX19_of_0 4 rfl rfl
theorem dksX19_of_2 : cX19_of.data.toList.drop 36 = dktX19_of_2 := dk_seg dksX19_of_1 32 rfl rfl
theorem dksX19_of_3 : cX19_of.data.toList.drop 60 = dktX19_of_3 := dk_seg dksX19_of_2 24 rfl rfl
theorem dX19_of_0 : decode cX19_of 0 = .ok (.aload_n 0, 1) := dk_42 (dk_at dksX19_of_0 0 rfl rfl)
theorem dX19_of_1 : decode cX19_of 1 = .ok (.getfield 7, 3) := dk_180 0 7 (dk_at dksX19_of_0 1 rfl rfl)
theorem dX19_of_4 : decode cX19_of 4 = .ok (.tableswitch 55 0 3 #[32, 34, 41, 48], 32) := by decide +kernel
theorem dX19_of_36 : decode cX19_of 36 = .ok (.iload_n 2, 1) := dk_28 (dk_at dksX19_of_2 0 rfl rfl)
theorem dX19_of_37 : decode cX19_of 37 = .ok (.ireturn, 1) := dk_172 (dk_at dksX19_of_2 1 rfl rfl)
theorem dX19_of_38 : decode cX19_of 38 = .ok (.aload_n 1, 1) := dk_43 (dk_at dksX19_of_2 2 rfl rfl)
theorem dX19_of_39 : decode cX19_of 39 = .ok (.getfield 19, 3) := dk_180 0 19 (dk_at dksX19_of_2 3 rfl rfl)
theorem dX19_of_42 : decode cX19_of 42 = .ok (.iload_n 2, 1) := dk_28 (dk_at dksX19_of_2 6 rfl rfl)
theorem dX19_of_43 : decode cX19_of 43 = .ok (.iaload, 1) := dk_46 (dk_at dksX19_of_2 7 rfl rfl)
theorem dX19_of_44 : decode cX19_of 44 = .ok (.ireturn, 1) := dk_172 (dk_at dksX19_of_2 8 rfl rfl)
theorem dX19_of_45 : decode cX19_of 45 = .ok (.aload_n 1, 1) := dk_43 (dk_at dksX19_of_2 9 rfl rfl)
theorem dX19_of_46 : decode cX19_of 46 = .ok (.getfield 25, 3) := dk_180 0 25 (dk_at dksX19_of_2 10 rfl rfl)
theorem dX19_of_49 : decode cX19_of 49 = .ok (.iload_n 2, 1) := dk_28 (dk_at dksX19_of_2 13 rfl rfl)
theorem dX19_of_50 : decode cX19_of 50 = .ok (.iaload, 1) := dk_46 (dk_at dksX19_of_2 14 rfl rfl)
theorem dX19_of_51 : decode cX19_of 51 = .ok (.ireturn, 1) := dk_172 (dk_at dksX19_of_2 15 rfl rfl)
theorem dX19_of_52 : decode cX19_of 52 = .ok (.aload_n 1, 1) := dk_43 (dk_at dksX19_of_2 16 rfl rfl)
theorem dX19_of_53 : decode cX19_of 53 = .ok (.getfield 28, 3) := dk_180 0 28 (dk_at dksX19_of_2 17 rfl rfl)
theorem dX19_of_56 : decode cX19_of 56 = .ok (.iload_n 2, 1) := dk_28 (dk_at dksX19_of_2 20 rfl rfl)
theorem dX19_of_57 : decode cX19_of 57 = .ok (.iaload, 1) := dk_46 (dk_at dksX19_of_2 21 rfl rfl)
theorem dX19_of_58 : decode cX19_of 58 = .ok (.ireturn, 1) := dk_172 (dk_at dksX19_of_2 22 rfl rfl)
theorem dX19_of_59 : decode cX19_of 59 = .ok (.aload_n 1, 1) := dk_43 (dk_at dksX19_of_2 23 rfl rfl)
theorem dX19_of_60 : decode cX19_of 60 = .ok (.getfield 31, 3) := dk_180 0 31 (dk_at dksX19_of_3 0 rfl rfl)
theorem dX19_of_63 : decode cX19_of 63 = .ok (.iload_n 2, 1) := dk_28 (dk_at dksX19_of_3 3 rfl rfl)
theorem dX19_of_64 : decode cX19_of 64 = .ok (.iaload, 1) := dk_46 (dk_at dksX19_of_3 4 rfl rfl)
theorem dX19_of_65 : decode cX19_of 65 = .ok (.ireturn, 1) := dk_172 (dk_at dksX19_of_3 5 rfl rfl)
theorem q131 : (Jvm.Cond.initialized "PailRow$Counts") ∈ lw_all := lw_g (lw_at lw_m1 29 rfl) rfl
theorem q698 : (Jvm.Cond.fieldLinkNest "PailRow$Counts" (19 : Nat) "PailRow" "threw" "[I" "PailRow") ∈ lw_tbl := lw_at lw_m3 116 rfl
theorem q700 : (Jvm.Cond.fieldLinkNest "PailRow$Counts" (25 : Nat) "PailRow" "lost" "[I" "PailRow") ∈ lw_tbl := lw_at lw_m3 118 rfl
theorem q703 : (Jvm.Cond.fieldLinkNest "PailRow$Counts" (28 : Nat) "PailRow" "burning" "[I" "PailRow") ∈ lw_tbl := lw_at lw_m3 121 rfl
theorem q705 : (Jvm.Cond.fieldLinkNest "PailRow$Counts" (31 : Nat) "PailRow" "wells" "[I" "PailRow") ∈ lw_tbl := lw_at lw_m3 123 rfl
theorem q1467 : (Jvm.Cond.instantiable "PailRow$Counts" (3 : Nat)) ∈ lw_all := lw_g (lw_at lw_m6 165 rfl) rfl
theorem q1469 : (Jvm.Cond.instanceMethod ({ cls := "PailRow$Counts", name := "<init>", desc := "(III)V" } : Jvm.MethodName)) ∈ lw_all := lw_g (lw_at lw_m6 167 rfl) rfl
theorem q1470 : (Jvm.Cond.code ({ cls := "PailRow$Counts", name := "<init>", desc := "(III)V" } : Jvm.MethodName) prog_6_method_1_code (4 : Nat) (Option.none : Option Jvm.ClassFile.FieldType)) ∈ lw_all := lw_g (lw_at lw_m6 168 rfl) rfl
theorem q1471 : (Jvm.Cond.methodLinkNest "PailRow$Counts" (1 : Nat) ({ cls := "PailRow$Cond", name := "<init>", desc := "()V" } : Jvm.MethodName) "PailRow") ∈ lw_tbl := lw_at lw_m6 169 rfl
theorem q1472 : (Jvm.Cond.fieldLink "PailRow$Counts" (7 : Nat) "PailRow$Counts" "what" "I") ∈ lw_all := lw_g (lw_at lw_m6 170 rfl) rfl
theorem q1473 : (Jvm.Cond.fieldLink "PailRow$Counts" (13 : Nat) "PailRow$Counts" "sign" "I") ∈ lw_all := lw_g (lw_at lw_m6 171 rfl) rfl
theorem q1474 : (Jvm.Cond.fieldLink "PailRow$Counts" (16 : Nat) "PailRow$Counts" "number" "I") ∈ lw_all := lw_g (lw_at lw_m6 172 rfl) rfl
theorem q1475 : (Jvm.Cond.laysFinal "PailRow$Counts" "PailRow$Counts" "what" "I") ∈ lw_all := lw_g (lw_at lw_m6 173 rfl) rfl
theorem q1476 : (Jvm.Cond.soleField "PailRow$Counts" "what") ∈ lw_all := lw_g (lw_at lw_m6 174 rfl) rfl
theorem q1477 : (Jvm.Cond.laysFinal "PailRow$Counts" "PailRow$Counts" "sign" "I") ∈ lw_all := lw_g (lw_at lw_m6 175 rfl) rfl
theorem q1478 : (Jvm.Cond.soleField "PailRow$Counts" "sign") ∈ lw_all := lw_g (lw_at lw_m6 176 rfl) rfl
theorem q1479 : (Jvm.Cond.laysFinal "PailRow$Counts" "PailRow$Counts" "number" "I") ∈ lw_all := lw_g (lw_at lw_m6 177 rfl) rfl
theorem q1480 : (Jvm.Cond.soleField "PailRow$Counts" "number") ∈ lw_all := lw_g (lw_at lw_m6 178 rfl) rfl
theorem q1481 : (Jvm.Cond.superclass "PailRow$Counts" "PailRow$Cond") ∈ lw_all := lw_g (lw_at lw_m6 179 rfl) rfl
theorem q1531 : (Jvm.Cond.instanceMethod ({ cls := "PailRow$Counts", name := "is", desc := "(LPailRow;I)Z" } : Jvm.MethodName)) ∈ lw_all := lw_g (lw_at lw_m6 229 rfl) rfl
theorem q1532 : (Jvm.Cond.code ({ cls := "PailRow$Counts", name := "is", desc := "(LPailRow;I)Z" } : Jvm.MethodName) prog_6_method_3_code (4 : Nat) (Option.some Jvm.ClassFile.FieldType.boolean)) ∈ lw_all := lw_g (lw_at lw_m6 230 rfl) rfl
theorem q1533 : (Jvm.Cond.methodLink "PailRow$Counts" (34 : Nat) ({ cls := "PailRow$Counts", name := "of", desc := "(LPailRow;I)I" } : Jvm.MethodName)) ∈ lw_all := lw_g (lw_at lw_m6 231 rfl) rfl
theorem q1534 : (Jvm.Cond.privateMethod ({ cls := "PailRow$Counts", name := "of", desc := "(LPailRow;I)I" } : Jvm.MethodName)) ∈ lw_tbl := lw_at lw_m6 232 rfl
theorem q1535 : (Jvm.Cond.instanceMethod ({ cls := "PailRow$Counts", name := "of", desc := "(LPailRow;I)I" } : Jvm.MethodName)) ∈ lw_all := lw_g (lw_at lw_m6 233 rfl) rfl
theorem q1536 : (Jvm.Cond.code ({ cls := "PailRow$Counts", name := "of", desc := "(LPailRow;I)I" } : Jvm.MethodName) prog_6_method_2_code (3 : Nat) (Option.some Jvm.ClassFile.FieldType.int)) ∈ lw_all := lw_g (lw_at lw_m6 234 rfl) rfl
theorem q1543 : (Jvm.Cond.selects "PailRow$Counts" ({ cls := "PailRow$Cond", name := "is", desc := "(LPailRow;I)Z" } : Jvm.MethodName) ({ cls := "PailRow$Counts", name := "is", desc := "(LPailRow;I)Z" } : Jvm.MethodName)) ∈ lw_all := lw_g (lw_at lw_m7 1 rfl) rfl
theorem q2364 : (Jvm.Cond.castable "PailRow$Counts" "java/lang/Object") ∈ lw_tbl := lw_at lw_m10 102 rfl
theorem in_X19 : ∀ w ∈ wsX190, w ∈ lw_all := lw_in wsX190 [1475, 1477, 1479] (by decide +kernel) (by decide +kernel)
/-! PailRow$Out -/
set_option maxRecDepth 100000
def RX20 : String := "PailRow$Out"
abbrev cX20_init : ByteArray := prog_10_method_1_code
def yX20_init : MethodName := ⟨RX20, "<init>", "()V"⟩
theorem dX20_init_0 : decode cX20_init 0 = .ok (.aload_n 0, 1) := by decide +kernel
theorem dX20_init_1 : decode cX20_init 1 = .ok (.invokespecial 1, 3) := by decide +kernel
theorem dX20_init_4 : decode cX20_init 4 = .ok (.return_, 1) := by decide +kernel
abbrev cX20_is : ByteArray := prog_10_method_2_code
def yX20_is : MethodName := ⟨RX20, "is", "(LPailRow;I)Z"⟩
def dkwX20_is_0 : List UInt8 := [43, 180, 0, 7, 28, 46, 154, 0, 7, 4, 167, 0, 4, 3, 172]
abbrev dktX20_is_0 : List UInt8 := dkwX20_is_0 ++ []
theorem dksX20_is_0 : cX20_is.data.toList.drop 0 = dktX20_is_0 := by decide +kernel
theorem dX20_is_0 : decode cX20_is 0 = .ok (.aload_n 1, 1) := dk_43 (dk_at dksX20_is_0 0 rfl rfl)
theorem dX20_is_1 : decode cX20_is 1 = .ok (.getfield 7, 3) := dk_180 0 7 (dk_at dksX20_is_0 1 rfl rfl)
theorem dX20_is_4 : decode cX20_is 4 = .ok (.iload_n 2, 1) := dk_28 (dk_at dksX20_is_0 4 rfl rfl)
theorem dX20_is_5 : decode cX20_is 5 = .ok (.iaload, 1) := dk_46 (dk_at dksX20_is_0 5 rfl rfl)
theorem dX20_is_6 : decode cX20_is 6 = .ok (.ifCond .ne 7, 3) := dk_154 0 7 (dk_at dksX20_is_0 6 rfl rfl)
theorem dX20_is_9 : decode cX20_is 9 = .ok (.iconst 1, 1) := dk_4 (dk_at dksX20_is_0 9 rfl rfl)
theorem dX20_is_10 : decode cX20_is 10 = .ok (.goto 4, 3) := dk_167 0 4 (dk_at dksX20_is_0 10 rfl rfl)
theorem dX20_is_13 : decode cX20_is 13 = .ok (.iconst 0, 1) := dk_3 (dk_at dksX20_is_0 13 rfl rfl)
theorem dX20_is_14 : decode cX20_is 14 = .ok (.ireturn, 1) := dk_172 (dk_at dksX20_is_0 14 rfl rfl)
theorem q132 : (Jvm.Cond.initialized "PailRow$Out") ∈ lw_all := lw_g (lw_at lw_m1 30 rfl) rfl
theorem q702 : (Jvm.Cond.fieldLinkNest "PailRow$Out" (7 : Nat) "PailRow" "burning" "[I" "PailRow") ∈ lw_tbl := lw_at lw_m3 120 rfl
theorem q1483 : (Jvm.Cond.instantiable "PailRow$Out" (0 : Nat)) ∈ lw_all := lw_g (lw_at lw_m6 181 rfl) rfl
theorem q1485 : (Jvm.Cond.instanceMethod ({ cls := "PailRow$Out", name := "<init>", desc := "()V" } : Jvm.MethodName)) ∈ lw_all := lw_g (lw_at lw_m6 183 rfl) rfl
theorem q1486 : (Jvm.Cond.code ({ cls := "PailRow$Out", name := "<init>", desc := "()V" } : Jvm.MethodName) prog_10_method_1_code (1 : Nat) (Option.none : Option Jvm.ClassFile.FieldType)) ∈ lw_all := lw_g (lw_at lw_m6 184 rfl) rfl
theorem q1487 : (Jvm.Cond.methodLinkNest "PailRow$Out" (1 : Nat) ({ cls := "PailRow$Cond", name := "<init>", desc := "()V" } : Jvm.MethodName) "PailRow") ∈ lw_tbl := lw_at lw_m6 185 rfl
theorem q1488 : (Jvm.Cond.superclass "PailRow$Out" "PailRow$Cond") ∈ lw_all := lw_g (lw_at lw_m6 186 rfl) rfl
theorem q1540 : (Jvm.Cond.instanceMethod ({ cls := "PailRow$Out", name := "is", desc := "(LPailRow;I)Z" } : Jvm.MethodName)) ∈ lw_all := lw_g (lw_at lw_m6 238 rfl) rfl
theorem q1541 : (Jvm.Cond.code ({ cls := "PailRow$Out", name := "is", desc := "(LPailRow;I)Z" } : Jvm.MethodName) prog_10_method_2_code (3 : Nat) (Option.some Jvm.ClassFile.FieldType.boolean)) ∈ lw_all := lw_g (lw_at lw_m6 239 rfl) rfl
theorem q1545 : (Jvm.Cond.selects "PailRow$Out" ({ cls := "PailRow$Cond", name := "is", desc := "(LPailRow;I)Z" } : Jvm.MethodName) ({ cls := "PailRow$Out", name := "is", desc := "(LPailRow;I)Z" } : Jvm.MethodName)) ∈ lw_all := lw_g (lw_at lw_m7 3 rfl) rfl
theorem q2365 : (Jvm.Cond.castable "PailRow$Out" "java/lang/Object") ∈ lw_tbl := lw_at lw_m10 103 rfl
/-! PailRow$Both -/
set_option maxRecDepth 100000
def RX21 : String := "PailRow$Both"
def TX21 : u_T := fun k => match k with
  | 0 => ("PailRow$Both", "a", "LPailRow$Cond;", true)
  | _ => ("PailRow$Both", "b", "LPailRow$Cond;", true)
def tyX21 : Nat → FieldType := fun k => match k with
  | 0 => .object "PailRow$Cond"
  | _ => .object "PailRow$Cond"
abbrev wsX210 : List Cond := u_ws RX21 TX21 2
theorem nmX21 : ∀ a, a < 2 → ∀ b, b < 2 → a ≠ b → (TX21 a).2.1 ≠ (TX21 b).2.1 := by decide +kernel
theorem tyX21_ok : ∀ k, k < 2 → parseFieldDescriptor (TX21 k).2.2.1 = some (tyX21 k) := by decide +kernel
abbrev cX21_init : ByteArray := prog_4_method_1_code
def yX21_init : MethodName := ⟨RX21, "<init>", "(LPailRow$Cond;LPailRow$Cond;)V"⟩
def dkwX21_init_0 : List UInt8 := [42, 183, 0, 1, 42, 43, 181, 0, 7, 42, 44, 181, 0, 13, 177]
abbrev dktX21_init_0 : List UInt8 := dkwX21_init_0 ++ []
theorem dksX21_init_0 : cX21_init.data.toList.drop 0 = dktX21_init_0 := by decide +kernel
theorem dX21_init_0 : decode cX21_init 0 = .ok (.aload_n 0, 1) := dk_42 (dk_at dksX21_init_0 0 rfl rfl)
theorem dX21_init_1 : decode cX21_init 1 = .ok (.invokespecial 1, 3) := dk_183 0 1 (dk_at dksX21_init_0 1 rfl rfl)
theorem dX21_init_4 : decode cX21_init 4 = .ok (.aload_n 0, 1) := dk_42 (dk_at dksX21_init_0 4 rfl rfl)
theorem dX21_init_5 : decode cX21_init 5 = .ok (.aload_n 1, 1) := dk_43 (dk_at dksX21_init_0 5 rfl rfl)
theorem dX21_init_6 : decode cX21_init 6 = .ok (.putfield 7, 3) := dk_181 0 7 (dk_at dksX21_init_0 6 rfl rfl)
theorem dX21_init_9 : decode cX21_init 9 = .ok (.aload_n 0, 1) := dk_42 (dk_at dksX21_init_0 9 rfl rfl)
theorem dX21_init_10 : decode cX21_init 10 = .ok (.aload_n 2, 1) := dk_44 (dk_at dksX21_init_0 10 rfl rfl)
theorem dX21_init_11 : decode cX21_init 11 = .ok (.putfield 13, 3) := dk_181 0 13 (dk_at dksX21_init_0 11 rfl rfl)
theorem dX21_init_14 : decode cX21_init 14 = .ok (.return_, 1) := dk_177 (dk_at dksX21_init_0 14 rfl rfl)
abbrev cX21_is : ByteArray := prog_4_method_2_code
def yX21_is : MethodName := ⟨RX21, "is", "(LPailRow;I)Z"⟩
def dkwX21_is_1 : List UInt8 := [4, 167, 0, 4, 3, 172]
abbrev dktX21_is_1 : List UInt8 := dkwX21_is_1 ++ []
def dkwX21_is_0 : List UInt8 := [42, 180, 0, 7, 43, 28, 182, 0, 16, 153, 0, 19, 42, 180, 0, 13, 43, 28, 182, 0, 16, 153, 0, 7]
abbrev dktX21_is_0 : List UInt8 := dkwX21_is_0 ++ dktX21_is_1
theorem dksX21_is_0 : cX21_is.data.toList.drop 0 = dktX21_is_0 := by decide +kernel
theorem dksX21_is_1 : cX21_is.data.toList.drop 24 = dktX21_is_1 := dk_seg dksX21_is_0 24 rfl rfl
theorem dX21_is_0 : decode cX21_is 0 = .ok (.aload_n 0, 1) := dk_42 (dk_at dksX21_is_0 0 rfl rfl)
theorem dX21_is_1 : decode cX21_is 1 = .ok (.getfield 7, 3) := dk_180 0 7 (dk_at dksX21_is_0 1 rfl rfl)
theorem dX21_is_4 : decode cX21_is 4 = .ok (.aload_n 1, 1) := dk_43 (dk_at dksX21_is_0 4 rfl rfl)
theorem dX21_is_5 : decode cX21_is 5 = .ok (.iload_n 2, 1) := dk_28 (dk_at dksX21_is_0 5 rfl rfl)
theorem dX21_is_6 : decode cX21_is 6 = .ok (.invokevirtual 16, 3) := dk_182 0 16 (dk_at dksX21_is_0 6 rfl rfl)
theorem dX21_is_9 : decode cX21_is 9 = .ok (.ifCond .eq 19, 3) := dk_153 0 19 (dk_at dksX21_is_0 9 rfl rfl)
theorem dX21_is_12 : decode cX21_is 12 = .ok (.aload_n 0, 1) := dk_42 (dk_at dksX21_is_0 12 rfl rfl)
theorem dX21_is_13 : decode cX21_is 13 = .ok (.getfield 13, 3) := dk_180 0 13 (dk_at dksX21_is_0 13 rfl rfl)
theorem dX21_is_16 : decode cX21_is 16 = .ok (.aload_n 1, 1) := dk_43 (dk_at dksX21_is_0 16 rfl rfl)
theorem dX21_is_17 : decode cX21_is 17 = .ok (.iload_n 2, 1) := dk_28 (dk_at dksX21_is_0 17 rfl rfl)
theorem dX21_is_18 : decode cX21_is 18 = .ok (.invokevirtual 16, 3) := dk_182 0 16 (dk_at dksX21_is_0 18 rfl rfl)
theorem dX21_is_21 : decode cX21_is 21 = .ok (.ifCond .eq 7, 3) := dk_153 0 7 (dk_at dksX21_is_0 21 rfl rfl)
theorem dX21_is_24 : decode cX21_is 24 = .ok (.iconst 1, 1) := dk_4 (dk_at dksX21_is_1 0 rfl rfl)
theorem dX21_is_25 : decode cX21_is 25 = .ok (.goto 4, 3) := dk_167 0 4 (dk_at dksX21_is_1 1 rfl rfl)
theorem dX21_is_28 : decode cX21_is 28 = .ok (.iconst 0, 1) := dk_3 (dk_at dksX21_is_1 4 rfl rfl)
theorem dX21_is_29 : decode cX21_is 29 = .ok (.ireturn, 1) := dk_172 (dk_at dksX21_is_1 5 rfl rfl)
theorem q133 : (Jvm.Cond.initialized "PailRow$Both") ∈ lw_all := lw_g (lw_at lw_m1 31 rfl) rfl
theorem q1491 : (Jvm.Cond.instantiable "PailRow$Both" (2 : Nat)) ∈ lw_all := lw_g (lw_at lw_m6 189 rfl) rfl
theorem q1493 : (Jvm.Cond.instanceMethod ({ cls := "PailRow$Both", name := "<init>", desc := "(LPailRow$Cond;LPailRow$Cond;)V" } : Jvm.MethodName)) ∈ lw_all := lw_g (lw_at lw_m6 191 rfl) rfl
theorem q1494 : (Jvm.Cond.code ({ cls := "PailRow$Both", name := "<init>", desc := "(LPailRow$Cond;LPailRow$Cond;)V" } : Jvm.MethodName) prog_4_method_1_code (3 : Nat) (Option.none : Option Jvm.ClassFile.FieldType)) ∈ lw_all := lw_g (lw_at lw_m6 192 rfl) rfl
theorem q1495 : (Jvm.Cond.methodLinkNest "PailRow$Both" (1 : Nat) ({ cls := "PailRow$Cond", name := "<init>", desc := "()V" } : Jvm.MethodName) "PailRow") ∈ lw_tbl := lw_at lw_m6 193 rfl
theorem q1496 : (Jvm.Cond.fieldLink "PailRow$Both" (7 : Nat) "PailRow$Both" "a" "LPailRow$Cond;") ∈ lw_all := lw_g (lw_at lw_m6 194 rfl) rfl
theorem q1497 : (Jvm.Cond.fieldLink "PailRow$Both" (13 : Nat) "PailRow$Both" "b" "LPailRow$Cond;") ∈ lw_all := lw_g (lw_at lw_m6 195 rfl) rfl
theorem q1498 : (Jvm.Cond.laysFinal "PailRow$Both" "PailRow$Both" "a" "LPailRow$Cond;") ∈ lw_all := lw_g (lw_at lw_m6 196 rfl) rfl
theorem q1499 : (Jvm.Cond.soleField "PailRow$Both" "a") ∈ lw_all := lw_g (lw_at lw_m6 197 rfl) rfl
theorem q1500 : (Jvm.Cond.laysFinal "PailRow$Both" "PailRow$Both" "b" "LPailRow$Cond;") ∈ lw_all := lw_g (lw_at lw_m6 198 rfl) rfl
theorem q1501 : (Jvm.Cond.soleField "PailRow$Both" "b") ∈ lw_all := lw_g (lw_at lw_m6 199 rfl) rfl
theorem q1502 : (Jvm.Cond.superclass "PailRow$Both" "PailRow$Cond") ∈ lw_all := lw_g (lw_at lw_m6 200 rfl) rfl
theorem q1528 : (Jvm.Cond.instanceMethod ({ cls := "PailRow$Both", name := "is", desc := "(LPailRow;I)Z" } : Jvm.MethodName)) ∈ lw_all := lw_g (lw_at lw_m6 226 rfl) rfl
theorem q1529 : (Jvm.Cond.code ({ cls := "PailRow$Both", name := "is", desc := "(LPailRow;I)Z" } : Jvm.MethodName) prog_4_method_2_code (3 : Nat) (Option.some Jvm.ClassFile.FieldType.boolean)) ∈ lw_all := lw_g (lw_at lw_m6 227 rfl) rfl
theorem q1530 : (Jvm.Cond.methodLink "PailRow$Both" (16 : Nat) ({ cls := "PailRow$Cond", name := "is", desc := "(LPailRow;I)Z" } : Jvm.MethodName)) ∈ lw_all := lw_g (lw_at lw_m6 228 rfl) rfl
theorem q1542 : (Jvm.Cond.selects "PailRow$Both" ({ cls := "PailRow$Cond", name := "is", desc := "(LPailRow;I)Z" } : Jvm.MethodName) ({ cls := "PailRow$Both", name := "is", desc := "(LPailRow;I)Z" } : Jvm.MethodName)) ∈ lw_all := lw_g (lw_at lw_m7 0 rfl) rfl
theorem q2366 : (Jvm.Cond.castable "PailRow$Both" "java/lang/Object") ∈ lw_tbl := lw_at lw_m10 104 rfl
theorem in_X21 : ∀ w ∈ wsX210, w ∈ lw_all := lw_in wsX210 [1498, 1500] (by decide +kernel) (by decide +kernel)
/-! PailRow$Any -/
set_option maxRecDepth 100000
def RX22 : String := "PailRow$Any"
def TX22 : u_T := fun k => match k with
  | 0 => ("PailRow$Any", "a", "LPailRow$Cond;", true)
  | _ => ("PailRow$Any", "b", "LPailRow$Cond;", true)
def tyX22 : Nat → FieldType := fun k => match k with
  | 0 => .object "PailRow$Cond"
  | _ => .object "PailRow$Cond"
abbrev wsX220 : List Cond := u_ws RX22 TX22 2
theorem nmX22 : ∀ a, a < 2 → ∀ b, b < 2 → a ≠ b → (TX22 a).2.1 ≠ (TX22 b).2.1 := by decide +kernel
theorem tyX22_ok : ∀ k, k < 2 → parseFieldDescriptor (TX22 k).2.2.1 = some (tyX22 k) := by decide +kernel
abbrev cX22_init : ByteArray := prog_2_method_1_code
def yX22_init : MethodName := ⟨RX22, "<init>", "(LPailRow$Cond;LPailRow$Cond;)V"⟩
def dkwX22_init_0 : List UInt8 := [42, 183, 0, 1, 42, 43, 181, 0, 7, 42, 44, 181, 0, 13, 177]
abbrev dktX22_init_0 : List UInt8 := dkwX22_init_0 ++ []
theorem dksX22_init_0 : cX22_init.data.toList.drop 0 = dktX22_init_0 := by decide +kernel
theorem dX22_init_0 : decode cX22_init 0 = .ok (.aload_n 0, 1) := dk_42 (dk_at dksX22_init_0 0 rfl rfl)
theorem dX22_init_1 : decode cX22_init 1 = .ok (.invokespecial 1, 3) := dk_183 0 1 (dk_at dksX22_init_0 1 rfl rfl)
theorem dX22_init_4 : decode cX22_init 4 = .ok (.aload_n 0, 1) := dk_42 (dk_at dksX22_init_0 4 rfl rfl)
theorem dX22_init_5 : decode cX22_init 5 = .ok (.aload_n 1, 1) := dk_43 (dk_at dksX22_init_0 5 rfl rfl)
theorem dX22_init_6 : decode cX22_init 6 = .ok (.putfield 7, 3) := dk_181 0 7 (dk_at dksX22_init_0 6 rfl rfl)
theorem dX22_init_9 : decode cX22_init 9 = .ok (.aload_n 0, 1) := dk_42 (dk_at dksX22_init_0 9 rfl rfl)
theorem dX22_init_10 : decode cX22_init 10 = .ok (.aload_n 2, 1) := dk_44 (dk_at dksX22_init_0 10 rfl rfl)
theorem dX22_init_11 : decode cX22_init 11 = .ok (.putfield 13, 3) := dk_181 0 13 (dk_at dksX22_init_0 11 rfl rfl)
theorem dX22_init_14 : decode cX22_init 14 = .ok (.return_, 1) := dk_177 (dk_at dksX22_init_0 14 rfl rfl)
abbrev cX22_is : ByteArray := prog_2_method_2_code
def yX22_is : MethodName := ⟨RX22, "is", "(LPailRow;I)Z"⟩
def dkwX22_is_1 : List UInt8 := [4, 167, 0, 4, 3, 172]
abbrev dktX22_is_1 : List UInt8 := dkwX22_is_1 ++ []
def dkwX22_is_0 : List UInt8 := [42, 180, 0, 7, 43, 28, 182, 0, 16, 154, 0, 15, 42, 180, 0, 13, 43, 28, 182, 0, 16, 153, 0, 7]
abbrev dktX22_is_0 : List UInt8 := dkwX22_is_0 ++ dktX22_is_1
theorem dksX22_is_0 : cX22_is.data.toList.drop 0 = dktX22_is_0 := by decide +kernel
theorem dksX22_is_1 : cX22_is.data.toList.drop 24 = dktX22_is_1 := dk_seg dksX22_is_0 24 rfl rfl
theorem dX22_is_0 : decode cX22_is 0 = .ok (.aload_n 0, 1) := dk_42 (dk_at dksX22_is_0 0 rfl rfl)
theorem dX22_is_1 : decode cX22_is 1 = .ok (.getfield 7, 3) := dk_180 0 7 (dk_at dksX22_is_0 1 rfl rfl)
theorem dX22_is_4 : decode cX22_is 4 = .ok (.aload_n 1, 1) := dk_43 (dk_at dksX22_is_0 4 rfl rfl)
theorem dX22_is_5 : decode cX22_is 5 = .ok (.iload_n 2, 1) := dk_28 (dk_at dksX22_is_0 5 rfl rfl)
theorem dX22_is_6 : decode cX22_is 6 = .ok (.invokevirtual 16, 3) := dk_182 0 16 (dk_at dksX22_is_0 6 rfl rfl)
theorem dX22_is_9 : decode cX22_is 9 = .ok (.ifCond .ne 15, 3) := dk_154 0 15 (dk_at dksX22_is_0 9 rfl rfl)
theorem dX22_is_12 : decode cX22_is 12 = .ok (.aload_n 0, 1) := dk_42 (dk_at dksX22_is_0 12 rfl rfl)
theorem dX22_is_13 : decode cX22_is 13 = .ok (.getfield 13, 3) := dk_180 0 13 (dk_at dksX22_is_0 13 rfl rfl)
theorem dX22_is_16 : decode cX22_is 16 = .ok (.aload_n 1, 1) := dk_43 (dk_at dksX22_is_0 16 rfl rfl)
theorem dX22_is_17 : decode cX22_is 17 = .ok (.iload_n 2, 1) := dk_28 (dk_at dksX22_is_0 17 rfl rfl)
theorem dX22_is_18 : decode cX22_is 18 = .ok (.invokevirtual 16, 3) := dk_182 0 16 (dk_at dksX22_is_0 18 rfl rfl)
theorem dX22_is_21 : decode cX22_is 21 = .ok (.ifCond .eq 7, 3) := dk_153 0 7 (dk_at dksX22_is_0 21 rfl rfl)
theorem dX22_is_24 : decode cX22_is 24 = .ok (.iconst 1, 1) := dk_4 (dk_at dksX22_is_1 0 rfl rfl)
theorem dX22_is_25 : decode cX22_is 25 = .ok (.goto 4, 3) := dk_167 0 4 (dk_at dksX22_is_1 1 rfl rfl)
theorem dX22_is_28 : decode cX22_is 28 = .ok (.iconst 0, 1) := dk_3 (dk_at dksX22_is_1 4 rfl rfl)
theorem dX22_is_29 : decode cX22_is 29 = .ok (.ireturn, 1) := dk_172 (dk_at dksX22_is_1 5 rfl rfl)
theorem q134 : (Jvm.Cond.initialized "PailRow$Any") ∈ lw_all := lw_g (lw_at lw_m1 32 rfl) rfl
theorem q1505 : (Jvm.Cond.instantiable "PailRow$Any" (2 : Nat)) ∈ lw_all := lw_g (lw_at lw_m6 203 rfl) rfl
theorem q1507 : (Jvm.Cond.instanceMethod ({ cls := "PailRow$Any", name := "<init>", desc := "(LPailRow$Cond;LPailRow$Cond;)V" } : Jvm.MethodName)) ∈ lw_all := lw_g (lw_at lw_m6 205 rfl) rfl
theorem q1508 : (Jvm.Cond.code ({ cls := "PailRow$Any", name := "<init>", desc := "(LPailRow$Cond;LPailRow$Cond;)V" } : Jvm.MethodName) prog_2_method_1_code (3 : Nat) (Option.none : Option Jvm.ClassFile.FieldType)) ∈ lw_all := lw_g (lw_at lw_m6 206 rfl) rfl
theorem q1509 : (Jvm.Cond.methodLinkNest "PailRow$Any" (1 : Nat) ({ cls := "PailRow$Cond", name := "<init>", desc := "()V" } : Jvm.MethodName) "PailRow") ∈ lw_tbl := lw_at lw_m6 207 rfl
theorem q1510 : (Jvm.Cond.fieldLink "PailRow$Any" (7 : Nat) "PailRow$Any" "a" "LPailRow$Cond;") ∈ lw_all := lw_g (lw_at lw_m6 208 rfl) rfl
theorem q1511 : (Jvm.Cond.fieldLink "PailRow$Any" (13 : Nat) "PailRow$Any" "b" "LPailRow$Cond;") ∈ lw_all := lw_g (lw_at lw_m6 209 rfl) rfl
theorem q1512 : (Jvm.Cond.laysFinal "PailRow$Any" "PailRow$Any" "a" "LPailRow$Cond;") ∈ lw_all := lw_g (lw_at lw_m6 210 rfl) rfl
theorem q1513 : (Jvm.Cond.soleField "PailRow$Any" "a") ∈ lw_all := lw_g (lw_at lw_m6 211 rfl) rfl
theorem q1514 : (Jvm.Cond.laysFinal "PailRow$Any" "PailRow$Any" "b" "LPailRow$Cond;") ∈ lw_all := lw_g (lw_at lw_m6 212 rfl) rfl
theorem q1515 : (Jvm.Cond.soleField "PailRow$Any" "b") ∈ lw_all := lw_g (lw_at lw_m6 213 rfl) rfl
theorem q1516 : (Jvm.Cond.superclass "PailRow$Any" "PailRow$Cond") ∈ lw_all := lw_g (lw_at lw_m6 214 rfl) rfl
theorem q1524 : (Jvm.Cond.selects "PailRow$Any" ({ cls := "PailRow$Cond", name := "is", desc := "(LPailRow;I)Z" } : Jvm.MethodName) ({ cls := "PailRow$Any", name := "is", desc := "(LPailRow;I)Z" } : Jvm.MethodName)) ∈ lw_all := lw_g (lw_at lw_m6 222 rfl) rfl
theorem q1525 : (Jvm.Cond.instanceMethod ({ cls := "PailRow$Any", name := "is", desc := "(LPailRow;I)Z" } : Jvm.MethodName)) ∈ lw_all := lw_g (lw_at lw_m6 223 rfl) rfl
theorem q1526 : (Jvm.Cond.code ({ cls := "PailRow$Any", name := "is", desc := "(LPailRow;I)Z" } : Jvm.MethodName) prog_2_method_2_code (3 : Nat) (Option.some Jvm.ClassFile.FieldType.boolean)) ∈ lw_all := lw_g (lw_at lw_m6 224 rfl) rfl
theorem q1527 : (Jvm.Cond.methodLink "PailRow$Any" (16 : Nat) ({ cls := "PailRow$Cond", name := "is", desc := "(LPailRow;I)Z" } : Jvm.MethodName)) ∈ lw_all := lw_g (lw_at lw_m6 225 rfl) rfl
theorem q2367 : (Jvm.Cond.castable "PailRow$Any" "java/lang/Object") ∈ lw_tbl := lw_at lw_m10 105 rfl
theorem in_X22 : ∀ w ∈ wsX220, w ∈ lw_all := lw_in wsX220 [1512, 1514] (by decide +kernel) (by decide +kernel)
