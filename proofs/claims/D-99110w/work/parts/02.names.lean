/-! DECODE ROWS BY BYTES: one lemma an opcode; a method's code is cut into short pieces once, and a row reads its own piece alone. -/
set_option maxRecDepth 100000
/-- the code has just these bytes from pc on -/
def DkAt (code : ByteArray) (pc : Nat) (bs : List UInt8) : Prop := ∀ (j : Nat) (b : UInt8), bs[j]? = some b → code.data.toList[pc + j]? = some b
/-- the piece W has the bytes bs from its place j on -/
def dkIn (W : List UInt8) (j : Nat) (bs : List UInt8) : Bool := decide ((W.drop j).take bs.length = bs)
theorem dk_seg {l W T : List UInt8} {o o2 : Nat} (h : l.drop o = W ++ T) (n : Nat) (hn : W.length = n) (ho : o + n = o2) : l.drop o2 = T := by
  subst ho
  rw [← List.drop_drop, h, List.drop_left' hn]
theorem dk_at {code : ByteArray} {W T bs : List UInt8} {o pc : Nat} (h : code.data.toList.drop o = W ++ T) (j : Nat) (hp : o + j = pc) (hw : dkIn W j bs = true) : DkAt code pc bs := by
  subst hp
  intro i b e
  have h1 := of_decide_eq_true hw
  have h2 : i < bs.length := (List.getElem?_eq_some_iff.mp e).1
  have h3 : W[j + i]? = some b := by
    rw [← h1, List.getElem?_take, if_pos h2, List.getElem?_drop] at e
    exact e
  have h4 : j + i < W.length := (List.getElem?_eq_some_iff.mp h3).1
  have h5 : (code.data.toList.drop o)[j + i]? = some b := by
    rw [h, List.getElem?_append_left h4]
    exact h3
  rw [List.getElem?_drop, ← Nat.add_assoc] at h5
  exact h5
theorem dk_u1 {A : ByteArray} {p : Nat} {b : UInt8} (h : A.data.toList[p]? = some b) : (Reader.u1 : Reader DecodeError Nat) A p = .ok (b.toNat, p + 1) := by
  obtain ⟨h1, h2⟩ := List.getElem?_eq_some_iff.mp h
  have h3 : p < A.size := by simpa using h1
  have h4 : A[p]'h3 = b := h2
  have e : (Reader.u1 : Reader DecodeError Nat) A p = (if h : p < A.size then .ok (A[p].toNat, p + 1) else .error (HasTruncated.truncated p)) := by
    show (do if h : p < A.size then do set (p + 1); Pure.pure A[p].toNat else MonadExcept.throw (HasTruncated.truncated p) : Reader DecodeError Nat) A p = _
    by_cases hi : p < A.size
    · rw [dif_pos hi, dif_pos hi]; rfl
    · rw [dif_neg hi, dif_neg hi]; rfl
  rw [e, dif_pos h3, h4]
theorem dk_bind {α β : Type} {r : Reader DecodeError α} {f : α → Reader DecodeError β} {A : ByteArray} {p s : Nat} {a : α} (h : r A p = .ok (a, s)) : (r >>= f) A p = f a A s := by
  show (do let (a, s) ← r A p; f a A s : Except DecodeError (β × Nat)) = _
  rw [h]
  rfl
theorem dk_map {α β : Type} {r : Reader DecodeError α} {g : α → β} {A : ByteArray} {p s : Nat} {a : α} (h : r A p = .ok (a, s)) : (g <$> r) A p = .ok (g a, s) := by
  show (do let (a, s) ← r A p; .ok (g a, s) : Except DecodeError (β × Nat)) = _
  rw [h]
  rfl
theorem dk_u2 {A : ByteArray} {p : Nat} {a b : UInt8} (h : A.data.toList[p]? = some a) (h2 : A.data.toList[p + 1]? = some b) : (Reader.u2 : Reader DecodeError Nat) A p = .ok (a.toNat * 256 + b.toNat, p + 2) := by
  show (Reader.u1 >>= fun hi => Reader.u1 >>= fun lo => Pure.pure (hi * 256 + lo) : Reader DecodeError Nat) A p = _
  rw [dk_bind (dk_u1 h), dk_bind (dk_u1 h2)]
  rfl
theorem dk_of {code : ByteArray} {pc n : Nat} {i : Instr} (h : Decoder.instr pc code pc = .ok (i, pc + n)) : decode code pc = .ok (i, n) := by
  have e : decode code pc = (match Decoder.instr pc code pc with | .error x => .error x | .ok (j, s) => .ok (j, s - pc)) := by
    show (do let (j, s) ← Decoder.instr pc code pc; Pure.pure (j, s - pc) : Except DecodeError (Instr × Nat)) = _
    cases Decoder.instr pc code pc <;> rfl
  rw [e, h]
  show Except.ok (i, pc + n - pc) = _
  rw [Nat.add_sub_cancel_left]
theorem dk_1 {code : ByteArray} {pc : Nat} (h : DkAt code pc [1]) : decode code pc = .ok (.aconst_null, 1) := dk_of ((dk_bind (dk_u1 (h 0 _ rfl))).trans rfl)
theorem dk_2 {code : ByteArray} {pc : Nat} (h : DkAt code pc [2]) : decode code pc = .ok (.iconst (-1), 1) := dk_of ((dk_bind (dk_u1 (h 0 _ rfl))).trans rfl)
theorem dk_3 {code : ByteArray} {pc : Nat} (h : DkAt code pc [3]) : decode code pc = .ok (.iconst 0, 1) := dk_of ((dk_bind (dk_u1 (h 0 _ rfl))).trans rfl)
theorem dk_4 {code : ByteArray} {pc : Nat} (h : DkAt code pc [4]) : decode code pc = .ok (.iconst 1, 1) := dk_of ((dk_bind (dk_u1 (h 0 _ rfl))).trans rfl)
theorem dk_5 {code : ByteArray} {pc : Nat} (h : DkAt code pc [5]) : decode code pc = .ok (.iconst 2, 1) := dk_of ((dk_bind (dk_u1 (h 0 _ rfl))).trans rfl)
theorem dk_6 {code : ByteArray} {pc : Nat} (h : DkAt code pc [6]) : decode code pc = .ok (.iconst 3, 1) := dk_of ((dk_bind (dk_u1 (h 0 _ rfl))).trans rfl)
theorem dk_7 {code : ByteArray} {pc : Nat} (h : DkAt code pc [7]) : decode code pc = .ok (.iconst 4, 1) := dk_of ((dk_bind (dk_u1 (h 0 _ rfl))).trans rfl)
theorem dk_8 {code : ByteArray} {pc : Nat} (h : DkAt code pc [8]) : decode code pc = .ok (.iconst 5, 1) := dk_of ((dk_bind (dk_u1 (h 0 _ rfl))).trans rfl)
theorem dk_16 {code : ByteArray} {pc : Nat} (a : UInt8) (h : DkAt code pc [16, a]) : decode code pc = .ok (.bipush (Reader.signed 8 a.toNat), 2) := dk_of ((dk_bind (dk_u1 (h 0 _ rfl))).trans ((dk_bind (dk_map (dk_u1 (h 1 _ rfl)))).trans rfl))
theorem dk_17 {code : ByteArray} {pc : Nat} (a b : UInt8) (h : DkAt code pc [17, a, b]) : decode code pc = .ok (.sipush (Reader.signed 16 (a.toNat * 256 + b.toNat)), 3) := dk_of ((dk_bind (dk_u1 (h 0 _ rfl))).trans ((dk_bind (dk_map (dk_u2 (h 1 _ rfl) (h 2 _ rfl)))).trans rfl))
theorem dk_18 {code : ByteArray} {pc : Nat} (a : UInt8) (h : DkAt code pc [18, a]) : decode code pc = .ok (.ldc a.toNat, 2) := dk_of ((dk_bind (dk_u1 (h 0 _ rfl))).trans ((dk_bind (dk_u1 (h 1 _ rfl))).trans rfl))
theorem dk_19 {code : ByteArray} {pc : Nat} (a b : UInt8) (h : DkAt code pc [19, a, b]) : decode code pc = .ok (.ldc_w (a.toNat * 256 + b.toNat), 3) := dk_of ((dk_bind (dk_u1 (h 0 _ rfl))).trans ((dk_bind (dk_u2 (h 1 _ rfl) (h 2 _ rfl))).trans rfl))
theorem dk_21 {code : ByteArray} {pc : Nat} (a : UInt8) (h : DkAt code pc [21, a]) : decode code pc = .ok (.iload a.toNat, 2) := dk_of ((dk_bind (dk_u1 (h 0 _ rfl))).trans ((dk_bind (dk_u1 (h 1 _ rfl))).trans rfl))
theorem dk_26 {code : ByteArray} {pc : Nat} (h : DkAt code pc [26]) : decode code pc = .ok (.iload_n 0, 1) := dk_of ((dk_bind (dk_u1 (h 0 _ rfl))).trans rfl)
theorem dk_27 {code : ByteArray} {pc : Nat} (h : DkAt code pc [27]) : decode code pc = .ok (.iload_n 1, 1) := dk_of ((dk_bind (dk_u1 (h 0 _ rfl))).trans rfl)
theorem dk_28 {code : ByteArray} {pc : Nat} (h : DkAt code pc [28]) : decode code pc = .ok (.iload_n 2, 1) := dk_of ((dk_bind (dk_u1 (h 0 _ rfl))).trans rfl)
theorem dk_29 {code : ByteArray} {pc : Nat} (h : DkAt code pc [29]) : decode code pc = .ok (.iload_n 3, 1) := dk_of ((dk_bind (dk_u1 (h 0 _ rfl))).trans rfl)
theorem dk_42 {code : ByteArray} {pc : Nat} (h : DkAt code pc [42]) : decode code pc = .ok (.aload_n 0, 1) := dk_of ((dk_bind (dk_u1 (h 0 _ rfl))).trans rfl)
theorem dk_43 {code : ByteArray} {pc : Nat} (h : DkAt code pc [43]) : decode code pc = .ok (.aload_n 1, 1) := dk_of ((dk_bind (dk_u1 (h 0 _ rfl))).trans rfl)
theorem dk_44 {code : ByteArray} {pc : Nat} (h : DkAt code pc [44]) : decode code pc = .ok (.aload_n 2, 1) := dk_of ((dk_bind (dk_u1 (h 0 _ rfl))).trans rfl)
theorem dk_45 {code : ByteArray} {pc : Nat} (h : DkAt code pc [45]) : decode code pc = .ok (.aload_n 3, 1) := dk_of ((dk_bind (dk_u1 (h 0 _ rfl))).trans rfl)
theorem dk_46 {code : ByteArray} {pc : Nat} (h : DkAt code pc [46]) : decode code pc = .ok (.iaload, 1) := dk_of ((dk_bind (dk_u1 (h 0 _ rfl))).trans rfl)
theorem dk_50 {code : ByteArray} {pc : Nat} (h : DkAt code pc [50]) : decode code pc = .ok (.aaload, 1) := dk_of ((dk_bind (dk_u1 (h 0 _ rfl))).trans rfl)
theorem dk_51 {code : ByteArray} {pc : Nat} (h : DkAt code pc [51]) : decode code pc = .ok (.baload, 1) := dk_of ((dk_bind (dk_u1 (h 0 _ rfl))).trans rfl)
theorem dk_54 {code : ByteArray} {pc : Nat} (a : UInt8) (h : DkAt code pc [54, a]) : decode code pc = .ok (.istore a.toNat, 2) := dk_of ((dk_bind (dk_u1 (h 0 _ rfl))).trans ((dk_bind (dk_u1 (h 1 _ rfl))).trans rfl))
theorem dk_58 {code : ByteArray} {pc : Nat} (a : UInt8) (h : DkAt code pc [58, a]) : decode code pc = .ok (.astore a.toNat, 2) := dk_of ((dk_bind (dk_u1 (h 0 _ rfl))).trans ((dk_bind (dk_u1 (h 1 _ rfl))).trans rfl))
theorem dk_59 {code : ByteArray} {pc : Nat} (h : DkAt code pc [59]) : decode code pc = .ok (.istore_n 0, 1) := dk_of ((dk_bind (dk_u1 (h 0 _ rfl))).trans rfl)
theorem dk_60 {code : ByteArray} {pc : Nat} (h : DkAt code pc [60]) : decode code pc = .ok (.istore_n 1, 1) := dk_of ((dk_bind (dk_u1 (h 0 _ rfl))).trans rfl)
theorem dk_61 {code : ByteArray} {pc : Nat} (h : DkAt code pc [61]) : decode code pc = .ok (.istore_n 2, 1) := dk_of ((dk_bind (dk_u1 (h 0 _ rfl))).trans rfl)
theorem dk_62 {code : ByteArray} {pc : Nat} (h : DkAt code pc [62]) : decode code pc = .ok (.istore_n 3, 1) := dk_of ((dk_bind (dk_u1 (h 0 _ rfl))).trans rfl)
theorem dk_76 {code : ByteArray} {pc : Nat} (h : DkAt code pc [76]) : decode code pc = .ok (.astore_n 1, 1) := dk_of ((dk_bind (dk_u1 (h 0 _ rfl))).trans rfl)
theorem dk_77 {code : ByteArray} {pc : Nat} (h : DkAt code pc [77]) : decode code pc = .ok (.astore_n 2, 1) := dk_of ((dk_bind (dk_u1 (h 0 _ rfl))).trans rfl)
theorem dk_78 {code : ByteArray} {pc : Nat} (h : DkAt code pc [78]) : decode code pc = .ok (.astore_n 3, 1) := dk_of ((dk_bind (dk_u1 (h 0 _ rfl))).trans rfl)
theorem dk_79 {code : ByteArray} {pc : Nat} (h : DkAt code pc [79]) : decode code pc = .ok (.iastore, 1) := dk_of ((dk_bind (dk_u1 (h 0 _ rfl))).trans rfl)
theorem dk_83 {code : ByteArray} {pc : Nat} (h : DkAt code pc [83]) : decode code pc = .ok (.aastore, 1) := dk_of ((dk_bind (dk_u1 (h 0 _ rfl))).trans rfl)
theorem dk_84 {code : ByteArray} {pc : Nat} (h : DkAt code pc [84]) : decode code pc = .ok (.bastore, 1) := dk_of ((dk_bind (dk_u1 (h 0 _ rfl))).trans rfl)
theorem dk_87 {code : ByteArray} {pc : Nat} (h : DkAt code pc [87]) : decode code pc = .ok (.pop, 1) := dk_of ((dk_bind (dk_u1 (h 0 _ rfl))).trans rfl)
theorem dk_89 {code : ByteArray} {pc : Nat} (h : DkAt code pc [89]) : decode code pc = .ok (.dup, 1) := dk_of ((dk_bind (dk_u1 (h 0 _ rfl))).trans rfl)
theorem dk_92 {code : ByteArray} {pc : Nat} (h : DkAt code pc [92]) : decode code pc = .ok (.dup2, 1) := dk_of ((dk_bind (dk_u1 (h 0 _ rfl))).trans rfl)
theorem dk_96 {code : ByteArray} {pc : Nat} (h : DkAt code pc [96]) : decode code pc = .ok (.iadd, 1) := dk_of ((dk_bind (dk_u1 (h 0 _ rfl))).trans rfl)
theorem dk_100 {code : ByteArray} {pc : Nat} (h : DkAt code pc [100]) : decode code pc = .ok (.isub, 1) := dk_of ((dk_bind (dk_u1 (h 0 _ rfl))).trans rfl)
theorem dk_104 {code : ByteArray} {pc : Nat} (h : DkAt code pc [104]) : decode code pc = .ok (.imul, 1) := dk_of ((dk_bind (dk_u1 (h 0 _ rfl))).trans rfl)
theorem dk_108 {code : ByteArray} {pc : Nat} (h : DkAt code pc [108]) : decode code pc = .ok (.idiv, 1) := dk_of ((dk_bind (dk_u1 (h 0 _ rfl))).trans rfl)
theorem dk_112 {code : ByteArray} {pc : Nat} (h : DkAt code pc [112]) : decode code pc = .ok (.irem, 1) := dk_of ((dk_bind (dk_u1 (h 0 _ rfl))).trans rfl)
theorem dk_116 {code : ByteArray} {pc : Nat} (h : DkAt code pc [116]) : decode code pc = .ok (.ineg, 1) := dk_of ((dk_bind (dk_u1 (h 0 _ rfl))).trans rfl)
theorem dk_120 {code : ByteArray} {pc : Nat} (h : DkAt code pc [120]) : decode code pc = .ok (.ishl, 1) := dk_of ((dk_bind (dk_u1 (h 0 _ rfl))).trans rfl)
theorem dk_122 {code : ByteArray} {pc : Nat} (h : DkAt code pc [122]) : decode code pc = .ok (.ishr, 1) := dk_of ((dk_bind (dk_u1 (h 0 _ rfl))).trans rfl)
theorem dk_124 {code : ByteArray} {pc : Nat} (h : DkAt code pc [124]) : decode code pc = .ok (.iushr, 1) := dk_of ((dk_bind (dk_u1 (h 0 _ rfl))).trans rfl)
theorem dk_126 {code : ByteArray} {pc : Nat} (h : DkAt code pc [126]) : decode code pc = .ok (.iand, 1) := dk_of ((dk_bind (dk_u1 (h 0 _ rfl))).trans rfl)
theorem dk_128 {code : ByteArray} {pc : Nat} (h : DkAt code pc [128]) : decode code pc = .ok (.ior, 1) := dk_of ((dk_bind (dk_u1 (h 0 _ rfl))).trans rfl)
theorem dk_130 {code : ByteArray} {pc : Nat} (h : DkAt code pc [130]) : decode code pc = .ok (.ixor, 1) := dk_of ((dk_bind (dk_u1 (h 0 _ rfl))).trans rfl)
theorem dk_132 {code : ByteArray} {pc : Nat} (a b : UInt8) (h : DkAt code pc [132, a, b]) : decode code pc = .ok (.iinc a.toNat (Reader.signed 8 b.toNat), 3) := dk_of ((dk_bind (dk_u1 (h 0 _ rfl))).trans ((dk_bind (dk_u1 (h 1 _ rfl))).trans ((dk_bind (dk_map (dk_u1 (h 2 _ rfl)))).trans rfl)))
theorem dk_145 {code : ByteArray} {pc : Nat} (h : DkAt code pc [145]) : decode code pc = .ok (.i2b, 1) := dk_of ((dk_bind (dk_u1 (h 0 _ rfl))).trans rfl)
theorem dk_146 {code : ByteArray} {pc : Nat} (h : DkAt code pc [146]) : decode code pc = .ok (.i2c, 1) := dk_of ((dk_bind (dk_u1 (h 0 _ rfl))).trans rfl)
theorem dk_153 {code : ByteArray} {pc : Nat} (a b : UInt8) (h : DkAt code pc [153, a, b]) : decode code pc = .ok (.ifCond .eq (Reader.signed 16 (a.toNat * 256 + b.toNat)), 3) := dk_of ((dk_bind (dk_u1 (h 0 _ rfl))).trans ((dk_bind (dk_map (dk_u2 (h 1 _ rfl) (h 2 _ rfl)))).trans rfl))
theorem dk_154 {code : ByteArray} {pc : Nat} (a b : UInt8) (h : DkAt code pc [154, a, b]) : decode code pc = .ok (.ifCond .ne (Reader.signed 16 (a.toNat * 256 + b.toNat)), 3) := dk_of ((dk_bind (dk_u1 (h 0 _ rfl))).trans ((dk_bind (dk_map (dk_u2 (h 1 _ rfl) (h 2 _ rfl)))).trans rfl))
theorem dk_155 {code : ByteArray} {pc : Nat} (a b : UInt8) (h : DkAt code pc [155, a, b]) : decode code pc = .ok (.ifCond .lt (Reader.signed 16 (a.toNat * 256 + b.toNat)), 3) := dk_of ((dk_bind (dk_u1 (h 0 _ rfl))).trans ((dk_bind (dk_map (dk_u2 (h 1 _ rfl) (h 2 _ rfl)))).trans rfl))
theorem dk_156 {code : ByteArray} {pc : Nat} (a b : UInt8) (h : DkAt code pc [156, a, b]) : decode code pc = .ok (.ifCond .ge (Reader.signed 16 (a.toNat * 256 + b.toNat)), 3) := dk_of ((dk_bind (dk_u1 (h 0 _ rfl))).trans ((dk_bind (dk_map (dk_u2 (h 1 _ rfl) (h 2 _ rfl)))).trans rfl))
theorem dk_157 {code : ByteArray} {pc : Nat} (a b : UInt8) (h : DkAt code pc [157, a, b]) : decode code pc = .ok (.ifCond .gt (Reader.signed 16 (a.toNat * 256 + b.toNat)), 3) := dk_of ((dk_bind (dk_u1 (h 0 _ rfl))).trans ((dk_bind (dk_map (dk_u2 (h 1 _ rfl) (h 2 _ rfl)))).trans rfl))
theorem dk_158 {code : ByteArray} {pc : Nat} (a b : UInt8) (h : DkAt code pc [158, a, b]) : decode code pc = .ok (.ifCond .le (Reader.signed 16 (a.toNat * 256 + b.toNat)), 3) := dk_of ((dk_bind (dk_u1 (h 0 _ rfl))).trans ((dk_bind (dk_map (dk_u2 (h 1 _ rfl) (h 2 _ rfl)))).trans rfl))
theorem dk_159 {code : ByteArray} {pc : Nat} (a b : UInt8) (h : DkAt code pc [159, a, b]) : decode code pc = .ok (.if_icmp .eq (Reader.signed 16 (a.toNat * 256 + b.toNat)), 3) := dk_of ((dk_bind (dk_u1 (h 0 _ rfl))).trans ((dk_bind (dk_map (dk_u2 (h 1 _ rfl) (h 2 _ rfl)))).trans rfl))
theorem dk_160 {code : ByteArray} {pc : Nat} (a b : UInt8) (h : DkAt code pc [160, a, b]) : decode code pc = .ok (.if_icmp .ne (Reader.signed 16 (a.toNat * 256 + b.toNat)), 3) := dk_of ((dk_bind (dk_u1 (h 0 _ rfl))).trans ((dk_bind (dk_map (dk_u2 (h 1 _ rfl) (h 2 _ rfl)))).trans rfl))
theorem dk_161 {code : ByteArray} {pc : Nat} (a b : UInt8) (h : DkAt code pc [161, a, b]) : decode code pc = .ok (.if_icmp .lt (Reader.signed 16 (a.toNat * 256 + b.toNat)), 3) := dk_of ((dk_bind (dk_u1 (h 0 _ rfl))).trans ((dk_bind (dk_map (dk_u2 (h 1 _ rfl) (h 2 _ rfl)))).trans rfl))
theorem dk_162 {code : ByteArray} {pc : Nat} (a b : UInt8) (h : DkAt code pc [162, a, b]) : decode code pc = .ok (.if_icmp .ge (Reader.signed 16 (a.toNat * 256 + b.toNat)), 3) := dk_of ((dk_bind (dk_u1 (h 0 _ rfl))).trans ((dk_bind (dk_map (dk_u2 (h 1 _ rfl) (h 2 _ rfl)))).trans rfl))
theorem dk_163 {code : ByteArray} {pc : Nat} (a b : UInt8) (h : DkAt code pc [163, a, b]) : decode code pc = .ok (.if_icmp .gt (Reader.signed 16 (a.toNat * 256 + b.toNat)), 3) := dk_of ((dk_bind (dk_u1 (h 0 _ rfl))).trans ((dk_bind (dk_map (dk_u2 (h 1 _ rfl) (h 2 _ rfl)))).trans rfl))
theorem dk_164 {code : ByteArray} {pc : Nat} (a b : UInt8) (h : DkAt code pc [164, a, b]) : decode code pc = .ok (.if_icmp .le (Reader.signed 16 (a.toNat * 256 + b.toNat)), 3) := dk_of ((dk_bind (dk_u1 (h 0 _ rfl))).trans ((dk_bind (dk_map (dk_u2 (h 1 _ rfl) (h 2 _ rfl)))).trans rfl))
theorem dk_167 {code : ByteArray} {pc : Nat} (a b : UInt8) (h : DkAt code pc [167, a, b]) : decode code pc = .ok (.goto (Reader.signed 16 (a.toNat * 256 + b.toNat)), 3) := dk_of ((dk_bind (dk_u1 (h 0 _ rfl))).trans ((dk_bind (dk_map (dk_u2 (h 1 _ rfl) (h 2 _ rfl)))).trans rfl))
theorem dk_172 {code : ByteArray} {pc : Nat} (h : DkAt code pc [172]) : decode code pc = .ok (.ireturn, 1) := dk_of ((dk_bind (dk_u1 (h 0 _ rfl))).trans rfl)
theorem dk_176 {code : ByteArray} {pc : Nat} (h : DkAt code pc [176]) : decode code pc = .ok (.areturn, 1) := dk_of ((dk_bind (dk_u1 (h 0 _ rfl))).trans rfl)
theorem dk_177 {code : ByteArray} {pc : Nat} (h : DkAt code pc [177]) : decode code pc = .ok (.return_, 1) := dk_of ((dk_bind (dk_u1 (h 0 _ rfl))).trans rfl)
theorem dk_178 {code : ByteArray} {pc : Nat} (a b : UInt8) (h : DkAt code pc [178, a, b]) : decode code pc = .ok (.getstatic (a.toNat * 256 + b.toNat), 3) := dk_of ((dk_bind (dk_u1 (h 0 _ rfl))).trans ((dk_bind (dk_u2 (h 1 _ rfl) (h 2 _ rfl))).trans rfl))
theorem dk_180 {code : ByteArray} {pc : Nat} (a b : UInt8) (h : DkAt code pc [180, a, b]) : decode code pc = .ok (.getfield (a.toNat * 256 + b.toNat), 3) := dk_of ((dk_bind (dk_u1 (h 0 _ rfl))).trans ((dk_bind (dk_u2 (h 1 _ rfl) (h 2 _ rfl))).trans rfl))
theorem dk_181 {code : ByteArray} {pc : Nat} (a b : UInt8) (h : DkAt code pc [181, a, b]) : decode code pc = .ok (.putfield (a.toNat * 256 + b.toNat), 3) := dk_of ((dk_bind (dk_u1 (h 0 _ rfl))).trans ((dk_bind (dk_u2 (h 1 _ rfl) (h 2 _ rfl))).trans rfl))
theorem dk_182 {code : ByteArray} {pc : Nat} (a b : UInt8) (h : DkAt code pc [182, a, b]) : decode code pc = .ok (.invokevirtual (a.toNat * 256 + b.toNat), 3) := dk_of ((dk_bind (dk_u1 (h 0 _ rfl))).trans ((dk_bind (dk_u2 (h 1 _ rfl) (h 2 _ rfl))).trans rfl))
theorem dk_183 {code : ByteArray} {pc : Nat} (a b : UInt8) (h : DkAt code pc [183, a, b]) : decode code pc = .ok (.invokespecial (a.toNat * 256 + b.toNat), 3) := dk_of ((dk_bind (dk_u1 (h 0 _ rfl))).trans ((dk_bind (dk_u2 (h 1 _ rfl) (h 2 _ rfl))).trans rfl))
theorem dk_184 {code : ByteArray} {pc : Nat} (a b : UInt8) (h : DkAt code pc [184, a, b]) : decode code pc = .ok (.invokestatic (a.toNat * 256 + b.toNat), 3) := dk_of ((dk_bind (dk_u1 (h 0 _ rfl))).trans ((dk_bind (dk_u2 (h 1 _ rfl) (h 2 _ rfl))).trans rfl))
theorem dk_187 {code : ByteArray} {pc : Nat} (a b : UInt8) (h : DkAt code pc [187, a, b]) : decode code pc = .ok (.new (a.toNat * 256 + b.toNat), 3) := dk_of ((dk_bind (dk_u1 (h 0 _ rfl))).trans ((dk_bind (dk_u2 (h 1 _ rfl) (h 2 _ rfl))).trans rfl))
theorem dk_188_8 {code : ByteArray} {pc : Nat} (h : DkAt code pc [188, 8]) : decode code pc = .ok (.newarray .byte, 2) := dk_of ((dk_bind (dk_u1 (h 0 _ rfl))).trans ((dk_bind (dk_u1 (h 1 _ rfl))).trans rfl))
theorem dk_188_10 {code : ByteArray} {pc : Nat} (h : DkAt code pc [188, 10]) : decode code pc = .ok (.newarray .int, 2) := dk_of ((dk_bind (dk_u1 (h 0 _ rfl))).trans ((dk_bind (dk_u1 (h 1 _ rfl))).trans rfl))
theorem dk_189 {code : ByteArray} {pc : Nat} (a b : UInt8) (h : DkAt code pc [189, a, b]) : decode code pc = .ok (.anewarray (a.toNat * 256 + b.toNat), 3) := dk_of ((dk_bind (dk_u1 (h 0 _ rfl))).trans ((dk_bind (dk_u2 (h 1 _ rfl) (h 2 _ rfl))).trans rfl))
theorem dk_190 {code : ByteArray} {pc : Nat} (h : DkAt code pc [190]) : decode code pc = .ok (.arraylength, 1) := dk_of ((dk_bind (dk_u1 (h 0 _ rfl))).trans rfl)
theorem dk_191 {code : ByteArray} {pc : Nat} (h : DkAt code pc [191]) : decode code pc = .ok (.athrow, 1) := dk_of ((dk_bind (dk_u1 (h 0 _ rfl))).trans rfl)
theorem dk_198 {code : ByteArray} {pc : Nat} (a b : UInt8) (h : DkAt code pc [198, a, b]) : decode code pc = .ok (.ifnull (Reader.signed 16 (a.toNat * 256 + b.toNat)), 3) := dk_of ((dk_bind (dk_u1 (h 0 _ rfl))).trans ((dk_bind (dk_map (dk_u2 (h 1 _ rfl) (h 2 _ rfl)))).trans rfl))
/-! OneCoin$Asked -/
set_option maxRecDepth 100000
def RX1 : String := "OneCoin$Asked"
abbrev cX1_init : ByteArray := prog_2_method_1_code
def yX1_init : MethodName := ⟨RX1, "<init>", "()V"⟩
theorem dX1_init_0 : decode cX1_init 0 = .ok (.aload_n 0, 1) := by decide +kernel
theorem dX1_init_1 : decode cX1_init 1 = .ok (.invokespecial 1, 3) := by decide +kernel
theorem dX1_init_4 : decode cX1_init 4 = .ok (.return_, 1) := by decide +kernel
theorem q117 : (Jvm.Cond.initialized "OneCoin$Asked") ∈ lw_all := lw_g (lw_at lw_m1 2 rfl) rfl
theorem q156 : (Jvm.Cond.instanceMethod ({ cls := "OneCoin$Asked", name := "<init>", desc := "()V" } : Jvm.MethodName)) ∈ lw_all := lw_g (lw_at lw_m1 41 rfl) rfl
theorem q157 : (Jvm.Cond.code ({ cls := "OneCoin$Asked", name := "<init>", desc := "()V" } : Jvm.MethodName) prog_2_method_1_code (1 : Nat) (Option.none : Option Jvm.ClassFile.FieldType)) ∈ lw_all := lw_g (lw_at lw_m1 42 rfl) rfl
theorem q158 : (Jvm.Cond.methodLink "OneCoin$Asked" (1 : Nat) ({ cls := "java/lang/Object", name := "<init>", desc := "()V" } : Jvm.MethodName)) ∈ lw_all := lw_g (lw_at lw_m1 43 rfl) rfl
theorem q190 : (Jvm.Cond.soleField "OneCoin$Asked" "isRefused") ∈ lw_all := lw_g (lw_at lw_m1 75 rfl) rfl
theorem q974 : (Jvm.Cond.declares ({ cls := "OneCoin$Asked", name := "value", desc := "(I)I" } : Jvm.MethodName)) ∈ lw_tbl := lw_at lw_m4 139 rfl
theorem q975 : (Jvm.Cond.sameMethod "OneCoin$Asked" "OneCoin$Asked" "value" "(I)I") ∈ lw_all := lw_g (lw_at lw_m4 140 rfl) rfl
/-! OneCoin$Moment -/
set_option maxRecDepth 100000
def RX2 : String := "OneCoin$Moment"
def TX2 : u_T := fun k => match k with
  | 0 => ("OneCoin$Asked", "isRefused", "Z", false)
  | 1 => ("OneCoin$Moment", "payer", "I", false)
  | 2 => ("OneCoin$Moment", "paid", "I", false)
  | 3 => ("OneCoin$Moment", "many", "I", false)
  | 4 => ("OneCoin$Moment", "all", "I", false)
  | 5 => ("OneCoin$Moment", "hours", "I", false)
  | 6 => ("OneCoin$Moment", "got", "I", false)
  | 7 => ("OneCoin$Moment", "hour", "I", false)
  | 8 => ("OneCoin$Moment", "day", "I", false)
  | _ => ("OneCoin$Moment", "this$0", "LOneCoin;", true)
def tyX2 : Nat → FieldType := fun k => match k with
  | 0 => .boolean
  | 1 => .int
  | 2 => .int
  | 3 => .int
  | 4 => .int
  | 5 => .int
  | 6 => .int
  | 7 => .int
  | 8 => .int
  | _ => .object "OneCoin"
abbrev wsX20 : List Cond := u_ws RX2 TX2 10
theorem nmX2 : ∀ a, a < 10 → ∀ b, b < 10 → a ≠ b → (TX2 a).2.1 ≠ (TX2 b).2.1 := by decide +kernel
theorem tyX2_ok : ∀ k, k < 10 → parseFieldDescriptor (TX2 k).2.2.1 = some (tyX2 k) := by decide +kernel
abbrev cX2_init : ByteArray := prog_10_method_1_code
def yX2_init : MethodName := ⟨RX2, "<init>", "(LOneCoin;)V"⟩
def dkwX2_init_0 : List UInt8 := [42, 43, 181, 0, 1, 42, 183, 0, 7, 177]
abbrev dktX2_init_0 : List UInt8 := dkwX2_init_0 ++ []
theorem dksX2_init_0 : cX2_init.data.toList.drop 0 = dktX2_init_0 := by decide +kernel
theorem dX2_init_0 : decode cX2_init 0 = .ok (.aload_n 0, 1) := dk_42 (dk_at dksX2_init_0 0 rfl rfl)
theorem dX2_init_1 : decode cX2_init 1 = .ok (.aload_n 1, 1) := dk_43 (dk_at dksX2_init_0 1 rfl rfl)
theorem dX2_init_2 : decode cX2_init 2 = .ok (.putfield 1, 3) := dk_181 0 1 (dk_at dksX2_init_0 2 rfl rfl)
theorem dX2_init_5 : decode cX2_init 5 = .ok (.aload_n 0, 1) := dk_42 (dk_at dksX2_init_0 5 rfl rfl)
theorem dX2_init_6 : decode cX2_init 6 = .ok (.invokespecial 7, 3) := dk_183 0 7 (dk_at dksX2_init_0 6 rfl rfl)
theorem dX2_init_9 : decode cX2_init 9 = .ok (.return_, 1) := dk_177 (dk_at dksX2_init_0 9 rfl rfl)
abbrev cX2_at : ByteArray := prog_10_method_2_code
def yX2_at : MethodName := ⟨RX2, "at", "(II)LOneCoin$Moment;"⟩
def dkwX2_at_1 : List UInt8 := [181, 0, 26, 42, 3, 181, 0, 29, 42, 27, 181, 0, 32, 42, 28, 181, 0, 35, 42, 176]
abbrev dktX2_at_1 : List UInt8 := dkwX2_at_1 ++ []
def dkwX2_at_0 : List UInt8 := [42, 3, 181, 0, 13, 42, 3, 181, 0, 17, 42, 3, 181, 0, 20, 42, 3, 181, 0, 23, 42, 3]
abbrev dktX2_at_0 : List UInt8 := dkwX2_at_0 ++ dktX2_at_1
theorem dksX2_at_0 : cX2_at.data.toList.drop 0 = dktX2_at_0 := by decide +kernel
theorem dksX2_at_1 : cX2_at.data.toList.drop 22 = dktX2_at_1 := dk_seg dksX2_at_0 22 rfl rfl
theorem dX2_at_0 : decode cX2_at 0 = .ok (.aload_n 0, 1) := dk_42 (dk_at dksX2_at_0 0 rfl rfl)
theorem dX2_at_1 : decode cX2_at 1 = .ok (.iconst 0, 1) := dk_3 (dk_at dksX2_at_0 1 rfl rfl)
theorem dX2_at_2 : decode cX2_at 2 = .ok (.putfield 13, 3) := dk_181 0 13 (dk_at dksX2_at_0 2 rfl rfl)
theorem dX2_at_5 : decode cX2_at 5 = .ok (.aload_n 0, 1) := dk_42 (dk_at dksX2_at_0 5 rfl rfl)
theorem dX2_at_6 : decode cX2_at 6 = .ok (.iconst 0, 1) := dk_3 (dk_at dksX2_at_0 6 rfl rfl)
theorem dX2_at_7 : decode cX2_at 7 = .ok (.putfield 17, 3) := dk_181 0 17 (dk_at dksX2_at_0 7 rfl rfl)
theorem dX2_at_10 : decode cX2_at 10 = .ok (.aload_n 0, 1) := dk_42 (dk_at dksX2_at_0 10 rfl rfl)
theorem dX2_at_11 : decode cX2_at 11 = .ok (.iconst 0, 1) := dk_3 (dk_at dksX2_at_0 11 rfl rfl)
theorem dX2_at_12 : decode cX2_at 12 = .ok (.putfield 20, 3) := dk_181 0 20 (dk_at dksX2_at_0 12 rfl rfl)
theorem dX2_at_15 : decode cX2_at 15 = .ok (.aload_n 0, 1) := dk_42 (dk_at dksX2_at_0 15 rfl rfl)
theorem dX2_at_16 : decode cX2_at 16 = .ok (.iconst 0, 1) := dk_3 (dk_at dksX2_at_0 16 rfl rfl)
theorem dX2_at_17 : decode cX2_at 17 = .ok (.putfield 23, 3) := dk_181 0 23 (dk_at dksX2_at_0 17 rfl rfl)
theorem dX2_at_20 : decode cX2_at 20 = .ok (.aload_n 0, 1) := dk_42 (dk_at dksX2_at_0 20 rfl rfl)
theorem dX2_at_21 : decode cX2_at 21 = .ok (.iconst 0, 1) := dk_3 (dk_at dksX2_at_0 21 rfl rfl)
theorem dX2_at_22 : decode cX2_at 22 = .ok (.putfield 26, 3) := dk_181 0 26 (dk_at dksX2_at_1 0 rfl rfl)
theorem dX2_at_25 : decode cX2_at 25 = .ok (.aload_n 0, 1) := dk_42 (dk_at dksX2_at_1 3 rfl rfl)
theorem dX2_at_26 : decode cX2_at 26 = .ok (.iconst 0, 1) := dk_3 (dk_at dksX2_at_1 4 rfl rfl)
theorem dX2_at_27 : decode cX2_at 27 = .ok (.putfield 29, 3) := dk_181 0 29 (dk_at dksX2_at_1 5 rfl rfl)
theorem dX2_at_30 : decode cX2_at 30 = .ok (.aload_n 0, 1) := dk_42 (dk_at dksX2_at_1 8 rfl rfl)
theorem dX2_at_31 : decode cX2_at 31 = .ok (.iload_n 1, 1) := dk_27 (dk_at dksX2_at_1 9 rfl rfl)
theorem dX2_at_32 : decode cX2_at 32 = .ok (.putfield 32, 3) := dk_181 0 32 (dk_at dksX2_at_1 10 rfl rfl)
theorem dX2_at_35 : decode cX2_at 35 = .ok (.aload_n 0, 1) := dk_42 (dk_at dksX2_at_1 13 rfl rfl)
theorem dX2_at_36 : decode cX2_at 36 = .ok (.iload_n 2, 1) := dk_28 (dk_at dksX2_at_1 14 rfl rfl)
theorem dX2_at_37 : decode cX2_at 37 = .ok (.putfield 35, 3) := dk_181 0 35 (dk_at dksX2_at_1 15 rfl rfl)
theorem dX2_at_40 : decode cX2_at 40 = .ok (.aload_n 0, 1) := dk_42 (dk_at dksX2_at_1 18 rfl rfl)
theorem dX2_at_41 : decode cX2_at 41 = .ok (.areturn, 1) := dk_176 (dk_at dksX2_at_1 19 rfl rfl)
abbrev cX2_tells : ByteArray := prog_10_method_5_code
def yX2_tells : MethodName := ⟨RX2, "tells", "(II)I"⟩
def dkwX2_tells_0 : List UInt8 := [42, 180, 0, 1, 180, 0, 69, 27, 42, 182, 0, 73, 28, 184, 0, 79, 172]
abbrev dktX2_tells_0 : List UInt8 := dkwX2_tells_0 ++ []
theorem dksX2_tells_0 : cX2_tells.data.toList.drop 0 = dktX2_tells_0 := by decide +kernel
theorem dX2_tells_0 : decode cX2_tells 0 = .ok (.aload_n 0, 1) := dk_42 (dk_at dksX2_tells_0 0 rfl rfl)
theorem dX2_tells_1 : decode cX2_tells 1 = .ok (.getfield 1, 3) := dk_180 0 1 (dk_at dksX2_tells_0 1 rfl rfl)
theorem dX2_tells_4 : decode cX2_tells 4 = .ok (.getfield 69, 3) := dk_180 0 69 (dk_at dksX2_tells_0 4 rfl rfl)
theorem dX2_tells_7 : decode cX2_tells 7 = .ok (.iload_n 1, 1) := dk_27 (dk_at dksX2_tells_0 7 rfl rfl)
theorem dX2_tells_8 : decode cX2_tells 8 = .ok (.aload_n 0, 1) := dk_42 (dk_at dksX2_tells_0 8 rfl rfl)
theorem dX2_tells_9 : decode cX2_tells 9 = .ok (.invokevirtual 73, 3) := dk_182 0 73 (dk_at dksX2_tells_0 9 rfl rfl)
theorem dX2_tells_12 : decode cX2_tells 12 = .ok (.iload_n 2, 1) := dk_28 (dk_at dksX2_tells_0 12 rfl rfl)
theorem dX2_tells_13 : decode cX2_tells 13 = .ok (.invokestatic 79, 3) := dk_184 0 79 (dk_at dksX2_tells_0 13 rfl rfl)
theorem dX2_tells_16 : decode cX2_tells 16 = .ok (.ireturn, 1) := dk_172 (dk_at dksX2_tells_0 16 rfl rfl)
abbrev cX2_value : ByteArray := prog_10_method_4_code
def yX2_value : MethodName := ⟨RX2, "value", "(I)I"⟩
def dkwX2_value_3 : List UInt8 := [172, 42, 180, 0, 29, 172, 42, 180, 0, 32, 172, 42, 180, 0, 35, 172]
abbrev dktX2_value_3 : List UInt8 := dkwX2_value_3 ++ []
def dkwX2_value_2 : List UInt8 := [42, 180, 0, 13, 172, 42, 180, 0, 17, 172, 42, 180, 0, 20, 172, 42, 180, 0, 23, 172, 42, 180, 0, 26]
abbrev dktX2_value_2 : List UInt8 := dkwX2_value_2 ++ dktX2_value_3
def dkwX2_value_1 : List UInt8 := [170, 0, 0, 0, 0, 0, 134, 0, 0, 0, 99, 0, 0, 0, 119, 0, 0, 0, 104, 0, 0, 0, 134, 0, 0, 0, 134, 0, 0, 0, 134, 0, 0, 0, 124, 0, 0, 0, 99, 0, 0, 0, 134, 0, 0, 0, 134, 0, 0, 0, 134, 0, 0, 0, 134, 0, 0, 0, 134, 0, 0, 0, 109, 0, 0, 0, 114, 0, 0, 0, 134, 0, 0, 0, 134, 0, 0, 0, 134, 0, 0, 0, 134, 0, 0, 0, 129, 0, 0, 0, 134, 0, 0, 0, 134, 0, 0, 0, 119]
abbrev dktX2_value_1 : List UInt8 := dkwX2_value_1 ++ dktX2_value_2
def dkwX2_value_0 : List UInt8 := [27]
abbrev dktX2_value_0 : List UInt8 := dkwX2_value_0 ++ dktX2_value_1
theorem dksX2_value_0 : cX2_value.data.toList.drop 0 = dktX2_value_0 := by decide +kernel
theorem dksX2_value_1 : cX2_value.data.toList.drop 1 = dktX2_value_1 := dk_seg dksX2_value_0 1 rfl rfl
theorem dksX2_value_2 : cX2_value.data.toList.drop 100 = dktX2_value_2 := dk_seg dksX2_value_1 99 rfl rfl
theorem dksX2_value_3 : cX2_value.data.toList.drop 124 = dktX2_value_3 := dk_seg dksX2_value_2 24 rfl rfl
theorem dX2_value_0 : decode cX2_value 0 = .ok (.iload_n 1, 1) := dk_27 (dk_at dksX2_value_0 0 rfl rfl)
theorem dX2_value_1 : decode cX2_value 1 = .ok (.tableswitch 134 99 119 #[104, 134, 134, 134, 124, 99, 134, 134, 134, 134, 134, 109, 114, 134, 134, 134, 134, 129, 134, 134, 119], 99) := by decide +kernel
theorem dX2_value_100 : decode cX2_value 100 = .ok (.aload_n 0, 1) := dk_42 (dk_at dksX2_value_2 0 rfl rfl)
theorem dX2_value_101 : decode cX2_value 101 = .ok (.getfield 13, 3) := dk_180 0 13 (dk_at dksX2_value_2 1 rfl rfl)
theorem dX2_value_104 : decode cX2_value 104 = .ok (.ireturn, 1) := dk_172 (dk_at dksX2_value_2 4 rfl rfl)
theorem dX2_value_105 : decode cX2_value 105 = .ok (.aload_n 0, 1) := dk_42 (dk_at dksX2_value_2 5 rfl rfl)
theorem dX2_value_106 : decode cX2_value 106 = .ok (.getfield 17, 3) := dk_180 0 17 (dk_at dksX2_value_2 6 rfl rfl)
theorem dX2_value_109 : decode cX2_value 109 = .ok (.ireturn, 1) := dk_172 (dk_at dksX2_value_2 9 rfl rfl)
theorem dX2_value_110 : decode cX2_value 110 = .ok (.aload_n 0, 1) := dk_42 (dk_at dksX2_value_2 10 rfl rfl)
theorem dX2_value_111 : decode cX2_value 111 = .ok (.getfield 20, 3) := dk_180 0 20 (dk_at dksX2_value_2 11 rfl rfl)
theorem dX2_value_114 : decode cX2_value 114 = .ok (.ireturn, 1) := dk_172 (dk_at dksX2_value_2 14 rfl rfl)
theorem dX2_value_115 : decode cX2_value 115 = .ok (.aload_n 0, 1) := dk_42 (dk_at dksX2_value_2 15 rfl rfl)
theorem dX2_value_116 : decode cX2_value 116 = .ok (.getfield 23, 3) := dk_180 0 23 (dk_at dksX2_value_2 16 rfl rfl)
theorem dX2_value_119 : decode cX2_value 119 = .ok (.ireturn, 1) := dk_172 (dk_at dksX2_value_2 19 rfl rfl)
theorem dX2_value_120 : decode cX2_value 120 = .ok (.aload_n 0, 1) := dk_42 (dk_at dksX2_value_2 20 rfl rfl)
theorem dX2_value_121 : decode cX2_value 121 = .ok (.getfield 26, 3) := dk_180 0 26 (dk_at dksX2_value_2 21 rfl rfl)
theorem dX2_value_124 : decode cX2_value 124 = .ok (.ireturn, 1) := dk_172 (dk_at dksX2_value_3 0 rfl rfl)
theorem dX2_value_125 : decode cX2_value 125 = .ok (.aload_n 0, 1) := dk_42 (dk_at dksX2_value_3 1 rfl rfl)
theorem dX2_value_126 : decode cX2_value 126 = .ok (.getfield 29, 3) := dk_180 0 29 (dk_at dksX2_value_3 2 rfl rfl)
theorem dX2_value_129 : decode cX2_value 129 = .ok (.ireturn, 1) := dk_172 (dk_at dksX2_value_3 5 rfl rfl)
theorem dX2_value_130 : decode cX2_value 130 = .ok (.aload_n 0, 1) := dk_42 (dk_at dksX2_value_3 6 rfl rfl)
theorem dX2_value_131 : decode cX2_value 131 = .ok (.getfield 32, 3) := dk_180 0 32 (dk_at dksX2_value_3 7 rfl rfl)
theorem dX2_value_134 : decode cX2_value 134 = .ok (.ireturn, 1) := dk_172 (dk_at dksX2_value_3 10 rfl rfl)
theorem dX2_value_135 : decode cX2_value 135 = .ok (.aload_n 0, 1) := dk_42 (dk_at dksX2_value_3 11 rfl rfl)
theorem dX2_value_136 : decode cX2_value 136 = .ok (.getfield 35, 3) := dk_180 0 35 (dk_at dksX2_value_3 12 rfl rfl)
theorem dX2_value_139 : decode cX2_value 139 = .ok (.ireturn, 1) := dk_172 (dk_at dksX2_value_3 15 rfl rfl)
abbrev cX2_of : ByteArray := prog_10_method_3_code
def yX2_of : MethodName := ⟨RX2, "of", "(LOneCoin$Duchy;II)LOneCoin$Moment;"⟩
def dkwX2_of_3 : List UInt8 := [181, 0, 29, 42, 176]
abbrev dktX2_of_3 : List UInt8 := dkwX2_of_3 ++ []
def dkwX2_of_2 : List UInt8 := [181, 0, 23, 42, 42, 180, 0, 1, 28, 29, 182, 0, 60, 181, 0, 26, 42, 43, 29, 182, 0, 66]
abbrev dktX2_of_2 : List UInt8 := dkwX2_of_2 ++ dktX2_of_3
def dkwX2_of_1 : List UInt8 := [43, 180, 0, 46, 180, 0, 50, 28, 50, 29, 46, 181, 0, 20, 42, 43, 180, 0, 46, 28, 182, 0, 56]
abbrev dktX2_of_1 : List UInt8 := dkwX2_of_1 ++ dktX2_of_2
def dkwX2_of_0 : List UInt8 := [42, 43, 180, 0, 38, 43, 180, 0, 41, 182, 0, 42, 87, 42, 28, 181, 0, 13, 42, 29, 181, 0, 17, 42]
abbrev dktX2_of_0 : List UInt8 := dkwX2_of_0 ++ dktX2_of_1
theorem dksX2_of_0 : cX2_of.data.toList.drop 0 = dktX2_of_0 := by decide +kernel
theorem dksX2_of_1 : cX2_of.data.toList.drop 24 = dktX2_of_1 := dk_seg dksX2_of_0 24 rfl rfl
theorem dksX2_of_2 : cX2_of.data.toList.drop 47 = dktX2_of_2 := dk_seg dksX2_of_1 23 rfl rfl
theorem dksX2_of_3 : cX2_of.data.toList.drop 69 = dktX2_of_3 := dk_seg dksX2_of_2 22 rfl rfl
theorem dX2_of_0 : decode cX2_of 0 = .ok (.aload_n 0, 1) := dk_42 (dk_at dksX2_of_0 0 rfl rfl)
theorem dX2_of_1 : decode cX2_of 1 = .ok (.aload_n 1, 1) := dk_43 (dk_at dksX2_of_0 1 rfl rfl)
theorem dX2_of_2 : decode cX2_of 2 = .ok (.getfield 38, 3) := dk_180 0 38 (dk_at dksX2_of_0 2 rfl rfl)
theorem dX2_of_5 : decode cX2_of 5 = .ok (.aload_n 1, 1) := dk_43 (dk_at dksX2_of_0 5 rfl rfl)
theorem dX2_of_6 : decode cX2_of 6 = .ok (.getfield 41, 3) := dk_180 0 41 (dk_at dksX2_of_0 6 rfl rfl)
theorem dX2_of_9 : decode cX2_of 9 = .ok (.invokevirtual 42, 3) := dk_182 0 42 (dk_at dksX2_of_0 9 rfl rfl)
theorem dX2_of_12 : decode cX2_of 12 = .ok (.pop, 1) := dk_87 (dk_at dksX2_of_0 12 rfl rfl)
theorem dX2_of_13 : decode cX2_of 13 = .ok (.aload_n 0, 1) := dk_42 (dk_at dksX2_of_0 13 rfl rfl)
theorem dX2_of_14 : decode cX2_of 14 = .ok (.iload_n 2, 1) := dk_28 (dk_at dksX2_of_0 14 rfl rfl)
theorem dX2_of_15 : decode cX2_of 15 = .ok (.putfield 13, 3) := dk_181 0 13 (dk_at dksX2_of_0 15 rfl rfl)
theorem dX2_of_18 : decode cX2_of 18 = .ok (.aload_n 0, 1) := dk_42 (dk_at dksX2_of_0 18 rfl rfl)
theorem dX2_of_19 : decode cX2_of 19 = .ok (.iload_n 3, 1) := dk_29 (dk_at dksX2_of_0 19 rfl rfl)
theorem dX2_of_20 : decode cX2_of 20 = .ok (.putfield 17, 3) := dk_181 0 17 (dk_at dksX2_of_0 20 rfl rfl)
theorem dX2_of_23 : decode cX2_of 23 = .ok (.aload_n 0, 1) := dk_42 (dk_at dksX2_of_0 23 rfl rfl)
theorem dX2_of_24 : decode cX2_of 24 = .ok (.aload_n 1, 1) := dk_43 (dk_at dksX2_of_1 0 rfl rfl)
theorem dX2_of_25 : decode cX2_of 25 = .ok (.getfield 46, 3) := dk_180 0 46 (dk_at dksX2_of_1 1 rfl rfl)
theorem dX2_of_28 : decode cX2_of 28 = .ok (.getfield 50, 3) := dk_180 0 50 (dk_at dksX2_of_1 4 rfl rfl)
theorem dX2_of_31 : decode cX2_of 31 = .ok (.iload_n 2, 1) := dk_28 (dk_at dksX2_of_1 7 rfl rfl)
theorem dX2_of_32 : decode cX2_of 32 = .ok (.aaload, 1) := dk_50 (dk_at dksX2_of_1 8 rfl rfl)
theorem dX2_of_33 : decode cX2_of 33 = .ok (.iload_n 3, 1) := dk_29 (dk_at dksX2_of_1 9 rfl rfl)
theorem dX2_of_34 : decode cX2_of 34 = .ok (.iaload, 1) := dk_46 (dk_at dksX2_of_1 10 rfl rfl)
theorem dX2_of_35 : decode cX2_of 35 = .ok (.putfield 20, 3) := dk_181 0 20 (dk_at dksX2_of_1 11 rfl rfl)
theorem dX2_of_38 : decode cX2_of 38 = .ok (.aload_n 0, 1) := dk_42 (dk_at dksX2_of_1 14 rfl rfl)
theorem dX2_of_39 : decode cX2_of 39 = .ok (.aload_n 1, 1) := dk_43 (dk_at dksX2_of_1 15 rfl rfl)
theorem dX2_of_40 : decode cX2_of 40 = .ok (.getfield 46, 3) := dk_180 0 46 (dk_at dksX2_of_1 16 rfl rfl)
theorem dX2_of_43 : decode cX2_of 43 = .ok (.iload_n 2, 1) := dk_28 (dk_at dksX2_of_1 19 rfl rfl)
theorem dX2_of_44 : decode cX2_of 44 = .ok (.invokevirtual 56, 3) := dk_182 0 56 (dk_at dksX2_of_1 20 rfl rfl)
theorem dX2_of_47 : decode cX2_of 47 = .ok (.putfield 23, 3) := dk_181 0 23 (dk_at dksX2_of_2 0 rfl rfl)
theorem dX2_of_50 : decode cX2_of 50 = .ok (.aload_n 0, 1) := dk_42 (dk_at dksX2_of_2 3 rfl rfl)
theorem dX2_of_51 : decode cX2_of 51 = .ok (.aload_n 0, 1) := dk_42 (dk_at dksX2_of_2 4 rfl rfl)
theorem dX2_of_52 : decode cX2_of 52 = .ok (.getfield 1, 3) := dk_180 0 1 (dk_at dksX2_of_2 5 rfl rfl)
theorem dX2_of_55 : decode cX2_of 55 = .ok (.iload_n 2, 1) := dk_28 (dk_at dksX2_of_2 8 rfl rfl)
theorem dX2_of_56 : decode cX2_of 56 = .ok (.iload_n 3, 1) := dk_29 (dk_at dksX2_of_2 9 rfl rfl)
theorem dX2_of_57 : decode cX2_of 57 = .ok (.invokevirtual 60, 3) := dk_182 0 60 (dk_at dksX2_of_2 10 rfl rfl)
theorem dX2_of_60 : decode cX2_of 60 = .ok (.putfield 26, 3) := dk_181 0 26 (dk_at dksX2_of_2 13 rfl rfl)
theorem dX2_of_63 : decode cX2_of 63 = .ok (.aload_n 0, 1) := dk_42 (dk_at dksX2_of_2 16 rfl rfl)
theorem dX2_of_64 : decode cX2_of 64 = .ok (.aload_n 1, 1) := dk_43 (dk_at dksX2_of_2 17 rfl rfl)
theorem dX2_of_65 : decode cX2_of 65 = .ok (.iload_n 3, 1) := dk_29 (dk_at dksX2_of_2 18 rfl rfl)
theorem dX2_of_66 : decode cX2_of 66 = .ok (.invokevirtual 66, 3) := dk_182 0 66 (dk_at dksX2_of_2 19 rfl rfl)
theorem dX2_of_69 : decode cX2_of 69 = .ok (.putfield 29, 3) := dk_181 0 29 (dk_at dksX2_of_3 0 rfl rfl)
theorem dX2_of_72 : decode cX2_of 72 = .ok (.aload_n 0, 1) := dk_42 (dk_at dksX2_of_3 3 rfl rfl)
theorem dX2_of_73 : decode cX2_of 73 = .ok (.areturn, 1) := dk_176 (dk_at dksX2_of_3 4 rfl rfl)
abbrev cX2_willNot : ByteArray := prog_10_method_6_code
def yX2_willNot : MethodName := ⟨RX2, "willNot", "()Z"⟩
def dkwX2_willNot_0 : List UInt8 := [42, 180, 0, 1, 180, 0, 69, 16, 115, 42, 182, 0, 82, 172]
abbrev dktX2_willNot_0 : List UInt8 := dkwX2_willNot_0 ++ []
theorem dksX2_willNot_0 : cX2_willNot.data.toList.drop 0 = dktX2_willNot_0 := by decide +kernel
theorem dX2_willNot_0 : decode cX2_willNot 0 = .ok (.aload_n 0, 1) := dk_42 (dk_at dksX2_willNot_0 0 rfl rfl)
theorem dX2_willNot_1 : decode cX2_willNot 1 = .ok (.getfield 1, 3) := dk_180 0 1 (dk_at dksX2_willNot_0 1 rfl rfl)
theorem dX2_willNot_4 : decode cX2_willNot 4 = .ok (.getfield 69, 3) := dk_180 0 69 (dk_at dksX2_willNot_0 4 rfl rfl)
theorem dX2_willNot_7 : decode cX2_willNot 7 = .ok (.bipush 115, 2) := dk_16 115 (dk_at dksX2_willNot_0 7 rfl rfl)
theorem dX2_willNot_9 : decode cX2_willNot 9 = .ok (.aload_n 0, 1) := dk_42 (dk_at dksX2_willNot_0 9 rfl rfl)
theorem dX2_willNot_10 : decode cX2_willNot 10 = .ok (.invokevirtual 82, 3) := dk_182 0 82 (dk_at dksX2_willNot_0 10 rfl rfl)
theorem dX2_willNot_13 : decode cX2_willNot 13 = .ok (.ireturn, 1) := dk_172 (dk_at dksX2_willNot_0 13 rfl rfl)
theorem q118 : (Jvm.Cond.initialized "OneCoin$Moment") ∈ lw_all := lw_g (lw_at lw_m1 3 rfl) rfl
theorem q151 : (Jvm.Cond.instantiable "OneCoin$Moment" (10 : Nat)) ∈ lw_all := lw_g (lw_at lw_m1 36 rfl) rfl
theorem q153 : (Jvm.Cond.instanceMethod ({ cls := "OneCoin$Moment", name := "<init>", desc := "(LOneCoin;)V" } : Jvm.MethodName)) ∈ lw_all := lw_g (lw_at lw_m1 38 rfl) rfl
theorem q154 : (Jvm.Cond.code ({ cls := "OneCoin$Moment", name := "<init>", desc := "(LOneCoin;)V" } : Jvm.MethodName) prog_10_method_1_code (2 : Nat) (Option.none : Option Jvm.ClassFile.FieldType)) ∈ lw_all := lw_g (lw_at lw_m1 39 rfl) rfl
theorem q155 : (Jvm.Cond.methodLinkNest "OneCoin$Moment" (7 : Nat) ({ cls := "OneCoin$Asked", name := "<init>", desc := "()V" } : Jvm.MethodName) "OneCoin") ∈ lw_tbl := lw_at lw_m1 40 rfl
theorem q159 : (Jvm.Cond.fieldLink "OneCoin$Moment" (13 : Nat) "OneCoin$Moment" "payer" "I") ∈ lw_all := lw_g (lw_at lw_m1 44 rfl) rfl
theorem q160 : (Jvm.Cond.fieldLink "OneCoin$Moment" (17 : Nat) "OneCoin$Moment" "paid" "I") ∈ lw_all := lw_g (lw_at lw_m1 45 rfl) rfl
theorem q161 : (Jvm.Cond.fieldLink "OneCoin$Moment" (20 : Nat) "OneCoin$Moment" "many" "I") ∈ lw_all := lw_g (lw_at lw_m1 46 rfl) rfl
theorem q162 : (Jvm.Cond.fieldLink "OneCoin$Moment" (23 : Nat) "OneCoin$Moment" "all" "I") ∈ lw_all := lw_g (lw_at lw_m1 47 rfl) rfl
theorem q163 : (Jvm.Cond.fieldLink "OneCoin$Moment" (26 : Nat) "OneCoin$Moment" "hours" "I") ∈ lw_all := lw_g (lw_at lw_m1 48 rfl) rfl
theorem q164 : (Jvm.Cond.fieldLink "OneCoin$Moment" (29 : Nat) "OneCoin$Moment" "got" "I") ∈ lw_all := lw_g (lw_at lw_m1 49 rfl) rfl
theorem q165 : (Jvm.Cond.fieldLink "OneCoin$Moment" (32 : Nat) "OneCoin$Moment" "hour" "I") ∈ lw_all := lw_g (lw_at lw_m1 50 rfl) rfl
theorem q166 : (Jvm.Cond.fieldLink "OneCoin$Moment" (35 : Nat) "OneCoin$Moment" "day" "I") ∈ lw_all := lw_g (lw_at lw_m1 51 rfl) rfl
theorem q167 : (Jvm.Cond.fieldLink "OneCoin$Moment" (1 : Nat) "OneCoin$Moment" "this$0" "LOneCoin;") ∈ lw_all := lw_g (lw_at lw_m1 52 rfl) rfl
theorem q171 : (Jvm.Cond.lays "OneCoin$Moment" "OneCoin$Moment" "payer" "I") ∈ lw_all := lw_g (lw_at lw_m1 56 rfl) rfl
theorem q172 : (Jvm.Cond.soleField "OneCoin$Moment" "payer") ∈ lw_all := lw_g (lw_at lw_m1 57 rfl) rfl
theorem q173 : (Jvm.Cond.lays "OneCoin$Moment" "OneCoin$Moment" "paid" "I") ∈ lw_all := lw_g (lw_at lw_m1 58 rfl) rfl
theorem q174 : (Jvm.Cond.soleField "OneCoin$Moment" "paid") ∈ lw_all := lw_g (lw_at lw_m1 59 rfl) rfl
theorem q175 : (Jvm.Cond.lays "OneCoin$Moment" "OneCoin$Moment" "many" "I") ∈ lw_all := lw_g (lw_at lw_m1 60 rfl) rfl
theorem q176 : (Jvm.Cond.soleField "OneCoin$Moment" "many") ∈ lw_all := lw_g (lw_at lw_m1 61 rfl) rfl
theorem q177 : (Jvm.Cond.lays "OneCoin$Moment" "OneCoin$Moment" "all" "I") ∈ lw_all := lw_g (lw_at lw_m1 62 rfl) rfl
theorem q178 : (Jvm.Cond.soleField "OneCoin$Moment" "all") ∈ lw_all := lw_g (lw_at lw_m1 63 rfl) rfl
theorem q179 : (Jvm.Cond.lays "OneCoin$Moment" "OneCoin$Moment" "hours" "I") ∈ lw_all := lw_g (lw_at lw_m1 64 rfl) rfl
theorem q180 : (Jvm.Cond.soleField "OneCoin$Moment" "hours") ∈ lw_all := lw_g (lw_at lw_m1 65 rfl) rfl
theorem q181 : (Jvm.Cond.lays "OneCoin$Moment" "OneCoin$Moment" "got" "I") ∈ lw_all := lw_g (lw_at lw_m1 66 rfl) rfl
theorem q182 : (Jvm.Cond.soleField "OneCoin$Moment" "got") ∈ lw_all := lw_g (lw_at lw_m1 67 rfl) rfl
theorem q183 : (Jvm.Cond.lays "OneCoin$Moment" "OneCoin$Moment" "hour" "I") ∈ lw_all := lw_g (lw_at lw_m1 68 rfl) rfl
theorem q184 : (Jvm.Cond.soleField "OneCoin$Moment" "hour") ∈ lw_all := lw_g (lw_at lw_m1 69 rfl) rfl
theorem q185 : (Jvm.Cond.lays "OneCoin$Moment" "OneCoin$Moment" "day" "I") ∈ lw_all := lw_g (lw_at lw_m1 70 rfl) rfl
theorem q186 : (Jvm.Cond.soleField "OneCoin$Moment" "day") ∈ lw_all := lw_g (lw_at lw_m1 71 rfl) rfl
theorem q187 : (Jvm.Cond.laysFinal "OneCoin$Moment" "OneCoin$Moment" "this$0" "LOneCoin;") ∈ lw_all := lw_g (lw_at lw_m1 72 rfl) rfl
theorem q188 : (Jvm.Cond.soleField "OneCoin$Moment" "this$0") ∈ lw_all := lw_g (lw_at lw_m1 73 rfl) rfl
theorem q189 : (Jvm.Cond.lays "OneCoin$Moment" "OneCoin$Asked" "isRefused" "Z") ∈ lw_all := lw_g (lw_at lw_m1 74 rfl) rfl
theorem q191 : (Jvm.Cond.superclass "OneCoin$Moment" "OneCoin$Asked") ∈ lw_all := lw_g (lw_at lw_m1 76 rfl) rfl
theorem q208 : (Jvm.Cond.fieldLinkNest "OneCoin$Moment" (50 : Nat) "OneCoin$Debts" "owed" "[[I" "OneCoin") ∈ lw_tbl := lw_at lw_m1 93 rfl
theorem q216 : (Jvm.Cond.fieldLinkNest "OneCoin$Moment" (46 : Nat) "OneCoin$Duchy" "debts" "LOneCoin$Debts;" "OneCoin") ∈ lw_tbl := lw_at lw_m1 101 rfl
theorem q229 : (Jvm.Cond.fieldLinkNest "OneCoin$Moment" (38 : Nat) "OneCoin$Duchy" "hour" "I" "OneCoin") ∈ lw_tbl := lw_at lw_m1 114 rfl
theorem q232 : (Jvm.Cond.fieldLinkNest "OneCoin$Moment" (41 : Nat) "OneCoin$Duchy" "day" "I" "OneCoin") ∈ lw_tbl := lw_at lw_m1 117 rfl
theorem q322 : (Jvm.Cond.fieldLinkNest "OneCoin$Moment" (69 : Nat) "OneCoin" "law" "LOneCoin$Text;" "OneCoin") ∈ lw_tbl := lw_at lw_m1 207 rfl
theorem q950 : (Jvm.Cond.instanceMethod ({ cls := "OneCoin$Moment", name := "at", desc := "(II)LOneCoin$Moment;" } : Jvm.MethodName)) ∈ lw_all := lw_g (lw_at lw_m4 115 rfl) rfl
theorem q951 : (Jvm.Cond.selects "OneCoin$Moment" ({ cls := "OneCoin$Moment", name := "at", desc := "(II)LOneCoin$Moment;" } : Jvm.MethodName) ({ cls := "OneCoin$Moment", name := "at", desc := "(II)LOneCoin$Moment;" } : Jvm.MethodName)) ∈ lw_all := lw_g (lw_at lw_m4 116 rfl) rfl
theorem q952 : (Jvm.Cond.code ({ cls := "OneCoin$Moment", name := "at", desc := "(II)LOneCoin$Moment;" } : Jvm.MethodName) prog_10_method_2_code (3 : Nat) (Option.some (Jvm.ClassFile.FieldType.object "OneCoin$Moment"))) ∈ lw_all := lw_g (lw_at lw_m4 117 rfl) rfl
theorem q954 : (Jvm.Cond.instanceMethod ({ cls := "OneCoin$Moment", name := "tells", desc := "(II)I" } : Jvm.MethodName)) ∈ lw_all := lw_g (lw_at lw_m4 119 rfl) rfl
theorem q955 : (Jvm.Cond.selects "OneCoin$Moment" ({ cls := "OneCoin$Moment", name := "tells", desc := "(II)I" } : Jvm.MethodName) ({ cls := "OneCoin$Moment", name := "tells", desc := "(II)I" } : Jvm.MethodName)) ∈ lw_all := lw_g (lw_at lw_m4 120 rfl) rfl
theorem q956 : (Jvm.Cond.code ({ cls := "OneCoin$Moment", name := "tells", desc := "(II)I" } : Jvm.MethodName) prog_10_method_5_code (3 : Nat) (Option.some Jvm.ClassFile.FieldType.int)) ∈ lw_all := lw_g (lw_at lw_m4 121 rfl) rfl
theorem q957 : (Jvm.Cond.methodLink "OneCoin$Moment" (73 : Nat) ({ cls := "OneCoin$Text", name := "tells", desc := "(ILOneCoin$Asked;)I" } : Jvm.MethodName)) ∈ lw_all := lw_g (lw_at lw_m4 122 rfl) rfl
theorem q976 : (Jvm.Cond.selects "OneCoin$Moment" ({ cls := "OneCoin$Asked", name := "value", desc := "(I)I" } : Jvm.MethodName) ({ cls := "OneCoin$Moment", name := "value", desc := "(I)I" } : Jvm.MethodName)) ∈ lw_all := lw_g (lw_at lw_m4 141 rfl) rfl
theorem q977 : (Jvm.Cond.instanceMethod ({ cls := "OneCoin$Moment", name := "value", desc := "(I)I" } : Jvm.MethodName)) ∈ lw_all := lw_g (lw_at lw_m4 142 rfl) rfl
theorem q978 : (Jvm.Cond.code ({ cls := "OneCoin$Moment", name := "value", desc := "(I)I" } : Jvm.MethodName) prog_10_method_4_code (2 : Nat) (Option.some Jvm.ClassFile.FieldType.int)) ∈ lw_all := lw_g (lw_at lw_m4 143 rfl) rfl
theorem q1005 : (Jvm.Cond.methodLinkNest "OneCoin$Moment" (79 : Nat) ({ cls := "OneCoin", name := "held", desc := "(II)I" } : Jvm.MethodName) "OneCoin") ∈ lw_tbl := lw_at lw_m4 170 rfl
theorem q1010 : (Jvm.Cond.instanceMethod ({ cls := "OneCoin$Moment", name := "of", desc := "(LOneCoin$Duchy;II)LOneCoin$Moment;" } : Jvm.MethodName)) ∈ lw_all := lw_g (lw_at lw_m4 175 rfl) rfl
theorem q1011 : (Jvm.Cond.selects "OneCoin$Moment" ({ cls := "OneCoin$Moment", name := "of", desc := "(LOneCoin$Duchy;II)LOneCoin$Moment;" } : Jvm.MethodName) ({ cls := "OneCoin$Moment", name := "of", desc := "(LOneCoin$Duchy;II)LOneCoin$Moment;" } : Jvm.MethodName)) ∈ lw_all := lw_g (lw_at lw_m4 176 rfl) rfl
theorem q1012 : (Jvm.Cond.code ({ cls := "OneCoin$Moment", name := "of", desc := "(LOneCoin$Duchy;II)LOneCoin$Moment;" } : Jvm.MethodName) prog_10_method_3_code (4 : Nat) (Option.some (Jvm.ClassFile.FieldType.object "OneCoin$Moment"))) ∈ lw_all := lw_g (lw_at lw_m4 177 rfl) rfl
theorem q1013 : (Jvm.Cond.methodLink "OneCoin$Moment" (42 : Nat) ({ cls := "OneCoin$Moment", name := "at", desc := "(II)LOneCoin$Moment;" } : Jvm.MethodName)) ∈ lw_all := lw_g (lw_at lw_m4 178 rfl) rfl
theorem q1014 : (Jvm.Cond.methodLink "OneCoin$Moment" (56 : Nat) ({ cls := "OneCoin$Debts", name := "owes", desc := "(I)I" } : Jvm.MethodName)) ∈ lw_all := lw_g (lw_at lw_m4 179 rfl) rfl
theorem q1015 : (Jvm.Cond.methodLinkNest "OneCoin$Moment" (60 : Nat) ({ cls := "OneCoin", name := "way", desc := "(II)I" } : Jvm.MethodName) "OneCoin") ∈ lw_tbl := lw_at lw_m4 180 rfl
theorem q1016 : (Jvm.Cond.methodLink "OneCoin$Moment" (66 : Nat) ({ cls := "OneCoin$Duchy", name := "chalked", desc := "(I)I" } : Jvm.MethodName)) ∈ lw_all := lw_g (lw_at lw_m4 181 rfl) rfl
theorem q1045 : (Jvm.Cond.instanceMethod ({ cls := "OneCoin$Moment", name := "willNot", desc := "()Z" } : Jvm.MethodName)) ∈ lw_all := lw_g (lw_at lw_m4 210 rfl) rfl
theorem q1046 : (Jvm.Cond.selects "OneCoin$Moment" ({ cls := "OneCoin$Moment", name := "willNot", desc := "()Z" } : Jvm.MethodName) ({ cls := "OneCoin$Moment", name := "willNot", desc := "()Z" } : Jvm.MethodName)) ∈ lw_all := lw_g (lw_at lw_m4 211 rfl) rfl
theorem q1047 : (Jvm.Cond.code ({ cls := "OneCoin$Moment", name := "willNot", desc := "()Z" } : Jvm.MethodName) prog_10_method_6_code (1 : Nat) (Option.some Jvm.ClassFile.FieldType.boolean)) ∈ lw_all := lw_g (lw_at lw_m4 212 rfl) rfl
theorem q1048 : (Jvm.Cond.methodLink "OneCoin$Moment" (82 : Nat) ({ cls := "OneCoin$Text", name := "says", desc := "(ILOneCoin$Asked;)Z" } : Jvm.MethodName)) ∈ lw_all := lw_g (lw_at lw_m4 213 rfl) rfl
theorem in_X2 : ∀ w ∈ wsX20, w ∈ lw_all := lw_in wsX20 [189, 171, 173, 175, 177, 179, 181, 183, 185, 187] (by decide +kernel) (by decide +kernel)
/-! OneCoin$Duchy -/
set_option maxRecDepth 100000
def RX3 : String := "OneCoin$Duchy"
def TX3 : u_T := fun k => match k with
  | 0 => ("OneCoin$Duchy", "debts", "LOneCoin$Debts;", true)
  | 1 => ("OneCoin$Duchy", "had", "[I", true)
  | 2 => ("OneCoin$Duchy", "chalk", "[I", true)
  | 3 => ("OneCoin$Duchy", "holder", "I", false)
  | 4 => ("OneCoin$Duchy", "payer", "I", false)
  | 5 => ("OneCoin$Duchy", "goal", "I", false)
  | 6 => ("OneCoin$Duchy", "left", "I", false)
  | 7 => ("OneCoin$Duchy", "hour", "I", false)
  | 8 => ("OneCoin$Duchy", "day", "I", false)
  | 9 => ("OneCoin$Duchy", "x", "I", false)
  | 10 => ("OneCoin$Duchy", "written", "I", false)
  | 11 => ("OneCoin$Duchy", "payings", "I", false)
  | 12 => ("OneCoin$Duchy", "rainyDays", "I", false)
  | 13 => ("OneCoin$Duchy", "interest", "I", false)
  | 14 => ("OneCoin$Duchy", "isRainy", "Z", false)
  | _ => ("OneCoin$Duchy", "this$0", "LOneCoin;", true)
def tyX3 : Nat → FieldType := fun k => match k with
  | 0 => .object "OneCoin$Debts"
  | 1 => .array .int
  | 2 => .array .int
  | 3 => .int
  | 4 => .int
  | 5 => .int
  | 6 => .int
  | 7 => .int
  | 8 => .int
  | 9 => .int
  | 10 => .int
  | 11 => .int
  | 12 => .int
  | 13 => .int
  | 14 => .boolean
  | _ => .object "OneCoin"
abbrev wsX30 : List Cond := u_ws RX3 TX3 16
set_option maxRecDepth 100000 in
theorem nmX3 : ∀ a, a < 16 → ∀ b, b < 16 → a ≠ b → (TX3 a).2.1 ≠ (TX3 b).2.1 := by decide +kernel
set_option maxRecDepth 100000 in
theorem tyX3_ok : ∀ k, k < 16 → parseFieldDescriptor (TX3 k).2.2.1 = some (tyX3 k) := by decide +kernel
abbrev cX3_init : ByteArray := prog_7_method_1_code
def yX3_init : MethodName := ⟨RX3, "<init>", "(LOneCoin;)V"⟩
def dkwX3_init_1 : List UInt8 := [188, 10, 181, 0, 22, 42, 16, 40, 188, 10, 181, 0, 26, 42, 2, 181, 0, 29, 42, 2, 181, 0, 33, 177]
abbrev dktX3_init_1 : List UInt8 := dkwX3_init_1 ++ []
def dkwX3_init_0 : List UInt8 := [42, 43, 181, 0, 3, 42, 183, 0, 9, 42, 187, 0, 15, 89, 183, 0, 17, 181, 0, 18, 42, 16, 10]
abbrev dktX3_init_0 : List UInt8 := dkwX3_init_0 ++ dktX3_init_1
theorem dksX3_init_0 : cX3_init.data.toList.drop 0 = dktX3_init_0 := by decide +kernel
theorem dksX3_init_1 : cX3_init.data.toList.drop 23 = dktX3_init_1 := dk_seg dksX3_init_0 23 rfl rfl
theorem dX3_init_0 : decode cX3_init 0 = .ok (.aload_n 0, 1) := dk_42 (dk_at dksX3_init_0 0 rfl rfl)
theorem dX3_init_1 : decode cX3_init 1 = .ok (.aload_n 1, 1) := dk_43 (dk_at dksX3_init_0 1 rfl rfl)
theorem dX3_init_2 : decode cX3_init 2 = .ok (.putfield 3, 3) := dk_181 0 3 (dk_at dksX3_init_0 2 rfl rfl)
theorem dX3_init_5 : decode cX3_init 5 = .ok (.aload_n 0, 1) := dk_42 (dk_at dksX3_init_0 5 rfl rfl)
theorem dX3_init_6 : decode cX3_init 6 = .ok (.invokespecial 9, 3) := dk_183 0 9 (dk_at dksX3_init_0 6 rfl rfl)
theorem dX3_init_9 : decode cX3_init 9 = .ok (.aload_n 0, 1) := dk_42 (dk_at dksX3_init_0 9 rfl rfl)
theorem dX3_init_10 : decode cX3_init 10 = .ok (.new 15, 3) := dk_187 0 15 (dk_at dksX3_init_0 10 rfl rfl)
theorem dX3_init_13 : decode cX3_init 13 = .ok (.dup, 1) := dk_89 (dk_at dksX3_init_0 13 rfl rfl)
theorem dX3_init_14 : decode cX3_init 14 = .ok (.invokespecial 17, 3) := dk_183 0 17 (dk_at dksX3_init_0 14 rfl rfl)
theorem dX3_init_17 : decode cX3_init 17 = .ok (.putfield 18, 3) := dk_181 0 18 (dk_at dksX3_init_0 17 rfl rfl)
theorem dX3_init_20 : decode cX3_init 20 = .ok (.aload_n 0, 1) := dk_42 (dk_at dksX3_init_0 20 rfl rfl)
theorem dX3_init_21 : decode cX3_init 21 = .ok (.bipush 10, 2) := dk_16 10 (dk_at dksX3_init_0 21 rfl rfl)
theorem dX3_init_23 : decode cX3_init 23 = .ok (.newarray .int, 2) := dk_188_10 (dk_at dksX3_init_1 0 rfl rfl)
theorem dX3_init_25 : decode cX3_init 25 = .ok (.putfield 22, 3) := dk_181 0 22 (dk_at dksX3_init_1 2 rfl rfl)
theorem dX3_init_28 : decode cX3_init 28 = .ok (.aload_n 0, 1) := dk_42 (dk_at dksX3_init_1 5 rfl rfl)
theorem dX3_init_29 : decode cX3_init 29 = .ok (.bipush 40, 2) := dk_16 40 (dk_at dksX3_init_1 6 rfl rfl)
theorem dX3_init_31 : decode cX3_init 31 = .ok (.newarray .int, 2) := dk_188_10 (dk_at dksX3_init_1 8 rfl rfl)
theorem dX3_init_33 : decode cX3_init 33 = .ok (.putfield 26, 3) := dk_181 0 26 (dk_at dksX3_init_1 10 rfl rfl)
theorem dX3_init_36 : decode cX3_init 36 = .ok (.aload_n 0, 1) := dk_42 (dk_at dksX3_init_1 13 rfl rfl)
theorem dX3_init_37 : decode cX3_init 37 = .ok (.iconst (-1), 1) := dk_2 (dk_at dksX3_init_1 14 rfl rfl)
theorem dX3_init_38 : decode cX3_init 38 = .ok (.putfield 29, 3) := dk_181 0 29 (dk_at dksX3_init_1 15 rfl rfl)
theorem dX3_init_41 : decode cX3_init 41 = .ok (.aload_n 0, 1) := dk_42 (dk_at dksX3_init_1 18 rfl rfl)
theorem dX3_init_42 : decode cX3_init 42 = .ok (.iconst (-1), 1) := dk_2 (dk_at dksX3_init_1 19 rfl rfl)
theorem dX3_init_43 : decode cX3_init 43 = .ok (.putfield 33, 3) := dk_181 0 33 (dk_at dksX3_init_1 20 rfl rfl)
theorem dX3_init_46 : decode cX3_init 46 = .ok (.return_, 1) := dk_177 (dk_at dksX3_init_1 23 rfl rfl)
abbrev cX3_takes : ByteArray := prog_7_method_2_code
def yX3_takes : MethodName := ⟨RX3, "takes", "(LOneCoin$Duchy;)LOneCoin$Duchy;"⟩
def dkwX3_takes_5 : List UInt8 := [181, 0, 52, 42, 43, 180, 0, 55, 181, 0, 55, 42, 43, 180, 0, 58, 181, 0, 58, 42, 176]
abbrev dktX3_takes_5 : List UInt8 := dkwX3_takes_5 ++ []
def dkwX3_takes_4 : List UInt8 := [181, 0, 43, 42, 43, 180, 0, 46, 181, 0, 46, 42, 43, 180, 0, 49, 181, 0, 49, 42, 43, 180, 0, 52]
abbrev dktX3_takes_4 : List UInt8 := dkwX3_takes_4 ++ dktX3_takes_5
def dkwX3_takes_3 : List UInt8 := [181, 0, 29, 42, 43, 180, 0, 40, 181, 0, 40, 42, 43, 180, 0, 33, 181, 0, 33, 42, 43, 180, 0, 43]
abbrev dktX3_takes_3 : List UInt8 := dkwX3_takes_3 ++ dktX3_takes_4
def dkwX3_takes_2 : List UInt8 := [180, 0, 26, 28, 43, 180, 0, 26, 28, 46, 79, 132, 2, 1, 167, 255, 235, 42, 43, 180, 0, 29]
abbrev dktX3_takes_2 : List UInt8 := dkwX3_takes_2 ++ dktX3_takes_3
def dkwX3_takes_1 : List UInt8 := [28, 43, 180, 0, 22, 28, 46, 79, 132, 2, 1, 167, 255, 235, 3, 61, 28, 16, 40, 162, 0, 21, 42]
abbrev dktX3_takes_1 : List UInt8 := dkwX3_takes_1 ++ dktX3_takes_2
def dkwX3_takes_0 : List UInt8 := [42, 180, 0, 18, 43, 180, 0, 18, 182, 0, 36, 87, 3, 61, 28, 16, 10, 162, 0, 21, 42, 180, 0, 22]
abbrev dktX3_takes_0 : List UInt8 := dkwX3_takes_0 ++ dktX3_takes_1
theorem dksX3_takes_0 : cX3_takes.data.toList.drop 0 = dktX3_takes_0 := by decide +kernel
theorem dksX3_takes_1 : cX3_takes.data.toList.drop 24 = dktX3_takes_1 := dk_seg dksX3_takes_0 24 rfl rfl
theorem dksX3_takes_2 : cX3_takes.data.toList.drop 47 = dktX3_takes_2 := dk_seg dksX3_takes_1 23 rfl rfl
theorem dksX3_takes_3 : cX3_takes.data.toList.drop 69 = dktX3_takes_3 := dk_seg dksX3_takes_2 22 rfl rfl
theorem dksX3_takes_4 : cX3_takes.data.toList.drop 93 = dktX3_takes_4 := dk_seg dksX3_takes_3 24 rfl rfl
theorem dksX3_takes_5 : cX3_takes.data.toList.drop 117 = dktX3_takes_5 := dk_seg dksX3_takes_4 24 rfl rfl
theorem dX3_takes_0 : decode cX3_takes 0 = .ok (.aload_n 0, 1) := dk_42 (dk_at dksX3_takes_0 0 rfl rfl)
theorem dX3_takes_1 : decode cX3_takes 1 = .ok (.getfield 18, 3) := dk_180 0 18 (dk_at dksX3_takes_0 1 rfl rfl)
theorem dX3_takes_4 : decode cX3_takes 4 = .ok (.aload_n 1, 1) := dk_43 (dk_at dksX3_takes_0 4 rfl rfl)
theorem dX3_takes_5 : decode cX3_takes 5 = .ok (.getfield 18, 3) := dk_180 0 18 (dk_at dksX3_takes_0 5 rfl rfl)
theorem dX3_takes_8 : decode cX3_takes 8 = .ok (.invokevirtual 36, 3) := dk_182 0 36 (dk_at dksX3_takes_0 8 rfl rfl)
theorem dX3_takes_11 : decode cX3_takes 11 = .ok (.pop, 1) := dk_87 (dk_at dksX3_takes_0 11 rfl rfl)
theorem dX3_takes_12 : decode cX3_takes 12 = .ok (.iconst 0, 1) := dk_3 (dk_at dksX3_takes_0 12 rfl rfl)
theorem dX3_takes_13 : decode cX3_takes 13 = .ok (.istore_n 2, 1) := dk_61 (dk_at dksX3_takes_0 13 rfl rfl)
theorem dX3_takes_14 : decode cX3_takes 14 = .ok (.iload_n 2, 1) := dk_28 (dk_at dksX3_takes_0 14 rfl rfl)
theorem dX3_takes_15 : decode cX3_takes 15 = .ok (.bipush 10, 2) := dk_16 10 (dk_at dksX3_takes_0 15 rfl rfl)
theorem dX3_takes_17 : decode cX3_takes 17 = .ok (.if_icmp .ge 21, 3) := dk_162 0 21 (dk_at dksX3_takes_0 17 rfl rfl)
theorem dX3_takes_20 : decode cX3_takes 20 = .ok (.aload_n 0, 1) := dk_42 (dk_at dksX3_takes_0 20 rfl rfl)
theorem dX3_takes_21 : decode cX3_takes 21 = .ok (.getfield 22, 3) := dk_180 0 22 (dk_at dksX3_takes_0 21 rfl rfl)
theorem dX3_takes_24 : decode cX3_takes 24 = .ok (.iload_n 2, 1) := dk_28 (dk_at dksX3_takes_1 0 rfl rfl)
theorem dX3_takes_25 : decode cX3_takes 25 = .ok (.aload_n 1, 1) := dk_43 (dk_at dksX3_takes_1 1 rfl rfl)
theorem dX3_takes_26 : decode cX3_takes 26 = .ok (.getfield 22, 3) := dk_180 0 22 (dk_at dksX3_takes_1 2 rfl rfl)
theorem dX3_takes_29 : decode cX3_takes 29 = .ok (.iload_n 2, 1) := dk_28 (dk_at dksX3_takes_1 5 rfl rfl)
theorem dX3_takes_30 : decode cX3_takes 30 = .ok (.iaload, 1) := dk_46 (dk_at dksX3_takes_1 6 rfl rfl)
theorem dX3_takes_31 : decode cX3_takes 31 = .ok (.iastore, 1) := dk_79 (dk_at dksX3_takes_1 7 rfl rfl)
theorem dX3_takes_32 : decode cX3_takes 32 = .ok (.iinc 2 1, 3) := dk_132 2 1 (dk_at dksX3_takes_1 8 rfl rfl)
theorem dX3_takes_35 : decode cX3_takes 35 = .ok (.goto (-21), 3) := dk_167 255 235 (dk_at dksX3_takes_1 11 rfl rfl)
theorem dX3_takes_38 : decode cX3_takes 38 = .ok (.iconst 0, 1) := dk_3 (dk_at dksX3_takes_1 14 rfl rfl)
theorem dX3_takes_39 : decode cX3_takes 39 = .ok (.istore_n 2, 1) := dk_61 (dk_at dksX3_takes_1 15 rfl rfl)
theorem dX3_takes_40 : decode cX3_takes 40 = .ok (.iload_n 2, 1) := dk_28 (dk_at dksX3_takes_1 16 rfl rfl)
theorem dX3_takes_41 : decode cX3_takes 41 = .ok (.bipush 40, 2) := dk_16 40 (dk_at dksX3_takes_1 17 rfl rfl)
theorem dX3_takes_43 : decode cX3_takes 43 = .ok (.if_icmp .ge 21, 3) := dk_162 0 21 (dk_at dksX3_takes_1 19 rfl rfl)
theorem dX3_takes_46 : decode cX3_takes 46 = .ok (.aload_n 0, 1) := dk_42 (dk_at dksX3_takes_1 22 rfl rfl)
theorem dX3_takes_47 : decode cX3_takes 47 = .ok (.getfield 26, 3) := dk_180 0 26 (dk_at dksX3_takes_2 0 rfl rfl)
theorem dX3_takes_50 : decode cX3_takes 50 = .ok (.iload_n 2, 1) := dk_28 (dk_at dksX3_takes_2 3 rfl rfl)
theorem dX3_takes_51 : decode cX3_takes 51 = .ok (.aload_n 1, 1) := dk_43 (dk_at dksX3_takes_2 4 rfl rfl)
theorem dX3_takes_52 : decode cX3_takes 52 = .ok (.getfield 26, 3) := dk_180 0 26 (dk_at dksX3_takes_2 5 rfl rfl)
theorem dX3_takes_55 : decode cX3_takes 55 = .ok (.iload_n 2, 1) := dk_28 (dk_at dksX3_takes_2 8 rfl rfl)
theorem dX3_takes_56 : decode cX3_takes 56 = .ok (.iaload, 1) := dk_46 (dk_at dksX3_takes_2 9 rfl rfl)
theorem dX3_takes_57 : decode cX3_takes 57 = .ok (.iastore, 1) := dk_79 (dk_at dksX3_takes_2 10 rfl rfl)
theorem dX3_takes_58 : decode cX3_takes 58 = .ok (.iinc 2 1, 3) := dk_132 2 1 (dk_at dksX3_takes_2 11 rfl rfl)
theorem dX3_takes_61 : decode cX3_takes 61 = .ok (.goto (-21), 3) := dk_167 255 235 (dk_at dksX3_takes_2 14 rfl rfl)
theorem dX3_takes_64 : decode cX3_takes 64 = .ok (.aload_n 0, 1) := dk_42 (dk_at dksX3_takes_2 17 rfl rfl)
theorem dX3_takes_65 : decode cX3_takes 65 = .ok (.aload_n 1, 1) := dk_43 (dk_at dksX3_takes_2 18 rfl rfl)
theorem dX3_takes_66 : decode cX3_takes 66 = .ok (.getfield 29, 3) := dk_180 0 29 (dk_at dksX3_takes_2 19 rfl rfl)
theorem dX3_takes_69 : decode cX3_takes 69 = .ok (.putfield 29, 3) := dk_181 0 29 (dk_at dksX3_takes_3 0 rfl rfl)
theorem dX3_takes_72 : decode cX3_takes 72 = .ok (.aload_n 0, 1) := dk_42 (dk_at dksX3_takes_3 3 rfl rfl)
theorem dX3_takes_73 : decode cX3_takes 73 = .ok (.aload_n 1, 1) := dk_43 (dk_at dksX3_takes_3 4 rfl rfl)
theorem dX3_takes_74 : decode cX3_takes 74 = .ok (.getfield 40, 3) := dk_180 0 40 (dk_at dksX3_takes_3 5 rfl rfl)
theorem dX3_takes_77 : decode cX3_takes 77 = .ok (.putfield 40, 3) := dk_181 0 40 (dk_at dksX3_takes_3 8 rfl rfl)
theorem dX3_takes_80 : decode cX3_takes 80 = .ok (.aload_n 0, 1) := dk_42 (dk_at dksX3_takes_3 11 rfl rfl)
theorem dX3_takes_81 : decode cX3_takes 81 = .ok (.aload_n 1, 1) := dk_43 (dk_at dksX3_takes_3 12 rfl rfl)
theorem dX3_takes_82 : decode cX3_takes 82 = .ok (.getfield 33, 3) := dk_180 0 33 (dk_at dksX3_takes_3 13 rfl rfl)
theorem dX3_takes_85 : decode cX3_takes 85 = .ok (.putfield 33, 3) := dk_181 0 33 (dk_at dksX3_takes_3 16 rfl rfl)
theorem dX3_takes_88 : decode cX3_takes 88 = .ok (.aload_n 0, 1) := dk_42 (dk_at dksX3_takes_3 19 rfl rfl)
theorem dX3_takes_89 : decode cX3_takes 89 = .ok (.aload_n 1, 1) := dk_43 (dk_at dksX3_takes_3 20 rfl rfl)
theorem dX3_takes_90 : decode cX3_takes 90 = .ok (.getfield 43, 3) := dk_180 0 43 (dk_at dksX3_takes_3 21 rfl rfl)
theorem dX3_takes_93 : decode cX3_takes 93 = .ok (.putfield 43, 3) := dk_181 0 43 (dk_at dksX3_takes_4 0 rfl rfl)
theorem dX3_takes_96 : decode cX3_takes 96 = .ok (.aload_n 0, 1) := dk_42 (dk_at dksX3_takes_4 3 rfl rfl)
theorem dX3_takes_97 : decode cX3_takes 97 = .ok (.aload_n 1, 1) := dk_43 (dk_at dksX3_takes_4 4 rfl rfl)
theorem dX3_takes_98 : decode cX3_takes 98 = .ok (.getfield 46, 3) := dk_180 0 46 (dk_at dksX3_takes_4 5 rfl rfl)
theorem dX3_takes_101 : decode cX3_takes 101 = .ok (.putfield 46, 3) := dk_181 0 46 (dk_at dksX3_takes_4 8 rfl rfl)
theorem dX3_takes_104 : decode cX3_takes 104 = .ok (.aload_n 0, 1) := dk_42 (dk_at dksX3_takes_4 11 rfl rfl)
theorem dX3_takes_105 : decode cX3_takes 105 = .ok (.aload_n 1, 1) := dk_43 (dk_at dksX3_takes_4 12 rfl rfl)
theorem dX3_takes_106 : decode cX3_takes 106 = .ok (.getfield 49, 3) := dk_180 0 49 (dk_at dksX3_takes_4 13 rfl rfl)
theorem dX3_takes_109 : decode cX3_takes 109 = .ok (.putfield 49, 3) := dk_181 0 49 (dk_at dksX3_takes_4 16 rfl rfl)
theorem dX3_takes_112 : decode cX3_takes 112 = .ok (.aload_n 0, 1) := dk_42 (dk_at dksX3_takes_4 19 rfl rfl)
theorem dX3_takes_113 : decode cX3_takes 113 = .ok (.aload_n 1, 1) := dk_43 (dk_at dksX3_takes_4 20 rfl rfl)
theorem dX3_takes_114 : decode cX3_takes 114 = .ok (.getfield 52, 3) := dk_180 0 52 (dk_at dksX3_takes_4 21 rfl rfl)
theorem dX3_takes_117 : decode cX3_takes 117 = .ok (.putfield 52, 3) := dk_181 0 52 (dk_at dksX3_takes_5 0 rfl rfl)
theorem dX3_takes_120 : decode cX3_takes 120 = .ok (.aload_n 0, 1) := dk_42 (dk_at dksX3_takes_5 3 rfl rfl)
theorem dX3_takes_121 : decode cX3_takes 121 = .ok (.aload_n 1, 1) := dk_43 (dk_at dksX3_takes_5 4 rfl rfl)
theorem dX3_takes_122 : decode cX3_takes 122 = .ok (.getfield 55, 3) := dk_180 0 55 (dk_at dksX3_takes_5 5 rfl rfl)
theorem dX3_takes_125 : decode cX3_takes 125 = .ok (.putfield 55, 3) := dk_181 0 55 (dk_at dksX3_takes_5 8 rfl rfl)
theorem dX3_takes_128 : decode cX3_takes 128 = .ok (.aload_n 0, 1) := dk_42 (dk_at dksX3_takes_5 11 rfl rfl)
theorem dX3_takes_129 : decode cX3_takes 129 = .ok (.aload_n 1, 1) := dk_43 (dk_at dksX3_takes_5 12 rfl rfl)
theorem dX3_takes_130 : decode cX3_takes 130 = .ok (.getfield 58, 3) := dk_180 0 58 (dk_at dksX3_takes_5 13 rfl rfl)
theorem dX3_takes_133 : decode cX3_takes 133 = .ok (.putfield 58, 3) := dk_181 0 58 (dk_at dksX3_takes_5 16 rfl rfl)
theorem dX3_takes_136 : decode cX3_takes 136 = .ok (.aload_n 0, 1) := dk_42 (dk_at dksX3_takes_5 19 rfl rfl)
theorem dX3_takes_137 : decode cX3_takes 137 = .ok (.areturn, 1) := dk_176 (dk_at dksX3_takes_5 20 rfl rfl)
abbrev cX3_pays : ByteArray := prog_7_method_16_code
def yX3_pays : MethodName := ⟨RX3, "pays", "(I)Z"⟩
def dkwX3_pays_2 : List UInt8 := [42, 27, 182, 0, 113, 4, 172]
abbrev dktX3_pays_2 : List UInt8 := dkwX3_pays_2 ++ []
def dkwX3_pays_1 : List UInt8 := [46, 154, 0, 5, 3, 172, 42, 180, 0, 18, 180, 0, 92, 42, 180, 0, 29, 50, 27, 92, 46, 4, 100, 79]
abbrev dktX3_pays_1 : List UInt8 := dkwX3_pays_1 ++ dktX3_pays_2
def dkwX3_pays_0 : List UInt8 := [42, 180, 0, 3, 27, 182, 0, 147, 153, 0, 20, 42, 180, 0, 18, 180, 0, 92, 42, 180, 0, 29, 50, 27]
abbrev dktX3_pays_0 : List UInt8 := dkwX3_pays_0 ++ dktX3_pays_1
theorem dksX3_pays_0 : cX3_pays.data.toList.drop 0 = dktX3_pays_0 := by decide +kernel
theorem dksX3_pays_1 : cX3_pays.data.toList.drop 24 = dktX3_pays_1 := dk_seg dksX3_pays_0 24 rfl rfl
theorem dksX3_pays_2 : cX3_pays.data.toList.drop 48 = dktX3_pays_2 := dk_seg dksX3_pays_1 24 rfl rfl
theorem dX3_pays_0 : decode cX3_pays 0 = .ok (.aload_n 0, 1) := dk_42 (dk_at dksX3_pays_0 0 rfl rfl)
theorem dX3_pays_1 : decode cX3_pays 1 = .ok (.getfield 3, 3) := dk_180 0 3 (dk_at dksX3_pays_0 1 rfl rfl)
theorem dX3_pays_4 : decode cX3_pays 4 = .ok (.iload_n 1, 1) := dk_27 (dk_at dksX3_pays_0 4 rfl rfl)
theorem dX3_pays_5 : decode cX3_pays 5 = .ok (.invokevirtual 147, 3) := dk_182 0 147 (dk_at dksX3_pays_0 5 rfl rfl)
theorem dX3_pays_8 : decode cX3_pays 8 = .ok (.ifCond .eq 20, 3) := dk_153 0 20 (dk_at dksX3_pays_0 8 rfl rfl)
theorem dX3_pays_11 : decode cX3_pays 11 = .ok (.aload_n 0, 1) := dk_42 (dk_at dksX3_pays_0 11 rfl rfl)
theorem dX3_pays_12 : decode cX3_pays 12 = .ok (.getfield 18, 3) := dk_180 0 18 (dk_at dksX3_pays_0 12 rfl rfl)
theorem dX3_pays_15 : decode cX3_pays 15 = .ok (.getfield 92, 3) := dk_180 0 92 (dk_at dksX3_pays_0 15 rfl rfl)
theorem dX3_pays_18 : decode cX3_pays 18 = .ok (.aload_n 0, 1) := dk_42 (dk_at dksX3_pays_0 18 rfl rfl)
theorem dX3_pays_19 : decode cX3_pays 19 = .ok (.getfield 29, 3) := dk_180 0 29 (dk_at dksX3_pays_0 19 rfl rfl)
theorem dX3_pays_22 : decode cX3_pays 22 = .ok (.aaload, 1) := dk_50 (dk_at dksX3_pays_0 22 rfl rfl)
theorem dX3_pays_23 : decode cX3_pays 23 = .ok (.iload_n 1, 1) := dk_27 (dk_at dksX3_pays_0 23 rfl rfl)
theorem dX3_pays_24 : decode cX3_pays 24 = .ok (.iaload, 1) := dk_46 (dk_at dksX3_pays_1 0 rfl rfl)
theorem dX3_pays_25 : decode cX3_pays 25 = .ok (.ifCond .ne 5, 3) := dk_154 0 5 (dk_at dksX3_pays_1 1 rfl rfl)
theorem dX3_pays_28 : decode cX3_pays 28 = .ok (.iconst 0, 1) := dk_3 (dk_at dksX3_pays_1 4 rfl rfl)
theorem dX3_pays_29 : decode cX3_pays 29 = .ok (.ireturn, 1) := dk_172 (dk_at dksX3_pays_1 5 rfl rfl)
theorem dX3_pays_30 : decode cX3_pays 30 = .ok (.aload_n 0, 1) := dk_42 (dk_at dksX3_pays_1 6 rfl rfl)
theorem dX3_pays_31 : decode cX3_pays 31 = .ok (.getfield 18, 3) := dk_180 0 18 (dk_at dksX3_pays_1 7 rfl rfl)
theorem dX3_pays_34 : decode cX3_pays 34 = .ok (.getfield 92, 3) := dk_180 0 92 (dk_at dksX3_pays_1 10 rfl rfl)
theorem dX3_pays_37 : decode cX3_pays 37 = .ok (.aload_n 0, 1) := dk_42 (dk_at dksX3_pays_1 13 rfl rfl)
theorem dX3_pays_38 : decode cX3_pays 38 = .ok (.getfield 29, 3) := dk_180 0 29 (dk_at dksX3_pays_1 14 rfl rfl)
theorem dX3_pays_41 : decode cX3_pays 41 = .ok (.aaload, 1) := dk_50 (dk_at dksX3_pays_1 17 rfl rfl)
theorem dX3_pays_42 : decode cX3_pays 42 = .ok (.iload_n 1, 1) := dk_27 (dk_at dksX3_pays_1 18 rfl rfl)
theorem dX3_pays_43 : decode cX3_pays 43 = .ok (.dup2, 1) := dk_92 (dk_at dksX3_pays_1 19 rfl rfl)
theorem dX3_pays_44 : decode cX3_pays 44 = .ok (.iaload, 1) := dk_46 (dk_at dksX3_pays_1 20 rfl rfl)
theorem dX3_pays_45 : decode cX3_pays 45 = .ok (.iconst 1, 1) := dk_4 (dk_at dksX3_pays_1 21 rfl rfl)
theorem dX3_pays_46 : decode cX3_pays 46 = .ok (.isub, 1) := dk_100 (dk_at dksX3_pays_1 22 rfl rfl)
theorem dX3_pays_47 : decode cX3_pays 47 = .ok (.iastore, 1) := dk_79 (dk_at dksX3_pays_1 23 rfl rfl)
theorem dX3_pays_48 : decode cX3_pays 48 = .ok (.aload_n 0, 1) := dk_42 (dk_at dksX3_pays_2 0 rfl rfl)
theorem dX3_pays_49 : decode cX3_pays 49 = .ok (.iload_n 1, 1) := dk_27 (dk_at dksX3_pays_2 1 rfl rfl)
theorem dX3_pays_50 : decode cX3_pays 50 = .ok (.invokevirtual 113, 3) := dk_182 0 113 (dk_at dksX3_pays_2 2 rfl rfl)
theorem dX3_pays_53 : decode cX3_pays 53 = .ok (.iconst 1, 1) := dk_4 (dk_at dksX3_pays_2 5 rfl rfl)
theorem dX3_pays_54 : decode cX3_pays 54 = .ok (.ireturn, 1) := dk_172 (dk_at dksX3_pays_2 6 rfl rfl)
abbrev cX3_gets : ByteArray := prog_7_method_6_code
def yX3_gets : MethodName := ⟨RX3, "gets", "(I)V"⟩
def dkwX3_gets_1 : List UInt8 := [89, 180, 0, 55, 4, 96, 181, 0, 55, 177]
abbrev dktX3_gets_1 : List UInt8 := dkwX3_gets_1 ++ []
def dkwX3_gets_0 : List UInt8 := [42, 27, 181, 0, 29, 42, 2, 181, 0, 33, 42, 180, 0, 26, 42, 180, 0, 55, 16, 40, 112, 27, 79, 42]
abbrev dktX3_gets_0 : List UInt8 := dkwX3_gets_0 ++ dktX3_gets_1
theorem dksX3_gets_0 : cX3_gets.data.toList.drop 0 = dktX3_gets_0 := by decide +kernel
theorem dksX3_gets_1 : cX3_gets.data.toList.drop 24 = dktX3_gets_1 := dk_seg dksX3_gets_0 24 rfl rfl
theorem dX3_gets_0 : decode cX3_gets 0 = .ok (.aload_n 0, 1) := dk_42 (dk_at dksX3_gets_0 0 rfl rfl)
theorem dX3_gets_1 : decode cX3_gets 1 = .ok (.iload_n 1, 1) := dk_27 (dk_at dksX3_gets_0 1 rfl rfl)
theorem dX3_gets_2 : decode cX3_gets 2 = .ok (.putfield 29, 3) := dk_181 0 29 (dk_at dksX3_gets_0 2 rfl rfl)
theorem dX3_gets_5 : decode cX3_gets 5 = .ok (.aload_n 0, 1) := dk_42 (dk_at dksX3_gets_0 5 rfl rfl)
theorem dX3_gets_6 : decode cX3_gets 6 = .ok (.iconst (-1), 1) := dk_2 (dk_at dksX3_gets_0 6 rfl rfl)
theorem dX3_gets_7 : decode cX3_gets 7 = .ok (.putfield 33, 3) := dk_181 0 33 (dk_at dksX3_gets_0 7 rfl rfl)
theorem dX3_gets_10 : decode cX3_gets 10 = .ok (.aload_n 0, 1) := dk_42 (dk_at dksX3_gets_0 10 rfl rfl)
theorem dX3_gets_11 : decode cX3_gets 11 = .ok (.getfield 26, 3) := dk_180 0 26 (dk_at dksX3_gets_0 11 rfl rfl)
theorem dX3_gets_14 : decode cX3_gets 14 = .ok (.aload_n 0, 1) := dk_42 (dk_at dksX3_gets_0 14 rfl rfl)
theorem dX3_gets_15 : decode cX3_gets 15 = .ok (.getfield 55, 3) := dk_180 0 55 (dk_at dksX3_gets_0 15 rfl rfl)
theorem dX3_gets_18 : decode cX3_gets 18 = .ok (.bipush 40, 2) := dk_16 40 (dk_at dksX3_gets_0 18 rfl rfl)
theorem dX3_gets_20 : decode cX3_gets 20 = .ok (.irem, 1) := dk_112 (dk_at dksX3_gets_0 20 rfl rfl)
theorem dX3_gets_21 : decode cX3_gets 21 = .ok (.iload_n 1, 1) := dk_27 (dk_at dksX3_gets_0 21 rfl rfl)
theorem dX3_gets_22 : decode cX3_gets 22 = .ok (.iastore, 1) := dk_79 (dk_at dksX3_gets_0 22 rfl rfl)
theorem dX3_gets_23 : decode cX3_gets 23 = .ok (.aload_n 0, 1) := dk_42 (dk_at dksX3_gets_0 23 rfl rfl)
theorem dX3_gets_24 : decode cX3_gets 24 = .ok (.dup, 1) := dk_89 (dk_at dksX3_gets_1 0 rfl rfl)
theorem dX3_gets_25 : decode cX3_gets 25 = .ok (.getfield 55, 3) := dk_180 0 55 (dk_at dksX3_gets_1 1 rfl rfl)
theorem dX3_gets_28 : decode cX3_gets 28 = .ok (.iconst 1, 1) := dk_4 (dk_at dksX3_gets_1 4 rfl rfl)
theorem dX3_gets_29 : decode cX3_gets 29 = .ok (.iadd, 1) := dk_96 (dk_at dksX3_gets_1 5 rfl rfl)
theorem dX3_gets_30 : decode cX3_gets 30 = .ok (.putfield 55, 3) := dk_181 0 55 (dk_at dksX3_gets_1 6 rfl rfl)
theorem dX3_gets_33 : decode cX3_gets 33 = .ok (.return_, 1) := dk_177 (dk_at dksX3_gets_1 9 rfl rfl)
abbrev cX3_goes : ByteArray := prog_7_method_15_code
def yX3_goes : MethodName := ⟨RX3, "goes", "(I)LOneCoin$Duchy;"⟩
def dkwX3_goes_1 : List UInt8 := [132, 2, 1, 167, 255, 236, 42, 176]
abbrev dktX3_goes_1 : List UInt8 := dkwX3_goes_1 ++ []
def dkwX3_goes_0 : List UInt8 := [42, 182, 0, 136, 87, 3, 61, 28, 27, 162, 0, 21, 42, 182, 0, 140, 153, 0, 14, 42, 182, 0, 144, 62]
abbrev dktX3_goes_0 : List UInt8 := dkwX3_goes_0 ++ dktX3_goes_1
theorem dksX3_goes_0 : cX3_goes.data.toList.drop 0 = dktX3_goes_0 := by decide +kernel
theorem dksX3_goes_1 : cX3_goes.data.toList.drop 24 = dktX3_goes_1 := dk_seg dksX3_goes_0 24 rfl rfl
theorem dX3_goes_0 : decode cX3_goes 0 = .ok (.aload_n 0, 1) := dk_42 (dk_at dksX3_goes_0 0 rfl rfl)
theorem dX3_goes_1 : decode cX3_goes 1 = .ok (.invokevirtual 136, 3) := dk_182 0 136 (dk_at dksX3_goes_0 1 rfl rfl)
theorem dX3_goes_4 : decode cX3_goes 4 = .ok (.pop, 1) := dk_87 (dk_at dksX3_goes_0 4 rfl rfl)
theorem dX3_goes_5 : decode cX3_goes 5 = .ok (.iconst 0, 1) := dk_3 (dk_at dksX3_goes_0 5 rfl rfl)
theorem dX3_goes_6 : decode cX3_goes 6 = .ok (.istore_n 2, 1) := dk_61 (dk_at dksX3_goes_0 6 rfl rfl)
theorem dX3_goes_7 : decode cX3_goes 7 = .ok (.iload_n 2, 1) := dk_28 (dk_at dksX3_goes_0 7 rfl rfl)
theorem dX3_goes_8 : decode cX3_goes 8 = .ok (.iload_n 1, 1) := dk_27 (dk_at dksX3_goes_0 8 rfl rfl)
theorem dX3_goes_9 : decode cX3_goes 9 = .ok (.if_icmp .ge 21, 3) := dk_162 0 21 (dk_at dksX3_goes_0 9 rfl rfl)
theorem dX3_goes_12 : decode cX3_goes 12 = .ok (.aload_n 0, 1) := dk_42 (dk_at dksX3_goes_0 12 rfl rfl)
theorem dX3_goes_13 : decode cX3_goes 13 = .ok (.invokevirtual 140, 3) := dk_182 0 140 (dk_at dksX3_goes_0 13 rfl rfl)
theorem dX3_goes_16 : decode cX3_goes 16 = .ok (.ifCond .eq 14, 3) := dk_153 0 14 (dk_at dksX3_goes_0 16 rfl rfl)
theorem dX3_goes_19 : decode cX3_goes 19 = .ok (.aload_n 0, 1) := dk_42 (dk_at dksX3_goes_0 19 rfl rfl)
theorem dX3_goes_20 : decode cX3_goes 20 = .ok (.invokevirtual 144, 3) := dk_182 0 144 (dk_at dksX3_goes_0 20 rfl rfl)
theorem dX3_goes_23 : decode cX3_goes 23 = .ok (.istore_n 3, 1) := dk_62 (dk_at dksX3_goes_0 23 rfl rfl)
theorem dX3_goes_24 : decode cX3_goes 24 = .ok (.iinc 2 1, 3) := dk_132 2 1 (dk_at dksX3_goes_1 0 rfl rfl)
theorem dX3_goes_27 : decode cX3_goes 27 = .ok (.goto (-20), 3) := dk_167 255 236 (dk_at dksX3_goes_1 3 rfl rfl)
theorem dX3_goes_30 : decode cX3_goes 30 = .ok (.aload_n 0, 1) := dk_42 (dk_at dksX3_goes_1 6 rfl rfl)
theorem dX3_goes_31 : decode cX3_goes 31 = .ok (.areturn, 1) := dk_176 (dk_at dksX3_goes_1 7 rfl rfl)
abbrev cX3_begins : ByteArray := prog_7_method_14_code
def yX3_begins : MethodName := ⟨RX3, "begins", "()LOneCoin$Duchy;"⟩
def dkwX3_begins_0 : List UInt8 := [42, 3, 181, 0, 110, 42, 3, 181, 0, 89, 42, 3, 181, 0, 100, 42, 176]
abbrev dktX3_begins_0 : List UInt8 := dkwX3_begins_0 ++ []
theorem dksX3_begins_0 : cX3_begins.data.toList.drop 0 = dktX3_begins_0 := by decide +kernel
theorem dX3_begins_0 : decode cX3_begins 0 = .ok (.aload_n 0, 1) := dk_42 (dk_at dksX3_begins_0 0 rfl rfl)
theorem dX3_begins_1 : decode cX3_begins 1 = .ok (.iconst 0, 1) := dk_3 (dk_at dksX3_begins_0 1 rfl rfl)
theorem dX3_begins_2 : decode cX3_begins 2 = .ok (.putfield 110, 3) := dk_181 0 110 (dk_at dksX3_begins_0 2 rfl rfl)
theorem dX3_begins_5 : decode cX3_begins 5 = .ok (.aload_n 0, 1) := dk_42 (dk_at dksX3_begins_0 5 rfl rfl)
theorem dX3_begins_6 : decode cX3_begins 6 = .ok (.iconst 0, 1) := dk_3 (dk_at dksX3_begins_0 6 rfl rfl)
theorem dX3_begins_7 : decode cX3_begins 7 = .ok (.putfield 89, 3) := dk_181 0 89 (dk_at dksX3_begins_0 7 rfl rfl)
theorem dX3_begins_10 : decode cX3_begins 10 = .ok (.aload_n 0, 1) := dk_42 (dk_at dksX3_begins_0 10 rfl rfl)
theorem dX3_begins_11 : decode cX3_begins 11 = .ok (.iconst 0, 1) := dk_3 (dk_at dksX3_begins_0 11 rfl rfl)
theorem dX3_begins_12 : decode cX3_begins 12 = .ok (.putfield 100, 3) := dk_181 0 100 (dk_at dksX3_begins_0 12 rfl rfl)
theorem dX3_begins_15 : decode cX3_begins 15 = .ok (.aload_n 0, 1) := dk_42 (dk_at dksX3_begins_0 15 rfl rfl)
theorem dX3_begins_16 : decode cX3_begins 16 = .ok (.areturn, 1) := dk_176 (dk_at dksX3_begins_0 16 rfl rfl)
abbrev cX3_canGo : ByteArray := prog_7_method_13_code
def yX3_canGo : MethodName := ⟨RX3, "canGo", "()Z"⟩
def dkwX3_canGo_0 : List UInt8 := [42, 180, 0, 49, 17, 39, 15, 162, 0, 7, 4, 167, 0, 4, 3, 172]
abbrev dktX3_canGo_0 : List UInt8 := dkwX3_canGo_0 ++ []
theorem dksX3_canGo_0 : cX3_canGo.data.toList.drop 0 = dktX3_canGo_0 := by decide +kernel
theorem dX3_canGo_0 : decode cX3_canGo 0 = .ok (.aload_n 0, 1) := dk_42 (dk_at dksX3_canGo_0 0 rfl rfl)
theorem dX3_canGo_1 : decode cX3_canGo 1 = .ok (.getfield 49, 3) := dk_180 0 49 (dk_at dksX3_canGo_0 1 rfl rfl)
theorem dX3_canGo_4 : decode cX3_canGo 4 = .ok (.sipush 9999, 3) := dk_17 39 15 (dk_at dksX3_canGo_0 4 rfl rfl)
theorem dX3_canGo_7 : decode cX3_canGo 7 = .ok (.if_icmp .ge 7, 3) := dk_162 0 7 (dk_at dksX3_canGo_0 7 rfl rfl)
theorem dX3_canGo_10 : decode cX3_canGo 10 = .ok (.iconst 1, 1) := dk_4 (dk_at dksX3_canGo_0 10 rfl rfl)
theorem dX3_canGo_11 : decode cX3_canGo 11 = .ok (.goto 4, 3) := dk_167 0 4 (dk_at dksX3_canGo_0 11 rfl rfl)
theorem dX3_canGo_14 : decode cX3_canGo 14 = .ok (.iconst 0, 1) := dk_3 (dk_at dksX3_canGo_0 14 rfl rfl)
theorem dX3_canGo_15 : decode cX3_canGo 15 = .ok (.ireturn, 1) := dk_172 (dk_at dksX3_canGo_0 15 rfl rfl)
abbrev cX3_hourGoes : ByteArray := prog_7_method_12_code
def yX3_hourGoes : MethodName := ⟨RX3, "hourGoes", "()I"⟩
def dkwX3_hourGoes_4 : List UInt8 := [181, 0, 49, 27, 172]
abbrev dktX3_hourGoes_4 : List UInt8 := dkwX3_hourGoes_4 ++ []
def dkwX3_hourGoes_3 : List UInt8 := [181, 0, 46, 42, 180, 0, 46, 16, 24, 160, 0, 18, 42, 3, 181, 0, 46, 42, 89, 180, 0, 49, 4, 96]
abbrev dktX3_hourGoes_3 : List UInt8 := dkwX3_hourGoes_3 ++ dktX3_hourGoes_4
def dkwX3_hourGoes_2 : List UInt8 := [167, 0, 15, 42, 180, 0, 29, 2, 159, 0, 7, 42, 182, 0, 133, 42, 89, 180, 0, 46, 4, 96]
abbrev dktX3_hourGoes_2 : List UInt8 := dkwX3_hourGoes_2 ++ dktX3_hourGoes_3
def dkwX3_hourGoes_1 : List UInt8 := [180, 0, 43, 4, 100, 181, 0, 43, 42, 180, 0, 43, 154, 0, 27, 42, 180, 0, 33, 60, 42, 182, 0, 130]
abbrev dktX3_hourGoes_1 : List UInt8 := dkwX3_hourGoes_1 ++ dktX3_hourGoes_2
def dkwX3_hourGoes_0 : List UInt8 := [42, 180, 0, 46, 154, 0, 7, 42, 182, 0, 127, 2, 60, 42, 180, 0, 33, 2, 159, 0, 32, 42, 89]
abbrev dktX3_hourGoes_0 : List UInt8 := dkwX3_hourGoes_0 ++ dktX3_hourGoes_1
theorem dksX3_hourGoes_0 : cX3_hourGoes.data.toList.drop 0 = dktX3_hourGoes_0 := by decide +kernel
theorem dksX3_hourGoes_1 : cX3_hourGoes.data.toList.drop 23 = dktX3_hourGoes_1 := dk_seg dksX3_hourGoes_0 23 rfl rfl
theorem dksX3_hourGoes_2 : cX3_hourGoes.data.toList.drop 47 = dktX3_hourGoes_2 := dk_seg dksX3_hourGoes_1 24 rfl rfl
theorem dksX3_hourGoes_3 : cX3_hourGoes.data.toList.drop 69 = dktX3_hourGoes_3 := dk_seg dksX3_hourGoes_2 22 rfl rfl
theorem dksX3_hourGoes_4 : cX3_hourGoes.data.toList.drop 93 = dktX3_hourGoes_4 := dk_seg dksX3_hourGoes_3 24 rfl rfl
theorem dX3_hourGoes_0 : decode cX3_hourGoes 0 = .ok (.aload_n 0, 1) := dk_42 (dk_at dksX3_hourGoes_0 0 rfl rfl)
theorem dX3_hourGoes_1 : decode cX3_hourGoes 1 = .ok (.getfield 46, 3) := dk_180 0 46 (dk_at dksX3_hourGoes_0 1 rfl rfl)
theorem dX3_hourGoes_4 : decode cX3_hourGoes 4 = .ok (.ifCond .ne 7, 3) := dk_154 0 7 (dk_at dksX3_hourGoes_0 4 rfl rfl)
theorem dX3_hourGoes_7 : decode cX3_hourGoes 7 = .ok (.aload_n 0, 1) := dk_42 (dk_at dksX3_hourGoes_0 7 rfl rfl)
theorem dX3_hourGoes_8 : decode cX3_hourGoes 8 = .ok (.invokevirtual 127, 3) := dk_182 0 127 (dk_at dksX3_hourGoes_0 8 rfl rfl)
theorem dX3_hourGoes_11 : decode cX3_hourGoes 11 = .ok (.iconst (-1), 1) := dk_2 (dk_at dksX3_hourGoes_0 11 rfl rfl)
theorem dX3_hourGoes_12 : decode cX3_hourGoes 12 = .ok (.istore_n 1, 1) := dk_60 (dk_at dksX3_hourGoes_0 12 rfl rfl)
theorem dX3_hourGoes_13 : decode cX3_hourGoes 13 = .ok (.aload_n 0, 1) := dk_42 (dk_at dksX3_hourGoes_0 13 rfl rfl)
theorem dX3_hourGoes_14 : decode cX3_hourGoes 14 = .ok (.getfield 33, 3) := dk_180 0 33 (dk_at dksX3_hourGoes_0 14 rfl rfl)
theorem dX3_hourGoes_17 : decode cX3_hourGoes 17 = .ok (.iconst (-1), 1) := dk_2 (dk_at dksX3_hourGoes_0 17 rfl rfl)
theorem dX3_hourGoes_18 : decode cX3_hourGoes 18 = .ok (.if_icmp .eq 32, 3) := dk_159 0 32 (dk_at dksX3_hourGoes_0 18 rfl rfl)
theorem dX3_hourGoes_21 : decode cX3_hourGoes 21 = .ok (.aload_n 0, 1) := dk_42 (dk_at dksX3_hourGoes_0 21 rfl rfl)
theorem dX3_hourGoes_22 : decode cX3_hourGoes 22 = .ok (.dup, 1) := dk_89 (dk_at dksX3_hourGoes_0 22 rfl rfl)
theorem dX3_hourGoes_23 : decode cX3_hourGoes 23 = .ok (.getfield 43, 3) := dk_180 0 43 (dk_at dksX3_hourGoes_1 0 rfl rfl)
theorem dX3_hourGoes_26 : decode cX3_hourGoes 26 = .ok (.iconst 1, 1) := dk_4 (dk_at dksX3_hourGoes_1 3 rfl rfl)
theorem dX3_hourGoes_27 : decode cX3_hourGoes 27 = .ok (.isub, 1) := dk_100 (dk_at dksX3_hourGoes_1 4 rfl rfl)
theorem dX3_hourGoes_28 : decode cX3_hourGoes 28 = .ok (.putfield 43, 3) := dk_181 0 43 (dk_at dksX3_hourGoes_1 5 rfl rfl)
theorem dX3_hourGoes_31 : decode cX3_hourGoes 31 = .ok (.aload_n 0, 1) := dk_42 (dk_at dksX3_hourGoes_1 8 rfl rfl)
theorem dX3_hourGoes_32 : decode cX3_hourGoes 32 = .ok (.getfield 43, 3) := dk_180 0 43 (dk_at dksX3_hourGoes_1 9 rfl rfl)
theorem dX3_hourGoes_35 : decode cX3_hourGoes 35 = .ok (.ifCond .ne 27, 3) := dk_154 0 27 (dk_at dksX3_hourGoes_1 12 rfl rfl)
theorem dX3_hourGoes_38 : decode cX3_hourGoes 38 = .ok (.aload_n 0, 1) := dk_42 (dk_at dksX3_hourGoes_1 15 rfl rfl)
theorem dX3_hourGoes_39 : decode cX3_hourGoes 39 = .ok (.getfield 33, 3) := dk_180 0 33 (dk_at dksX3_hourGoes_1 16 rfl rfl)
theorem dX3_hourGoes_42 : decode cX3_hourGoes 42 = .ok (.istore_n 1, 1) := dk_60 (dk_at dksX3_hourGoes_1 19 rfl rfl)
theorem dX3_hourGoes_43 : decode cX3_hourGoes 43 = .ok (.aload_n 0, 1) := dk_42 (dk_at dksX3_hourGoes_1 20 rfl rfl)
theorem dX3_hourGoes_44 : decode cX3_hourGoes 44 = .ok (.invokevirtual 130, 3) := dk_182 0 130 (dk_at dksX3_hourGoes_1 21 rfl rfl)
theorem dX3_hourGoes_47 : decode cX3_hourGoes 47 = .ok (.goto 15, 3) := dk_167 0 15 (dk_at dksX3_hourGoes_2 0 rfl rfl)
theorem dX3_hourGoes_50 : decode cX3_hourGoes 50 = .ok (.aload_n 0, 1) := dk_42 (dk_at dksX3_hourGoes_2 3 rfl rfl)
theorem dX3_hourGoes_51 : decode cX3_hourGoes 51 = .ok (.getfield 29, 3) := dk_180 0 29 (dk_at dksX3_hourGoes_2 4 rfl rfl)
theorem dX3_hourGoes_54 : decode cX3_hourGoes 54 = .ok (.iconst (-1), 1) := dk_2 (dk_at dksX3_hourGoes_2 7 rfl rfl)
theorem dX3_hourGoes_55 : decode cX3_hourGoes 55 = .ok (.if_icmp .eq 7, 3) := dk_159 0 7 (dk_at dksX3_hourGoes_2 8 rfl rfl)
theorem dX3_hourGoes_58 : decode cX3_hourGoes 58 = .ok (.aload_n 0, 1) := dk_42 (dk_at dksX3_hourGoes_2 11 rfl rfl)
theorem dX3_hourGoes_59 : decode cX3_hourGoes 59 = .ok (.invokevirtual 133, 3) := dk_182 0 133 (dk_at dksX3_hourGoes_2 12 rfl rfl)
theorem dX3_hourGoes_62 : decode cX3_hourGoes 62 = .ok (.aload_n 0, 1) := dk_42 (dk_at dksX3_hourGoes_2 15 rfl rfl)
theorem dX3_hourGoes_63 : decode cX3_hourGoes 63 = .ok (.dup, 1) := dk_89 (dk_at dksX3_hourGoes_2 16 rfl rfl)
theorem dX3_hourGoes_64 : decode cX3_hourGoes 64 = .ok (.getfield 46, 3) := dk_180 0 46 (dk_at dksX3_hourGoes_2 17 rfl rfl)
theorem dX3_hourGoes_67 : decode cX3_hourGoes 67 = .ok (.iconst 1, 1) := dk_4 (dk_at dksX3_hourGoes_2 20 rfl rfl)
theorem dX3_hourGoes_68 : decode cX3_hourGoes 68 = .ok (.iadd, 1) := dk_96 (dk_at dksX3_hourGoes_2 21 rfl rfl)
theorem dX3_hourGoes_69 : decode cX3_hourGoes 69 = .ok (.putfield 46, 3) := dk_181 0 46 (dk_at dksX3_hourGoes_3 0 rfl rfl)
theorem dX3_hourGoes_72 : decode cX3_hourGoes 72 = .ok (.aload_n 0, 1) := dk_42 (dk_at dksX3_hourGoes_3 3 rfl rfl)
theorem dX3_hourGoes_73 : decode cX3_hourGoes 73 = .ok (.getfield 46, 3) := dk_180 0 46 (dk_at dksX3_hourGoes_3 4 rfl rfl)
theorem dX3_hourGoes_76 : decode cX3_hourGoes 76 = .ok (.bipush 24, 2) := dk_16 24 (dk_at dksX3_hourGoes_3 7 rfl rfl)
theorem dX3_hourGoes_78 : decode cX3_hourGoes 78 = .ok (.if_icmp .ne 18, 3) := dk_160 0 18 (dk_at dksX3_hourGoes_3 9 rfl rfl)
theorem dX3_hourGoes_81 : decode cX3_hourGoes 81 = .ok (.aload_n 0, 1) := dk_42 (dk_at dksX3_hourGoes_3 12 rfl rfl)
theorem dX3_hourGoes_82 : decode cX3_hourGoes 82 = .ok (.iconst 0, 1) := dk_3 (dk_at dksX3_hourGoes_3 13 rfl rfl)
theorem dX3_hourGoes_83 : decode cX3_hourGoes 83 = .ok (.putfield 46, 3) := dk_181 0 46 (dk_at dksX3_hourGoes_3 14 rfl rfl)
theorem dX3_hourGoes_86 : decode cX3_hourGoes 86 = .ok (.aload_n 0, 1) := dk_42 (dk_at dksX3_hourGoes_3 17 rfl rfl)
theorem dX3_hourGoes_87 : decode cX3_hourGoes 87 = .ok (.dup, 1) := dk_89 (dk_at dksX3_hourGoes_3 18 rfl rfl)
theorem dX3_hourGoes_88 : decode cX3_hourGoes 88 = .ok (.getfield 49, 3) := dk_180 0 49 (dk_at dksX3_hourGoes_3 19 rfl rfl)
theorem dX3_hourGoes_91 : decode cX3_hourGoes 91 = .ok (.iconst 1, 1) := dk_4 (dk_at dksX3_hourGoes_3 22 rfl rfl)
theorem dX3_hourGoes_92 : decode cX3_hourGoes 92 = .ok (.iadd, 1) := dk_96 (dk_at dksX3_hourGoes_3 23 rfl rfl)
theorem dX3_hourGoes_93 : decode cX3_hourGoes 93 = .ok (.putfield 49, 3) := dk_181 0 49 (dk_at dksX3_hourGoes_4 0 rfl rfl)
theorem dX3_hourGoes_96 : decode cX3_hourGoes 96 = .ok (.iload_n 1, 1) := dk_27 (dk_at dksX3_hourGoes_4 3 rfl rfl)
theorem dX3_hourGoes_97 : decode cX3_hourGoes 97 = .ok (.ireturn, 1) := dk_172 (dk_at dksX3_hourGoes_4 4 rfl rfl)
abbrev cX3_dayBegins : ByteArray := prog_7_method_8_code
def yX3_dayBegins : MethodName := ⟨RX3, "dayBegins", "()V"⟩
def dkwX3_dayBegins_7 : List UInt8 := [132, 1, 1, 167, 255, 154, 177]
abbrev dktX3_dayBegins_7 : List UInt8 := dkwX3_dayBegins_7 ++ []
def dkwX3_dayBegins_6 : List UInt8 := [180, 0, 18, 180, 0, 92, 27, 50, 28, 46, 29, 100, 96, 181, 0, 100, 132, 2, 1, 167, 255, 168]
abbrev dktX3_dayBegins_6 : List UInt8 := dkwX3_dayBegins_6 ++ dktX3_dayBegins_7
def dkwX3_dayBegins_5 : List UInt8 := [27, 28, 182, 0, 96, 16, 105, 16, 9, 182, 0, 86, 96, 184, 0, 62, 79, 42, 89, 180, 0, 100, 42]
abbrev dktX3_dayBegins_5 : List UInt8 := dkwX3_dayBegins_5 ++ dktX3_dayBegins_6
def dkwX3_dayBegins_4 : List UInt8 := [167, 0, 63, 42, 180, 0, 18, 180, 0, 92, 27, 50, 28, 16, 99, 29, 42, 180, 0, 3, 180, 0, 76, 42]
abbrev dktX3_dayBegins_4 : List UInt8 := dkwX3_dayBegins_4 ++ dktX3_dayBegins_5
def dkwX3_dayBegins_3 : List UInt8 := [61, 28, 16, 10, 162, 0, 88, 42, 180, 0, 18, 180, 0, 92, 27, 50, 28, 46, 62, 29, 154, 0, 6]
abbrev dktX3_dayBegins_3 : List UInt8 := dkwX3_dayBegins_3 ++ dktX3_dayBegins_4
def dkwX3_dayBegins_2 : List UInt8 := [180, 0, 58, 153, 0, 7, 4, 167, 0, 4, 3, 96, 181, 0, 89, 3, 60, 27, 16, 10, 162, 0, 102, 3]
abbrev dktX3_dayBegins_2 : List UInt8 := dkwX3_dayBegins_2 ++ dktX3_dayBegins_3
def dkwX3_dayBegins_1 : List UInt8 := [16, 114, 16, 10, 182, 0, 86, 162, 0, 7, 4, 167, 0, 4, 3, 181, 0, 58, 42, 89, 180, 0, 89, 42]
abbrev dktX3_dayBegins_1 : List UInt8 := dkwX3_dayBegins_1 ++ dktX3_dayBegins_2
def dkwX3_dayBegins_0 : List UInt8 := [42, 42, 182, 0, 73, 42, 180, 0, 3, 180, 0, 76, 42, 180, 0, 46, 42, 180, 0, 49, 182, 0, 80]
abbrev dktX3_dayBegins_0 : List UInt8 := dkwX3_dayBegins_0 ++ dktX3_dayBegins_1
theorem dksX3_dayBegins_0 : cX3_dayBegins.data.toList.drop 0 = dktX3_dayBegins_0 := by decide +kernel
theorem dksX3_dayBegins_1 : cX3_dayBegins.data.toList.drop 23 = dktX3_dayBegins_1 := dk_seg dksX3_dayBegins_0 23 rfl rfl
theorem dksX3_dayBegins_2 : cX3_dayBegins.data.toList.drop 47 = dktX3_dayBegins_2 := dk_seg dksX3_dayBegins_1 24 rfl rfl
theorem dksX3_dayBegins_3 : cX3_dayBegins.data.toList.drop 71 = dktX3_dayBegins_3 := dk_seg dksX3_dayBegins_2 24 rfl rfl
theorem dksX3_dayBegins_4 : cX3_dayBegins.data.toList.drop 94 = dktX3_dayBegins_4 := dk_seg dksX3_dayBegins_3 23 rfl rfl
theorem dksX3_dayBegins_5 : cX3_dayBegins.data.toList.drop 118 = dktX3_dayBegins_5 := dk_seg dksX3_dayBegins_4 24 rfl rfl
theorem dksX3_dayBegins_6 : cX3_dayBegins.data.toList.drop 141 = dktX3_dayBegins_6 := dk_seg dksX3_dayBegins_5 23 rfl rfl
theorem dksX3_dayBegins_7 : cX3_dayBegins.data.toList.drop 163 = dktX3_dayBegins_7 := dk_seg dksX3_dayBegins_6 22 rfl rfl
theorem dX3_dayBegins_0 : decode cX3_dayBegins 0 = .ok (.aload_n 0, 1) := dk_42 (dk_at dksX3_dayBegins_0 0 rfl rfl)
theorem dX3_dayBegins_1 : decode cX3_dayBegins 1 = .ok (.aload_n 0, 1) := dk_42 (dk_at dksX3_dayBegins_0 1 rfl rfl)
theorem dX3_dayBegins_2 : decode cX3_dayBegins 2 = .ok (.invokevirtual 73, 3) := dk_182 0 73 (dk_at dksX3_dayBegins_0 2 rfl rfl)
theorem dX3_dayBegins_5 : decode cX3_dayBegins 5 = .ok (.aload_n 0, 1) := dk_42 (dk_at dksX3_dayBegins_0 5 rfl rfl)
theorem dX3_dayBegins_6 : decode cX3_dayBegins 6 = .ok (.getfield 3, 3) := dk_180 0 3 (dk_at dksX3_dayBegins_0 6 rfl rfl)
theorem dX3_dayBegins_9 : decode cX3_dayBegins 9 = .ok (.getfield 76, 3) := dk_180 0 76 (dk_at dksX3_dayBegins_0 9 rfl rfl)
theorem dX3_dayBegins_12 : decode cX3_dayBegins 12 = .ok (.aload_n 0, 1) := dk_42 (dk_at dksX3_dayBegins_0 12 rfl rfl)
theorem dX3_dayBegins_13 : decode cX3_dayBegins 13 = .ok (.getfield 46, 3) := dk_180 0 46 (dk_at dksX3_dayBegins_0 13 rfl rfl)
theorem dX3_dayBegins_16 : decode cX3_dayBegins 16 = .ok (.aload_n 0, 1) := dk_42 (dk_at dksX3_dayBegins_0 16 rfl rfl)
theorem dX3_dayBegins_17 : decode cX3_dayBegins 17 = .ok (.getfield 49, 3) := dk_180 0 49 (dk_at dksX3_dayBegins_0 17 rfl rfl)
theorem dX3_dayBegins_20 : decode cX3_dayBegins 20 = .ok (.invokevirtual 80, 3) := dk_182 0 80 (dk_at dksX3_dayBegins_0 20 rfl rfl)
theorem dX3_dayBegins_23 : decode cX3_dayBegins 23 = .ok (.bipush 114, 2) := dk_16 114 (dk_at dksX3_dayBegins_1 0 rfl rfl)
theorem dX3_dayBegins_25 : decode cX3_dayBegins 25 = .ok (.bipush 10, 2) := dk_16 10 (dk_at dksX3_dayBegins_1 2 rfl rfl)
theorem dX3_dayBegins_27 : decode cX3_dayBegins 27 = .ok (.invokevirtual 86, 3) := dk_182 0 86 (dk_at dksX3_dayBegins_1 4 rfl rfl)
theorem dX3_dayBegins_30 : decode cX3_dayBegins 30 = .ok (.if_icmp .ge 7, 3) := dk_162 0 7 (dk_at dksX3_dayBegins_1 7 rfl rfl)
theorem dX3_dayBegins_33 : decode cX3_dayBegins 33 = .ok (.iconst 1, 1) := dk_4 (dk_at dksX3_dayBegins_1 10 rfl rfl)
theorem dX3_dayBegins_34 : decode cX3_dayBegins 34 = .ok (.goto 4, 3) := dk_167 0 4 (dk_at dksX3_dayBegins_1 11 rfl rfl)
theorem dX3_dayBegins_37 : decode cX3_dayBegins 37 = .ok (.iconst 0, 1) := dk_3 (dk_at dksX3_dayBegins_1 14 rfl rfl)
theorem dX3_dayBegins_38 : decode cX3_dayBegins 38 = .ok (.putfield 58, 3) := dk_181 0 58 (dk_at dksX3_dayBegins_1 15 rfl rfl)
theorem dX3_dayBegins_41 : decode cX3_dayBegins 41 = .ok (.aload_n 0, 1) := dk_42 (dk_at dksX3_dayBegins_1 18 rfl rfl)
theorem dX3_dayBegins_42 : decode cX3_dayBegins 42 = .ok (.dup, 1) := dk_89 (dk_at dksX3_dayBegins_1 19 rfl rfl)
theorem dX3_dayBegins_43 : decode cX3_dayBegins 43 = .ok (.getfield 89, 3) := dk_180 0 89 (dk_at dksX3_dayBegins_1 20 rfl rfl)
theorem dX3_dayBegins_46 : decode cX3_dayBegins 46 = .ok (.aload_n 0, 1) := dk_42 (dk_at dksX3_dayBegins_1 23 rfl rfl)
theorem dX3_dayBegins_47 : decode cX3_dayBegins 47 = .ok (.getfield 58, 3) := dk_180 0 58 (dk_at dksX3_dayBegins_2 0 rfl rfl)
theorem dX3_dayBegins_50 : decode cX3_dayBegins 50 = .ok (.ifCond .eq 7, 3) := dk_153 0 7 (dk_at dksX3_dayBegins_2 3 rfl rfl)
theorem dX3_dayBegins_53 : decode cX3_dayBegins 53 = .ok (.iconst 1, 1) := dk_4 (dk_at dksX3_dayBegins_2 6 rfl rfl)
theorem dX3_dayBegins_54 : decode cX3_dayBegins 54 = .ok (.goto 4, 3) := dk_167 0 4 (dk_at dksX3_dayBegins_2 7 rfl rfl)
theorem dX3_dayBegins_57 : decode cX3_dayBegins 57 = .ok (.iconst 0, 1) := dk_3 (dk_at dksX3_dayBegins_2 10 rfl rfl)
theorem dX3_dayBegins_58 : decode cX3_dayBegins 58 = .ok (.iadd, 1) := dk_96 (dk_at dksX3_dayBegins_2 11 rfl rfl)
theorem dX3_dayBegins_59 : decode cX3_dayBegins 59 = .ok (.putfield 89, 3) := dk_181 0 89 (dk_at dksX3_dayBegins_2 12 rfl rfl)
theorem dX3_dayBegins_62 : decode cX3_dayBegins 62 = .ok (.iconst 0, 1) := dk_3 (dk_at dksX3_dayBegins_2 15 rfl rfl)
theorem dX3_dayBegins_63 : decode cX3_dayBegins 63 = .ok (.istore_n 1, 1) := dk_60 (dk_at dksX3_dayBegins_2 16 rfl rfl)
theorem dX3_dayBegins_64 : decode cX3_dayBegins 64 = .ok (.iload_n 1, 1) := dk_27 (dk_at dksX3_dayBegins_2 17 rfl rfl)
theorem dX3_dayBegins_65 : decode cX3_dayBegins 65 = .ok (.bipush 10, 2) := dk_16 10 (dk_at dksX3_dayBegins_2 18 rfl rfl)
theorem dX3_dayBegins_67 : decode cX3_dayBegins 67 = .ok (.if_icmp .ge 102, 3) := dk_162 0 102 (dk_at dksX3_dayBegins_2 20 rfl rfl)
theorem dX3_dayBegins_70 : decode cX3_dayBegins 70 = .ok (.iconst 0, 1) := dk_3 (dk_at dksX3_dayBegins_2 23 rfl rfl)
theorem dX3_dayBegins_71 : decode cX3_dayBegins 71 = .ok (.istore_n 2, 1) := dk_61 (dk_at dksX3_dayBegins_3 0 rfl rfl)
theorem dX3_dayBegins_72 : decode cX3_dayBegins 72 = .ok (.iload_n 2, 1) := dk_28 (dk_at dksX3_dayBegins_3 1 rfl rfl)
theorem dX3_dayBegins_73 : decode cX3_dayBegins 73 = .ok (.bipush 10, 2) := dk_16 10 (dk_at dksX3_dayBegins_3 2 rfl rfl)
theorem dX3_dayBegins_75 : decode cX3_dayBegins 75 = .ok (.if_icmp .ge 88, 3) := dk_162 0 88 (dk_at dksX3_dayBegins_3 4 rfl rfl)
theorem dX3_dayBegins_78 : decode cX3_dayBegins 78 = .ok (.aload_n 0, 1) := dk_42 (dk_at dksX3_dayBegins_3 7 rfl rfl)
theorem dX3_dayBegins_79 : decode cX3_dayBegins 79 = .ok (.getfield 18, 3) := dk_180 0 18 (dk_at dksX3_dayBegins_3 8 rfl rfl)
theorem dX3_dayBegins_82 : decode cX3_dayBegins 82 = .ok (.getfield 92, 3) := dk_180 0 92 (dk_at dksX3_dayBegins_3 11 rfl rfl)
theorem dX3_dayBegins_85 : decode cX3_dayBegins 85 = .ok (.iload_n 1, 1) := dk_27 (dk_at dksX3_dayBegins_3 14 rfl rfl)
theorem dX3_dayBegins_86 : decode cX3_dayBegins 86 = .ok (.aaload, 1) := dk_50 (dk_at dksX3_dayBegins_3 15 rfl rfl)
theorem dX3_dayBegins_87 : decode cX3_dayBegins 87 = .ok (.iload_n 2, 1) := dk_28 (dk_at dksX3_dayBegins_3 16 rfl rfl)
theorem dX3_dayBegins_88 : decode cX3_dayBegins 88 = .ok (.iaload, 1) := dk_46 (dk_at dksX3_dayBegins_3 17 rfl rfl)
theorem dX3_dayBegins_89 : decode cX3_dayBegins 89 = .ok (.istore_n 3, 1) := dk_62 (dk_at dksX3_dayBegins_3 18 rfl rfl)
theorem dX3_dayBegins_90 : decode cX3_dayBegins 90 = .ok (.iload_n 3, 1) := dk_29 (dk_at dksX3_dayBegins_3 19 rfl rfl)
theorem dX3_dayBegins_91 : decode cX3_dayBegins 91 = .ok (.ifCond .ne 6, 3) := dk_154 0 6 (dk_at dksX3_dayBegins_3 20 rfl rfl)
theorem dX3_dayBegins_94 : decode cX3_dayBegins 94 = .ok (.goto 63, 3) := dk_167 0 63 (dk_at dksX3_dayBegins_4 0 rfl rfl)
theorem dX3_dayBegins_97 : decode cX3_dayBegins 97 = .ok (.aload_n 0, 1) := dk_42 (dk_at dksX3_dayBegins_4 3 rfl rfl)
theorem dX3_dayBegins_98 : decode cX3_dayBegins 98 = .ok (.getfield 18, 3) := dk_180 0 18 (dk_at dksX3_dayBegins_4 4 rfl rfl)
theorem dX3_dayBegins_101 : decode cX3_dayBegins 101 = .ok (.getfield 92, 3) := dk_180 0 92 (dk_at dksX3_dayBegins_4 7 rfl rfl)
theorem dX3_dayBegins_104 : decode cX3_dayBegins 104 = .ok (.iload_n 1, 1) := dk_27 (dk_at dksX3_dayBegins_4 10 rfl rfl)
theorem dX3_dayBegins_105 : decode cX3_dayBegins 105 = .ok (.aaload, 1) := dk_50 (dk_at dksX3_dayBegins_4 11 rfl rfl)
theorem dX3_dayBegins_106 : decode cX3_dayBegins 106 = .ok (.iload_n 2, 1) := dk_28 (dk_at dksX3_dayBegins_4 12 rfl rfl)
theorem dX3_dayBegins_107 : decode cX3_dayBegins 107 = .ok (.bipush 99, 2) := dk_16 99 (dk_at dksX3_dayBegins_4 13 rfl rfl)
theorem dX3_dayBegins_109 : decode cX3_dayBegins 109 = .ok (.iload_n 3, 1) := dk_29 (dk_at dksX3_dayBegins_4 15 rfl rfl)
theorem dX3_dayBegins_110 : decode cX3_dayBegins 110 = .ok (.aload_n 0, 1) := dk_42 (dk_at dksX3_dayBegins_4 16 rfl rfl)
theorem dX3_dayBegins_111 : decode cX3_dayBegins 111 = .ok (.getfield 3, 3) := dk_180 0 3 (dk_at dksX3_dayBegins_4 17 rfl rfl)
theorem dX3_dayBegins_114 : decode cX3_dayBegins 114 = .ok (.getfield 76, 3) := dk_180 0 76 (dk_at dksX3_dayBegins_4 20 rfl rfl)
theorem dX3_dayBegins_117 : decode cX3_dayBegins 117 = .ok (.aload_n 0, 1) := dk_42 (dk_at dksX3_dayBegins_4 23 rfl rfl)
theorem dX3_dayBegins_118 : decode cX3_dayBegins 118 = .ok (.iload_n 1, 1) := dk_27 (dk_at dksX3_dayBegins_5 0 rfl rfl)
theorem dX3_dayBegins_119 : decode cX3_dayBegins 119 = .ok (.iload_n 2, 1) := dk_28 (dk_at dksX3_dayBegins_5 1 rfl rfl)
theorem dX3_dayBegins_120 : decode cX3_dayBegins 120 = .ok (.invokevirtual 96, 3) := dk_182 0 96 (dk_at dksX3_dayBegins_5 2 rfl rfl)
theorem dX3_dayBegins_123 : decode cX3_dayBegins 123 = .ok (.bipush 105, 2) := dk_16 105 (dk_at dksX3_dayBegins_5 5 rfl rfl)
theorem dX3_dayBegins_125 : decode cX3_dayBegins 125 = .ok (.bipush 9, 2) := dk_16 9 (dk_at dksX3_dayBegins_5 7 rfl rfl)
theorem dX3_dayBegins_127 : decode cX3_dayBegins 127 = .ok (.invokevirtual 86, 3) := dk_182 0 86 (dk_at dksX3_dayBegins_5 9 rfl rfl)
theorem dX3_dayBegins_130 : decode cX3_dayBegins 130 = .ok (.iadd, 1) := dk_96 (dk_at dksX3_dayBegins_5 12 rfl rfl)
theorem dX3_dayBegins_131 : decode cX3_dayBegins 131 = .ok (.invokestatic 62, 3) := dk_184 0 62 (dk_at dksX3_dayBegins_5 13 rfl rfl)
theorem dX3_dayBegins_134 : decode cX3_dayBegins 134 = .ok (.iastore, 1) := dk_79 (dk_at dksX3_dayBegins_5 16 rfl rfl)
theorem dX3_dayBegins_135 : decode cX3_dayBegins 135 = .ok (.aload_n 0, 1) := dk_42 (dk_at dksX3_dayBegins_5 17 rfl rfl)
theorem dX3_dayBegins_136 : decode cX3_dayBegins 136 = .ok (.dup, 1) := dk_89 (dk_at dksX3_dayBegins_5 18 rfl rfl)
theorem dX3_dayBegins_137 : decode cX3_dayBegins 137 = .ok (.getfield 100, 3) := dk_180 0 100 (dk_at dksX3_dayBegins_5 19 rfl rfl)
theorem dX3_dayBegins_140 : decode cX3_dayBegins 140 = .ok (.aload_n 0, 1) := dk_42 (dk_at dksX3_dayBegins_5 22 rfl rfl)
theorem dX3_dayBegins_141 : decode cX3_dayBegins 141 = .ok (.getfield 18, 3) := dk_180 0 18 (dk_at dksX3_dayBegins_6 0 rfl rfl)
theorem dX3_dayBegins_144 : decode cX3_dayBegins 144 = .ok (.getfield 92, 3) := dk_180 0 92 (dk_at dksX3_dayBegins_6 3 rfl rfl)
theorem dX3_dayBegins_147 : decode cX3_dayBegins 147 = .ok (.iload_n 1, 1) := dk_27 (dk_at dksX3_dayBegins_6 6 rfl rfl)
theorem dX3_dayBegins_148 : decode cX3_dayBegins 148 = .ok (.aaload, 1) := dk_50 (dk_at dksX3_dayBegins_6 7 rfl rfl)
theorem dX3_dayBegins_149 : decode cX3_dayBegins 149 = .ok (.iload_n 2, 1) := dk_28 (dk_at dksX3_dayBegins_6 8 rfl rfl)
theorem dX3_dayBegins_150 : decode cX3_dayBegins 150 = .ok (.iaload, 1) := dk_46 (dk_at dksX3_dayBegins_6 9 rfl rfl)
theorem dX3_dayBegins_151 : decode cX3_dayBegins 151 = .ok (.iload_n 3, 1) := dk_29 (dk_at dksX3_dayBegins_6 10 rfl rfl)
theorem dX3_dayBegins_152 : decode cX3_dayBegins 152 = .ok (.isub, 1) := dk_100 (dk_at dksX3_dayBegins_6 11 rfl rfl)
theorem dX3_dayBegins_153 : decode cX3_dayBegins 153 = .ok (.iadd, 1) := dk_96 (dk_at dksX3_dayBegins_6 12 rfl rfl)
theorem dX3_dayBegins_154 : decode cX3_dayBegins 154 = .ok (.putfield 100, 3) := dk_181 0 100 (dk_at dksX3_dayBegins_6 13 rfl rfl)
theorem dX3_dayBegins_157 : decode cX3_dayBegins 157 = .ok (.iinc 2 1, 3) := dk_132 2 1 (dk_at dksX3_dayBegins_6 16 rfl rfl)
theorem dX3_dayBegins_160 : decode cX3_dayBegins 160 = .ok (.goto (-88), 3) := dk_167 255 168 (dk_at dksX3_dayBegins_6 19 rfl rfl)
theorem dX3_dayBegins_163 : decode cX3_dayBegins 163 = .ok (.iinc 1 1, 3) := dk_132 1 1 (dk_at dksX3_dayBegins_7 0 rfl rfl)
theorem dX3_dayBegins_166 : decode cX3_dayBegins 166 = .ok (.goto (-102), 3) := dk_167 255 154 (dk_at dksX3_dayBegins_7 3 rfl rfl)
theorem dX3_dayBegins_169 : decode cX3_dayBegins 169 = .ok (.return_, 1) := dk_177 (dk_at dksX3_dayBegins_7 6 rfl rfl)
abbrev cX3_draw : ByteArray := prog_7_method_7_code
def yX3_draw : MethodName := ⟨RX3, "draw", "()I"⟩
def dkwX3_draw_1 : List UInt8 := [16, 10, 112, 172]
abbrev dktX3_draw_1 : List UInt8 := dkwX3_draw_1 ++ []
def dkwX3_draw_0 : List UInt8 := [42, 17, 98, 85, 42, 180, 0, 52, 104, 17, 54, 25, 96, 18, 72, 112, 181, 0, 52, 42, 180, 0, 52]
abbrev dktX3_draw_0 : List UInt8 := dkwX3_draw_0 ++ dktX3_draw_1
theorem dksX3_draw_0 : cX3_draw.data.toList.drop 0 = dktX3_draw_0 := by decide +kernel
theorem dksX3_draw_1 : cX3_draw.data.toList.drop 23 = dktX3_draw_1 := dk_seg dksX3_draw_0 23 rfl rfl
theorem dX3_draw_0 : decode cX3_draw 0 = .ok (.aload_n 0, 1) := dk_42 (dk_at dksX3_draw_0 0 rfl rfl)
theorem dX3_draw_1 : decode cX3_draw 1 = .ok (.sipush 25173, 3) := dk_17 98 85 (dk_at dksX3_draw_0 1 rfl rfl)
theorem dX3_draw_4 : decode cX3_draw 4 = .ok (.aload_n 0, 1) := dk_42 (dk_at dksX3_draw_0 4 rfl rfl)
theorem dX3_draw_5 : decode cX3_draw 5 = .ok (.getfield 52, 3) := dk_180 0 52 (dk_at dksX3_draw_0 5 rfl rfl)
theorem dX3_draw_8 : decode cX3_draw 8 = .ok (.imul, 1) := dk_104 (dk_at dksX3_draw_0 8 rfl rfl)
theorem dX3_draw_9 : decode cX3_draw 9 = .ok (.sipush 13849, 3) := dk_17 54 25 (dk_at dksX3_draw_0 9 rfl rfl)
theorem dX3_draw_12 : decode cX3_draw 12 = .ok (.iadd, 1) := dk_96 (dk_at dksX3_draw_0 12 rfl rfl)
theorem dX3_draw_13 : decode cX3_draw 13 = .ok (.ldc 72, 2) := dk_18 72 (dk_at dksX3_draw_0 13 rfl rfl)
theorem dX3_draw_15 : decode cX3_draw 15 = .ok (.irem, 1) := dk_112 (dk_at dksX3_draw_0 15 rfl rfl)
theorem dX3_draw_16 : decode cX3_draw 16 = .ok (.putfield 52, 3) := dk_181 0 52 (dk_at dksX3_draw_0 16 rfl rfl)
theorem dX3_draw_19 : decode cX3_draw 19 = .ok (.aload_n 0, 1) := dk_42 (dk_at dksX3_draw_0 19 rfl rfl)
theorem dX3_draw_20 : decode cX3_draw 20 = .ok (.getfield 52, 3) := dk_180 0 52 (dk_at dksX3_draw_0 20 rfl rfl)
theorem dX3_draw_23 : decode cX3_draw 23 = .ok (.bipush 10, 2) := dk_16 10 (dk_at dksX3_draw_1 0 rfl rfl)
theorem dX3_draw_25 : decode cX3_draw 25 = .ok (.irem, 1) := dk_112 (dk_at dksX3_draw_1 2 rfl rfl)
theorem dX3_draw_26 : decode cX3_draw 26 = .ok (.ireturn, 1) := dk_172 (dk_at dksX3_draw_1 3 rfl rfl)
abbrev cX3_chalked : ByteArray := prog_7_method_5_code
def yX3_chalked : MethodName := ⟨RX3, "chalked", "(I)I"⟩
def dkwX3_chalked_1 : List UInt8 := [167, 0, 4, 3, 96, 61, 132, 3, 1, 167, 255, 227, 28, 172]
abbrev dktX3_chalked_1 : List UInt8 := dkwX3_chalked_1 ++ []
def dkwX3_chalked_0 : List UInt8 := [3, 61, 3, 62, 29, 42, 182, 0, 68, 162, 0, 27, 28, 42, 180, 0, 26, 29, 46, 27, 160, 0, 7, 4]
abbrev dktX3_chalked_0 : List UInt8 := dkwX3_chalked_0 ++ dktX3_chalked_1
theorem dksX3_chalked_0 : cX3_chalked.data.toList.drop 0 = dktX3_chalked_0 := by decide +kernel
theorem dksX3_chalked_1 : cX3_chalked.data.toList.drop 24 = dktX3_chalked_1 := dk_seg dksX3_chalked_0 24 rfl rfl
theorem dX3_chalked_0 : decode cX3_chalked 0 = .ok (.iconst 0, 1) := dk_3 (dk_at dksX3_chalked_0 0 rfl rfl)
theorem dX3_chalked_1 : decode cX3_chalked 1 = .ok (.istore_n 2, 1) := dk_61 (dk_at dksX3_chalked_0 1 rfl rfl)
theorem dX3_chalked_2 : decode cX3_chalked 2 = .ok (.iconst 0, 1) := dk_3 (dk_at dksX3_chalked_0 2 rfl rfl)
theorem dX3_chalked_3 : decode cX3_chalked 3 = .ok (.istore_n 3, 1) := dk_62 (dk_at dksX3_chalked_0 3 rfl rfl)
theorem dX3_chalked_4 : decode cX3_chalked 4 = .ok (.iload_n 3, 1) := dk_29 (dk_at dksX3_chalked_0 4 rfl rfl)
theorem dX3_chalked_5 : decode cX3_chalked 5 = .ok (.aload_n 0, 1) := dk_42 (dk_at dksX3_chalked_0 5 rfl rfl)
theorem dX3_chalked_6 : decode cX3_chalked 6 = .ok (.invokevirtual 68, 3) := dk_182 0 68 (dk_at dksX3_chalked_0 6 rfl rfl)
theorem dX3_chalked_9 : decode cX3_chalked 9 = .ok (.if_icmp .ge 27, 3) := dk_162 0 27 (dk_at dksX3_chalked_0 9 rfl rfl)
theorem dX3_chalked_12 : decode cX3_chalked 12 = .ok (.iload_n 2, 1) := dk_28 (dk_at dksX3_chalked_0 12 rfl rfl)
theorem dX3_chalked_13 : decode cX3_chalked 13 = .ok (.aload_n 0, 1) := dk_42 (dk_at dksX3_chalked_0 13 rfl rfl)
theorem dX3_chalked_14 : decode cX3_chalked 14 = .ok (.getfield 26, 3) := dk_180 0 26 (dk_at dksX3_chalked_0 14 rfl rfl)
theorem dX3_chalked_17 : decode cX3_chalked 17 = .ok (.iload_n 3, 1) := dk_29 (dk_at dksX3_chalked_0 17 rfl rfl)
theorem dX3_chalked_18 : decode cX3_chalked 18 = .ok (.iaload, 1) := dk_46 (dk_at dksX3_chalked_0 18 rfl rfl)
theorem dX3_chalked_19 : decode cX3_chalked 19 = .ok (.iload_n 1, 1) := dk_27 (dk_at dksX3_chalked_0 19 rfl rfl)
theorem dX3_chalked_20 : decode cX3_chalked 20 = .ok (.if_icmp .ne 7, 3) := dk_160 0 7 (dk_at dksX3_chalked_0 20 rfl rfl)
theorem dX3_chalked_23 : decode cX3_chalked 23 = .ok (.iconst 1, 1) := dk_4 (dk_at dksX3_chalked_0 23 rfl rfl)
theorem dX3_chalked_24 : decode cX3_chalked 24 = .ok (.goto 4, 3) := dk_167 0 4 (dk_at dksX3_chalked_1 0 rfl rfl)
theorem dX3_chalked_27 : decode cX3_chalked 27 = .ok (.iconst 0, 1) := dk_3 (dk_at dksX3_chalked_1 3 rfl rfl)
theorem dX3_chalked_28 : decode cX3_chalked 28 = .ok (.iadd, 1) := dk_96 (dk_at dksX3_chalked_1 4 rfl rfl)
theorem dX3_chalked_29 : decode cX3_chalked 29 = .ok (.istore_n 2, 1) := dk_61 (dk_at dksX3_chalked_1 5 rfl rfl)
theorem dX3_chalked_30 : decode cX3_chalked 30 = .ok (.iinc 3 1, 3) := dk_132 3 1 (dk_at dksX3_chalked_1 6 rfl rfl)
theorem dX3_chalked_33 : decode cX3_chalked 33 = .ok (.goto (-29), 3) := dk_167 255 227 (dk_at dksX3_chalked_1 9 rfl rfl)
theorem dX3_chalked_36 : decode cX3_chalked 36 = .ok (.iload_n 2, 1) := dk_28 (dk_at dksX3_chalked_1 12 rfl rfl)
theorem dX3_chalked_37 : decode cX3_chalked 37 = .ok (.ireturn, 1) := dk_172 (dk_at dksX3_chalked_1 13 rfl rfl)
abbrev cX3_rows : ByteArray := prog_7_method_3_code
def yX3_rows : MethodName := ⟨RX3, "rows", "()I"⟩
def dkwX3_rows_0 : List UInt8 := [16, 40, 42, 180, 0, 55, 184, 0, 62, 172]
abbrev dktX3_rows_0 : List UInt8 := dkwX3_rows_0 ++ []
theorem dksX3_rows_0 : cX3_rows.data.toList.drop 0 = dktX3_rows_0 := by decide +kernel
theorem dX3_rows_0 : decode cX3_rows 0 = .ok (.bipush 40, 2) := dk_16 40 (dk_at dksX3_rows_0 0 rfl rfl)
theorem dX3_rows_2 : decode cX3_rows 2 = .ok (.aload_n 0, 1) := dk_42 (dk_at dksX3_rows_0 2 rfl rfl)
theorem dX3_rows_3 : decode cX3_rows 3 = .ok (.getfield 55, 3) := dk_180 0 55 (dk_at dksX3_rows_0 3 rfl rfl)
theorem dX3_rows_6 : decode cX3_rows 6 = .ok (.invokestatic 62, 3) := dk_184 0 62 (dk_at dksX3_rows_0 6 rfl rfl)
theorem dX3_rows_9 : decode cX3_rows 9 = .ok (.ireturn, 1) := dk_172 (dk_at dksX3_rows_0 9 rfl rfl)
abbrev cX3_arrives : ByteArray := prog_7_method_10_code
def yX3_arrives : MethodName := ⟨RX3, "arrives", "()V"⟩
def dkwX3_arrives_2 : List UInt8 := [181, 0, 110, 42, 42, 180, 0, 33, 182, 0, 113, 177]
abbrev dktX3_arrives_2 : List UInt8 := dkwX3_arrives_2 ++ []
def dkwX3_arrives_1 : List UInt8 := [42, 180, 0, 40, 50, 42, 180, 0, 33, 46, 4, 100, 184, 0, 107, 79, 42, 89, 180, 0, 110, 4, 96]
abbrev dktX3_arrives_1 : List UInt8 := dkwX3_arrives_1 ++ dktX3_arrives_2
def dkwX3_arrives_0 : List UInt8 := [42, 180, 0, 18, 180, 0, 92, 42, 180, 0, 40, 50, 42, 180, 0, 33, 3, 42, 180, 0, 18, 180, 0, 92]
abbrev dktX3_arrives_0 : List UInt8 := dkwX3_arrives_0 ++ dktX3_arrives_1
theorem dksX3_arrives_0 : cX3_arrives.data.toList.drop 0 = dktX3_arrives_0 := by decide +kernel
theorem dksX3_arrives_1 : cX3_arrives.data.toList.drop 24 = dktX3_arrives_1 := dk_seg dksX3_arrives_0 24 rfl rfl
theorem dksX3_arrives_2 : cX3_arrives.data.toList.drop 47 = dktX3_arrives_2 := dk_seg dksX3_arrives_1 23 rfl rfl
theorem dX3_arrives_0 : decode cX3_arrives 0 = .ok (.aload_n 0, 1) := dk_42 (dk_at dksX3_arrives_0 0 rfl rfl)
theorem dX3_arrives_1 : decode cX3_arrives 1 = .ok (.getfield 18, 3) := dk_180 0 18 (dk_at dksX3_arrives_0 1 rfl rfl)
theorem dX3_arrives_4 : decode cX3_arrives 4 = .ok (.getfield 92, 3) := dk_180 0 92 (dk_at dksX3_arrives_0 4 rfl rfl)
theorem dX3_arrives_7 : decode cX3_arrives 7 = .ok (.aload_n 0, 1) := dk_42 (dk_at dksX3_arrives_0 7 rfl rfl)
theorem dX3_arrives_8 : decode cX3_arrives 8 = .ok (.getfield 40, 3) := dk_180 0 40 (dk_at dksX3_arrives_0 8 rfl rfl)
theorem dX3_arrives_11 : decode cX3_arrives 11 = .ok (.aaload, 1) := dk_50 (dk_at dksX3_arrives_0 11 rfl rfl)
theorem dX3_arrives_12 : decode cX3_arrives 12 = .ok (.aload_n 0, 1) := dk_42 (dk_at dksX3_arrives_0 12 rfl rfl)
theorem dX3_arrives_13 : decode cX3_arrives 13 = .ok (.getfield 33, 3) := dk_180 0 33 (dk_at dksX3_arrives_0 13 rfl rfl)
theorem dX3_arrives_16 : decode cX3_arrives 16 = .ok (.iconst 0, 1) := dk_3 (dk_at dksX3_arrives_0 16 rfl rfl)
theorem dX3_arrives_17 : decode cX3_arrives 17 = .ok (.aload_n 0, 1) := dk_42 (dk_at dksX3_arrives_0 17 rfl rfl)
theorem dX3_arrives_18 : decode cX3_arrives 18 = .ok (.getfield 18, 3) := dk_180 0 18 (dk_at dksX3_arrives_0 18 rfl rfl)
theorem dX3_arrives_21 : decode cX3_arrives 21 = .ok (.getfield 92, 3) := dk_180 0 92 (dk_at dksX3_arrives_0 21 rfl rfl)
theorem dX3_arrives_24 : decode cX3_arrives 24 = .ok (.aload_n 0, 1) := dk_42 (dk_at dksX3_arrives_1 0 rfl rfl)
theorem dX3_arrives_25 : decode cX3_arrives 25 = .ok (.getfield 40, 3) := dk_180 0 40 (dk_at dksX3_arrives_1 1 rfl rfl)
theorem dX3_arrives_28 : decode cX3_arrives 28 = .ok (.aaload, 1) := dk_50 (dk_at dksX3_arrives_1 4 rfl rfl)
theorem dX3_arrives_29 : decode cX3_arrives 29 = .ok (.aload_n 0, 1) := dk_42 (dk_at dksX3_arrives_1 5 rfl rfl)
theorem dX3_arrives_30 : decode cX3_arrives 30 = .ok (.getfield 33, 3) := dk_180 0 33 (dk_at dksX3_arrives_1 6 rfl rfl)
theorem dX3_arrives_33 : decode cX3_arrives 33 = .ok (.iaload, 1) := dk_46 (dk_at dksX3_arrives_1 9 rfl rfl)
theorem dX3_arrives_34 : decode cX3_arrives 34 = .ok (.iconst 1, 1) := dk_4 (dk_at dksX3_arrives_1 10 rfl rfl)
theorem dX3_arrives_35 : decode cX3_arrives 35 = .ok (.isub, 1) := dk_100 (dk_at dksX3_arrives_1 11 rfl rfl)
theorem dX3_arrives_36 : decode cX3_arrives 36 = .ok (.invokestatic 107, 3) := dk_184 0 107 (dk_at dksX3_arrives_1 12 rfl rfl)
theorem dX3_arrives_39 : decode cX3_arrives 39 = .ok (.iastore, 1) := dk_79 (dk_at dksX3_arrives_1 15 rfl rfl)
theorem dX3_arrives_40 : decode cX3_arrives 40 = .ok (.aload_n 0, 1) := dk_42 (dk_at dksX3_arrives_1 16 rfl rfl)
theorem dX3_arrives_41 : decode cX3_arrives 41 = .ok (.dup, 1) := dk_89 (dk_at dksX3_arrives_1 17 rfl rfl)
theorem dX3_arrives_42 : decode cX3_arrives 42 = .ok (.getfield 110, 3) := dk_180 0 110 (dk_at dksX3_arrives_1 18 rfl rfl)
theorem dX3_arrives_45 : decode cX3_arrives 45 = .ok (.iconst 1, 1) := dk_4 (dk_at dksX3_arrives_1 21 rfl rfl)
theorem dX3_arrives_46 : decode cX3_arrives 46 = .ok (.iadd, 1) := dk_96 (dk_at dksX3_arrives_1 22 rfl rfl)
theorem dX3_arrives_47 : decode cX3_arrives 47 = .ok (.putfield 110, 3) := dk_181 0 110 (dk_at dksX3_arrives_2 0 rfl rfl)
theorem dX3_arrives_50 : decode cX3_arrives 50 = .ok (.aload_n 0, 1) := dk_42 (dk_at dksX3_arrives_2 3 rfl rfl)
theorem dX3_arrives_51 : decode cX3_arrives 51 = .ok (.aload_n 0, 1) := dk_42 (dk_at dksX3_arrives_2 4 rfl rfl)
theorem dX3_arrives_52 : decode cX3_arrives 52 = .ok (.getfield 33, 3) := dk_180 0 33 (dk_at dksX3_arrives_2 5 rfl rfl)
theorem dX3_arrives_55 : decode cX3_arrives 55 = .ok (.invokevirtual 113, 3) := dk_182 0 113 (dk_at dksX3_arrives_2 8 rfl rfl)
theorem dX3_arrives_58 : decode cX3_arrives 58 = .ok (.return_, 1) := dk_177 (dk_at dksX3_arrives_2 11 rfl rfl)
abbrev cX3_stays : ByteArray := prog_7_method_11_code
def yX3_stays : MethodName := ⟨RX3, "stays", "()V"⟩
def dkwX3_stays_3 : List UInt8 := [182, 0, 124, 181, 0, 43, 42, 2, 181, 0, 29, 177]
abbrev dktX3_stays_3 : List UInt8 := dkwX3_stays_3 ++ []
def dkwX3_stays_2 : List UInt8 := [177, 42, 27, 181, 0, 33, 42, 42, 180, 0, 29, 181, 0, 40, 42, 42, 180, 0, 3, 42, 180, 0, 29, 27]
abbrev dktX3_stays_2 : List UInt8 := dkwX3_stays_2 ++ dktX3_stays_3
def dkwX3_stays_1 : List UInt8 := [153, 0, 17, 42, 180, 0, 58, 154, 0, 10, 42, 182, 0, 121, 167, 0, 4, 2, 60, 27, 2, 160, 0, 4]
abbrev dktX3_stays_1 : List UInt8 := dkwX3_stays_1 ++ dktX3_stays_2
def dkwX3_stays_0 : List UInt8 := [42, 180, 0, 22, 42, 180, 0, 29, 92, 46, 4, 96, 79, 42, 180, 0, 46, 16, 6, 16, 19, 184, 0, 117]
abbrev dktX3_stays_0 : List UInt8 := dkwX3_stays_0 ++ dktX3_stays_1
theorem dksX3_stays_0 : cX3_stays.data.toList.drop 0 = dktX3_stays_0 := by decide +kernel
theorem dksX3_stays_1 : cX3_stays.data.toList.drop 24 = dktX3_stays_1 := dk_seg dksX3_stays_0 24 rfl rfl
theorem dksX3_stays_2 : cX3_stays.data.toList.drop 48 = dktX3_stays_2 := dk_seg dksX3_stays_1 24 rfl rfl
theorem dksX3_stays_3 : cX3_stays.data.toList.drop 72 = dktX3_stays_3 := dk_seg dksX3_stays_2 24 rfl rfl
theorem dX3_stays_0 : decode cX3_stays 0 = .ok (.aload_n 0, 1) := dk_42 (dk_at dksX3_stays_0 0 rfl rfl)
theorem dX3_stays_1 : decode cX3_stays 1 = .ok (.getfield 22, 3) := dk_180 0 22 (dk_at dksX3_stays_0 1 rfl rfl)
theorem dX3_stays_4 : decode cX3_stays 4 = .ok (.aload_n 0, 1) := dk_42 (dk_at dksX3_stays_0 4 rfl rfl)
theorem dX3_stays_5 : decode cX3_stays 5 = .ok (.getfield 29, 3) := dk_180 0 29 (dk_at dksX3_stays_0 5 rfl rfl)
theorem dX3_stays_8 : decode cX3_stays 8 = .ok (.dup2, 1) := dk_92 (dk_at dksX3_stays_0 8 rfl rfl)
theorem dX3_stays_9 : decode cX3_stays 9 = .ok (.iaload, 1) := dk_46 (dk_at dksX3_stays_0 9 rfl rfl)
theorem dX3_stays_10 : decode cX3_stays 10 = .ok (.iconst 1, 1) := dk_4 (dk_at dksX3_stays_0 10 rfl rfl)
theorem dX3_stays_11 : decode cX3_stays 11 = .ok (.iadd, 1) := dk_96 (dk_at dksX3_stays_0 11 rfl rfl)
theorem dX3_stays_12 : decode cX3_stays 12 = .ok (.iastore, 1) := dk_79 (dk_at dksX3_stays_0 12 rfl rfl)
theorem dX3_stays_13 : decode cX3_stays 13 = .ok (.aload_n 0, 1) := dk_42 (dk_at dksX3_stays_0 13 rfl rfl)
theorem dX3_stays_14 : decode cX3_stays 14 = .ok (.getfield 46, 3) := dk_180 0 46 (dk_at dksX3_stays_0 14 rfl rfl)
theorem dX3_stays_17 : decode cX3_stays 17 = .ok (.bipush 6, 2) := dk_16 6 (dk_at dksX3_stays_0 17 rfl rfl)
theorem dX3_stays_19 : decode cX3_stays 19 = .ok (.bipush 19, 2) := dk_16 19 (dk_at dksX3_stays_0 19 rfl rfl)
theorem dX3_stays_21 : decode cX3_stays 21 = .ok (.invokestatic 117, 3) := dk_184 0 117 (dk_at dksX3_stays_0 21 rfl rfl)
theorem dX3_stays_24 : decode cX3_stays 24 = .ok (.ifCond .eq 17, 3) := dk_153 0 17 (dk_at dksX3_stays_1 0 rfl rfl)
theorem dX3_stays_27 : decode cX3_stays 27 = .ok (.aload_n 0, 1) := dk_42 (dk_at dksX3_stays_1 3 rfl rfl)
theorem dX3_stays_28 : decode cX3_stays 28 = .ok (.getfield 58, 3) := dk_180 0 58 (dk_at dksX3_stays_1 4 rfl rfl)
theorem dX3_stays_31 : decode cX3_stays 31 = .ok (.ifCond .ne 10, 3) := dk_154 0 10 (dk_at dksX3_stays_1 7 rfl rfl)
theorem dX3_stays_34 : decode cX3_stays 34 = .ok (.aload_n 0, 1) := dk_42 (dk_at dksX3_stays_1 10 rfl rfl)
theorem dX3_stays_35 : decode cX3_stays 35 = .ok (.invokevirtual 121, 3) := dk_182 0 121 (dk_at dksX3_stays_1 11 rfl rfl)
theorem dX3_stays_38 : decode cX3_stays 38 = .ok (.goto 4, 3) := dk_167 0 4 (dk_at dksX3_stays_1 14 rfl rfl)
theorem dX3_stays_41 : decode cX3_stays 41 = .ok (.iconst (-1), 1) := dk_2 (dk_at dksX3_stays_1 17 rfl rfl)
theorem dX3_stays_42 : decode cX3_stays 42 = .ok (.istore_n 1, 1) := dk_60 (dk_at dksX3_stays_1 18 rfl rfl)
theorem dX3_stays_43 : decode cX3_stays 43 = .ok (.iload_n 1, 1) := dk_27 (dk_at dksX3_stays_1 19 rfl rfl)
theorem dX3_stays_44 : decode cX3_stays 44 = .ok (.iconst (-1), 1) := dk_2 (dk_at dksX3_stays_1 20 rfl rfl)
theorem dX3_stays_45 : decode cX3_stays 45 = .ok (.if_icmp .ne 4, 3) := dk_160 0 4 (dk_at dksX3_stays_1 21 rfl rfl)
theorem dX3_stays_48 : decode cX3_stays 48 = .ok (.return_, 1) := dk_177 (dk_at dksX3_stays_2 0 rfl rfl)
theorem dX3_stays_49 : decode cX3_stays 49 = .ok (.aload_n 0, 1) := dk_42 (dk_at dksX3_stays_2 1 rfl rfl)
theorem dX3_stays_50 : decode cX3_stays 50 = .ok (.iload_n 1, 1) := dk_27 (dk_at dksX3_stays_2 2 rfl rfl)
theorem dX3_stays_51 : decode cX3_stays 51 = .ok (.putfield 33, 3) := dk_181 0 33 (dk_at dksX3_stays_2 3 rfl rfl)
theorem dX3_stays_54 : decode cX3_stays 54 = .ok (.aload_n 0, 1) := dk_42 (dk_at dksX3_stays_2 6 rfl rfl)
theorem dX3_stays_55 : decode cX3_stays 55 = .ok (.aload_n 0, 1) := dk_42 (dk_at dksX3_stays_2 7 rfl rfl)
theorem dX3_stays_56 : decode cX3_stays 56 = .ok (.getfield 29, 3) := dk_180 0 29 (dk_at dksX3_stays_2 8 rfl rfl)
theorem dX3_stays_59 : decode cX3_stays 59 = .ok (.putfield 40, 3) := dk_181 0 40 (dk_at dksX3_stays_2 11 rfl rfl)
theorem dX3_stays_62 : decode cX3_stays 62 = .ok (.aload_n 0, 1) := dk_42 (dk_at dksX3_stays_2 14 rfl rfl)
theorem dX3_stays_63 : decode cX3_stays 63 = .ok (.aload_n 0, 1) := dk_42 (dk_at dksX3_stays_2 15 rfl rfl)
theorem dX3_stays_64 : decode cX3_stays 64 = .ok (.getfield 3, 3) := dk_180 0 3 (dk_at dksX3_stays_2 16 rfl rfl)
theorem dX3_stays_67 : decode cX3_stays 67 = .ok (.aload_n 0, 1) := dk_42 (dk_at dksX3_stays_2 19 rfl rfl)
theorem dX3_stays_68 : decode cX3_stays 68 = .ok (.getfield 29, 3) := dk_180 0 29 (dk_at dksX3_stays_2 20 rfl rfl)
theorem dX3_stays_71 : decode cX3_stays 71 = .ok (.iload_n 1, 1) := dk_27 (dk_at dksX3_stays_2 23 rfl rfl)
theorem dX3_stays_72 : decode cX3_stays 72 = .ok (.invokevirtual 124, 3) := dk_182 0 124 (dk_at dksX3_stays_3 0 rfl rfl)
theorem dX3_stays_75 : decode cX3_stays 75 = .ok (.putfield 43, 3) := dk_181 0 43 (dk_at dksX3_stays_3 3 rfl rfl)
theorem dX3_stays_78 : decode cX3_stays 78 = .ok (.aload_n 0, 1) := dk_42 (dk_at dksX3_stays_3 6 rfl rfl)
theorem dX3_stays_79 : decode cX3_stays 79 = .ok (.iconst (-1), 1) := dk_2 (dk_at dksX3_stays_3 7 rfl rfl)
theorem dX3_stays_80 : decode cX3_stays 80 = .ok (.putfield 29, 3) := dk_181 0 29 (dk_at dksX3_stays_3 8 rfl rfl)
theorem dX3_stays_83 : decode cX3_stays 83 = .ok (.return_, 1) := dk_177 (dk_at dksX3_stays_3 11 rfl rfl)
abbrev cX3_nextPaid : ByteArray := prog_7_method_9_code
def yX3_nextPaid : MethodName := ⟨RX3, "nextPaid", "()I"⟩
def dkwX3_nextPaid_2 : List UInt8 := [21, 4, 28, 163, 0, 6, 167, 0, 8, 29, 60, 21, 4, 61, 132, 3, 1, 167, 255, 197, 27, 172]
abbrev dktX3_nextPaid_2 : List UInt8 := dkwX3_nextPaid_2 ++ []
def dkwX3_nextPaid_1 : List UInt8 := [29, 46, 154, 0, 7, 3, 167, 0, 16, 42, 180, 0, 3, 42, 42, 180, 0, 29, 29, 182, 0, 103, 54, 4]
abbrev dktX3_nextPaid_1 : List UInt8 := dkwX3_nextPaid_1 ++ dktX3_nextPaid_2
def dkwX3_nextPaid_0 : List UInt8 := [2, 60, 3, 61, 3, 62, 29, 16, 10, 162, 0, 59, 42, 180, 0, 18, 180, 0, 92, 42, 180, 0, 29, 50]
abbrev dktX3_nextPaid_0 : List UInt8 := dkwX3_nextPaid_0 ++ dktX3_nextPaid_1
theorem dksX3_nextPaid_0 : cX3_nextPaid.data.toList.drop 0 = dktX3_nextPaid_0 := by decide +kernel
theorem dksX3_nextPaid_1 : cX3_nextPaid.data.toList.drop 24 = dktX3_nextPaid_1 := dk_seg dksX3_nextPaid_0 24 rfl rfl
theorem dksX3_nextPaid_2 : cX3_nextPaid.data.toList.drop 48 = dktX3_nextPaid_2 := dk_seg dksX3_nextPaid_1 24 rfl rfl
theorem dX3_nextPaid_0 : decode cX3_nextPaid 0 = .ok (.iconst (-1), 1) := dk_2 (dk_at dksX3_nextPaid_0 0 rfl rfl)
theorem dX3_nextPaid_1 : decode cX3_nextPaid 1 = .ok (.istore_n 1, 1) := dk_60 (dk_at dksX3_nextPaid_0 1 rfl rfl)
theorem dX3_nextPaid_2 : decode cX3_nextPaid 2 = .ok (.iconst 0, 1) := dk_3 (dk_at dksX3_nextPaid_0 2 rfl rfl)
theorem dX3_nextPaid_3 : decode cX3_nextPaid 3 = .ok (.istore_n 2, 1) := dk_61 (dk_at dksX3_nextPaid_0 3 rfl rfl)
theorem dX3_nextPaid_4 : decode cX3_nextPaid 4 = .ok (.iconst 0, 1) := dk_3 (dk_at dksX3_nextPaid_0 4 rfl rfl)
theorem dX3_nextPaid_5 : decode cX3_nextPaid 5 = .ok (.istore_n 3, 1) := dk_62 (dk_at dksX3_nextPaid_0 5 rfl rfl)
theorem dX3_nextPaid_6 : decode cX3_nextPaid 6 = .ok (.iload_n 3, 1) := dk_29 (dk_at dksX3_nextPaid_0 6 rfl rfl)
theorem dX3_nextPaid_7 : decode cX3_nextPaid 7 = .ok (.bipush 10, 2) := dk_16 10 (dk_at dksX3_nextPaid_0 7 rfl rfl)
theorem dX3_nextPaid_9 : decode cX3_nextPaid 9 = .ok (.if_icmp .ge 59, 3) := dk_162 0 59 (dk_at dksX3_nextPaid_0 9 rfl rfl)
theorem dX3_nextPaid_12 : decode cX3_nextPaid 12 = .ok (.aload_n 0, 1) := dk_42 (dk_at dksX3_nextPaid_0 12 rfl rfl)
theorem dX3_nextPaid_13 : decode cX3_nextPaid 13 = .ok (.getfield 18, 3) := dk_180 0 18 (dk_at dksX3_nextPaid_0 13 rfl rfl)
theorem dX3_nextPaid_16 : decode cX3_nextPaid 16 = .ok (.getfield 92, 3) := dk_180 0 92 (dk_at dksX3_nextPaid_0 16 rfl rfl)
theorem dX3_nextPaid_19 : decode cX3_nextPaid 19 = .ok (.aload_n 0, 1) := dk_42 (dk_at dksX3_nextPaid_0 19 rfl rfl)
theorem dX3_nextPaid_20 : decode cX3_nextPaid 20 = .ok (.getfield 29, 3) := dk_180 0 29 (dk_at dksX3_nextPaid_0 20 rfl rfl)
theorem dX3_nextPaid_23 : decode cX3_nextPaid 23 = .ok (.aaload, 1) := dk_50 (dk_at dksX3_nextPaid_0 23 rfl rfl)
theorem dX3_nextPaid_24 : decode cX3_nextPaid 24 = .ok (.iload_n 3, 1) := dk_29 (dk_at dksX3_nextPaid_1 0 rfl rfl)
theorem dX3_nextPaid_25 : decode cX3_nextPaid 25 = .ok (.iaload, 1) := dk_46 (dk_at dksX3_nextPaid_1 1 rfl rfl)
theorem dX3_nextPaid_26 : decode cX3_nextPaid 26 = .ok (.ifCond .ne 7, 3) := dk_154 0 7 (dk_at dksX3_nextPaid_1 2 rfl rfl)
theorem dX3_nextPaid_29 : decode cX3_nextPaid 29 = .ok (.iconst 0, 1) := dk_3 (dk_at dksX3_nextPaid_1 5 rfl rfl)
theorem dX3_nextPaid_30 : decode cX3_nextPaid 30 = .ok (.goto 16, 3) := dk_167 0 16 (dk_at dksX3_nextPaid_1 6 rfl rfl)
theorem dX3_nextPaid_33 : decode cX3_nextPaid 33 = .ok (.aload_n 0, 1) := dk_42 (dk_at dksX3_nextPaid_1 9 rfl rfl)
theorem dX3_nextPaid_34 : decode cX3_nextPaid 34 = .ok (.getfield 3, 3) := dk_180 0 3 (dk_at dksX3_nextPaid_1 10 rfl rfl)
theorem dX3_nextPaid_37 : decode cX3_nextPaid 37 = .ok (.aload_n 0, 1) := dk_42 (dk_at dksX3_nextPaid_1 13 rfl rfl)
theorem dX3_nextPaid_38 : decode cX3_nextPaid 38 = .ok (.aload_n 0, 1) := dk_42 (dk_at dksX3_nextPaid_1 14 rfl rfl)
theorem dX3_nextPaid_39 : decode cX3_nextPaid 39 = .ok (.getfield 29, 3) := dk_180 0 29 (dk_at dksX3_nextPaid_1 15 rfl rfl)
theorem dX3_nextPaid_42 : decode cX3_nextPaid 42 = .ok (.iload_n 3, 1) := dk_29 (dk_at dksX3_nextPaid_1 18 rfl rfl)
theorem dX3_nextPaid_43 : decode cX3_nextPaid 43 = .ok (.invokevirtual 103, 3) := dk_182 0 103 (dk_at dksX3_nextPaid_1 19 rfl rfl)
theorem dX3_nextPaid_46 : decode cX3_nextPaid 46 = .ok (.istore 4, 2) := dk_54 4 (dk_at dksX3_nextPaid_1 22 rfl rfl)
theorem dX3_nextPaid_48 : decode cX3_nextPaid 48 = .ok (.iload 4, 2) := dk_21 4 (dk_at dksX3_nextPaid_2 0 rfl rfl)
theorem dX3_nextPaid_50 : decode cX3_nextPaid 50 = .ok (.iload_n 2, 1) := dk_28 (dk_at dksX3_nextPaid_2 2 rfl rfl)
theorem dX3_nextPaid_51 : decode cX3_nextPaid 51 = .ok (.if_icmp .gt 6, 3) := dk_163 0 6 (dk_at dksX3_nextPaid_2 3 rfl rfl)
theorem dX3_nextPaid_54 : decode cX3_nextPaid 54 = .ok (.goto 8, 3) := dk_167 0 8 (dk_at dksX3_nextPaid_2 6 rfl rfl)
theorem dX3_nextPaid_57 : decode cX3_nextPaid 57 = .ok (.iload_n 3, 1) := dk_29 (dk_at dksX3_nextPaid_2 9 rfl rfl)
theorem dX3_nextPaid_58 : decode cX3_nextPaid 58 = .ok (.istore_n 1, 1) := dk_60 (dk_at dksX3_nextPaid_2 10 rfl rfl)
theorem dX3_nextPaid_59 : decode cX3_nextPaid 59 = .ok (.iload 4, 2) := dk_21 4 (dk_at dksX3_nextPaid_2 11 rfl rfl)
theorem dX3_nextPaid_61 : decode cX3_nextPaid 61 = .ok (.istore_n 2, 1) := dk_61 (dk_at dksX3_nextPaid_2 13 rfl rfl)
theorem dX3_nextPaid_62 : decode cX3_nextPaid 62 = .ok (.iinc 3 1, 3) := dk_132 3 1 (dk_at dksX3_nextPaid_2 14 rfl rfl)
theorem dX3_nextPaid_65 : decode cX3_nextPaid 65 = .ok (.goto (-59), 3) := dk_167 255 197 (dk_at dksX3_nextPaid_2 17 rfl rfl)
theorem dX3_nextPaid_68 : decode cX3_nextPaid 68 = .ok (.iload_n 1, 1) := dk_27 (dk_at dksX3_nextPaid_2 20 rfl rfl)
theorem dX3_nextPaid_69 : decode cX3_nextPaid 69 = .ok (.ireturn, 1) := dk_172 (dk_at dksX3_nextPaid_2 21 rfl rfl)
abbrev cX3_chalkAt : ByteArray := prog_7_method_4_code
def yX3_chalkAt : MethodName := ⟨RX3, "chalkAt", "(I)I"⟩
def dkwX3_chalkAt_0 : List UInt8 := [42, 180, 0, 26, 42, 180, 0, 55, 42, 182, 0, 68, 100, 27, 96, 16, 40, 112, 46, 172]
abbrev dktX3_chalkAt_0 : List UInt8 := dkwX3_chalkAt_0 ++ []
theorem dksX3_chalkAt_0 : cX3_chalkAt.data.toList.drop 0 = dktX3_chalkAt_0 := by decide +kernel
theorem dX3_chalkAt_0 : decode cX3_chalkAt 0 = .ok (.aload_n 0, 1) := dk_42 (dk_at dksX3_chalkAt_0 0 rfl rfl)
theorem dX3_chalkAt_1 : decode cX3_chalkAt 1 = .ok (.getfield 26, 3) := dk_180 0 26 (dk_at dksX3_chalkAt_0 1 rfl rfl)
theorem dX3_chalkAt_4 : decode cX3_chalkAt 4 = .ok (.aload_n 0, 1) := dk_42 (dk_at dksX3_chalkAt_0 4 rfl rfl)
theorem dX3_chalkAt_5 : decode cX3_chalkAt 5 = .ok (.getfield 55, 3) := dk_180 0 55 (dk_at dksX3_chalkAt_0 5 rfl rfl)
theorem dX3_chalkAt_8 : decode cX3_chalkAt 8 = .ok (.aload_n 0, 1) := dk_42 (dk_at dksX3_chalkAt_0 8 rfl rfl)
theorem dX3_chalkAt_9 : decode cX3_chalkAt 9 = .ok (.invokevirtual 68, 3) := dk_182 0 68 (dk_at dksX3_chalkAt_0 9 rfl rfl)
theorem dX3_chalkAt_12 : decode cX3_chalkAt 12 = .ok (.isub, 1) := dk_100 (dk_at dksX3_chalkAt_0 12 rfl rfl)
theorem dX3_chalkAt_13 : decode cX3_chalkAt 13 = .ok (.iload_n 1, 1) := dk_27 (dk_at dksX3_chalkAt_0 13 rfl rfl)
theorem dX3_chalkAt_14 : decode cX3_chalkAt 14 = .ok (.iadd, 1) := dk_96 (dk_at dksX3_chalkAt_0 14 rfl rfl)
theorem dX3_chalkAt_15 : decode cX3_chalkAt 15 = .ok (.bipush 40, 2) := dk_16 40 (dk_at dksX3_chalkAt_0 15 rfl rfl)
theorem dX3_chalkAt_17 : decode cX3_chalkAt 17 = .ok (.irem, 1) := dk_112 (dk_at dksX3_chalkAt_0 17 rfl rfl)
theorem dX3_chalkAt_18 : decode cX3_chalkAt 18 = .ok (.iaload, 1) := dk_46 (dk_at dksX3_chalkAt_0 18 rfl rfl)
theorem dX3_chalkAt_19 : decode cX3_chalkAt 19 = .ok (.ireturn, 1) := dk_172 (dk_at dksX3_chalkAt_0 19 rfl rfl)
theorem q119 : (Jvm.Cond.initialized "OneCoin$Duchy") ∈ lw_all := lw_g (lw_at lw_m1 4 rfl) rfl
theorem q194 : (Jvm.Cond.instantiable "OneCoin$Duchy" (16 : Nat)) ∈ lw_all := lw_g (lw_at lw_m1 79 rfl) rfl
theorem q196 : (Jvm.Cond.instanceMethod ({ cls := "OneCoin$Duchy", name := "<init>", desc := "(LOneCoin;)V" } : Jvm.MethodName)) ∈ lw_all := lw_g (lw_at lw_m1 81 rfl) rfl
theorem q197 : (Jvm.Cond.code ({ cls := "OneCoin$Duchy", name := "<init>", desc := "(LOneCoin;)V" } : Jvm.MethodName) prog_7_method_1_code (2 : Nat) (Option.none : Option Jvm.ClassFile.FieldType)) ∈ lw_all := lw_g (lw_at lw_m1 82 rfl) rfl
theorem q198 : (Jvm.Cond.methodLink "OneCoin$Duchy" (9 : Nat) ({ cls := "java/lang/Object", name := "<init>", desc := "()V" } : Jvm.MethodName)) ∈ lw_all := lw_g (lw_at lw_m1 83 rfl) rfl
theorem q199 : (Jvm.Cond.classLink "OneCoin$Duchy" (15 : Nat) "OneCoin$Debts") ∈ lw_all := lw_g (lw_at lw_m1 84 rfl) rfl
theorem q201 : (Jvm.Cond.methodLinkNest "OneCoin$Duchy" (17 : Nat) ({ cls := "OneCoin$Debts", name := "<init>", desc := "()V" } : Jvm.MethodName) "OneCoin") ∈ lw_tbl := lw_at lw_m1 86 rfl
theorem q210 : (Jvm.Cond.fieldLinkNest "OneCoin$Duchy" (92 : Nat) "OneCoin$Debts" "owed" "[[I" "OneCoin") ∈ lw_tbl := lw_at lw_m1 95 rfl
theorem q215 : (Jvm.Cond.fieldLink "OneCoin$Duchy" (18 : Nat) "OneCoin$Duchy" "debts" "LOneCoin$Debts;") ∈ lw_all := lw_g (lw_at lw_m1 100 rfl) rfl
theorem q218 : (Jvm.Cond.fieldLink "OneCoin$Duchy" (22 : Nat) "OneCoin$Duchy" "had" "[I") ∈ lw_all := lw_g (lw_at lw_m1 103 rfl) rfl
theorem q220 : (Jvm.Cond.fieldLink "OneCoin$Duchy" (26 : Nat) "OneCoin$Duchy" "chalk" "[I") ∈ lw_all := lw_g (lw_at lw_m1 105 rfl) rfl
theorem q221 : (Jvm.Cond.fieldLink "OneCoin$Duchy" (29 : Nat) "OneCoin$Duchy" "holder" "I") ∈ lw_all := lw_g (lw_at lw_m1 106 rfl) rfl
theorem q223 : (Jvm.Cond.fieldLink "OneCoin$Duchy" (40 : Nat) "OneCoin$Duchy" "payer" "I") ∈ lw_all := lw_g (lw_at lw_m1 108 rfl) rfl
theorem q224 : (Jvm.Cond.fieldLink "OneCoin$Duchy" (33 : Nat) "OneCoin$Duchy" "goal" "I") ∈ lw_all := lw_g (lw_at lw_m1 109 rfl) rfl
theorem q226 : (Jvm.Cond.fieldLink "OneCoin$Duchy" (43 : Nat) "OneCoin$Duchy" "left" "I") ∈ lw_all := lw_g (lw_at lw_m1 111 rfl) rfl
theorem q228 : (Jvm.Cond.fieldLink "OneCoin$Duchy" (46 : Nat) "OneCoin$Duchy" "hour" "I") ∈ lw_all := lw_g (lw_at lw_m1 113 rfl) rfl
theorem q231 : (Jvm.Cond.fieldLink "OneCoin$Duchy" (49 : Nat) "OneCoin$Duchy" "day" "I") ∈ lw_all := lw_g (lw_at lw_m1 116 rfl) rfl
theorem q234 : (Jvm.Cond.fieldLink "OneCoin$Duchy" (52 : Nat) "OneCoin$Duchy" "x" "I") ∈ lw_all := lw_g (lw_at lw_m1 119 rfl) rfl
theorem q236 : (Jvm.Cond.fieldLink "OneCoin$Duchy" (55 : Nat) "OneCoin$Duchy" "written" "I") ∈ lw_all := lw_g (lw_at lw_m1 121 rfl) rfl
theorem q237 : (Jvm.Cond.fieldLink "OneCoin$Duchy" (110 : Nat) "OneCoin$Duchy" "payings" "I") ∈ lw_all := lw_g (lw_at lw_m1 122 rfl) rfl
theorem q239 : (Jvm.Cond.fieldLink "OneCoin$Duchy" (89 : Nat) "OneCoin$Duchy" "rainyDays" "I") ∈ lw_all := lw_g (lw_at lw_m1 124 rfl) rfl
theorem q241 : (Jvm.Cond.fieldLink "OneCoin$Duchy" (100 : Nat) "OneCoin$Duchy" "interest" "I") ∈ lw_all := lw_g (lw_at lw_m1 126 rfl) rfl
theorem q243 : (Jvm.Cond.fieldLink "OneCoin$Duchy" (58 : Nat) "OneCoin$Duchy" "isRainy" "Z") ∈ lw_all := lw_g (lw_at lw_m1 128 rfl) rfl
theorem q245 : (Jvm.Cond.fieldLink "OneCoin$Duchy" (3 : Nat) "OneCoin$Duchy" "this$0" "LOneCoin;") ∈ lw_all := lw_g (lw_at lw_m1 130 rfl) rfl
theorem q246 : (Jvm.Cond.laysFinal "OneCoin$Duchy" "OneCoin$Duchy" "debts" "LOneCoin$Debts;") ∈ lw_all := lw_g (lw_at lw_m1 131 rfl) rfl
theorem q247 : (Jvm.Cond.soleField "OneCoin$Duchy" "debts") ∈ lw_all := lw_g (lw_at lw_m1 132 rfl) rfl
theorem q248 : (Jvm.Cond.laysFinal "OneCoin$Duchy" "OneCoin$Duchy" "had" "[I") ∈ lw_all := lw_g (lw_at lw_m1 133 rfl) rfl
theorem q249 : (Jvm.Cond.soleField "OneCoin$Duchy" "had") ∈ lw_all := lw_g (lw_at lw_m1 134 rfl) rfl
theorem q250 : (Jvm.Cond.laysFinal "OneCoin$Duchy" "OneCoin$Duchy" "chalk" "[I") ∈ lw_all := lw_g (lw_at lw_m1 135 rfl) rfl
theorem q251 : (Jvm.Cond.soleField "OneCoin$Duchy" "chalk") ∈ lw_all := lw_g (lw_at lw_m1 136 rfl) rfl
theorem q252 : (Jvm.Cond.lays "OneCoin$Duchy" "OneCoin$Duchy" "holder" "I") ∈ lw_all := lw_g (lw_at lw_m1 137 rfl) rfl
theorem q253 : (Jvm.Cond.soleField "OneCoin$Duchy" "holder") ∈ lw_all := lw_g (lw_at lw_m1 138 rfl) rfl
theorem q254 : (Jvm.Cond.lays "OneCoin$Duchy" "OneCoin$Duchy" "payer" "I") ∈ lw_all := lw_g (lw_at lw_m1 139 rfl) rfl
theorem q255 : (Jvm.Cond.soleField "OneCoin$Duchy" "payer") ∈ lw_all := lw_g (lw_at lw_m1 140 rfl) rfl
theorem q256 : (Jvm.Cond.lays "OneCoin$Duchy" "OneCoin$Duchy" "goal" "I") ∈ lw_all := lw_g (lw_at lw_m1 141 rfl) rfl
theorem q257 : (Jvm.Cond.soleField "OneCoin$Duchy" "goal") ∈ lw_all := lw_g (lw_at lw_m1 142 rfl) rfl
theorem q258 : (Jvm.Cond.lays "OneCoin$Duchy" "OneCoin$Duchy" "left" "I") ∈ lw_all := lw_g (lw_at lw_m1 143 rfl) rfl
theorem q259 : (Jvm.Cond.soleField "OneCoin$Duchy" "left") ∈ lw_all := lw_g (lw_at lw_m1 144 rfl) rfl
theorem q260 : (Jvm.Cond.lays "OneCoin$Duchy" "OneCoin$Duchy" "hour" "I") ∈ lw_all := lw_g (lw_at lw_m1 145 rfl) rfl
theorem q261 : (Jvm.Cond.soleField "OneCoin$Duchy" "hour") ∈ lw_all := lw_g (lw_at lw_m1 146 rfl) rfl
theorem q262 : (Jvm.Cond.lays "OneCoin$Duchy" "OneCoin$Duchy" "day" "I") ∈ lw_all := lw_g (lw_at lw_m1 147 rfl) rfl
theorem q263 : (Jvm.Cond.soleField "OneCoin$Duchy" "day") ∈ lw_all := lw_g (lw_at lw_m1 148 rfl) rfl
theorem q264 : (Jvm.Cond.lays "OneCoin$Duchy" "OneCoin$Duchy" "x" "I") ∈ lw_all := lw_g (lw_at lw_m1 149 rfl) rfl
theorem q265 : (Jvm.Cond.soleField "OneCoin$Duchy" "x") ∈ lw_all := lw_g (lw_at lw_m1 150 rfl) rfl
theorem q266 : (Jvm.Cond.lays "OneCoin$Duchy" "OneCoin$Duchy" "written" "I") ∈ lw_all := lw_g (lw_at lw_m1 151 rfl) rfl
theorem q267 : (Jvm.Cond.soleField "OneCoin$Duchy" "written") ∈ lw_all := lw_g (lw_at lw_m1 152 rfl) rfl
theorem q268 : (Jvm.Cond.lays "OneCoin$Duchy" "OneCoin$Duchy" "payings" "I") ∈ lw_all := lw_g (lw_at lw_m1 153 rfl) rfl
theorem q269 : (Jvm.Cond.soleField "OneCoin$Duchy" "payings") ∈ lw_all := lw_g (lw_at lw_m1 154 rfl) rfl
theorem q270 : (Jvm.Cond.lays "OneCoin$Duchy" "OneCoin$Duchy" "rainyDays" "I") ∈ lw_all := lw_g (lw_at lw_m1 155 rfl) rfl
theorem q271 : (Jvm.Cond.soleField "OneCoin$Duchy" "rainyDays") ∈ lw_all := lw_g (lw_at lw_m1 156 rfl) rfl
theorem q272 : (Jvm.Cond.lays "OneCoin$Duchy" "OneCoin$Duchy" "interest" "I") ∈ lw_all := lw_g (lw_at lw_m1 157 rfl) rfl
theorem q273 : (Jvm.Cond.soleField "OneCoin$Duchy" "interest") ∈ lw_all := lw_g (lw_at lw_m1 158 rfl) rfl
theorem q274 : (Jvm.Cond.lays "OneCoin$Duchy" "OneCoin$Duchy" "isRainy" "Z") ∈ lw_all := lw_g (lw_at lw_m1 159 rfl) rfl
theorem q275 : (Jvm.Cond.soleField "OneCoin$Duchy" "isRainy") ∈ lw_all := lw_g (lw_at lw_m1 160 rfl) rfl
theorem q276 : (Jvm.Cond.laysFinal "OneCoin$Duchy" "OneCoin$Duchy" "this$0" "LOneCoin;") ∈ lw_all := lw_g (lw_at lw_m1 161 rfl) rfl
theorem q277 : (Jvm.Cond.soleField "OneCoin$Duchy" "this$0") ∈ lw_all := lw_g (lw_at lw_m1 162 rfl) rfl
theorem q278 : (Jvm.Cond.superclass "OneCoin$Duchy" "java/lang/Object") ∈ lw_all := lw_g (lw_at lw_m1 163 rfl) rfl
theorem q315 : (Jvm.Cond.fieldLinkNest "OneCoin$Duchy" (76 : Nat) "OneCoin" "moment" "LOneCoin$Moment;" "OneCoin") ∈ lw_tbl := lw_at lw_m1 200 rfl
theorem q891 : (Jvm.Cond.instanceMethod ({ cls := "OneCoin$Duchy", name := "takes", desc := "(LOneCoin$Duchy;)LOneCoin$Duchy;" } : Jvm.MethodName)) ∈ lw_all := lw_g (lw_at lw_m4 56 rfl) rfl
theorem q892 : (Jvm.Cond.selects "OneCoin$Duchy" ({ cls := "OneCoin$Duchy", name := "takes", desc := "(LOneCoin$Duchy;)LOneCoin$Duchy;" } : Jvm.MethodName) ({ cls := "OneCoin$Duchy", name := "takes", desc := "(LOneCoin$Duchy;)LOneCoin$Duchy;" } : Jvm.MethodName)) ∈ lw_all := lw_g (lw_at lw_m4 57 rfl) rfl
theorem q893 : (Jvm.Cond.code ({ cls := "OneCoin$Duchy", name := "takes", desc := "(LOneCoin$Duchy;)LOneCoin$Duchy;" } : Jvm.MethodName) prog_7_method_2_code (3 : Nat) (Option.some (Jvm.ClassFile.FieldType.object "OneCoin$Duchy"))) ∈ lw_all := lw_g (lw_at lw_m4 58 rfl) rfl
theorem q894 : (Jvm.Cond.methodLink "OneCoin$Duchy" (36 : Nat) ({ cls := "OneCoin$Debts", name := "takes", desc := "(LOneCoin$Debts;)LOneCoin$Debts;" } : Jvm.MethodName)) ∈ lw_all := lw_g (lw_at lw_m4 59 rfl) rfl
theorem q900 : (Jvm.Cond.instanceMethod ({ cls := "OneCoin$Duchy", name := "pays", desc := "(I)Z" } : Jvm.MethodName)) ∈ lw_all := lw_g (lw_at lw_m4 65 rfl) rfl
theorem q901 : (Jvm.Cond.selects "OneCoin$Duchy" ({ cls := "OneCoin$Duchy", name := "pays", desc := "(I)Z" } : Jvm.MethodName) ({ cls := "OneCoin$Duchy", name := "pays", desc := "(I)Z" } : Jvm.MethodName)) ∈ lw_all := lw_g (lw_at lw_m4 66 rfl) rfl
theorem q902 : (Jvm.Cond.code ({ cls := "OneCoin$Duchy", name := "pays", desc := "(I)Z" } : Jvm.MethodName) prog_7_method_16_code (2 : Nat) (Option.some Jvm.ClassFile.FieldType.boolean)) ∈ lw_all := lw_g (lw_at lw_m4 67 rfl) rfl
theorem q903 : (Jvm.Cond.methodLinkNest "OneCoin$Duchy" (147 : Nat) ({ cls := "OneCoin", name := "isTold", desc := "(I)Z" } : Jvm.MethodName) "OneCoin") ∈ lw_tbl := lw_at lw_m4 68 rfl
theorem q904 : (Jvm.Cond.methodLink "OneCoin$Duchy" (113 : Nat) ({ cls := "OneCoin$Duchy", name := "gets", desc := "(I)V" } : Jvm.MethodName)) ∈ lw_all := lw_g (lw_at lw_m4 69 rfl) rfl
theorem q905 : (Jvm.Cond.instanceMethod ({ cls := "OneCoin$Duchy", name := "gets", desc := "(I)V" } : Jvm.MethodName)) ∈ lw_all := lw_g (lw_at lw_m4 70 rfl) rfl
theorem q906 : (Jvm.Cond.selects "OneCoin$Duchy" ({ cls := "OneCoin$Duchy", name := "gets", desc := "(I)V" } : Jvm.MethodName) ({ cls := "OneCoin$Duchy", name := "gets", desc := "(I)V" } : Jvm.MethodName)) ∈ lw_all := lw_g (lw_at lw_m4 71 rfl) rfl
theorem q907 : (Jvm.Cond.code ({ cls := "OneCoin$Duchy", name := "gets", desc := "(I)V" } : Jvm.MethodName) prog_7_method_6_code (2 : Nat) (Option.none : Option Jvm.ClassFile.FieldType)) ∈ lw_all := lw_g (lw_at lw_m4 72 rfl) rfl
theorem q925 : (Jvm.Cond.instanceMethod ({ cls := "OneCoin$Duchy", name := "goes", desc := "(I)LOneCoin$Duchy;" } : Jvm.MethodName)) ∈ lw_all := lw_g (lw_at lw_m4 90 rfl) rfl
theorem q926 : (Jvm.Cond.selects "OneCoin$Duchy" ({ cls := "OneCoin$Duchy", name := "goes", desc := "(I)LOneCoin$Duchy;" } : Jvm.MethodName) ({ cls := "OneCoin$Duchy", name := "goes", desc := "(I)LOneCoin$Duchy;" } : Jvm.MethodName)) ∈ lw_all := lw_g (lw_at lw_m4 91 rfl) rfl
theorem q927 : (Jvm.Cond.code ({ cls := "OneCoin$Duchy", name := "goes", desc := "(I)LOneCoin$Duchy;" } : Jvm.MethodName) prog_7_method_15_code (4 : Nat) (Option.some (Jvm.ClassFile.FieldType.object "OneCoin$Duchy"))) ∈ lw_all := lw_g (lw_at lw_m4 92 rfl) rfl
theorem q928 : (Jvm.Cond.methodLink "OneCoin$Duchy" (136 : Nat) ({ cls := "OneCoin$Duchy", name := "begins", desc := "()LOneCoin$Duchy;" } : Jvm.MethodName)) ∈ lw_all := lw_g (lw_at lw_m4 93 rfl) rfl
theorem q929 : (Jvm.Cond.instanceMethod ({ cls := "OneCoin$Duchy", name := "begins", desc := "()LOneCoin$Duchy;" } : Jvm.MethodName)) ∈ lw_all := lw_g (lw_at lw_m4 94 rfl) rfl
theorem q930 : (Jvm.Cond.selects "OneCoin$Duchy" ({ cls := "OneCoin$Duchy", name := "begins", desc := "()LOneCoin$Duchy;" } : Jvm.MethodName) ({ cls := "OneCoin$Duchy", name := "begins", desc := "()LOneCoin$Duchy;" } : Jvm.MethodName)) ∈ lw_all := lw_g (lw_at lw_m4 95 rfl) rfl
theorem q931 : (Jvm.Cond.code ({ cls := "OneCoin$Duchy", name := "begins", desc := "()LOneCoin$Duchy;" } : Jvm.MethodName) prog_7_method_14_code (1 : Nat) (Option.some (Jvm.ClassFile.FieldType.object "OneCoin$Duchy"))) ∈ lw_all := lw_g (lw_at lw_m4 96 rfl) rfl
theorem q932 : (Jvm.Cond.methodLink "OneCoin$Duchy" (140 : Nat) ({ cls := "OneCoin$Duchy", name := "canGo", desc := "()Z" } : Jvm.MethodName)) ∈ lw_all := lw_g (lw_at lw_m4 97 rfl) rfl
theorem q933 : (Jvm.Cond.instanceMethod ({ cls := "OneCoin$Duchy", name := "canGo", desc := "()Z" } : Jvm.MethodName)) ∈ lw_all := lw_g (lw_at lw_m4 98 rfl) rfl
theorem q934 : (Jvm.Cond.selects "OneCoin$Duchy" ({ cls := "OneCoin$Duchy", name := "canGo", desc := "()Z" } : Jvm.MethodName) ({ cls := "OneCoin$Duchy", name := "canGo", desc := "()Z" } : Jvm.MethodName)) ∈ lw_all := lw_g (lw_at lw_m4 99 rfl) rfl
theorem q935 : (Jvm.Cond.code ({ cls := "OneCoin$Duchy", name := "canGo", desc := "()Z" } : Jvm.MethodName) prog_7_method_13_code (1 : Nat) (Option.some Jvm.ClassFile.FieldType.boolean)) ∈ lw_all := lw_g (lw_at lw_m4 100 rfl) rfl
theorem q936 : (Jvm.Cond.methodLink "OneCoin$Duchy" (144 : Nat) ({ cls := "OneCoin$Duchy", name := "hourGoes", desc := "()I" } : Jvm.MethodName)) ∈ lw_all := lw_g (lw_at lw_m4 101 rfl) rfl
theorem q937 : (Jvm.Cond.instanceMethod ({ cls := "OneCoin$Duchy", name := "hourGoes", desc := "()I" } : Jvm.MethodName)) ∈ lw_all := lw_g (lw_at lw_m4 102 rfl) rfl
theorem q938 : (Jvm.Cond.selects "OneCoin$Duchy" ({ cls := "OneCoin$Duchy", name := "hourGoes", desc := "()I" } : Jvm.MethodName) ({ cls := "OneCoin$Duchy", name := "hourGoes", desc := "()I" } : Jvm.MethodName)) ∈ lw_all := lw_g (lw_at lw_m4 103 rfl) rfl
theorem q939 : (Jvm.Cond.code ({ cls := "OneCoin$Duchy", name := "hourGoes", desc := "()I" } : Jvm.MethodName) prog_7_method_12_code (2 : Nat) (Option.some Jvm.ClassFile.FieldType.int)) ∈ lw_all := lw_g (lw_at lw_m4 104 rfl) rfl
theorem q940 : (Jvm.Cond.methodLink "OneCoin$Duchy" (127 : Nat) ({ cls := "OneCoin$Duchy", name := "dayBegins", desc := "()V" } : Jvm.MethodName)) ∈ lw_all := lw_g (lw_at lw_m4 105 rfl) rfl
theorem q941 : (Jvm.Cond.privateMethod ({ cls := "OneCoin$Duchy", name := "dayBegins", desc := "()V" } : Jvm.MethodName)) ∈ lw_tbl := lw_at lw_m4 106 rfl
theorem q942 : (Jvm.Cond.instanceMethod ({ cls := "OneCoin$Duchy", name := "dayBegins", desc := "()V" } : Jvm.MethodName)) ∈ lw_all := lw_g (lw_at lw_m4 107 rfl) rfl
theorem q943 : (Jvm.Cond.code ({ cls := "OneCoin$Duchy", name := "dayBegins", desc := "()V" } : Jvm.MethodName) prog_7_method_8_code (4 : Nat) (Option.none : Option Jvm.ClassFile.FieldType)) ∈ lw_all := lw_g (lw_at lw_m4 108 rfl) rfl
theorem q944 : (Jvm.Cond.methodLink "OneCoin$Duchy" (73 : Nat) ({ cls := "OneCoin$Duchy", name := "draw", desc := "()I" } : Jvm.MethodName)) ∈ lw_all := lw_g (lw_at lw_m4 109 rfl) rfl
theorem q945 : (Jvm.Cond.privateMethod ({ cls := "OneCoin$Duchy", name := "draw", desc := "()I" } : Jvm.MethodName)) ∈ lw_tbl := lw_at lw_m4 110 rfl
theorem q946 : (Jvm.Cond.instanceMethod ({ cls := "OneCoin$Duchy", name := "draw", desc := "()I" } : Jvm.MethodName)) ∈ lw_all := lw_g (lw_at lw_m4 111 rfl) rfl
theorem q947 : (Jvm.Cond.code ({ cls := "OneCoin$Duchy", name := "draw", desc := "()I" } : Jvm.MethodName) prog_7_method_7_code (1 : Nat) (Option.some Jvm.ClassFile.FieldType.int)) ∈ lw_all := lw_g (lw_at lw_m4 112 rfl) rfl
theorem q948 : (Jvm.Cond.constant "OneCoin$Duchy" (72 : Nat) (65536 : Int32)) ∈ lw_all := lw_g (lw_at lw_m4 113 rfl) rfl
theorem q949 : (Jvm.Cond.methodLink "OneCoin$Duchy" (80 : Nat) ({ cls := "OneCoin$Moment", name := "at", desc := "(II)LOneCoin$Moment;" } : Jvm.MethodName)) ∈ lw_all := lw_g (lw_at lw_m4 114 rfl) rfl
theorem q953 : (Jvm.Cond.methodLink "OneCoin$Duchy" (86 : Nat) ({ cls := "OneCoin$Moment", name := "tells", desc := "(II)I" } : Jvm.MethodName)) ∈ lw_all := lw_g (lw_at lw_m4 118 rfl) rfl
theorem q1009 : (Jvm.Cond.methodLink "OneCoin$Duchy" (96 : Nat) ({ cls := "OneCoin$Moment", name := "of", desc := "(LOneCoin$Duchy;II)LOneCoin$Moment;" } : Jvm.MethodName)) ∈ lw_all := lw_g (lw_at lw_m4 174 rfl) rfl
theorem q1017 : (Jvm.Cond.instanceMethod ({ cls := "OneCoin$Duchy", name := "chalked", desc := "(I)I" } : Jvm.MethodName)) ∈ lw_all := lw_g (lw_at lw_m4 182 rfl) rfl
theorem q1018 : (Jvm.Cond.selects "OneCoin$Duchy" ({ cls := "OneCoin$Duchy", name := "chalked", desc := "(I)I" } : Jvm.MethodName) ({ cls := "OneCoin$Duchy", name := "chalked", desc := "(I)I" } : Jvm.MethodName)) ∈ lw_all := lw_g (lw_at lw_m4 183 rfl) rfl
theorem q1019 : (Jvm.Cond.code ({ cls := "OneCoin$Duchy", name := "chalked", desc := "(I)I" } : Jvm.MethodName) prog_7_method_5_code (4 : Nat) (Option.some Jvm.ClassFile.FieldType.int)) ∈ lw_all := lw_g (lw_at lw_m4 184 rfl) rfl
theorem q1020 : (Jvm.Cond.methodLink "OneCoin$Duchy" (68 : Nat) ({ cls := "OneCoin$Duchy", name := "rows", desc := "()I" } : Jvm.MethodName)) ∈ lw_all := lw_g (lw_at lw_m4 185 rfl) rfl
theorem q1021 : (Jvm.Cond.instanceMethod ({ cls := "OneCoin$Duchy", name := "rows", desc := "()I" } : Jvm.MethodName)) ∈ lw_all := lw_g (lw_at lw_m4 186 rfl) rfl
theorem q1022 : (Jvm.Cond.selects "OneCoin$Duchy" ({ cls := "OneCoin$Duchy", name := "rows", desc := "()I" } : Jvm.MethodName) ({ cls := "OneCoin$Duchy", name := "rows", desc := "()I" } : Jvm.MethodName)) ∈ lw_all := lw_g (lw_at lw_m4 187 rfl) rfl
theorem q1023 : (Jvm.Cond.code ({ cls := "OneCoin$Duchy", name := "rows", desc := "()I" } : Jvm.MethodName) prog_7_method_3_code (1 : Nat) (Option.some Jvm.ClassFile.FieldType.int)) ∈ lw_all := lw_g (lw_at lw_m4 188 rfl) rfl
theorem q1024 : (Jvm.Cond.methodLink "OneCoin$Duchy" (62 : Nat) ({ cls := "java/lang/Math", name := "min", desc := "(II)I" } : Jvm.MethodName)) ∈ lw_all := lw_g (lw_at lw_m4 189 rfl) rfl
theorem q1025 : (Jvm.Cond.methodLink "OneCoin$Duchy" (130 : Nat) ({ cls := "OneCoin$Duchy", name := "arrives", desc := "()V" } : Jvm.MethodName)) ∈ lw_all := lw_g (lw_at lw_m4 190 rfl) rfl
theorem q1026 : (Jvm.Cond.privateMethod ({ cls := "OneCoin$Duchy", name := "arrives", desc := "()V" } : Jvm.MethodName)) ∈ lw_tbl := lw_at lw_m4 191 rfl
theorem q1027 : (Jvm.Cond.instanceMethod ({ cls := "OneCoin$Duchy", name := "arrives", desc := "()V" } : Jvm.MethodName)) ∈ lw_all := lw_g (lw_at lw_m4 192 rfl) rfl
theorem q1028 : (Jvm.Cond.code ({ cls := "OneCoin$Duchy", name := "arrives", desc := "()V" } : Jvm.MethodName) prog_7_method_10_code (1 : Nat) (Option.none : Option Jvm.ClassFile.FieldType)) ∈ lw_all := lw_g (lw_at lw_m4 193 rfl) rfl
theorem q1029 : (Jvm.Cond.methodLink "OneCoin$Duchy" (107 : Nat) ({ cls := "java/lang/Math", name := "max", desc := "(II)I" } : Jvm.MethodName)) ∈ lw_all := lw_g (lw_at lw_m4 194 rfl) rfl
theorem q1030 : (Jvm.Cond.methodLink "OneCoin$Duchy" (133 : Nat) ({ cls := "OneCoin$Duchy", name := "stays", desc := "()V" } : Jvm.MethodName)) ∈ lw_all := lw_g (lw_at lw_m4 195 rfl) rfl
theorem q1031 : (Jvm.Cond.privateMethod ({ cls := "OneCoin$Duchy", name := "stays", desc := "()V" } : Jvm.MethodName)) ∈ lw_tbl := lw_at lw_m4 196 rfl
theorem q1032 : (Jvm.Cond.instanceMethod ({ cls := "OneCoin$Duchy", name := "stays", desc := "()V" } : Jvm.MethodName)) ∈ lw_all := lw_g (lw_at lw_m4 197 rfl) rfl
theorem q1033 : (Jvm.Cond.code ({ cls := "OneCoin$Duchy", name := "stays", desc := "()V" } : Jvm.MethodName) prog_7_method_11_code (2 : Nat) (Option.none : Option Jvm.ClassFile.FieldType)) ∈ lw_all := lw_g (lw_at lw_m4 198 rfl) rfl
theorem q1034 : (Jvm.Cond.methodLinkNest "OneCoin$Duchy" (117 : Nat) ({ cls := "OneCoin", name := "within", desc := "(III)Z" } : Jvm.MethodName) "OneCoin") ∈ lw_tbl := lw_at lw_m4 199 rfl
theorem q1035 : (Jvm.Cond.methodLink "OneCoin$Duchy" (121 : Nat) ({ cls := "OneCoin$Duchy", name := "nextPaid", desc := "()I" } : Jvm.MethodName)) ∈ lw_all := lw_g (lw_at lw_m4 200 rfl) rfl
theorem q1036 : (Jvm.Cond.privateMethod ({ cls := "OneCoin$Duchy", name := "nextPaid", desc := "()I" } : Jvm.MethodName)) ∈ lw_tbl := lw_at lw_m4 201 rfl
theorem q1037 : (Jvm.Cond.instanceMethod ({ cls := "OneCoin$Duchy", name := "nextPaid", desc := "()I" } : Jvm.MethodName)) ∈ lw_all := lw_g (lw_at lw_m4 202 rfl) rfl
theorem q1038 : (Jvm.Cond.code ({ cls := "OneCoin$Duchy", name := "nextPaid", desc := "()I" } : Jvm.MethodName) prog_7_method_9_code (5 : Nat) (Option.some Jvm.ClassFile.FieldType.int)) ∈ lw_all := lw_g (lw_at lw_m4 203 rfl) rfl
theorem q1039 : (Jvm.Cond.methodLinkNest "OneCoin$Duchy" (103 : Nat) ({ cls := "OneCoin", name := "likingOf", desc := "(LOneCoin$Duchy;II)I" } : Jvm.MethodName) "OneCoin") ∈ lw_tbl := lw_at lw_m4 204 rfl
theorem q1053 : (Jvm.Cond.methodLinkNest "OneCoin$Duchy" (124 : Nat) ({ cls := "OneCoin", name := "way", desc := "(II)I" } : Jvm.MethodName) "OneCoin") ∈ lw_tbl := lw_at lw_m4 218 rfl
theorem q1214 : (Jvm.Cond.instanceMethod ({ cls := "OneCoin$Duchy", name := "chalkAt", desc := "(I)I" } : Jvm.MethodName)) ∈ lw_all := lw_g (lw_at lw_m5 139 rfl) rfl
theorem q1215 : (Jvm.Cond.selects "OneCoin$Duchy" ({ cls := "OneCoin$Duchy", name := "chalkAt", desc := "(I)I" } : Jvm.MethodName) ({ cls := "OneCoin$Duchy", name := "chalkAt", desc := "(I)I" } : Jvm.MethodName)) ∈ lw_all := lw_g (lw_at lw_m5 140 rfl) rfl
theorem q1216 : (Jvm.Cond.code ({ cls := "OneCoin$Duchy", name := "chalkAt", desc := "(I)I" } : Jvm.MethodName) prog_7_method_4_code (2 : Nat) (Option.some Jvm.ClassFile.FieldType.int)) ∈ lw_all := lw_g (lw_at lw_m5 141 rfl) rfl
theorem in_X3 : ∀ w ∈ wsX30, w ∈ lw_all := lw_in wsX30 [246, 248, 250, 252, 254, 256, 258, 260, 262, 264, 266, 268, 270, 272, 274, 276] (by decide +kernel) (by decide +kernel)
/-! OneCoin$Debts -/
set_option maxRecDepth 100000
def RX4 : String := "OneCoin$Debts"
def TX4 : u_T := fun k => match k with
  | _ => ("OneCoin$Debts", "owed", "[[I", true)
def tyX4 : Nat → FieldType := fun k => match k with
  | _ => .array (.array .int)
abbrev wsX40 : List Cond := u_ws RX4 TX4 1
theorem nmX4 : ∀ a, a < 1 → ∀ b, b < 1 → a ≠ b → (TX4 a).2.1 ≠ (TX4 b).2.1 := by decide +kernel
theorem tyX4_ok : ∀ k, k < 1 → parseFieldDescriptor (TX4 k).2.2.1 = some (tyX4 k) := by decide +kernel
abbrev cX4_init : ByteArray := prog_6_method_1_code
def yX4_init : MethodName := ⟨RX4, "<init>", "()V"⟩
def dkwX4_init_0 : List UInt8 := [42, 183, 0, 3, 42, 16, 10, 16, 10, 197, 0, 9, 2, 181, 0, 11, 177]
abbrev dktX4_init_0 : List UInt8 := dkwX4_init_0 ++ []
theorem dksX4_init_0 : cX4_init.data.toList.drop 0 = dktX4_init_0 := by decide +kernel
theorem dX4_init_0 : decode cX4_init 0 = .ok (.aload_n 0, 1) := dk_42 (dk_at dksX4_init_0 0 rfl rfl)
theorem dX4_init_1 : decode cX4_init 1 = .ok (.invokespecial 3, 3) := dk_183 0 3 (dk_at dksX4_init_0 1 rfl rfl)
theorem dX4_init_4 : decode cX4_init 4 = .ok (.aload_n 0, 1) := dk_42 (dk_at dksX4_init_0 4 rfl rfl)
theorem dX4_init_5 : decode cX4_init 5 = .ok (.bipush 10, 2) := dk_16 10 (dk_at dksX4_init_0 5 rfl rfl)
theorem dX4_init_7 : decode cX4_init 7 = .ok (.bipush 10, 2) := dk_16 10 (dk_at dksX4_init_0 7 rfl rfl)
theorem dX4_init_9 : decode cX4_init 9 = .ok (.multianewarray 9 2, 4) := by decide +kernel
theorem dX4_init_13 : decode cX4_init 13 = .ok (.putfield 11, 3) := dk_181 0 11 (dk_at dksX4_init_0 13 rfl rfl)
theorem dX4_init_16 : decode cX4_init 16 = .ok (.return_, 1) := dk_177 (dk_at dksX4_init_0 16 rfl rfl)
abbrev cX4_all : ByteArray := prog_6_method_6_code
def yX4_all : MethodName := ⟨RX4, "all", "()I"⟩
def dkwX4_all_1 : List UInt8 := [27, 172]
abbrev dktX4_all_1 : List UInt8 := dkwX4_all_1 ++ []
def dkwX4_all_0 : List UInt8 := [3, 60, 3, 61, 28, 16, 10, 162, 0, 17, 27, 42, 28, 182, 0, 16, 96, 60, 132, 2, 1, 167, 255, 239]
abbrev dktX4_all_0 : List UInt8 := dkwX4_all_0 ++ dktX4_all_1
theorem dksX4_all_0 : cX4_all.data.toList.drop 0 = dktX4_all_0 := by decide +kernel
theorem dksX4_all_1 : cX4_all.data.toList.drop 24 = dktX4_all_1 := dk_seg dksX4_all_0 24 rfl rfl
theorem dX4_all_0 : decode cX4_all 0 = .ok (.iconst 0, 1) := dk_3 (dk_at dksX4_all_0 0 rfl rfl)
theorem dX4_all_1 : decode cX4_all 1 = .ok (.istore_n 1, 1) := dk_60 (dk_at dksX4_all_0 1 rfl rfl)
theorem dX4_all_2 : decode cX4_all 2 = .ok (.iconst 0, 1) := dk_3 (dk_at dksX4_all_0 2 rfl rfl)
theorem dX4_all_3 : decode cX4_all 3 = .ok (.istore_n 2, 1) := dk_61 (dk_at dksX4_all_0 3 rfl rfl)
theorem dX4_all_4 : decode cX4_all 4 = .ok (.iload_n 2, 1) := dk_28 (dk_at dksX4_all_0 4 rfl rfl)
theorem dX4_all_5 : decode cX4_all 5 = .ok (.bipush 10, 2) := dk_16 10 (dk_at dksX4_all_0 5 rfl rfl)
theorem dX4_all_7 : decode cX4_all 7 = .ok (.if_icmp .ge 17, 3) := dk_162 0 17 (dk_at dksX4_all_0 7 rfl rfl)
theorem dX4_all_10 : decode cX4_all 10 = .ok (.iload_n 1, 1) := dk_27 (dk_at dksX4_all_0 10 rfl rfl)
theorem dX4_all_11 : decode cX4_all 11 = .ok (.aload_n 0, 1) := dk_42 (dk_at dksX4_all_0 11 rfl rfl)
theorem dX4_all_12 : decode cX4_all 12 = .ok (.iload_n 2, 1) := dk_28 (dk_at dksX4_all_0 12 rfl rfl)
theorem dX4_all_13 : decode cX4_all 13 = .ok (.invokevirtual 16, 3) := dk_182 0 16 (dk_at dksX4_all_0 13 rfl rfl)
theorem dX4_all_16 : decode cX4_all 16 = .ok (.iadd, 1) := dk_96 (dk_at dksX4_all_0 16 rfl rfl)
theorem dX4_all_17 : decode cX4_all 17 = .ok (.istore_n 1, 1) := dk_60 (dk_at dksX4_all_0 17 rfl rfl)
theorem dX4_all_18 : decode cX4_all 18 = .ok (.iinc 2 1, 3) := dk_132 2 1 (dk_at dksX4_all_0 18 rfl rfl)
theorem dX4_all_21 : decode cX4_all 21 = .ok (.goto (-17), 3) := dk_167 255 239 (dk_at dksX4_all_0 21 rfl rfl)
theorem dX4_all_24 : decode cX4_all 24 = .ok (.iload_n 1, 1) := dk_27 (dk_at dksX4_all_1 0 rfl rfl)
theorem dX4_all_25 : decode cX4_all 25 = .ok (.ireturn, 1) := dk_172 (dk_at dksX4_all_1 1 rfl rfl)
abbrev cX4_owes : ByteArray := prog_6_method_4_code
def yX4_owes : MethodName := ⟨RX4, "owes", "(I)I"⟩
def dkwX4_owes_1 : List UInt8 := [167, 255, 236, 28, 172]
abbrev dktX4_owes_1 : List UInt8 := dkwX4_owes_1 ++ []
def dkwX4_owes_0 : List UInt8 := [3, 61, 3, 62, 29, 16, 10, 162, 0, 20, 28, 42, 180, 0, 11, 27, 50, 29, 46, 96, 61, 132, 3, 1]
abbrev dktX4_owes_0 : List UInt8 := dkwX4_owes_0 ++ dktX4_owes_1
theorem dksX4_owes_0 : cX4_owes.data.toList.drop 0 = dktX4_owes_0 := by decide +kernel
theorem dksX4_owes_1 : cX4_owes.data.toList.drop 24 = dktX4_owes_1 := dk_seg dksX4_owes_0 24 rfl rfl
theorem dX4_owes_0 : decode cX4_owes 0 = .ok (.iconst 0, 1) := dk_3 (dk_at dksX4_owes_0 0 rfl rfl)
theorem dX4_owes_1 : decode cX4_owes 1 = .ok (.istore_n 2, 1) := dk_61 (dk_at dksX4_owes_0 1 rfl rfl)
theorem dX4_owes_2 : decode cX4_owes 2 = .ok (.iconst 0, 1) := dk_3 (dk_at dksX4_owes_0 2 rfl rfl)
theorem dX4_owes_3 : decode cX4_owes 3 = .ok (.istore_n 3, 1) := dk_62 (dk_at dksX4_owes_0 3 rfl rfl)
theorem dX4_owes_4 : decode cX4_owes 4 = .ok (.iload_n 3, 1) := dk_29 (dk_at dksX4_owes_0 4 rfl rfl)
theorem dX4_owes_5 : decode cX4_owes 5 = .ok (.bipush 10, 2) := dk_16 10 (dk_at dksX4_owes_0 5 rfl rfl)
theorem dX4_owes_7 : decode cX4_owes 7 = .ok (.if_icmp .ge 20, 3) := dk_162 0 20 (dk_at dksX4_owes_0 7 rfl rfl)
theorem dX4_owes_10 : decode cX4_owes 10 = .ok (.iload_n 2, 1) := dk_28 (dk_at dksX4_owes_0 10 rfl rfl)
theorem dX4_owes_11 : decode cX4_owes 11 = .ok (.aload_n 0, 1) := dk_42 (dk_at dksX4_owes_0 11 rfl rfl)
theorem dX4_owes_12 : decode cX4_owes 12 = .ok (.getfield 11, 3) := dk_180 0 11 (dk_at dksX4_owes_0 12 rfl rfl)
theorem dX4_owes_15 : decode cX4_owes 15 = .ok (.iload_n 1, 1) := dk_27 (dk_at dksX4_owes_0 15 rfl rfl)
theorem dX4_owes_16 : decode cX4_owes 16 = .ok (.aaload, 1) := dk_50 (dk_at dksX4_owes_0 16 rfl rfl)
theorem dX4_owes_17 : decode cX4_owes 17 = .ok (.iload_n 3, 1) := dk_29 (dk_at dksX4_owes_0 17 rfl rfl)
theorem dX4_owes_18 : decode cX4_owes 18 = .ok (.iaload, 1) := dk_46 (dk_at dksX4_owes_0 18 rfl rfl)
theorem dX4_owes_19 : decode cX4_owes 19 = .ok (.iadd, 1) := dk_96 (dk_at dksX4_owes_0 19 rfl rfl)
theorem dX4_owes_20 : decode cX4_owes 20 = .ok (.istore_n 2, 1) := dk_61 (dk_at dksX4_owes_0 20 rfl rfl)
theorem dX4_owes_21 : decode cX4_owes 21 = .ok (.iinc 3 1, 3) := dk_132 3 1 (dk_at dksX4_owes_0 21 rfl rfl)
theorem dX4_owes_24 : decode cX4_owes 24 = .ok (.goto (-20), 3) := dk_167 255 236 (dk_at dksX4_owes_1 0 rfl rfl)
theorem dX4_owes_27 : decode cX4_owes 27 = .ok (.iload_n 2, 1) := dk_28 (dk_at dksX4_owes_1 3 rfl rfl)
theorem dX4_owes_28 : decode cX4_owes 28 = .ok (.ireturn, 1) := dk_172 (dk_at dksX4_owes_1 4 rfl rfl)
abbrev cX4_takes : ByteArray := prog_6_method_2_code
def yX4_takes : MethodName := ⟨RX4, "takes", "(LOneCoin$Debts;)LOneCoin$Debts;"⟩
def dkwX4_takes_1 : List UInt8 := [180, 0, 11, 28, 50, 29, 46, 79, 132, 3, 1, 167, 255, 231, 132, 2, 1, 167, 255, 217, 42, 176]
abbrev dktX4_takes_1 : List UInt8 := dkwX4_takes_1 ++ []
def dkwX4_takes_0 : List UInt8 := [3, 61, 28, 16, 10, 162, 0, 39, 3, 62, 29, 16, 10, 162, 0, 25, 42, 180, 0, 11, 28, 50, 29, 43]
abbrev dktX4_takes_0 : List UInt8 := dkwX4_takes_0 ++ dktX4_takes_1
theorem dksX4_takes_0 : cX4_takes.data.toList.drop 0 = dktX4_takes_0 := by decide +kernel
theorem dksX4_takes_1 : cX4_takes.data.toList.drop 24 = dktX4_takes_1 := dk_seg dksX4_takes_0 24 rfl rfl
theorem dX4_takes_0 : decode cX4_takes 0 = .ok (.iconst 0, 1) := dk_3 (dk_at dksX4_takes_0 0 rfl rfl)
theorem dX4_takes_1 : decode cX4_takes 1 = .ok (.istore_n 2, 1) := dk_61 (dk_at dksX4_takes_0 1 rfl rfl)
theorem dX4_takes_2 : decode cX4_takes 2 = .ok (.iload_n 2, 1) := dk_28 (dk_at dksX4_takes_0 2 rfl rfl)
theorem dX4_takes_3 : decode cX4_takes 3 = .ok (.bipush 10, 2) := dk_16 10 (dk_at dksX4_takes_0 3 rfl rfl)
theorem dX4_takes_5 : decode cX4_takes 5 = .ok (.if_icmp .ge 39, 3) := dk_162 0 39 (dk_at dksX4_takes_0 5 rfl rfl)
theorem dX4_takes_8 : decode cX4_takes 8 = .ok (.iconst 0, 1) := dk_3 (dk_at dksX4_takes_0 8 rfl rfl)
theorem dX4_takes_9 : decode cX4_takes 9 = .ok (.istore_n 3, 1) := dk_62 (dk_at dksX4_takes_0 9 rfl rfl)
theorem dX4_takes_10 : decode cX4_takes 10 = .ok (.iload_n 3, 1) := dk_29 (dk_at dksX4_takes_0 10 rfl rfl)
theorem dX4_takes_11 : decode cX4_takes 11 = .ok (.bipush 10, 2) := dk_16 10 (dk_at dksX4_takes_0 11 rfl rfl)
theorem dX4_takes_13 : decode cX4_takes 13 = .ok (.if_icmp .ge 25, 3) := dk_162 0 25 (dk_at dksX4_takes_0 13 rfl rfl)
theorem dX4_takes_16 : decode cX4_takes 16 = .ok (.aload_n 0, 1) := dk_42 (dk_at dksX4_takes_0 16 rfl rfl)
theorem dX4_takes_17 : decode cX4_takes 17 = .ok (.getfield 11, 3) := dk_180 0 11 (dk_at dksX4_takes_0 17 rfl rfl)
theorem dX4_takes_20 : decode cX4_takes 20 = .ok (.iload_n 2, 1) := dk_28 (dk_at dksX4_takes_0 20 rfl rfl)
theorem dX4_takes_21 : decode cX4_takes 21 = .ok (.aaload, 1) := dk_50 (dk_at dksX4_takes_0 21 rfl rfl)
theorem dX4_takes_22 : decode cX4_takes 22 = .ok (.iload_n 3, 1) := dk_29 (dk_at dksX4_takes_0 22 rfl rfl)
theorem dX4_takes_23 : decode cX4_takes 23 = .ok (.aload_n 1, 1) := dk_43 (dk_at dksX4_takes_0 23 rfl rfl)
theorem dX4_takes_24 : decode cX4_takes 24 = .ok (.getfield 11, 3) := dk_180 0 11 (dk_at dksX4_takes_1 0 rfl rfl)
theorem dX4_takes_27 : decode cX4_takes 27 = .ok (.iload_n 2, 1) := dk_28 (dk_at dksX4_takes_1 3 rfl rfl)
theorem dX4_takes_28 : decode cX4_takes 28 = .ok (.aaload, 1) := dk_50 (dk_at dksX4_takes_1 4 rfl rfl)
theorem dX4_takes_29 : decode cX4_takes 29 = .ok (.iload_n 3, 1) := dk_29 (dk_at dksX4_takes_1 5 rfl rfl)
theorem dX4_takes_30 : decode cX4_takes 30 = .ok (.iaload, 1) := dk_46 (dk_at dksX4_takes_1 6 rfl rfl)
theorem dX4_takes_31 : decode cX4_takes 31 = .ok (.iastore, 1) := dk_79 (dk_at dksX4_takes_1 7 rfl rfl)
theorem dX4_takes_32 : decode cX4_takes 32 = .ok (.iinc 3 1, 3) := dk_132 3 1 (dk_at dksX4_takes_1 8 rfl rfl)
theorem dX4_takes_35 : decode cX4_takes 35 = .ok (.goto (-25), 3) := dk_167 255 231 (dk_at dksX4_takes_1 11 rfl rfl)
theorem dX4_takes_38 : decode cX4_takes 38 = .ok (.iinc 2 1, 3) := dk_132 2 1 (dk_at dksX4_takes_1 14 rfl rfl)
theorem dX4_takes_41 : decode cX4_takes 41 = .ok (.goto (-39), 3) := dk_167 255 217 (dk_at dksX4_takes_1 17 rfl rfl)
theorem dX4_takes_44 : decode cX4_takes 44 = .ok (.aload_n 0, 1) := dk_42 (dk_at dksX4_takes_1 20 rfl rfl)
theorem dX4_takes_45 : decode cX4_takes 45 = .ok (.areturn, 1) := dk_176 (dk_at dksX4_takes_1 21 rfl rfl)
abbrev cX4_gets : ByteArray := prog_6_method_5_code
def yX4_gets : MethodName := ⟨RX4, "gets", "(I)I"⟩
def dkwX4_gets_1 : List UInt8 := [167, 255, 236, 28, 172]
abbrev dktX4_gets_1 : List UInt8 := dkwX4_gets_1 ++ []
def dkwX4_gets_0 : List UInt8 := [3, 61, 3, 62, 29, 16, 10, 162, 0, 20, 28, 42, 180, 0, 11, 29, 50, 27, 46, 96, 61, 132, 3, 1]
abbrev dktX4_gets_0 : List UInt8 := dkwX4_gets_0 ++ dktX4_gets_1
theorem dksX4_gets_0 : cX4_gets.data.toList.drop 0 = dktX4_gets_0 := by decide +kernel
theorem dksX4_gets_1 : cX4_gets.data.toList.drop 24 = dktX4_gets_1 := dk_seg dksX4_gets_0 24 rfl rfl
theorem dX4_gets_0 : decode cX4_gets 0 = .ok (.iconst 0, 1) := dk_3 (dk_at dksX4_gets_0 0 rfl rfl)
theorem dX4_gets_1 : decode cX4_gets 1 = .ok (.istore_n 2, 1) := dk_61 (dk_at dksX4_gets_0 1 rfl rfl)
theorem dX4_gets_2 : decode cX4_gets 2 = .ok (.iconst 0, 1) := dk_3 (dk_at dksX4_gets_0 2 rfl rfl)
theorem dX4_gets_3 : decode cX4_gets 3 = .ok (.istore_n 3, 1) := dk_62 (dk_at dksX4_gets_0 3 rfl rfl)
theorem dX4_gets_4 : decode cX4_gets 4 = .ok (.iload_n 3, 1) := dk_29 (dk_at dksX4_gets_0 4 rfl rfl)
theorem dX4_gets_5 : decode cX4_gets 5 = .ok (.bipush 10, 2) := dk_16 10 (dk_at dksX4_gets_0 5 rfl rfl)
theorem dX4_gets_7 : decode cX4_gets 7 = .ok (.if_icmp .ge 20, 3) := dk_162 0 20 (dk_at dksX4_gets_0 7 rfl rfl)
theorem dX4_gets_10 : decode cX4_gets 10 = .ok (.iload_n 2, 1) := dk_28 (dk_at dksX4_gets_0 10 rfl rfl)
theorem dX4_gets_11 : decode cX4_gets 11 = .ok (.aload_n 0, 1) := dk_42 (dk_at dksX4_gets_0 11 rfl rfl)
theorem dX4_gets_12 : decode cX4_gets 12 = .ok (.getfield 11, 3) := dk_180 0 11 (dk_at dksX4_gets_0 12 rfl rfl)
theorem dX4_gets_15 : decode cX4_gets 15 = .ok (.iload_n 3, 1) := dk_29 (dk_at dksX4_gets_0 15 rfl rfl)
theorem dX4_gets_16 : decode cX4_gets 16 = .ok (.aaload, 1) := dk_50 (dk_at dksX4_gets_0 16 rfl rfl)
theorem dX4_gets_17 : decode cX4_gets 17 = .ok (.iload_n 1, 1) := dk_27 (dk_at dksX4_gets_0 17 rfl rfl)
theorem dX4_gets_18 : decode cX4_gets 18 = .ok (.iaload, 1) := dk_46 (dk_at dksX4_gets_0 18 rfl rfl)
theorem dX4_gets_19 : decode cX4_gets 19 = .ok (.iadd, 1) := dk_96 (dk_at dksX4_gets_0 19 rfl rfl)
theorem dX4_gets_20 : decode cX4_gets 20 = .ok (.istore_n 2, 1) := dk_61 (dk_at dksX4_gets_0 20 rfl rfl)
theorem dX4_gets_21 : decode cX4_gets 21 = .ok (.iinc 3 1, 3) := dk_132 3 1 (dk_at dksX4_gets_0 21 rfl rfl)
theorem dX4_gets_24 : decode cX4_gets 24 = .ok (.goto (-20), 3) := dk_167 255 236 (dk_at dksX4_gets_1 0 rfl rfl)
theorem dX4_gets_27 : decode cX4_gets 27 = .ok (.iload_n 2, 1) := dk_28 (dk_at dksX4_gets_1 3 rfl rfl)
theorem dX4_gets_28 : decode cX4_gets 28 = .ok (.ireturn, 1) := dk_172 (dk_at dksX4_gets_1 4 rfl rfl)
abbrev cX4_areOneRow : ByteArray := prog_6_method_9_code
def yX4_areOneRow : MethodName := ⟨RX4, "areOneRow", "(I)Z"⟩
def dkwX4_areOneRow_5 : List UInt8 := [182, 0, 16, 42, 27, 182, 0, 30, 100, 4, 160, 0, 7, 4, 167, 0, 4, 3, 172]
abbrev dktX4_areOneRow_5 : List UInt8 := dkwX4_areOneRow_5 ++ []
def dkwX4_areOneRow_4 : List UInt8 := [132, 5, 1, 167, 255, 172, 29, 153, 0, 29, 29, 4, 160, 0, 28, 21, 4, 4, 160, 0, 22, 42, 27]
abbrev dktX4_areOneRow_4 : List UInt8 := dkwX4_areOneRow_4 ++ dktX4_areOneRow_5
def dkwX4_areOneRow_3 : List UInt8 := [4, 167, 0, 4, 3, 96, 62, 21, 4, 21, 6, 2, 160, 0, 7, 4, 167, 0, 4, 3, 96, 54, 4]
abbrev dktX4_areOneRow_3 : List UInt8 := dkwX4_areOneRow_3 ++ dktX4_areOneRow_4
def dkwX4_areOneRow_2 : List UInt8 := [182, 0, 16, 158, 0, 14, 28, 21, 5, 184, 0, 23, 154, 0, 5, 3, 172, 29, 21, 6, 4, 160, 0, 7]
abbrev dktX4_areOneRow_2 : List UInt8 := dkwX4_areOneRow_2 ++ dktX4_areOneRow_3
def dkwX4_areOneRow_1 : List UInt8 := [182, 0, 16, 42, 21, 5, 182, 0, 30, 100, 54, 6, 21, 6, 184, 0, 33, 4, 163, 0, 21, 42, 21, 5]
abbrev dktX4_areOneRow_1 : List UInt8 := dkwX4_areOneRow_1 ++ dktX4_areOneRow_2
def dkwX4_areOneRow_0 : List UInt8 := [42, 27, 182, 0, 27, 61, 3, 62, 3, 54, 4, 3, 54, 5, 21, 5, 16, 10, 162, 0, 83, 42, 21, 5]
abbrev dktX4_areOneRow_0 : List UInt8 := dkwX4_areOneRow_0 ++ dktX4_areOneRow_1
theorem dksX4_areOneRow_0 : cX4_areOneRow.data.toList.drop 0 = dktX4_areOneRow_0 := by decide +kernel
theorem dksX4_areOneRow_1 : cX4_areOneRow.data.toList.drop 24 = dktX4_areOneRow_1 := dk_seg dksX4_areOneRow_0 24 rfl rfl
theorem dksX4_areOneRow_2 : cX4_areOneRow.data.toList.drop 48 = dktX4_areOneRow_2 := dk_seg dksX4_areOneRow_1 24 rfl rfl
theorem dksX4_areOneRow_3 : cX4_areOneRow.data.toList.drop 72 = dktX4_areOneRow_3 := dk_seg dksX4_areOneRow_2 24 rfl rfl
theorem dksX4_areOneRow_4 : cX4_areOneRow.data.toList.drop 95 = dktX4_areOneRow_4 := dk_seg dksX4_areOneRow_3 23 rfl rfl
theorem dksX4_areOneRow_5 : cX4_areOneRow.data.toList.drop 118 = dktX4_areOneRow_5 := dk_seg dksX4_areOneRow_4 23 rfl rfl
theorem dX4_areOneRow_0 : decode cX4_areOneRow 0 = .ok (.aload_n 0, 1) := dk_42 (dk_at dksX4_areOneRow_0 0 rfl rfl)
theorem dX4_areOneRow_1 : decode cX4_areOneRow 1 = .ok (.iload_n 1, 1) := dk_27 (dk_at dksX4_areOneRow_0 1 rfl rfl)
theorem dX4_areOneRow_2 : decode cX4_areOneRow 2 = .ok (.invokevirtual 27, 3) := dk_182 0 27 (dk_at dksX4_areOneRow_0 2 rfl rfl)
theorem dX4_areOneRow_5 : decode cX4_areOneRow 5 = .ok (.istore_n 2, 1) := dk_61 (dk_at dksX4_areOneRow_0 5 rfl rfl)
theorem dX4_areOneRow_6 : decode cX4_areOneRow 6 = .ok (.iconst 0, 1) := dk_3 (dk_at dksX4_areOneRow_0 6 rfl rfl)
theorem dX4_areOneRow_7 : decode cX4_areOneRow 7 = .ok (.istore_n 3, 1) := dk_62 (dk_at dksX4_areOneRow_0 7 rfl rfl)
theorem dX4_areOneRow_8 : decode cX4_areOneRow 8 = .ok (.iconst 0, 1) := dk_3 (dk_at dksX4_areOneRow_0 8 rfl rfl)
theorem dX4_areOneRow_9 : decode cX4_areOneRow 9 = .ok (.istore 4, 2) := dk_54 4 (dk_at dksX4_areOneRow_0 9 rfl rfl)
theorem dX4_areOneRow_11 : decode cX4_areOneRow 11 = .ok (.iconst 0, 1) := dk_3 (dk_at dksX4_areOneRow_0 11 rfl rfl)
theorem dX4_areOneRow_12 : decode cX4_areOneRow 12 = .ok (.istore 5, 2) := dk_54 5 (dk_at dksX4_areOneRow_0 12 rfl rfl)
theorem dX4_areOneRow_14 : decode cX4_areOneRow 14 = .ok (.iload 5, 2) := dk_21 5 (dk_at dksX4_areOneRow_0 14 rfl rfl)
theorem dX4_areOneRow_16 : decode cX4_areOneRow 16 = .ok (.bipush 10, 2) := dk_16 10 (dk_at dksX4_areOneRow_0 16 rfl rfl)
theorem dX4_areOneRow_18 : decode cX4_areOneRow 18 = .ok (.if_icmp .ge 83, 3) := dk_162 0 83 (dk_at dksX4_areOneRow_0 18 rfl rfl)
theorem dX4_areOneRow_21 : decode cX4_areOneRow 21 = .ok (.aload_n 0, 1) := dk_42 (dk_at dksX4_areOneRow_0 21 rfl rfl)
theorem dX4_areOneRow_22 : decode cX4_areOneRow 22 = .ok (.iload 5, 2) := dk_21 5 (dk_at dksX4_areOneRow_0 22 rfl rfl)
theorem dX4_areOneRow_24 : decode cX4_areOneRow 24 = .ok (.invokevirtual 16, 3) := dk_182 0 16 (dk_at dksX4_areOneRow_1 0 rfl rfl)
theorem dX4_areOneRow_27 : decode cX4_areOneRow 27 = .ok (.aload_n 0, 1) := dk_42 (dk_at dksX4_areOneRow_1 3 rfl rfl)
theorem dX4_areOneRow_28 : decode cX4_areOneRow 28 = .ok (.iload 5, 2) := dk_21 5 (dk_at dksX4_areOneRow_1 4 rfl rfl)
theorem dX4_areOneRow_30 : decode cX4_areOneRow 30 = .ok (.invokevirtual 30, 3) := dk_182 0 30 (dk_at dksX4_areOneRow_1 6 rfl rfl)
theorem dX4_areOneRow_33 : decode cX4_areOneRow 33 = .ok (.isub, 1) := dk_100 (dk_at dksX4_areOneRow_1 9 rfl rfl)
theorem dX4_areOneRow_34 : decode cX4_areOneRow 34 = .ok (.istore 6, 2) := dk_54 6 (dk_at dksX4_areOneRow_1 10 rfl rfl)
theorem dX4_areOneRow_36 : decode cX4_areOneRow 36 = .ok (.iload 6, 2) := dk_21 6 (dk_at dksX4_areOneRow_1 12 rfl rfl)
theorem dX4_areOneRow_38 : decode cX4_areOneRow 38 = .ok (.invokestatic 33, 3) := dk_184 0 33 (dk_at dksX4_areOneRow_1 14 rfl rfl)
theorem dX4_areOneRow_41 : decode cX4_areOneRow 41 = .ok (.iconst 1, 1) := dk_4 (dk_at dksX4_areOneRow_1 17 rfl rfl)
theorem dX4_areOneRow_42 : decode cX4_areOneRow 42 = .ok (.if_icmp .gt 21, 3) := dk_163 0 21 (dk_at dksX4_areOneRow_1 18 rfl rfl)
theorem dX4_areOneRow_45 : decode cX4_areOneRow 45 = .ok (.aload_n 0, 1) := dk_42 (dk_at dksX4_areOneRow_1 21 rfl rfl)
theorem dX4_areOneRow_46 : decode cX4_areOneRow 46 = .ok (.iload 5, 2) := dk_21 5 (dk_at dksX4_areOneRow_1 22 rfl rfl)
theorem dX4_areOneRow_48 : decode cX4_areOneRow 48 = .ok (.invokevirtual 16, 3) := dk_182 0 16 (dk_at dksX4_areOneRow_2 0 rfl rfl)
theorem dX4_areOneRow_51 : decode cX4_areOneRow 51 = .ok (.ifCond .le 14, 3) := dk_158 0 14 (dk_at dksX4_areOneRow_2 3 rfl rfl)
theorem dX4_areOneRow_54 : decode cX4_areOneRow 54 = .ok (.iload_n 2, 1) := dk_28 (dk_at dksX4_areOneRow_2 6 rfl rfl)
theorem dX4_areOneRow_55 : decode cX4_areOneRow 55 = .ok (.iload 5, 2) := dk_21 5 (dk_at dksX4_areOneRow_2 7 rfl rfl)
theorem dX4_areOneRow_57 : decode cX4_areOneRow 57 = .ok (.invokestatic 23, 3) := dk_184 0 23 (dk_at dksX4_areOneRow_2 9 rfl rfl)
theorem dX4_areOneRow_60 : decode cX4_areOneRow 60 = .ok (.ifCond .ne 5, 3) := dk_154 0 5 (dk_at dksX4_areOneRow_2 12 rfl rfl)
theorem dX4_areOneRow_63 : decode cX4_areOneRow 63 = .ok (.iconst 0, 1) := dk_3 (dk_at dksX4_areOneRow_2 15 rfl rfl)
theorem dX4_areOneRow_64 : decode cX4_areOneRow 64 = .ok (.ireturn, 1) := dk_172 (dk_at dksX4_areOneRow_2 16 rfl rfl)
theorem dX4_areOneRow_65 : decode cX4_areOneRow 65 = .ok (.iload_n 3, 1) := dk_29 (dk_at dksX4_areOneRow_2 17 rfl rfl)
theorem dX4_areOneRow_66 : decode cX4_areOneRow 66 = .ok (.iload 6, 2) := dk_21 6 (dk_at dksX4_areOneRow_2 18 rfl rfl)
theorem dX4_areOneRow_68 : decode cX4_areOneRow 68 = .ok (.iconst 1, 1) := dk_4 (dk_at dksX4_areOneRow_2 20 rfl rfl)
theorem dX4_areOneRow_69 : decode cX4_areOneRow 69 = .ok (.if_icmp .ne 7, 3) := dk_160 0 7 (dk_at dksX4_areOneRow_2 21 rfl rfl)
theorem dX4_areOneRow_72 : decode cX4_areOneRow 72 = .ok (.iconst 1, 1) := dk_4 (dk_at dksX4_areOneRow_3 0 rfl rfl)
theorem dX4_areOneRow_73 : decode cX4_areOneRow 73 = .ok (.goto 4, 3) := dk_167 0 4 (dk_at dksX4_areOneRow_3 1 rfl rfl)
theorem dX4_areOneRow_76 : decode cX4_areOneRow 76 = .ok (.iconst 0, 1) := dk_3 (dk_at dksX4_areOneRow_3 4 rfl rfl)
theorem dX4_areOneRow_77 : decode cX4_areOneRow 77 = .ok (.iadd, 1) := dk_96 (dk_at dksX4_areOneRow_3 5 rfl rfl)
theorem dX4_areOneRow_78 : decode cX4_areOneRow 78 = .ok (.istore_n 3, 1) := dk_62 (dk_at dksX4_areOneRow_3 6 rfl rfl)
theorem dX4_areOneRow_79 : decode cX4_areOneRow 79 = .ok (.iload 4, 2) := dk_21 4 (dk_at dksX4_areOneRow_3 7 rfl rfl)
theorem dX4_areOneRow_81 : decode cX4_areOneRow 81 = .ok (.iload 6, 2) := dk_21 6 (dk_at dksX4_areOneRow_3 9 rfl rfl)
theorem dX4_areOneRow_83 : decode cX4_areOneRow 83 = .ok (.iconst (-1), 1) := dk_2 (dk_at dksX4_areOneRow_3 11 rfl rfl)
theorem dX4_areOneRow_84 : decode cX4_areOneRow 84 = .ok (.if_icmp .ne 7, 3) := dk_160 0 7 (dk_at dksX4_areOneRow_3 12 rfl rfl)
theorem dX4_areOneRow_87 : decode cX4_areOneRow 87 = .ok (.iconst 1, 1) := dk_4 (dk_at dksX4_areOneRow_3 15 rfl rfl)
theorem dX4_areOneRow_88 : decode cX4_areOneRow 88 = .ok (.goto 4, 3) := dk_167 0 4 (dk_at dksX4_areOneRow_3 16 rfl rfl)
theorem dX4_areOneRow_91 : decode cX4_areOneRow 91 = .ok (.iconst 0, 1) := dk_3 (dk_at dksX4_areOneRow_3 19 rfl rfl)
theorem dX4_areOneRow_92 : decode cX4_areOneRow 92 = .ok (.iadd, 1) := dk_96 (dk_at dksX4_areOneRow_3 20 rfl rfl)
theorem dX4_areOneRow_93 : decode cX4_areOneRow 93 = .ok (.istore 4, 2) := dk_54 4 (dk_at dksX4_areOneRow_3 21 rfl rfl)
theorem dX4_areOneRow_95 : decode cX4_areOneRow 95 = .ok (.iinc 5 1, 3) := dk_132 5 1 (dk_at dksX4_areOneRow_4 0 rfl rfl)
theorem dX4_areOneRow_98 : decode cX4_areOneRow 98 = .ok (.goto (-84), 3) := dk_167 255 172 (dk_at dksX4_areOneRow_4 3 rfl rfl)
theorem dX4_areOneRow_101 : decode cX4_areOneRow 101 = .ok (.iload_n 3, 1) := dk_29 (dk_at dksX4_areOneRow_4 6 rfl rfl)
theorem dX4_areOneRow_102 : decode cX4_areOneRow 102 = .ok (.ifCond .eq 29, 3) := dk_153 0 29 (dk_at dksX4_areOneRow_4 7 rfl rfl)
theorem dX4_areOneRow_105 : decode cX4_areOneRow 105 = .ok (.iload_n 3, 1) := dk_29 (dk_at dksX4_areOneRow_4 10 rfl rfl)
theorem dX4_areOneRow_106 : decode cX4_areOneRow 106 = .ok (.iconst 1, 1) := dk_4 (dk_at dksX4_areOneRow_4 11 rfl rfl)
theorem dX4_areOneRow_107 : decode cX4_areOneRow 107 = .ok (.if_icmp .ne 28, 3) := dk_160 0 28 (dk_at dksX4_areOneRow_4 12 rfl rfl)
theorem dX4_areOneRow_110 : decode cX4_areOneRow 110 = .ok (.iload 4, 2) := dk_21 4 (dk_at dksX4_areOneRow_4 15 rfl rfl)
theorem dX4_areOneRow_112 : decode cX4_areOneRow 112 = .ok (.iconst 1, 1) := dk_4 (dk_at dksX4_areOneRow_4 17 rfl rfl)
theorem dX4_areOneRow_113 : decode cX4_areOneRow 113 = .ok (.if_icmp .ne 22, 3) := dk_160 0 22 (dk_at dksX4_areOneRow_4 18 rfl rfl)
theorem dX4_areOneRow_116 : decode cX4_areOneRow 116 = .ok (.aload_n 0, 1) := dk_42 (dk_at dksX4_areOneRow_4 21 rfl rfl)
theorem dX4_areOneRow_117 : decode cX4_areOneRow 117 = .ok (.iload_n 1, 1) := dk_27 (dk_at dksX4_areOneRow_4 22 rfl rfl)
theorem dX4_areOneRow_118 : decode cX4_areOneRow 118 = .ok (.invokevirtual 16, 3) := dk_182 0 16 (dk_at dksX4_areOneRow_5 0 rfl rfl)
theorem dX4_areOneRow_121 : decode cX4_areOneRow 121 = .ok (.aload_n 0, 1) := dk_42 (dk_at dksX4_areOneRow_5 3 rfl rfl)
theorem dX4_areOneRow_122 : decode cX4_areOneRow 122 = .ok (.iload_n 1, 1) := dk_27 (dk_at dksX4_areOneRow_5 4 rfl rfl)
theorem dX4_areOneRow_123 : decode cX4_areOneRow 123 = .ok (.invokevirtual 30, 3) := dk_182 0 30 (dk_at dksX4_areOneRow_5 5 rfl rfl)
theorem dX4_areOneRow_126 : decode cX4_areOneRow 126 = .ok (.isub, 1) := dk_100 (dk_at dksX4_areOneRow_5 8 rfl rfl)
theorem dX4_areOneRow_127 : decode cX4_areOneRow 127 = .ok (.iconst 1, 1) := dk_4 (dk_at dksX4_areOneRow_5 9 rfl rfl)
theorem dX4_areOneRow_128 : decode cX4_areOneRow 128 = .ok (.if_icmp .ne 7, 3) := dk_160 0 7 (dk_at dksX4_areOneRow_5 10 rfl rfl)
theorem dX4_areOneRow_131 : decode cX4_areOneRow 131 = .ok (.iconst 1, 1) := dk_4 (dk_at dksX4_areOneRow_5 13 rfl rfl)
theorem dX4_areOneRow_132 : decode cX4_areOneRow 132 = .ok (.goto 4, 3) := dk_167 0 4 (dk_at dksX4_areOneRow_5 14 rfl rfl)
theorem dX4_areOneRow_135 : decode cX4_areOneRow 135 = .ok (.iconst 0, 1) := dk_3 (dk_at dksX4_areOneRow_5 17 rfl rfl)
theorem dX4_areOneRow_136 : decode cX4_areOneRow 136 = .ok (.ireturn, 1) := dk_172 (dk_at dksX4_areOneRow_5 18 rfl rfl)
abbrev cX4_reach : ByteArray := prog_6_method_7_code
def yX4_reach : MethodName := ⟨RX4, "reach", "(I)I"⟩
def dkwX4_reach_1 : List UInt8 := [167, 255, 243, 28, 172]
abbrev dktX4_reach_1 : List UInt8 := dkwX4_reach_1 ++ []
def dkwX4_reach_0 : List UInt8 := [4, 27, 120, 61, 42, 28, 182, 0, 20, 62, 29, 28, 159, 0, 14, 29, 61, 42, 28, 182, 0, 20, 62]
abbrev dktX4_reach_0 : List UInt8 := dkwX4_reach_0 ++ dktX4_reach_1
theorem dksX4_reach_0 : cX4_reach.data.toList.drop 0 = dktX4_reach_0 := by decide +kernel
theorem dksX4_reach_1 : cX4_reach.data.toList.drop 23 = dktX4_reach_1 := dk_seg dksX4_reach_0 23 rfl rfl
theorem dX4_reach_0 : decode cX4_reach 0 = .ok (.iconst 1, 1) := dk_4 (dk_at dksX4_reach_0 0 rfl rfl)
theorem dX4_reach_1 : decode cX4_reach 1 = .ok (.iload_n 1, 1) := dk_27 (dk_at dksX4_reach_0 1 rfl rfl)
theorem dX4_reach_2 : decode cX4_reach 2 = .ok (.ishl, 1) := dk_120 (dk_at dksX4_reach_0 2 rfl rfl)
theorem dX4_reach_3 : decode cX4_reach 3 = .ok (.istore_n 2, 1) := dk_61 (dk_at dksX4_reach_0 3 rfl rfl)
theorem dX4_reach_4 : decode cX4_reach 4 = .ok (.aload_n 0, 1) := dk_42 (dk_at dksX4_reach_0 4 rfl rfl)
theorem dX4_reach_5 : decode cX4_reach 5 = .ok (.iload_n 2, 1) := dk_28 (dk_at dksX4_reach_0 5 rfl rfl)
theorem dX4_reach_6 : decode cX4_reach 6 = .ok (.invokevirtual 20, 3) := dk_182 0 20 (dk_at dksX4_reach_0 6 rfl rfl)
theorem dX4_reach_9 : decode cX4_reach 9 = .ok (.istore_n 3, 1) := dk_62 (dk_at dksX4_reach_0 9 rfl rfl)
theorem dX4_reach_10 : decode cX4_reach 10 = .ok (.iload_n 3, 1) := dk_29 (dk_at dksX4_reach_0 10 rfl rfl)
theorem dX4_reach_11 : decode cX4_reach 11 = .ok (.iload_n 2, 1) := dk_28 (dk_at dksX4_reach_0 11 rfl rfl)
theorem dX4_reach_12 : decode cX4_reach 12 = .ok (.if_icmp .eq 14, 3) := dk_159 0 14 (dk_at dksX4_reach_0 12 rfl rfl)
theorem dX4_reach_15 : decode cX4_reach 15 = .ok (.iload_n 3, 1) := dk_29 (dk_at dksX4_reach_0 15 rfl rfl)
theorem dX4_reach_16 : decode cX4_reach 16 = .ok (.istore_n 2, 1) := dk_61 (dk_at dksX4_reach_0 16 rfl rfl)
theorem dX4_reach_17 : decode cX4_reach 17 = .ok (.aload_n 0, 1) := dk_42 (dk_at dksX4_reach_0 17 rfl rfl)
theorem dX4_reach_18 : decode cX4_reach 18 = .ok (.iload_n 2, 1) := dk_28 (dk_at dksX4_reach_0 18 rfl rfl)
theorem dX4_reach_19 : decode cX4_reach 19 = .ok (.invokevirtual 20, 3) := dk_182 0 20 (dk_at dksX4_reach_0 19 rfl rfl)
theorem dX4_reach_22 : decode cX4_reach 22 = .ok (.istore_n 3, 1) := dk_62 (dk_at dksX4_reach_0 22 rfl rfl)
theorem dX4_reach_23 : decode cX4_reach 23 = .ok (.goto (-13), 3) := dk_167 255 243 (dk_at dksX4_reach_1 0 rfl rfl)
theorem dX4_reach_26 : decode cX4_reach 26 = .ok (.iload_n 2, 1) := dk_28 (dk_at dksX4_reach_1 3 rfl rfl)
theorem dX4_reach_27 : decode cX4_reach 27 = .ok (.ireturn, 1) := dk_172 (dk_at dksX4_reach_1 4 rfl rfl)
abbrev cX4_next : ByteArray := prog_6_method_8_code
def yX4_next : MethodName := ⟨RX4, "next", "(I)I"⟩
def dkwX4_next_2 : List UInt8 := [167, 0, 4, 3, 128, 61, 132, 4, 1, 167, 255, 215, 132, 3, 1, 167, 255, 200, 28, 172]
abbrev dktX4_next_2 : List UInt8 := dkwX4_next_2 ++ []
def dkwX4_next_1 : List UInt8 := [184, 0, 23, 153, 0, 32, 28, 42, 180, 0, 11, 29, 50, 21, 4, 46, 158, 0, 10, 4, 21, 4, 120]
abbrev dktX4_next_1 : List UInt8 := dkwX4_next_1 ++ dktX4_next_2
def dkwX4_next_0 : List UInt8 := [27, 61, 3, 62, 29, 16, 10, 162, 0, 56, 3, 54, 4, 21, 4, 16, 10, 162, 0, 40, 27, 29]
abbrev dktX4_next_0 : List UInt8 := dkwX4_next_0 ++ dktX4_next_1
theorem dksX4_next_0 : cX4_next.data.toList.drop 0 = dktX4_next_0 := by decide +kernel
theorem dksX4_next_1 : cX4_next.data.toList.drop 22 = dktX4_next_1 := dk_seg dksX4_next_0 22 rfl rfl
theorem dksX4_next_2 : cX4_next.data.toList.drop 45 = dktX4_next_2 := dk_seg dksX4_next_1 23 rfl rfl
theorem dX4_next_0 : decode cX4_next 0 = .ok (.iload_n 1, 1) := dk_27 (dk_at dksX4_next_0 0 rfl rfl)
theorem dX4_next_1 : decode cX4_next 1 = .ok (.istore_n 2, 1) := dk_61 (dk_at dksX4_next_0 1 rfl rfl)
theorem dX4_next_2 : decode cX4_next 2 = .ok (.iconst 0, 1) := dk_3 (dk_at dksX4_next_0 2 rfl rfl)
theorem dX4_next_3 : decode cX4_next 3 = .ok (.istore_n 3, 1) := dk_62 (dk_at dksX4_next_0 3 rfl rfl)
theorem dX4_next_4 : decode cX4_next 4 = .ok (.iload_n 3, 1) := dk_29 (dk_at dksX4_next_0 4 rfl rfl)
theorem dX4_next_5 : decode cX4_next 5 = .ok (.bipush 10, 2) := dk_16 10 (dk_at dksX4_next_0 5 rfl rfl)
theorem dX4_next_7 : decode cX4_next 7 = .ok (.if_icmp .ge 56, 3) := dk_162 0 56 (dk_at dksX4_next_0 7 rfl rfl)
theorem dX4_next_10 : decode cX4_next 10 = .ok (.iconst 0, 1) := dk_3 (dk_at dksX4_next_0 10 rfl rfl)
theorem dX4_next_11 : decode cX4_next 11 = .ok (.istore 4, 2) := dk_54 4 (dk_at dksX4_next_0 11 rfl rfl)
theorem dX4_next_13 : decode cX4_next 13 = .ok (.iload 4, 2) := dk_21 4 (dk_at dksX4_next_0 13 rfl rfl)
theorem dX4_next_15 : decode cX4_next 15 = .ok (.bipush 10, 2) := dk_16 10 (dk_at dksX4_next_0 15 rfl rfl)
theorem dX4_next_17 : decode cX4_next 17 = .ok (.if_icmp .ge 40, 3) := dk_162 0 40 (dk_at dksX4_next_0 17 rfl rfl)
theorem dX4_next_20 : decode cX4_next 20 = .ok (.iload_n 1, 1) := dk_27 (dk_at dksX4_next_0 20 rfl rfl)
theorem dX4_next_21 : decode cX4_next 21 = .ok (.iload_n 3, 1) := dk_29 (dk_at dksX4_next_0 21 rfl rfl)
theorem dX4_next_22 : decode cX4_next 22 = .ok (.invokestatic 23, 3) := dk_184 0 23 (dk_at dksX4_next_1 0 rfl rfl)
theorem dX4_next_25 : decode cX4_next 25 = .ok (.ifCond .eq 32, 3) := dk_153 0 32 (dk_at dksX4_next_1 3 rfl rfl)
theorem dX4_next_28 : decode cX4_next 28 = .ok (.iload_n 2, 1) := dk_28 (dk_at dksX4_next_1 6 rfl rfl)
theorem dX4_next_29 : decode cX4_next 29 = .ok (.aload_n 0, 1) := dk_42 (dk_at dksX4_next_1 7 rfl rfl)
theorem dX4_next_30 : decode cX4_next 30 = .ok (.getfield 11, 3) := dk_180 0 11 (dk_at dksX4_next_1 8 rfl rfl)
theorem dX4_next_33 : decode cX4_next 33 = .ok (.iload_n 3, 1) := dk_29 (dk_at dksX4_next_1 11 rfl rfl)
theorem dX4_next_34 : decode cX4_next 34 = .ok (.aaload, 1) := dk_50 (dk_at dksX4_next_1 12 rfl rfl)
theorem dX4_next_35 : decode cX4_next 35 = .ok (.iload 4, 2) := dk_21 4 (dk_at dksX4_next_1 13 rfl rfl)
theorem dX4_next_37 : decode cX4_next 37 = .ok (.iaload, 1) := dk_46 (dk_at dksX4_next_1 15 rfl rfl)
theorem dX4_next_38 : decode cX4_next 38 = .ok (.ifCond .le 10, 3) := dk_158 0 10 (dk_at dksX4_next_1 16 rfl rfl)
theorem dX4_next_41 : decode cX4_next 41 = .ok (.iconst 1, 1) := dk_4 (dk_at dksX4_next_1 19 rfl rfl)
theorem dX4_next_42 : decode cX4_next 42 = .ok (.iload 4, 2) := dk_21 4 (dk_at dksX4_next_1 20 rfl rfl)
theorem dX4_next_44 : decode cX4_next 44 = .ok (.ishl, 1) := dk_120 (dk_at dksX4_next_1 22 rfl rfl)
theorem dX4_next_45 : decode cX4_next 45 = .ok (.goto 4, 3) := dk_167 0 4 (dk_at dksX4_next_2 0 rfl rfl)
theorem dX4_next_48 : decode cX4_next 48 = .ok (.iconst 0, 1) := dk_3 (dk_at dksX4_next_2 3 rfl rfl)
theorem dX4_next_49 : decode cX4_next 49 = .ok (.ior, 1) := dk_128 (dk_at dksX4_next_2 4 rfl rfl)
theorem dX4_next_50 : decode cX4_next 50 = .ok (.istore_n 2, 1) := dk_61 (dk_at dksX4_next_2 5 rfl rfl)
theorem dX4_next_51 : decode cX4_next 51 = .ok (.iinc 4 1, 3) := dk_132 4 1 (dk_at dksX4_next_2 6 rfl rfl)
theorem dX4_next_54 : decode cX4_next 54 = .ok (.goto (-41), 3) := dk_167 255 215 (dk_at dksX4_next_2 9 rfl rfl)
theorem dX4_next_57 : decode cX4_next 57 = .ok (.iinc 3 1, 3) := dk_132 3 1 (dk_at dksX4_next_2 12 rfl rfl)
theorem dX4_next_60 : decode cX4_next 60 = .ok (.goto (-56), 3) := dk_167 255 200 (dk_at dksX4_next_2 15 rfl rfl)
theorem dX4_next_63 : decode cX4_next 63 = .ok (.iload_n 2, 1) := dk_28 (dk_at dksX4_next_2 18 rfl rfl)
theorem dX4_next_64 : decode cX4_next 64 = .ok (.ireturn, 1) := dk_172 (dk_at dksX4_next_2 19 rfl rfl)
abbrev cX4_clear : ByteArray := prog_6_method_3_code
def yX4_clear : MethodName := ⟨RX4, "clear", "()LOneCoin$Debts;"⟩
def dkwX4_clear_1 : List UInt8 := [79, 132, 2, 1, 167, 255, 238, 132, 1, 1, 167, 255, 224, 42, 176]
abbrev dktX4_clear_1 : List UInt8 := dkwX4_clear_1 ++ []
def dkwX4_clear_0 : List UInt8 := [3, 60, 27, 16, 10, 162, 0, 32, 3, 61, 28, 16, 10, 162, 0, 18, 42, 180, 0, 11, 27, 50, 28, 3]
abbrev dktX4_clear_0 : List UInt8 := dkwX4_clear_0 ++ dktX4_clear_1
theorem dksX4_clear_0 : cX4_clear.data.toList.drop 0 = dktX4_clear_0 := by decide +kernel
theorem dksX4_clear_1 : cX4_clear.data.toList.drop 24 = dktX4_clear_1 := dk_seg dksX4_clear_0 24 rfl rfl
theorem dX4_clear_0 : decode cX4_clear 0 = .ok (.iconst 0, 1) := dk_3 (dk_at dksX4_clear_0 0 rfl rfl)
theorem dX4_clear_1 : decode cX4_clear 1 = .ok (.istore_n 1, 1) := dk_60 (dk_at dksX4_clear_0 1 rfl rfl)
theorem dX4_clear_2 : decode cX4_clear 2 = .ok (.iload_n 1, 1) := dk_27 (dk_at dksX4_clear_0 2 rfl rfl)
theorem dX4_clear_3 : decode cX4_clear 3 = .ok (.bipush 10, 2) := dk_16 10 (dk_at dksX4_clear_0 3 rfl rfl)
theorem dX4_clear_5 : decode cX4_clear 5 = .ok (.if_icmp .ge 32, 3) := dk_162 0 32 (dk_at dksX4_clear_0 5 rfl rfl)
theorem dX4_clear_8 : decode cX4_clear 8 = .ok (.iconst 0, 1) := dk_3 (dk_at dksX4_clear_0 8 rfl rfl)
theorem dX4_clear_9 : decode cX4_clear 9 = .ok (.istore_n 2, 1) := dk_61 (dk_at dksX4_clear_0 9 rfl rfl)
theorem dX4_clear_10 : decode cX4_clear 10 = .ok (.iload_n 2, 1) := dk_28 (dk_at dksX4_clear_0 10 rfl rfl)
theorem dX4_clear_11 : decode cX4_clear 11 = .ok (.bipush 10, 2) := dk_16 10 (dk_at dksX4_clear_0 11 rfl rfl)
theorem dX4_clear_13 : decode cX4_clear 13 = .ok (.if_icmp .ge 18, 3) := dk_162 0 18 (dk_at dksX4_clear_0 13 rfl rfl)
theorem dX4_clear_16 : decode cX4_clear 16 = .ok (.aload_n 0, 1) := dk_42 (dk_at dksX4_clear_0 16 rfl rfl)
theorem dX4_clear_17 : decode cX4_clear 17 = .ok (.getfield 11, 3) := dk_180 0 11 (dk_at dksX4_clear_0 17 rfl rfl)
theorem dX4_clear_20 : decode cX4_clear 20 = .ok (.iload_n 1, 1) := dk_27 (dk_at dksX4_clear_0 20 rfl rfl)
theorem dX4_clear_21 : decode cX4_clear 21 = .ok (.aaload, 1) := dk_50 (dk_at dksX4_clear_0 21 rfl rfl)
theorem dX4_clear_22 : decode cX4_clear 22 = .ok (.iload_n 2, 1) := dk_28 (dk_at dksX4_clear_0 22 rfl rfl)
theorem dX4_clear_23 : decode cX4_clear 23 = .ok (.iconst 0, 1) := dk_3 (dk_at dksX4_clear_0 23 rfl rfl)
theorem dX4_clear_24 : decode cX4_clear 24 = .ok (.iastore, 1) := dk_79 (dk_at dksX4_clear_1 0 rfl rfl)
theorem dX4_clear_25 : decode cX4_clear 25 = .ok (.iinc 2 1, 3) := dk_132 2 1 (dk_at dksX4_clear_1 1 rfl rfl)
theorem dX4_clear_28 : decode cX4_clear 28 = .ok (.goto (-18), 3) := dk_167 255 238 (dk_at dksX4_clear_1 4 rfl rfl)
theorem dX4_clear_31 : decode cX4_clear 31 = .ok (.iinc 1 1, 3) := dk_132 1 1 (dk_at dksX4_clear_1 7 rfl rfl)
theorem dX4_clear_34 : decode cX4_clear 34 = .ok (.goto (-32), 3) := dk_167 255 224 (dk_at dksX4_clear_1 10 rfl rfl)
theorem dX4_clear_37 : decode cX4_clear 37 = .ok (.aload_n 0, 1) := dk_42 (dk_at dksX4_clear_1 13 rfl rfl)
theorem dX4_clear_38 : decode cX4_clear 38 = .ok (.areturn, 1) := dk_176 (dk_at dksX4_clear_1 14 rfl rfl)
theorem q120 : (Jvm.Cond.initialized "OneCoin$Debts") ∈ lw_all := lw_g (lw_at lw_m1 5 rfl) rfl
theorem q200 : (Jvm.Cond.instantiable "OneCoin$Debts" (1 : Nat)) ∈ lw_all := lw_g (lw_at lw_m1 85 rfl) rfl
theorem q202 : (Jvm.Cond.instanceMethod ({ cls := "OneCoin$Debts", name := "<init>", desc := "()V" } : Jvm.MethodName)) ∈ lw_all := lw_g (lw_at lw_m1 87 rfl) rfl
theorem q203 : (Jvm.Cond.code ({ cls := "OneCoin$Debts", name := "<init>", desc := "()V" } : Jvm.MethodName) prog_6_method_1_code (1 : Nat) (Option.none : Option Jvm.ClassFile.FieldType)) ∈ lw_all := lw_g (lw_at lw_m1 88 rfl) rfl
theorem q204 : (Jvm.Cond.methodLink "OneCoin$Debts" (3 : Nat) ({ cls := "java/lang/Object", name := "<init>", desc := "()V" } : Jvm.MethodName)) ∈ lw_all := lw_g (lw_at lw_m1 89 rfl) rfl
theorem q205 : (Jvm.Cond.classLink "OneCoin$Debts" (9 : Nat) "[[I") ∈ lw_all := lw_g (lw_at lw_m1 90 rfl) rfl
theorem q207 : (Jvm.Cond.fieldLink "OneCoin$Debts" (11 : Nat) "OneCoin$Debts" "owed" "[[I") ∈ lw_all := lw_g (lw_at lw_m1 92 rfl) rfl
theorem q212 : (Jvm.Cond.laysFinal "OneCoin$Debts" "OneCoin$Debts" "owed" "[[I") ∈ lw_all := lw_g (lw_at lw_m1 97 rfl) rfl
theorem q213 : (Jvm.Cond.soleField "OneCoin$Debts" "owed") ∈ lw_all := lw_g (lw_at lw_m1 98 rfl) rfl
theorem q214 : (Jvm.Cond.superclass "OneCoin$Debts" "java/lang/Object") ∈ lw_all := lw_g (lw_at lw_m1 99 rfl) rfl
theorem q800 : (Jvm.Cond.instanceMethod ({ cls := "OneCoin$Debts", name := "all", desc := "()I" } : Jvm.MethodName)) ∈ lw_all := lw_g (lw_at lw_m3 205 rfl) rfl
theorem q801 : (Jvm.Cond.selects "OneCoin$Debts" ({ cls := "OneCoin$Debts", name := "all", desc := "()I" } : Jvm.MethodName) ({ cls := "OneCoin$Debts", name := "all", desc := "()I" } : Jvm.MethodName)) ∈ lw_all := lw_g (lw_at lw_m3 206 rfl) rfl
theorem q802 : (Jvm.Cond.code ({ cls := "OneCoin$Debts", name := "all", desc := "()I" } : Jvm.MethodName) prog_6_method_6_code (3 : Nat) (Option.some Jvm.ClassFile.FieldType.int)) ∈ lw_all := lw_g (lw_at lw_m3 207 rfl) rfl
theorem q803 : (Jvm.Cond.methodLink "OneCoin$Debts" (16 : Nat) ({ cls := "OneCoin$Debts", name := "owes", desc := "(I)I" } : Jvm.MethodName)) ∈ lw_all := lw_g (lw_at lw_m3 208 rfl) rfl
theorem q804 : (Jvm.Cond.instanceMethod ({ cls := "OneCoin$Debts", name := "owes", desc := "(I)I" } : Jvm.MethodName)) ∈ lw_all := lw_g (lw_at lw_m3 209 rfl) rfl
theorem q805 : (Jvm.Cond.selects "OneCoin$Debts" ({ cls := "OneCoin$Debts", name := "owes", desc := "(I)I" } : Jvm.MethodName) ({ cls := "OneCoin$Debts", name := "owes", desc := "(I)I" } : Jvm.MethodName)) ∈ lw_all := lw_g (lw_at lw_m3 210 rfl) rfl
theorem q806 : (Jvm.Cond.code ({ cls := "OneCoin$Debts", name := "owes", desc := "(I)I" } : Jvm.MethodName) prog_6_method_4_code (4 : Nat) (Option.some Jvm.ClassFile.FieldType.int)) ∈ lw_all := lw_g (lw_at lw_m3 211 rfl) rfl
theorem q815 : (Jvm.Cond.instanceMethod ({ cls := "OneCoin$Debts", name := "takes", desc := "(LOneCoin$Debts;)LOneCoin$Debts;" } : Jvm.MethodName)) ∈ lw_all := lw_g (lw_at lw_m3 220 rfl) rfl
theorem q816 : (Jvm.Cond.selects "OneCoin$Debts" ({ cls := "OneCoin$Debts", name := "takes", desc := "(LOneCoin$Debts;)LOneCoin$Debts;" } : Jvm.MethodName) ({ cls := "OneCoin$Debts", name := "takes", desc := "(LOneCoin$Debts;)LOneCoin$Debts;" } : Jvm.MethodName)) ∈ lw_all := lw_g (lw_at lw_m3 221 rfl) rfl
theorem q817 : (Jvm.Cond.code ({ cls := "OneCoin$Debts", name := "takes", desc := "(LOneCoin$Debts;)LOneCoin$Debts;" } : Jvm.MethodName) prog_6_method_2_code (4 : Nat) (Option.some (Jvm.ClassFile.FieldType.object "OneCoin$Debts"))) ∈ lw_all := lw_g (lw_at lw_m3 222 rfl) rfl
theorem q1065 : (Jvm.Cond.instanceMethod ({ cls := "OneCoin$Debts", name := "gets", desc := "(I)I" } : Jvm.MethodName)) ∈ lw_all := lw_g (lw_at lw_m4 230 rfl) rfl
theorem q1066 : (Jvm.Cond.selects "OneCoin$Debts" ({ cls := "OneCoin$Debts", name := "gets", desc := "(I)I" } : Jvm.MethodName) ({ cls := "OneCoin$Debts", name := "gets", desc := "(I)I" } : Jvm.MethodName)) ∈ lw_all := lw_g (lw_at lw_m4 231 rfl) rfl
theorem q1067 : (Jvm.Cond.code ({ cls := "OneCoin$Debts", name := "gets", desc := "(I)I" } : Jvm.MethodName) prog_6_method_5_code (4 : Nat) (Option.some Jvm.ClassFile.FieldType.int)) ∈ lw_all := lw_g (lw_at lw_m4 232 rfl) rfl
theorem q1087 : (Jvm.Cond.instanceMethod ({ cls := "OneCoin$Debts", name := "areOneRow", desc := "(I)Z" } : Jvm.MethodName)) ∈ lw_all := lw_g (lw_at lw_m5 12 rfl) rfl
theorem q1088 : (Jvm.Cond.selects "OneCoin$Debts" ({ cls := "OneCoin$Debts", name := "areOneRow", desc := "(I)Z" } : Jvm.MethodName) ({ cls := "OneCoin$Debts", name := "areOneRow", desc := "(I)Z" } : Jvm.MethodName)) ∈ lw_all := lw_g (lw_at lw_m5 13 rfl) rfl
theorem q1089 : (Jvm.Cond.code ({ cls := "OneCoin$Debts", name := "areOneRow", desc := "(I)Z" } : Jvm.MethodName) prog_6_method_9_code (7 : Nat) (Option.some Jvm.ClassFile.FieldType.boolean)) ∈ lw_all := lw_g (lw_at lw_m5 14 rfl) rfl
theorem q1090 : (Jvm.Cond.methodLink "OneCoin$Debts" (27 : Nat) ({ cls := "OneCoin$Debts", name := "reach", desc := "(I)I" } : Jvm.MethodName)) ∈ lw_all := lw_g (lw_at lw_m5 15 rfl) rfl
theorem q1091 : (Jvm.Cond.instanceMethod ({ cls := "OneCoin$Debts", name := "reach", desc := "(I)I" } : Jvm.MethodName)) ∈ lw_all := lw_g (lw_at lw_m5 16 rfl) rfl
theorem q1092 : (Jvm.Cond.selects "OneCoin$Debts" ({ cls := "OneCoin$Debts", name := "reach", desc := "(I)I" } : Jvm.MethodName) ({ cls := "OneCoin$Debts", name := "reach", desc := "(I)I" } : Jvm.MethodName)) ∈ lw_all := lw_g (lw_at lw_m5 17 rfl) rfl
theorem q1093 : (Jvm.Cond.code ({ cls := "OneCoin$Debts", name := "reach", desc := "(I)I" } : Jvm.MethodName) prog_6_method_7_code (4 : Nat) (Option.some Jvm.ClassFile.FieldType.int)) ∈ lw_all := lw_g (lw_at lw_m5 18 rfl) rfl
theorem q1094 : (Jvm.Cond.methodLink "OneCoin$Debts" (20 : Nat) ({ cls := "OneCoin$Debts", name := "next", desc := "(I)I" } : Jvm.MethodName)) ∈ lw_all := lw_g (lw_at lw_m5 19 rfl) rfl
theorem q1095 : (Jvm.Cond.privateMethod ({ cls := "OneCoin$Debts", name := "next", desc := "(I)I" } : Jvm.MethodName)) ∈ lw_tbl := lw_at lw_m5 20 rfl
theorem q1096 : (Jvm.Cond.instanceMethod ({ cls := "OneCoin$Debts", name := "next", desc := "(I)I" } : Jvm.MethodName)) ∈ lw_all := lw_g (lw_at lw_m5 21 rfl) rfl
theorem q1097 : (Jvm.Cond.code ({ cls := "OneCoin$Debts", name := "next", desc := "(I)I" } : Jvm.MethodName) prog_6_method_8_code (5 : Nat) (Option.some Jvm.ClassFile.FieldType.int)) ∈ lw_all := lw_g (lw_at lw_m5 22 rfl) rfl
theorem q1098 : (Jvm.Cond.methodLinkNest "OneCoin$Debts" (23 : Nat) ({ cls := "OneCoin", name := "has", desc := "(II)Z" } : Jvm.MethodName) "OneCoin") ∈ lw_tbl := lw_at lw_m5 23 rfl
theorem q1099 : (Jvm.Cond.methodLink "OneCoin$Debts" (30 : Nat) ({ cls := "OneCoin$Debts", name := "gets", desc := "(I)I" } : Jvm.MethodName)) ∈ lw_all := lw_g (lw_at lw_m5 24 rfl) rfl
theorem q1100 : (Jvm.Cond.methodLink "OneCoin$Debts" (33 : Nat) ({ cls := "java/lang/Math", name := "abs", desc := "(I)I" } : Jvm.MethodName)) ∈ lw_all := lw_g (lw_at lw_m5 25 rfl) rfl
theorem q1226 : (Jvm.Cond.instanceMethod ({ cls := "OneCoin$Debts", name := "clear", desc := "()LOneCoin$Debts;" } : Jvm.MethodName)) ∈ lw_all := lw_g (lw_at lw_m5 151 rfl) rfl
theorem q1227 : (Jvm.Cond.selects "OneCoin$Debts" ({ cls := "OneCoin$Debts", name := "clear", desc := "()LOneCoin$Debts;" } : Jvm.MethodName) ({ cls := "OneCoin$Debts", name := "clear", desc := "()LOneCoin$Debts;" } : Jvm.MethodName)) ∈ lw_all := lw_g (lw_at lw_m5 152 rfl) rfl
theorem q1228 : (Jvm.Cond.code ({ cls := "OneCoin$Debts", name := "clear", desc := "()LOneCoin$Debts;" } : Jvm.MethodName) prog_6_method_3_code (3 : Nat) (Option.some (Jvm.ClassFile.FieldType.object "OneCoin$Debts"))) ∈ lw_all := lw_g (lw_at lw_m5 153 rfl) rfl
theorem in_X4 : ∀ w ∈ wsX40, w ∈ lw_all := lw_in wsX40 [212] (by decide +kernel) (by decide +kernel)
/-! OneCoin$Text -/
set_option maxRecDepth 100000
def RX5 : String := "OneCoin$Text"
def TX5 : u_T := fun k => match k with
  | 0 => ("OneCoin$Text", "letters", "[I", true)
  | 1 => ("OneCoin$Text", "sums", "[LOneCoin$Sum;", true)
  | 2 => ("OneCoin$Text", "conditions", "[LOneCoin$Condition;", true)
  | _ => ("OneCoin$Text", "many", "I", false)
def tyX5 : Nat → FieldType := fun k => match k with
  | 0 => .array .int
  | 1 => .array (.object "OneCoin$Sum")
  | 2 => .array (.object "OneCoin$Condition")
  | _ => .int
abbrev wsX50 : List Cond := u_ws RX5 TX5 4
theorem nmX5 : ∀ a, a < 4 → ∀ b, b < 4 → a ≠ b → (TX5 a).2.1 ≠ (TX5 b).2.1 := by decide +kernel
theorem tyX5_ok : ∀ k, k < 4 → parseFieldDescriptor (TX5 k).2.2.1 = some (tyX5 k) := by decide +kernel
abbrev cX5_init : ByteArray := prog_18_method_1_code
def yX5_init : MethodName := ⟨RX5, "<init>", "()V"⟩
def dkwX5_init_1 : List UInt8 := [189, 0, 21, 181, 0, 23, 177]
abbrev dktX5_init_1 : List UInt8 := dkwX5_init_1 ++ []
def dkwX5_init_0 : List UInt8 := [42, 183, 0, 3, 42, 16, 16, 188, 10, 181, 0, 9, 42, 16, 16, 189, 0, 15, 181, 0, 17, 42, 16, 16]
abbrev dktX5_init_0 : List UInt8 := dkwX5_init_0 ++ dktX5_init_1
theorem dksX5_init_0 : cX5_init.data.toList.drop 0 = dktX5_init_0 := by decide +kernel
theorem dksX5_init_1 : cX5_init.data.toList.drop 24 = dktX5_init_1 := dk_seg dksX5_init_0 24 rfl rfl
theorem dX5_init_0 : decode cX5_init 0 = .ok (.aload_n 0, 1) := dk_42 (dk_at dksX5_init_0 0 rfl rfl)
theorem dX5_init_1 : decode cX5_init 1 = .ok (.invokespecial 3, 3) := dk_183 0 3 (dk_at dksX5_init_0 1 rfl rfl)
theorem dX5_init_4 : decode cX5_init 4 = .ok (.aload_n 0, 1) := dk_42 (dk_at dksX5_init_0 4 rfl rfl)
theorem dX5_init_5 : decode cX5_init 5 = .ok (.bipush 16, 2) := dk_16 16 (dk_at dksX5_init_0 5 rfl rfl)
theorem dX5_init_7 : decode cX5_init 7 = .ok (.newarray .int, 2) := dk_188_10 (dk_at dksX5_init_0 7 rfl rfl)
theorem dX5_init_9 : decode cX5_init 9 = .ok (.putfield 9, 3) := dk_181 0 9 (dk_at dksX5_init_0 9 rfl rfl)
theorem dX5_init_12 : decode cX5_init 12 = .ok (.aload_n 0, 1) := dk_42 (dk_at dksX5_init_0 12 rfl rfl)
theorem dX5_init_13 : decode cX5_init 13 = .ok (.bipush 16, 2) := dk_16 16 (dk_at dksX5_init_0 13 rfl rfl)
theorem dX5_init_15 : decode cX5_init 15 = .ok (.anewarray 15, 3) := dk_189 0 15 (dk_at dksX5_init_0 15 rfl rfl)
theorem dX5_init_18 : decode cX5_init 18 = .ok (.putfield 17, 3) := dk_181 0 17 (dk_at dksX5_init_0 18 rfl rfl)
theorem dX5_init_21 : decode cX5_init 21 = .ok (.aload_n 0, 1) := dk_42 (dk_at dksX5_init_0 21 rfl rfl)
theorem dX5_init_22 : decode cX5_init 22 = .ok (.bipush 16, 2) := dk_16 16 (dk_at dksX5_init_0 22 rfl rfl)
theorem dX5_init_24 : decode cX5_init 24 = .ok (.anewarray 21, 3) := dk_189 0 21 (dk_at dksX5_init_1 0 rfl rfl)
theorem dX5_init_27 : decode cX5_init 27 = .ok (.putfield 23, 3) := dk_181 0 23 (dk_at dksX5_init_1 3 rfl rfl)
theorem dX5_init_30 : decode cX5_init 30 = .ok (.return_, 1) := dk_177 (dk_at dksX5_init_1 6 rfl rfl)
abbrev cX5_tells : ByteArray := prog_18_method_2_code
def yX5_tells : MethodName := ⟨RX5, "tells", "(ILOneCoin$Asked;)I"⟩
def dkwX5_tells_2 : List UInt8 := [167, 255, 210, 3, 172]
abbrev dktX5_tells_2 : List UInt8 := dkwX5_tells_2 ++ []
def dkwX5_tells_1 : List UInt8 := [29, 50, 44, 182, 0, 31, 4, 160, 0, 14, 42, 180, 0, 17, 29, 50, 44, 182, 0, 35, 172, 132, 3, 1]
abbrev dktX5_tells_1 : List UInt8 := dkwX5_tells_1 ++ dktX5_tells_2
def dkwX5_tells_0 : List UInt8 := [3, 62, 29, 42, 180, 0, 27, 162, 0, 44, 42, 180, 0, 9, 29, 46, 27, 160, 0, 28, 42, 180, 0, 23]
abbrev dktX5_tells_0 : List UInt8 := dkwX5_tells_0 ++ dktX5_tells_1
theorem dksX5_tells_0 : cX5_tells.data.toList.drop 0 = dktX5_tells_0 := by decide +kernel
theorem dksX5_tells_1 : cX5_tells.data.toList.drop 24 = dktX5_tells_1 := dk_seg dksX5_tells_0 24 rfl rfl
theorem dksX5_tells_2 : cX5_tells.data.toList.drop 48 = dktX5_tells_2 := dk_seg dksX5_tells_1 24 rfl rfl
theorem dX5_tells_0 : decode cX5_tells 0 = .ok (.iconst 0, 1) := dk_3 (dk_at dksX5_tells_0 0 rfl rfl)
theorem dX5_tells_1 : decode cX5_tells 1 = .ok (.istore_n 3, 1) := dk_62 (dk_at dksX5_tells_0 1 rfl rfl)
theorem dX5_tells_2 : decode cX5_tells 2 = .ok (.iload_n 3, 1) := dk_29 (dk_at dksX5_tells_0 2 rfl rfl)
theorem dX5_tells_3 : decode cX5_tells 3 = .ok (.aload_n 0, 1) := dk_42 (dk_at dksX5_tells_0 3 rfl rfl)
theorem dX5_tells_4 : decode cX5_tells 4 = .ok (.getfield 27, 3) := dk_180 0 27 (dk_at dksX5_tells_0 4 rfl rfl)
theorem dX5_tells_7 : decode cX5_tells 7 = .ok (.if_icmp .ge 44, 3) := dk_162 0 44 (dk_at dksX5_tells_0 7 rfl rfl)
theorem dX5_tells_10 : decode cX5_tells 10 = .ok (.aload_n 0, 1) := dk_42 (dk_at dksX5_tells_0 10 rfl rfl)
theorem dX5_tells_11 : decode cX5_tells 11 = .ok (.getfield 9, 3) := dk_180 0 9 (dk_at dksX5_tells_0 11 rfl rfl)
theorem dX5_tells_14 : decode cX5_tells 14 = .ok (.iload_n 3, 1) := dk_29 (dk_at dksX5_tells_0 14 rfl rfl)
theorem dX5_tells_15 : decode cX5_tells 15 = .ok (.iaload, 1) := dk_46 (dk_at dksX5_tells_0 15 rfl rfl)
theorem dX5_tells_16 : decode cX5_tells 16 = .ok (.iload_n 1, 1) := dk_27 (dk_at dksX5_tells_0 16 rfl rfl)
theorem dX5_tells_17 : decode cX5_tells 17 = .ok (.if_icmp .ne 28, 3) := dk_160 0 28 (dk_at dksX5_tells_0 17 rfl rfl)
theorem dX5_tells_20 : decode cX5_tells 20 = .ok (.aload_n 0, 1) := dk_42 (dk_at dksX5_tells_0 20 rfl rfl)
theorem dX5_tells_21 : decode cX5_tells 21 = .ok (.getfield 23, 3) := dk_180 0 23 (dk_at dksX5_tells_0 21 rfl rfl)
theorem dX5_tells_24 : decode cX5_tells 24 = .ok (.iload_n 3, 1) := dk_29 (dk_at dksX5_tells_1 0 rfl rfl)
theorem dX5_tells_25 : decode cX5_tells 25 = .ok (.aaload, 1) := dk_50 (dk_at dksX5_tells_1 1 rfl rfl)
theorem dX5_tells_26 : decode cX5_tells 26 = .ok (.aload_n 2, 1) := dk_44 (dk_at dksX5_tells_1 2 rfl rfl)
theorem dX5_tells_27 : decode cX5_tells 27 = .ok (.invokevirtual 31, 3) := dk_182 0 31 (dk_at dksX5_tells_1 3 rfl rfl)
theorem dX5_tells_30 : decode cX5_tells 30 = .ok (.iconst 1, 1) := dk_4 (dk_at dksX5_tells_1 6 rfl rfl)
theorem dX5_tells_31 : decode cX5_tells 31 = .ok (.if_icmp .ne 14, 3) := dk_160 0 14 (dk_at dksX5_tells_1 7 rfl rfl)
theorem dX5_tells_34 : decode cX5_tells 34 = .ok (.aload_n 0, 1) := dk_42 (dk_at dksX5_tells_1 10 rfl rfl)
theorem dX5_tells_35 : decode cX5_tells 35 = .ok (.getfield 17, 3) := dk_180 0 17 (dk_at dksX5_tells_1 11 rfl rfl)
theorem dX5_tells_38 : decode cX5_tells 38 = .ok (.iload_n 3, 1) := dk_29 (dk_at dksX5_tells_1 14 rfl rfl)
theorem dX5_tells_39 : decode cX5_tells 39 = .ok (.aaload, 1) := dk_50 (dk_at dksX5_tells_1 15 rfl rfl)
theorem dX5_tells_40 : decode cX5_tells 40 = .ok (.aload_n 2, 1) := dk_44 (dk_at dksX5_tells_1 16 rfl rfl)
theorem dX5_tells_41 : decode cX5_tells 41 = .ok (.invokevirtual 35, 3) := dk_182 0 35 (dk_at dksX5_tells_1 17 rfl rfl)
theorem dX5_tells_44 : decode cX5_tells 44 = .ok (.ireturn, 1) := dk_172 (dk_at dksX5_tells_1 20 rfl rfl)
theorem dX5_tells_45 : decode cX5_tells 45 = .ok (.iinc 3 1, 3) := dk_132 3 1 (dk_at dksX5_tells_1 21 rfl rfl)
theorem dX5_tells_48 : decode cX5_tells 48 = .ok (.goto (-46), 3) := dk_167 255 210 (dk_at dksX5_tells_2 0 rfl rfl)
theorem dX5_tells_51 : decode cX5_tells 51 = .ok (.iconst 0, 1) := dk_3 (dk_at dksX5_tells_2 3 rfl rfl)
theorem dX5_tells_52 : decode cX5_tells 52 = .ok (.ireturn, 1) := dk_172 (dk_at dksX5_tells_2 4 rfl rfl)
abbrev cX5_says : ByteArray := prog_18_method_3_code
def yX5_says : MethodName := ⟨RX5, "says", "(ILOneCoin$Asked;)Z"⟩
def dkwX5_says_1 : List UInt8 := [29, 50, 44, 182, 0, 31, 4, 160, 0, 5, 4, 172, 132, 3, 1, 167, 255, 219, 3, 172]
abbrev dktX5_says_1 : List UInt8 := dkwX5_says_1 ++ []
def dkwX5_says_0 : List UInt8 := [3, 62, 29, 42, 180, 0, 27, 162, 0, 35, 42, 180, 0, 9, 29, 46, 27, 160, 0, 19, 42, 180, 0, 23]
abbrev dktX5_says_0 : List UInt8 := dkwX5_says_0 ++ dktX5_says_1
theorem dksX5_says_0 : cX5_says.data.toList.drop 0 = dktX5_says_0 := by decide +kernel
theorem dksX5_says_1 : cX5_says.data.toList.drop 24 = dktX5_says_1 := dk_seg dksX5_says_0 24 rfl rfl
theorem dX5_says_0 : decode cX5_says 0 = .ok (.iconst 0, 1) := dk_3 (dk_at dksX5_says_0 0 rfl rfl)
theorem dX5_says_1 : decode cX5_says 1 = .ok (.istore_n 3, 1) := dk_62 (dk_at dksX5_says_0 1 rfl rfl)
theorem dX5_says_2 : decode cX5_says 2 = .ok (.iload_n 3, 1) := dk_29 (dk_at dksX5_says_0 2 rfl rfl)
theorem dX5_says_3 : decode cX5_says 3 = .ok (.aload_n 0, 1) := dk_42 (dk_at dksX5_says_0 3 rfl rfl)
theorem dX5_says_4 : decode cX5_says 4 = .ok (.getfield 27, 3) := dk_180 0 27 (dk_at dksX5_says_0 4 rfl rfl)
theorem dX5_says_7 : decode cX5_says 7 = .ok (.if_icmp .ge 35, 3) := dk_162 0 35 (dk_at dksX5_says_0 7 rfl rfl)
theorem dX5_says_10 : decode cX5_says 10 = .ok (.aload_n 0, 1) := dk_42 (dk_at dksX5_says_0 10 rfl rfl)
theorem dX5_says_11 : decode cX5_says 11 = .ok (.getfield 9, 3) := dk_180 0 9 (dk_at dksX5_says_0 11 rfl rfl)
theorem dX5_says_14 : decode cX5_says 14 = .ok (.iload_n 3, 1) := dk_29 (dk_at dksX5_says_0 14 rfl rfl)
theorem dX5_says_15 : decode cX5_says 15 = .ok (.iaload, 1) := dk_46 (dk_at dksX5_says_0 15 rfl rfl)
theorem dX5_says_16 : decode cX5_says 16 = .ok (.iload_n 1, 1) := dk_27 (dk_at dksX5_says_0 16 rfl rfl)
theorem dX5_says_17 : decode cX5_says 17 = .ok (.if_icmp .ne 19, 3) := dk_160 0 19 (dk_at dksX5_says_0 17 rfl rfl)
theorem dX5_says_20 : decode cX5_says 20 = .ok (.aload_n 0, 1) := dk_42 (dk_at dksX5_says_0 20 rfl rfl)
theorem dX5_says_21 : decode cX5_says 21 = .ok (.getfield 23, 3) := dk_180 0 23 (dk_at dksX5_says_0 21 rfl rfl)
theorem dX5_says_24 : decode cX5_says 24 = .ok (.iload_n 3, 1) := dk_29 (dk_at dksX5_says_1 0 rfl rfl)
theorem dX5_says_25 : decode cX5_says 25 = .ok (.aaload, 1) := dk_50 (dk_at dksX5_says_1 1 rfl rfl)
theorem dX5_says_26 : decode cX5_says 26 = .ok (.aload_n 2, 1) := dk_44 (dk_at dksX5_says_1 2 rfl rfl)
theorem dX5_says_27 : decode cX5_says 27 = .ok (.invokevirtual 31, 3) := dk_182 0 31 (dk_at dksX5_says_1 3 rfl rfl)
theorem dX5_says_30 : decode cX5_says 30 = .ok (.iconst 1, 1) := dk_4 (dk_at dksX5_says_1 6 rfl rfl)
theorem dX5_says_31 : decode cX5_says 31 = .ok (.if_icmp .ne 5, 3) := dk_160 0 5 (dk_at dksX5_says_1 7 rfl rfl)
theorem dX5_says_34 : decode cX5_says 34 = .ok (.iconst 1, 1) := dk_4 (dk_at dksX5_says_1 10 rfl rfl)
theorem dX5_says_35 : decode cX5_says 35 = .ok (.ireturn, 1) := dk_172 (dk_at dksX5_says_1 11 rfl rfl)
theorem dX5_says_36 : decode cX5_says 36 = .ok (.iinc 3 1, 3) := dk_132 3 1 (dk_at dksX5_says_1 12 rfl rfl)
theorem dX5_says_39 : decode cX5_says 39 = .ok (.goto (-37), 3) := dk_167 255 219 (dk_at dksX5_says_1 15 rfl rfl)
theorem dX5_says_42 : decode cX5_says 42 = .ok (.iconst 0, 1) := dk_3 (dk_at dksX5_says_1 18 rfl rfl)
theorem dX5_says_43 : decode cX5_says 43 = .ok (.ireturn, 1) := dk_172 (dk_at dksX5_says_1 19 rfl rfl)
theorem q121 : (Jvm.Cond.initialized "OneCoin$Text") ∈ lw_all := lw_g (lw_at lw_m1 6 rfl) rfl
theorem q280 : (Jvm.Cond.instantiable "OneCoin$Text" (4 : Nat)) ∈ lw_all := lw_g (lw_at lw_m1 165 rfl) rfl
theorem q282 : (Jvm.Cond.instanceMethod ({ cls := "OneCoin$Text", name := "<init>", desc := "()V" } : Jvm.MethodName)) ∈ lw_all := lw_g (lw_at lw_m1 167 rfl) rfl
theorem q283 : (Jvm.Cond.code ({ cls := "OneCoin$Text", name := "<init>", desc := "()V" } : Jvm.MethodName) prog_18_method_1_code (1 : Nat) (Option.none : Option Jvm.ClassFile.FieldType)) ∈ lw_all := lw_g (lw_at lw_m1 168 rfl) rfl
theorem q284 : (Jvm.Cond.methodLink "OneCoin$Text" (3 : Nat) ({ cls := "java/lang/Object", name := "<init>", desc := "()V" } : Jvm.MethodName)) ∈ lw_all := lw_g (lw_at lw_m1 169 rfl) rfl
theorem q285 : (Jvm.Cond.classLink "OneCoin$Text" (15 : Nat) "OneCoin$Sum") ∈ lw_all := lw_g (lw_at lw_m1 170 rfl) rfl
theorem q287 : (Jvm.Cond.classLink "OneCoin$Text" (21 : Nat) "OneCoin$Condition") ∈ lw_all := lw_g (lw_at lw_m1 172 rfl) rfl
theorem q289 : (Jvm.Cond.fieldLink "OneCoin$Text" (9 : Nat) "OneCoin$Text" "letters" "[I") ∈ lw_all := lw_g (lw_at lw_m1 174 rfl) rfl
theorem q291 : (Jvm.Cond.fieldLink "OneCoin$Text" (17 : Nat) "OneCoin$Text" "sums" "[LOneCoin$Sum;") ∈ lw_all := lw_g (lw_at lw_m1 176 rfl) rfl
theorem q293 : (Jvm.Cond.fieldLink "OneCoin$Text" (23 : Nat) "OneCoin$Text" "conditions" "[LOneCoin$Condition;") ∈ lw_all := lw_g (lw_at lw_m1 178 rfl) rfl
theorem q295 : (Jvm.Cond.fieldLink "OneCoin$Text" (27 : Nat) "OneCoin$Text" "many" "I") ∈ lw_all := lw_g (lw_at lw_m1 180 rfl) rfl
theorem q298 : (Jvm.Cond.laysFinal "OneCoin$Text" "OneCoin$Text" "letters" "[I") ∈ lw_all := lw_g (lw_at lw_m1 183 rfl) rfl
theorem q299 : (Jvm.Cond.soleField "OneCoin$Text" "letters") ∈ lw_all := lw_g (lw_at lw_m1 184 rfl) rfl
theorem q300 : (Jvm.Cond.laysFinal "OneCoin$Text" "OneCoin$Text" "sums" "[LOneCoin$Sum;") ∈ lw_all := lw_g (lw_at lw_m1 185 rfl) rfl
theorem q301 : (Jvm.Cond.soleField "OneCoin$Text" "sums") ∈ lw_all := lw_g (lw_at lw_m1 186 rfl) rfl
theorem q302 : (Jvm.Cond.laysFinal "OneCoin$Text" "OneCoin$Text" "conditions" "[LOneCoin$Condition;") ∈ lw_all := lw_g (lw_at lw_m1 187 rfl) rfl
theorem q303 : (Jvm.Cond.soleField "OneCoin$Text" "conditions") ∈ lw_all := lw_g (lw_at lw_m1 188 rfl) rfl
theorem q304 : (Jvm.Cond.lays "OneCoin$Text" "OneCoin$Text" "many" "I") ∈ lw_all := lw_g (lw_at lw_m1 189 rfl) rfl
theorem q305 : (Jvm.Cond.soleField "OneCoin$Text" "many") ∈ lw_all := lw_g (lw_at lw_m1 190 rfl) rfl
theorem q306 : (Jvm.Cond.superclass "OneCoin$Text" "java/lang/Object") ∈ lw_all := lw_g (lw_at lw_m1 191 rfl) rfl
theorem q958 : (Jvm.Cond.instanceMethod ({ cls := "OneCoin$Text", name := "tells", desc := "(ILOneCoin$Asked;)I" } : Jvm.MethodName)) ∈ lw_all := lw_g (lw_at lw_m4 123 rfl) rfl
theorem q959 : (Jvm.Cond.selects "OneCoin$Text" ({ cls := "OneCoin$Text", name := "tells", desc := "(ILOneCoin$Asked;)I" } : Jvm.MethodName) ({ cls := "OneCoin$Text", name := "tells", desc := "(ILOneCoin$Asked;)I" } : Jvm.MethodName)) ∈ lw_all := lw_g (lw_at lw_m4 124 rfl) rfl
theorem q960 : (Jvm.Cond.code ({ cls := "OneCoin$Text", name := "tells", desc := "(ILOneCoin$Asked;)I" } : Jvm.MethodName) prog_18_method_2_code (4 : Nat) (Option.some Jvm.ClassFile.FieldType.int)) ∈ lw_all := lw_g (lw_at lw_m4 125 rfl) rfl
theorem q961 : (Jvm.Cond.methodLink "OneCoin$Text" (31 : Nat) ({ cls := "OneCoin$Condition", name := "holds", desc := "(LOneCoin$Asked;)I" } : Jvm.MethodName)) ∈ lw_all := lw_g (lw_at lw_m4 126 rfl) rfl
theorem q997 : (Jvm.Cond.methodLink "OneCoin$Text" (35 : Nat) ({ cls := "OneCoin$Sum", name := "told", desc := "(LOneCoin$Asked;)I" } : Jvm.MethodName)) ∈ lw_all := lw_g (lw_at lw_m4 162 rfl) rfl
theorem q1049 : (Jvm.Cond.instanceMethod ({ cls := "OneCoin$Text", name := "says", desc := "(ILOneCoin$Asked;)Z" } : Jvm.MethodName)) ∈ lw_all := lw_g (lw_at lw_m4 214 rfl) rfl
theorem q1050 : (Jvm.Cond.selects "OneCoin$Text" ({ cls := "OneCoin$Text", name := "says", desc := "(ILOneCoin$Asked;)Z" } : Jvm.MethodName) ({ cls := "OneCoin$Text", name := "says", desc := "(ILOneCoin$Asked;)Z" } : Jvm.MethodName)) ∈ lw_all := lw_g (lw_at lw_m4 215 rfl) rfl
theorem q1051 : (Jvm.Cond.code ({ cls := "OneCoin$Text", name := "says", desc := "(ILOneCoin$Asked;)Z" } : Jvm.MethodName) prog_18_method_3_code (4 : Nat) (Option.some Jvm.ClassFile.FieldType.boolean)) ∈ lw_all := lw_g (lw_at lw_m4 216 rfl) rfl
theorem in_X5 : ∀ w ∈ wsX50, w ∈ lw_all := lw_in wsX50 [298, 300, 302, 304] (by decide +kernel) (by decide +kernel)
/-! OneCoin$Sum -/
set_option maxRecDepth 100000
def RX8 : String := "OneCoin$Sum"
abbrev cX8_init : ByteArray := prog_17_method_1_code
def yX8_init : MethodName := ⟨RX8, "<init>", "()V"⟩
theorem dX8_init_0 : decode cX8_init 0 = .ok (.aload_n 0, 1) := by decide +kernel
theorem dX8_init_1 : decode cX8_init 1 = .ok (.invokespecial 1, 3) := by decide +kernel
theorem dX8_init_4 : decode cX8_init 4 = .ok (.return_, 1) := by decide +kernel
abbrev cX8_told : ByteArray := prog_17_method_3_code
def yX8_told : MethodName := ⟨RX8, "told", "(LOneCoin$Asked;)I"⟩
def dkwX8_told_0 : List UInt8 := [43, 3, 181, 0, 7, 42, 43, 182, 0, 13, 61, 43, 180, 0, 7, 153, 0, 7, 3, 167, 0, 4, 28, 172]
abbrev dktX8_told_0 : List UInt8 := dkwX8_told_0 ++ []
theorem dksX8_told_0 : cX8_told.data.toList.drop 0 = dktX8_told_0 := by decide +kernel
theorem dX8_told_0 : decode cX8_told 0 = .ok (.aload_n 1, 1) := dk_43 (dk_at dksX8_told_0 0 rfl rfl)
theorem dX8_told_1 : decode cX8_told 1 = .ok (.iconst 0, 1) := dk_3 (dk_at dksX8_told_0 1 rfl rfl)
theorem dX8_told_2 : decode cX8_told 2 = .ok (.putfield 7, 3) := dk_181 0 7 (dk_at dksX8_told_0 2 rfl rfl)
theorem dX8_told_5 : decode cX8_told 5 = .ok (.aload_n 0, 1) := dk_42 (dk_at dksX8_told_0 5 rfl rfl)
theorem dX8_told_6 : decode cX8_told 6 = .ok (.aload_n 1, 1) := dk_43 (dk_at dksX8_told_0 6 rfl rfl)
theorem dX8_told_7 : decode cX8_told 7 = .ok (.invokevirtual 13, 3) := dk_182 0 13 (dk_at dksX8_told_0 7 rfl rfl)
theorem dX8_told_10 : decode cX8_told 10 = .ok (.istore_n 2, 1) := dk_61 (dk_at dksX8_told_0 10 rfl rfl)
theorem dX8_told_11 : decode cX8_told 11 = .ok (.aload_n 1, 1) := dk_43 (dk_at dksX8_told_0 11 rfl rfl)
theorem dX8_told_12 : decode cX8_told 12 = .ok (.getfield 7, 3) := dk_180 0 7 (dk_at dksX8_told_0 12 rfl rfl)
theorem dX8_told_15 : decode cX8_told 15 = .ok (.ifCond .eq 7, 3) := dk_153 0 7 (dk_at dksX8_told_0 15 rfl rfl)
theorem dX8_told_18 : decode cX8_told 18 = .ok (.iconst 0, 1) := dk_3 (dk_at dksX8_told_0 18 rfl rfl)
theorem dX8_told_19 : decode cX8_told 19 = .ok (.goto 4, 3) := dk_167 0 4 (dk_at dksX8_told_0 19 rfl rfl)
theorem dX8_told_22 : decode cX8_told 22 = .ok (.iload_n 2, 1) := dk_28 (dk_at dksX8_told_0 22 rfl rfl)
theorem dX8_told_23 : decode cX8_told 23 = .ok (.ireturn, 1) := dk_172 (dk_at dksX8_told_0 23 rfl rfl)
theorem q130 : (Jvm.Cond.initialized "OneCoin$Sum") ∈ lw_all := lw_g (lw_at lw_m1 15 rfl) rfl
theorem q170 : (Jvm.Cond.fieldLinkNest "OneCoin$Sum" (7 : Nat) "OneCoin$Asked" "isRefused" "Z" "OneCoin") ∈ lw_tbl := lw_at lw_m1 55 rfl
theorem q593 : (Jvm.Cond.instanceMethod ({ cls := "OneCoin$Sum", name := "<init>", desc := "()V" } : Jvm.MethodName)) ∈ lw_all := lw_g (lw_at lw_m2 238 rfl) rfl
theorem q594 : (Jvm.Cond.code ({ cls := "OneCoin$Sum", name := "<init>", desc := "()V" } : Jvm.MethodName) prog_17_method_1_code (1 : Nat) (Option.none : Option Jvm.ClassFile.FieldType)) ∈ lw_all := lw_g (lw_at lw_m2 239 rfl) rfl
theorem q595 : (Jvm.Cond.methodLink "OneCoin$Sum" (1 : Nat) ({ cls := "java/lang/Object", name := "<init>", desc := "()V" } : Jvm.MethodName)) ∈ lw_all := lw_g (lw_at lw_m3 0 rfl) rfl
theorem q968 : (Jvm.Cond.declares ({ cls := "OneCoin$Sum", name := "worth", desc := "(LOneCoin$Asked;)I" } : Jvm.MethodName)) ∈ lw_tbl := lw_at lw_m4 133 rfl
theorem q969 : (Jvm.Cond.sameMethod "OneCoin$Sum" "OneCoin$Sum" "worth" "(LOneCoin$Asked;)I") ∈ lw_all := lw_g (lw_at lw_m4 134 rfl) rfl
theorem q998 : (Jvm.Cond.instanceMethod ({ cls := "OneCoin$Sum", name := "told", desc := "(LOneCoin$Asked;)I" } : Jvm.MethodName)) ∈ lw_all := lw_g (lw_at lw_m4 163 rfl) rfl
theorem q999 : (Jvm.Cond.sameMethod "OneCoin$Sum" "OneCoin$Sum" "told" "(LOneCoin$Asked;)I") ∈ lw_all := lw_g (lw_at lw_m4 164 rfl) rfl
theorem q1003 : (Jvm.Cond.code ({ cls := "OneCoin$Sum", name := "told", desc := "(LOneCoin$Asked;)I" } : Jvm.MethodName) prog_17_method_3_code (3 : Nat) (Option.some Jvm.ClassFile.FieldType.int)) ∈ lw_all := lw_g (lw_at lw_m4 168 rfl) rfl
theorem q1004 : (Jvm.Cond.methodLink "OneCoin$Sum" (13 : Nat) ({ cls := "OneCoin$Sum", name := "worth", desc := "(LOneCoin$Asked;)I" } : Jvm.MethodName)) ∈ lw_all := lw_g (lw_at lw_m4 169 rfl) rfl
/-! OneCoin$Row -/
set_option maxRecDepth 100000
def RX9 : String := "OneCoin$Row"
def TX9 : u_T := fun k => match k with
  | 0 => ("OneCoin$Row", "sign", "I", true)
  | 1 => ("OneCoin$Row", "part", "LOneCoin$Sum;", true)
  | _ => ("OneCoin$Row", "next", "LOneCoin$Row;", false)
def tyX9 : Nat → FieldType := fun k => match k with
  | 0 => .int
  | 1 => .object "OneCoin$Sum"
  | _ => .object "OneCoin$Row"
abbrev wsX90 : List Cond := u_ws RX9 TX9 3
theorem nmX9 : ∀ a, a < 3 → ∀ b, b < 3 → a ≠ b → (TX9 a).2.1 ≠ (TX9 b).2.1 := by decide +kernel
theorem tyX9_ok : ∀ k, k < 3 → parseFieldDescriptor (TX9 k).2.2.1 = some (tyX9 k) := by decide +kernel
abbrev cX9_init : ByteArray := prog_14_method_1_code
def yX9_init : MethodName := ⟨RX9, "<init>", "(ILOneCoin$Sum;)V"⟩
def dkwX9_init_0 : List UInt8 := [42, 183, 0, 1, 42, 27, 181, 0, 7, 42, 44, 181, 0, 13, 177]
abbrev dktX9_init_0 : List UInt8 := dkwX9_init_0 ++ []
theorem dksX9_init_0 : cX9_init.data.toList.drop 0 = dktX9_init_0 := by decide +kernel
theorem dX9_init_0 : decode cX9_init 0 = .ok (.aload_n 0, 1) := dk_42 (dk_at dksX9_init_0 0 rfl rfl)
theorem dX9_init_1 : decode cX9_init 1 = .ok (.invokespecial 1, 3) := dk_183 0 1 (dk_at dksX9_init_0 1 rfl rfl)
theorem dX9_init_4 : decode cX9_init 4 = .ok (.aload_n 0, 1) := dk_42 (dk_at dksX9_init_0 4 rfl rfl)
theorem dX9_init_5 : decode cX9_init 5 = .ok (.iload_n 1, 1) := dk_27 (dk_at dksX9_init_0 5 rfl rfl)
theorem dX9_init_6 : decode cX9_init 6 = .ok (.putfield 7, 3) := dk_181 0 7 (dk_at dksX9_init_0 6 rfl rfl)
theorem dX9_init_9 : decode cX9_init 9 = .ok (.aload_n 0, 1) := dk_42 (dk_at dksX9_init_0 9 rfl rfl)
theorem dX9_init_10 : decode cX9_init 10 = .ok (.aload_n 2, 1) := dk_44 (dk_at dksX9_init_0 10 rfl rfl)
theorem dX9_init_11 : decode cX9_init 11 = .ok (.putfield 13, 3) := dk_181 0 13 (dk_at dksX9_init_0 11 rfl rfl)
theorem dX9_init_14 : decode cX9_init 14 = .ok (.return_, 1) := dk_177 (dk_at dksX9_init_0 14 rfl rfl)
abbrev cX9_worth : ByteArray := prog_14_method_3_code
def yX9_worth : MethodName := ⟨RX9, "worth", "(LOneCoin$Asked;)I"⟩
def dkwX9_worth_1 : List UInt8 := [180, 0, 13, 43, 182, 0, 23, 43, 184, 0, 31, 61, 45, 180, 0, 27, 78, 167, 255, 229, 28, 172]
abbrev dktX9_worth_1 : List UInt8 := dkwX9_worth_1 ++ []
def dkwX9_worth_0 : List UInt8 := [42, 180, 0, 13, 43, 182, 0, 23, 61, 42, 180, 0, 27, 78, 45, 198, 0, 29, 45, 180, 0, 7, 28, 45]
abbrev dktX9_worth_0 : List UInt8 := dkwX9_worth_0 ++ dktX9_worth_1
theorem dksX9_worth_0 : cX9_worth.data.toList.drop 0 = dktX9_worth_0 := by decide +kernel
theorem dksX9_worth_1 : cX9_worth.data.toList.drop 24 = dktX9_worth_1 := dk_seg dksX9_worth_0 24 rfl rfl
theorem dX9_worth_0 : decode cX9_worth 0 = .ok (.aload_n 0, 1) := dk_42 (dk_at dksX9_worth_0 0 rfl rfl)
theorem dX9_worth_1 : decode cX9_worth 1 = .ok (.getfield 13, 3) := dk_180 0 13 (dk_at dksX9_worth_0 1 rfl rfl)
theorem dX9_worth_4 : decode cX9_worth 4 = .ok (.aload_n 1, 1) := dk_43 (dk_at dksX9_worth_0 4 rfl rfl)
theorem dX9_worth_5 : decode cX9_worth 5 = .ok (.invokevirtual 23, 3) := dk_182 0 23 (dk_at dksX9_worth_0 5 rfl rfl)
theorem dX9_worth_8 : decode cX9_worth 8 = .ok (.istore_n 2, 1) := dk_61 (dk_at dksX9_worth_0 8 rfl rfl)
theorem dX9_worth_9 : decode cX9_worth 9 = .ok (.aload_n 0, 1) := dk_42 (dk_at dksX9_worth_0 9 rfl rfl)
theorem dX9_worth_10 : decode cX9_worth 10 = .ok (.getfield 27, 3) := dk_180 0 27 (dk_at dksX9_worth_0 10 rfl rfl)
theorem dX9_worth_13 : decode cX9_worth 13 = .ok (.astore_n 3, 1) := dk_78 (dk_at dksX9_worth_0 13 rfl rfl)
theorem dX9_worth_14 : decode cX9_worth 14 = .ok (.aload_n 3, 1) := dk_45 (dk_at dksX9_worth_0 14 rfl rfl)
theorem dX9_worth_15 : decode cX9_worth 15 = .ok (.ifnull 29, 3) := dk_198 0 29 (dk_at dksX9_worth_0 15 rfl rfl)
theorem dX9_worth_18 : decode cX9_worth 18 = .ok (.aload_n 3, 1) := dk_45 (dk_at dksX9_worth_0 18 rfl rfl)
theorem dX9_worth_19 : decode cX9_worth 19 = .ok (.getfield 7, 3) := dk_180 0 7 (dk_at dksX9_worth_0 19 rfl rfl)
theorem dX9_worth_22 : decode cX9_worth 22 = .ok (.iload_n 2, 1) := dk_28 (dk_at dksX9_worth_0 22 rfl rfl)
theorem dX9_worth_23 : decode cX9_worth 23 = .ok (.aload_n 3, 1) := dk_45 (dk_at dksX9_worth_0 23 rfl rfl)
theorem dX9_worth_24 : decode cX9_worth 24 = .ok (.getfield 13, 3) := dk_180 0 13 (dk_at dksX9_worth_1 0 rfl rfl)
theorem dX9_worth_27 : decode cX9_worth 27 = .ok (.aload_n 1, 1) := dk_43 (dk_at dksX9_worth_1 3 rfl rfl)
theorem dX9_worth_28 : decode cX9_worth 28 = .ok (.invokevirtual 23, 3) := dk_182 0 23 (dk_at dksX9_worth_1 4 rfl rfl)
theorem dX9_worth_31 : decode cX9_worth 31 = .ok (.aload_n 1, 1) := dk_43 (dk_at dksX9_worth_1 7 rfl rfl)
theorem dX9_worth_32 : decode cX9_worth 32 = .ok (.invokestatic 31, 3) := dk_184 0 31 (dk_at dksX9_worth_1 8 rfl rfl)
theorem dX9_worth_35 : decode cX9_worth 35 = .ok (.istore_n 2, 1) := dk_61 (dk_at dksX9_worth_1 11 rfl rfl)
theorem dX9_worth_36 : decode cX9_worth 36 = .ok (.aload_n 3, 1) := dk_45 (dk_at dksX9_worth_1 12 rfl rfl)
theorem dX9_worth_37 : decode cX9_worth 37 = .ok (.getfield 27, 3) := dk_180 0 27 (dk_at dksX9_worth_1 13 rfl rfl)
theorem dX9_worth_40 : decode cX9_worth 40 = .ok (.astore_n 3, 1) := dk_78 (dk_at dksX9_worth_1 16 rfl rfl)
theorem dX9_worth_41 : decode cX9_worth 41 = .ok (.goto (-27), 3) := dk_167 255 229 (dk_at dksX9_worth_1 17 rfl rfl)
theorem dX9_worth_44 : decode cX9_worth 44 = .ok (.iload_n 2, 1) := dk_28 (dk_at dksX9_worth_1 20 rfl rfl)
theorem dX9_worth_45 : decode cX9_worth 45 = .ok (.ireturn, 1) := dk_172 (dk_at dksX9_worth_1 21 rfl rfl)
abbrev cX9_worked : ByteArray := prog_14_method_2_code
def yX9_worked : MethodName := ⟨RX9, "worked", "(IIILOneCoin$Asked;)I"⟩
def dkwX9_worked_3 : List UInt8 := [154, 0, 7, 3, 167, 0, 18, 26, 16, 47, 160, 0, 9, 27, 28, 108, 167, 0, 6, 27, 28, 112, 172]
abbrev dktX9_worked_3 : List UInt8 := dkwX9_worked_3 ++ []
def dkwX9_worked_2 : List UInt8 := [27, 28, 96, 172, 27, 28, 100, 172, 27, 28, 104, 172, 28, 154, 0, 8, 45, 4, 181, 0, 17, 28]
abbrev dktX9_worked_2 : List UInt8 := dkwX9_worked_2 ++ dktX9_worked_3
def dkwX9_worked_1 : List UInt8 := [170, 0, 0, 0, 0, 0, 43, 0, 0, 0, 42, 0, 0, 0, 45, 0, 0, 0, 39, 0, 0, 0, 31, 0, 0, 0, 43, 0, 0, 0, 35]
abbrev dktX9_worked_1 : List UInt8 := dkwX9_worked_1 ++ dktX9_worked_2
def dkwX9_worked_0 : List UInt8 := [26]
abbrev dktX9_worked_0 : List UInt8 := dkwX9_worked_0 ++ dktX9_worked_1
theorem dksX9_worked_0 : cX9_worked.data.toList.drop 0 = dktX9_worked_0 := by decide +kernel
theorem dksX9_worked_1 : cX9_worked.data.toList.drop 1 = dktX9_worked_1 := dk_seg dksX9_worked_0 1 rfl rfl
theorem dksX9_worked_2 : cX9_worked.data.toList.drop 32 = dktX9_worked_2 := dk_seg dksX9_worked_1 31 rfl rfl
theorem dksX9_worked_3 : cX9_worked.data.toList.drop 54 = dktX9_worked_3 := dk_seg dksX9_worked_2 22 rfl rfl
theorem dX9_worked_0 : decode cX9_worked 0 = .ok (.iload_n 0, 1) := dk_26 (dk_at dksX9_worked_0 0 rfl rfl)
theorem dX9_worked_1 : decode cX9_worked 1 = .ok (.tableswitch 43 42 45 #[39, 31, 43, 35], 31) := by decide +kernel
theorem dX9_worked_32 : decode cX9_worked 32 = .ok (.iload_n 1, 1) := dk_27 (dk_at dksX9_worked_2 0 rfl rfl)
theorem dX9_worked_33 : decode cX9_worked 33 = .ok (.iload_n 2, 1) := dk_28 (dk_at dksX9_worked_2 1 rfl rfl)
theorem dX9_worked_34 : decode cX9_worked 34 = .ok (.iadd, 1) := dk_96 (dk_at dksX9_worked_2 2 rfl rfl)
theorem dX9_worked_35 : decode cX9_worked 35 = .ok (.ireturn, 1) := dk_172 (dk_at dksX9_worked_2 3 rfl rfl)
theorem dX9_worked_36 : decode cX9_worked 36 = .ok (.iload_n 1, 1) := dk_27 (dk_at dksX9_worked_2 4 rfl rfl)
theorem dX9_worked_37 : decode cX9_worked 37 = .ok (.iload_n 2, 1) := dk_28 (dk_at dksX9_worked_2 5 rfl rfl)
theorem dX9_worked_38 : decode cX9_worked 38 = .ok (.isub, 1) := dk_100 (dk_at dksX9_worked_2 6 rfl rfl)
theorem dX9_worked_39 : decode cX9_worked 39 = .ok (.ireturn, 1) := dk_172 (dk_at dksX9_worked_2 7 rfl rfl)
theorem dX9_worked_40 : decode cX9_worked 40 = .ok (.iload_n 1, 1) := dk_27 (dk_at dksX9_worked_2 8 rfl rfl)
theorem dX9_worked_41 : decode cX9_worked 41 = .ok (.iload_n 2, 1) := dk_28 (dk_at dksX9_worked_2 9 rfl rfl)
theorem dX9_worked_42 : decode cX9_worked 42 = .ok (.imul, 1) := dk_104 (dk_at dksX9_worked_2 10 rfl rfl)
theorem dX9_worked_43 : decode cX9_worked 43 = .ok (.ireturn, 1) := dk_172 (dk_at dksX9_worked_2 11 rfl rfl)
theorem dX9_worked_44 : decode cX9_worked 44 = .ok (.iload_n 2, 1) := dk_28 (dk_at dksX9_worked_2 12 rfl rfl)
theorem dX9_worked_45 : decode cX9_worked 45 = .ok (.ifCond .ne 8, 3) := dk_154 0 8 (dk_at dksX9_worked_2 13 rfl rfl)
theorem dX9_worked_48 : decode cX9_worked 48 = .ok (.aload_n 3, 1) := dk_45 (dk_at dksX9_worked_2 16 rfl rfl)
theorem dX9_worked_49 : decode cX9_worked 49 = .ok (.iconst 1, 1) := dk_4 (dk_at dksX9_worked_2 17 rfl rfl)
theorem dX9_worked_50 : decode cX9_worked 50 = .ok (.putfield 17, 3) := dk_181 0 17 (dk_at dksX9_worked_2 18 rfl rfl)
theorem dX9_worked_53 : decode cX9_worked 53 = .ok (.iload_n 2, 1) := dk_28 (dk_at dksX9_worked_2 21 rfl rfl)
theorem dX9_worked_54 : decode cX9_worked 54 = .ok (.ifCond .ne 7, 3) := dk_154 0 7 (dk_at dksX9_worked_3 0 rfl rfl)
theorem dX9_worked_57 : decode cX9_worked 57 = .ok (.iconst 0, 1) := dk_3 (dk_at dksX9_worked_3 3 rfl rfl)
theorem dX9_worked_58 : decode cX9_worked 58 = .ok (.goto 18, 3) := dk_167 0 18 (dk_at dksX9_worked_3 4 rfl rfl)
theorem dX9_worked_61 : decode cX9_worked 61 = .ok (.iload_n 0, 1) := dk_26 (dk_at dksX9_worked_3 7 rfl rfl)
theorem dX9_worked_62 : decode cX9_worked 62 = .ok (.bipush 47, 2) := dk_16 47 (dk_at dksX9_worked_3 8 rfl rfl)
theorem dX9_worked_64 : decode cX9_worked 64 = .ok (.if_icmp .ne 9, 3) := dk_160 0 9 (dk_at dksX9_worked_3 10 rfl rfl)
theorem dX9_worked_67 : decode cX9_worked 67 = .ok (.iload_n 1, 1) := dk_27 (dk_at dksX9_worked_3 13 rfl rfl)
theorem dX9_worked_68 : decode cX9_worked 68 = .ok (.iload_n 2, 1) := dk_28 (dk_at dksX9_worked_3 14 rfl rfl)
theorem dX9_worked_69 : decode cX9_worked 69 = .ok (.idiv, 1) := dk_108 (dk_at dksX9_worked_3 15 rfl rfl)
theorem dX9_worked_70 : decode cX9_worked 70 = .ok (.goto 6, 3) := dk_167 0 6 (dk_at dksX9_worked_3 16 rfl rfl)
theorem dX9_worked_73 : decode cX9_worked 73 = .ok (.iload_n 1, 1) := dk_27 (dk_at dksX9_worked_3 19 rfl rfl)
theorem dX9_worked_74 : decode cX9_worked 74 = .ok (.iload_n 2, 1) := dk_28 (dk_at dksX9_worked_3 20 rfl rfl)
theorem dX9_worked_75 : decode cX9_worked 75 = .ok (.irem, 1) := dk_112 (dk_at dksX9_worked_3 21 rfl rfl)
theorem dX9_worked_76 : decode cX9_worked 76 = .ok (.ireturn, 1) := dk_172 (dk_at dksX9_worked_3 22 rfl rfl)
theorem q131 : (Jvm.Cond.initialized "OneCoin$Row") ∈ lw_all := lw_g (lw_at lw_m1 16 rfl) rfl
theorem q169 : (Jvm.Cond.fieldLinkNest "OneCoin$Row" (17 : Nat) "OneCoin$Asked" "isRefused" "Z" "OneCoin") ∈ lw_tbl := lw_at lw_m1 54 rfl
theorem q562 : (Jvm.Cond.instantiable "OneCoin$Row" (3 : Nat)) ∈ lw_all := lw_g (lw_at lw_m2 207 rfl) rfl
theorem q612 : (Jvm.Cond.instanceMethod ({ cls := "OneCoin$Row", name := "<init>", desc := "(ILOneCoin$Sum;)V" } : Jvm.MethodName)) ∈ lw_all := lw_g (lw_at lw_m3 17 rfl) rfl
theorem q613 : (Jvm.Cond.code ({ cls := "OneCoin$Row", name := "<init>", desc := "(ILOneCoin$Sum;)V" } : Jvm.MethodName) prog_14_method_1_code (3 : Nat) (Option.none : Option Jvm.ClassFile.FieldType)) ∈ lw_all := lw_g (lw_at lw_m3 18 rfl) rfl
theorem q614 : (Jvm.Cond.methodLinkNest "OneCoin$Row" (1 : Nat) ({ cls := "OneCoin$Sum", name := "<init>", desc := "()V" } : Jvm.MethodName) "OneCoin") ∈ lw_tbl := lw_at lw_m3 19 rfl
theorem q615 : (Jvm.Cond.fieldLink "OneCoin$Row" (7 : Nat) "OneCoin$Row" "sign" "I") ∈ lw_all := lw_g (lw_at lw_m3 20 rfl) rfl
theorem q616 : (Jvm.Cond.fieldLink "OneCoin$Row" (13 : Nat) "OneCoin$Row" "part" "LOneCoin$Sum;") ∈ lw_all := lw_g (lw_at lw_m3 21 rfl) rfl
theorem q617 : (Jvm.Cond.fieldLink "OneCoin$Row" (27 : Nat) "OneCoin$Row" "next" "LOneCoin$Row;") ∈ lw_all := lw_g (lw_at lw_m3 22 rfl) rfl
theorem q619 : (Jvm.Cond.laysFinal "OneCoin$Row" "OneCoin$Row" "sign" "I") ∈ lw_all := lw_g (lw_at lw_m3 24 rfl) rfl
theorem q620 : (Jvm.Cond.soleField "OneCoin$Row" "sign") ∈ lw_all := lw_g (lw_at lw_m3 25 rfl) rfl
theorem q621 : (Jvm.Cond.laysFinal "OneCoin$Row" "OneCoin$Row" "part" "LOneCoin$Sum;") ∈ lw_all := lw_g (lw_at lw_m3 26 rfl) rfl
theorem q622 : (Jvm.Cond.soleField "OneCoin$Row" "part") ∈ lw_all := lw_g (lw_at lw_m3 27 rfl) rfl
theorem q623 : (Jvm.Cond.lays "OneCoin$Row" "OneCoin$Row" "next" "LOneCoin$Row;") ∈ lw_all := lw_g (lw_at lw_m3 28 rfl) rfl
theorem q624 : (Jvm.Cond.soleField "OneCoin$Row" "next") ∈ lw_all := lw_g (lw_at lw_m3 29 rfl) rfl
theorem q625 : (Jvm.Cond.superclass "OneCoin$Row" "OneCoin$Sum") ∈ lw_all := lw_g (lw_at lw_m3 30 rfl) rfl
theorem q982 : (Jvm.Cond.selects "OneCoin$Row" ({ cls := "OneCoin$Sum", name := "worth", desc := "(LOneCoin$Asked;)I" } : Jvm.MethodName) ({ cls := "OneCoin$Row", name := "worth", desc := "(LOneCoin$Asked;)I" } : Jvm.MethodName)) ∈ lw_all := lw_g (lw_at lw_m4 147 rfl) rfl
theorem q983 : (Jvm.Cond.instanceMethod ({ cls := "OneCoin$Row", name := "worth", desc := "(LOneCoin$Asked;)I" } : Jvm.MethodName)) ∈ lw_all := lw_g (lw_at lw_m4 148 rfl) rfl
theorem q984 : (Jvm.Cond.code ({ cls := "OneCoin$Row", name := "worth", desc := "(LOneCoin$Asked;)I" } : Jvm.MethodName) prog_14_method_3_code (4 : Nat) (Option.some Jvm.ClassFile.FieldType.int)) ∈ lw_all := lw_g (lw_at lw_m4 149 rfl) rfl
theorem q985 : (Jvm.Cond.methodLink "OneCoin$Row" (23 : Nat) ({ cls := "OneCoin$Sum", name := "worth", desc := "(LOneCoin$Asked;)I" } : Jvm.MethodName)) ∈ lw_all := lw_g (lw_at lw_m4 150 rfl) rfl
theorem q986 : (Jvm.Cond.methodLink "OneCoin$Row" (31 : Nat) ({ cls := "OneCoin$Row", name := "worked", desc := "(IIILOneCoin$Asked;)I" } : Jvm.MethodName)) ∈ lw_all := lw_g (lw_at lw_m4 151 rfl) rfl
theorem q987 : (Jvm.Cond.static ({ cls := "OneCoin$Row", name := "worked", desc := "(IIILOneCoin$Asked;)I" } : Jvm.MethodName)) ∈ lw_all := lw_g (lw_at lw_m4 152 rfl) rfl
theorem q988 : (Jvm.Cond.code ({ cls := "OneCoin$Row", name := "worked", desc := "(IIILOneCoin$Asked;)I" } : Jvm.MethodName) prog_14_method_2_code (4 : Nat) (Option.some Jvm.ClassFile.FieldType.int)) ∈ lw_all := lw_g (lw_at lw_m4 153 rfl) rfl
theorem q1002 : (Jvm.Cond.selects "OneCoin$Row" ({ cls := "OneCoin$Sum", name := "told", desc := "(LOneCoin$Asked;)I" } : Jvm.MethodName) ({ cls := "OneCoin$Sum", name := "told", desc := "(LOneCoin$Asked;)I" } : Jvm.MethodName)) ∈ lw_all := lw_g (lw_at lw_m4 167 rfl) rfl
theorem q1905 : (Jvm.Cond.castable "OneCoin$Row" "OneCoin$Sum") ∈ lw_tbl := lw_at lw_m8 110 rfl
theorem in_X9 : ∀ w ∈ wsX90, w ∈ lw_all := lw_in wsX90 [619, 621, 623] (by decide +kernel) (by decide +kernel)
/-! OneCoin$Number -/
set_option maxRecDepth 100000
def RX10 : String := "OneCoin$Number"
def TX10 : u_T := fun k => match k with
  | _ => ("OneCoin$Number", "n", "I", true)
def tyX10 : Nat → FieldType := fun k => match k with
  | _ => .int
abbrev wsX100 : List Cond := u_ws RX10 TX10 1
theorem nmX10 : ∀ a, a < 1 → ∀ b, b < 1 → a ≠ b → (TX10 a).2.1 ≠ (TX10 b).2.1 := by decide +kernel
theorem tyX10_ok : ∀ k, k < 1 → parseFieldDescriptor (TX10 k).2.2.1 = some (tyX10 k) := by decide +kernel
abbrev cX10_init : ByteArray := prog_12_method_1_code
def yX10_init : MethodName := ⟨RX10, "<init>", "(I)V"⟩
def dkwX10_init_0 : List UInt8 := [42, 183, 0, 1, 42, 27, 181, 0, 7, 177]
abbrev dktX10_init_0 : List UInt8 := dkwX10_init_0 ++ []
theorem dksX10_init_0 : cX10_init.data.toList.drop 0 = dktX10_init_0 := by decide +kernel
theorem dX10_init_0 : decode cX10_init 0 = .ok (.aload_n 0, 1) := dk_42 (dk_at dksX10_init_0 0 rfl rfl)
theorem dX10_init_1 : decode cX10_init 1 = .ok (.invokespecial 1, 3) := dk_183 0 1 (dk_at dksX10_init_0 1 rfl rfl)
theorem dX10_init_4 : decode cX10_init 4 = .ok (.aload_n 0, 1) := dk_42 (dk_at dksX10_init_0 4 rfl rfl)
theorem dX10_init_5 : decode cX10_init 5 = .ok (.iload_n 1, 1) := dk_27 (dk_at dksX10_init_0 5 rfl rfl)
theorem dX10_init_6 : decode cX10_init 6 = .ok (.putfield 7, 3) := dk_181 0 7 (dk_at dksX10_init_0 6 rfl rfl)
theorem dX10_init_9 : decode cX10_init 9 = .ok (.return_, 1) := dk_177 (dk_at dksX10_init_0 9 rfl rfl)
abbrev cX10_worth : ByteArray := prog_12_method_2_code
def yX10_worth : MethodName := ⟨RX10, "worth", "(LOneCoin$Asked;)I"⟩
theorem dX10_worth_0 : decode cX10_worth 0 = .ok (.aload_n 0, 1) := by decide +kernel
theorem dX10_worth_1 : decode cX10_worth 1 = .ok (.getfield 7, 3) := by decide +kernel
theorem dX10_worth_4 : decode cX10_worth 4 = .ok (.ireturn, 1) := by decide +kernel
theorem q132 : (Jvm.Cond.initialized "OneCoin$Number") ∈ lw_all := lw_g (lw_at lw_m1 17 rfl) rfl
theorem q584 : (Jvm.Cond.instantiable "OneCoin$Number" (1 : Nat)) ∈ lw_all := lw_g (lw_at lw_m2 229 rfl) rfl
theorem q590 : (Jvm.Cond.instanceMethod ({ cls := "OneCoin$Number", name := "<init>", desc := "(I)V" } : Jvm.MethodName)) ∈ lw_all := lw_g (lw_at lw_m2 235 rfl) rfl
theorem q591 : (Jvm.Cond.code ({ cls := "OneCoin$Number", name := "<init>", desc := "(I)V" } : Jvm.MethodName) prog_12_method_1_code (2 : Nat) (Option.none : Option Jvm.ClassFile.FieldType)) ∈ lw_all := lw_g (lw_at lw_m2 236 rfl) rfl
theorem q592 : (Jvm.Cond.methodLinkNest "OneCoin$Number" (1 : Nat) ({ cls := "OneCoin$Sum", name := "<init>", desc := "()V" } : Jvm.MethodName) "OneCoin") ∈ lw_tbl := lw_at lw_m2 237 rfl
theorem q596 : (Jvm.Cond.fieldLink "OneCoin$Number" (7 : Nat) "OneCoin$Number" "n" "I") ∈ lw_all := lw_g (lw_at lw_m3 1 rfl) rfl
theorem q597 : (Jvm.Cond.laysFinal "OneCoin$Number" "OneCoin$Number" "n" "I") ∈ lw_all := lw_g (lw_at lw_m3 2 rfl) rfl
theorem q598 : (Jvm.Cond.soleField "OneCoin$Number" "n") ∈ lw_all := lw_g (lw_at lw_m3 3 rfl) rfl
theorem q599 : (Jvm.Cond.superclass "OneCoin$Number" "OneCoin$Sum") ∈ lw_all := lw_g (lw_at lw_m3 4 rfl) rfl
theorem q979 : (Jvm.Cond.selects "OneCoin$Number" ({ cls := "OneCoin$Sum", name := "worth", desc := "(LOneCoin$Asked;)I" } : Jvm.MethodName) ({ cls := "OneCoin$Number", name := "worth", desc := "(LOneCoin$Asked;)I" } : Jvm.MethodName)) ∈ lw_all := lw_g (lw_at lw_m4 144 rfl) rfl
theorem q980 : (Jvm.Cond.instanceMethod ({ cls := "OneCoin$Number", name := "worth", desc := "(LOneCoin$Asked;)I" } : Jvm.MethodName)) ∈ lw_all := lw_g (lw_at lw_m4 145 rfl) rfl
theorem q981 : (Jvm.Cond.code ({ cls := "OneCoin$Number", name := "worth", desc := "(LOneCoin$Asked;)I" } : Jvm.MethodName) prog_12_method_2_code (2 : Nat) (Option.some Jvm.ClassFile.FieldType.int)) ∈ lw_all := lw_g (lw_at lw_m4 146 rfl) rfl
theorem q1001 : (Jvm.Cond.selects "OneCoin$Number" ({ cls := "OneCoin$Sum", name := "told", desc := "(LOneCoin$Asked;)I" } : Jvm.MethodName) ({ cls := "OneCoin$Sum", name := "told", desc := "(LOneCoin$Asked;)I" } : Jvm.MethodName)) ∈ lw_all := lw_g (lw_at lw_m4 166 rfl) rfl
theorem q1906 : (Jvm.Cond.castable "OneCoin$Number" "OneCoin$Sum") ∈ lw_tbl := lw_at lw_m8 111 rfl
theorem in_X10 : ∀ w ∈ wsX100, w ∈ lw_all := lw_in wsX100 [597] (by decide +kernel) (by decide +kernel)
/-! OneCoin$Letter -/
set_option maxRecDepth 100000
def RX11 : String := "OneCoin$Letter"
def TX11 : u_T := fun k => match k with
  | _ => ("OneCoin$Letter", "letter", "I", true)
def tyX11 : Nat → FieldType := fun k => match k with
  | _ => .int
abbrev wsX110 : List Cond := u_ws RX11 TX11 1
theorem nmX11 : ∀ a, a < 1 → ∀ b, b < 1 → a ≠ b → (TX11 a).2.1 ≠ (TX11 b).2.1 := by decide +kernel
theorem tyX11_ok : ∀ k, k < 1 → parseFieldDescriptor (TX11 k).2.2.1 = some (tyX11 k) := by decide +kernel
abbrev cX11_init : ByteArray := prog_9_method_1_code
def yX11_init : MethodName := ⟨RX11, "<init>", "(I)V"⟩
def dkwX11_init_0 : List UInt8 := [42, 183, 0, 1, 42, 27, 181, 0, 7, 177]
abbrev dktX11_init_0 : List UInt8 := dkwX11_init_0 ++ []
theorem dksX11_init_0 : cX11_init.data.toList.drop 0 = dktX11_init_0 := by decide +kernel
theorem dX11_init_0 : decode cX11_init 0 = .ok (.aload_n 0, 1) := dk_42 (dk_at dksX11_init_0 0 rfl rfl)
theorem dX11_init_1 : decode cX11_init 1 = .ok (.invokespecial 1, 3) := dk_183 0 1 (dk_at dksX11_init_0 1 rfl rfl)
theorem dX11_init_4 : decode cX11_init 4 = .ok (.aload_n 0, 1) := dk_42 (dk_at dksX11_init_0 4 rfl rfl)
theorem dX11_init_5 : decode cX11_init 5 = .ok (.iload_n 1, 1) := dk_27 (dk_at dksX11_init_0 5 rfl rfl)
theorem dX11_init_6 : decode cX11_init 6 = .ok (.putfield 7, 3) := dk_181 0 7 (dk_at dksX11_init_0 6 rfl rfl)
theorem dX11_init_9 : decode cX11_init 9 = .ok (.return_, 1) := dk_177 (dk_at dksX11_init_0 9 rfl rfl)
abbrev cX11_worth : ByteArray := prog_9_method_2_code
def yX11_worth : MethodName := ⟨RX11, "worth", "(LOneCoin$Asked;)I"⟩
def dkwX11_worth_0 : List UInt8 := [43, 42, 180, 0, 7, 182, 0, 13, 172]
abbrev dktX11_worth_0 : List UInt8 := dkwX11_worth_0 ++ []
theorem dksX11_worth_0 : cX11_worth.data.toList.drop 0 = dktX11_worth_0 := by decide +kernel
theorem dX11_worth_0 : decode cX11_worth 0 = .ok (.aload_n 1, 1) := dk_43 (dk_at dksX11_worth_0 0 rfl rfl)
theorem dX11_worth_1 : decode cX11_worth 1 = .ok (.aload_n 0, 1) := dk_42 (dk_at dksX11_worth_0 1 rfl rfl)
theorem dX11_worth_2 : decode cX11_worth 2 = .ok (.getfield 7, 3) := dk_180 0 7 (dk_at dksX11_worth_0 2 rfl rfl)
theorem dX11_worth_5 : decode cX11_worth 5 = .ok (.invokevirtual 13, 3) := dk_182 0 13 (dk_at dksX11_worth_0 5 rfl rfl)
theorem dX11_worth_8 : decode cX11_worth 8 = .ok (.ireturn, 1) := dk_172 (dk_at dksX11_worth_0 8 rfl rfl)
theorem q133 : (Jvm.Cond.initialized "OneCoin$Letter") ∈ lw_all := lw_g (lw_at lw_m1 18 rfl) rfl
theorem q602 : (Jvm.Cond.instantiable "OneCoin$Letter" (1 : Nat)) ∈ lw_all := lw_g (lw_at lw_m3 7 rfl) rfl
theorem q604 : (Jvm.Cond.instanceMethod ({ cls := "OneCoin$Letter", name := "<init>", desc := "(I)V" } : Jvm.MethodName)) ∈ lw_all := lw_g (lw_at lw_m3 9 rfl) rfl
theorem q605 : (Jvm.Cond.code ({ cls := "OneCoin$Letter", name := "<init>", desc := "(I)V" } : Jvm.MethodName) prog_9_method_1_code (2 : Nat) (Option.none : Option Jvm.ClassFile.FieldType)) ∈ lw_all := lw_g (lw_at lw_m3 10 rfl) rfl
theorem q606 : (Jvm.Cond.methodLinkNest "OneCoin$Letter" (1 : Nat) ({ cls := "OneCoin$Sum", name := "<init>", desc := "()V" } : Jvm.MethodName) "OneCoin") ∈ lw_tbl := lw_at lw_m3 11 rfl
theorem q607 : (Jvm.Cond.fieldLink "OneCoin$Letter" (7 : Nat) "OneCoin$Letter" "letter" "I") ∈ lw_all := lw_g (lw_at lw_m3 12 rfl) rfl
theorem q608 : (Jvm.Cond.laysFinal "OneCoin$Letter" "OneCoin$Letter" "letter" "I") ∈ lw_all := lw_g (lw_at lw_m3 13 rfl) rfl
theorem q609 : (Jvm.Cond.soleField "OneCoin$Letter" "letter") ∈ lw_all := lw_g (lw_at lw_m3 14 rfl) rfl
theorem q610 : (Jvm.Cond.superclass "OneCoin$Letter" "OneCoin$Sum") ∈ lw_all := lw_g (lw_at lw_m3 15 rfl) rfl
theorem q970 : (Jvm.Cond.selects "OneCoin$Letter" ({ cls := "OneCoin$Sum", name := "worth", desc := "(LOneCoin$Asked;)I" } : Jvm.MethodName) ({ cls := "OneCoin$Letter", name := "worth", desc := "(LOneCoin$Asked;)I" } : Jvm.MethodName)) ∈ lw_all := lw_g (lw_at lw_m4 135 rfl) rfl
theorem q971 : (Jvm.Cond.instanceMethod ({ cls := "OneCoin$Letter", name := "worth", desc := "(LOneCoin$Asked;)I" } : Jvm.MethodName)) ∈ lw_all := lw_g (lw_at lw_m4 136 rfl) rfl
theorem q972 : (Jvm.Cond.code ({ cls := "OneCoin$Letter", name := "worth", desc := "(LOneCoin$Asked;)I" } : Jvm.MethodName) prog_9_method_2_code (2 : Nat) (Option.some Jvm.ClassFile.FieldType.int)) ∈ lw_all := lw_g (lw_at lw_m4 137 rfl) rfl
theorem q973 : (Jvm.Cond.methodLink "OneCoin$Letter" (13 : Nat) ({ cls := "OneCoin$Asked", name := "value", desc := "(I)I" } : Jvm.MethodName)) ∈ lw_all := lw_g (lw_at lw_m4 138 rfl) rfl
theorem q1000 : (Jvm.Cond.selects "OneCoin$Letter" ({ cls := "OneCoin$Sum", name := "told", desc := "(LOneCoin$Asked;)I" } : Jvm.MethodName) ({ cls := "OneCoin$Sum", name := "told", desc := "(LOneCoin$Asked;)I" } : Jvm.MethodName)) ∈ lw_all := lw_g (lw_at lw_m4 165 rfl) rfl
theorem q1907 : (Jvm.Cond.castable "OneCoin$Letter" "OneCoin$Sum") ∈ lw_tbl := lw_at lw_m8 112 rfl
theorem in_X11 : ∀ w ∈ wsX110, w ∈ lw_all := lw_in wsX110 [608] (by decide +kernel) (by decide +kernel)
/-! OneCoin$Condition -/
set_option maxRecDepth 100000
def RX12 : String := "OneCoin$Condition"
abbrev cX12_init : ByteArray := prog_5_method_1_code
def yX12_init : MethodName := ⟨RX12, "<init>", "()V"⟩
theorem dX12_init_0 : decode cX12_init 0 = .ok (.aload_n 0, 1) := by decide +kernel
theorem dX12_init_1 : decode cX12_init 1 = .ok (.invokespecial 1, 3) := by decide +kernel
theorem dX12_init_4 : decode cX12_init 4 = .ok (.return_, 1) := by decide +kernel
theorem q134 : (Jvm.Cond.initialized "OneCoin$Condition") ∈ lw_all := lw_g (lw_at lw_m1 19 rfl) rfl
theorem q646 : (Jvm.Cond.instanceMethod ({ cls := "OneCoin$Condition", name := "<init>", desc := "()V" } : Jvm.MethodName)) ∈ lw_all := lw_g (lw_at lw_m3 51 rfl) rfl
theorem q647 : (Jvm.Cond.code ({ cls := "OneCoin$Condition", name := "<init>", desc := "()V" } : Jvm.MethodName) prog_5_method_1_code (1 : Nat) (Option.none : Option Jvm.ClassFile.FieldType)) ∈ lw_all := lw_g (lw_at lw_m3 52 rfl) rfl
theorem q648 : (Jvm.Cond.methodLink "OneCoin$Condition" (1 : Nat) ({ cls := "java/lang/Object", name := "<init>", desc := "()V" } : Jvm.MethodName)) ∈ lw_all := lw_g (lw_at lw_m3 53 rfl) rfl
theorem q962 : (Jvm.Cond.declares ({ cls := "OneCoin$Condition", name := "holds", desc := "(LOneCoin$Asked;)I" } : Jvm.MethodName)) ∈ lw_tbl := lw_at lw_m4 127 rfl
theorem q963 : (Jvm.Cond.sameMethod "OneCoin$Condition" "OneCoin$Condition" "holds" "(LOneCoin$Asked;)I") ∈ lw_all := lw_g (lw_at lw_m4 128 rfl) rfl
/-! OneCoin$Some -/
set_option maxRecDepth 100000
def RX13 : String := "OneCoin$Some"
def TX13 : u_T := fun k => match k with
  | 0 => ("OneCoin$Some", "part", "LOneCoin$Condition;", true)
  | 1 => ("OneCoin$Some", "decides", "I", true)
  | _ => ("OneCoin$Some", "next", "LOneCoin$Some;", false)
def tyX13 : Nat → FieldType := fun k => match k with
  | 0 => .object "OneCoin$Condition"
  | 1 => .int
  | _ => .object "OneCoin$Some"
abbrev wsX130 : List Cond := u_ws RX13 TX13 3
theorem nmX13 : ∀ a, a < 3 → ∀ b, b < 3 → a ≠ b → (TX13 a).2.1 ≠ (TX13 b).2.1 := by decide +kernel
theorem tyX13_ok : ∀ k, k < 3 → parseFieldDescriptor (TX13 k).2.2.1 = some (tyX13 k) := by decide +kernel
abbrev cX13_init : ByteArray := prog_16_method_1_code
def yX13_init : MethodName := ⟨RX13, "<init>", "(LOneCoin$Condition;I)V"⟩
def dkwX13_init_0 : List UInt8 := [42, 183, 0, 1, 42, 43, 181, 0, 7, 42, 28, 181, 0, 13, 177]
abbrev dktX13_init_0 : List UInt8 := dkwX13_init_0 ++ []
theorem dksX13_init_0 : cX13_init.data.toList.drop 0 = dktX13_init_0 := by decide +kernel
theorem dX13_init_0 : decode cX13_init 0 = .ok (.aload_n 0, 1) := dk_42 (dk_at dksX13_init_0 0 rfl rfl)
theorem dX13_init_1 : decode cX13_init 1 = .ok (.invokespecial 1, 3) := dk_183 0 1 (dk_at dksX13_init_0 1 rfl rfl)
theorem dX13_init_4 : decode cX13_init 4 = .ok (.aload_n 0, 1) := dk_42 (dk_at dksX13_init_0 4 rfl rfl)
theorem dX13_init_5 : decode cX13_init 5 = .ok (.aload_n 1, 1) := dk_43 (dk_at dksX13_init_0 5 rfl rfl)
theorem dX13_init_6 : decode cX13_init 6 = .ok (.putfield 7, 3) := dk_181 0 7 (dk_at dksX13_init_0 6 rfl rfl)
theorem dX13_init_9 : decode cX13_init 9 = .ok (.aload_n 0, 1) := dk_42 (dk_at dksX13_init_0 9 rfl rfl)
theorem dX13_init_10 : decode cX13_init 10 = .ok (.iload_n 2, 1) := dk_28 (dk_at dksX13_init_0 10 rfl rfl)
theorem dX13_init_11 : decode cX13_init 11 = .ok (.putfield 13, 3) := dk_181 0 13 (dk_at dksX13_init_0 11 rfl rfl)
theorem dX13_init_14 : decode cX13_init 14 = .ok (.return_, 1) := dk_177 (dk_at dksX13_init_0 14 rfl rfl)
abbrev cX13_holds : ByteArray := prog_16_method_2_code
def yX13_holds : MethodName := ⟨RX13, "holds", "(LOneCoin$Asked;)I"⟩
def dkwX13_holds_1 : List UInt8 := [180, 0, 13, 160, 0, 5, 29, 172, 44, 180, 0, 21, 77, 167, 255, 223, 4, 42, 180, 0, 13, 100, 172]
abbrev dktX13_holds_1 : List UInt8 := dkwX13_holds_1 ++ []
def dkwX13_holds_0 : List UInt8 := [42, 77, 44, 198, 0, 35, 44, 180, 0, 7, 43, 182, 0, 17, 62, 29, 5, 159, 0, 11, 29, 42]
abbrev dktX13_holds_0 : List UInt8 := dkwX13_holds_0 ++ dktX13_holds_1
theorem dksX13_holds_0 : cX13_holds.data.toList.drop 0 = dktX13_holds_0 := by decide +kernel
theorem dksX13_holds_1 : cX13_holds.data.toList.drop 22 = dktX13_holds_1 := dk_seg dksX13_holds_0 22 rfl rfl
theorem dX13_holds_0 : decode cX13_holds 0 = .ok (.aload_n 0, 1) := dk_42 (dk_at dksX13_holds_0 0 rfl rfl)
theorem dX13_holds_1 : decode cX13_holds 1 = .ok (.astore_n 2, 1) := dk_77 (dk_at dksX13_holds_0 1 rfl rfl)
theorem dX13_holds_2 : decode cX13_holds 2 = .ok (.aload_n 2, 1) := dk_44 (dk_at dksX13_holds_0 2 rfl rfl)
theorem dX13_holds_3 : decode cX13_holds 3 = .ok (.ifnull 35, 3) := dk_198 0 35 (dk_at dksX13_holds_0 3 rfl rfl)
theorem dX13_holds_6 : decode cX13_holds 6 = .ok (.aload_n 2, 1) := dk_44 (dk_at dksX13_holds_0 6 rfl rfl)
theorem dX13_holds_7 : decode cX13_holds 7 = .ok (.getfield 7, 3) := dk_180 0 7 (dk_at dksX13_holds_0 7 rfl rfl)
theorem dX13_holds_10 : decode cX13_holds 10 = .ok (.aload_n 1, 1) := dk_43 (dk_at dksX13_holds_0 10 rfl rfl)
theorem dX13_holds_11 : decode cX13_holds 11 = .ok (.invokevirtual 17, 3) := dk_182 0 17 (dk_at dksX13_holds_0 11 rfl rfl)
theorem dX13_holds_14 : decode cX13_holds 14 = .ok (.istore_n 3, 1) := dk_62 (dk_at dksX13_holds_0 14 rfl rfl)
theorem dX13_holds_15 : decode cX13_holds 15 = .ok (.iload_n 3, 1) := dk_29 (dk_at dksX13_holds_0 15 rfl rfl)
theorem dX13_holds_16 : decode cX13_holds 16 = .ok (.iconst 2, 1) := dk_5 (dk_at dksX13_holds_0 16 rfl rfl)
theorem dX13_holds_17 : decode cX13_holds 17 = .ok (.if_icmp .eq 11, 3) := dk_159 0 11 (dk_at dksX13_holds_0 17 rfl rfl)
theorem dX13_holds_20 : decode cX13_holds 20 = .ok (.iload_n 3, 1) := dk_29 (dk_at dksX13_holds_0 20 rfl rfl)
theorem dX13_holds_21 : decode cX13_holds 21 = .ok (.aload_n 0, 1) := dk_42 (dk_at dksX13_holds_0 21 rfl rfl)
theorem dX13_holds_22 : decode cX13_holds 22 = .ok (.getfield 13, 3) := dk_180 0 13 (dk_at dksX13_holds_1 0 rfl rfl)
theorem dX13_holds_25 : decode cX13_holds 25 = .ok (.if_icmp .ne 5, 3) := dk_160 0 5 (dk_at dksX13_holds_1 3 rfl rfl)
theorem dX13_holds_28 : decode cX13_holds 28 = .ok (.iload_n 3, 1) := dk_29 (dk_at dksX13_holds_1 6 rfl rfl)
theorem dX13_holds_29 : decode cX13_holds 29 = .ok (.ireturn, 1) := dk_172 (dk_at dksX13_holds_1 7 rfl rfl)
theorem dX13_holds_30 : decode cX13_holds 30 = .ok (.aload_n 2, 1) := dk_44 (dk_at dksX13_holds_1 8 rfl rfl)
theorem dX13_holds_31 : decode cX13_holds 31 = .ok (.getfield 21, 3) := dk_180 0 21 (dk_at dksX13_holds_1 9 rfl rfl)
theorem dX13_holds_34 : decode cX13_holds 34 = .ok (.astore_n 2, 1) := dk_77 (dk_at dksX13_holds_1 12 rfl rfl)
theorem dX13_holds_35 : decode cX13_holds 35 = .ok (.goto (-33), 3) := dk_167 255 223 (dk_at dksX13_holds_1 13 rfl rfl)
theorem dX13_holds_38 : decode cX13_holds 38 = .ok (.iconst 1, 1) := dk_4 (dk_at dksX13_holds_1 16 rfl rfl)
theorem dX13_holds_39 : decode cX13_holds 39 = .ok (.aload_n 0, 1) := dk_42 (dk_at dksX13_holds_1 17 rfl rfl)
theorem dX13_holds_40 : decode cX13_holds 40 = .ok (.getfield 13, 3) := dk_180 0 13 (dk_at dksX13_holds_1 18 rfl rfl)
theorem dX13_holds_43 : decode cX13_holds 43 = .ok (.isub, 1) := dk_100 (dk_at dksX13_holds_1 21 rfl rfl)
theorem dX13_holds_44 : decode cX13_holds 44 = .ok (.ireturn, 1) := dk_172 (dk_at dksX13_holds_1 22 rfl rfl)
theorem q135 : (Jvm.Cond.initialized "OneCoin$Some") ∈ lw_all := lw_g (lw_at lw_m1 20 rfl) rfl
theorem q631 : (Jvm.Cond.instantiable "OneCoin$Some" (3 : Nat)) ∈ lw_all := lw_g (lw_at lw_m3 36 rfl) rfl
theorem q670 : (Jvm.Cond.instanceMethod ({ cls := "OneCoin$Some", name := "<init>", desc := "(LOneCoin$Condition;I)V" } : Jvm.MethodName)) ∈ lw_all := lw_g (lw_at lw_m3 75 rfl) rfl
theorem q671 : (Jvm.Cond.code ({ cls := "OneCoin$Some", name := "<init>", desc := "(LOneCoin$Condition;I)V" } : Jvm.MethodName) prog_16_method_1_code (3 : Nat) (Option.none : Option Jvm.ClassFile.FieldType)) ∈ lw_all := lw_g (lw_at lw_m3 76 rfl) rfl
theorem q672 : (Jvm.Cond.methodLinkNest "OneCoin$Some" (1 : Nat) ({ cls := "OneCoin$Condition", name := "<init>", desc := "()V" } : Jvm.MethodName) "OneCoin") ∈ lw_tbl := lw_at lw_m3 77 rfl
theorem q673 : (Jvm.Cond.fieldLink "OneCoin$Some" (7 : Nat) "OneCoin$Some" "part" "LOneCoin$Condition;") ∈ lw_all := lw_g (lw_at lw_m3 78 rfl) rfl
theorem q674 : (Jvm.Cond.fieldLink "OneCoin$Some" (13 : Nat) "OneCoin$Some" "decides" "I") ∈ lw_all := lw_g (lw_at lw_m3 79 rfl) rfl
theorem q675 : (Jvm.Cond.fieldLink "OneCoin$Some" (21 : Nat) "OneCoin$Some" "next" "LOneCoin$Some;") ∈ lw_all := lw_g (lw_at lw_m3 80 rfl) rfl
theorem q677 : (Jvm.Cond.laysFinal "OneCoin$Some" "OneCoin$Some" "part" "LOneCoin$Condition;") ∈ lw_all := lw_g (lw_at lw_m3 82 rfl) rfl
theorem q678 : (Jvm.Cond.soleField "OneCoin$Some" "part") ∈ lw_all := lw_g (lw_at lw_m3 83 rfl) rfl
theorem q679 : (Jvm.Cond.laysFinal "OneCoin$Some" "OneCoin$Some" "decides" "I") ∈ lw_all := lw_g (lw_at lw_m3 84 rfl) rfl
theorem q680 : (Jvm.Cond.soleField "OneCoin$Some" "decides") ∈ lw_all := lw_g (lw_at lw_m3 85 rfl) rfl
theorem q681 : (Jvm.Cond.lays "OneCoin$Some" "OneCoin$Some" "next" "LOneCoin$Some;") ∈ lw_all := lw_g (lw_at lw_m3 86 rfl) rfl
theorem q682 : (Jvm.Cond.soleField "OneCoin$Some" "next") ∈ lw_all := lw_g (lw_at lw_m3 87 rfl) rfl
theorem q683 : (Jvm.Cond.superclass "OneCoin$Some" "OneCoin$Condition") ∈ lw_all := lw_g (lw_at lw_m3 88 rfl) rfl
theorem q993 : (Jvm.Cond.instanceMethod ({ cls := "OneCoin$Some", name := "holds", desc := "(LOneCoin$Asked;)I" } : Jvm.MethodName)) ∈ lw_all := lw_g (lw_at lw_m4 158 rfl) rfl
theorem q994 : (Jvm.Cond.code ({ cls := "OneCoin$Some", name := "holds", desc := "(LOneCoin$Asked;)I" } : Jvm.MethodName) prog_16_method_2_code (4 : Nat) (Option.some Jvm.ClassFile.FieldType.int)) ∈ lw_all := lw_g (lw_at lw_m4 159 rfl) rfl
theorem q995 : (Jvm.Cond.methodLink "OneCoin$Some" (17 : Nat) ({ cls := "OneCoin$Condition", name := "holds", desc := "(LOneCoin$Asked;)I" } : Jvm.MethodName)) ∈ lw_all := lw_g (lw_at lw_m4 160 rfl) rfl
theorem q996 : (Jvm.Cond.selects "OneCoin$Some" ({ cls := "OneCoin$Condition", name := "holds", desc := "(LOneCoin$Asked;)I" } : Jvm.MethodName) ({ cls := "OneCoin$Some", name := "holds", desc := "(LOneCoin$Asked;)I" } : Jvm.MethodName)) ∈ lw_all := lw_g (lw_at lw_m4 161 rfl) rfl
theorem q1908 : (Jvm.Cond.castable "OneCoin$Some" "OneCoin$Condition") ∈ lw_tbl := lw_at lw_m8 113 rfl
theorem in_X13 : ∀ w ∈ wsX130, w ∈ lw_all := lw_in wsX130 [677, 679, 681] (by decide +kernel) (by decide +kernel)
/-! OneCoin$Not -/
set_option maxRecDepth 100000
def RX14 : String := "OneCoin$Not"
def TX14 : u_T := fun k => match k with
  | _ => ("OneCoin$Not", "x", "LOneCoin$Condition;", true)
def tyX14 : Nat → FieldType := fun k => match k with
  | _ => .object "OneCoin$Condition"
abbrev wsX140 : List Cond := u_ws RX14 TX14 1
theorem nmX14 : ∀ a, a < 1 → ∀ b, b < 1 → a ≠ b → (TX14 a).2.1 ≠ (TX14 b).2.1 := by decide +kernel
theorem tyX14_ok : ∀ k, k < 1 → parseFieldDescriptor (TX14 k).2.2.1 = some (tyX14 k) := by decide +kernel
abbrev cX14_init : ByteArray := prog_11_method_1_code
def yX14_init : MethodName := ⟨RX14, "<init>", "(LOneCoin$Condition;)V"⟩
def dkwX14_init_0 : List UInt8 := [42, 183, 0, 1, 42, 43, 181, 0, 7, 177]
abbrev dktX14_init_0 : List UInt8 := dkwX14_init_0 ++ []
theorem dksX14_init_0 : cX14_init.data.toList.drop 0 = dktX14_init_0 := by decide +kernel
theorem dX14_init_0 : decode cX14_init 0 = .ok (.aload_n 0, 1) := dk_42 (dk_at dksX14_init_0 0 rfl rfl)
theorem dX14_init_1 : decode cX14_init 1 = .ok (.invokespecial 1, 3) := dk_183 0 1 (dk_at dksX14_init_0 1 rfl rfl)
theorem dX14_init_4 : decode cX14_init 4 = .ok (.aload_n 0, 1) := dk_42 (dk_at dksX14_init_0 4 rfl rfl)
theorem dX14_init_5 : decode cX14_init 5 = .ok (.aload_n 1, 1) := dk_43 (dk_at dksX14_init_0 5 rfl rfl)
theorem dX14_init_6 : decode cX14_init 6 = .ok (.putfield 7, 3) := dk_181 0 7 (dk_at dksX14_init_0 6 rfl rfl)
theorem dX14_init_9 : decode cX14_init 9 = .ok (.return_, 1) := dk_177 (dk_at dksX14_init_0 9 rfl rfl)
abbrev cX14_holds : ByteArray := prog_11_method_2_code
def yX14_holds : MethodName := ⟨RX14, "holds", "(LOneCoin$Asked;)I"⟩
def dkwX14_holds_0 : List UInt8 := [42, 180, 0, 7, 43, 182, 0, 13, 61, 28, 5, 160, 0, 7, 5, 167, 0, 6, 4, 28, 100, 172]
abbrev dktX14_holds_0 : List UInt8 := dkwX14_holds_0 ++ []
theorem dksX14_holds_0 : cX14_holds.data.toList.drop 0 = dktX14_holds_0 := by decide +kernel
theorem dX14_holds_0 : decode cX14_holds 0 = .ok (.aload_n 0, 1) := dk_42 (dk_at dksX14_holds_0 0 rfl rfl)
theorem dX14_holds_1 : decode cX14_holds 1 = .ok (.getfield 7, 3) := dk_180 0 7 (dk_at dksX14_holds_0 1 rfl rfl)
theorem dX14_holds_4 : decode cX14_holds 4 = .ok (.aload_n 1, 1) := dk_43 (dk_at dksX14_holds_0 4 rfl rfl)
theorem dX14_holds_5 : decode cX14_holds 5 = .ok (.invokevirtual 13, 3) := dk_182 0 13 (dk_at dksX14_holds_0 5 rfl rfl)
theorem dX14_holds_8 : decode cX14_holds 8 = .ok (.istore_n 2, 1) := dk_61 (dk_at dksX14_holds_0 8 rfl rfl)
theorem dX14_holds_9 : decode cX14_holds 9 = .ok (.iload_n 2, 1) := dk_28 (dk_at dksX14_holds_0 9 rfl rfl)
theorem dX14_holds_10 : decode cX14_holds 10 = .ok (.iconst 2, 1) := dk_5 (dk_at dksX14_holds_0 10 rfl rfl)
theorem dX14_holds_11 : decode cX14_holds 11 = .ok (.if_icmp .ne 7, 3) := dk_160 0 7 (dk_at dksX14_holds_0 11 rfl rfl)
theorem dX14_holds_14 : decode cX14_holds 14 = .ok (.iconst 2, 1) := dk_5 (dk_at dksX14_holds_0 14 rfl rfl)
theorem dX14_holds_15 : decode cX14_holds 15 = .ok (.goto 6, 3) := dk_167 0 6 (dk_at dksX14_holds_0 15 rfl rfl)
theorem dX14_holds_18 : decode cX14_holds 18 = .ok (.iconst 1, 1) := dk_4 (dk_at dksX14_holds_0 18 rfl rfl)
theorem dX14_holds_19 : decode cX14_holds 19 = .ok (.iload_n 2, 1) := dk_28 (dk_at dksX14_holds_0 19 rfl rfl)
theorem dX14_holds_20 : decode cX14_holds 20 = .ok (.isub, 1) := dk_100 (dk_at dksX14_holds_0 20 rfl rfl)
theorem dX14_holds_21 : decode cX14_holds 21 = .ok (.ireturn, 1) := dk_172 (dk_at dksX14_holds_0 21 rfl rfl)
theorem q136 : (Jvm.Cond.initialized "OneCoin$Not") ∈ lw_all := lw_g (lw_at lw_m1 21 rfl) rfl
theorem q641 : (Jvm.Cond.instantiable "OneCoin$Not" (1 : Nat)) ∈ lw_all := lw_g (lw_at lw_m3 46 rfl) rfl
theorem q643 : (Jvm.Cond.instanceMethod ({ cls := "OneCoin$Not", name := "<init>", desc := "(LOneCoin$Condition;)V" } : Jvm.MethodName)) ∈ lw_all := lw_g (lw_at lw_m3 48 rfl) rfl
theorem q644 : (Jvm.Cond.code ({ cls := "OneCoin$Not", name := "<init>", desc := "(LOneCoin$Condition;)V" } : Jvm.MethodName) prog_11_method_1_code (2 : Nat) (Option.none : Option Jvm.ClassFile.FieldType)) ∈ lw_all := lw_g (lw_at lw_m3 49 rfl) rfl
theorem q645 : (Jvm.Cond.methodLinkNest "OneCoin$Not" (1 : Nat) ({ cls := "OneCoin$Condition", name := "<init>", desc := "()V" } : Jvm.MethodName) "OneCoin") ∈ lw_tbl := lw_at lw_m3 50 rfl
theorem q649 : (Jvm.Cond.fieldLink "OneCoin$Not" (7 : Nat) "OneCoin$Not" "x" "LOneCoin$Condition;") ∈ lw_all := lw_g (lw_at lw_m3 54 rfl) rfl
theorem q650 : (Jvm.Cond.laysFinal "OneCoin$Not" "OneCoin$Not" "x" "LOneCoin$Condition;") ∈ lw_all := lw_g (lw_at lw_m3 55 rfl) rfl
theorem q651 : (Jvm.Cond.soleField "OneCoin$Not" "x") ∈ lw_all := lw_g (lw_at lw_m3 56 rfl) rfl
theorem q652 : (Jvm.Cond.superclass "OneCoin$Not" "OneCoin$Condition") ∈ lw_all := lw_g (lw_at lw_m3 57 rfl) rfl
theorem q989 : (Jvm.Cond.selects "OneCoin$Not" ({ cls := "OneCoin$Condition", name := "holds", desc := "(LOneCoin$Asked;)I" } : Jvm.MethodName) ({ cls := "OneCoin$Not", name := "holds", desc := "(LOneCoin$Asked;)I" } : Jvm.MethodName)) ∈ lw_all := lw_g (lw_at lw_m4 154 rfl) rfl
theorem q990 : (Jvm.Cond.instanceMethod ({ cls := "OneCoin$Not", name := "holds", desc := "(LOneCoin$Asked;)I" } : Jvm.MethodName)) ∈ lw_all := lw_g (lw_at lw_m4 155 rfl) rfl
theorem q991 : (Jvm.Cond.code ({ cls := "OneCoin$Not", name := "holds", desc := "(LOneCoin$Asked;)I" } : Jvm.MethodName) prog_11_method_2_code (3 : Nat) (Option.some Jvm.ClassFile.FieldType.int)) ∈ lw_all := lw_g (lw_at lw_m4 156 rfl) rfl
theorem q992 : (Jvm.Cond.methodLink "OneCoin$Not" (13 : Nat) ({ cls := "OneCoin$Condition", name := "holds", desc := "(LOneCoin$Asked;)I" } : Jvm.MethodName)) ∈ lw_all := lw_g (lw_at lw_m4 157 rfl) rfl
theorem q1909 : (Jvm.Cond.castable "OneCoin$Not" "OneCoin$Condition") ∈ lw_tbl := lw_at lw_m8 114 rfl
theorem in_X14 : ∀ w ∈ wsX140, w ∈ lw_all := lw_in wsX140 [650] (by decide +kernel) (by decide +kernel)
/-! OneCoin$Compared -/
set_option maxRecDepth 100000
def RX15 : String := "OneCoin$Compared"
def TX15 : u_T := fun k => match k with
  | 0 => ("OneCoin$Compared", "x", "LOneCoin$Sum;", true)
  | 1 => ("OneCoin$Compared", "y", "LOneCoin$Sum;", true)
  | _ => ("OneCoin$Compared", "sign", "I", true)
def tyX15 : Nat → FieldType := fun k => match k with
  | 0 => .object "OneCoin$Sum"
  | 1 => .object "OneCoin$Sum"
  | _ => .int
abbrev wsX150 : List Cond := u_ws RX15 TX15 3
theorem nmX15 : ∀ a, a < 3 → ∀ b, b < 3 → a ≠ b → (TX15 a).2.1 ≠ (TX15 b).2.1 := by decide +kernel
theorem tyX15_ok : ∀ k, k < 3 → parseFieldDescriptor (TX15 k).2.2.1 = some (tyX15 k) := by decide +kernel
abbrev cX15_init : ByteArray := prog_4_method_1_code
def yX15_init : MethodName := ⟨RX15, "<init>", "(LOneCoin$Sum;ILOneCoin$Sum;)V"⟩
def dkwX15_init_0 : List UInt8 := [42, 183, 0, 1, 42, 43, 181, 0, 7, 42, 28, 181, 0, 13, 42, 45, 181, 0, 17, 177]
abbrev dktX15_init_0 : List UInt8 := dkwX15_init_0 ++ []
theorem dksX15_init_0 : cX15_init.data.toList.drop 0 = dktX15_init_0 := by decide +kernel
theorem dX15_init_0 : decode cX15_init 0 = .ok (.aload_n 0, 1) := dk_42 (dk_at dksX15_init_0 0 rfl rfl)
theorem dX15_init_1 : decode cX15_init 1 = .ok (.invokespecial 1, 3) := dk_183 0 1 (dk_at dksX15_init_0 1 rfl rfl)
theorem dX15_init_4 : decode cX15_init 4 = .ok (.aload_n 0, 1) := dk_42 (dk_at dksX15_init_0 4 rfl rfl)
theorem dX15_init_5 : decode cX15_init 5 = .ok (.aload_n 1, 1) := dk_43 (dk_at dksX15_init_0 5 rfl rfl)
theorem dX15_init_6 : decode cX15_init 6 = .ok (.putfield 7, 3) := dk_181 0 7 (dk_at dksX15_init_0 6 rfl rfl)
theorem dX15_init_9 : decode cX15_init 9 = .ok (.aload_n 0, 1) := dk_42 (dk_at dksX15_init_0 9 rfl rfl)
theorem dX15_init_10 : decode cX15_init 10 = .ok (.iload_n 2, 1) := dk_28 (dk_at dksX15_init_0 10 rfl rfl)
theorem dX15_init_11 : decode cX15_init 11 = .ok (.putfield 13, 3) := dk_181 0 13 (dk_at dksX15_init_0 11 rfl rfl)
theorem dX15_init_14 : decode cX15_init 14 = .ok (.aload_n 0, 1) := dk_42 (dk_at dksX15_init_0 14 rfl rfl)
theorem dX15_init_15 : decode cX15_init 15 = .ok (.aload_n 3, 1) := dk_45 (dk_at dksX15_init_0 15 rfl rfl)
theorem dX15_init_16 : decode cX15_init 16 = .ok (.putfield 17, 3) := dk_181 0 17 (dk_at dksX15_init_0 16 rfl rfl)
theorem dX15_init_19 : decode cX15_init 19 = .ok (.return_, 1) := dk_177 (dk_at dksX15_init_0 19 rfl rfl)
abbrev cX15_holds : ByteArray := prog_4_method_2_code
def yX15_holds : MethodName := ⟨RX15, "holds", "(LOneCoin$Asked;)I"⟩
def dkwX15_holds_4 : List UInt8 := [153, 0, 7, 4, 167, 0, 4, 3, 172]
abbrev dktX15_holds_4 : List UInt8 := dkwX15_holds_4 ++ []
def dkwX15_holds_3 : List UInt8 := [160, 0, 7, 4, 167, 0, 4, 3, 54, 4, 43, 180, 0, 20, 153, 0, 7, 5, 167, 0, 13, 21, 4]
abbrev dktX15_holds_3 : List UInt8 := dkwX15_holds_3 ++ dktX15_holds_4
def dkwX15_holds_2 : List UInt8 := [180, 0, 13, 16, 62, 160, 0, 16, 28, 29, 164, 0, 7, 4, 167, 0, 17, 3, 167, 0, 13, 28, 29]
abbrev dktX15_holds_2 : List UInt8 := dkwX15_holds_2 ++ dktX15_holds_3
def dkwX15_holds_1 : List UInt8 := [180, 0, 13, 16, 60, 160, 0, 16, 28, 29, 162, 0, 7, 4, 167, 0, 39, 3, 167, 0, 35, 42]
abbrev dktX15_holds_1 : List UInt8 := dkwX15_holds_1 ++ dktX15_holds_2
def dkwX15_holds_0 : List UInt8 := [43, 3, 181, 0, 20, 42, 180, 0, 7, 43, 182, 0, 26, 61, 42, 180, 0, 17, 43, 182, 0, 26, 62, 42]
abbrev dktX15_holds_0 : List UInt8 := dkwX15_holds_0 ++ dktX15_holds_1
theorem dksX15_holds_0 : cX15_holds.data.toList.drop 0 = dktX15_holds_0 := by decide +kernel
theorem dksX15_holds_1 : cX15_holds.data.toList.drop 24 = dktX15_holds_1 := dk_seg dksX15_holds_0 24 rfl rfl
theorem dksX15_holds_2 : cX15_holds.data.toList.drop 46 = dktX15_holds_2 := dk_seg dksX15_holds_1 22 rfl rfl
theorem dksX15_holds_3 : cX15_holds.data.toList.drop 69 = dktX15_holds_3 := dk_seg dksX15_holds_2 23 rfl rfl
theorem dksX15_holds_4 : cX15_holds.data.toList.drop 92 = dktX15_holds_4 := dk_seg dksX15_holds_3 23 rfl rfl
theorem dX15_holds_0 : decode cX15_holds 0 = .ok (.aload_n 1, 1) := dk_43 (dk_at dksX15_holds_0 0 rfl rfl)
theorem dX15_holds_1 : decode cX15_holds 1 = .ok (.iconst 0, 1) := dk_3 (dk_at dksX15_holds_0 1 rfl rfl)
theorem dX15_holds_2 : decode cX15_holds 2 = .ok (.putfield 20, 3) := dk_181 0 20 (dk_at dksX15_holds_0 2 rfl rfl)
theorem dX15_holds_5 : decode cX15_holds 5 = .ok (.aload_n 0, 1) := dk_42 (dk_at dksX15_holds_0 5 rfl rfl)
theorem dX15_holds_6 : decode cX15_holds 6 = .ok (.getfield 7, 3) := dk_180 0 7 (dk_at dksX15_holds_0 6 rfl rfl)
theorem dX15_holds_9 : decode cX15_holds 9 = .ok (.aload_n 1, 1) := dk_43 (dk_at dksX15_holds_0 9 rfl rfl)
theorem dX15_holds_10 : decode cX15_holds 10 = .ok (.invokevirtual 26, 3) := dk_182 0 26 (dk_at dksX15_holds_0 10 rfl rfl)
theorem dX15_holds_13 : decode cX15_holds 13 = .ok (.istore_n 2, 1) := dk_61 (dk_at dksX15_holds_0 13 rfl rfl)
theorem dX15_holds_14 : decode cX15_holds 14 = .ok (.aload_n 0, 1) := dk_42 (dk_at dksX15_holds_0 14 rfl rfl)
theorem dX15_holds_15 : decode cX15_holds 15 = .ok (.getfield 17, 3) := dk_180 0 17 (dk_at dksX15_holds_0 15 rfl rfl)
theorem dX15_holds_18 : decode cX15_holds 18 = .ok (.aload_n 1, 1) := dk_43 (dk_at dksX15_holds_0 18 rfl rfl)
theorem dX15_holds_19 : decode cX15_holds 19 = .ok (.invokevirtual 26, 3) := dk_182 0 26 (dk_at dksX15_holds_0 19 rfl rfl)
theorem dX15_holds_22 : decode cX15_holds 22 = .ok (.istore_n 3, 1) := dk_62 (dk_at dksX15_holds_0 22 rfl rfl)
theorem dX15_holds_23 : decode cX15_holds 23 = .ok (.aload_n 0, 1) := dk_42 (dk_at dksX15_holds_0 23 rfl rfl)
theorem dX15_holds_24 : decode cX15_holds 24 = .ok (.getfield 13, 3) := dk_180 0 13 (dk_at dksX15_holds_1 0 rfl rfl)
theorem dX15_holds_27 : decode cX15_holds 27 = .ok (.bipush 60, 2) := dk_16 60 (dk_at dksX15_holds_1 3 rfl rfl)
theorem dX15_holds_29 : decode cX15_holds 29 = .ok (.if_icmp .ne 16, 3) := dk_160 0 16 (dk_at dksX15_holds_1 5 rfl rfl)
theorem dX15_holds_32 : decode cX15_holds 32 = .ok (.iload_n 2, 1) := dk_28 (dk_at dksX15_holds_1 8 rfl rfl)
theorem dX15_holds_33 : decode cX15_holds 33 = .ok (.iload_n 3, 1) := dk_29 (dk_at dksX15_holds_1 9 rfl rfl)
theorem dX15_holds_34 : decode cX15_holds 34 = .ok (.if_icmp .ge 7, 3) := dk_162 0 7 (dk_at dksX15_holds_1 10 rfl rfl)
theorem dX15_holds_37 : decode cX15_holds 37 = .ok (.iconst 1, 1) := dk_4 (dk_at dksX15_holds_1 13 rfl rfl)
theorem dX15_holds_38 : decode cX15_holds 38 = .ok (.goto 39, 3) := dk_167 0 39 (dk_at dksX15_holds_1 14 rfl rfl)
theorem dX15_holds_41 : decode cX15_holds 41 = .ok (.iconst 0, 1) := dk_3 (dk_at dksX15_holds_1 17 rfl rfl)
theorem dX15_holds_42 : decode cX15_holds 42 = .ok (.goto 35, 3) := dk_167 0 35 (dk_at dksX15_holds_1 18 rfl rfl)
theorem dX15_holds_45 : decode cX15_holds 45 = .ok (.aload_n 0, 1) := dk_42 (dk_at dksX15_holds_1 21 rfl rfl)
theorem dX15_holds_46 : decode cX15_holds 46 = .ok (.getfield 13, 3) := dk_180 0 13 (dk_at dksX15_holds_2 0 rfl rfl)
theorem dX15_holds_49 : decode cX15_holds 49 = .ok (.bipush 62, 2) := dk_16 62 (dk_at dksX15_holds_2 3 rfl rfl)
theorem dX15_holds_51 : decode cX15_holds 51 = .ok (.if_icmp .ne 16, 3) := dk_160 0 16 (dk_at dksX15_holds_2 5 rfl rfl)
theorem dX15_holds_54 : decode cX15_holds 54 = .ok (.iload_n 2, 1) := dk_28 (dk_at dksX15_holds_2 8 rfl rfl)
theorem dX15_holds_55 : decode cX15_holds 55 = .ok (.iload_n 3, 1) := dk_29 (dk_at dksX15_holds_2 9 rfl rfl)
theorem dX15_holds_56 : decode cX15_holds 56 = .ok (.if_icmp .le 7, 3) := dk_164 0 7 (dk_at dksX15_holds_2 10 rfl rfl)
theorem dX15_holds_59 : decode cX15_holds 59 = .ok (.iconst 1, 1) := dk_4 (dk_at dksX15_holds_2 13 rfl rfl)
theorem dX15_holds_60 : decode cX15_holds 60 = .ok (.goto 17, 3) := dk_167 0 17 (dk_at dksX15_holds_2 14 rfl rfl)
theorem dX15_holds_63 : decode cX15_holds 63 = .ok (.iconst 0, 1) := dk_3 (dk_at dksX15_holds_2 17 rfl rfl)
theorem dX15_holds_64 : decode cX15_holds 64 = .ok (.goto 13, 3) := dk_167 0 13 (dk_at dksX15_holds_2 18 rfl rfl)
theorem dX15_holds_67 : decode cX15_holds 67 = .ok (.iload_n 2, 1) := dk_28 (dk_at dksX15_holds_2 21 rfl rfl)
theorem dX15_holds_68 : decode cX15_holds 68 = .ok (.iload_n 3, 1) := dk_29 (dk_at dksX15_holds_2 22 rfl rfl)
theorem dX15_holds_69 : decode cX15_holds 69 = .ok (.if_icmp .ne 7, 3) := dk_160 0 7 (dk_at dksX15_holds_3 0 rfl rfl)
theorem dX15_holds_72 : decode cX15_holds 72 = .ok (.iconst 1, 1) := dk_4 (dk_at dksX15_holds_3 3 rfl rfl)
theorem dX15_holds_73 : decode cX15_holds 73 = .ok (.goto 4, 3) := dk_167 0 4 (dk_at dksX15_holds_3 4 rfl rfl)
theorem dX15_holds_76 : decode cX15_holds 76 = .ok (.iconst 0, 1) := dk_3 (dk_at dksX15_holds_3 7 rfl rfl)
theorem dX15_holds_77 : decode cX15_holds 77 = .ok (.istore 4, 2) := dk_54 4 (dk_at dksX15_holds_3 8 rfl rfl)
theorem dX15_holds_79 : decode cX15_holds 79 = .ok (.aload_n 1, 1) := dk_43 (dk_at dksX15_holds_3 10 rfl rfl)
theorem dX15_holds_80 : decode cX15_holds 80 = .ok (.getfield 20, 3) := dk_180 0 20 (dk_at dksX15_holds_3 11 rfl rfl)
theorem dX15_holds_83 : decode cX15_holds 83 = .ok (.ifCond .eq 7, 3) := dk_153 0 7 (dk_at dksX15_holds_3 14 rfl rfl)
theorem dX15_holds_86 : decode cX15_holds 86 = .ok (.iconst 2, 1) := dk_5 (dk_at dksX15_holds_3 17 rfl rfl)
theorem dX15_holds_87 : decode cX15_holds 87 = .ok (.goto 13, 3) := dk_167 0 13 (dk_at dksX15_holds_3 18 rfl rfl)
theorem dX15_holds_90 : decode cX15_holds 90 = .ok (.iload 4, 2) := dk_21 4 (dk_at dksX15_holds_3 21 rfl rfl)
theorem dX15_holds_92 : decode cX15_holds 92 = .ok (.ifCond .eq 7, 3) := dk_153 0 7 (dk_at dksX15_holds_4 0 rfl rfl)
theorem dX15_holds_95 : decode cX15_holds 95 = .ok (.iconst 1, 1) := dk_4 (dk_at dksX15_holds_4 3 rfl rfl)
theorem dX15_holds_96 : decode cX15_holds 96 = .ok (.goto 4, 3) := dk_167 0 4 (dk_at dksX15_holds_4 4 rfl rfl)
theorem dX15_holds_99 : decode cX15_holds 99 = .ok (.iconst 0, 1) := dk_3 (dk_at dksX15_holds_4 7 rfl rfl)
theorem dX15_holds_100 : decode cX15_holds 100 = .ok (.ireturn, 1) := dk_172 (dk_at dksX15_holds_4 8 rfl rfl)
theorem q137 : (Jvm.Cond.initialized "OneCoin$Compared") ∈ lw_all := lw_g (lw_at lw_m1 22 rfl) rfl
theorem q168 : (Jvm.Cond.fieldLinkNest "OneCoin$Compared" (20 : Nat) "OneCoin$Asked" "isRefused" "Z" "OneCoin") ∈ lw_tbl := lw_at lw_m1 53 rfl
theorem q654 : (Jvm.Cond.instantiable "OneCoin$Compared" (3 : Nat)) ∈ lw_all := lw_g (lw_at lw_m3 59 rfl) rfl
theorem q656 : (Jvm.Cond.instanceMethod ({ cls := "OneCoin$Compared", name := "<init>", desc := "(LOneCoin$Sum;ILOneCoin$Sum;)V" } : Jvm.MethodName)) ∈ lw_all := lw_g (lw_at lw_m3 61 rfl) rfl
theorem q657 : (Jvm.Cond.code ({ cls := "OneCoin$Compared", name := "<init>", desc := "(LOneCoin$Sum;ILOneCoin$Sum;)V" } : Jvm.MethodName) prog_4_method_1_code (4 : Nat) (Option.none : Option Jvm.ClassFile.FieldType)) ∈ lw_all := lw_g (lw_at lw_m3 62 rfl) rfl
theorem q658 : (Jvm.Cond.methodLinkNest "OneCoin$Compared" (1 : Nat) ({ cls := "OneCoin$Condition", name := "<init>", desc := "()V" } : Jvm.MethodName) "OneCoin") ∈ lw_tbl := lw_at lw_m3 63 rfl
theorem q659 : (Jvm.Cond.fieldLink "OneCoin$Compared" (7 : Nat) "OneCoin$Compared" "x" "LOneCoin$Sum;") ∈ lw_all := lw_g (lw_at lw_m3 64 rfl) rfl
theorem q660 : (Jvm.Cond.fieldLink "OneCoin$Compared" (17 : Nat) "OneCoin$Compared" "y" "LOneCoin$Sum;") ∈ lw_all := lw_g (lw_at lw_m3 65 rfl) rfl
theorem q661 : (Jvm.Cond.fieldLink "OneCoin$Compared" (13 : Nat) "OneCoin$Compared" "sign" "I") ∈ lw_all := lw_g (lw_at lw_m3 66 rfl) rfl
theorem q662 : (Jvm.Cond.laysFinal "OneCoin$Compared" "OneCoin$Compared" "x" "LOneCoin$Sum;") ∈ lw_all := lw_g (lw_at lw_m3 67 rfl) rfl
theorem q663 : (Jvm.Cond.soleField "OneCoin$Compared" "x") ∈ lw_all := lw_g (lw_at lw_m3 68 rfl) rfl
theorem q664 : (Jvm.Cond.laysFinal "OneCoin$Compared" "OneCoin$Compared" "y" "LOneCoin$Sum;") ∈ lw_all := lw_g (lw_at lw_m3 69 rfl) rfl
theorem q665 : (Jvm.Cond.soleField "OneCoin$Compared" "y") ∈ lw_all := lw_g (lw_at lw_m3 70 rfl) rfl
theorem q666 : (Jvm.Cond.laysFinal "OneCoin$Compared" "OneCoin$Compared" "sign" "I") ∈ lw_all := lw_g (lw_at lw_m3 71 rfl) rfl
theorem q667 : (Jvm.Cond.soleField "OneCoin$Compared" "sign") ∈ lw_all := lw_g (lw_at lw_m3 72 rfl) rfl
theorem q668 : (Jvm.Cond.superclass "OneCoin$Compared" "OneCoin$Condition") ∈ lw_all := lw_g (lw_at lw_m3 73 rfl) rfl
theorem q964 : (Jvm.Cond.selects "OneCoin$Compared" ({ cls := "OneCoin$Condition", name := "holds", desc := "(LOneCoin$Asked;)I" } : Jvm.MethodName) ({ cls := "OneCoin$Compared", name := "holds", desc := "(LOneCoin$Asked;)I" } : Jvm.MethodName)) ∈ lw_all := lw_g (lw_at lw_m4 129 rfl) rfl
theorem q965 : (Jvm.Cond.instanceMethod ({ cls := "OneCoin$Compared", name := "holds", desc := "(LOneCoin$Asked;)I" } : Jvm.MethodName)) ∈ lw_all := lw_g (lw_at lw_m4 130 rfl) rfl
theorem q966 : (Jvm.Cond.code ({ cls := "OneCoin$Compared", name := "holds", desc := "(LOneCoin$Asked;)I" } : Jvm.MethodName) prog_4_method_2_code (5 : Nat) (Option.some Jvm.ClassFile.FieldType.int)) ∈ lw_all := lw_g (lw_at lw_m4 131 rfl) rfl
theorem q967 : (Jvm.Cond.methodLink "OneCoin$Compared" (26 : Nat) ({ cls := "OneCoin$Sum", name := "worth", desc := "(LOneCoin$Asked;)I" } : Jvm.MethodName)) ∈ lw_all := lw_g (lw_at lw_m4 132 rfl) rfl
theorem q1910 : (Jvm.Cond.castable "OneCoin$Compared" "OneCoin$Condition") ∈ lw_tbl := lw_at lw_m8 115 rfl
theorem in_X15 : ∀ w ∈ wsX150, w ∈ lw_all := lw_in wsX150 [662, 664, 666] (by decide +kernel) (by decide +kernel)
theorem q192 : (Jvm.Cond.arrayClass Jvm.ClassFile.FieldType.int) ∈ lw_all := lw_g (lw_at lw_m1 77 rfl) rfl
set_option maxRecDepth 100000
theorem q206 : (Jvm.Cond.arrayOver (Jvm.ClassFile.FieldType.array Jvm.ClassFile.FieldType.int)) ∈ lw_tbl := lw_at lw_m1 91 rfl
theorem q286 : (Jvm.Cond.arrayOver (Jvm.ClassFile.FieldType.object "OneCoin$Sum")) ∈ lw_tbl := lw_at lw_m1 171 rfl
theorem q288 : (Jvm.Cond.arrayOver (Jvm.ClassFile.FieldType.object "OneCoin$Condition")) ∈ lw_tbl := lw_at lw_m1 173 rfl
theorem q307 : (Jvm.Cond.arrayClass Jvm.ClassFile.FieldType.byte) ∈ lw_all := lw_g (lw_at lw_m1 192 rfl) rfl
theorem q115 : (Jvm.Cond.initialized "OneCoinLaw") ∈ lw_all := lw_g (lw_at lw_m1 0 rfl) rfl
set_option maxRecDepth 100000
theorem q142 : (Jvm.Cond.classLink "OneCoinLaw" (7 : Nat) "OneCoin") ∈ lw_all := lw_g (lw_at lw_m1 27 rfl) rfl
theorem q144 : (Jvm.Cond.methodLink "OneCoinLaw" (9 : Nat) ({ cls := "OneCoin", name := "<init>", desc := "()V" } : Jvm.MethodName)) ∈ lw_all := lw_g (lw_at lw_m1 29 rfl) rfl
theorem q382 : (Jvm.Cond.methodLink "OneCoinLaw" (13 : Nat) ({ cls := "OneCoin", name := "person", desc := "(III)Z" } : Jvm.MethodName)) ∈ lw_all := lw_g (lw_at lw_m2 27 rfl) rfl
theorem q389 : (Jvm.Cond.methodLink "OneCoinLaw" (18 : Nat) ({ cls := "OneCoin", name := "debt", desc := "(III)Z" } : Jvm.MethodName)) ∈ lw_all := lw_g (lw_at lw_m2 34 rfl) rfl
theorem q403 : (Jvm.Cond.methodLink "OneCoinLaw" (22 : Nat) ({ cls := "OneCoin", name := "coin", desc := "(I)Z" } : Jvm.MethodName)) ∈ lw_all := lw_g (lw_at lw_m2 48 rfl) rfl
theorem q407 : (Jvm.Cond.methodLink "OneCoinLaw" (27 : Nat) ({ cls := "OneCoin", name := "feed", desc := "(IIIII)I" } : Jvm.MethodName)) ∈ lw_all := lw_g (lw_at lw_m2 52 rfl) rfl
theorem q415 : (Jvm.Cond.methodLink "OneCoinLaw" (32 : Nat) ({ cls := "OneCoin", name := "law", desc := "(I)I" } : Jvm.MethodName)) ∈ lw_all := lw_g (lw_at lw_m2 60 rfl) rfl
theorem q684 : (Jvm.Cond.methodLink "OneCoinLaw" (37 : Nat) ({ cls := "OneCoin", name := "debts", desc := "(I)I" } : Jvm.MethodName)) ∈ lw_all := lw_g (lw_at lw_m3 89 rfl) rfl
theorem q818 : (Jvm.Cond.methodLink "OneCoinLaw" (62 : Nat) ({ cls := "OneCoin", name := "route", desc := "(II)I" } : Jvm.MethodName)) ∈ lw_all := lw_g (lw_at lw_m3 223 rfl) rfl
theorem q916 : (Jvm.Cond.methodLink "OneCoinLaw" (66 : Nat) ({ cls := "OneCoin", name := "walk", desc := "(I)I" } : Jvm.MethodName)) ∈ lw_all := lw_g (lw_at lw_m4 81 rfl) rfl
theorem q920 : (Jvm.Cond.methodLink "OneCoinLaw" (41 : Nat) ({ cls := "OneCoin", name := "hours", desc := "(I)I" } : Jvm.MethodName)) ∈ lw_all := lw_g (lw_at lw_m4 85 rfl) rfl
theorem q1054 : (Jvm.Cond.methodLink "OneCoinLaw" (45 : Nat) ({ cls := "OneCoin", name := "tried", desc := "(II)I" } : Jvm.MethodName)) ∈ lw_all := lw_g (lw_at lw_m4 219 rfl) rfl
theorem q1059 : (Jvm.Cond.methodLink "OneCoinLaw" (50 : Nat) ({ cls := "OneCoin", name := "personIs", desc := "(II)I" } : Jvm.MethodName)) ∈ lw_all := lw_g (lw_at lw_m4 224 rfl) rfl
theorem q1069 : (Jvm.Cond.methodLink "OneCoinLaw" (54 : Nat) ({ cls := "OneCoin", name := "owes", desc := "(II)I" } : Jvm.MethodName)) ∈ lw_all := lw_g (lw_at lw_m4 234 rfl) rfl
theorem q1077 : (Jvm.Cond.methodLink "OneCoinLaw" (58 : Nat) ({ cls := "OneCoin", name := "likes", desc := "(II)I" } : Jvm.MethodName)) ∈ lw_all := lw_g (lw_at lw_m5 2 rfl) rfl
theorem q1082 : (Jvm.Cond.methodLink "OneCoinLaw" (70 : Nat) ({ cls := "OneCoin", name := "tour", desc := "(I)I" } : Jvm.MethodName)) ∈ lw_all := lw_g (lw_at lw_m5 7 rfl) rfl
theorem q1109 : (Jvm.Cond.methodLink "OneCoinLaw" (74 : Nat) ({ cls := "OneCoin", name := "most", desc := "(I)I" } : Jvm.MethodName)) ∈ lw_all := lw_g (lw_at lw_m5 34 rfl) rfl
theorem q1117 : (Jvm.Cond.methodLink "OneCoinLaw" (78 : Nat) ({ cls := "OneCoin", name := "back", desc := "(II)I" } : Jvm.MethodName)) ∈ lw_all := lw_g (lw_at lw_m5 42 rfl) rfl
theorem q1126 : (Jvm.Cond.methodLink "OneCoinLaw" (82 : Nat) ({ cls := "OneCoin", name := "even", desc := "(I)I" } : Jvm.MethodName)) ∈ lw_all := lw_g (lw_at lw_m5 51 rfl) rfl
theorem q1146 : (Jvm.Cond.methodLink "OneCoinLaw" (86 : Nat) ({ cls := "OneCoin", name := "turned", desc := "(I)I" } : Jvm.MethodName)) ∈ lw_all := lw_g (lw_at lw_m5 71 rfl) rfl
theorem q1164 : (Jvm.Cond.methodLink "OneCoinLaw" (90 : Nat) ({ cls := "OneCoin", name := "setOff", desc := "(I)I" } : Jvm.MethodName)) ∈ lw_all := lw_g (lw_at lw_m5 89 rfl) rfl
theorem q1169 : (Jvm.Cond.methodLink "OneCoinLaw" (94 : Nat) ({ cls := "OneCoin", name := "fewest", desc := "()I" } : Jvm.MethodName)) ∈ lw_all := lw_g (lw_at lw_m5 94 rfl) rfl
theorem q1177 : (Jvm.Cond.methodLink "OneCoinLaw" (99 : Nat) ({ cls := "OneCoin", name := "rings", desc := "(I)I" } : Jvm.MethodName)) ∈ lw_all := lw_g (lw_at lw_m5 102 rfl) rfl
theorem q1190 : (Jvm.Cond.methodLink "OneCoinLaw" (103 : Nat) ({ cls := "OneCoin", name := "off", desc := "()I" } : Jvm.MethodName)) ∈ lw_all := lw_g (lw_at lw_m5 115 rfl) rfl
theorem q1194 : (Jvm.Cond.methodLink "OneCoinLaw" (107 : Nat) ({ cls := "OneCoin", name := "when", desc := "(II)I" } : Jvm.MethodName)) ∈ lw_all := lw_g (lw_at lw_m5 119 rfl) rfl
theorem q1200 : (Jvm.Cond.methodLink "OneCoinLaw" (111 : Nat) ({ cls := "OneCoin", name := "wedding", desc := "(III)I" } : Jvm.MethodName)) ∈ lw_all := lw_g (lw_at lw_m5 125 rfl) rfl
theorem q1204 : (Jvm.Cond.methodLink "OneCoinLaw" (116 : Nat) ({ cls := "OneCoin", name := "longest", desc := "()I" } : Jvm.MethodName)) ∈ lw_all := lw_g (lw_at lw_m5 129 rfl) rfl
theorem q1208 : (Jvm.Cond.methodLink "OneCoinLaw" (120 : Nat) ({ cls := "OneCoin", name := "chalk", desc := "(I)I" } : Jvm.MethodName)) ∈ lw_all := lw_g (lw_at lw_m5 133 rfl) rfl
theorem q1217 : (Jvm.Cond.methodLink "OneCoinLaw" (124 : Nat) ({ cls := "OneCoin", name := "two", desc := "(I)I" } : Jvm.MethodName)) ∈ lw_all := lw_g (lw_at lw_m5 142 rfl) rfl
theorem q1229 : (Jvm.Cond.methodLink "OneCoinLaw" (128 : Nat) ({ cls := "OneCoin", name := "dry", desc := "(II)I" } : Jvm.MethodName)) ∈ lw_all := lw_g (lw_at lw_m5 154 rfl) rfl
theorem q1237 : (Jvm.Cond.methodLink "OneCoinLaw" (132 : Nat) ({ cls := "OneCoin", name := "seed", desc := "(I)Z" } : Jvm.MethodName)) ∈ lw_all := lw_g (lw_at lw_m5 162 rfl) rfl
theorem q1242 : (Jvm.Cond.methodLink "OneCoinLaw" (136 : Nat) ({ cls := "OneCoin", name := "keep", desc := "()I" } : Jvm.MethodName)) ∈ lw_all := lw_g (lw_at lw_m5 167 rfl) rfl
theorem q1246 : (Jvm.Cond.methodLink "OneCoinLaw" (140 : Nat) ({ cls := "OneCoin", name := "undo", desc := "()Z" } : Jvm.MethodName)) ∈ lw_all := lw_g (lw_at lw_m5 171 rfl) rfl
theorem q1250 : (Jvm.Cond.methodLink "OneCoinLaw" (145 : Nat) ({ cls := "OneCoin", name := "check", desc := "(I)I" } : Jvm.MethodName)) ∈ lw_all := lw_g (lw_at lw_m5 175 rfl) rfl
theorem q1254 : (Jvm.Cond.methodLink "OneCoinLaw" (149 : Nat) ({ cls := "OneCoin", name := "count", desc := "(I)I" } : Jvm.MethodName)) ∈ lw_all := lw_g (lw_at lw_m5 179 rfl) rfl
theorem q1258 : (Jvm.Cond.classLink "OneCoinLaw" (10 : Nat) "OneCoinModel") ∈ lw_all := lw_g (lw_at lw_m5 183 rfl) rfl
theorem q1260 : (Jvm.Cond.methodLink "OneCoinLaw" (12 : Nat) ({ cls := "OneCoinModel", name := "<init>", desc := "()V" } : Jvm.MethodName)) ∈ lw_all := lw_g (lw_at lw_m5 185 rfl) rfl
theorem q1452 : (Jvm.Cond.methodLink "OneCoinLaw" (17 : Nat) ({ cls := "OneCoinModel", name := "person", desc := "(III)Z" } : Jvm.MethodName)) ∈ lw_all := lw_g (lw_at lw_m6 137 rfl) rfl
theorem q1459 : (Jvm.Cond.methodLink "OneCoinLaw" (21 : Nat) ({ cls := "OneCoinModel", name := "debt", desc := "(III)Z" } : Jvm.MethodName)) ∈ lw_all := lw_g (lw_at lw_m6 144 rfl) rfl
theorem q1474 : (Jvm.Cond.methodLink "OneCoinLaw" (26 : Nat) ({ cls := "OneCoinModel", name := "coin", desc := "(I)Z" } : Jvm.MethodName)) ∈ lw_all := lw_g (lw_at lw_m6 159 rfl) rfl
theorem q1482 : (Jvm.Cond.methodLink "OneCoinLaw" (31 : Nat) ({ cls := "OneCoinModel", name := "feed", desc := "(IIIII)I" } : Jvm.MethodName)) ∈ lw_all := lw_g (lw_at lw_m6 167 rfl) rfl
theorem q1490 : (Jvm.Cond.methodLink "OneCoinLaw" (36 : Nat) ({ cls := "OneCoinModel", name := "law", desc := "(I)I" } : Jvm.MethodName)) ∈ lw_all := lw_g (lw_at lw_m6 175 rfl) rfl
theorem q1573 : (Jvm.Cond.methodLink "OneCoinLaw" (40 : Nat) ({ cls := "OneCoinModel", name := "debts", desc := "(I)I" } : Jvm.MethodName)) ∈ lw_all := lw_g (lw_at lw_m7 18 rfl) rfl
theorem q1600 : (Jvm.Cond.methodLink "OneCoinLaw" (44 : Nat) ({ cls := "OneCoinModel", name := "hours", desc := "(I)I" } : Jvm.MethodName)) ∈ lw_all := lw_g (lw_at lw_m7 45 rfl) rfl
theorem q1686 : (Jvm.Cond.methodLink "OneCoinLaw" (49 : Nat) ({ cls := "OneCoinModel", name := "tried", desc := "(II)I" } : Jvm.MethodName)) ∈ lw_all := lw_g (lw_at lw_m7 131 rfl) rfl
theorem q1693 : (Jvm.Cond.methodLink "OneCoinLaw" (53 : Nat) ({ cls := "OneCoinModel", name := "personIs", desc := "(II)I" } : Jvm.MethodName)) ∈ lw_all := lw_g (lw_at lw_m7 138 rfl) rfl
theorem q1701 : (Jvm.Cond.methodLink "OneCoinLaw" (57 : Nat) ({ cls := "OneCoinModel", name := "owes", desc := "(II)I" } : Jvm.MethodName)) ∈ lw_all := lw_g (lw_at lw_m7 146 rfl) rfl
theorem q1705 : (Jvm.Cond.methodLink "OneCoinLaw" (61 : Nat) ({ cls := "OneCoinModel", name := "likes", desc := "(II)I" } : Jvm.MethodName)) ∈ lw_all := lw_g (lw_at lw_m7 150 rfl) rfl
theorem q1709 : (Jvm.Cond.methodLink "OneCoinLaw" (65 : Nat) ({ cls := "OneCoinModel", name := "route", desc := "(II)I" } : Jvm.MethodName)) ∈ lw_all := lw_g (lw_at lw_m7 154 rfl) rfl
theorem q1733 : (Jvm.Cond.methodLink "OneCoinLaw" (69 : Nat) ({ cls := "OneCoinModel", name := "walk", desc := "(I)I" } : Jvm.MethodName)) ∈ lw_all := lw_g (lw_at lw_m7 178 rfl) rfl
theorem q1737 : (Jvm.Cond.methodLink "OneCoinLaw" (73 : Nat) ({ cls := "OneCoinModel", name := "tour", desc := "(I)I" } : Jvm.MethodName)) ∈ lw_all := lw_g (lw_at lw_m7 182 rfl) rfl
theorem q1761 : (Jvm.Cond.methodLink "OneCoinLaw" (77 : Nat) ({ cls := "OneCoinModel", name := "most", desc := "(I)I" } : Jvm.MethodName)) ∈ lw_all := lw_g (lw_at lw_m7 206 rfl) rfl
theorem q1777 : (Jvm.Cond.methodLink "OneCoinLaw" (81 : Nat) ({ cls := "OneCoinModel", name := "back", desc := "(II)I" } : Jvm.MethodName)) ∈ lw_all := lw_g (lw_at lw_m7 222 rfl) rfl
theorem q1786 : (Jvm.Cond.methodLink "OneCoinLaw" (85 : Nat) ({ cls := "OneCoinModel", name := "even", desc := "(I)I" } : Jvm.MethodName)) ∈ lw_all := lw_g (lw_at lw_m7 231 rfl) rfl
theorem q1806 : (Jvm.Cond.methodLink "OneCoinLaw" (89 : Nat) ({ cls := "OneCoinModel", name := "turned", desc := "(I)I" } : Jvm.MethodName)) ∈ lw_all := lw_g (lw_at lw_m8 11 rfl) rfl
theorem q1817 : (Jvm.Cond.methodLink "OneCoinLaw" (93 : Nat) ({ cls := "OneCoinModel", name := "setOff", desc := "(I)I" } : Jvm.MethodName)) ∈ lw_all := lw_g (lw_at lw_m8 22 rfl) rfl
theorem q1822 : (Jvm.Cond.methodLink "OneCoinLaw" (98 : Nat) ({ cls := "OneCoinModel", name := "fewest", desc := "()I" } : Jvm.MethodName)) ∈ lw_all := lw_g (lw_at lw_m8 27 rfl) rfl
theorem q1830 : (Jvm.Cond.methodLink "OneCoinLaw" (102 : Nat) ({ cls := "OneCoinModel", name := "rings", desc := "(I)I" } : Jvm.MethodName)) ∈ lw_all := lw_g (lw_at lw_m8 35 rfl) rfl
theorem q1842 : (Jvm.Cond.methodLink "OneCoinLaw" (106 : Nat) ({ cls := "OneCoinModel", name := "off", desc := "()I" } : Jvm.MethodName)) ∈ lw_all := lw_g (lw_at lw_m8 47 rfl) rfl
theorem q1846 : (Jvm.Cond.methodLink "OneCoinLaw" (110 : Nat) ({ cls := "OneCoinModel", name := "when", desc := "(II)I" } : Jvm.MethodName)) ∈ lw_all := lw_g (lw_at lw_m8 51 rfl) rfl
theorem q1850 : (Jvm.Cond.methodLink "OneCoinLaw" (115 : Nat) ({ cls := "OneCoinModel", name := "wedding", desc := "(III)I" } : Jvm.MethodName)) ∈ lw_all := lw_g (lw_at lw_m8 55 rfl) rfl
theorem q1854 : (Jvm.Cond.methodLink "OneCoinLaw" (119 : Nat) ({ cls := "OneCoinModel", name := "longest", desc := "()I" } : Jvm.MethodName)) ∈ lw_all := lw_g (lw_at lw_m8 59 rfl) rfl
theorem q1858 : (Jvm.Cond.methodLink "OneCoinLaw" (123 : Nat) ({ cls := "OneCoinModel", name := "chalk", desc := "(I)I" } : Jvm.MethodName)) ∈ lw_all := lw_g (lw_at lw_m8 63 rfl) rfl
theorem q1862 : (Jvm.Cond.methodLink "OneCoinLaw" (127 : Nat) ({ cls := "OneCoinModel", name := "two", desc := "(I)I" } : Jvm.MethodName)) ∈ lw_all := lw_g (lw_at lw_m8 67 rfl) rfl
theorem q1874 : (Jvm.Cond.methodLink "OneCoinLaw" (131 : Nat) ({ cls := "OneCoinModel", name := "dry", desc := "(II)I" } : Jvm.MethodName)) ∈ lw_all := lw_g (lw_at lw_m8 79 rfl) rfl
theorem q1881 : (Jvm.Cond.methodLink "OneCoinLaw" (135 : Nat) ({ cls := "OneCoinModel", name := "seed", desc := "(I)Z" } : Jvm.MethodName)) ∈ lw_all := lw_g (lw_at lw_m8 86 rfl) rfl
theorem q1886 : (Jvm.Cond.methodLink "OneCoinLaw" (139 : Nat) ({ cls := "OneCoinModel", name := "keep", desc := "()I" } : Jvm.MethodName)) ∈ lw_all := lw_g (lw_at lw_m8 91 rfl) rfl
theorem q1890 : (Jvm.Cond.methodLink "OneCoinLaw" (144 : Nat) ({ cls := "OneCoinModel", name := "undo", desc := "()Z" } : Jvm.MethodName)) ∈ lw_all := lw_g (lw_at lw_m8 95 rfl) rfl
theorem q1894 : (Jvm.Cond.methodLink "OneCoinLaw" (148 : Nat) ({ cls := "OneCoinModel", name := "check", desc := "(I)I" } : Jvm.MethodName)) ∈ lw_all := lw_g (lw_at lw_m8 99 rfl) rfl
theorem q1898 : (Jvm.Cond.methodLink "OneCoinLaw" (152 : Nat) ({ cls := "OneCoinModel", name := "count", desc := "(I)I" } : Jvm.MethodName)) ∈ lw_all := lw_g (lw_at lw_m8 103 rfl) rfl
