/-! DECODE ROWS BY BYTES: one lemma an opcode; a method's code is cut into short pieces once, and a row reads its own piece alone. -/
set_option maxRecDepth 100000
/-- the code has just these bytes from pc on -/
def DkAt (code : ByteArray) (pc : Nat) (bs : List UInt8) : Prop := ∀ (j : Nat) (b : UInt8), bs[j]? = some b → code.data.toList[pc + j]? = some b
/-- the piece W has the bytes bs from its place j on -/
def dkIn (W : List UInt8) (j : Nat) (bs : List UInt8) : Bool := decide ((W.drop j).take bs.length = bs)
theorem dk_seg {l W T : List UInt8} {o o2 : Nat} (h : l.drop o = W ++ T) (n : Nat) (hn : W.length = n) (ho : o + n = o2) : l.drop o2 = T := by
  subst ho
  rw [← List.drop_drop, h, List.drop_left' hn]
theorem dk_at {code : ByteArray} {W T bs : List UInt8} {o pc : Nat} (h : code.data.toList.drop o = W ++ T) (j : Nat) (hp : o + j = pc) (hw : dkIn W j bs = true) : DkAt code pc bs := by
  subst hp
  intro i b e
  have h1 := of_decide_eq_true hw
  have h2 : i < bs.length := (List.getElem?_eq_some_iff.mp e).1
  have h3 : W[j + i]? = some b := by
    rw [← h1, List.getElem?_take, if_pos h2, List.getElem?_drop] at e
    exact e
  have h4 : j + i < W.length := (List.getElem?_eq_some_iff.mp h3).1
  have h5 : (code.data.toList.drop o)[j + i]? = some b := by
    rw [h, List.getElem?_append_left h4]
    exact h3
  rw [List.getElem?_drop, ← Nat.add_assoc] at h5
  exact h5
theorem dk_u1 {A : ByteArray} {p : Nat} {b : UInt8} (h : A.data.toList[p]? = some b) : (Reader.u1 : Reader DecodeError Nat) A p = .ok (b.toNat, p + 1) := by
  obtain ⟨h1, h2⟩ := List.getElem?_eq_some_iff.mp h
  have h3 : p < A.size := by simpa using h1
  have h4 : A[p]'h3 = b := h2
  have e : (Reader.u1 : Reader DecodeError Nat) A p = (if h : p < A.size then .ok (A[p].toNat, p + 1) else .error (HasTruncated.truncated p)) := by
    show (do if h : p < A.size then do set (p + 1); Pure.pure A[p].toNat else MonadExcept.throw (HasTruncated.truncated p) : Reader DecodeError Nat) A p = _
    by_cases hi : p < A.size
    · rw [dif_pos hi, dif_pos hi]; rfl
    · rw [dif_neg hi, dif_neg hi]; rfl
  rw [e, dif_pos h3, h4]
theorem dk_bind {α β : Type} {r : Reader DecodeError α} {f : α → Reader DecodeError β} {A : ByteArray} {p s : Nat} {a : α} (h : r A p = .ok (a, s)) : (r >>= f) A p = f a A s := by
  show (do let (a, s) ← r A p; f a A s : Except DecodeError (β × Nat)) = _
  rw [h]
  rfl
theorem dk_map {α β : Type} {r : Reader DecodeError α} {g : α → β} {A : ByteArray} {p s : Nat} {a : α} (h : r A p = .ok (a, s)) : (g <$> r) A p = .ok (g a, s) := by
  show (do let (a, s) ← r A p; .ok (g a, s) : Except DecodeError (β × Nat)) = _
  rw [h]
  rfl
theorem dk_u2 {A : ByteArray} {p : Nat} {a b : UInt8} (h : A.data.toList[p]? = some a) (h2 : A.data.toList[p + 1]? = some b) : (Reader.u2 : Reader DecodeError Nat) A p = .ok (a.toNat * 256 + b.toNat, p + 2) := by
  show (Reader.u1 >>= fun hi => Reader.u1 >>= fun lo => Pure.pure (hi * 256 + lo) : Reader DecodeError Nat) A p = _
  rw [dk_bind (dk_u1 h), dk_bind (dk_u1 h2)]
  rfl
theorem dk_of {code : ByteArray} {pc n : Nat} {i : Instr} (h : Decoder.instr pc code pc = .ok (i, pc + n)) : decode code pc = .ok (i, n) := by
  have e : decode code pc = (match Decoder.instr pc code pc with | .error x => .error x | .ok (j, s) => .ok (j, s - pc)) := by
    show (do let (j, s) ← Decoder.instr pc code pc; Pure.pure (j, s - pc) : Except DecodeError (Instr × Nat)) = _
    cases Decoder.instr pc code pc <;> rfl
  rw [e, h]
  show Except.ok (i, pc + n - pc) = _
  rw [Nat.add_sub_cancel_left]
theorem dk_1 {code : ByteArray} {pc : Nat} (h : DkAt code pc [1]) : decode code pc = .ok (.aconst_null, 1) := dk_of ((dk_bind (dk_u1 (h 0 _ rfl))).trans rfl)
theorem dk_2 {code : ByteArray} {pc : Nat} (h : DkAt code pc [2]) : decode code pc = .ok (.iconst (-1), 1) := dk_of ((dk_bind (dk_u1 (h 0 _ rfl))).trans rfl)
theorem dk_3 {code : ByteArray} {pc : Nat} (h : DkAt code pc [3]) : decode code pc = .ok (.iconst 0, 1) := dk_of ((dk_bind (dk_u1 (h 0 _ rfl))).trans rfl)
theorem dk_4 {code : ByteArray} {pc : Nat} (h : DkAt code pc [4]) : decode code pc = .ok (.iconst 1, 1) := dk_of ((dk_bind (dk_u1 (h 0 _ rfl))).trans rfl)
theorem dk_5 {code : ByteArray} {pc : Nat} (h : DkAt code pc [5]) : decode code pc = .ok (.iconst 2, 1) := dk_of ((dk_bind (dk_u1 (h 0 _ rfl))).trans rfl)
theorem dk_6 {code : ByteArray} {pc : Nat} (h : DkAt code pc [6]) : decode code pc = .ok (.iconst 3, 1) := dk_of ((dk_bind (dk_u1 (h 0 _ rfl))).trans rfl)
theorem dk_7 {code : ByteArray} {pc : Nat} (h : DkAt code pc [7]) : decode code pc = .ok (.iconst 4, 1) := dk_of ((dk_bind (dk_u1 (h 0 _ rfl))).trans rfl)
theorem dk_8 {code : ByteArray} {pc : Nat} (h : DkAt code pc [8]) : decode code pc = .ok (.iconst 5, 1) := dk_of ((dk_bind (dk_u1 (h 0 _ rfl))).trans rfl)
theorem dk_16 {code : ByteArray} {pc : Nat} (a : UInt8) (h : DkAt code pc [16, a]) : decode code pc = .ok (.bipush (Reader.signed 8 a.toNat), 2) := dk_of ((dk_bind (dk_u1 (h 0 _ rfl))).trans ((dk_bind (dk_map (dk_u1 (h 1 _ rfl)))).trans rfl))
theorem dk_17 {code : ByteArray} {pc : Nat} (a b : UInt8) (h : DkAt code pc [17, a, b]) : decode code pc = .ok (.sipush (Reader.signed 16 (a.toNat * 256 + b.toNat)), 3) := dk_of ((dk_bind (dk_u1 (h 0 _ rfl))).trans ((dk_bind (dk_map (dk_u2 (h 1 _ rfl) (h 2 _ rfl)))).trans rfl))
theorem dk_18 {code : ByteArray} {pc : Nat} (a : UInt8) (h : DkAt code pc [18, a]) : decode code pc = .ok (.ldc a.toNat, 2) := dk_of ((dk_bind (dk_u1 (h 0 _ rfl))).trans ((dk_bind (dk_u1 (h 1 _ rfl))).trans rfl))
theorem dk_19 {code : ByteArray} {pc : Nat} (a b : UInt8) (h : DkAt code pc [19, a, b]) : decode code pc = .ok (.ldc_w (a.toNat * 256 + b.toNat), 3) := dk_of ((dk_bind (dk_u1 (h 0 _ rfl))).trans ((dk_bind (dk_u2 (h 1 _ rfl) (h 2 _ rfl))).trans rfl))
theorem dk_21 {code : ByteArray} {pc : Nat} (a : UInt8) (h : DkAt code pc [21, a]) : decode code pc = .ok (.iload a.toNat, 2) := dk_of ((dk_bind (dk_u1 (h 0 _ rfl))).trans ((dk_bind (dk_u1 (h 1 _ rfl))).trans rfl))
theorem dk_25 {code : ByteArray} {pc : Nat} (a : UInt8) (h : DkAt code pc [25, a]) : decode code pc = .ok (.aload a.toNat, 2) := dk_of ((dk_bind (dk_u1 (h 0 _ rfl))).trans ((dk_bind (dk_u1 (h 1 _ rfl))).trans rfl))
theorem dk_26 {code : ByteArray} {pc : Nat} (h : DkAt code pc [26]) : decode code pc = .ok (.iload_n 0, 1) := dk_of ((dk_bind (dk_u1 (h 0 _ rfl))).trans rfl)
theorem dk_27 {code : ByteArray} {pc : Nat} (h : DkAt code pc [27]) : decode code pc = .ok (.iload_n 1, 1) := dk_of ((dk_bind (dk_u1 (h 0 _ rfl))).trans rfl)
theorem dk_28 {code : ByteArray} {pc : Nat} (h : DkAt code pc [28]) : decode code pc = .ok (.iload_n 2, 1) := dk_of ((dk_bind (dk_u1 (h 0 _ rfl))).trans rfl)
theorem dk_29 {code : ByteArray} {pc : Nat} (h : DkAt code pc [29]) : decode code pc = .ok (.iload_n 3, 1) := dk_of ((dk_bind (dk_u1 (h 0 _ rfl))).trans rfl)
theorem dk_42 {code : ByteArray} {pc : Nat} (h : DkAt code pc [42]) : decode code pc = .ok (.aload_n 0, 1) := dk_of ((dk_bind (dk_u1 (h 0 _ rfl))).trans rfl)
theorem dk_43 {code : ByteArray} {pc : Nat} (h : DkAt code pc [43]) : decode code pc = .ok (.aload_n 1, 1) := dk_of ((dk_bind (dk_u1 (h 0 _ rfl))).trans rfl)
theorem dk_44 {code : ByteArray} {pc : Nat} (h : DkAt code pc [44]) : decode code pc = .ok (.aload_n 2, 1) := dk_of ((dk_bind (dk_u1 (h 0 _ rfl))).trans rfl)
theorem dk_45 {code : ByteArray} {pc : Nat} (h : DkAt code pc [45]) : decode code pc = .ok (.aload_n 3, 1) := dk_of ((dk_bind (dk_u1 (h 0 _ rfl))).trans rfl)
theorem dk_46 {code : ByteArray} {pc : Nat} (h : DkAt code pc [46]) : decode code pc = .ok (.iaload, 1) := dk_of ((dk_bind (dk_u1 (h 0 _ rfl))).trans rfl)
theorem dk_50 {code : ByteArray} {pc : Nat} (h : DkAt code pc [50]) : decode code pc = .ok (.aaload, 1) := dk_of ((dk_bind (dk_u1 (h 0 _ rfl))).trans rfl)
theorem dk_51 {code : ByteArray} {pc : Nat} (h : DkAt code pc [51]) : decode code pc = .ok (.baload, 1) := dk_of ((dk_bind (dk_u1 (h 0 _ rfl))).trans rfl)
theorem dk_54 {code : ByteArray} {pc : Nat} (a : UInt8) (h : DkAt code pc [54, a]) : decode code pc = .ok (.istore a.toNat, 2) := dk_of ((dk_bind (dk_u1 (h 0 _ rfl))).trans ((dk_bind (dk_u1 (h 1 _ rfl))).trans rfl))
theorem dk_58 {code : ByteArray} {pc : Nat} (a : UInt8) (h : DkAt code pc [58, a]) : decode code pc = .ok (.astore a.toNat, 2) := dk_of ((dk_bind (dk_u1 (h 0 _ rfl))).trans ((dk_bind (dk_u1 (h 1 _ rfl))).trans rfl))
theorem dk_59 {code : ByteArray} {pc : Nat} (h : DkAt code pc [59]) : decode code pc = .ok (.istore_n 0, 1) := dk_of ((dk_bind (dk_u1 (h 0 _ rfl))).trans rfl)
theorem dk_60 {code : ByteArray} {pc : Nat} (h : DkAt code pc [60]) : decode code pc = .ok (.istore_n 1, 1) := dk_of ((dk_bind (dk_u1 (h 0 _ rfl))).trans rfl)
theorem dk_61 {code : ByteArray} {pc : Nat} (h : DkAt code pc [61]) : decode code pc = .ok (.istore_n 2, 1) := dk_of ((dk_bind (dk_u1 (h 0 _ rfl))).trans rfl)
theorem dk_62 {code : ByteArray} {pc : Nat} (h : DkAt code pc [62]) : decode code pc = .ok (.istore_n 3, 1) := dk_of ((dk_bind (dk_u1 (h 0 _ rfl))).trans rfl)
theorem dk_76 {code : ByteArray} {pc : Nat} (h : DkAt code pc [76]) : decode code pc = .ok (.astore_n 1, 1) := dk_of ((dk_bind (dk_u1 (h 0 _ rfl))).trans rfl)
theorem dk_77 {code : ByteArray} {pc : Nat} (h : DkAt code pc [77]) : decode code pc = .ok (.astore_n 2, 1) := dk_of ((dk_bind (dk_u1 (h 0 _ rfl))).trans rfl)
theorem dk_78 {code : ByteArray} {pc : Nat} (h : DkAt code pc [78]) : decode code pc = .ok (.astore_n 3, 1) := dk_of ((dk_bind (dk_u1 (h 0 _ rfl))).trans rfl)
theorem dk_79 {code : ByteArray} {pc : Nat} (h : DkAt code pc [79]) : decode code pc = .ok (.iastore, 1) := dk_of ((dk_bind (dk_u1 (h 0 _ rfl))).trans rfl)
theorem dk_83 {code : ByteArray} {pc : Nat} (h : DkAt code pc [83]) : decode code pc = .ok (.aastore, 1) := dk_of ((dk_bind (dk_u1 (h 0 _ rfl))).trans rfl)
theorem dk_84 {code : ByteArray} {pc : Nat} (h : DkAt code pc [84]) : decode code pc = .ok (.bastore, 1) := dk_of ((dk_bind (dk_u1 (h 0 _ rfl))).trans rfl)
theorem dk_87 {code : ByteArray} {pc : Nat} (h : DkAt code pc [87]) : decode code pc = .ok (.pop, 1) := dk_of ((dk_bind (dk_u1 (h 0 _ rfl))).trans rfl)
theorem dk_89 {code : ByteArray} {pc : Nat} (h : DkAt code pc [89]) : decode code pc = .ok (.dup, 1) := dk_of ((dk_bind (dk_u1 (h 0 _ rfl))).trans rfl)
theorem dk_96 {code : ByteArray} {pc : Nat} (h : DkAt code pc [96]) : decode code pc = .ok (.iadd, 1) := dk_of ((dk_bind (dk_u1 (h 0 _ rfl))).trans rfl)
theorem dk_100 {code : ByteArray} {pc : Nat} (h : DkAt code pc [100]) : decode code pc = .ok (.isub, 1) := dk_of ((dk_bind (dk_u1 (h 0 _ rfl))).trans rfl)
theorem dk_104 {code : ByteArray} {pc : Nat} (h : DkAt code pc [104]) : decode code pc = .ok (.imul, 1) := dk_of ((dk_bind (dk_u1 (h 0 _ rfl))).trans rfl)
theorem dk_108 {code : ByteArray} {pc : Nat} (h : DkAt code pc [108]) : decode code pc = .ok (.idiv, 1) := dk_of ((dk_bind (dk_u1 (h 0 _ rfl))).trans rfl)
theorem dk_112 {code : ByteArray} {pc : Nat} (h : DkAt code pc [112]) : decode code pc = .ok (.irem, 1) := dk_of ((dk_bind (dk_u1 (h 0 _ rfl))).trans rfl)
theorem dk_120 {code : ByteArray} {pc : Nat} (h : DkAt code pc [120]) : decode code pc = .ok (.ishl, 1) := dk_of ((dk_bind (dk_u1 (h 0 _ rfl))).trans rfl)
theorem dk_122 {code : ByteArray} {pc : Nat} (h : DkAt code pc [122]) : decode code pc = .ok (.ishr, 1) := dk_of ((dk_bind (dk_u1 (h 0 _ rfl))).trans rfl)
theorem dk_124 {code : ByteArray} {pc : Nat} (h : DkAt code pc [124]) : decode code pc = .ok (.iushr, 1) := dk_of ((dk_bind (dk_u1 (h 0 _ rfl))).trans rfl)
theorem dk_126 {code : ByteArray} {pc : Nat} (h : DkAt code pc [126]) : decode code pc = .ok (.iand, 1) := dk_of ((dk_bind (dk_u1 (h 0 _ rfl))).trans rfl)
theorem dk_128 {code : ByteArray} {pc : Nat} (h : DkAt code pc [128]) : decode code pc = .ok (.ior, 1) := dk_of ((dk_bind (dk_u1 (h 0 _ rfl))).trans rfl)
theorem dk_130 {code : ByteArray} {pc : Nat} (h : DkAt code pc [130]) : decode code pc = .ok (.ixor, 1) := dk_of ((dk_bind (dk_u1 (h 0 _ rfl))).trans rfl)
theorem dk_132 {code : ByteArray} {pc : Nat} (a b : UInt8) (h : DkAt code pc [132, a, b]) : decode code pc = .ok (.iinc a.toNat (Reader.signed 8 b.toNat), 3) := dk_of ((dk_bind (dk_u1 (h 0 _ rfl))).trans ((dk_bind (dk_u1 (h 1 _ rfl))).trans ((dk_bind (dk_map (dk_u1 (h 2 _ rfl)))).trans rfl)))
theorem dk_145 {code : ByteArray} {pc : Nat} (h : DkAt code pc [145]) : decode code pc = .ok (.i2b, 1) := dk_of ((dk_bind (dk_u1 (h 0 _ rfl))).trans rfl)
theorem dk_146 {code : ByteArray} {pc : Nat} (h : DkAt code pc [146]) : decode code pc = .ok (.i2c, 1) := dk_of ((dk_bind (dk_u1 (h 0 _ rfl))).trans rfl)
theorem dk_153 {code : ByteArray} {pc : Nat} (a b : UInt8) (h : DkAt code pc [153, a, b]) : decode code pc = .ok (.ifCond .eq (Reader.signed 16 (a.toNat * 256 + b.toNat)), 3) := dk_of ((dk_bind (dk_u1 (h 0 _ rfl))).trans ((dk_bind (dk_map (dk_u2 (h 1 _ rfl) (h 2 _ rfl)))).trans rfl))
theorem dk_154 {code : ByteArray} {pc : Nat} (a b : UInt8) (h : DkAt code pc [154, a, b]) : decode code pc = .ok (.ifCond .ne (Reader.signed 16 (a.toNat * 256 + b.toNat)), 3) := dk_of ((dk_bind (dk_u1 (h 0 _ rfl))).trans ((dk_bind (dk_map (dk_u2 (h 1 _ rfl) (h 2 _ rfl)))).trans rfl))
theorem dk_155 {code : ByteArray} {pc : Nat} (a b : UInt8) (h : DkAt code pc [155, a, b]) : decode code pc = .ok (.ifCond .lt (Reader.signed 16 (a.toNat * 256 + b.toNat)), 3) := dk_of ((dk_bind (dk_u1 (h 0 _ rfl))).trans ((dk_bind (dk_map (dk_u2 (h 1 _ rfl) (h 2 _ rfl)))).trans rfl))
theorem dk_156 {code : ByteArray} {pc : Nat} (a b : UInt8) (h : DkAt code pc [156, a, b]) : decode code pc = .ok (.ifCond .ge (Reader.signed 16 (a.toNat * 256 + b.toNat)), 3) := dk_of ((dk_bind (dk_u1 (h 0 _ rfl))).trans ((dk_bind (dk_map (dk_u2 (h 1 _ rfl) (h 2 _ rfl)))).trans rfl))
theorem dk_157 {code : ByteArray} {pc : Nat} (a b : UInt8) (h : DkAt code pc [157, a, b]) : decode code pc = .ok (.ifCond .gt (Reader.signed 16 (a.toNat * 256 + b.toNat)), 3) := dk_of ((dk_bind (dk_u1 (h 0 _ rfl))).trans ((dk_bind (dk_map (dk_u2 (h 1 _ rfl) (h 2 _ rfl)))).trans rfl))
theorem dk_158 {code : ByteArray} {pc : Nat} (a b : UInt8) (h : DkAt code pc [158, a, b]) : decode code pc = .ok (.ifCond .le (Reader.signed 16 (a.toNat * 256 + b.toNat)), 3) := dk_of ((dk_bind (dk_u1 (h 0 _ rfl))).trans ((dk_bind (dk_map (dk_u2 (h 1 _ rfl) (h 2 _ rfl)))).trans rfl))
theorem dk_159 {code : ByteArray} {pc : Nat} (a b : UInt8) (h : DkAt code pc [159, a, b]) : decode code pc = .ok (.if_icmp .eq (Reader.signed 16 (a.toNat * 256 + b.toNat)), 3) := dk_of ((dk_bind (dk_u1 (h 0 _ rfl))).trans ((dk_bind (dk_map (dk_u2 (h 1 _ rfl) (h 2 _ rfl)))).trans rfl))
theorem dk_160 {code : ByteArray} {pc : Nat} (a b : UInt8) (h : DkAt code pc [160, a, b]) : decode code pc = .ok (.if_icmp .ne (Reader.signed 16 (a.toNat * 256 + b.toNat)), 3) := dk_of ((dk_bind (dk_u1 (h 0 _ rfl))).trans ((dk_bind (dk_map (dk_u2 (h 1 _ rfl) (h 2 _ rfl)))).trans rfl))
theorem dk_161 {code : ByteArray} {pc : Nat} (a b : UInt8) (h : DkAt code pc [161, a, b]) : decode code pc = .ok (.if_icmp .lt (Reader.signed 16 (a.toNat * 256 + b.toNat)), 3) := dk_of ((dk_bind (dk_u1 (h 0 _ rfl))).trans ((dk_bind (dk_map (dk_u2 (h 1 _ rfl) (h 2 _ rfl)))).trans rfl))
theorem dk_162 {code : ByteArray} {pc : Nat} (a b : UInt8) (h : DkAt code pc [162, a, b]) : decode code pc = .ok (.if_icmp .ge (Reader.signed 16 (a.toNat * 256 + b.toNat)), 3) := dk_of ((dk_bind (dk_u1 (h 0 _ rfl))).trans ((dk_bind (dk_map (dk_u2 (h 1 _ rfl) (h 2 _ rfl)))).trans rfl))
theorem dk_163 {code : ByteArray} {pc : Nat} (a b : UInt8) (h : DkAt code pc [163, a, b]) : decode code pc = .ok (.if_icmp .gt (Reader.signed 16 (a.toNat * 256 + b.toNat)), 3) := dk_of ((dk_bind (dk_u1 (h 0 _ rfl))).trans ((dk_bind (dk_map (dk_u2 (h 1 _ rfl) (h 2 _ rfl)))).trans rfl))
theorem dk_164 {code : ByteArray} {pc : Nat} (a b : UInt8) (h : DkAt code pc [164, a, b]) : decode code pc = .ok (.if_icmp .le (Reader.signed 16 (a.toNat * 256 + b.toNat)), 3) := dk_of ((dk_bind (dk_u1 (h 0 _ rfl))).trans ((dk_bind (dk_map (dk_u2 (h 1 _ rfl) (h 2 _ rfl)))).trans rfl))
theorem dk_167 {code : ByteArray} {pc : Nat} (a b : UInt8) (h : DkAt code pc [167, a, b]) : decode code pc = .ok (.goto (Reader.signed 16 (a.toNat * 256 + b.toNat)), 3) := dk_of ((dk_bind (dk_u1 (h 0 _ rfl))).trans ((dk_bind (dk_map (dk_u2 (h 1 _ rfl) (h 2 _ rfl)))).trans rfl))
theorem dk_172 {code : ByteArray} {pc : Nat} (h : DkAt code pc [172]) : decode code pc = .ok (.ireturn, 1) := dk_of ((dk_bind (dk_u1 (h 0 _ rfl))).trans rfl)
theorem dk_176 {code : ByteArray} {pc : Nat} (h : DkAt code pc [176]) : decode code pc = .ok (.areturn, 1) := dk_of ((dk_bind (dk_u1 (h 0 _ rfl))).trans rfl)
theorem dk_177 {code : ByteArray} {pc : Nat} (h : DkAt code pc [177]) : decode code pc = .ok (.return_, 1) := dk_of ((dk_bind (dk_u1 (h 0 _ rfl))).trans rfl)
theorem dk_178 {code : ByteArray} {pc : Nat} (a b : UInt8) (h : DkAt code pc [178, a, b]) : decode code pc = .ok (.getstatic (a.toNat * 256 + b.toNat), 3) := dk_of ((dk_bind (dk_u1 (h 0 _ rfl))).trans ((dk_bind (dk_u2 (h 1 _ rfl) (h 2 _ rfl))).trans rfl))
theorem dk_180 {code : ByteArray} {pc : Nat} (a b : UInt8) (h : DkAt code pc [180, a, b]) : decode code pc = .ok (.getfield (a.toNat * 256 + b.toNat), 3) := dk_of ((dk_bind (dk_u1 (h 0 _ rfl))).trans ((dk_bind (dk_u2 (h 1 _ rfl) (h 2 _ rfl))).trans rfl))
theorem dk_181 {code : ByteArray} {pc : Nat} (a b : UInt8) (h : DkAt code pc [181, a, b]) : decode code pc = .ok (.putfield (a.toNat * 256 + b.toNat), 3) := dk_of ((dk_bind (dk_u1 (h 0 _ rfl))).trans ((dk_bind (dk_u2 (h 1 _ rfl) (h 2 _ rfl))).trans rfl))
theorem dk_182 {code : ByteArray} {pc : Nat} (a b : UInt8) (h : DkAt code pc [182, a, b]) : decode code pc = .ok (.invokevirtual (a.toNat * 256 + b.toNat), 3) := dk_of ((dk_bind (dk_u1 (h 0 _ rfl))).trans ((dk_bind (dk_u2 (h 1 _ rfl) (h 2 _ rfl))).trans rfl))
theorem dk_183 {code : ByteArray} {pc : Nat} (a b : UInt8) (h : DkAt code pc [183, a, b]) : decode code pc = .ok (.invokespecial (a.toNat * 256 + b.toNat), 3) := dk_of ((dk_bind (dk_u1 (h 0 _ rfl))).trans ((dk_bind (dk_u2 (h 1 _ rfl) (h 2 _ rfl))).trans rfl))
theorem dk_184 {code : ByteArray} {pc : Nat} (a b : UInt8) (h : DkAt code pc [184, a, b]) : decode code pc = .ok (.invokestatic (a.toNat * 256 + b.toNat), 3) := dk_of ((dk_bind (dk_u1 (h 0 _ rfl))).trans ((dk_bind (dk_u2 (h 1 _ rfl) (h 2 _ rfl))).trans rfl))
theorem dk_187 {code : ByteArray} {pc : Nat} (a b : UInt8) (h : DkAt code pc [187, a, b]) : decode code pc = .ok (.new (a.toNat * 256 + b.toNat), 3) := dk_of ((dk_bind (dk_u1 (h 0 _ rfl))).trans ((dk_bind (dk_u2 (h 1 _ rfl) (h 2 _ rfl))).trans rfl))
theorem dk_188_8 {code : ByteArray} {pc : Nat} (h : DkAt code pc [188, 8]) : decode code pc = .ok (.newarray .byte, 2) := dk_of ((dk_bind (dk_u1 (h 0 _ rfl))).trans ((dk_bind (dk_u1 (h 1 _ rfl))).trans rfl))
theorem dk_188_10 {code : ByteArray} {pc : Nat} (h : DkAt code pc [188, 10]) : decode code pc = .ok (.newarray .int, 2) := dk_of ((dk_bind (dk_u1 (h 0 _ rfl))).trans ((dk_bind (dk_u1 (h 1 _ rfl))).trans rfl))
theorem dk_189 {code : ByteArray} {pc : Nat} (a b : UInt8) (h : DkAt code pc [189, a, b]) : decode code pc = .ok (.anewarray (a.toNat * 256 + b.toNat), 3) := dk_of ((dk_bind (dk_u1 (h 0 _ rfl))).trans ((dk_bind (dk_u2 (h 1 _ rfl) (h 2 _ rfl))).trans rfl))
theorem dk_190 {code : ByteArray} {pc : Nat} (h : DkAt code pc [190]) : decode code pc = .ok (.arraylength, 1) := dk_of ((dk_bind (dk_u1 (h 0 _ rfl))).trans rfl)
theorem dk_191 {code : ByteArray} {pc : Nat} (h : DkAt code pc [191]) : decode code pc = .ok (.athrow, 1) := dk_of ((dk_bind (dk_u1 (h 0 _ rfl))).trans rfl)
theorem dk_198 {code : ByteArray} {pc : Nat} (a b : UInt8) (h : DkAt code pc [198, a, b]) : decode code pc = .ok (.ifnull (Reader.signed 16 (a.toNat * 256 + b.toNat)), 3) := dk_of ((dk_bind (dk_u1 (h 0 _ rfl))).trans ((dk_bind (dk_map (dk_u2 (h 1 _ rfl) (h 2 _ rfl)))).trans rfl))
theorem q233 : (Jvm.Cond.arrayOver (Jvm.ClassFile.FieldType.object "TermLog$Node")) ∈ lw_tbl := lw_at lw_m1 76 rfl
set_option maxRecDepth 100000
theorem q235 : (Jvm.Cond.arrayOver (Jvm.ClassFile.FieldType.array Jvm.ClassFile.FieldType.int)) ∈ lw_tbl := lw_at lw_m1 78 rfl
theorem q358 : (Jvm.Cond.arrayClass Jvm.ClassFile.FieldType.int) ∈ lw_all := lw_g (lw_at lw_m1 201 rfl) rfl
theorem q431 : (Jvm.Cond.arrayOver (Jvm.ClassFile.FieldType.object "TermLog$Sum")) ∈ lw_tbl := lw_at lw_m2 34 rfl
theorem q433 : (Jvm.Cond.arrayOver (Jvm.ClassFile.FieldType.object "TermLog$Condition")) ∈ lw_tbl := lw_at lw_m2 36 rfl
theorem q452 : (Jvm.Cond.arrayClass Jvm.ClassFile.FieldType.byte) ∈ lw_all := lw_g (lw_at lw_m2 55 rfl) rfl
/-! TermLog$Asked -/
set_option maxRecDepth 100000
def RX1 : String := "TermLog$Asked"
abbrev cX1_init : ByteArray := prog_2_method_1_code
def yX1_init : MethodName := ⟨RX1, "<init>", "()V"⟩
theorem dX1_init_0 : decode cX1_init 0 = .ok (.aload_n 0, 1) := by decide +kernel
theorem dX1_init_1 : decode cX1_init 1 = .ok (.invokespecial 1, 3) := by decide +kernel
theorem dX1_init_4 : decode cX1_init 4 = .ok (.return_, 1) := by decide +kernel
theorem q159 : (Jvm.Cond.initialized "TermLog$Asked") ∈ lw_all := lw_g (lw_at lw_m1 2 rfl) rfl
theorem q196 : (Jvm.Cond.instanceMethod ({ cls := "TermLog$Asked", name := "<init>", desc := "()V" } : Jvm.MethodName)) ∈ lw_all := lw_g (lw_at lw_m1 39 rfl) rfl
theorem q197 : (Jvm.Cond.code ({ cls := "TermLog$Asked", name := "<init>", desc := "()V" } : Jvm.MethodName) prog_2_method_1_code (1 : Nat) (Option.none : Option Jvm.ClassFile.FieldType)) ∈ lw_all := lw_g (lw_at lw_m1 40 rfl) rfl
theorem q198 : (Jvm.Cond.methodLink "TermLog$Asked" (1 : Nat) ({ cls := "java/lang/Object", name := "<init>", desc := "()V" } : Jvm.MethodName)) ∈ lw_all := lw_g (lw_at lw_m1 41 rfl) rfl
theorem q224 : (Jvm.Cond.soleField "TermLog$Asked" "isRefused") ∈ lw_all := lw_g (lw_at lw_m1 67 rfl) rfl
theorem q499 : (Jvm.Cond.declares ({ cls := "TermLog$Asked", name := "value", desc := "(I)I" } : Jvm.MethodName)) ∈ lw_tbl := lw_at lw_m2 102 rfl
theorem q500 : (Jvm.Cond.sameMethod "TermLog$Asked" "TermLog$Asked" "value" "(I)I") ∈ lw_all := lw_g (lw_at lw_m2 103 rfl) rfl
/-! TermLog$Moment -/
set_option maxRecDepth 100000
def RX2 : String := "TermLog$Moment"
def TX2 : u_T := fun k => match k with
  | 0 => ("TermLog$Asked", "isRefused", "Z", false)
  | 1 => ("TermLog$Moment", "from", "I", false)
  | 2 => ("TermLog$Moment", "to", "I", false)
  | 3 => ("TermLog$Moment", "kind", "I", false)
  | 4 => ("TermLog$Moment", "term", "I", false)
  | 5 => ("TermLog$Moment", "many", "I", false)
  | 6 => ("TermLog$Moment", "tick", "I", false)
  | _ => ("TermLog$Moment", "drawn", "I", false)
def tyX2 : Nat → FieldType := fun k => match k with
  | 0 => .boolean
  | 1 => .int
  | 2 => .int
  | 3 => .int
  | 4 => .int
  | 5 => .int
  | 6 => .int
  | _ => .int
abbrev wsX20 : List Cond := u_ws RX2 TX2 8
theorem nmX2 : ∀ a, a < 8 → ∀ b, b < 8 → a ≠ b → (TX2 a).2.1 ≠ (TX2 b).2.1 := by decide +kernel
theorem tyX2_ok : ∀ k, k < 8 → parseFieldDescriptor (TX2 k).2.2.1 = some (tyX2 k) := by decide +kernel
abbrev cX2_init : ByteArray := prog_7_method_1_code
def yX2_init : MethodName := ⟨RX2, "<init>", "()V"⟩
theorem dX2_init_0 : decode cX2_init 0 = .ok (.aload_n 0, 1) := by decide +kernel
theorem dX2_init_1 : decode cX2_init 1 = .ok (.invokespecial 3, 3) := by decide +kernel
theorem dX2_init_4 : decode cX2_init 4 = .ok (.return_, 1) := by decide +kernel
abbrev cX2_of : ByteArray := prog_7_method_2_code
def yX2_of : MethodName := ⟨RX2, "of", "(IIII)LTermLog$Moment;"⟩
def dkwX2_of_1 : List UInt8 := [42, 176]
abbrev dktX2_of_1 : List UInt8 := dkwX2_of_1 ++ []
def dkwX2_of_0 : List UInt8 := [42, 27, 181, 0, 9, 42, 28, 181, 0, 15, 42, 29, 181, 0, 18, 42, 21, 4, 16, 100, 112, 181, 0, 21]
abbrev dktX2_of_0 : List UInt8 := dkwX2_of_0 ++ dktX2_of_1
theorem dksX2_of_0 : cX2_of.data.toList.drop 0 = dktX2_of_0 := by decide +kernel
theorem dksX2_of_1 : cX2_of.data.toList.drop 24 = dktX2_of_1 := dk_seg dksX2_of_0 24 rfl rfl
theorem dX2_of_0 : decode cX2_of 0 = .ok (.aload_n 0, 1) := dk_42 (dk_at dksX2_of_0 0 rfl rfl)
theorem dX2_of_1 : decode cX2_of 1 = .ok (.iload_n 1, 1) := dk_27 (dk_at dksX2_of_0 1 rfl rfl)
theorem dX2_of_2 : decode cX2_of 2 = .ok (.putfield 9, 3) := dk_181 0 9 (dk_at dksX2_of_0 2 rfl rfl)
theorem dX2_of_5 : decode cX2_of 5 = .ok (.aload_n 0, 1) := dk_42 (dk_at dksX2_of_0 5 rfl rfl)
theorem dX2_of_6 : decode cX2_of 6 = .ok (.iload_n 2, 1) := dk_28 (dk_at dksX2_of_0 6 rfl rfl)
theorem dX2_of_7 : decode cX2_of 7 = .ok (.putfield 15, 3) := dk_181 0 15 (dk_at dksX2_of_0 7 rfl rfl)
theorem dX2_of_10 : decode cX2_of 10 = .ok (.aload_n 0, 1) := dk_42 (dk_at dksX2_of_0 10 rfl rfl)
theorem dX2_of_11 : decode cX2_of 11 = .ok (.iload_n 3, 1) := dk_29 (dk_at dksX2_of_0 11 rfl rfl)
theorem dX2_of_12 : decode cX2_of 12 = .ok (.putfield 18, 3) := dk_181 0 18 (dk_at dksX2_of_0 12 rfl rfl)
theorem dX2_of_15 : decode cX2_of 15 = .ok (.aload_n 0, 1) := dk_42 (dk_at dksX2_of_0 15 rfl rfl)
theorem dX2_of_16 : decode cX2_of 16 = .ok (.iload 4, 2) := dk_21 4 (dk_at dksX2_of_0 16 rfl rfl)
theorem dX2_of_18 : decode cX2_of 18 = .ok (.bipush 100, 2) := dk_16 100 (dk_at dksX2_of_0 18 rfl rfl)
theorem dX2_of_20 : decode cX2_of 20 = .ok (.irem, 1) := dk_112 (dk_at dksX2_of_0 20 rfl rfl)
theorem dX2_of_21 : decode cX2_of 21 = .ok (.putfield 21, 3) := dk_181 0 21 (dk_at dksX2_of_0 21 rfl rfl)
theorem dX2_of_24 : decode cX2_of 24 = .ok (.aload_n 0, 1) := dk_42 (dk_at dksX2_of_1 0 rfl rfl)
theorem dX2_of_25 : decode cX2_of 25 = .ok (.areturn, 1) := dk_176 (dk_at dksX2_of_1 1 rfl rfl)
abbrev cX2_on : ByteArray := prog_7_method_3_code
def yX2_on : MethodName := ⟨RX2, "on", "(III)LTermLog$Moment;"⟩
def dkwX2_on_0 : List UInt8 := [42, 27, 181, 0, 24, 42, 28, 16, 100, 112, 181, 0, 27, 42, 29, 181, 0, 30, 42, 176]
abbrev dktX2_on_0 : List UInt8 := dkwX2_on_0 ++ []
theorem dksX2_on_0 : cX2_on.data.toList.drop 0 = dktX2_on_0 := by decide +kernel
theorem dX2_on_0 : decode cX2_on 0 = .ok (.aload_n 0, 1) := dk_42 (dk_at dksX2_on_0 0 rfl rfl)
theorem dX2_on_1 : decode cX2_on 1 = .ok (.iload_n 1, 1) := dk_27 (dk_at dksX2_on_0 1 rfl rfl)
theorem dX2_on_2 : decode cX2_on 2 = .ok (.putfield 24, 3) := dk_181 0 24 (dk_at dksX2_on_0 2 rfl rfl)
theorem dX2_on_5 : decode cX2_on 5 = .ok (.aload_n 0, 1) := dk_42 (dk_at dksX2_on_0 5 rfl rfl)
theorem dX2_on_6 : decode cX2_on 6 = .ok (.iload_n 2, 1) := dk_28 (dk_at dksX2_on_0 6 rfl rfl)
theorem dX2_on_7 : decode cX2_on 7 = .ok (.bipush 100, 2) := dk_16 100 (dk_at dksX2_on_0 7 rfl rfl)
theorem dX2_on_9 : decode cX2_on 9 = .ok (.irem, 1) := dk_112 (dk_at dksX2_on_0 9 rfl rfl)
theorem dX2_on_10 : decode cX2_on 10 = .ok (.putfield 27, 3) := dk_181 0 27 (dk_at dksX2_on_0 10 rfl rfl)
theorem dX2_on_13 : decode cX2_on 13 = .ok (.aload_n 0, 1) := dk_42 (dk_at dksX2_on_0 13 rfl rfl)
theorem dX2_on_14 : decode cX2_on 14 = .ok (.iload_n 3, 1) := dk_29 (dk_at dksX2_on_0 14 rfl rfl)
theorem dX2_on_15 : decode cX2_on 15 = .ok (.putfield 30, 3) := dk_181 0 30 (dk_at dksX2_on_0 15 rfl rfl)
theorem dX2_on_18 : decode cX2_on 18 = .ok (.aload_n 0, 1) := dk_42 (dk_at dksX2_on_0 18 rfl rfl)
theorem dX2_on_19 : decode cX2_on 19 = .ok (.areturn, 1) := dk_176 (dk_at dksX2_on_0 19 rfl rfl)
abbrev cX2_value : ByteArray := prog_7_method_4_code
def yX2_value : MethodName := ⟨RX2, "value", "(I)I"⟩
def dkwX2_value_3 : List UInt8 := [172, 42, 180, 0, 27, 172, 42, 180, 0, 30, 172]
abbrev dktX2_value_3 : List UInt8 := dkwX2_value_3 ++ []
def dkwX2_value_2 : List UInt8 := [42, 180, 0, 9, 172, 42, 180, 0, 15, 172, 42, 180, 0, 18, 172, 42, 180, 0, 21, 172, 42, 180, 0, 24]
abbrev dktX2_value_2 : List UInt8 := dkwX2_value_2 ++ dktX2_value_3
def dkwX2_value_1 : List UInt8 := [170, 0, 0, 0, 0, 0, 105, 0, 0, 0, 102, 0, 0, 0, 116, 0, 0, 0, 75, 0, 0, 0, 105, 0, 0, 0, 105, 0, 0, 0, 105, 0, 0, 0, 105, 0, 0, 0, 85, 0, 0, 0, 105, 0, 0, 0, 105, 0, 0, 0, 90, 0, 0, 0, 105, 0, 0, 0, 105, 0, 0, 0, 95, 0, 0, 0, 105, 0, 0, 0, 100, 0, 0, 0, 80]
abbrev dktX2_value_1 : List UInt8 := dkwX2_value_1 ++ dktX2_value_2
def dkwX2_value_0 : List UInt8 := [27]
abbrev dktX2_value_0 : List UInt8 := dkwX2_value_0 ++ dktX2_value_1
theorem dksX2_value_0 : cX2_value.data.toList.drop 0 = dktX2_value_0 := by decide +kernel
theorem dksX2_value_1 : cX2_value.data.toList.drop 1 = dktX2_value_1 := dk_seg dksX2_value_0 1 rfl rfl
theorem dksX2_value_2 : cX2_value.data.toList.drop 76 = dktX2_value_2 := dk_seg dksX2_value_1 75 rfl rfl
theorem dksX2_value_3 : cX2_value.data.toList.drop 100 = dktX2_value_3 := dk_seg dksX2_value_2 24 rfl rfl
theorem dX2_value_0 : decode cX2_value 0 = .ok (.iload_n 1, 1) := dk_27 (dk_at dksX2_value_0 0 rfl rfl)
theorem dX2_value_1 : decode cX2_value 1 = .ok (.tableswitch 105 102 116 #[75, 105, 105, 105, 105, 85, 105, 105, 90, 105, 105, 95, 105, 100, 80], 75) := by decide +kernel
theorem dX2_value_76 : decode cX2_value 76 = .ok (.aload_n 0, 1) := dk_42 (dk_at dksX2_value_2 0 rfl rfl)
theorem dX2_value_77 : decode cX2_value 77 = .ok (.getfield 9, 3) := dk_180 0 9 (dk_at dksX2_value_2 1 rfl rfl)
theorem dX2_value_80 : decode cX2_value 80 = .ok (.ireturn, 1) := dk_172 (dk_at dksX2_value_2 4 rfl rfl)
theorem dX2_value_81 : decode cX2_value 81 = .ok (.aload_n 0, 1) := dk_42 (dk_at dksX2_value_2 5 rfl rfl)
theorem dX2_value_82 : decode cX2_value 82 = .ok (.getfield 15, 3) := dk_180 0 15 (dk_at dksX2_value_2 6 rfl rfl)
theorem dX2_value_85 : decode cX2_value 85 = .ok (.ireturn, 1) := dk_172 (dk_at dksX2_value_2 9 rfl rfl)
theorem dX2_value_86 : decode cX2_value 86 = .ok (.aload_n 0, 1) := dk_42 (dk_at dksX2_value_2 10 rfl rfl)
theorem dX2_value_87 : decode cX2_value 87 = .ok (.getfield 18, 3) := dk_180 0 18 (dk_at dksX2_value_2 11 rfl rfl)
theorem dX2_value_90 : decode cX2_value 90 = .ok (.ireturn, 1) := dk_172 (dk_at dksX2_value_2 14 rfl rfl)
theorem dX2_value_91 : decode cX2_value 91 = .ok (.aload_n 0, 1) := dk_42 (dk_at dksX2_value_2 15 rfl rfl)
theorem dX2_value_92 : decode cX2_value 92 = .ok (.getfield 21, 3) := dk_180 0 21 (dk_at dksX2_value_2 16 rfl rfl)
theorem dX2_value_95 : decode cX2_value 95 = .ok (.ireturn, 1) := dk_172 (dk_at dksX2_value_2 19 rfl rfl)
theorem dX2_value_96 : decode cX2_value 96 = .ok (.aload_n 0, 1) := dk_42 (dk_at dksX2_value_2 20 rfl rfl)
theorem dX2_value_97 : decode cX2_value 97 = .ok (.getfield 24, 3) := dk_180 0 24 (dk_at dksX2_value_2 21 rfl rfl)
theorem dX2_value_100 : decode cX2_value 100 = .ok (.ireturn, 1) := dk_172 (dk_at dksX2_value_3 0 rfl rfl)
theorem dX2_value_101 : decode cX2_value 101 = .ok (.aload_n 0, 1) := dk_42 (dk_at dksX2_value_3 1 rfl rfl)
theorem dX2_value_102 : decode cX2_value 102 = .ok (.getfield 27, 3) := dk_180 0 27 (dk_at dksX2_value_3 2 rfl rfl)
theorem dX2_value_105 : decode cX2_value 105 = .ok (.ireturn, 1) := dk_172 (dk_at dksX2_value_3 5 rfl rfl)
theorem dX2_value_106 : decode cX2_value 106 = .ok (.aload_n 0, 1) := dk_42 (dk_at dksX2_value_3 6 rfl rfl)
theorem dX2_value_107 : decode cX2_value 107 = .ok (.getfield 30, 3) := dk_180 0 30 (dk_at dksX2_value_3 7 rfl rfl)
theorem dX2_value_110 : decode cX2_value 110 = .ok (.ireturn, 1) := dk_172 (dk_at dksX2_value_3 10 rfl rfl)
theorem q160 : (Jvm.Cond.initialized "TermLog$Moment") ∈ lw_all := lw_g (lw_at lw_m1 3 rfl) rfl
theorem q191 : (Jvm.Cond.instantiable "TermLog$Moment" (8 : Nat)) ∈ lw_all := lw_g (lw_at lw_m1 34 rfl) rfl
theorem q193 : (Jvm.Cond.instanceMethod ({ cls := "TermLog$Moment", name := "<init>", desc := "()V" } : Jvm.MethodName)) ∈ lw_all := lw_g (lw_at lw_m1 36 rfl) rfl
theorem q194 : (Jvm.Cond.code ({ cls := "TermLog$Moment", name := "<init>", desc := "()V" } : Jvm.MethodName) prog_7_method_1_code (1 : Nat) (Option.none : Option Jvm.ClassFile.FieldType)) ∈ lw_all := lw_g (lw_at lw_m1 37 rfl) rfl
theorem q195 : (Jvm.Cond.methodLinkNest "TermLog$Moment" (3 : Nat) ({ cls := "TermLog$Asked", name := "<init>", desc := "()V" } : Jvm.MethodName) "TermLog") ∈ lw_tbl := lw_at lw_m1 38 rfl
theorem q199 : (Jvm.Cond.fieldLink "TermLog$Moment" (9 : Nat) "TermLog$Moment" "from" "I") ∈ lw_all := lw_g (lw_at lw_m1 42 rfl) rfl
theorem q200 : (Jvm.Cond.fieldLink "TermLog$Moment" (15 : Nat) "TermLog$Moment" "to" "I") ∈ lw_all := lw_g (lw_at lw_m1 43 rfl) rfl
theorem q201 : (Jvm.Cond.fieldLink "TermLog$Moment" (18 : Nat) "TermLog$Moment" "kind" "I") ∈ lw_all := lw_g (lw_at lw_m1 44 rfl) rfl
theorem q202 : (Jvm.Cond.fieldLink "TermLog$Moment" (21 : Nat) "TermLog$Moment" "term" "I") ∈ lw_all := lw_g (lw_at lw_m1 45 rfl) rfl
theorem q203 : (Jvm.Cond.fieldLink "TermLog$Moment" (24 : Nat) "TermLog$Moment" "many" "I") ∈ lw_all := lw_g (lw_at lw_m1 46 rfl) rfl
theorem q204 : (Jvm.Cond.fieldLink "TermLog$Moment" (27 : Nat) "TermLog$Moment" "tick" "I") ∈ lw_all := lw_g (lw_at lw_m1 47 rfl) rfl
theorem q205 : (Jvm.Cond.fieldLink "TermLog$Moment" (30 : Nat) "TermLog$Moment" "drawn" "I") ∈ lw_all := lw_g (lw_at lw_m1 48 rfl) rfl
theorem q209 : (Jvm.Cond.lays "TermLog$Moment" "TermLog$Moment" "from" "I") ∈ lw_all := lw_g (lw_at lw_m1 52 rfl) rfl
theorem q210 : (Jvm.Cond.soleField "TermLog$Moment" "from") ∈ lw_all := lw_g (lw_at lw_m1 53 rfl) rfl
theorem q211 : (Jvm.Cond.lays "TermLog$Moment" "TermLog$Moment" "to" "I") ∈ lw_all := lw_g (lw_at lw_m1 54 rfl) rfl
theorem q212 : (Jvm.Cond.soleField "TermLog$Moment" "to") ∈ lw_all := lw_g (lw_at lw_m1 55 rfl) rfl
theorem q213 : (Jvm.Cond.lays "TermLog$Moment" "TermLog$Moment" "kind" "I") ∈ lw_all := lw_g (lw_at lw_m1 56 rfl) rfl
theorem q214 : (Jvm.Cond.soleField "TermLog$Moment" "kind") ∈ lw_all := lw_g (lw_at lw_m1 57 rfl) rfl
theorem q215 : (Jvm.Cond.lays "TermLog$Moment" "TermLog$Moment" "term" "I") ∈ lw_all := lw_g (lw_at lw_m1 58 rfl) rfl
theorem q216 : (Jvm.Cond.soleField "TermLog$Moment" "term") ∈ lw_all := lw_g (lw_at lw_m1 59 rfl) rfl
theorem q217 : (Jvm.Cond.lays "TermLog$Moment" "TermLog$Moment" "many" "I") ∈ lw_all := lw_g (lw_at lw_m1 60 rfl) rfl
theorem q218 : (Jvm.Cond.soleField "TermLog$Moment" "many") ∈ lw_all := lw_g (lw_at lw_m1 61 rfl) rfl
theorem q219 : (Jvm.Cond.lays "TermLog$Moment" "TermLog$Moment" "tick" "I") ∈ lw_all := lw_g (lw_at lw_m1 62 rfl) rfl
theorem q220 : (Jvm.Cond.soleField "TermLog$Moment" "tick") ∈ lw_all := lw_g (lw_at lw_m1 63 rfl) rfl
theorem q221 : (Jvm.Cond.lays "TermLog$Moment" "TermLog$Moment" "drawn" "I") ∈ lw_all := lw_g (lw_at lw_m1 64 rfl) rfl
theorem q222 : (Jvm.Cond.soleField "TermLog$Moment" "drawn") ∈ lw_all := lw_g (lw_at lw_m1 65 rfl) rfl
theorem q223 : (Jvm.Cond.lays "TermLog$Moment" "TermLog$Asked" "isRefused" "Z") ∈ lw_all := lw_g (lw_at lw_m1 66 rfl) rfl
theorem q225 : (Jvm.Cond.superclass "TermLog$Moment" "TermLog$Asked") ∈ lw_all := lw_g (lw_at lw_m1 68 rfl) rfl
theorem q475 : (Jvm.Cond.instanceMethod ({ cls := "TermLog$Moment", name := "of", desc := "(IIII)LTermLog$Moment;" } : Jvm.MethodName)) ∈ lw_all := lw_g (lw_at lw_m2 78 rfl) rfl
theorem q476 : (Jvm.Cond.selects "TermLog$Moment" ({ cls := "TermLog$Moment", name := "of", desc := "(IIII)LTermLog$Moment;" } : Jvm.MethodName) ({ cls := "TermLog$Moment", name := "of", desc := "(IIII)LTermLog$Moment;" } : Jvm.MethodName)) ∈ lw_all := lw_g (lw_at lw_m2 79 rfl) rfl
theorem q477 : (Jvm.Cond.code ({ cls := "TermLog$Moment", name := "of", desc := "(IIII)LTermLog$Moment;" } : Jvm.MethodName) prog_7_method_2_code (5 : Nat) (Option.some (Jvm.ClassFile.FieldType.object "TermLog$Moment"))) ∈ lw_all := lw_g (lw_at lw_m2 80 rfl) rfl
theorem q479 : (Jvm.Cond.instanceMethod ({ cls := "TermLog$Moment", name := "on", desc := "(III)LTermLog$Moment;" } : Jvm.MethodName)) ∈ lw_all := lw_g (lw_at lw_m2 82 rfl) rfl
theorem q480 : (Jvm.Cond.selects "TermLog$Moment" ({ cls := "TermLog$Moment", name := "on", desc := "(III)LTermLog$Moment;" } : Jvm.MethodName) ({ cls := "TermLog$Moment", name := "on", desc := "(III)LTermLog$Moment;" } : Jvm.MethodName)) ∈ lw_all := lw_g (lw_at lw_m2 83 rfl) rfl
theorem q481 : (Jvm.Cond.code ({ cls := "TermLog$Moment", name := "on", desc := "(III)LTermLog$Moment;" } : Jvm.MethodName) prog_7_method_3_code (4 : Nat) (Option.some (Jvm.ClassFile.FieldType.object "TermLog$Moment"))) ∈ lw_all := lw_g (lw_at lw_m2 84 rfl) rfl
theorem q501 : (Jvm.Cond.selects "TermLog$Moment" ({ cls := "TermLog$Asked", name := "value", desc := "(I)I" } : Jvm.MethodName) ({ cls := "TermLog$Moment", name := "value", desc := "(I)I" } : Jvm.MethodName)) ∈ lw_all := lw_g (lw_at lw_m2 104 rfl) rfl
theorem q502 : (Jvm.Cond.instanceMethod ({ cls := "TermLog$Moment", name := "value", desc := "(I)I" } : Jvm.MethodName)) ∈ lw_all := lw_g (lw_at lw_m2 105 rfl) rfl
theorem q503 : (Jvm.Cond.code ({ cls := "TermLog$Moment", name := "value", desc := "(I)I" } : Jvm.MethodName) prog_7_method_4_code (2 : Nat) (Option.some Jvm.ClassFile.FieldType.int)) ∈ lw_all := lw_g (lw_at lw_m2 106 rfl) rfl
theorem in_X2 : ∀ w ∈ wsX20, w ∈ lw_all := lw_in wsX20 [223, 209, 211, 213, 215, 217, 219, 221] (by decide +kernel) (by decide +kernel)
/-! TermLog$Text -/
set_option maxRecDepth 100000
def RX5 : String := "TermLog$Text"
def TX5 : u_T := fun k => match k with
  | 0 => ("TermLog$Text", "letters", "[I", true)
  | 1 => ("TermLog$Text", "sums", "[LTermLog$Sum;", true)
  | 2 => ("TermLog$Text", "conditions", "[LTermLog$Condition;", true)
  | _ => ("TermLog$Text", "many", "I", false)
def tyX5 : Nat → FieldType := fun k => match k with
  | 0 => .array .int
  | 1 => .array (.object "TermLog$Sum")
  | 2 => .array (.object "TermLog$Condition")
  | _ => .int
abbrev wsX50 : List Cond := u_ws RX5 TX5 4
theorem nmX5 : ∀ a, a < 4 → ∀ b, b < 4 → a ≠ b → (TX5 a).2.1 ≠ (TX5 b).2.1 := by decide +kernel
theorem tyX5_ok : ∀ k, k < 4 → parseFieldDescriptor (TX5 k).2.2.1 = some (tyX5 k) := by decide +kernel
abbrev cX5_init : ByteArray := prog_16_method_1_code
def yX5_init : MethodName := ⟨RX5, "<init>", "()V"⟩
def dkwX5_init_1 : List UInt8 := [189, 0, 21, 181, 0, 23, 177]
abbrev dktX5_init_1 : List UInt8 := dkwX5_init_1 ++ []
def dkwX5_init_0 : List UInt8 := [42, 183, 0, 3, 42, 16, 16, 188, 10, 181, 0, 9, 42, 16, 16, 189, 0, 15, 181, 0, 17, 42, 16, 16]
abbrev dktX5_init_0 : List UInt8 := dkwX5_init_0 ++ dktX5_init_1
theorem dksX5_init_0 : cX5_init.data.toList.drop 0 = dktX5_init_0 := by decide +kernel
theorem dksX5_init_1 : cX5_init.data.toList.drop 24 = dktX5_init_1 := dk_seg dksX5_init_0 24 rfl rfl
theorem dX5_init_0 : decode cX5_init 0 = .ok (.aload_n 0, 1) := dk_42 (dk_at dksX5_init_0 0 rfl rfl)
theorem dX5_init_1 : decode cX5_init 1 = .ok (.invokespecial 3, 3) := dk_183 0 3 (dk_at dksX5_init_0 1 rfl rfl)
theorem dX5_init_4 : decode cX5_init 4 = .ok (.aload_n 0, 1) := dk_42 (dk_at dksX5_init_0 4 rfl rfl)
theorem dX5_init_5 : decode cX5_init 5 = .ok (.bipush 16, 2) := dk_16 16 (dk_at dksX5_init_0 5 rfl rfl)
theorem dX5_init_7 : decode cX5_init 7 = .ok (.newarray .int, 2) := dk_188_10 (dk_at dksX5_init_0 7 rfl rfl)
theorem dX5_init_9 : decode cX5_init 9 = .ok (.putfield 9, 3) := dk_181 0 9 (dk_at dksX5_init_0 9 rfl rfl)
theorem dX5_init_12 : decode cX5_init 12 = .ok (.aload_n 0, 1) := dk_42 (dk_at dksX5_init_0 12 rfl rfl)
theorem dX5_init_13 : decode cX5_init 13 = .ok (.bipush 16, 2) := dk_16 16 (dk_at dksX5_init_0 13 rfl rfl)
theorem dX5_init_15 : decode cX5_init 15 = .ok (.anewarray 15, 3) := dk_189 0 15 (dk_at dksX5_init_0 15 rfl rfl)
theorem dX5_init_18 : decode cX5_init 18 = .ok (.putfield 17, 3) := dk_181 0 17 (dk_at dksX5_init_0 18 rfl rfl)
theorem dX5_init_21 : decode cX5_init 21 = .ok (.aload_n 0, 1) := dk_42 (dk_at dksX5_init_0 21 rfl rfl)
theorem dX5_init_22 : decode cX5_init 22 = .ok (.bipush 16, 2) := dk_16 16 (dk_at dksX5_init_0 22 rfl rfl)
theorem dX5_init_24 : decode cX5_init 24 = .ok (.anewarray 21, 3) := dk_189 0 21 (dk_at dksX5_init_1 0 rfl rfl)
theorem dX5_init_27 : decode cX5_init 27 = .ok (.putfield 23, 3) := dk_181 0 23 (dk_at dksX5_init_1 3 rfl rfl)
theorem dX5_init_30 : decode cX5_init 30 = .ok (.return_, 1) := dk_177 (dk_at dksX5_init_1 6 rfl rfl)
abbrev cX5_tells : ByteArray := prog_16_method_2_code
def yX5_tells : MethodName := ⟨RX5, "tells", "(IILTermLog$Asked;)I"⟩
def dkwX5_tells_2 : List UInt8 := [182, 0, 35, 172, 132, 4, 1, 167, 255, 206, 28, 172]
abbrev dktX5_tells_2 : List UInt8 := dkwX5_tells_2 ++ []
def dkwX5_tells_1 : List UInt8 := [180, 0, 23, 21, 4, 50, 45, 182, 0, 31, 4, 160, 0, 15, 42, 180, 0, 17, 21, 4, 50, 45]
abbrev dktX5_tells_1 : List UInt8 := dkwX5_tells_1 ++ dktX5_tells_2
def dkwX5_tells_0 : List UInt8 := [3, 54, 4, 21, 4, 42, 180, 0, 27, 162, 0, 47, 42, 180, 0, 9, 21, 4, 46, 27, 160, 0, 30, 42]
abbrev dktX5_tells_0 : List UInt8 := dkwX5_tells_0 ++ dktX5_tells_1
theorem dksX5_tells_0 : cX5_tells.data.toList.drop 0 = dktX5_tells_0 := by decide +kernel
theorem dksX5_tells_1 : cX5_tells.data.toList.drop 24 = dktX5_tells_1 := dk_seg dksX5_tells_0 24 rfl rfl
theorem dksX5_tells_2 : cX5_tells.data.toList.drop 46 = dktX5_tells_2 := dk_seg dksX5_tells_1 22 rfl rfl
theorem dX5_tells_0 : decode cX5_tells 0 = .ok (.iconst 0, 1) := dk_3 (dk_at dksX5_tells_0 0 rfl rfl)
theorem dX5_tells_1 : decode cX5_tells 1 = .ok (.istore 4, 2) := dk_54 4 (dk_at dksX5_tells_0 1 rfl rfl)
theorem dX5_tells_3 : decode cX5_tells 3 = .ok (.iload 4, 2) := dk_21 4 (dk_at dksX5_tells_0 3 rfl rfl)
theorem dX5_tells_5 : decode cX5_tells 5 = .ok (.aload_n 0, 1) := dk_42 (dk_at dksX5_tells_0 5 rfl rfl)
theorem dX5_tells_6 : decode cX5_tells 6 = .ok (.getfield 27, 3) := dk_180 0 27 (dk_at dksX5_tells_0 6 rfl rfl)
theorem dX5_tells_9 : decode cX5_tells 9 = .ok (.if_icmp .ge 47, 3) := dk_162 0 47 (dk_at dksX5_tells_0 9 rfl rfl)
theorem dX5_tells_12 : decode cX5_tells 12 = .ok (.aload_n 0, 1) := dk_42 (dk_at dksX5_tells_0 12 rfl rfl)
theorem dX5_tells_13 : decode cX5_tells 13 = .ok (.getfield 9, 3) := dk_180 0 9 (dk_at dksX5_tells_0 13 rfl rfl)
theorem dX5_tells_16 : decode cX5_tells 16 = .ok (.iload 4, 2) := dk_21 4 (dk_at dksX5_tells_0 16 rfl rfl)
theorem dX5_tells_18 : decode cX5_tells 18 = .ok (.iaload, 1) := dk_46 (dk_at dksX5_tells_0 18 rfl rfl)
theorem dX5_tells_19 : decode cX5_tells 19 = .ok (.iload_n 1, 1) := dk_27 (dk_at dksX5_tells_0 19 rfl rfl)
theorem dX5_tells_20 : decode cX5_tells 20 = .ok (.if_icmp .ne 30, 3) := dk_160 0 30 (dk_at dksX5_tells_0 20 rfl rfl)
theorem dX5_tells_23 : decode cX5_tells 23 = .ok (.aload_n 0, 1) := dk_42 (dk_at dksX5_tells_0 23 rfl rfl)
theorem dX5_tells_24 : decode cX5_tells 24 = .ok (.getfield 23, 3) := dk_180 0 23 (dk_at dksX5_tells_1 0 rfl rfl)
theorem dX5_tells_27 : decode cX5_tells 27 = .ok (.iload 4, 2) := dk_21 4 (dk_at dksX5_tells_1 3 rfl rfl)
theorem dX5_tells_29 : decode cX5_tells 29 = .ok (.aaload, 1) := dk_50 (dk_at dksX5_tells_1 5 rfl rfl)
theorem dX5_tells_30 : decode cX5_tells 30 = .ok (.aload_n 3, 1) := dk_45 (dk_at dksX5_tells_1 6 rfl rfl)
theorem dX5_tells_31 : decode cX5_tells 31 = .ok (.invokevirtual 31, 3) := dk_182 0 31 (dk_at dksX5_tells_1 7 rfl rfl)
theorem dX5_tells_34 : decode cX5_tells 34 = .ok (.iconst 1, 1) := dk_4 (dk_at dksX5_tells_1 10 rfl rfl)
theorem dX5_tells_35 : decode cX5_tells 35 = .ok (.if_icmp .ne 15, 3) := dk_160 0 15 (dk_at dksX5_tells_1 11 rfl rfl)
theorem dX5_tells_38 : decode cX5_tells 38 = .ok (.aload_n 0, 1) := dk_42 (dk_at dksX5_tells_1 14 rfl rfl)
theorem dX5_tells_39 : decode cX5_tells 39 = .ok (.getfield 17, 3) := dk_180 0 17 (dk_at dksX5_tells_1 15 rfl rfl)
theorem dX5_tells_42 : decode cX5_tells 42 = .ok (.iload 4, 2) := dk_21 4 (dk_at dksX5_tells_1 18 rfl rfl)
theorem dX5_tells_44 : decode cX5_tells 44 = .ok (.aaload, 1) := dk_50 (dk_at dksX5_tells_1 20 rfl rfl)
theorem dX5_tells_45 : decode cX5_tells 45 = .ok (.aload_n 3, 1) := dk_45 (dk_at dksX5_tells_1 21 rfl rfl)
theorem dX5_tells_46 : decode cX5_tells 46 = .ok (.invokevirtual 35, 3) := dk_182 0 35 (dk_at dksX5_tells_2 0 rfl rfl)
theorem dX5_tells_49 : decode cX5_tells 49 = .ok (.ireturn, 1) := dk_172 (dk_at dksX5_tells_2 3 rfl rfl)
theorem dX5_tells_50 : decode cX5_tells 50 = .ok (.iinc 4 1, 3) := dk_132 4 1 (dk_at dksX5_tells_2 4 rfl rfl)
theorem dX5_tells_53 : decode cX5_tells 53 = .ok (.goto (-50), 3) := dk_167 255 206 (dk_at dksX5_tells_2 7 rfl rfl)
theorem dX5_tells_56 : decode cX5_tells 56 = .ok (.iload_n 2, 1) := dk_28 (dk_at dksX5_tells_2 10 rfl rfl)
theorem dX5_tells_57 : decode cX5_tells 57 = .ok (.ireturn, 1) := dk_172 (dk_at dksX5_tells_2 11 rfl rfl)
abbrev cX5_says : ByteArray := prog_16_method_3_code
def yX5_says : MethodName := ⟨RX5, "says", "(ILTermLog$Asked;)Z"⟩
def dkwX5_says_1 : List UInt8 := [29, 50, 44, 182, 0, 31, 4, 160, 0, 5, 4, 172, 132, 3, 1, 167, 255, 219, 3, 172]
abbrev dktX5_says_1 : List UInt8 := dkwX5_says_1 ++ []
def dkwX5_says_0 : List UInt8 := [3, 62, 29, 42, 180, 0, 27, 162, 0, 35, 42, 180, 0, 9, 29, 46, 27, 160, 0, 19, 42, 180, 0, 23]
abbrev dktX5_says_0 : List UInt8 := dkwX5_says_0 ++ dktX5_says_1
theorem dksX5_says_0 : cX5_says.data.toList.drop 0 = dktX5_says_0 := by decide +kernel
theorem dksX5_says_1 : cX5_says.data.toList.drop 24 = dktX5_says_1 := dk_seg dksX5_says_0 24 rfl rfl
theorem dX5_says_0 : decode cX5_says 0 = .ok (.iconst 0, 1) := dk_3 (dk_at dksX5_says_0 0 rfl rfl)
theorem dX5_says_1 : decode cX5_says 1 = .ok (.istore_n 3, 1) := dk_62 (dk_at dksX5_says_0 1 rfl rfl)
theorem dX5_says_2 : decode cX5_says 2 = .ok (.iload_n 3, 1) := dk_29 (dk_at dksX5_says_0 2 rfl rfl)
theorem dX5_says_3 : decode cX5_says 3 = .ok (.aload_n 0, 1) := dk_42 (dk_at dksX5_says_0 3 rfl rfl)
theorem dX5_says_4 : decode cX5_says 4 = .ok (.getfield 27, 3) := dk_180 0 27 (dk_at dksX5_says_0 4 rfl rfl)
theorem dX5_says_7 : decode cX5_says 7 = .ok (.if_icmp .ge 35, 3) := dk_162 0 35 (dk_at dksX5_says_0 7 rfl rfl)
theorem dX5_says_10 : decode cX5_says 10 = .ok (.aload_n 0, 1) := dk_42 (dk_at dksX5_says_0 10 rfl rfl)
theorem dX5_says_11 : decode cX5_says 11 = .ok (.getfield 9, 3) := dk_180 0 9 (dk_at dksX5_says_0 11 rfl rfl)
theorem dX5_says_14 : decode cX5_says 14 = .ok (.iload_n 3, 1) := dk_29 (dk_at dksX5_says_0 14 rfl rfl)
theorem dX5_says_15 : decode cX5_says 15 = .ok (.iaload, 1) := dk_46 (dk_at dksX5_says_0 15 rfl rfl)
theorem dX5_says_16 : decode cX5_says 16 = .ok (.iload_n 1, 1) := dk_27 (dk_at dksX5_says_0 16 rfl rfl)
theorem dX5_says_17 : decode cX5_says 17 = .ok (.if_icmp .ne 19, 3) := dk_160 0 19 (dk_at dksX5_says_0 17 rfl rfl)
theorem dX5_says_20 : decode cX5_says 20 = .ok (.aload_n 0, 1) := dk_42 (dk_at dksX5_says_0 20 rfl rfl)
theorem dX5_says_21 : decode cX5_says 21 = .ok (.getfield 23, 3) := dk_180 0 23 (dk_at dksX5_says_0 21 rfl rfl)
theorem dX5_says_24 : decode cX5_says 24 = .ok (.iload_n 3, 1) := dk_29 (dk_at dksX5_says_1 0 rfl rfl)
theorem dX5_says_25 : decode cX5_says 25 = .ok (.aaload, 1) := dk_50 (dk_at dksX5_says_1 1 rfl rfl)
theorem dX5_says_26 : decode cX5_says 26 = .ok (.aload_n 2, 1) := dk_44 (dk_at dksX5_says_1 2 rfl rfl)
theorem dX5_says_27 : decode cX5_says 27 = .ok (.invokevirtual 31, 3) := dk_182 0 31 (dk_at dksX5_says_1 3 rfl rfl)
theorem dX5_says_30 : decode cX5_says 30 = .ok (.iconst 1, 1) := dk_4 (dk_at dksX5_says_1 6 rfl rfl)
theorem dX5_says_31 : decode cX5_says 31 = .ok (.if_icmp .ne 5, 3) := dk_160 0 5 (dk_at dksX5_says_1 7 rfl rfl)
theorem dX5_says_34 : decode cX5_says 34 = .ok (.iconst 1, 1) := dk_4 (dk_at dksX5_says_1 10 rfl rfl)
theorem dX5_says_35 : decode cX5_says 35 = .ok (.ireturn, 1) := dk_172 (dk_at dksX5_says_1 11 rfl rfl)
theorem dX5_says_36 : decode cX5_says 36 = .ok (.iinc 3 1, 3) := dk_132 3 1 (dk_at dksX5_says_1 12 rfl rfl)
theorem dX5_says_39 : decode cX5_says 39 = .ok (.goto (-37), 3) := dk_167 255 219 (dk_at dksX5_says_1 15 rfl rfl)
theorem dX5_says_42 : decode cX5_says 42 = .ok (.iconst 0, 1) := dk_3 (dk_at dksX5_says_1 18 rfl rfl)
theorem dX5_says_43 : decode cX5_says 43 = .ok (.ireturn, 1) := dk_172 (dk_at dksX5_says_1 19 rfl rfl)
theorem q163 : (Jvm.Cond.initialized "TermLog$Text") ∈ lw_all := lw_g (lw_at lw_m1 6 rfl) rfl
theorem q425 : (Jvm.Cond.instantiable "TermLog$Text" (4 : Nat)) ∈ lw_all := lw_g (lw_at lw_m2 28 rfl) rfl
theorem q427 : (Jvm.Cond.instanceMethod ({ cls := "TermLog$Text", name := "<init>", desc := "()V" } : Jvm.MethodName)) ∈ lw_all := lw_g (lw_at lw_m2 30 rfl) rfl
theorem q428 : (Jvm.Cond.code ({ cls := "TermLog$Text", name := "<init>", desc := "()V" } : Jvm.MethodName) prog_16_method_1_code (1 : Nat) (Option.none : Option Jvm.ClassFile.FieldType)) ∈ lw_all := lw_g (lw_at lw_m2 31 rfl) rfl
theorem q429 : (Jvm.Cond.methodLink "TermLog$Text" (3 : Nat) ({ cls := "java/lang/Object", name := "<init>", desc := "()V" } : Jvm.MethodName)) ∈ lw_all := lw_g (lw_at lw_m2 32 rfl) rfl
theorem q430 : (Jvm.Cond.classLink "TermLog$Text" (15 : Nat) "TermLog$Sum") ∈ lw_all := lw_g (lw_at lw_m2 33 rfl) rfl
theorem q432 : (Jvm.Cond.classLink "TermLog$Text" (21 : Nat) "TermLog$Condition") ∈ lw_all := lw_g (lw_at lw_m2 35 rfl) rfl
theorem q434 : (Jvm.Cond.fieldLink "TermLog$Text" (9 : Nat) "TermLog$Text" "letters" "[I") ∈ lw_all := lw_g (lw_at lw_m2 37 rfl) rfl
theorem q436 : (Jvm.Cond.fieldLink "TermLog$Text" (17 : Nat) "TermLog$Text" "sums" "[LTermLog$Sum;") ∈ lw_all := lw_g (lw_at lw_m2 39 rfl) rfl
theorem q438 : (Jvm.Cond.fieldLink "TermLog$Text" (23 : Nat) "TermLog$Text" "conditions" "[LTermLog$Condition;") ∈ lw_all := lw_g (lw_at lw_m2 41 rfl) rfl
theorem q440 : (Jvm.Cond.fieldLink "TermLog$Text" (27 : Nat) "TermLog$Text" "many" "I") ∈ lw_all := lw_g (lw_at lw_m2 43 rfl) rfl
theorem q443 : (Jvm.Cond.laysFinal "TermLog$Text" "TermLog$Text" "letters" "[I") ∈ lw_all := lw_g (lw_at lw_m2 46 rfl) rfl
theorem q444 : (Jvm.Cond.soleField "TermLog$Text" "letters") ∈ lw_all := lw_g (lw_at lw_m2 47 rfl) rfl
theorem q445 : (Jvm.Cond.laysFinal "TermLog$Text" "TermLog$Text" "sums" "[LTermLog$Sum;") ∈ lw_all := lw_g (lw_at lw_m2 48 rfl) rfl
theorem q446 : (Jvm.Cond.soleField "TermLog$Text" "sums") ∈ lw_all := lw_g (lw_at lw_m2 49 rfl) rfl
theorem q447 : (Jvm.Cond.laysFinal "TermLog$Text" "TermLog$Text" "conditions" "[LTermLog$Condition;") ∈ lw_all := lw_g (lw_at lw_m2 50 rfl) rfl
theorem q448 : (Jvm.Cond.soleField "TermLog$Text" "conditions") ∈ lw_all := lw_g (lw_at lw_m2 51 rfl) rfl
theorem q449 : (Jvm.Cond.lays "TermLog$Text" "TermLog$Text" "many" "I") ∈ lw_all := lw_g (lw_at lw_m2 52 rfl) rfl
theorem q450 : (Jvm.Cond.soleField "TermLog$Text" "many") ∈ lw_all := lw_g (lw_at lw_m2 53 rfl) rfl
theorem q451 : (Jvm.Cond.superclass "TermLog$Text" "java/lang/Object") ∈ lw_all := lw_g (lw_at lw_m2 54 rfl) rfl
theorem q483 : (Jvm.Cond.instanceMethod ({ cls := "TermLog$Text", name := "tells", desc := "(IILTermLog$Asked;)I" } : Jvm.MethodName)) ∈ lw_all := lw_g (lw_at lw_m2 86 rfl) rfl
theorem q484 : (Jvm.Cond.selects "TermLog$Text" ({ cls := "TermLog$Text", name := "tells", desc := "(IILTermLog$Asked;)I" } : Jvm.MethodName) ({ cls := "TermLog$Text", name := "tells", desc := "(IILTermLog$Asked;)I" } : Jvm.MethodName)) ∈ lw_all := lw_g (lw_at lw_m2 87 rfl) rfl
theorem q485 : (Jvm.Cond.code ({ cls := "TermLog$Text", name := "tells", desc := "(IILTermLog$Asked;)I" } : Jvm.MethodName) prog_16_method_2_code (5 : Nat) (Option.some Jvm.ClassFile.FieldType.int)) ∈ lw_all := lw_g (lw_at lw_m2 88 rfl) rfl
theorem q486 : (Jvm.Cond.methodLink "TermLog$Text" (31 : Nat) ({ cls := "TermLog$Condition", name := "holds", desc := "(LTermLog$Asked;)I" } : Jvm.MethodName)) ∈ lw_all := lw_g (lw_at lw_m2 89 rfl) rfl
theorem q522 : (Jvm.Cond.methodLink "TermLog$Text" (35 : Nat) ({ cls := "TermLog$Sum", name := "told", desc := "(LTermLog$Asked;)I" } : Jvm.MethodName)) ∈ lw_all := lw_g (lw_at lw_m2 125 rfl) rfl
theorem q690 : (Jvm.Cond.instanceMethod ({ cls := "TermLog$Text", name := "says", desc := "(ILTermLog$Asked;)Z" } : Jvm.MethodName)) ∈ lw_all := lw_g (lw_at lw_m3 53 rfl) rfl
theorem q691 : (Jvm.Cond.selects "TermLog$Text" ({ cls := "TermLog$Text", name := "says", desc := "(ILTermLog$Asked;)Z" } : Jvm.MethodName) ({ cls := "TermLog$Text", name := "says", desc := "(ILTermLog$Asked;)Z" } : Jvm.MethodName)) ∈ lw_all := lw_g (lw_at lw_m3 54 rfl) rfl
theorem q692 : (Jvm.Cond.code ({ cls := "TermLog$Text", name := "says", desc := "(ILTermLog$Asked;)Z" } : Jvm.MethodName) prog_16_method_3_code (4 : Nat) (Option.some Jvm.ClassFile.FieldType.boolean)) ∈ lw_all := lw_g (lw_at lw_m3 55 rfl) rfl
theorem in_X5 : ∀ w ∈ wsX50, w ∈ lw_all := lw_in wsX50 [443, 445, 447, 449] (by decide +kernel) (by decide +kernel)
/-! TermLog$Sum -/
set_option maxRecDepth 100000
def RX6 : String := "TermLog$Sum"
abbrev cX6_told : ByteArray := prog_15_method_3_code
def yX6_told : MethodName := ⟨RX6, "told", "(LTermLog$Asked;)I"⟩
def dkwX6_told_0 : List UInt8 := [43, 3, 181, 0, 7, 42, 43, 182, 0, 13, 61, 43, 180, 0, 7, 153, 0, 7, 3, 167, 0, 4, 28, 172]
abbrev dktX6_told_0 : List UInt8 := dkwX6_told_0 ++ []
theorem dksX6_told_0 : cX6_told.data.toList.drop 0 = dktX6_told_0 := by decide +kernel
theorem dX6_told_0 : decode cX6_told 0 = .ok (.aload_n 1, 1) := dk_43 (dk_at dksX6_told_0 0 rfl rfl)
theorem dX6_told_1 : decode cX6_told 1 = .ok (.iconst 0, 1) := dk_3 (dk_at dksX6_told_0 1 rfl rfl)
theorem dX6_told_2 : decode cX6_told 2 = .ok (.putfield 7, 3) := dk_181 0 7 (dk_at dksX6_told_0 2 rfl rfl)
theorem dX6_told_5 : decode cX6_told 5 = .ok (.aload_n 0, 1) := dk_42 (dk_at dksX6_told_0 5 rfl rfl)
theorem dX6_told_6 : decode cX6_told 6 = .ok (.aload_n 1, 1) := dk_43 (dk_at dksX6_told_0 6 rfl rfl)
theorem dX6_told_7 : decode cX6_told 7 = .ok (.invokevirtual 13, 3) := dk_182 0 13 (dk_at dksX6_told_0 7 rfl rfl)
theorem dX6_told_10 : decode cX6_told 10 = .ok (.istore_n 2, 1) := dk_61 (dk_at dksX6_told_0 10 rfl rfl)
theorem dX6_told_11 : decode cX6_told 11 = .ok (.aload_n 1, 1) := dk_43 (dk_at dksX6_told_0 11 rfl rfl)
theorem dX6_told_12 : decode cX6_told 12 = .ok (.getfield 7, 3) := dk_180 0 7 (dk_at dksX6_told_0 12 rfl rfl)
theorem dX6_told_15 : decode cX6_told 15 = .ok (.ifCond .eq 7, 3) := dk_153 0 7 (dk_at dksX6_told_0 15 rfl rfl)
theorem dX6_told_18 : decode cX6_told 18 = .ok (.iconst 0, 1) := dk_3 (dk_at dksX6_told_0 18 rfl rfl)
theorem dX6_told_19 : decode cX6_told 19 = .ok (.goto 4, 3) := dk_167 0 4 (dk_at dksX6_told_0 19 rfl rfl)
theorem dX6_told_22 : decode cX6_told 22 = .ok (.iload_n 2, 1) := dk_28 (dk_at dksX6_told_0 22 rfl rfl)
theorem dX6_told_23 : decode cX6_told 23 = .ok (.ireturn, 1) := dk_172 (dk_at dksX6_told_0 23 rfl rfl)
abbrev cX6_init : ByteArray := prog_15_method_1_code
def yX6_init : MethodName := ⟨RX6, "<init>", "()V"⟩
theorem dX6_init_0 : decode cX6_init 0 = .ok (.aload_n 0, 1) := by decide +kernel
theorem dX6_init_1 : decode cX6_init 1 = .ok (.invokespecial 1, 3) := by decide +kernel
theorem dX6_init_4 : decode cX6_init 4 = .ok (.return_, 1) := by decide +kernel
theorem q164 : (Jvm.Cond.initialized "TermLog$Sum") ∈ lw_all := lw_g (lw_at lw_m1 7 rfl) rfl
theorem q208 : (Jvm.Cond.fieldLinkNest "TermLog$Sum" (7 : Nat) "TermLog$Asked" "isRefused" "Z" "TermLog") ∈ lw_tbl := lw_at lw_m1 51 rfl
theorem q493 : (Jvm.Cond.declares ({ cls := "TermLog$Sum", name := "worth", desc := "(LTermLog$Asked;)I" } : Jvm.MethodName)) ∈ lw_tbl := lw_at lw_m2 96 rfl
theorem q494 : (Jvm.Cond.sameMethod "TermLog$Sum" "TermLog$Sum" "worth" "(LTermLog$Asked;)I") ∈ lw_all := lw_g (lw_at lw_m2 97 rfl) rfl
theorem q523 : (Jvm.Cond.instanceMethod ({ cls := "TermLog$Sum", name := "told", desc := "(LTermLog$Asked;)I" } : Jvm.MethodName)) ∈ lw_all := lw_g (lw_at lw_m2 126 rfl) rfl
theorem q524 : (Jvm.Cond.sameMethod "TermLog$Sum" "TermLog$Sum" "told" "(LTermLog$Asked;)I") ∈ lw_all := lw_g (lw_at lw_m2 127 rfl) rfl
theorem q528 : (Jvm.Cond.code ({ cls := "TermLog$Sum", name := "told", desc := "(LTermLog$Asked;)I" } : Jvm.MethodName) prog_15_method_3_code (3 : Nat) (Option.some Jvm.ClassFile.FieldType.int)) ∈ lw_all := lw_g (lw_at lw_m2 131 rfl) rfl
theorem q529 : (Jvm.Cond.methodLink "TermLog$Sum" (13 : Nat) ({ cls := "TermLog$Sum", name := "worth", desc := "(LTermLog$Asked;)I" } : Jvm.MethodName)) ∈ lw_all := lw_g (lw_at lw_m2 132 rfl) rfl
theorem q949 : (Jvm.Cond.instanceMethod ({ cls := "TermLog$Sum", name := "<init>", desc := "()V" } : Jvm.MethodName)) ∈ lw_all := lw_g (lw_at lw_m4 72 rfl) rfl
theorem q950 : (Jvm.Cond.code ({ cls := "TermLog$Sum", name := "<init>", desc := "()V" } : Jvm.MethodName) prog_15_method_1_code (1 : Nat) (Option.none : Option Jvm.ClassFile.FieldType)) ∈ lw_all := lw_g (lw_at lw_m4 73 rfl) rfl
theorem q951 : (Jvm.Cond.methodLink "TermLog$Sum" (1 : Nat) ({ cls := "java/lang/Object", name := "<init>", desc := "()V" } : Jvm.MethodName)) ∈ lw_all := lw_g (lw_at lw_m4 74 rfl) rfl
/-! TermLog$Row -/
set_option maxRecDepth 100000
def RX7 : String := "TermLog$Row"
def TX7 : u_T := fun k => match k with
  | 0 => ("TermLog$Row", "sign", "I", true)
  | 1 => ("TermLog$Row", "part", "LTermLog$Sum;", true)
  | _ => ("TermLog$Row", "next", "LTermLog$Row;", false)
def tyX7 : Nat → FieldType := fun k => match k with
  | 0 => .int
  | 1 => .object "TermLog$Sum"
  | _ => .object "TermLog$Row"
abbrev wsX70 : List Cond := u_ws RX7 TX7 3
theorem nmX7 : ∀ a, a < 3 → ∀ b, b < 3 → a ≠ b → (TX7 a).2.1 ≠ (TX7 b).2.1 := by decide +kernel
theorem tyX7_ok : ∀ k, k < 3 → parseFieldDescriptor (TX7 k).2.2.1 = some (tyX7 k) := by decide +kernel
abbrev cX7_worth : ByteArray := prog_13_method_3_code
def yX7_worth : MethodName := ⟨RX7, "worth", "(LTermLog$Asked;)I"⟩
def dkwX7_worth_1 : List UInt8 := [180, 0, 13, 43, 182, 0, 23, 43, 184, 0, 31, 61, 45, 180, 0, 27, 78, 167, 255, 229, 28, 172]
abbrev dktX7_worth_1 : List UInt8 := dkwX7_worth_1 ++ []
def dkwX7_worth_0 : List UInt8 := [42, 180, 0, 13, 43, 182, 0, 23, 61, 42, 180, 0, 27, 78, 45, 198, 0, 29, 45, 180, 0, 7, 28, 45]
abbrev dktX7_worth_0 : List UInt8 := dkwX7_worth_0 ++ dktX7_worth_1
theorem dksX7_worth_0 : cX7_worth.data.toList.drop 0 = dktX7_worth_0 := by decide +kernel
theorem dksX7_worth_1 : cX7_worth.data.toList.drop 24 = dktX7_worth_1 := dk_seg dksX7_worth_0 24 rfl rfl
theorem dX7_worth_0 : decode cX7_worth 0 = .ok (.aload_n 0, 1) := dk_42 (dk_at dksX7_worth_0 0 rfl rfl)
theorem dX7_worth_1 : decode cX7_worth 1 = .ok (.getfield 13, 3) := dk_180 0 13 (dk_at dksX7_worth_0 1 rfl rfl)
theorem dX7_worth_4 : decode cX7_worth 4 = .ok (.aload_n 1, 1) := dk_43 (dk_at dksX7_worth_0 4 rfl rfl)
theorem dX7_worth_5 : decode cX7_worth 5 = .ok (.invokevirtual 23, 3) := dk_182 0 23 (dk_at dksX7_worth_0 5 rfl rfl)
theorem dX7_worth_8 : decode cX7_worth 8 = .ok (.istore_n 2, 1) := dk_61 (dk_at dksX7_worth_0 8 rfl rfl)
theorem dX7_worth_9 : decode cX7_worth 9 = .ok (.aload_n 0, 1) := dk_42 (dk_at dksX7_worth_0 9 rfl rfl)
theorem dX7_worth_10 : decode cX7_worth 10 = .ok (.getfield 27, 3) := dk_180 0 27 (dk_at dksX7_worth_0 10 rfl rfl)
theorem dX7_worth_13 : decode cX7_worth 13 = .ok (.astore_n 3, 1) := dk_78 (dk_at dksX7_worth_0 13 rfl rfl)
theorem dX7_worth_14 : decode cX7_worth 14 = .ok (.aload_n 3, 1) := dk_45 (dk_at dksX7_worth_0 14 rfl rfl)
theorem dX7_worth_15 : decode cX7_worth 15 = .ok (.ifnull 29, 3) := dk_198 0 29 (dk_at dksX7_worth_0 15 rfl rfl)
theorem dX7_worth_18 : decode cX7_worth 18 = .ok (.aload_n 3, 1) := dk_45 (dk_at dksX7_worth_0 18 rfl rfl)
theorem dX7_worth_19 : decode cX7_worth 19 = .ok (.getfield 7, 3) := dk_180 0 7 (dk_at dksX7_worth_0 19 rfl rfl)
theorem dX7_worth_22 : decode cX7_worth 22 = .ok (.iload_n 2, 1) := dk_28 (dk_at dksX7_worth_0 22 rfl rfl)
theorem dX7_worth_23 : decode cX7_worth 23 = .ok (.aload_n 3, 1) := dk_45 (dk_at dksX7_worth_0 23 rfl rfl)
theorem dX7_worth_24 : decode cX7_worth 24 = .ok (.getfield 13, 3) := dk_180 0 13 (dk_at dksX7_worth_1 0 rfl rfl)
theorem dX7_worth_27 : decode cX7_worth 27 = .ok (.aload_n 1, 1) := dk_43 (dk_at dksX7_worth_1 3 rfl rfl)
theorem dX7_worth_28 : decode cX7_worth 28 = .ok (.invokevirtual 23, 3) := dk_182 0 23 (dk_at dksX7_worth_1 4 rfl rfl)
theorem dX7_worth_31 : decode cX7_worth 31 = .ok (.aload_n 1, 1) := dk_43 (dk_at dksX7_worth_1 7 rfl rfl)
theorem dX7_worth_32 : decode cX7_worth 32 = .ok (.invokestatic 31, 3) := dk_184 0 31 (dk_at dksX7_worth_1 8 rfl rfl)
theorem dX7_worth_35 : decode cX7_worth 35 = .ok (.istore_n 2, 1) := dk_61 (dk_at dksX7_worth_1 11 rfl rfl)
theorem dX7_worth_36 : decode cX7_worth 36 = .ok (.aload_n 3, 1) := dk_45 (dk_at dksX7_worth_1 12 rfl rfl)
theorem dX7_worth_37 : decode cX7_worth 37 = .ok (.getfield 27, 3) := dk_180 0 27 (dk_at dksX7_worth_1 13 rfl rfl)
theorem dX7_worth_40 : decode cX7_worth 40 = .ok (.astore_n 3, 1) := dk_78 (dk_at dksX7_worth_1 16 rfl rfl)
theorem dX7_worth_41 : decode cX7_worth 41 = .ok (.goto (-27), 3) := dk_167 255 229 (dk_at dksX7_worth_1 17 rfl rfl)
theorem dX7_worth_44 : decode cX7_worth 44 = .ok (.iload_n 2, 1) := dk_28 (dk_at dksX7_worth_1 20 rfl rfl)
theorem dX7_worth_45 : decode cX7_worth 45 = .ok (.ireturn, 1) := dk_172 (dk_at dksX7_worth_1 21 rfl rfl)
abbrev cX7_worked : ByteArray := prog_13_method_2_code
def yX7_worked : MethodName := ⟨RX7, "worked", "(IIILTermLog$Asked;)I"⟩
def dkwX7_worked_3 : List UInt8 := [154, 0, 7, 3, 167, 0, 18, 26, 16, 47, 160, 0, 9, 27, 28, 108, 167, 0, 6, 27, 28, 112, 172]
abbrev dktX7_worked_3 : List UInt8 := dkwX7_worked_3 ++ []
def dkwX7_worked_2 : List UInt8 := [27, 28, 96, 172, 27, 28, 100, 172, 27, 28, 104, 172, 28, 154, 0, 8, 45, 4, 181, 0, 17, 28]
abbrev dktX7_worked_2 : List UInt8 := dkwX7_worked_2 ++ dktX7_worked_3
def dkwX7_worked_1 : List UInt8 := [170, 0, 0, 0, 0, 0, 43, 0, 0, 0, 42, 0, 0, 0, 45, 0, 0, 0, 39, 0, 0, 0, 31, 0, 0, 0, 43, 0, 0, 0, 35]
abbrev dktX7_worked_1 : List UInt8 := dkwX7_worked_1 ++ dktX7_worked_2
def dkwX7_worked_0 : List UInt8 := [26]
abbrev dktX7_worked_0 : List UInt8 := dkwX7_worked_0 ++ dktX7_worked_1
theorem dksX7_worked_0 : cX7_worked.data.toList.drop 0 = dktX7_worked_0 := by decide +kernel
theorem dksX7_worked_1 : cX7_worked.data.toList.drop 1 = dktX7_worked_1 := dk_seg dksX7_worked_0 1 rfl rfl
theorem dksX7_worked_2 : cX7_worked.data.toList.drop 32 = dktX7_worked_2 := dk_seg dksX7_worked_1 31 rfl rfl
theorem dksX7_worked_3 : cX7_worked.data.toList.drop 54 = dktX7_worked_3 := dk_seg dksX7_worked_2 22 rfl rfl
theorem dX7_worked_0 : decode cX7_worked 0 = .ok (.iload_n 0, 1) := dk_26 (dk_at dksX7_worked_0 0 rfl rfl)
theorem dX7_worked_1 : decode cX7_worked 1 = .ok (.tableswitch 43 42 45 #[39, 31, 43, 35], 31) := by decide +kernel
theorem dX7_worked_32 : decode cX7_worked 32 = .ok (.iload_n 1, 1) := dk_27 (dk_at dksX7_worked_2 0 rfl rfl)
theorem dX7_worked_33 : decode cX7_worked 33 = .ok (.iload_n 2, 1) := dk_28 (dk_at dksX7_worked_2 1 rfl rfl)
theorem dX7_worked_34 : decode cX7_worked 34 = .ok (.iadd, 1) := dk_96 (dk_at dksX7_worked_2 2 rfl rfl)
theorem dX7_worked_35 : decode cX7_worked 35 = .ok (.ireturn, 1) := dk_172 (dk_at dksX7_worked_2 3 rfl rfl)
theorem dX7_worked_36 : decode cX7_worked 36 = .ok (.iload_n 1, 1) := dk_27 (dk_at dksX7_worked_2 4 rfl rfl)
theorem dX7_worked_37 : decode cX7_worked 37 = .ok (.iload_n 2, 1) := dk_28 (dk_at dksX7_worked_2 5 rfl rfl)
theorem dX7_worked_38 : decode cX7_worked 38 = .ok (.isub, 1) := dk_100 (dk_at dksX7_worked_2 6 rfl rfl)
theorem dX7_worked_39 : decode cX7_worked 39 = .ok (.ireturn, 1) := dk_172 (dk_at dksX7_worked_2 7 rfl rfl)
theorem dX7_worked_40 : decode cX7_worked 40 = .ok (.iload_n 1, 1) := dk_27 (dk_at dksX7_worked_2 8 rfl rfl)
theorem dX7_worked_41 : decode cX7_worked 41 = .ok (.iload_n 2, 1) := dk_28 (dk_at dksX7_worked_2 9 rfl rfl)
theorem dX7_worked_42 : decode cX7_worked 42 = .ok (.imul, 1) := dk_104 (dk_at dksX7_worked_2 10 rfl rfl)
theorem dX7_worked_43 : decode cX7_worked 43 = .ok (.ireturn, 1) := dk_172 (dk_at dksX7_worked_2 11 rfl rfl)
theorem dX7_worked_44 : decode cX7_worked 44 = .ok (.iload_n 2, 1) := dk_28 (dk_at dksX7_worked_2 12 rfl rfl)
theorem dX7_worked_45 : decode cX7_worked 45 = .ok (.ifCond .ne 8, 3) := dk_154 0 8 (dk_at dksX7_worked_2 13 rfl rfl)
theorem dX7_worked_48 : decode cX7_worked 48 = .ok (.aload_n 3, 1) := dk_45 (dk_at dksX7_worked_2 16 rfl rfl)
theorem dX7_worked_49 : decode cX7_worked 49 = .ok (.iconst 1, 1) := dk_4 (dk_at dksX7_worked_2 17 rfl rfl)
theorem dX7_worked_50 : decode cX7_worked 50 = .ok (.putfield 17, 3) := dk_181 0 17 (dk_at dksX7_worked_2 18 rfl rfl)
theorem dX7_worked_53 : decode cX7_worked 53 = .ok (.iload_n 2, 1) := dk_28 (dk_at dksX7_worked_2 21 rfl rfl)
theorem dX7_worked_54 : decode cX7_worked 54 = .ok (.ifCond .ne 7, 3) := dk_154 0 7 (dk_at dksX7_worked_3 0 rfl rfl)
theorem dX7_worked_57 : decode cX7_worked 57 = .ok (.iconst 0, 1) := dk_3 (dk_at dksX7_worked_3 3 rfl rfl)
theorem dX7_worked_58 : decode cX7_worked 58 = .ok (.goto 18, 3) := dk_167 0 18 (dk_at dksX7_worked_3 4 rfl rfl)
theorem dX7_worked_61 : decode cX7_worked 61 = .ok (.iload_n 0, 1) := dk_26 (dk_at dksX7_worked_3 7 rfl rfl)
theorem dX7_worked_62 : decode cX7_worked 62 = .ok (.bipush 47, 2) := dk_16 47 (dk_at dksX7_worked_3 8 rfl rfl)
theorem dX7_worked_64 : decode cX7_worked 64 = .ok (.if_icmp .ne 9, 3) := dk_160 0 9 (dk_at dksX7_worked_3 10 rfl rfl)
theorem dX7_worked_67 : decode cX7_worked 67 = .ok (.iload_n 1, 1) := dk_27 (dk_at dksX7_worked_3 13 rfl rfl)
theorem dX7_worked_68 : decode cX7_worked 68 = .ok (.iload_n 2, 1) := dk_28 (dk_at dksX7_worked_3 14 rfl rfl)
theorem dX7_worked_69 : decode cX7_worked 69 = .ok (.idiv, 1) := dk_108 (dk_at dksX7_worked_3 15 rfl rfl)
theorem dX7_worked_70 : decode cX7_worked 70 = .ok (.goto 6, 3) := dk_167 0 6 (dk_at dksX7_worked_3 16 rfl rfl)
theorem dX7_worked_73 : decode cX7_worked 73 = .ok (.iload_n 1, 1) := dk_27 (dk_at dksX7_worked_3 19 rfl rfl)
theorem dX7_worked_74 : decode cX7_worked 74 = .ok (.iload_n 2, 1) := dk_28 (dk_at dksX7_worked_3 20 rfl rfl)
theorem dX7_worked_75 : decode cX7_worked 75 = .ok (.irem, 1) := dk_112 (dk_at dksX7_worked_3 21 rfl rfl)
theorem dX7_worked_76 : decode cX7_worked 76 = .ok (.ireturn, 1) := dk_172 (dk_at dksX7_worked_3 22 rfl rfl)
abbrev cX7_init : ByteArray := prog_13_method_1_code
def yX7_init : MethodName := ⟨RX7, "<init>", "(ILTermLog$Sum;)V"⟩
def dkwX7_init_0 : List UInt8 := [42, 183, 0, 1, 42, 27, 181, 0, 7, 42, 44, 181, 0, 13, 177]
abbrev dktX7_init_0 : List UInt8 := dkwX7_init_0 ++ []
theorem dksX7_init_0 : cX7_init.data.toList.drop 0 = dktX7_init_0 := by decide +kernel
theorem dX7_init_0 : decode cX7_init 0 = .ok (.aload_n 0, 1) := dk_42 (dk_at dksX7_init_0 0 rfl rfl)
theorem dX7_init_1 : decode cX7_init 1 = .ok (.invokespecial 1, 3) := dk_183 0 1 (dk_at dksX7_init_0 1 rfl rfl)
theorem dX7_init_4 : decode cX7_init 4 = .ok (.aload_n 0, 1) := dk_42 (dk_at dksX7_init_0 4 rfl rfl)
theorem dX7_init_5 : decode cX7_init 5 = .ok (.iload_n 1, 1) := dk_27 (dk_at dksX7_init_0 5 rfl rfl)
theorem dX7_init_6 : decode cX7_init 6 = .ok (.putfield 7, 3) := dk_181 0 7 (dk_at dksX7_init_0 6 rfl rfl)
theorem dX7_init_9 : decode cX7_init 9 = .ok (.aload_n 0, 1) := dk_42 (dk_at dksX7_init_0 9 rfl rfl)
theorem dX7_init_10 : decode cX7_init 10 = .ok (.aload_n 2, 1) := dk_44 (dk_at dksX7_init_0 10 rfl rfl)
theorem dX7_init_11 : decode cX7_init 11 = .ok (.putfield 13, 3) := dk_181 0 13 (dk_at dksX7_init_0 11 rfl rfl)
theorem dX7_init_14 : decode cX7_init 14 = .ok (.return_, 1) := dk_177 (dk_at dksX7_init_0 14 rfl rfl)
theorem q165 : (Jvm.Cond.initialized "TermLog$Row") ∈ lw_all := lw_g (lw_at lw_m1 8 rfl) rfl
theorem q207 : (Jvm.Cond.fieldLinkNest "TermLog$Row" (17 : Nat) "TermLog$Asked" "isRefused" "Z" "TermLog") ∈ lw_tbl := lw_at lw_m1 50 rfl
theorem q507 : (Jvm.Cond.selects "TermLog$Row" ({ cls := "TermLog$Sum", name := "worth", desc := "(LTermLog$Asked;)I" } : Jvm.MethodName) ({ cls := "TermLog$Row", name := "worth", desc := "(LTermLog$Asked;)I" } : Jvm.MethodName)) ∈ lw_all := lw_g (lw_at lw_m2 110 rfl) rfl
theorem q508 : (Jvm.Cond.instanceMethod ({ cls := "TermLog$Row", name := "worth", desc := "(LTermLog$Asked;)I" } : Jvm.MethodName)) ∈ lw_all := lw_g (lw_at lw_m2 111 rfl) rfl
theorem q509 : (Jvm.Cond.code ({ cls := "TermLog$Row", name := "worth", desc := "(LTermLog$Asked;)I" } : Jvm.MethodName) prog_13_method_3_code (4 : Nat) (Option.some Jvm.ClassFile.FieldType.int)) ∈ lw_all := lw_g (lw_at lw_m2 112 rfl) rfl
theorem q510 : (Jvm.Cond.methodLink "TermLog$Row" (23 : Nat) ({ cls := "TermLog$Sum", name := "worth", desc := "(LTermLog$Asked;)I" } : Jvm.MethodName)) ∈ lw_all := lw_g (lw_at lw_m2 113 rfl) rfl
theorem q511 : (Jvm.Cond.methodLink "TermLog$Row" (31 : Nat) ({ cls := "TermLog$Row", name := "worked", desc := "(IIILTermLog$Asked;)I" } : Jvm.MethodName)) ∈ lw_all := lw_g (lw_at lw_m2 114 rfl) rfl
theorem q512 : (Jvm.Cond.static ({ cls := "TermLog$Row", name := "worked", desc := "(IIILTermLog$Asked;)I" } : Jvm.MethodName)) ∈ lw_all := lw_g (lw_at lw_m2 115 rfl) rfl
theorem q513 : (Jvm.Cond.code ({ cls := "TermLog$Row", name := "worked", desc := "(IIILTermLog$Asked;)I" } : Jvm.MethodName) prog_13_method_2_code (4 : Nat) (Option.some Jvm.ClassFile.FieldType.int)) ∈ lw_all := lw_g (lw_at lw_m2 116 rfl) rfl
theorem q527 : (Jvm.Cond.selects "TermLog$Row" ({ cls := "TermLog$Sum", name := "told", desc := "(LTermLog$Asked;)I" } : Jvm.MethodName) ({ cls := "TermLog$Sum", name := "told", desc := "(LTermLog$Asked;)I" } : Jvm.MethodName)) ∈ lw_all := lw_g (lw_at lw_m2 130 rfl) rfl
theorem q918 : (Jvm.Cond.instantiable "TermLog$Row" (3 : Nat)) ∈ lw_all := lw_g (lw_at lw_m4 41 rfl) rfl
theorem q968 : (Jvm.Cond.instanceMethod ({ cls := "TermLog$Row", name := "<init>", desc := "(ILTermLog$Sum;)V" } : Jvm.MethodName)) ∈ lw_all := lw_g (lw_at lw_m4 91 rfl) rfl
theorem q969 : (Jvm.Cond.code ({ cls := "TermLog$Row", name := "<init>", desc := "(ILTermLog$Sum;)V" } : Jvm.MethodName) prog_13_method_1_code (3 : Nat) (Option.none : Option Jvm.ClassFile.FieldType)) ∈ lw_all := lw_g (lw_at lw_m4 92 rfl) rfl
theorem q970 : (Jvm.Cond.methodLinkNest "TermLog$Row" (1 : Nat) ({ cls := "TermLog$Sum", name := "<init>", desc := "()V" } : Jvm.MethodName) "TermLog") ∈ lw_tbl := lw_at lw_m4 93 rfl
theorem q971 : (Jvm.Cond.fieldLink "TermLog$Row" (7 : Nat) "TermLog$Row" "sign" "I") ∈ lw_all := lw_g (lw_at lw_m4 94 rfl) rfl
theorem q972 : (Jvm.Cond.fieldLink "TermLog$Row" (13 : Nat) "TermLog$Row" "part" "LTermLog$Sum;") ∈ lw_all := lw_g (lw_at lw_m4 95 rfl) rfl
theorem q973 : (Jvm.Cond.fieldLink "TermLog$Row" (27 : Nat) "TermLog$Row" "next" "LTermLog$Row;") ∈ lw_all := lw_g (lw_at lw_m4 96 rfl) rfl
theorem q975 : (Jvm.Cond.laysFinal "TermLog$Row" "TermLog$Row" "sign" "I") ∈ lw_all := lw_g (lw_at lw_m4 98 rfl) rfl
theorem q976 : (Jvm.Cond.soleField "TermLog$Row" "sign") ∈ lw_all := lw_g (lw_at lw_m4 99 rfl) rfl
theorem q977 : (Jvm.Cond.laysFinal "TermLog$Row" "TermLog$Row" "part" "LTermLog$Sum;") ∈ lw_all := lw_g (lw_at lw_m4 100 rfl) rfl
theorem q978 : (Jvm.Cond.soleField "TermLog$Row" "part") ∈ lw_all := lw_g (lw_at lw_m4 101 rfl) rfl
theorem q979 : (Jvm.Cond.lays "TermLog$Row" "TermLog$Row" "next" "LTermLog$Row;") ∈ lw_all := lw_g (lw_at lw_m4 102 rfl) rfl
theorem q980 : (Jvm.Cond.soleField "TermLog$Row" "next") ∈ lw_all := lw_g (lw_at lw_m4 103 rfl) rfl
theorem q981 : (Jvm.Cond.superclass "TermLog$Row" "TermLog$Sum") ∈ lw_all := lw_g (lw_at lw_m4 104 rfl) rfl
theorem q2074 : (Jvm.Cond.castable "TermLog$Row" "TermLog$Sum") ∈ lw_tbl := lw_at lw_m8 237 rfl
theorem in_X7 : ∀ w ∈ wsX70, w ∈ lw_all := lw_in wsX70 [975, 977, 979] (by decide +kernel) (by decide +kernel)
/-! TermLog$Number -/
set_option maxRecDepth 100000
def RX10 : String := "TermLog$Number"
def TX10 : u_T := fun k => match k with
  | _ => ("TermLog$Number", "n", "I", true)
def tyX10 : Nat → FieldType := fun k => match k with
  | _ => .int
abbrev wsX100 : List Cond := u_ws RX10 TX10 1
theorem nmX10 : ∀ a, a < 1 → ∀ b, b < 1 → a ≠ b → (TX10 a).2.1 ≠ (TX10 b).2.1 := by decide +kernel
theorem tyX10_ok : ∀ k, k < 1 → parseFieldDescriptor (TX10 k).2.2.1 = some (tyX10 k) := by decide +kernel
abbrev cX10_worth : ByteArray := prog_10_method_2_code
def yX10_worth : MethodName := ⟨RX10, "worth", "(LTermLog$Asked;)I"⟩
theorem dX10_worth_0 : decode cX10_worth 0 = .ok (.aload_n 0, 1) := by decide +kernel
theorem dX10_worth_1 : decode cX10_worth 1 = .ok (.getfield 7, 3) := by decide +kernel
theorem dX10_worth_4 : decode cX10_worth 4 = .ok (.ireturn, 1) := by decide +kernel
abbrev cX10_init : ByteArray := prog_10_method_1_code
def yX10_init : MethodName := ⟨RX10, "<init>", "(I)V"⟩
def dkwX10_init_0 : List UInt8 := [42, 183, 0, 1, 42, 27, 181, 0, 7, 177]
abbrev dktX10_init_0 : List UInt8 := dkwX10_init_0 ++ []
theorem dksX10_init_0 : cX10_init.data.toList.drop 0 = dktX10_init_0 := by decide +kernel
theorem dX10_init_0 : decode cX10_init 0 = .ok (.aload_n 0, 1) := dk_42 (dk_at dksX10_init_0 0 rfl rfl)
theorem dX10_init_1 : decode cX10_init 1 = .ok (.invokespecial 1, 3) := dk_183 0 1 (dk_at dksX10_init_0 1 rfl rfl)
theorem dX10_init_4 : decode cX10_init 4 = .ok (.aload_n 0, 1) := dk_42 (dk_at dksX10_init_0 4 rfl rfl)
theorem dX10_init_5 : decode cX10_init 5 = .ok (.iload_n 1, 1) := dk_27 (dk_at dksX10_init_0 5 rfl rfl)
theorem dX10_init_6 : decode cX10_init 6 = .ok (.putfield 7, 3) := dk_181 0 7 (dk_at dksX10_init_0 6 rfl rfl)
theorem dX10_init_9 : decode cX10_init 9 = .ok (.return_, 1) := dk_177 (dk_at dksX10_init_0 9 rfl rfl)
theorem q175 : (Jvm.Cond.initialized "TermLog$Number") ∈ lw_all := lw_g (lw_at lw_m1 18 rfl) rfl
theorem q504 : (Jvm.Cond.selects "TermLog$Number" ({ cls := "TermLog$Sum", name := "worth", desc := "(LTermLog$Asked;)I" } : Jvm.MethodName) ({ cls := "TermLog$Number", name := "worth", desc := "(LTermLog$Asked;)I" } : Jvm.MethodName)) ∈ lw_all := lw_g (lw_at lw_m2 107 rfl) rfl
theorem q505 : (Jvm.Cond.instanceMethod ({ cls := "TermLog$Number", name := "worth", desc := "(LTermLog$Asked;)I" } : Jvm.MethodName)) ∈ lw_all := lw_g (lw_at lw_m2 108 rfl) rfl
theorem q506 : (Jvm.Cond.code ({ cls := "TermLog$Number", name := "worth", desc := "(LTermLog$Asked;)I" } : Jvm.MethodName) prog_10_method_2_code (2 : Nat) (Option.some Jvm.ClassFile.FieldType.int)) ∈ lw_all := lw_g (lw_at lw_m2 109 rfl) rfl
theorem q526 : (Jvm.Cond.selects "TermLog$Number" ({ cls := "TermLog$Sum", name := "told", desc := "(LTermLog$Asked;)I" } : Jvm.MethodName) ({ cls := "TermLog$Sum", name := "told", desc := "(LTermLog$Asked;)I" } : Jvm.MethodName)) ∈ lw_all := lw_g (lw_at lw_m2 129 rfl) rfl
theorem q940 : (Jvm.Cond.instantiable "TermLog$Number" (1 : Nat)) ∈ lw_all := lw_g (lw_at lw_m4 63 rfl) rfl
theorem q946 : (Jvm.Cond.instanceMethod ({ cls := "TermLog$Number", name := "<init>", desc := "(I)V" } : Jvm.MethodName)) ∈ lw_all := lw_g (lw_at lw_m4 69 rfl) rfl
theorem q947 : (Jvm.Cond.code ({ cls := "TermLog$Number", name := "<init>", desc := "(I)V" } : Jvm.MethodName) prog_10_method_1_code (2 : Nat) (Option.none : Option Jvm.ClassFile.FieldType)) ∈ lw_all := lw_g (lw_at lw_m4 70 rfl) rfl
theorem q948 : (Jvm.Cond.methodLinkNest "TermLog$Number" (1 : Nat) ({ cls := "TermLog$Sum", name := "<init>", desc := "()V" } : Jvm.MethodName) "TermLog") ∈ lw_tbl := lw_at lw_m4 71 rfl
theorem q952 : (Jvm.Cond.fieldLink "TermLog$Number" (7 : Nat) "TermLog$Number" "n" "I") ∈ lw_all := lw_g (lw_at lw_m4 75 rfl) rfl
theorem q953 : (Jvm.Cond.laysFinal "TermLog$Number" "TermLog$Number" "n" "I") ∈ lw_all := lw_g (lw_at lw_m4 76 rfl) rfl
theorem q954 : (Jvm.Cond.soleField "TermLog$Number" "n") ∈ lw_all := lw_g (lw_at lw_m4 77 rfl) rfl
theorem q955 : (Jvm.Cond.superclass "TermLog$Number" "TermLog$Sum") ∈ lw_all := lw_g (lw_at lw_m4 78 rfl) rfl
theorem q2075 : (Jvm.Cond.castable "TermLog$Number" "TermLog$Sum") ∈ lw_tbl := lw_at lw_m8 238 rfl
theorem in_X10 : ∀ w ∈ wsX100, w ∈ lw_all := lw_in wsX100 [953] (by decide +kernel) (by decide +kernel)
/-! TermLog$Letter -/
set_option maxRecDepth 100000
def RX11 : String := "TermLog$Letter"
def TX11 : u_T := fun k => match k with
  | _ => ("TermLog$Letter", "letter", "I", true)
def tyX11 : Nat → FieldType := fun k => match k with
  | _ => .int
abbrev wsX110 : List Cond := u_ws RX11 TX11 1
theorem nmX11 : ∀ a, a < 1 → ∀ b, b < 1 → a ≠ b → (TX11 a).2.1 ≠ (TX11 b).2.1 := by decide +kernel
theorem tyX11_ok : ∀ k, k < 1 → parseFieldDescriptor (TX11 k).2.2.1 = some (tyX11 k) := by decide +kernel
abbrev cX11_worth : ByteArray := prog_6_method_2_code
def yX11_worth : MethodName := ⟨RX11, "worth", "(LTermLog$Asked;)I"⟩
def dkwX11_worth_0 : List UInt8 := [43, 42, 180, 0, 7, 182, 0, 13, 172]
abbrev dktX11_worth_0 : List UInt8 := dkwX11_worth_0 ++ []
theorem dksX11_worth_0 : cX11_worth.data.toList.drop 0 = dktX11_worth_0 := by decide +kernel
theorem dX11_worth_0 : decode cX11_worth 0 = .ok (.aload_n 1, 1) := dk_43 (dk_at dksX11_worth_0 0 rfl rfl)
theorem dX11_worth_1 : decode cX11_worth 1 = .ok (.aload_n 0, 1) := dk_42 (dk_at dksX11_worth_0 1 rfl rfl)
theorem dX11_worth_2 : decode cX11_worth 2 = .ok (.getfield 7, 3) := dk_180 0 7 (dk_at dksX11_worth_0 2 rfl rfl)
theorem dX11_worth_5 : decode cX11_worth 5 = .ok (.invokevirtual 13, 3) := dk_182 0 13 (dk_at dksX11_worth_0 5 rfl rfl)
theorem dX11_worth_8 : decode cX11_worth 8 = .ok (.ireturn, 1) := dk_172 (dk_at dksX11_worth_0 8 rfl rfl)
abbrev cX11_init : ByteArray := prog_6_method_1_code
def yX11_init : MethodName := ⟨RX11, "<init>", "(I)V"⟩
def dkwX11_init_0 : List UInt8 := [42, 183, 0, 1, 42, 27, 181, 0, 7, 177]
abbrev dktX11_init_0 : List UInt8 := dkwX11_init_0 ++ []
theorem dksX11_init_0 : cX11_init.data.toList.drop 0 = dktX11_init_0 := by decide +kernel
theorem dX11_init_0 : decode cX11_init 0 = .ok (.aload_n 0, 1) := dk_42 (dk_at dksX11_init_0 0 rfl rfl)
theorem dX11_init_1 : decode cX11_init 1 = .ok (.invokespecial 1, 3) := dk_183 0 1 (dk_at dksX11_init_0 1 rfl rfl)
theorem dX11_init_4 : decode cX11_init 4 = .ok (.aload_n 0, 1) := dk_42 (dk_at dksX11_init_0 4 rfl rfl)
theorem dX11_init_5 : decode cX11_init 5 = .ok (.iload_n 1, 1) := dk_27 (dk_at dksX11_init_0 5 rfl rfl)
theorem dX11_init_6 : decode cX11_init 6 = .ok (.putfield 7, 3) := dk_181 0 7 (dk_at dksX11_init_0 6 rfl rfl)
theorem dX11_init_9 : decode cX11_init 9 = .ok (.return_, 1) := dk_177 (dk_at dksX11_init_0 9 rfl rfl)
theorem q176 : (Jvm.Cond.initialized "TermLog$Letter") ∈ lw_all := lw_g (lw_at lw_m1 19 rfl) rfl
theorem q495 : (Jvm.Cond.selects "TermLog$Letter" ({ cls := "TermLog$Sum", name := "worth", desc := "(LTermLog$Asked;)I" } : Jvm.MethodName) ({ cls := "TermLog$Letter", name := "worth", desc := "(LTermLog$Asked;)I" } : Jvm.MethodName)) ∈ lw_all := lw_g (lw_at lw_m2 98 rfl) rfl
theorem q496 : (Jvm.Cond.instanceMethod ({ cls := "TermLog$Letter", name := "worth", desc := "(LTermLog$Asked;)I" } : Jvm.MethodName)) ∈ lw_all := lw_g (lw_at lw_m2 99 rfl) rfl
theorem q497 : (Jvm.Cond.code ({ cls := "TermLog$Letter", name := "worth", desc := "(LTermLog$Asked;)I" } : Jvm.MethodName) prog_6_method_2_code (2 : Nat) (Option.some Jvm.ClassFile.FieldType.int)) ∈ lw_all := lw_g (lw_at lw_m2 100 rfl) rfl
theorem q498 : (Jvm.Cond.methodLink "TermLog$Letter" (13 : Nat) ({ cls := "TermLog$Asked", name := "value", desc := "(I)I" } : Jvm.MethodName)) ∈ lw_all := lw_g (lw_at lw_m2 101 rfl) rfl
theorem q525 : (Jvm.Cond.selects "TermLog$Letter" ({ cls := "TermLog$Sum", name := "told", desc := "(LTermLog$Asked;)I" } : Jvm.MethodName) ({ cls := "TermLog$Sum", name := "told", desc := "(LTermLog$Asked;)I" } : Jvm.MethodName)) ∈ lw_all := lw_g (lw_at lw_m2 128 rfl) rfl
theorem q958 : (Jvm.Cond.instantiable "TermLog$Letter" (1 : Nat)) ∈ lw_all := lw_g (lw_at lw_m4 81 rfl) rfl
theorem q960 : (Jvm.Cond.instanceMethod ({ cls := "TermLog$Letter", name := "<init>", desc := "(I)V" } : Jvm.MethodName)) ∈ lw_all := lw_g (lw_at lw_m4 83 rfl) rfl
theorem q961 : (Jvm.Cond.code ({ cls := "TermLog$Letter", name := "<init>", desc := "(I)V" } : Jvm.MethodName) prog_6_method_1_code (2 : Nat) (Option.none : Option Jvm.ClassFile.FieldType)) ∈ lw_all := lw_g (lw_at lw_m4 84 rfl) rfl
theorem q962 : (Jvm.Cond.methodLinkNest "TermLog$Letter" (1 : Nat) ({ cls := "TermLog$Sum", name := "<init>", desc := "()V" } : Jvm.MethodName) "TermLog") ∈ lw_tbl := lw_at lw_m4 85 rfl
theorem q963 : (Jvm.Cond.fieldLink "TermLog$Letter" (7 : Nat) "TermLog$Letter" "letter" "I") ∈ lw_all := lw_g (lw_at lw_m4 86 rfl) rfl
theorem q964 : (Jvm.Cond.laysFinal "TermLog$Letter" "TermLog$Letter" "letter" "I") ∈ lw_all := lw_g (lw_at lw_m4 87 rfl) rfl
theorem q965 : (Jvm.Cond.soleField "TermLog$Letter" "letter") ∈ lw_all := lw_g (lw_at lw_m4 88 rfl) rfl
theorem q966 : (Jvm.Cond.superclass "TermLog$Letter" "TermLog$Sum") ∈ lw_all := lw_g (lw_at lw_m4 89 rfl) rfl
theorem q2076 : (Jvm.Cond.castable "TermLog$Letter" "TermLog$Sum") ∈ lw_tbl := lw_at lw_m8 239 rfl
theorem in_X11 : ∀ w ∈ wsX110, w ∈ lw_all := lw_in wsX110 [964] (by decide +kernel) (by decide +kernel)
/-! TermLog$Condition -/
set_option maxRecDepth 100000
def RX12 : String := "TermLog$Condition"
abbrev cX12_init : ByteArray := prog_5_method_1_code
def yX12_init : MethodName := ⟨RX12, "<init>", "()V"⟩
theorem dX12_init_0 : decode cX12_init 0 = .ok (.aload_n 0, 1) := by decide +kernel
theorem dX12_init_1 : decode cX12_init 1 = .ok (.invokespecial 1, 3) := by decide +kernel
theorem dX12_init_4 : decode cX12_init 4 = .ok (.return_, 1) := by decide +kernel
theorem q177 : (Jvm.Cond.initialized "TermLog$Condition") ∈ lw_all := lw_g (lw_at lw_m1 20 rfl) rfl
theorem q487 : (Jvm.Cond.declares ({ cls := "TermLog$Condition", name := "holds", desc := "(LTermLog$Asked;)I" } : Jvm.MethodName)) ∈ lw_tbl := lw_at lw_m2 90 rfl
theorem q488 : (Jvm.Cond.sameMethod "TermLog$Condition" "TermLog$Condition" "holds" "(LTermLog$Asked;)I") ∈ lw_all := lw_g (lw_at lw_m2 91 rfl) rfl
theorem q1002 : (Jvm.Cond.instanceMethod ({ cls := "TermLog$Condition", name := "<init>", desc := "()V" } : Jvm.MethodName)) ∈ lw_all := lw_g (lw_at lw_m4 125 rfl) rfl
theorem q1003 : (Jvm.Cond.code ({ cls := "TermLog$Condition", name := "<init>", desc := "()V" } : Jvm.MethodName) prog_5_method_1_code (1 : Nat) (Option.none : Option Jvm.ClassFile.FieldType)) ∈ lw_all := lw_g (lw_at lw_m4 126 rfl) rfl
theorem q1004 : (Jvm.Cond.methodLink "TermLog$Condition" (1 : Nat) ({ cls := "java/lang/Object", name := "<init>", desc := "()V" } : Jvm.MethodName)) ∈ lw_all := lw_g (lw_at lw_m4 127 rfl) rfl
/-! TermLog$Some -/
set_option maxRecDepth 100000
def RX13 : String := "TermLog$Some"
def TX13 : u_T := fun k => match k with
  | 0 => ("TermLog$Some", "part", "LTermLog$Condition;", true)
  | 1 => ("TermLog$Some", "decides", "I", true)
  | _ => ("TermLog$Some", "next", "LTermLog$Some;", false)
def tyX13 : Nat → FieldType := fun k => match k with
  | 0 => .object "TermLog$Condition"
  | 1 => .int
  | _ => .object "TermLog$Some"
abbrev wsX130 : List Cond := u_ws RX13 TX13 3
theorem nmX13 : ∀ a, a < 3 → ∀ b, b < 3 → a ≠ b → (TX13 a).2.1 ≠ (TX13 b).2.1 := by decide +kernel
theorem tyX13_ok : ∀ k, k < 3 → parseFieldDescriptor (TX13 k).2.2.1 = some (tyX13 k) := by decide +kernel
abbrev cX13_holds : ByteArray := prog_14_method_2_code
def yX13_holds : MethodName := ⟨RX13, "holds", "(LTermLog$Asked;)I"⟩
def dkwX13_holds_1 : List UInt8 := [180, 0, 13, 160, 0, 5, 29, 172, 44, 180, 0, 21, 77, 167, 255, 223, 4, 42, 180, 0, 13, 100, 172]
abbrev dktX13_holds_1 : List UInt8 := dkwX13_holds_1 ++ []
def dkwX13_holds_0 : List UInt8 := [42, 77, 44, 198, 0, 35, 44, 180, 0, 7, 43, 182, 0, 17, 62, 29, 5, 159, 0, 11, 29, 42]
abbrev dktX13_holds_0 : List UInt8 := dkwX13_holds_0 ++ dktX13_holds_1
theorem dksX13_holds_0 : cX13_holds.data.toList.drop 0 = dktX13_holds_0 := by decide +kernel
theorem dksX13_holds_1 : cX13_holds.data.toList.drop 22 = dktX13_holds_1 := dk_seg dksX13_holds_0 22 rfl rfl
theorem dX13_holds_0 : decode cX13_holds 0 = .ok (.aload_n 0, 1) := dk_42 (dk_at dksX13_holds_0 0 rfl rfl)
theorem dX13_holds_1 : decode cX13_holds 1 = .ok (.astore_n 2, 1) := dk_77 (dk_at dksX13_holds_0 1 rfl rfl)
theorem dX13_holds_2 : decode cX13_holds 2 = .ok (.aload_n 2, 1) := dk_44 (dk_at dksX13_holds_0 2 rfl rfl)
theorem dX13_holds_3 : decode cX13_holds 3 = .ok (.ifnull 35, 3) := dk_198 0 35 (dk_at dksX13_holds_0 3 rfl rfl)
theorem dX13_holds_6 : decode cX13_holds 6 = .ok (.aload_n 2, 1) := dk_44 (dk_at dksX13_holds_0 6 rfl rfl)
theorem dX13_holds_7 : decode cX13_holds 7 = .ok (.getfield 7, 3) := dk_180 0 7 (dk_at dksX13_holds_0 7 rfl rfl)
theorem dX13_holds_10 : decode cX13_holds 10 = .ok (.aload_n 1, 1) := dk_43 (dk_at dksX13_holds_0 10 rfl rfl)
theorem dX13_holds_11 : decode cX13_holds 11 = .ok (.invokevirtual 17, 3) := dk_182 0 17 (dk_at dksX13_holds_0 11 rfl rfl)
theorem dX13_holds_14 : decode cX13_holds 14 = .ok (.istore_n 3, 1) := dk_62 (dk_at dksX13_holds_0 14 rfl rfl)
theorem dX13_holds_15 : decode cX13_holds 15 = .ok (.iload_n 3, 1) := dk_29 (dk_at dksX13_holds_0 15 rfl rfl)
theorem dX13_holds_16 : decode cX13_holds 16 = .ok (.iconst 2, 1) := dk_5 (dk_at dksX13_holds_0 16 rfl rfl)
theorem dX13_holds_17 : decode cX13_holds 17 = .ok (.if_icmp .eq 11, 3) := dk_159 0 11 (dk_at dksX13_holds_0 17 rfl rfl)
theorem dX13_holds_20 : decode cX13_holds 20 = .ok (.iload_n 3, 1) := dk_29 (dk_at dksX13_holds_0 20 rfl rfl)
theorem dX13_holds_21 : decode cX13_holds 21 = .ok (.aload_n 0, 1) := dk_42 (dk_at dksX13_holds_0 21 rfl rfl)
theorem dX13_holds_22 : decode cX13_holds 22 = .ok (.getfield 13, 3) := dk_180 0 13 (dk_at dksX13_holds_1 0 rfl rfl)
theorem dX13_holds_25 : decode cX13_holds 25 = .ok (.if_icmp .ne 5, 3) := dk_160 0 5 (dk_at dksX13_holds_1 3 rfl rfl)
theorem dX13_holds_28 : decode cX13_holds 28 = .ok (.iload_n 3, 1) := dk_29 (dk_at dksX13_holds_1 6 rfl rfl)
theorem dX13_holds_29 : decode cX13_holds 29 = .ok (.ireturn, 1) := dk_172 (dk_at dksX13_holds_1 7 rfl rfl)
theorem dX13_holds_30 : decode cX13_holds 30 = .ok (.aload_n 2, 1) := dk_44 (dk_at dksX13_holds_1 8 rfl rfl)
theorem dX13_holds_31 : decode cX13_holds 31 = .ok (.getfield 21, 3) := dk_180 0 21 (dk_at dksX13_holds_1 9 rfl rfl)
theorem dX13_holds_34 : decode cX13_holds 34 = .ok (.astore_n 2, 1) := dk_77 (dk_at dksX13_holds_1 12 rfl rfl)
theorem dX13_holds_35 : decode cX13_holds 35 = .ok (.goto (-33), 3) := dk_167 255 223 (dk_at dksX13_holds_1 13 rfl rfl)
theorem dX13_holds_38 : decode cX13_holds 38 = .ok (.iconst 1, 1) := dk_4 (dk_at dksX13_holds_1 16 rfl rfl)
theorem dX13_holds_39 : decode cX13_holds 39 = .ok (.aload_n 0, 1) := dk_42 (dk_at dksX13_holds_1 17 rfl rfl)
theorem dX13_holds_40 : decode cX13_holds 40 = .ok (.getfield 13, 3) := dk_180 0 13 (dk_at dksX13_holds_1 18 rfl rfl)
theorem dX13_holds_43 : decode cX13_holds 43 = .ok (.isub, 1) := dk_100 (dk_at dksX13_holds_1 21 rfl rfl)
theorem dX13_holds_44 : decode cX13_holds 44 = .ok (.ireturn, 1) := dk_172 (dk_at dksX13_holds_1 22 rfl rfl)
abbrev cX13_init : ByteArray := prog_14_method_1_code
def yX13_init : MethodName := ⟨RX13, "<init>", "(LTermLog$Condition;I)V"⟩
def dkwX13_init_0 : List UInt8 := [42, 183, 0, 1, 42, 43, 181, 0, 7, 42, 28, 181, 0, 13, 177]
abbrev dktX13_init_0 : List UInt8 := dkwX13_init_0 ++ []
theorem dksX13_init_0 : cX13_init.data.toList.drop 0 = dktX13_init_0 := by decide +kernel
theorem dX13_init_0 : decode cX13_init 0 = .ok (.aload_n 0, 1) := dk_42 (dk_at dksX13_init_0 0 rfl rfl)
theorem dX13_init_1 : decode cX13_init 1 = .ok (.invokespecial 1, 3) := dk_183 0 1 (dk_at dksX13_init_0 1 rfl rfl)
theorem dX13_init_4 : decode cX13_init 4 = .ok (.aload_n 0, 1) := dk_42 (dk_at dksX13_init_0 4 rfl rfl)
theorem dX13_init_5 : decode cX13_init 5 = .ok (.aload_n 1, 1) := dk_43 (dk_at dksX13_init_0 5 rfl rfl)
theorem dX13_init_6 : decode cX13_init 6 = .ok (.putfield 7, 3) := dk_181 0 7 (dk_at dksX13_init_0 6 rfl rfl)
theorem dX13_init_9 : decode cX13_init 9 = .ok (.aload_n 0, 1) := dk_42 (dk_at dksX13_init_0 9 rfl rfl)
theorem dX13_init_10 : decode cX13_init 10 = .ok (.iload_n 2, 1) := dk_28 (dk_at dksX13_init_0 10 rfl rfl)
theorem dX13_init_11 : decode cX13_init 11 = .ok (.putfield 13, 3) := dk_181 0 13 (dk_at dksX13_init_0 11 rfl rfl)
theorem dX13_init_14 : decode cX13_init 14 = .ok (.return_, 1) := dk_177 (dk_at dksX13_init_0 14 rfl rfl)
theorem q178 : (Jvm.Cond.initialized "TermLog$Some") ∈ lw_all := lw_g (lw_at lw_m1 21 rfl) rfl
theorem q518 : (Jvm.Cond.instanceMethod ({ cls := "TermLog$Some", name := "holds", desc := "(LTermLog$Asked;)I" } : Jvm.MethodName)) ∈ lw_all := lw_g (lw_at lw_m2 121 rfl) rfl
theorem q519 : (Jvm.Cond.code ({ cls := "TermLog$Some", name := "holds", desc := "(LTermLog$Asked;)I" } : Jvm.MethodName) prog_14_method_2_code (4 : Nat) (Option.some Jvm.ClassFile.FieldType.int)) ∈ lw_all := lw_g (lw_at lw_m2 122 rfl) rfl
theorem q520 : (Jvm.Cond.methodLink "TermLog$Some" (17 : Nat) ({ cls := "TermLog$Condition", name := "holds", desc := "(LTermLog$Asked;)I" } : Jvm.MethodName)) ∈ lw_all := lw_g (lw_at lw_m2 123 rfl) rfl
theorem q521 : (Jvm.Cond.selects "TermLog$Some" ({ cls := "TermLog$Condition", name := "holds", desc := "(LTermLog$Asked;)I" } : Jvm.MethodName) ({ cls := "TermLog$Some", name := "holds", desc := "(LTermLog$Asked;)I" } : Jvm.MethodName)) ∈ lw_all := lw_g (lw_at lw_m2 124 rfl) rfl
theorem q987 : (Jvm.Cond.instantiable "TermLog$Some" (3 : Nat)) ∈ lw_all := lw_g (lw_at lw_m4 110 rfl) rfl
theorem q1026 : (Jvm.Cond.instanceMethod ({ cls := "TermLog$Some", name := "<init>", desc := "(LTermLog$Condition;I)V" } : Jvm.MethodName)) ∈ lw_all := lw_g (lw_at lw_m4 149 rfl) rfl
theorem q1027 : (Jvm.Cond.code ({ cls := "TermLog$Some", name := "<init>", desc := "(LTermLog$Condition;I)V" } : Jvm.MethodName) prog_14_method_1_code (3 : Nat) (Option.none : Option Jvm.ClassFile.FieldType)) ∈ lw_all := lw_g (lw_at lw_m4 150 rfl) rfl
theorem q1028 : (Jvm.Cond.methodLinkNest "TermLog$Some" (1 : Nat) ({ cls := "TermLog$Condition", name := "<init>", desc := "()V" } : Jvm.MethodName) "TermLog") ∈ lw_tbl := lw_at lw_m4 151 rfl
theorem q1029 : (Jvm.Cond.fieldLink "TermLog$Some" (7 : Nat) "TermLog$Some" "part" "LTermLog$Condition;") ∈ lw_all := lw_g (lw_at lw_m4 152 rfl) rfl
theorem q1030 : (Jvm.Cond.fieldLink "TermLog$Some" (13 : Nat) "TermLog$Some" "decides" "I") ∈ lw_all := lw_g (lw_at lw_m4 153 rfl) rfl
theorem q1031 : (Jvm.Cond.fieldLink "TermLog$Some" (21 : Nat) "TermLog$Some" "next" "LTermLog$Some;") ∈ lw_all := lw_g (lw_at lw_m4 154 rfl) rfl
theorem q1033 : (Jvm.Cond.laysFinal "TermLog$Some" "TermLog$Some" "part" "LTermLog$Condition;") ∈ lw_all := lw_g (lw_at lw_m4 156 rfl) rfl
theorem q1034 : (Jvm.Cond.soleField "TermLog$Some" "part") ∈ lw_all := lw_g (lw_at lw_m4 157 rfl) rfl
theorem q1035 : (Jvm.Cond.laysFinal "TermLog$Some" "TermLog$Some" "decides" "I") ∈ lw_all := lw_g (lw_at lw_m4 158 rfl) rfl
theorem q1036 : (Jvm.Cond.soleField "TermLog$Some" "decides") ∈ lw_all := lw_g (lw_at lw_m4 159 rfl) rfl
theorem q1037 : (Jvm.Cond.lays "TermLog$Some" "TermLog$Some" "next" "LTermLog$Some;") ∈ lw_all := lw_g (lw_at lw_m4 160 rfl) rfl
theorem q1038 : (Jvm.Cond.soleField "TermLog$Some" "next") ∈ lw_all := lw_g (lw_at lw_m4 161 rfl) rfl
theorem q1039 : (Jvm.Cond.superclass "TermLog$Some" "TermLog$Condition") ∈ lw_all := lw_g (lw_at lw_m4 162 rfl) rfl
theorem q2077 : (Jvm.Cond.castable "TermLog$Some" "TermLog$Condition") ∈ lw_tbl := lw_at lw_m9 0 rfl
theorem in_X13 : ∀ w ∈ wsX130, w ∈ lw_all := lw_in wsX130 [1033, 1035, 1037] (by decide +kernel) (by decide +kernel)
/-! TermLog$Not -/
set_option maxRecDepth 100000
def RX14 : String := "TermLog$Not"
def TX14 : u_T := fun k => match k with
  | _ => ("TermLog$Not", "x", "LTermLog$Condition;", true)
def tyX14 : Nat → FieldType := fun k => match k with
  | _ => .object "TermLog$Condition"
abbrev wsX140 : List Cond := u_ws RX14 TX14 1
theorem nmX14 : ∀ a, a < 1 → ∀ b, b < 1 → a ≠ b → (TX14 a).2.1 ≠ (TX14 b).2.1 := by decide +kernel
theorem tyX14_ok : ∀ k, k < 1 → parseFieldDescriptor (TX14 k).2.2.1 = some (tyX14 k) := by decide +kernel
abbrev cX14_holds : ByteArray := prog_9_method_2_code
def yX14_holds : MethodName := ⟨RX14, "holds", "(LTermLog$Asked;)I"⟩
def dkwX14_holds_0 : List UInt8 := [42, 180, 0, 7, 43, 182, 0, 13, 61, 28, 5, 160, 0, 7, 5, 167, 0, 6, 4, 28, 100, 172]
abbrev dktX14_holds_0 : List UInt8 := dkwX14_holds_0 ++ []
theorem dksX14_holds_0 : cX14_holds.data.toList.drop 0 = dktX14_holds_0 := by decide +kernel
theorem dX14_holds_0 : decode cX14_holds 0 = .ok (.aload_n 0, 1) := dk_42 (dk_at dksX14_holds_0 0 rfl rfl)
theorem dX14_holds_1 : decode cX14_holds 1 = .ok (.getfield 7, 3) := dk_180 0 7 (dk_at dksX14_holds_0 1 rfl rfl)
theorem dX14_holds_4 : decode cX14_holds 4 = .ok (.aload_n 1, 1) := dk_43 (dk_at dksX14_holds_0 4 rfl rfl)
theorem dX14_holds_5 : decode cX14_holds 5 = .ok (.invokevirtual 13, 3) := dk_182 0 13 (dk_at dksX14_holds_0 5 rfl rfl)
theorem dX14_holds_8 : decode cX14_holds 8 = .ok (.istore_n 2, 1) := dk_61 (dk_at dksX14_holds_0 8 rfl rfl)
theorem dX14_holds_9 : decode cX14_holds 9 = .ok (.iload_n 2, 1) := dk_28 (dk_at dksX14_holds_0 9 rfl rfl)
theorem dX14_holds_10 : decode cX14_holds 10 = .ok (.iconst 2, 1) := dk_5 (dk_at dksX14_holds_0 10 rfl rfl)
theorem dX14_holds_11 : decode cX14_holds 11 = .ok (.if_icmp .ne 7, 3) := dk_160 0 7 (dk_at dksX14_holds_0 11 rfl rfl)
theorem dX14_holds_14 : decode cX14_holds 14 = .ok (.iconst 2, 1) := dk_5 (dk_at dksX14_holds_0 14 rfl rfl)
theorem dX14_holds_15 : decode cX14_holds 15 = .ok (.goto 6, 3) := dk_167 0 6 (dk_at dksX14_holds_0 15 rfl rfl)
theorem dX14_holds_18 : decode cX14_holds 18 = .ok (.iconst 1, 1) := dk_4 (dk_at dksX14_holds_0 18 rfl rfl)
theorem dX14_holds_19 : decode cX14_holds 19 = .ok (.iload_n 2, 1) := dk_28 (dk_at dksX14_holds_0 19 rfl rfl)
theorem dX14_holds_20 : decode cX14_holds 20 = .ok (.isub, 1) := dk_100 (dk_at dksX14_holds_0 20 rfl rfl)
theorem dX14_holds_21 : decode cX14_holds 21 = .ok (.ireturn, 1) := dk_172 (dk_at dksX14_holds_0 21 rfl rfl)
abbrev cX14_init : ByteArray := prog_9_method_1_code
def yX14_init : MethodName := ⟨RX14, "<init>", "(LTermLog$Condition;)V"⟩
def dkwX14_init_0 : List UInt8 := [42, 183, 0, 1, 42, 43, 181, 0, 7, 177]
abbrev dktX14_init_0 : List UInt8 := dkwX14_init_0 ++ []
theorem dksX14_init_0 : cX14_init.data.toList.drop 0 = dktX14_init_0 := by decide +kernel
theorem dX14_init_0 : decode cX14_init 0 = .ok (.aload_n 0, 1) := dk_42 (dk_at dksX14_init_0 0 rfl rfl)
theorem dX14_init_1 : decode cX14_init 1 = .ok (.invokespecial 1, 3) := dk_183 0 1 (dk_at dksX14_init_0 1 rfl rfl)
theorem dX14_init_4 : decode cX14_init 4 = .ok (.aload_n 0, 1) := dk_42 (dk_at dksX14_init_0 4 rfl rfl)
theorem dX14_init_5 : decode cX14_init 5 = .ok (.aload_n 1, 1) := dk_43 (dk_at dksX14_init_0 5 rfl rfl)
theorem dX14_init_6 : decode cX14_init 6 = .ok (.putfield 7, 3) := dk_181 0 7 (dk_at dksX14_init_0 6 rfl rfl)
theorem dX14_init_9 : decode cX14_init 9 = .ok (.return_, 1) := dk_177 (dk_at dksX14_init_0 9 rfl rfl)
theorem q179 : (Jvm.Cond.initialized "TermLog$Not") ∈ lw_all := lw_g (lw_at lw_m1 22 rfl) rfl
theorem q514 : (Jvm.Cond.selects "TermLog$Not" ({ cls := "TermLog$Condition", name := "holds", desc := "(LTermLog$Asked;)I" } : Jvm.MethodName) ({ cls := "TermLog$Not", name := "holds", desc := "(LTermLog$Asked;)I" } : Jvm.MethodName)) ∈ lw_all := lw_g (lw_at lw_m2 117 rfl) rfl
theorem q515 : (Jvm.Cond.instanceMethod ({ cls := "TermLog$Not", name := "holds", desc := "(LTermLog$Asked;)I" } : Jvm.MethodName)) ∈ lw_all := lw_g (lw_at lw_m2 118 rfl) rfl
theorem q516 : (Jvm.Cond.code ({ cls := "TermLog$Not", name := "holds", desc := "(LTermLog$Asked;)I" } : Jvm.MethodName) prog_9_method_2_code (3 : Nat) (Option.some Jvm.ClassFile.FieldType.int)) ∈ lw_all := lw_g (lw_at lw_m2 119 rfl) rfl
theorem q517 : (Jvm.Cond.methodLink "TermLog$Not" (13 : Nat) ({ cls := "TermLog$Condition", name := "holds", desc := "(LTermLog$Asked;)I" } : Jvm.MethodName)) ∈ lw_all := lw_g (lw_at lw_m2 120 rfl) rfl
theorem q997 : (Jvm.Cond.instantiable "TermLog$Not" (1 : Nat)) ∈ lw_all := lw_g (lw_at lw_m4 120 rfl) rfl
theorem q999 : (Jvm.Cond.instanceMethod ({ cls := "TermLog$Not", name := "<init>", desc := "(LTermLog$Condition;)V" } : Jvm.MethodName)) ∈ lw_all := lw_g (lw_at lw_m4 122 rfl) rfl
theorem q1000 : (Jvm.Cond.code ({ cls := "TermLog$Not", name := "<init>", desc := "(LTermLog$Condition;)V" } : Jvm.MethodName) prog_9_method_1_code (2 : Nat) (Option.none : Option Jvm.ClassFile.FieldType)) ∈ lw_all := lw_g (lw_at lw_m4 123 rfl) rfl
theorem q1001 : (Jvm.Cond.methodLinkNest "TermLog$Not" (1 : Nat) ({ cls := "TermLog$Condition", name := "<init>", desc := "()V" } : Jvm.MethodName) "TermLog") ∈ lw_tbl := lw_at lw_m4 124 rfl
theorem q1005 : (Jvm.Cond.fieldLink "TermLog$Not" (7 : Nat) "TermLog$Not" "x" "LTermLog$Condition;") ∈ lw_all := lw_g (lw_at lw_m4 128 rfl) rfl
theorem q1006 : (Jvm.Cond.laysFinal "TermLog$Not" "TermLog$Not" "x" "LTermLog$Condition;") ∈ lw_all := lw_g (lw_at lw_m4 129 rfl) rfl
theorem q1007 : (Jvm.Cond.soleField "TermLog$Not" "x") ∈ lw_all := lw_g (lw_at lw_m4 130 rfl) rfl
theorem q1008 : (Jvm.Cond.superclass "TermLog$Not" "TermLog$Condition") ∈ lw_all := lw_g (lw_at lw_m4 131 rfl) rfl
theorem q2078 : (Jvm.Cond.castable "TermLog$Not" "TermLog$Condition") ∈ lw_tbl := lw_at lw_m9 1 rfl
theorem in_X14 : ∀ w ∈ wsX140, w ∈ lw_all := lw_in wsX140 [1006] (by decide +kernel) (by decide +kernel)
/-! TermLog$Compared -/
set_option maxRecDepth 100000
def RX15 : String := "TermLog$Compared"
def TX15 : u_T := fun k => match k with
  | 0 => ("TermLog$Compared", "x", "LTermLog$Sum;", true)
  | 1 => ("TermLog$Compared", "y", "LTermLog$Sum;", true)
  | _ => ("TermLog$Compared", "sign", "I", true)
def tyX15 : Nat → FieldType := fun k => match k with
  | 0 => .object "TermLog$Sum"
  | 1 => .object "TermLog$Sum"
  | _ => .int
abbrev wsX150 : List Cond := u_ws RX15 TX15 3
theorem nmX15 : ∀ a, a < 3 → ∀ b, b < 3 → a ≠ b → (TX15 a).2.1 ≠ (TX15 b).2.1 := by decide +kernel
theorem tyX15_ok : ∀ k, k < 3 → parseFieldDescriptor (TX15 k).2.2.1 = some (tyX15 k) := by decide +kernel
abbrev cX15_holds : ByteArray := prog_4_method_2_code
def yX15_holds : MethodName := ⟨RX15, "holds", "(LTermLog$Asked;)I"⟩
def dkwX15_holds_4 : List UInt8 := [153, 0, 7, 4, 167, 0, 4, 3, 172]
abbrev dktX15_holds_4 : List UInt8 := dkwX15_holds_4 ++ []
def dkwX15_holds_3 : List UInt8 := [160, 0, 7, 4, 167, 0, 4, 3, 54, 4, 43, 180, 0, 20, 153, 0, 7, 5, 167, 0, 13, 21, 4]
abbrev dktX15_holds_3 : List UInt8 := dkwX15_holds_3 ++ dktX15_holds_4
def dkwX15_holds_2 : List UInt8 := [180, 0, 13, 16, 62, 160, 0, 16, 28, 29, 164, 0, 7, 4, 167, 0, 17, 3, 167, 0, 13, 28, 29]
abbrev dktX15_holds_2 : List UInt8 := dkwX15_holds_2 ++ dktX15_holds_3
def dkwX15_holds_1 : List UInt8 := [180, 0, 13, 16, 60, 160, 0, 16, 28, 29, 162, 0, 7, 4, 167, 0, 39, 3, 167, 0, 35, 42]
abbrev dktX15_holds_1 : List UInt8 := dkwX15_holds_1 ++ dktX15_holds_2
def dkwX15_holds_0 : List UInt8 := [43, 3, 181, 0, 20, 42, 180, 0, 7, 43, 182, 0, 26, 61, 42, 180, 0, 17, 43, 182, 0, 26, 62, 42]
abbrev dktX15_holds_0 : List UInt8 := dkwX15_holds_0 ++ dktX15_holds_1
theorem dksX15_holds_0 : cX15_holds.data.toList.drop 0 = dktX15_holds_0 := by decide +kernel
theorem dksX15_holds_1 : cX15_holds.data.toList.drop 24 = dktX15_holds_1 := dk_seg dksX15_holds_0 24 rfl rfl
theorem dksX15_holds_2 : cX15_holds.data.toList.drop 46 = dktX15_holds_2 := dk_seg dksX15_holds_1 22 rfl rfl
theorem dksX15_holds_3 : cX15_holds.data.toList.drop 69 = dktX15_holds_3 := dk_seg dksX15_holds_2 23 rfl rfl
theorem dksX15_holds_4 : cX15_holds.data.toList.drop 92 = dktX15_holds_4 := dk_seg dksX15_holds_3 23 rfl rfl
theorem dX15_holds_0 : decode cX15_holds 0 = .ok (.aload_n 1, 1) := dk_43 (dk_at dksX15_holds_0 0 rfl rfl)
theorem dX15_holds_1 : decode cX15_holds 1 = .ok (.iconst 0, 1) := dk_3 (dk_at dksX15_holds_0 1 rfl rfl)
theorem dX15_holds_2 : decode cX15_holds 2 = .ok (.putfield 20, 3) := dk_181 0 20 (dk_at dksX15_holds_0 2 rfl rfl)
theorem dX15_holds_5 : decode cX15_holds 5 = .ok (.aload_n 0, 1) := dk_42 (dk_at dksX15_holds_0 5 rfl rfl)
theorem dX15_holds_6 : decode cX15_holds 6 = .ok (.getfield 7, 3) := dk_180 0 7 (dk_at dksX15_holds_0 6 rfl rfl)
theorem dX15_holds_9 : decode cX15_holds 9 = .ok (.aload_n 1, 1) := dk_43 (dk_at dksX15_holds_0 9 rfl rfl)
theorem dX15_holds_10 : decode cX15_holds 10 = .ok (.invokevirtual 26, 3) := dk_182 0 26 (dk_at dksX15_holds_0 10 rfl rfl)
theorem dX15_holds_13 : decode cX15_holds 13 = .ok (.istore_n 2, 1) := dk_61 (dk_at dksX15_holds_0 13 rfl rfl)
theorem dX15_holds_14 : decode cX15_holds 14 = .ok (.aload_n 0, 1) := dk_42 (dk_at dksX15_holds_0 14 rfl rfl)
theorem dX15_holds_15 : decode cX15_holds 15 = .ok (.getfield 17, 3) := dk_180 0 17 (dk_at dksX15_holds_0 15 rfl rfl)
theorem dX15_holds_18 : decode cX15_holds 18 = .ok (.aload_n 1, 1) := dk_43 (dk_at dksX15_holds_0 18 rfl rfl)
theorem dX15_holds_19 : decode cX15_holds 19 = .ok (.invokevirtual 26, 3) := dk_182 0 26 (dk_at dksX15_holds_0 19 rfl rfl)
theorem dX15_holds_22 : decode cX15_holds 22 = .ok (.istore_n 3, 1) := dk_62 (dk_at dksX15_holds_0 22 rfl rfl)
theorem dX15_holds_23 : decode cX15_holds 23 = .ok (.aload_n 0, 1) := dk_42 (dk_at dksX15_holds_0 23 rfl rfl)
theorem dX15_holds_24 : decode cX15_holds 24 = .ok (.getfield 13, 3) := dk_180 0 13 (dk_at dksX15_holds_1 0 rfl rfl)
theorem dX15_holds_27 : decode cX15_holds 27 = .ok (.bipush 60, 2) := dk_16 60 (dk_at dksX15_holds_1 3 rfl rfl)
theorem dX15_holds_29 : decode cX15_holds 29 = .ok (.if_icmp .ne 16, 3) := dk_160 0 16 (dk_at dksX15_holds_1 5 rfl rfl)
theorem dX15_holds_32 : decode cX15_holds 32 = .ok (.iload_n 2, 1) := dk_28 (dk_at dksX15_holds_1 8 rfl rfl)
theorem dX15_holds_33 : decode cX15_holds 33 = .ok (.iload_n 3, 1) := dk_29 (dk_at dksX15_holds_1 9 rfl rfl)
theorem dX15_holds_34 : decode cX15_holds 34 = .ok (.if_icmp .ge 7, 3) := dk_162 0 7 (dk_at dksX15_holds_1 10 rfl rfl)
theorem dX15_holds_37 : decode cX15_holds 37 = .ok (.iconst 1, 1) := dk_4 (dk_at dksX15_holds_1 13 rfl rfl)
theorem dX15_holds_38 : decode cX15_holds 38 = .ok (.goto 39, 3) := dk_167 0 39 (dk_at dksX15_holds_1 14 rfl rfl)
theorem dX15_holds_41 : decode cX15_holds 41 = .ok (.iconst 0, 1) := dk_3 (dk_at dksX15_holds_1 17 rfl rfl)
theorem dX15_holds_42 : decode cX15_holds 42 = .ok (.goto 35, 3) := dk_167 0 35 (dk_at dksX15_holds_1 18 rfl rfl)
theorem dX15_holds_45 : decode cX15_holds 45 = .ok (.aload_n 0, 1) := dk_42 (dk_at dksX15_holds_1 21 rfl rfl)
theorem dX15_holds_46 : decode cX15_holds 46 = .ok (.getfield 13, 3) := dk_180 0 13 (dk_at dksX15_holds_2 0 rfl rfl)
theorem dX15_holds_49 : decode cX15_holds 49 = .ok (.bipush 62, 2) := dk_16 62 (dk_at dksX15_holds_2 3 rfl rfl)
theorem dX15_holds_51 : decode cX15_holds 51 = .ok (.if_icmp .ne 16, 3) := dk_160 0 16 (dk_at dksX15_holds_2 5 rfl rfl)
theorem dX15_holds_54 : decode cX15_holds 54 = .ok (.iload_n 2, 1) := dk_28 (dk_at dksX15_holds_2 8 rfl rfl)
theorem dX15_holds_55 : decode cX15_holds 55 = .ok (.iload_n 3, 1) := dk_29 (dk_at dksX15_holds_2 9 rfl rfl)
theorem dX15_holds_56 : decode cX15_holds 56 = .ok (.if_icmp .le 7, 3) := dk_164 0 7 (dk_at dksX15_holds_2 10 rfl rfl)
theorem dX15_holds_59 : decode cX15_holds 59 = .ok (.iconst 1, 1) := dk_4 (dk_at dksX15_holds_2 13 rfl rfl)
theorem dX15_holds_60 : decode cX15_holds 60 = .ok (.goto 17, 3) := dk_167 0 17 (dk_at dksX15_holds_2 14 rfl rfl)
theorem dX15_holds_63 : decode cX15_holds 63 = .ok (.iconst 0, 1) := dk_3 (dk_at dksX15_holds_2 17 rfl rfl)
theorem dX15_holds_64 : decode cX15_holds 64 = .ok (.goto 13, 3) := dk_167 0 13 (dk_at dksX15_holds_2 18 rfl rfl)
theorem dX15_holds_67 : decode cX15_holds 67 = .ok (.iload_n 2, 1) := dk_28 (dk_at dksX15_holds_2 21 rfl rfl)
theorem dX15_holds_68 : decode cX15_holds 68 = .ok (.iload_n 3, 1) := dk_29 (dk_at dksX15_holds_2 22 rfl rfl)
theorem dX15_holds_69 : decode cX15_holds 69 = .ok (.if_icmp .ne 7, 3) := dk_160 0 7 (dk_at dksX15_holds_3 0 rfl rfl)
theorem dX15_holds_72 : decode cX15_holds 72 = .ok (.iconst 1, 1) := dk_4 (dk_at dksX15_holds_3 3 rfl rfl)
theorem dX15_holds_73 : decode cX15_holds 73 = .ok (.goto 4, 3) := dk_167 0 4 (dk_at dksX15_holds_3 4 rfl rfl)
theorem dX15_holds_76 : decode cX15_holds 76 = .ok (.iconst 0, 1) := dk_3 (dk_at dksX15_holds_3 7 rfl rfl)
theorem dX15_holds_77 : decode cX15_holds 77 = .ok (.istore 4, 2) := dk_54 4 (dk_at dksX15_holds_3 8 rfl rfl)
theorem dX15_holds_79 : decode cX15_holds 79 = .ok (.aload_n 1, 1) := dk_43 (dk_at dksX15_holds_3 10 rfl rfl)
theorem dX15_holds_80 : decode cX15_holds 80 = .ok (.getfield 20, 3) := dk_180 0 20 (dk_at dksX15_holds_3 11 rfl rfl)
theorem dX15_holds_83 : decode cX15_holds 83 = .ok (.ifCond .eq 7, 3) := dk_153 0 7 (dk_at dksX15_holds_3 14 rfl rfl)
theorem dX15_holds_86 : decode cX15_holds 86 = .ok (.iconst 2, 1) := dk_5 (dk_at dksX15_holds_3 17 rfl rfl)
theorem dX15_holds_87 : decode cX15_holds 87 = .ok (.goto 13, 3) := dk_167 0 13 (dk_at dksX15_holds_3 18 rfl rfl)
theorem dX15_holds_90 : decode cX15_holds 90 = .ok (.iload 4, 2) := dk_21 4 (dk_at dksX15_holds_3 21 rfl rfl)
theorem dX15_holds_92 : decode cX15_holds 92 = .ok (.ifCond .eq 7, 3) := dk_153 0 7 (dk_at dksX15_holds_4 0 rfl rfl)
theorem dX15_holds_95 : decode cX15_holds 95 = .ok (.iconst 1, 1) := dk_4 (dk_at dksX15_holds_4 3 rfl rfl)
theorem dX15_holds_96 : decode cX15_holds 96 = .ok (.goto 4, 3) := dk_167 0 4 (dk_at dksX15_holds_4 4 rfl rfl)
theorem dX15_holds_99 : decode cX15_holds 99 = .ok (.iconst 0, 1) := dk_3 (dk_at dksX15_holds_4 7 rfl rfl)
theorem dX15_holds_100 : decode cX15_holds 100 = .ok (.ireturn, 1) := dk_172 (dk_at dksX15_holds_4 8 rfl rfl)
abbrev cX15_init : ByteArray := prog_4_method_1_code
def yX15_init : MethodName := ⟨RX15, "<init>", "(LTermLog$Sum;ILTermLog$Sum;)V"⟩
def dkwX15_init_0 : List UInt8 := [42, 183, 0, 1, 42, 43, 181, 0, 7, 42, 28, 181, 0, 13, 42, 45, 181, 0, 17, 177]
abbrev dktX15_init_0 : List UInt8 := dkwX15_init_0 ++ []
theorem dksX15_init_0 : cX15_init.data.toList.drop 0 = dktX15_init_0 := by decide +kernel
theorem dX15_init_0 : decode cX15_init 0 = .ok (.aload_n 0, 1) := dk_42 (dk_at dksX15_init_0 0 rfl rfl)
theorem dX15_init_1 : decode cX15_init 1 = .ok (.invokespecial 1, 3) := dk_183 0 1 (dk_at dksX15_init_0 1 rfl rfl)
theorem dX15_init_4 : decode cX15_init 4 = .ok (.aload_n 0, 1) := dk_42 (dk_at dksX15_init_0 4 rfl rfl)
theorem dX15_init_5 : decode cX15_init 5 = .ok (.aload_n 1, 1) := dk_43 (dk_at dksX15_init_0 5 rfl rfl)
theorem dX15_init_6 : decode cX15_init 6 = .ok (.putfield 7, 3) := dk_181 0 7 (dk_at dksX15_init_0 6 rfl rfl)
theorem dX15_init_9 : decode cX15_init 9 = .ok (.aload_n 0, 1) := dk_42 (dk_at dksX15_init_0 9 rfl rfl)
theorem dX15_init_10 : decode cX15_init 10 = .ok (.iload_n 2, 1) := dk_28 (dk_at dksX15_init_0 10 rfl rfl)
theorem dX15_init_11 : decode cX15_init 11 = .ok (.putfield 13, 3) := dk_181 0 13 (dk_at dksX15_init_0 11 rfl rfl)
theorem dX15_init_14 : decode cX15_init 14 = .ok (.aload_n 0, 1) := dk_42 (dk_at dksX15_init_0 14 rfl rfl)
theorem dX15_init_15 : decode cX15_init 15 = .ok (.aload_n 3, 1) := dk_45 (dk_at dksX15_init_0 15 rfl rfl)
theorem dX15_init_16 : decode cX15_init 16 = .ok (.putfield 17, 3) := dk_181 0 17 (dk_at dksX15_init_0 16 rfl rfl)
theorem dX15_init_19 : decode cX15_init 19 = .ok (.return_, 1) := dk_177 (dk_at dksX15_init_0 19 rfl rfl)
theorem q180 : (Jvm.Cond.initialized "TermLog$Compared") ∈ lw_all := lw_g (lw_at lw_m1 23 rfl) rfl
theorem q206 : (Jvm.Cond.fieldLinkNest "TermLog$Compared" (20 : Nat) "TermLog$Asked" "isRefused" "Z" "TermLog") ∈ lw_tbl := lw_at lw_m1 49 rfl
theorem q489 : (Jvm.Cond.selects "TermLog$Compared" ({ cls := "TermLog$Condition", name := "holds", desc := "(LTermLog$Asked;)I" } : Jvm.MethodName) ({ cls := "TermLog$Compared", name := "holds", desc := "(LTermLog$Asked;)I" } : Jvm.MethodName)) ∈ lw_all := lw_g (lw_at lw_m2 92 rfl) rfl
theorem q490 : (Jvm.Cond.instanceMethod ({ cls := "TermLog$Compared", name := "holds", desc := "(LTermLog$Asked;)I" } : Jvm.MethodName)) ∈ lw_all := lw_g (lw_at lw_m2 93 rfl) rfl
theorem q491 : (Jvm.Cond.code ({ cls := "TermLog$Compared", name := "holds", desc := "(LTermLog$Asked;)I" } : Jvm.MethodName) prog_4_method_2_code (5 : Nat) (Option.some Jvm.ClassFile.FieldType.int)) ∈ lw_all := lw_g (lw_at lw_m2 94 rfl) rfl
theorem q492 : (Jvm.Cond.methodLink "TermLog$Compared" (26 : Nat) ({ cls := "TermLog$Sum", name := "worth", desc := "(LTermLog$Asked;)I" } : Jvm.MethodName)) ∈ lw_all := lw_g (lw_at lw_m2 95 rfl) rfl
theorem q1010 : (Jvm.Cond.instantiable "TermLog$Compared" (3 : Nat)) ∈ lw_all := lw_g (lw_at lw_m4 133 rfl) rfl
theorem q1012 : (Jvm.Cond.instanceMethod ({ cls := "TermLog$Compared", name := "<init>", desc := "(LTermLog$Sum;ILTermLog$Sum;)V" } : Jvm.MethodName)) ∈ lw_all := lw_g (lw_at lw_m4 135 rfl) rfl
theorem q1013 : (Jvm.Cond.code ({ cls := "TermLog$Compared", name := "<init>", desc := "(LTermLog$Sum;ILTermLog$Sum;)V" } : Jvm.MethodName) prog_4_method_1_code (4 : Nat) (Option.none : Option Jvm.ClassFile.FieldType)) ∈ lw_all := lw_g (lw_at lw_m4 136 rfl) rfl
theorem q1014 : (Jvm.Cond.methodLinkNest "TermLog$Compared" (1 : Nat) ({ cls := "TermLog$Condition", name := "<init>", desc := "()V" } : Jvm.MethodName) "TermLog") ∈ lw_tbl := lw_at lw_m4 137 rfl
theorem q1015 : (Jvm.Cond.fieldLink "TermLog$Compared" (7 : Nat) "TermLog$Compared" "x" "LTermLog$Sum;") ∈ lw_all := lw_g (lw_at lw_m4 138 rfl) rfl
theorem q1016 : (Jvm.Cond.fieldLink "TermLog$Compared" (17 : Nat) "TermLog$Compared" "y" "LTermLog$Sum;") ∈ lw_all := lw_g (lw_at lw_m4 139 rfl) rfl
theorem q1017 : (Jvm.Cond.fieldLink "TermLog$Compared" (13 : Nat) "TermLog$Compared" "sign" "I") ∈ lw_all := lw_g (lw_at lw_m4 140 rfl) rfl
theorem q1018 : (Jvm.Cond.laysFinal "TermLog$Compared" "TermLog$Compared" "x" "LTermLog$Sum;") ∈ lw_all := lw_g (lw_at lw_m4 141 rfl) rfl
theorem q1019 : (Jvm.Cond.soleField "TermLog$Compared" "x") ∈ lw_all := lw_g (lw_at lw_m4 142 rfl) rfl
theorem q1020 : (Jvm.Cond.laysFinal "TermLog$Compared" "TermLog$Compared" "y" "LTermLog$Sum;") ∈ lw_all := lw_g (lw_at lw_m4 143 rfl) rfl
theorem q1021 : (Jvm.Cond.soleField "TermLog$Compared" "y") ∈ lw_all := lw_g (lw_at lw_m4 144 rfl) rfl
theorem q1022 : (Jvm.Cond.laysFinal "TermLog$Compared" "TermLog$Compared" "sign" "I") ∈ lw_all := lw_g (lw_at lw_m4 145 rfl) rfl
theorem q1023 : (Jvm.Cond.soleField "TermLog$Compared" "sign") ∈ lw_all := lw_g (lw_at lw_m4 146 rfl) rfl
theorem q1024 : (Jvm.Cond.superclass "TermLog$Compared" "TermLog$Condition") ∈ lw_all := lw_g (lw_at lw_m4 147 rfl) rfl
theorem q2079 : (Jvm.Cond.castable "TermLog$Compared" "TermLog$Condition") ∈ lw_tbl := lw_at lw_m9 2 rfl
theorem in_X15 : ∀ w ∈ wsX150, w ∈ lw_all := lw_in wsX150 [1018, 1020, 1022] (by decide +kernel) (by decide +kernel)
/-! java/lang/Object -/
set_option maxRecDepth 100000
def RJ7 : String := "java/lang/Object"
abbrev cJ7_init : ByteArray := object_method_1_code
def yJ7_init : MethodName := ⟨RJ7, "<init>", "()V"⟩
theorem dJ7_init_0 : decode cJ7_init 0 = .ok (.return_, 1) := by decide +kernel
theorem q188 : (Jvm.Cond.instanceMethod ({ cls := "java/lang/Object", name := "<init>", desc := "()V" } : Jvm.MethodName)) ∈ lw_all := lw_g (lw_at lw_m1 31 rfl) rfl
theorem q189 : (Jvm.Cond.code ({ cls := "java/lang/Object", name := "<init>", desc := "()V" } : Jvm.MethodName) object_method_1_code (1 : Nat) (Option.none : Option Jvm.ClassFile.FieldType)) ∈ lw_all := lw_g (lw_at lw_m1 32 rfl) rfl
/-! java/lang/Math -/
set_option maxRecDepth 100000
def RJ0 : String := "java/lang/Math"
abbrev cJ0_min : ByteArray := prog_21_method_69_code
def yJ0_min : MethodName := ⟨RJ0, "min", "(II)I"⟩
def dkwJ0_min_0 : List UInt8 := [26, 27, 163, 0, 7, 26, 167, 0, 4, 27, 172]
abbrev dktJ0_min_0 : List UInt8 := dkwJ0_min_0 ++ []
theorem dksJ0_min_0 : cJ0_min.data.toList.drop 0 = dktJ0_min_0 := by decide +kernel
theorem dJ0_min_0 : decode cJ0_min 0 = .ok (.iload_n 0, 1) := dk_26 (dk_at dksJ0_min_0 0 rfl rfl)
theorem dJ0_min_1 : decode cJ0_min 1 = .ok (.iload_n 1, 1) := dk_27 (dk_at dksJ0_min_0 1 rfl rfl)
theorem dJ0_min_2 : decode cJ0_min 2 = .ok (.if_icmp .gt 7, 3) := dk_163 0 7 (dk_at dksJ0_min_0 2 rfl rfl)
theorem dJ0_min_5 : decode cJ0_min 5 = .ok (.iload_n 0, 1) := dk_26 (dk_at dksJ0_min_0 5 rfl rfl)
theorem dJ0_min_6 : decode cJ0_min 6 = .ok (.goto 4, 3) := dk_167 0 4 (dk_at dksJ0_min_0 6 rfl rfl)
theorem dJ0_min_9 : decode cJ0_min 9 = .ok (.iload_n 1, 1) := dk_27 (dk_at dksJ0_min_0 9 rfl rfl)
theorem dJ0_min_10 : decode cJ0_min 10 = .ok (.ireturn, 1) := dk_172 (dk_at dksJ0_min_0 10 rfl rfl)
abbrev cJ0_max : ByteArray := prog_21_method_65_code
def yJ0_max : MethodName := ⟨RJ0, "max", "(II)I"⟩
def dkwJ0_max_0 : List UInt8 := [26, 27, 161, 0, 7, 26, 167, 0, 4, 27, 172]
abbrev dktJ0_max_0 : List UInt8 := dkwJ0_max_0 ++ []
theorem dksJ0_max_0 : cJ0_max.data.toList.drop 0 = dktJ0_max_0 := by decide +kernel
theorem dJ0_max_0 : decode cJ0_max 0 = .ok (.iload_n 0, 1) := dk_26 (dk_at dksJ0_max_0 0 rfl rfl)
theorem dJ0_max_1 : decode cJ0_max 1 = .ok (.iload_n 1, 1) := dk_27 (dk_at dksJ0_max_0 1 rfl rfl)
theorem dJ0_max_2 : decode cJ0_max 2 = .ok (.if_icmp .lt 7, 3) := dk_161 0 7 (dk_at dksJ0_max_0 2 rfl rfl)
theorem dJ0_max_5 : decode cJ0_max 5 = .ok (.iload_n 0, 1) := dk_26 (dk_at dksJ0_max_0 5 rfl rfl)
theorem dJ0_max_6 : decode cJ0_max 6 = .ok (.goto 4, 3) := dk_167 0 4 (dk_at dksJ0_max_0 6 rfl rfl)
theorem dJ0_max_9 : decode cJ0_max 9 = .ok (.iload_n 1, 1) := dk_27 (dk_at dksJ0_max_0 9 rfl rfl)
theorem dJ0_max_10 : decode cJ0_max 10 = .ok (.ireturn, 1) := dk_172 (dk_at dksJ0_max_0 10 rfl rfl)
theorem q166 : (Jvm.Cond.initialized "java/lang/Math") ∈ lw_all := lw_g (lw_at lw_m1 9 rfl) rfl
theorem q531 : (Jvm.Cond.static ({ cls := "java/lang/Math", name := "min", desc := "(II)I" } : Jvm.MethodName)) ∈ lw_all := lw_g (lw_at lw_m2 134 rfl) rfl
theorem q532 : (Jvm.Cond.code ({ cls := "java/lang/Math", name := "min", desc := "(II)I" } : Jvm.MethodName) prog_21_method_69_code (2 : Nat) (Option.some Jvm.ClassFile.FieldType.int)) ∈ lw_all := lw_g (lw_at lw_m2 135 rfl) rfl
theorem q534 : (Jvm.Cond.static ({ cls := "java/lang/Math", name := "max", desc := "(II)I" } : Jvm.MethodName)) ∈ lw_all := lw_g (lw_at lw_m2 137 rfl) rfl
theorem q535 : (Jvm.Cond.code ({ cls := "java/lang/Math", name := "max", desc := "(II)I" } : Jvm.MethodName) prog_21_method_65_code (2 : Nat) (Option.some Jvm.ClassFile.FieldType.int)) ∈ lw_all := lw_g (lw_at lw_m2 138 rfl) rfl
/-! java/lang/Integer -/
set_option maxRecDepth 100000
def RJ1 : String := "java/lang/Integer"
abbrev cJ1_bitCount : ByteArray := prog_20_method_49_code
def yJ1_bitCount : MethodName := ⟨RJ1, "bitCount", "(I)I"⟩
def dkwJ1_bitCount_2 : List UInt8 := [26, 16, 63, 126, 172]
abbrev dktJ1_bitCount_2 : List UInt8 := dkwJ1_bitCount_2 ++ []
def dkwJ1_bitCount_1 : List UInt8 := [26, 26, 7, 124, 96, 19, 1, 11, 126, 59, 26, 26, 16, 8, 124, 96, 59, 26, 26, 16, 16, 124, 96, 59]
abbrev dktJ1_bitCount_1 : List UInt8 := dkwJ1_bitCount_1 ++ dktJ1_bitCount_2
def dkwJ1_bitCount_0 : List UInt8 := [26, 26, 4, 124, 19, 1, 9, 126, 100, 59, 26, 19, 1, 10, 126, 26, 5, 124, 19, 1, 10, 126, 96, 59]
abbrev dktJ1_bitCount_0 : List UInt8 := dkwJ1_bitCount_0 ++ dktJ1_bitCount_1
theorem dksJ1_bitCount_0 : cJ1_bitCount.data.toList.drop 0 = dktJ1_bitCount_0 := by decide +kernel
theorem dksJ1_bitCount_1 : cJ1_bitCount.data.toList.drop 24 = dktJ1_bitCount_1 := dk_seg dksJ1_bitCount_0 24 rfl rfl
theorem dksJ1_bitCount_2 : cJ1_bitCount.data.toList.drop 48 = dktJ1_bitCount_2 := dk_seg dksJ1_bitCount_1 24 rfl rfl
theorem dJ1_bitCount_0 : decode cJ1_bitCount 0 = .ok (.iload_n 0, 1) := dk_26 (dk_at dksJ1_bitCount_0 0 rfl rfl)
theorem dJ1_bitCount_1 : decode cJ1_bitCount 1 = .ok (.iload_n 0, 1) := dk_26 (dk_at dksJ1_bitCount_0 1 rfl rfl)
theorem dJ1_bitCount_2 : decode cJ1_bitCount 2 = .ok (.iconst 1, 1) := dk_4 (dk_at dksJ1_bitCount_0 2 rfl rfl)
theorem dJ1_bitCount_3 : decode cJ1_bitCount 3 = .ok (.iushr, 1) := dk_124 (dk_at dksJ1_bitCount_0 3 rfl rfl)
theorem dJ1_bitCount_4 : decode cJ1_bitCount 4 = .ok (.ldc_w 265, 3) := dk_19 1 9 (dk_at dksJ1_bitCount_0 4 rfl rfl)
theorem dJ1_bitCount_7 : decode cJ1_bitCount 7 = .ok (.iand, 1) := dk_126 (dk_at dksJ1_bitCount_0 7 rfl rfl)
theorem dJ1_bitCount_8 : decode cJ1_bitCount 8 = .ok (.isub, 1) := dk_100 (dk_at dksJ1_bitCount_0 8 rfl rfl)
theorem dJ1_bitCount_9 : decode cJ1_bitCount 9 = .ok (.istore_n 0, 1) := dk_59 (dk_at dksJ1_bitCount_0 9 rfl rfl)
theorem dJ1_bitCount_10 : decode cJ1_bitCount 10 = .ok (.iload_n 0, 1) := dk_26 (dk_at dksJ1_bitCount_0 10 rfl rfl)
theorem dJ1_bitCount_11 : decode cJ1_bitCount 11 = .ok (.ldc_w 266, 3) := dk_19 1 10 (dk_at dksJ1_bitCount_0 11 rfl rfl)
theorem dJ1_bitCount_14 : decode cJ1_bitCount 14 = .ok (.iand, 1) := dk_126 (dk_at dksJ1_bitCount_0 14 rfl rfl)
theorem dJ1_bitCount_15 : decode cJ1_bitCount 15 = .ok (.iload_n 0, 1) := dk_26 (dk_at dksJ1_bitCount_0 15 rfl rfl)
theorem dJ1_bitCount_16 : decode cJ1_bitCount 16 = .ok (.iconst 2, 1) := dk_5 (dk_at dksJ1_bitCount_0 16 rfl rfl)
theorem dJ1_bitCount_17 : decode cJ1_bitCount 17 = .ok (.iushr, 1) := dk_124 (dk_at dksJ1_bitCount_0 17 rfl rfl)
theorem dJ1_bitCount_18 : decode cJ1_bitCount 18 = .ok (.ldc_w 266, 3) := dk_19 1 10 (dk_at dksJ1_bitCount_0 18 rfl rfl)
theorem dJ1_bitCount_21 : decode cJ1_bitCount 21 = .ok (.iand, 1) := dk_126 (dk_at dksJ1_bitCount_0 21 rfl rfl)
theorem dJ1_bitCount_22 : decode cJ1_bitCount 22 = .ok (.iadd, 1) := dk_96 (dk_at dksJ1_bitCount_0 22 rfl rfl)
theorem dJ1_bitCount_23 : decode cJ1_bitCount 23 = .ok (.istore_n 0, 1) := dk_59 (dk_at dksJ1_bitCount_0 23 rfl rfl)
theorem dJ1_bitCount_24 : decode cJ1_bitCount 24 = .ok (.iload_n 0, 1) := dk_26 (dk_at dksJ1_bitCount_1 0 rfl rfl)
theorem dJ1_bitCount_25 : decode cJ1_bitCount 25 = .ok (.iload_n 0, 1) := dk_26 (dk_at dksJ1_bitCount_1 1 rfl rfl)
theorem dJ1_bitCount_26 : decode cJ1_bitCount 26 = .ok (.iconst 4, 1) := dk_7 (dk_at dksJ1_bitCount_1 2 rfl rfl)
theorem dJ1_bitCount_27 : decode cJ1_bitCount 27 = .ok (.iushr, 1) := dk_124 (dk_at dksJ1_bitCount_1 3 rfl rfl)
theorem dJ1_bitCount_28 : decode cJ1_bitCount 28 = .ok (.iadd, 1) := dk_96 (dk_at dksJ1_bitCount_1 4 rfl rfl)
theorem dJ1_bitCount_29 : decode cJ1_bitCount 29 = .ok (.ldc_w 267, 3) := dk_19 1 11 (dk_at dksJ1_bitCount_1 5 rfl rfl)
theorem dJ1_bitCount_32 : decode cJ1_bitCount 32 = .ok (.iand, 1) := dk_126 (dk_at dksJ1_bitCount_1 8 rfl rfl)
theorem dJ1_bitCount_33 : decode cJ1_bitCount 33 = .ok (.istore_n 0, 1) := dk_59 (dk_at dksJ1_bitCount_1 9 rfl rfl)
theorem dJ1_bitCount_34 : decode cJ1_bitCount 34 = .ok (.iload_n 0, 1) := dk_26 (dk_at dksJ1_bitCount_1 10 rfl rfl)
theorem dJ1_bitCount_35 : decode cJ1_bitCount 35 = .ok (.iload_n 0, 1) := dk_26 (dk_at dksJ1_bitCount_1 11 rfl rfl)
theorem dJ1_bitCount_36 : decode cJ1_bitCount 36 = .ok (.bipush 8, 2) := dk_16 8 (dk_at dksJ1_bitCount_1 12 rfl rfl)
theorem dJ1_bitCount_38 : decode cJ1_bitCount 38 = .ok (.iushr, 1) := dk_124 (dk_at dksJ1_bitCount_1 14 rfl rfl)
theorem dJ1_bitCount_39 : decode cJ1_bitCount 39 = .ok (.iadd, 1) := dk_96 (dk_at dksJ1_bitCount_1 15 rfl rfl)
theorem dJ1_bitCount_40 : decode cJ1_bitCount 40 = .ok (.istore_n 0, 1) := dk_59 (dk_at dksJ1_bitCount_1 16 rfl rfl)
theorem dJ1_bitCount_41 : decode cJ1_bitCount 41 = .ok (.iload_n 0, 1) := dk_26 (dk_at dksJ1_bitCount_1 17 rfl rfl)
theorem dJ1_bitCount_42 : decode cJ1_bitCount 42 = .ok (.iload_n 0, 1) := dk_26 (dk_at dksJ1_bitCount_1 18 rfl rfl)
theorem dJ1_bitCount_43 : decode cJ1_bitCount 43 = .ok (.bipush 16, 2) := dk_16 16 (dk_at dksJ1_bitCount_1 19 rfl rfl)
theorem dJ1_bitCount_45 : decode cJ1_bitCount 45 = .ok (.iushr, 1) := dk_124 (dk_at dksJ1_bitCount_1 21 rfl rfl)
theorem dJ1_bitCount_46 : decode cJ1_bitCount 46 = .ok (.iadd, 1) := dk_96 (dk_at dksJ1_bitCount_1 22 rfl rfl)
theorem dJ1_bitCount_47 : decode cJ1_bitCount 47 = .ok (.istore_n 0, 1) := dk_59 (dk_at dksJ1_bitCount_1 23 rfl rfl)
theorem dJ1_bitCount_48 : decode cJ1_bitCount 48 = .ok (.iload_n 0, 1) := dk_26 (dk_at dksJ1_bitCount_2 0 rfl rfl)
theorem dJ1_bitCount_49 : decode cJ1_bitCount 49 = .ok (.bipush 63, 2) := dk_16 63 (dk_at dksJ1_bitCount_2 1 rfl rfl)
theorem dJ1_bitCount_51 : decode cJ1_bitCount 51 = .ok (.iand, 1) := dk_126 (dk_at dksJ1_bitCount_2 3 rfl rfl)
theorem dJ1_bitCount_52 : decode cJ1_bitCount 52 = .ok (.ireturn, 1) := dk_172 (dk_at dksJ1_bitCount_2 4 rfl rfl)
theorem q168 : (Jvm.Cond.initialized "java/lang/Integer") ∈ lw_all := lw_g (lw_at lw_m1 11 rfl) rfl
theorem q723 : (Jvm.Cond.static ({ cls := "java/lang/Integer", name := "bitCount", desc := "(I)I" } : Jvm.MethodName)) ∈ lw_all := lw_g (lw_at lw_m3 86 rfl) rfl
theorem q724 : (Jvm.Cond.code ({ cls := "java/lang/Integer", name := "bitCount", desc := "(I)I" } : Jvm.MethodName) prog_20_method_49_code (1 : Nat) (Option.some Jvm.ClassFile.FieldType.int)) ∈ lw_all := lw_g (lw_at lw_m3 87 rfl) rfl
theorem q725 : (Jvm.Cond.constant "java/lang/Integer" (265 : Nat) (1431655765 : Int32)) ∈ lw_all := lw_g (lw_at lw_m3 88 rfl) rfl
theorem q726 : (Jvm.Cond.constant "java/lang/Integer" (266 : Nat) (858993459 : Int32)) ∈ lw_all := lw_g (lw_at lw_m3 89 rfl) rfl
theorem q727 : (Jvm.Cond.constant "java/lang/Integer" (267 : Nat) (252645135 : Int32)) ∈ lw_all := lw_g (lw_at lw_m3 90 rfl) rfl
/-! java/lang/String -/
set_option maxRecDepth 100000
def RJ2 : String := "java/lang/String"
abbrev cJ2_indexOf : ByteArray := prog_22_method_79_code
def yJ2_indexOf : MethodName := ⟨RJ2, "indexOf", "(I)I"⟩
def dkwJ2_indexOf_0 : List UInt8 := [42, 27, 3, 182, 2, 121, 172]
abbrev dktJ2_indexOf_0 : List UInt8 := dkwJ2_indexOf_0 ++ []
theorem dksJ2_indexOf_0 : cJ2_indexOf.data.toList.drop 0 = dktJ2_indexOf_0 := by decide +kernel
theorem dJ2_indexOf_0 : decode cJ2_indexOf 0 = .ok (.aload_n 0, 1) := dk_42 (dk_at dksJ2_indexOf_0 0 rfl rfl)
theorem dJ2_indexOf_1 : decode cJ2_indexOf 1 = .ok (.iload_n 1, 1) := dk_27 (dk_at dksJ2_indexOf_0 1 rfl rfl)
theorem dJ2_indexOf_2 : decode cJ2_indexOf 2 = .ok (.iconst 0, 1) := dk_3 (dk_at dksJ2_indexOf_0 2 rfl rfl)
theorem dJ2_indexOf_3 : decode cJ2_indexOf 3 = .ok (.invokevirtual 633, 3) := dk_182 2 121 (dk_at dksJ2_indexOf_0 3 rfl rfl)
theorem dJ2_indexOf_6 : decode cJ2_indexOf 6 = .ok (.ireturn, 1) := dk_172 (dk_at dksJ2_indexOf_0 6 rfl rfl)
abbrev cJ2_indexOf_2 : ByteArray := prog_22_method_80_code
def yJ2_indexOf_2 : MethodName := ⟨RJ2, "indexOf", "(II)I"⟩
def dkwJ2_indexOf_2_1 : List UInt8 := [180, 0, 9, 27, 28, 42, 182, 1, 249, 184, 2, 128, 172]
abbrev dktJ2_indexOf_2_1 : List UInt8 := dkwJ2_indexOf_2_1 ++ []
def dkwJ2_indexOf_2_0 : List UInt8 := [42, 182, 1, 236, 153, 0, 19, 42, 180, 0, 9, 27, 28, 42, 182, 1, 249, 184, 2, 125, 167, 0, 16, 42]
abbrev dktJ2_indexOf_2_0 : List UInt8 := dkwJ2_indexOf_2_0 ++ dktJ2_indexOf_2_1
theorem dksJ2_indexOf_2_0 : cJ2_indexOf_2.data.toList.drop 0 = dktJ2_indexOf_2_0 := by decide +kernel
theorem dksJ2_indexOf_2_1 : cJ2_indexOf_2.data.toList.drop 24 = dktJ2_indexOf_2_1 := dk_seg dksJ2_indexOf_2_0 24 rfl rfl
theorem dJ2_indexOf_2_0 : decode cJ2_indexOf_2 0 = .ok (.aload_n 0, 1) := dk_42 (dk_at dksJ2_indexOf_2_0 0 rfl rfl)
theorem dJ2_indexOf_2_1 : decode cJ2_indexOf_2 1 = .ok (.invokevirtual 492, 3) := dk_182 1 236 (dk_at dksJ2_indexOf_2_0 1 rfl rfl)
theorem dJ2_indexOf_2_4 : decode cJ2_indexOf_2 4 = .ok (.ifCond .eq 19, 3) := dk_153 0 19 (dk_at dksJ2_indexOf_2_0 4 rfl rfl)
theorem dJ2_indexOf_2_7 : decode cJ2_indexOf_2 7 = .ok (.aload_n 0, 1) := dk_42 (dk_at dksJ2_indexOf_2_0 7 rfl rfl)
theorem dJ2_indexOf_2_8 : decode cJ2_indexOf_2 8 = .ok (.getfield 9, 3) := dk_180 0 9 (dk_at dksJ2_indexOf_2_0 8 rfl rfl)
theorem dJ2_indexOf_2_11 : decode cJ2_indexOf_2 11 = .ok (.iload_n 1, 1) := dk_27 (dk_at dksJ2_indexOf_2_0 11 rfl rfl)
theorem dJ2_indexOf_2_12 : decode cJ2_indexOf_2 12 = .ok (.iload_n 2, 1) := dk_28 (dk_at dksJ2_indexOf_2_0 12 rfl rfl)
theorem dJ2_indexOf_2_13 : decode cJ2_indexOf_2 13 = .ok (.aload_n 0, 1) := dk_42 (dk_at dksJ2_indexOf_2_0 13 rfl rfl)
theorem dJ2_indexOf_2_14 : decode cJ2_indexOf_2 14 = .ok (.invokevirtual 505, 3) := dk_182 1 249 (dk_at dksJ2_indexOf_2_0 14 rfl rfl)
theorem dJ2_indexOf_2_17 : decode cJ2_indexOf_2 17 = .ok (.invokestatic 637, 3) := dk_184 2 125 (dk_at dksJ2_indexOf_2_0 17 rfl rfl)
theorem dJ2_indexOf_2_20 : decode cJ2_indexOf_2 20 = .ok (.goto 16, 3) := dk_167 0 16 (dk_at dksJ2_indexOf_2_0 20 rfl rfl)
theorem dJ2_indexOf_2_23 : decode cJ2_indexOf_2 23 = .ok (.aload_n 0, 1) := dk_42 (dk_at dksJ2_indexOf_2_0 23 rfl rfl)
theorem dJ2_indexOf_2_24 : decode cJ2_indexOf_2 24 = .ok (.getfield 9, 3) := dk_180 0 9 (dk_at dksJ2_indexOf_2_1 0 rfl rfl)
theorem dJ2_indexOf_2_27 : decode cJ2_indexOf_2 27 = .ok (.iload_n 1, 1) := dk_27 (dk_at dksJ2_indexOf_2_1 3 rfl rfl)
theorem dJ2_indexOf_2_28 : decode cJ2_indexOf_2 28 = .ok (.iload_n 2, 1) := dk_28 (dk_at dksJ2_indexOf_2_1 4 rfl rfl)
theorem dJ2_indexOf_2_29 : decode cJ2_indexOf_2 29 = .ok (.aload_n 0, 1) := dk_42 (dk_at dksJ2_indexOf_2_1 5 rfl rfl)
theorem dJ2_indexOf_2_30 : decode cJ2_indexOf_2 30 = .ok (.invokevirtual 505, 3) := dk_182 1 249 (dk_at dksJ2_indexOf_2_1 6 rfl rfl)
theorem dJ2_indexOf_2_33 : decode cJ2_indexOf_2 33 = .ok (.invokestatic 640, 3) := dk_184 2 128 (dk_at dksJ2_indexOf_2_1 9 rfl rfl)
theorem dJ2_indexOf_2_36 : decode cJ2_indexOf_2 36 = .ok (.ireturn, 1) := dk_172 (dk_at dksJ2_indexOf_2_1 12 rfl rfl)
abbrev cJ2_isLatin1 : ByteArray := prog_22_method_154_code
def yJ2_isLatin1 : MethodName := ⟨RJ2, "isLatin1", "()Z"⟩
def dkwJ2_isLatin1_0 : List UInt8 := [178, 0, 38, 153, 0, 14, 42, 180, 0, 15, 154, 0, 7, 4, 167, 0, 4, 3, 172]
abbrev dktJ2_isLatin1_0 : List UInt8 := dkwJ2_isLatin1_0 ++ []
theorem dksJ2_isLatin1_0 : cJ2_isLatin1.data.toList.drop 0 = dktJ2_isLatin1_0 := by decide +kernel
theorem dJ2_isLatin1_0 : decode cJ2_isLatin1 0 = .ok (.getstatic 38, 3) := dk_178 0 38 (dk_at dksJ2_isLatin1_0 0 rfl rfl)
theorem dJ2_isLatin1_3 : decode cJ2_isLatin1 3 = .ok (.ifCond .eq 14, 3) := dk_153 0 14 (dk_at dksJ2_isLatin1_0 3 rfl rfl)
theorem dJ2_isLatin1_6 : decode cJ2_isLatin1 6 = .ok (.aload_n 0, 1) := dk_42 (dk_at dksJ2_isLatin1_0 6 rfl rfl)
theorem dJ2_isLatin1_7 : decode cJ2_isLatin1 7 = .ok (.getfield 15, 3) := dk_180 0 15 (dk_at dksJ2_isLatin1_0 7 rfl rfl)
theorem dJ2_isLatin1_10 : decode cJ2_isLatin1 10 = .ok (.ifCond .ne 7, 3) := dk_154 0 7 (dk_at dksJ2_isLatin1_0 10 rfl rfl)
theorem dJ2_isLatin1_13 : decode cJ2_isLatin1 13 = .ok (.iconst 1, 1) := dk_4 (dk_at dksJ2_isLatin1_0 13 rfl rfl)
theorem dJ2_isLatin1_14 : decode cJ2_isLatin1 14 = .ok (.goto 4, 3) := dk_167 0 4 (dk_at dksJ2_isLatin1_0 14 rfl rfl)
theorem dJ2_isLatin1_17 : decode cJ2_isLatin1 17 = .ok (.iconst 0, 1) := dk_3 (dk_at dksJ2_isLatin1_0 17 rfl rfl)
theorem dJ2_isLatin1_18 : decode cJ2_isLatin1 18 = .ok (.ireturn, 1) := dk_172 (dk_at dksJ2_isLatin1_0 18 rfl rfl)
abbrev cJ2_length : ByteArray := prog_22_method_54_code
def yJ2_length : MethodName := ⟨RJ2, "length", "()I"⟩
def dkwJ2_length_0 : List UInt8 := [42, 180, 0, 9, 190, 42, 182, 1, 79, 122, 172]
abbrev dktJ2_length_0 : List UInt8 := dkwJ2_length_0 ++ []
theorem dksJ2_length_0 : cJ2_length.data.toList.drop 0 = dktJ2_length_0 := by decide +kernel
theorem dJ2_length_0 : decode cJ2_length 0 = .ok (.aload_n 0, 1) := dk_42 (dk_at dksJ2_length_0 0 rfl rfl)
theorem dJ2_length_1 : decode cJ2_length 1 = .ok (.getfield 9, 3) := dk_180 0 9 (dk_at dksJ2_length_0 1 rfl rfl)
theorem dJ2_length_4 : decode cJ2_length 4 = .ok (.arraylength, 1) := dk_190 (dk_at dksJ2_length_0 4 rfl rfl)
theorem dJ2_length_5 : decode cJ2_length 5 = .ok (.aload_n 0, 1) := dk_42 (dk_at dksJ2_length_0 5 rfl rfl)
theorem dJ2_length_6 : decode cJ2_length 6 = .ok (.invokevirtual 335, 3) := dk_182 1 79 (dk_at dksJ2_length_0 6 rfl rfl)
theorem dJ2_length_9 : decode cJ2_length 9 = .ok (.ishr, 1) := dk_122 (dk_at dksJ2_length_0 9 rfl rfl)
theorem dJ2_length_10 : decode cJ2_length 10 = .ok (.ireturn, 1) := dk_172 (dk_at dksJ2_length_0 10 rfl rfl)
abbrev cJ2_coder : ByteArray := prog_22_method_152_code
def yJ2_coder : MethodName := ⟨RJ2, "coder", "()B"⟩
def dkwJ2_coder_0 : List UInt8 := [178, 0, 38, 153, 0, 10, 42, 180, 0, 15, 167, 0, 4, 4, 172]
abbrev dktJ2_coder_0 : List UInt8 := dkwJ2_coder_0 ++ []
theorem dksJ2_coder_0 : cJ2_coder.data.toList.drop 0 = dktJ2_coder_0 := by decide +kernel
theorem dJ2_coder_0 : decode cJ2_coder 0 = .ok (.getstatic 38, 3) := dk_178 0 38 (dk_at dksJ2_coder_0 0 rfl rfl)
theorem dJ2_coder_3 : decode cJ2_coder 3 = .ok (.ifCond .eq 10, 3) := dk_153 0 10 (dk_at dksJ2_coder_0 3 rfl rfl)
theorem dJ2_coder_6 : decode cJ2_coder 6 = .ok (.aload_n 0, 1) := dk_42 (dk_at dksJ2_coder_0 6 rfl rfl)
theorem dJ2_coder_7 : decode cJ2_coder 7 = .ok (.getfield 15, 3) := dk_180 0 15 (dk_at dksJ2_coder_0 7 rfl rfl)
theorem dJ2_coder_10 : decode cJ2_coder 10 = .ok (.goto 4, 3) := dk_167 0 4 (dk_at dksJ2_coder_0 10 rfl rfl)
theorem dJ2_coder_13 : decode cJ2_coder 13 = .ok (.iconst 1, 1) := dk_4 (dk_at dksJ2_coder_0 13 rfl rfl)
theorem dJ2_coder_14 : decode cJ2_coder 14 = .ok (.ireturn, 1) := dk_172 (dk_at dksJ2_coder_0 14 rfl rfl)
abbrev cJ2_checkBoundsBeginEnd : ByteArray := prog_22_method_158_code
def yJ2_checkBoundsBeginEnd : MethodName := ⟨RJ2, "checkBoundsBeginEnd", "(III)V"⟩
def dkwJ2_checkBoundsBeginEnd_0 : List UInt8 := [26, 27, 28, 178, 4, 29, 184, 4, 38, 87, 177]
abbrev dktJ2_checkBoundsBeginEnd_0 : List UInt8 := dkwJ2_checkBoundsBeginEnd_0 ++ []
theorem dksJ2_checkBoundsBeginEnd_0 : cJ2_checkBoundsBeginEnd.data.toList.drop 0 = dktJ2_checkBoundsBeginEnd_0 := by decide +kernel
theorem dJ2_checkBoundsBeginEnd_0 : decode cJ2_checkBoundsBeginEnd 0 = .ok (.iload_n 0, 1) := dk_26 (dk_at dksJ2_checkBoundsBeginEnd_0 0 rfl rfl)
theorem dJ2_checkBoundsBeginEnd_1 : decode cJ2_checkBoundsBeginEnd 1 = .ok (.iload_n 1, 1) := dk_27 (dk_at dksJ2_checkBoundsBeginEnd_0 1 rfl rfl)
theorem dJ2_checkBoundsBeginEnd_2 : decode cJ2_checkBoundsBeginEnd 2 = .ok (.iload_n 2, 1) := dk_28 (dk_at dksJ2_checkBoundsBeginEnd_0 2 rfl rfl)
theorem dJ2_checkBoundsBeginEnd_3 : decode cJ2_checkBoundsBeginEnd 3 = .ok (.getstatic 1053, 3) := dk_178 4 29 (dk_at dksJ2_checkBoundsBeginEnd_0 3 rfl rfl)
theorem dJ2_checkBoundsBeginEnd_6 : decode cJ2_checkBoundsBeginEnd 6 = .ok (.invokestatic 1062, 3) := dk_184 4 38 (dk_at dksJ2_checkBoundsBeginEnd_0 6 rfl rfl)
theorem dJ2_checkBoundsBeginEnd_9 : decode cJ2_checkBoundsBeginEnd 9 = .ok (.pop, 1) := dk_87 (dk_at dksJ2_checkBoundsBeginEnd_0 9 rfl rfl)
theorem dJ2_checkBoundsBeginEnd_10 : decode cJ2_checkBoundsBeginEnd 10 = .ok (.return_, 1) := dk_177 (dk_at dksJ2_checkBoundsBeginEnd_0 10 rfl rfl)
theorem q170 : (Jvm.Cond.initialized "java/lang/String") ∈ lw_all := lw_g (lw_at lw_m1 13 rfl) rfl
theorem q828 : (Jvm.Cond.instanceMethod ({ cls := "java/lang/String", name := "indexOf", desc := "(I)I" } : Jvm.MethodName)) ∈ lw_all := lw_g (lw_at lw_m3 191 rfl) rfl
theorem q829 : (Jvm.Cond.selects "java/lang/String" ({ cls := "java/lang/String", name := "indexOf", desc := "(I)I" } : Jvm.MethodName) ({ cls := "java/lang/String", name := "indexOf", desc := "(I)I" } : Jvm.MethodName)) ∈ lw_all := lw_g (lw_at lw_m3 192 rfl) rfl
theorem q830 : (Jvm.Cond.code ({ cls := "java/lang/String", name := "indexOf", desc := "(I)I" } : Jvm.MethodName) prog_22_method_79_code (2 : Nat) (Option.some Jvm.ClassFile.FieldType.int)) ∈ lw_all := lw_g (lw_at lw_m3 193 rfl) rfl
theorem q831 : (Jvm.Cond.methodLink "java/lang/String" (633 : Nat) ({ cls := "java/lang/String", name := "indexOf", desc := "(II)I" } : Jvm.MethodName)) ∈ lw_all := lw_g (lw_at lw_m3 194 rfl) rfl
theorem q832 : (Jvm.Cond.instanceMethod ({ cls := "java/lang/String", name := "indexOf", desc := "(II)I" } : Jvm.MethodName)) ∈ lw_all := lw_g (lw_at lw_m3 195 rfl) rfl
theorem q833 : (Jvm.Cond.selects "java/lang/String" ({ cls := "java/lang/String", name := "indexOf", desc := "(II)I" } : Jvm.MethodName) ({ cls := "java/lang/String", name := "indexOf", desc := "(II)I" } : Jvm.MethodName)) ∈ lw_all := lw_g (lw_at lw_m3 196 rfl) rfl
theorem q834 : (Jvm.Cond.code ({ cls := "java/lang/String", name := "indexOf", desc := "(II)I" } : Jvm.MethodName) prog_22_method_80_code (3 : Nat) (Option.some Jvm.ClassFile.FieldType.int)) ∈ lw_all := lw_g (lw_at lw_m3 197 rfl) rfl
theorem q835 : (Jvm.Cond.methodLink "java/lang/String" (492 : Nat) ({ cls := "java/lang/String", name := "isLatin1", desc := "()Z" } : Jvm.MethodName)) ∈ lw_all := lw_g (lw_at lw_m3 198 rfl) rfl
theorem q836 : (Jvm.Cond.instanceMethod ({ cls := "java/lang/String", name := "isLatin1", desc := "()Z" } : Jvm.MethodName)) ∈ lw_all := lw_g (lw_at lw_m3 199 rfl) rfl
theorem q837 : (Jvm.Cond.selects "java/lang/String" ({ cls := "java/lang/String", name := "isLatin1", desc := "()Z" } : Jvm.MethodName) ({ cls := "java/lang/String", name := "isLatin1", desc := "()Z" } : Jvm.MethodName)) ∈ lw_all := lw_g (lw_at lw_m3 200 rfl) rfl
theorem q838 : (Jvm.Cond.code ({ cls := "java/lang/String", name := "isLatin1", desc := "()Z" } : Jvm.MethodName) prog_22_method_154_code (1 : Nat) (Option.some Jvm.ClassFile.FieldType.boolean)) ∈ lw_all := lw_g (lw_at lw_m3 201 rfl) rfl
theorem q839 : (Jvm.Cond.fieldLink "java/lang/String" (38 : Nat) "java/lang/String" "COMPACT_STRINGS" "Z") ∈ lw_all := lw_g (lw_at lw_m3 202 rfl) rfl
theorem q840 : (Jvm.Cond.laysStatic "java/lang/String" "COMPACT_STRINGS" "Z") ∈ lw_tbl := lw_at lw_m3 203 rfl
theorem q841 : (Jvm.Cond.methodLink "java/lang/String" (505 : Nat) ({ cls := "java/lang/String", name := "length", desc := "()I" } : Jvm.MethodName)) ∈ lw_all := lw_g (lw_at lw_m3 204 rfl) rfl
theorem q842 : (Jvm.Cond.instanceMethod ({ cls := "java/lang/String", name := "length", desc := "()I" } : Jvm.MethodName)) ∈ lw_all := lw_g (lw_at lw_m3 205 rfl) rfl
theorem q843 : (Jvm.Cond.selects "java/lang/String" ({ cls := "java/lang/String", name := "length", desc := "()I" } : Jvm.MethodName) ({ cls := "java/lang/String", name := "length", desc := "()I" } : Jvm.MethodName)) ∈ lw_all := lw_g (lw_at lw_m3 206 rfl) rfl
theorem q844 : (Jvm.Cond.code ({ cls := "java/lang/String", name := "length", desc := "()I" } : Jvm.MethodName) prog_22_method_54_code (1 : Nat) (Option.some Jvm.ClassFile.FieldType.int)) ∈ lw_all := lw_g (lw_at lw_m3 207 rfl) rfl
theorem q845 : (Jvm.Cond.methodLink "java/lang/String" (335 : Nat) ({ cls := "java/lang/String", name := "coder", desc := "()B" } : Jvm.MethodName)) ∈ lw_all := lw_g (lw_at lw_m3 208 rfl) rfl
theorem q846 : (Jvm.Cond.instanceMethod ({ cls := "java/lang/String", name := "coder", desc := "()B" } : Jvm.MethodName)) ∈ lw_all := lw_g (lw_at lw_m3 209 rfl) rfl
theorem q847 : (Jvm.Cond.selects "java/lang/String" ({ cls := "java/lang/String", name := "coder", desc := "()B" } : Jvm.MethodName) ({ cls := "java/lang/String", name := "coder", desc := "()B" } : Jvm.MethodName)) ∈ lw_all := lw_g (lw_at lw_m3 210 rfl) rfl
theorem q848 : (Jvm.Cond.code ({ cls := "java/lang/String", name := "coder", desc := "()B" } : Jvm.MethodName) prog_22_method_152_code (1 : Nat) (Option.some Jvm.ClassFile.FieldType.byte)) ∈ lw_all := lw_g (lw_at lw_m3 211 rfl) rfl
theorem q849 : (Jvm.Cond.methodLink "java/lang/String" (637 : Nat) ({ cls := "java/lang/StringLatin1", name := "indexOf", desc := "([BIII)I" } : Jvm.MethodName)) ∈ lw_all := lw_g (lw_at lw_m3 212 rfl) rfl
theorem q860 : (Jvm.Cond.methodLink "java/lang/String" (640 : Nat) ({ cls := "java/lang/StringUTF16", name := "indexOf", desc := "([BIII)I" } : Jvm.MethodName)) ∈ lw_all := lw_g (lw_at lw_m3 223 rfl) rfl
theorem q876 : (Jvm.Cond.static ({ cls := "java/lang/String", name := "checkBoundsBeginEnd", desc := "(III)V" } : Jvm.MethodName)) ∈ lw_all := lw_g (lw_at lw_m3 239 rfl) rfl
theorem q877 : (Jvm.Cond.code ({ cls := "java/lang/String", name := "checkBoundsBeginEnd", desc := "(III)V" } : Jvm.MethodName) prog_22_method_158_code (3 : Nat) (Option.none : Option Jvm.ClassFile.FieldType)) ∈ lw_all := lw_g (lw_at lw_m4 0 rfl) rfl
theorem q878 : (Jvm.Cond.fieldLink "java/lang/String" (1053 : Nat) "jdk/internal/util/Preconditions" "SIOOBE_FORMATTER" "Ljava/util/function/BiFunction;") ∈ lw_all := lw_g (lw_at lw_m4 1 rfl) rfl
theorem q880 : (Jvm.Cond.methodLink "java/lang/String" (1062 : Nat) ({ cls := "jdk/internal/util/Preconditions", name := "checkFromToIndex", desc := "(IIILjava/util/function/BiFunction;)I" } : Jvm.MethodName)) ∈ lw_all := lw_g (lw_at lw_m4 3 rfl) rfl
theorem q2080 : (Jvm.Cond.fieldLink "java/lang/String" (15 : Nat) "java/lang/String" "coder" "B") ∈ lw_all := lw_g (lw_at lw_m9 3 rfl) rfl
theorem q2081 : (Jvm.Cond.fieldLink "java/lang/String" (9 : Nat) "java/lang/String" "value" "[B") ∈ lw_all := lw_g (lw_at lw_m9 4 rfl) rfl
/-! java/lang/StringLatin1 -/
set_option maxRecDepth 100000
def RJ3 : String := "java/lang/StringLatin1"
abbrev cJ3_indexOf : ByteArray := prog_23_method_22_code
def yJ3_indexOf : MethodName := ⟨RJ3, "indexOf", "([BIII)I"⟩
def dkwJ3_indexOf_1 : List UInt8 := [161, 0, 5, 2, 172, 42, 27, 28, 29, 184, 0, 95, 172]
abbrev dktJ3_indexOf_1 : List UInt8 := dkwJ3_indexOf_1 ++ []
def dkwJ3_indexOf_0 : List UInt8 := [27, 184, 0, 88, 154, 0, 5, 2, 172, 28, 3, 184, 0, 92, 61, 29, 42, 190, 184, 0, 38, 62, 28, 29]
abbrev dktJ3_indexOf_0 : List UInt8 := dkwJ3_indexOf_0 ++ dktJ3_indexOf_1
theorem dksJ3_indexOf_0 : cJ3_indexOf.data.toList.drop 0 = dktJ3_indexOf_0 := by decide +kernel
theorem dksJ3_indexOf_1 : cJ3_indexOf.data.toList.drop 24 = dktJ3_indexOf_1 := dk_seg dksJ3_indexOf_0 24 rfl rfl
theorem dJ3_indexOf_0 : decode cJ3_indexOf 0 = .ok (.iload_n 1, 1) := dk_27 (dk_at dksJ3_indexOf_0 0 rfl rfl)
theorem dJ3_indexOf_1 : decode cJ3_indexOf 1 = .ok (.invokestatic 88, 3) := dk_184 0 88 (dk_at dksJ3_indexOf_0 1 rfl rfl)
theorem dJ3_indexOf_4 : decode cJ3_indexOf 4 = .ok (.ifCond .ne 5, 3) := dk_154 0 5 (dk_at dksJ3_indexOf_0 4 rfl rfl)
theorem dJ3_indexOf_7 : decode cJ3_indexOf 7 = .ok (.iconst (-1), 1) := dk_2 (dk_at dksJ3_indexOf_0 7 rfl rfl)
theorem dJ3_indexOf_8 : decode cJ3_indexOf 8 = .ok (.ireturn, 1) := dk_172 (dk_at dksJ3_indexOf_0 8 rfl rfl)
theorem dJ3_indexOf_9 : decode cJ3_indexOf 9 = .ok (.iload_n 2, 1) := dk_28 (dk_at dksJ3_indexOf_0 9 rfl rfl)
theorem dJ3_indexOf_10 : decode cJ3_indexOf 10 = .ok (.iconst 0, 1) := dk_3 (dk_at dksJ3_indexOf_0 10 rfl rfl)
theorem dJ3_indexOf_11 : decode cJ3_indexOf 11 = .ok (.invokestatic 92, 3) := dk_184 0 92 (dk_at dksJ3_indexOf_0 11 rfl rfl)
theorem dJ3_indexOf_14 : decode cJ3_indexOf 14 = .ok (.istore_n 2, 1) := dk_61 (dk_at dksJ3_indexOf_0 14 rfl rfl)
theorem dJ3_indexOf_15 : decode cJ3_indexOf 15 = .ok (.iload_n 3, 1) := dk_29 (dk_at dksJ3_indexOf_0 15 rfl rfl)
theorem dJ3_indexOf_16 : decode cJ3_indexOf 16 = .ok (.aload_n 0, 1) := dk_42 (dk_at dksJ3_indexOf_0 16 rfl rfl)
theorem dJ3_indexOf_17 : decode cJ3_indexOf 17 = .ok (.arraylength, 1) := dk_190 (dk_at dksJ3_indexOf_0 17 rfl rfl)
theorem dJ3_indexOf_18 : decode cJ3_indexOf 18 = .ok (.invokestatic 38, 3) := dk_184 0 38 (dk_at dksJ3_indexOf_0 18 rfl rfl)
theorem dJ3_indexOf_21 : decode cJ3_indexOf 21 = .ok (.istore_n 3, 1) := dk_62 (dk_at dksJ3_indexOf_0 21 rfl rfl)
theorem dJ3_indexOf_22 : decode cJ3_indexOf 22 = .ok (.iload_n 2, 1) := dk_28 (dk_at dksJ3_indexOf_0 22 rfl rfl)
theorem dJ3_indexOf_23 : decode cJ3_indexOf 23 = .ok (.iload_n 3, 1) := dk_29 (dk_at dksJ3_indexOf_0 23 rfl rfl)
theorem dJ3_indexOf_24 : decode cJ3_indexOf 24 = .ok (.if_icmp .lt 5, 3) := dk_161 0 5 (dk_at dksJ3_indexOf_1 0 rfl rfl)
theorem dJ3_indexOf_27 : decode cJ3_indexOf 27 = .ok (.iconst (-1), 1) := dk_2 (dk_at dksJ3_indexOf_1 3 rfl rfl)
theorem dJ3_indexOf_28 : decode cJ3_indexOf 28 = .ok (.ireturn, 1) := dk_172 (dk_at dksJ3_indexOf_1 4 rfl rfl)
theorem dJ3_indexOf_29 : decode cJ3_indexOf 29 = .ok (.aload_n 0, 1) := dk_42 (dk_at dksJ3_indexOf_1 5 rfl rfl)
theorem dJ3_indexOf_30 : decode cJ3_indexOf 30 = .ok (.iload_n 1, 1) := dk_27 (dk_at dksJ3_indexOf_1 6 rfl rfl)
theorem dJ3_indexOf_31 : decode cJ3_indexOf 31 = .ok (.iload_n 2, 1) := dk_28 (dk_at dksJ3_indexOf_1 7 rfl rfl)
theorem dJ3_indexOf_32 : decode cJ3_indexOf 32 = .ok (.iload_n 3, 1) := dk_29 (dk_at dksJ3_indexOf_1 8 rfl rfl)
theorem dJ3_indexOf_33 : decode cJ3_indexOf 33 = .ok (.invokestatic 95, 3) := dk_184 0 95 (dk_at dksJ3_indexOf_1 9 rfl rfl)
theorem dJ3_indexOf_36 : decode cJ3_indexOf 36 = .ok (.ireturn, 1) := dk_172 (dk_at dksJ3_indexOf_1 12 rfl rfl)
abbrev cJ3_canEncode : ByteArray := prog_23_method_4_code
def yJ3_canEncode : MethodName := ⟨RJ3, "canEncode", "(I)Z"⟩
def dkwJ3_canEncode_0 : List UInt8 := [26, 155, 0, 14, 26, 17, 0, 255, 163, 0, 7, 4, 167, 0, 4, 3, 172]
abbrev dktJ3_canEncode_0 : List UInt8 := dkwJ3_canEncode_0 ++ []
theorem dksJ3_canEncode_0 : cJ3_canEncode.data.toList.drop 0 = dktJ3_canEncode_0 := by decide +kernel
theorem dJ3_canEncode_0 : decode cJ3_canEncode 0 = .ok (.iload_n 0, 1) := dk_26 (dk_at dksJ3_canEncode_0 0 rfl rfl)
theorem dJ3_canEncode_1 : decode cJ3_canEncode 1 = .ok (.ifCond .lt 14, 3) := dk_155 0 14 (dk_at dksJ3_canEncode_0 1 rfl rfl)
theorem dJ3_canEncode_4 : decode cJ3_canEncode 4 = .ok (.iload_n 0, 1) := dk_26 (dk_at dksJ3_canEncode_0 4 rfl rfl)
theorem dJ3_canEncode_5 : decode cJ3_canEncode 5 = .ok (.sipush 255, 3) := dk_17 0 255 (dk_at dksJ3_canEncode_0 5 rfl rfl)
theorem dJ3_canEncode_8 : decode cJ3_canEncode 8 = .ok (.if_icmp .gt 7, 3) := dk_163 0 7 (dk_at dksJ3_canEncode_0 8 rfl rfl)
theorem dJ3_canEncode_11 : decode cJ3_canEncode 11 = .ok (.iconst 1, 1) := dk_4 (dk_at dksJ3_canEncode_0 11 rfl rfl)
theorem dJ3_canEncode_12 : decode cJ3_canEncode 12 = .ok (.goto 4, 3) := dk_167 0 4 (dk_at dksJ3_canEncode_0 12 rfl rfl)
theorem dJ3_canEncode_15 : decode cJ3_canEncode 15 = .ok (.iconst 0, 1) := dk_3 (dk_at dksJ3_canEncode_0 15 rfl rfl)
theorem dJ3_canEncode_16 : decode cJ3_canEncode 16 = .ok (.ireturn, 1) := dk_172 (dk_at dksJ3_canEncode_0 16 rfl rfl)
abbrev cJ3_indexOfChar : ByteArray := prog_23_method_23_code
def yJ3_indexOfChar : MethodName := ⟨RJ3, "indexOfChar", "([BIII)I"⟩
def dkwJ3_indexOfChar_1 : List UInt8 := [172, 132, 5, 1, 167, 255, 235, 2, 172]
abbrev dktJ3_indexOfChar_1 : List UInt8 := dkwJ3_indexOfChar_1 ++ []
def dkwJ3_indexOfChar_0 : List UInt8 := [27, 145, 54, 4, 28, 54, 5, 21, 5, 29, 162, 0, 21, 42, 21, 5, 51, 21, 4, 160, 0, 6, 21, 5]
abbrev dktJ3_indexOfChar_0 : List UInt8 := dkwJ3_indexOfChar_0 ++ dktJ3_indexOfChar_1
theorem dksJ3_indexOfChar_0 : cJ3_indexOfChar.data.toList.drop 0 = dktJ3_indexOfChar_0 := by decide +kernel
theorem dksJ3_indexOfChar_1 : cJ3_indexOfChar.data.toList.drop 24 = dktJ3_indexOfChar_1 := dk_seg dksJ3_indexOfChar_0 24 rfl rfl
theorem dJ3_indexOfChar_0 : decode cJ3_indexOfChar 0 = .ok (.iload_n 1, 1) := dk_27 (dk_at dksJ3_indexOfChar_0 0 rfl rfl)
theorem dJ3_indexOfChar_1 : decode cJ3_indexOfChar 1 = .ok (.i2b, 1) := dk_145 (dk_at dksJ3_indexOfChar_0 1 rfl rfl)
theorem dJ3_indexOfChar_2 : decode cJ3_indexOfChar 2 = .ok (.istore 4, 2) := dk_54 4 (dk_at dksJ3_indexOfChar_0 2 rfl rfl)
theorem dJ3_indexOfChar_4 : decode cJ3_indexOfChar 4 = .ok (.iload_n 2, 1) := dk_28 (dk_at dksJ3_indexOfChar_0 4 rfl rfl)
theorem dJ3_indexOfChar_5 : decode cJ3_indexOfChar 5 = .ok (.istore 5, 2) := dk_54 5 (dk_at dksJ3_indexOfChar_0 5 rfl rfl)
theorem dJ3_indexOfChar_7 : decode cJ3_indexOfChar 7 = .ok (.iload 5, 2) := dk_21 5 (dk_at dksJ3_indexOfChar_0 7 rfl rfl)
theorem dJ3_indexOfChar_9 : decode cJ3_indexOfChar 9 = .ok (.iload_n 3, 1) := dk_29 (dk_at dksJ3_indexOfChar_0 9 rfl rfl)
theorem dJ3_indexOfChar_10 : decode cJ3_indexOfChar 10 = .ok (.if_icmp .ge 21, 3) := dk_162 0 21 (dk_at dksJ3_indexOfChar_0 10 rfl rfl)
theorem dJ3_indexOfChar_13 : decode cJ3_indexOfChar 13 = .ok (.aload_n 0, 1) := dk_42 (dk_at dksJ3_indexOfChar_0 13 rfl rfl)
theorem dJ3_indexOfChar_14 : decode cJ3_indexOfChar 14 = .ok (.iload 5, 2) := dk_21 5 (dk_at dksJ3_indexOfChar_0 14 rfl rfl)
theorem dJ3_indexOfChar_16 : decode cJ3_indexOfChar 16 = .ok (.baload, 1) := dk_51 (dk_at dksJ3_indexOfChar_0 16 rfl rfl)
theorem dJ3_indexOfChar_17 : decode cJ3_indexOfChar 17 = .ok (.iload 4, 2) := dk_21 4 (dk_at dksJ3_indexOfChar_0 17 rfl rfl)
theorem dJ3_indexOfChar_19 : decode cJ3_indexOfChar 19 = .ok (.if_icmp .ne 6, 3) := dk_160 0 6 (dk_at dksJ3_indexOfChar_0 19 rfl rfl)
theorem dJ3_indexOfChar_22 : decode cJ3_indexOfChar 22 = .ok (.iload 5, 2) := dk_21 5 (dk_at dksJ3_indexOfChar_0 22 rfl rfl)
theorem dJ3_indexOfChar_24 : decode cJ3_indexOfChar 24 = .ok (.ireturn, 1) := dk_172 (dk_at dksJ3_indexOfChar_1 0 rfl rfl)
theorem dJ3_indexOfChar_25 : decode cJ3_indexOfChar 25 = .ok (.iinc 5 1, 3) := dk_132 5 1 (dk_at dksJ3_indexOfChar_1 1 rfl rfl)
theorem dJ3_indexOfChar_28 : decode cJ3_indexOfChar 28 = .ok (.goto (-21), 3) := dk_167 255 235 (dk_at dksJ3_indexOfChar_1 4 rfl rfl)
theorem dJ3_indexOfChar_31 : decode cJ3_indexOfChar 31 = .ok (.iconst (-1), 1) := dk_2 (dk_at dksJ3_indexOfChar_1 7 rfl rfl)
theorem dJ3_indexOfChar_32 : decode cJ3_indexOfChar 32 = .ok (.ireturn, 1) := dk_172 (dk_at dksJ3_indexOfChar_1 8 rfl rfl)
theorem q171 : (Jvm.Cond.initialized "java/lang/StringLatin1") ∈ lw_all := lw_g (lw_at lw_m1 14 rfl) rfl
theorem q850 : (Jvm.Cond.static ({ cls := "java/lang/StringLatin1", name := "indexOf", desc := "([BIII)I" } : Jvm.MethodName)) ∈ lw_all := lw_g (lw_at lw_m3 213 rfl) rfl
theorem q851 : (Jvm.Cond.code ({ cls := "java/lang/StringLatin1", name := "indexOf", desc := "([BIII)I" } : Jvm.MethodName) prog_23_method_22_code (4 : Nat) (Option.some Jvm.ClassFile.FieldType.int)) ∈ lw_all := lw_g (lw_at lw_m3 214 rfl) rfl
theorem q852 : (Jvm.Cond.methodLink "java/lang/StringLatin1" (88 : Nat) ({ cls := "java/lang/StringLatin1", name := "canEncode", desc := "(I)Z" } : Jvm.MethodName)) ∈ lw_all := lw_g (lw_at lw_m3 215 rfl) rfl
theorem q853 : (Jvm.Cond.static ({ cls := "java/lang/StringLatin1", name := "canEncode", desc := "(I)Z" } : Jvm.MethodName)) ∈ lw_all := lw_g (lw_at lw_m3 216 rfl) rfl
theorem q854 : (Jvm.Cond.code ({ cls := "java/lang/StringLatin1", name := "canEncode", desc := "(I)Z" } : Jvm.MethodName) prog_23_method_4_code (1 : Nat) (Option.some Jvm.ClassFile.FieldType.boolean)) ∈ lw_all := lw_g (lw_at lw_m3 217 rfl) rfl
theorem q855 : (Jvm.Cond.methodLink "java/lang/StringLatin1" (92 : Nat) ({ cls := "java/lang/Math", name := "max", desc := "(II)I" } : Jvm.MethodName)) ∈ lw_all := lw_g (lw_at lw_m3 218 rfl) rfl
theorem q856 : (Jvm.Cond.methodLink "java/lang/StringLatin1" (38 : Nat) ({ cls := "java/lang/Math", name := "min", desc := "(II)I" } : Jvm.MethodName)) ∈ lw_all := lw_g (lw_at lw_m3 219 rfl) rfl
theorem q857 : (Jvm.Cond.methodLink "java/lang/StringLatin1" (95 : Nat) ({ cls := "java/lang/StringLatin1", name := "indexOfChar", desc := "([BIII)I" } : Jvm.MethodName)) ∈ lw_all := lw_g (lw_at lw_m3 220 rfl) rfl
theorem q858 : (Jvm.Cond.static ({ cls := "java/lang/StringLatin1", name := "indexOfChar", desc := "([BIII)I" } : Jvm.MethodName)) ∈ lw_all := lw_g (lw_at lw_m3 221 rfl) rfl
theorem q859 : (Jvm.Cond.code ({ cls := "java/lang/StringLatin1", name := "indexOfChar", desc := "([BIII)I" } : Jvm.MethodName) prog_23_method_23_code (6 : Nat) (Option.some Jvm.ClassFile.FieldType.int)) ∈ lw_all := lw_g (lw_at lw_m3 222 rfl) rfl
/-! TermLog$Reader -/
set_option maxRecDepth 100000
def RX9 : String := "TermLog$Reader"
def TX9 : u_T := fun k => match k with
  | 0 => ("TermLog$Reader", "n", "I", true)
  | 1 => ("TermLog$Reader", "text", "LTermLog$Text;", true)
  | 2 => ("TermLog$Reader", "at", "I", false)
  | 3 => ("TermLog$Reader", "open", "I", false)
  | 4 => ("TermLog$Reader", "fault", "I", false)
  | 5 => ("TermLog$Reader", "place", "I", false)
  | _ => ("TermLog$Reader", "this$0", "LTermLog;", true)
def tyX9 : Nat → FieldType := fun k => match k with
  | 0 => .int
  | 1 => .object "TermLog$Text"
  | 2 => .int
  | 3 => .int
  | 4 => .int
  | 5 => .int
  | _ => .object "TermLog"
abbrev wsX90 : List Cond := u_ws RX9 TX9 7
theorem nmX9 : ∀ a, a < 7 → ∀ b, b < 7 → a ≠ b → (TX9 a).2.1 ≠ (TX9 b).2.1 := by decide +kernel
theorem tyX9_ok : ∀ k, k < 7 → parseFieldDescriptor (TX9 k).2.2.1 = some (tyX9 k) := by decide +kernel
abbrev cX9_init : ByteArray := prog_12_method_1_code
def yX9_init : MethodName := ⟨RX9, "<init>", "(LTermLog;I)V"⟩
def dkwX9_init_1 : List UInt8 := [181, 0, 22, 177]
abbrev dktX9_init_1 : List UInt8 := dkwX9_init_1 ++ []
def dkwX9_init_0 : List UInt8 := [42, 43, 181, 0, 3, 42, 183, 0, 9, 42, 187, 0, 15, 89, 183, 0, 17, 181, 0, 18, 42, 28]
abbrev dktX9_init_0 : List UInt8 := dkwX9_init_0 ++ dktX9_init_1
theorem dksX9_init_0 : cX9_init.data.toList.drop 0 = dktX9_init_0 := by decide +kernel
theorem dksX9_init_1 : cX9_init.data.toList.drop 22 = dktX9_init_1 := dk_seg dksX9_init_0 22 rfl rfl
theorem dX9_init_0 : decode cX9_init 0 = .ok (.aload_n 0, 1) := dk_42 (dk_at dksX9_init_0 0 rfl rfl)
theorem dX9_init_1 : decode cX9_init 1 = .ok (.aload_n 1, 1) := dk_43 (dk_at dksX9_init_0 1 rfl rfl)
theorem dX9_init_2 : decode cX9_init 2 = .ok (.putfield 3, 3) := dk_181 0 3 (dk_at dksX9_init_0 2 rfl rfl)
theorem dX9_init_5 : decode cX9_init 5 = .ok (.aload_n 0, 1) := dk_42 (dk_at dksX9_init_0 5 rfl rfl)
theorem dX9_init_6 : decode cX9_init 6 = .ok (.invokespecial 9, 3) := dk_183 0 9 (dk_at dksX9_init_0 6 rfl rfl)
theorem dX9_init_9 : decode cX9_init 9 = .ok (.aload_n 0, 1) := dk_42 (dk_at dksX9_init_0 9 rfl rfl)
theorem dX9_init_10 : decode cX9_init 10 = .ok (.new 15, 3) := dk_187 0 15 (dk_at dksX9_init_0 10 rfl rfl)
theorem dX9_init_13 : decode cX9_init 13 = .ok (.dup, 1) := dk_89 (dk_at dksX9_init_0 13 rfl rfl)
theorem dX9_init_14 : decode cX9_init 14 = .ok (.invokespecial 17, 3) := dk_183 0 17 (dk_at dksX9_init_0 14 rfl rfl)
theorem dX9_init_17 : decode cX9_init 17 = .ok (.putfield 18, 3) := dk_181 0 18 (dk_at dksX9_init_0 17 rfl rfl)
theorem dX9_init_20 : decode cX9_init 20 = .ok (.aload_n 0, 1) := dk_42 (dk_at dksX9_init_0 20 rfl rfl)
theorem dX9_init_21 : decode cX9_init 21 = .ok (.iload_n 2, 1) := dk_28 (dk_at dksX9_init_0 21 rfl rfl)
theorem dX9_init_22 : decode cX9_init 22 = .ok (.putfield 22, 3) := dk_181 0 22 (dk_at dksX9_init_1 0 rfl rfl)
theorem dX9_init_25 : decode cX9_init 25 = .ok (.return_, 1) := dk_177 (dk_at dksX9_init_1 3 rfl rfl)
abbrev cX9_read : ByteArray := prog_12_method_16_code
def yX9_read : MethodName := ⟨RX9, "read", "()I"⟩
def dkwX9_read_3 : List UInt8 := [17, 252, 24, 42, 180, 0, 33, 104, 42, 180, 0, 36, 100, 172]
abbrev dktX9_read_3 : List UInt8 := dkwX9_read_3 ++ []
def dkwX9_read_2 : List UInt8 := [182, 0, 64, 167, 255, 207, 42, 182, 0, 43, 153, 0, 13, 42, 180, 0, 18, 180, 0, 131, 167, 0, 16]
abbrev dktX9_read_2 : List UInt8 := dkwX9_read_2 ++ dktX9_read_3
def dkwX9_read_1 : List UInt8 := [42, 180, 0, 26, 42, 180, 0, 22, 162, 0, 7, 4, 167, 0, 4, 3, 60, 27, 153, 255, 216, 42, 16, 59]
abbrev dktX9_read_1 : List UInt8 := dkwX9_read_1 ++ dktX9_read_2
def dkwX9_read_0 : List UInt8 := [4, 60, 27, 153, 0, 51, 42, 182, 0, 43, 153, 0, 44, 42, 182, 0, 146, 42, 182, 0, 43, 153, 0, 18]
abbrev dktX9_read_0 : List UInt8 := dkwX9_read_0 ++ dktX9_read_1
theorem dksX9_read_0 : cX9_read.data.toList.drop 0 = dktX9_read_0 := by decide +kernel
theorem dksX9_read_1 : cX9_read.data.toList.drop 24 = dktX9_read_1 := dk_seg dksX9_read_0 24 rfl rfl
theorem dksX9_read_2 : cX9_read.data.toList.drop 48 = dktX9_read_2 := dk_seg dksX9_read_1 24 rfl rfl
theorem dksX9_read_3 : cX9_read.data.toList.drop 71 = dktX9_read_3 := dk_seg dksX9_read_2 23 rfl rfl
theorem dX9_read_0 : decode cX9_read 0 = .ok (.iconst 1, 1) := dk_4 (dk_at dksX9_read_0 0 rfl rfl)
theorem dX9_read_1 : decode cX9_read 1 = .ok (.istore_n 1, 1) := dk_60 (dk_at dksX9_read_0 1 rfl rfl)
theorem dX9_read_2 : decode cX9_read 2 = .ok (.iload_n 1, 1) := dk_27 (dk_at dksX9_read_0 2 rfl rfl)
theorem dX9_read_3 : decode cX9_read 3 = .ok (.ifCond .eq 51, 3) := dk_153 0 51 (dk_at dksX9_read_0 3 rfl rfl)
theorem dX9_read_6 : decode cX9_read 6 = .ok (.aload_n 0, 1) := dk_42 (dk_at dksX9_read_0 6 rfl rfl)
theorem dX9_read_7 : decode cX9_read 7 = .ok (.invokevirtual 43, 3) := dk_182 0 43 (dk_at dksX9_read_0 7 rfl rfl)
theorem dX9_read_10 : decode cX9_read 10 = .ok (.ifCond .eq 44, 3) := dk_153 0 44 (dk_at dksX9_read_0 10 rfl rfl)
theorem dX9_read_13 : decode cX9_read 13 = .ok (.aload_n 0, 1) := dk_42 (dk_at dksX9_read_0 13 rfl rfl)
theorem dX9_read_14 : decode cX9_read 14 = .ok (.invokevirtual 146, 3) := dk_182 0 146 (dk_at dksX9_read_0 14 rfl rfl)
theorem dX9_read_17 : decode cX9_read 17 = .ok (.aload_n 0, 1) := dk_42 (dk_at dksX9_read_0 17 rfl rfl)
theorem dX9_read_18 : decode cX9_read 18 = .ok (.invokevirtual 43, 3) := dk_182 0 43 (dk_at dksX9_read_0 18 rfl rfl)
theorem dX9_read_21 : decode cX9_read 21 = .ok (.ifCond .eq 18, 3) := dk_153 0 18 (dk_at dksX9_read_0 21 rfl rfl)
theorem dX9_read_24 : decode cX9_read 24 = .ok (.aload_n 0, 1) := dk_42 (dk_at dksX9_read_1 0 rfl rfl)
theorem dX9_read_25 : decode cX9_read 25 = .ok (.getfield 26, 3) := dk_180 0 26 (dk_at dksX9_read_1 1 rfl rfl)
theorem dX9_read_28 : decode cX9_read 28 = .ok (.aload_n 0, 1) := dk_42 (dk_at dksX9_read_1 4 rfl rfl)
theorem dX9_read_29 : decode cX9_read 29 = .ok (.getfield 22, 3) := dk_180 0 22 (dk_at dksX9_read_1 5 rfl rfl)
theorem dX9_read_32 : decode cX9_read 32 = .ok (.if_icmp .ge 7, 3) := dk_162 0 7 (dk_at dksX9_read_1 8 rfl rfl)
theorem dX9_read_35 : decode cX9_read 35 = .ok (.iconst 1, 1) := dk_4 (dk_at dksX9_read_1 11 rfl rfl)
theorem dX9_read_36 : decode cX9_read 36 = .ok (.goto 4, 3) := dk_167 0 4 (dk_at dksX9_read_1 12 rfl rfl)
theorem dX9_read_39 : decode cX9_read 39 = .ok (.iconst 0, 1) := dk_3 (dk_at dksX9_read_1 15 rfl rfl)
theorem dX9_read_40 : decode cX9_read 40 = .ok (.istore_n 1, 1) := dk_60 (dk_at dksX9_read_1 16 rfl rfl)
theorem dX9_read_41 : decode cX9_read 41 = .ok (.iload_n 1, 1) := dk_27 (dk_at dksX9_read_1 17 rfl rfl)
theorem dX9_read_42 : decode cX9_read 42 = .ok (.ifCond .eq (-40), 3) := dk_153 255 216 (dk_at dksX9_read_1 18 rfl rfl)
theorem dX9_read_45 : decode cX9_read 45 = .ok (.aload_n 0, 1) := dk_42 (dk_at dksX9_read_1 21 rfl rfl)
theorem dX9_read_46 : decode cX9_read 46 = .ok (.bipush 59, 2) := dk_16 59 (dk_at dksX9_read_1 22 rfl rfl)
theorem dX9_read_48 : decode cX9_read 48 = .ok (.invokevirtual 64, 3) := dk_182 0 64 (dk_at dksX9_read_2 0 rfl rfl)
theorem dX9_read_51 : decode cX9_read 51 = .ok (.goto (-49), 3) := dk_167 255 207 (dk_at dksX9_read_2 3 rfl rfl)
theorem dX9_read_54 : decode cX9_read 54 = .ok (.aload_n 0, 1) := dk_42 (dk_at dksX9_read_2 6 rfl rfl)
theorem dX9_read_55 : decode cX9_read 55 = .ok (.invokevirtual 43, 3) := dk_182 0 43 (dk_at dksX9_read_2 7 rfl rfl)
theorem dX9_read_58 : decode cX9_read 58 = .ok (.ifCond .eq 13, 3) := dk_153 0 13 (dk_at dksX9_read_2 10 rfl rfl)
theorem dX9_read_61 : decode cX9_read 61 = .ok (.aload_n 0, 1) := dk_42 (dk_at dksX9_read_2 13 rfl rfl)
theorem dX9_read_62 : decode cX9_read 62 = .ok (.getfield 18, 3) := dk_180 0 18 (dk_at dksX9_read_2 14 rfl rfl)
theorem dX9_read_65 : decode cX9_read 65 = .ok (.getfield 131, 3) := dk_180 0 131 (dk_at dksX9_read_2 17 rfl rfl)
theorem dX9_read_68 : decode cX9_read 68 = .ok (.goto 16, 3) := dk_167 0 16 (dk_at dksX9_read_2 20 rfl rfl)
theorem dX9_read_71 : decode cX9_read 71 = .ok (.sipush (-1000), 3) := dk_17 252 24 (dk_at dksX9_read_3 0 rfl rfl)
theorem dX9_read_74 : decode cX9_read 74 = .ok (.aload_n 0, 1) := dk_42 (dk_at dksX9_read_3 3 rfl rfl)
theorem dX9_read_75 : decode cX9_read 75 = .ok (.getfield 33, 3) := dk_180 0 33 (dk_at dksX9_read_3 4 rfl rfl)
theorem dX9_read_78 : decode cX9_read 78 = .ok (.imul, 1) := dk_104 (dk_at dksX9_read_3 7 rfl rfl)
theorem dX9_read_79 : decode cX9_read 79 = .ok (.aload_n 0, 1) := dk_42 (dk_at dksX9_read_3 8 rfl rfl)
theorem dX9_read_80 : decode cX9_read 80 = .ok (.getfield 36, 3) := dk_180 0 36 (dk_at dksX9_read_3 9 rfl rfl)
theorem dX9_read_83 : decode cX9_read 83 = .ok (.isub, 1) := dk_100 (dk_at dksX9_read_3 12 rfl rfl)
theorem dX9_read_84 : decode cX9_read 84 = .ok (.ireturn, 1) := dk_172 (dk_at dksX9_read_3 13 rfl rfl)
abbrev cX9_isGood : ByteArray := prog_12_method_3_code
def yX9_isGood : MethodName := ⟨RX9, "isGood", "()Z"⟩
def dkwX9_isGood_0 : List UInt8 := [42, 180, 0, 33, 154, 0, 7, 4, 167, 0, 4, 3, 172]
abbrev dktX9_isGood_0 : List UInt8 := dkwX9_isGood_0 ++ []
theorem dksX9_isGood_0 : cX9_isGood.data.toList.drop 0 = dktX9_isGood_0 := by decide +kernel
theorem dX9_isGood_0 : decode cX9_isGood 0 = .ok (.aload_n 0, 1) := dk_42 (dk_at dksX9_isGood_0 0 rfl rfl)
theorem dX9_isGood_1 : decode cX9_isGood 1 = .ok (.getfield 33, 3) := dk_180 0 33 (dk_at dksX9_isGood_0 1 rfl rfl)
theorem dX9_isGood_4 : decode cX9_isGood 4 = .ok (.ifCond .ne 7, 3) := dk_154 0 7 (dk_at dksX9_isGood_0 4 rfl rfl)
theorem dX9_isGood_7 : decode cX9_isGood 7 = .ok (.iconst 1, 1) := dk_4 (dk_at dksX9_isGood_0 7 rfl rfl)
theorem dX9_isGood_8 : decode cX9_isGood 8 = .ok (.goto 4, 3) := dk_167 0 4 (dk_at dksX9_isGood_0 8 rfl rfl)
theorem dX9_isGood_11 : decode cX9_isGood 11 = .ok (.iconst 0, 1) := dk_3 (dk_at dksX9_isGood_0 11 rfl rfl)
theorem dX9_isGood_12 : decode cX9_isGood 12 = .ok (.ireturn, 1) := dk_172 (dk_at dksX9_isGood_0 12 rfl rfl)
abbrev cX9_clause : ByteArray := prog_12_method_15_code
def yX9_clause : MethodName := ⟨RX9, "clause", "()V"⟩
def dkwX9_clause_8 : List UInt8 := [4, 96, 181, 0, 131, 177]
abbrev dktX9_clause_8 : List UInt8 := dkwX9_clause_8 ++ []
def dkwX9_clause_7 : List UInt8 := [42, 180, 0, 18, 180, 0, 142, 42, 180, 0, 18, 180, 0, 131, 45, 83, 42, 180, 0, 18, 89, 180, 0, 131]
abbrev dktX9_clause_7 : List UInt8 := dkwX9_clause_7 ++ dktX9_clause_8
def dkwX9_clause_6 : List UInt8 := [180, 0, 18, 180, 0, 131, 27, 79, 42, 180, 0, 18, 180, 0, 138, 42, 180, 0, 18, 180, 0, 131, 44, 83]
abbrev dktX9_clause_6 : List UInt8 := dkwX9_clause_6 ++ dktX9_clause_7
def dkwX9_clause_5 : List UInt8 := [182, 0, 43, 153, 0, 10, 42, 182, 0, 110, 167, 0, 4, 1, 78, 42, 180, 0, 18, 180, 0, 134, 42]
abbrev dktX9_clause_5 : List UInt8 := dkwX9_clause_5 ++ dktX9_clause_6
def dkwX9_clause_4 : List UInt8 := [153, 0, 21, 42, 182, 0, 39, 16, 40, 159, 0, 12, 42, 4, 42, 180, 0, 26, 182, 0, 50, 42]
abbrev dktX9_clause_4 : List UInt8 := dkwX9_clause_4 ++ dktX9_clause_5
def dkwX9_clause_3 : List UInt8 := [181, 0, 54, 27, 16, 120, 160, 0, 7, 1, 167, 0, 7, 42, 182, 0, 60, 77, 42, 182, 0, 43]
abbrev dktX9_clause_3 : List UInt8 := dkwX9_clause_3 ++ dktX9_clause_4
def dkwX9_clause_2 : List UInt8 := [182, 0, 50, 42, 182, 0, 43, 154, 0, 4, 177, 42, 89, 180, 0, 26, 4, 96, 181, 0, 26, 42, 3]
abbrev dktX9_clause_2 : List UInt8 := dkwX9_clause_2 ++ dktX9_clause_3
def dkwX9_clause_1 : List UInt8 := [182, 0, 50, 167, 0, 24, 42, 180, 0, 18, 180, 0, 131, 16, 16, 160, 0, 12, 42, 7, 42, 180, 0, 26]
abbrev dktX9_clause_1 : List UInt8 := dkwX9_clause_1 ++ dktX9_clause_2
def dkwX9_clause_0 : List UInt8 := [42, 182, 0, 39, 60, 27, 153, 0, 12, 18, 129, 27, 182, 0, 77, 156, 0, 15, 42, 4, 42, 180, 0, 26]
abbrev dktX9_clause_0 : List UInt8 := dkwX9_clause_0 ++ dktX9_clause_1
theorem dksX9_clause_0 : cX9_clause.data.toList.drop 0 = dktX9_clause_0 := by decide +kernel
theorem dksX9_clause_1 : cX9_clause.data.toList.drop 24 = dktX9_clause_1 := dk_seg dksX9_clause_0 24 rfl rfl
theorem dksX9_clause_2 : cX9_clause.data.toList.drop 48 = dktX9_clause_2 := dk_seg dksX9_clause_1 24 rfl rfl
theorem dksX9_clause_3 : cX9_clause.data.toList.drop 71 = dktX9_clause_3 := dk_seg dksX9_clause_2 23 rfl rfl
theorem dksX9_clause_4 : cX9_clause.data.toList.drop 93 = dktX9_clause_4 := dk_seg dksX9_clause_3 22 rfl rfl
theorem dksX9_clause_5 : cX9_clause.data.toList.drop 115 = dktX9_clause_5 := dk_seg dksX9_clause_4 22 rfl rfl
theorem dksX9_clause_6 : cX9_clause.data.toList.drop 138 = dktX9_clause_6 := dk_seg dksX9_clause_5 23 rfl rfl
theorem dksX9_clause_7 : cX9_clause.data.toList.drop 162 = dktX9_clause_7 := dk_seg dksX9_clause_6 24 rfl rfl
theorem dksX9_clause_8 : cX9_clause.data.toList.drop 186 = dktX9_clause_8 := dk_seg dksX9_clause_7 24 rfl rfl
theorem dX9_clause_0 : decode cX9_clause 0 = .ok (.aload_n 0, 1) := dk_42 (dk_at dksX9_clause_0 0 rfl rfl)
theorem dX9_clause_1 : decode cX9_clause 1 = .ok (.invokevirtual 39, 3) := dk_182 0 39 (dk_at dksX9_clause_0 1 rfl rfl)
theorem dX9_clause_4 : decode cX9_clause 4 = .ok (.istore_n 1, 1) := dk_60 (dk_at dksX9_clause_0 4 rfl rfl)
theorem dX9_clause_5 : decode cX9_clause 5 = .ok (.iload_n 1, 1) := dk_27 (dk_at dksX9_clause_0 5 rfl rfl)
theorem dX9_clause_6 : decode cX9_clause 6 = .ok (.ifCond .eq 12, 3) := dk_153 0 12 (dk_at dksX9_clause_0 6 rfl rfl)
theorem dX9_clause_9 : decode cX9_clause 9 = .ok (.ldc 129, 2) := dk_18 129 (dk_at dksX9_clause_0 9 rfl rfl)
theorem dX9_clause_11 : decode cX9_clause 11 = .ok (.iload_n 1, 1) := dk_27 (dk_at dksX9_clause_0 11 rfl rfl)
theorem dX9_clause_12 : decode cX9_clause 12 = .ok (.invokevirtual 77, 3) := dk_182 0 77 (dk_at dksX9_clause_0 12 rfl rfl)
theorem dX9_clause_15 : decode cX9_clause 15 = .ok (.ifCond .ge 15, 3) := dk_156 0 15 (dk_at dksX9_clause_0 15 rfl rfl)
theorem dX9_clause_18 : decode cX9_clause 18 = .ok (.aload_n 0, 1) := dk_42 (dk_at dksX9_clause_0 18 rfl rfl)
theorem dX9_clause_19 : decode cX9_clause 19 = .ok (.iconst 1, 1) := dk_4 (dk_at dksX9_clause_0 19 rfl rfl)
theorem dX9_clause_20 : decode cX9_clause 20 = .ok (.aload_n 0, 1) := dk_42 (dk_at dksX9_clause_0 20 rfl rfl)
theorem dX9_clause_21 : decode cX9_clause 21 = .ok (.getfield 26, 3) := dk_180 0 26 (dk_at dksX9_clause_0 21 rfl rfl)
theorem dX9_clause_24 : decode cX9_clause 24 = .ok (.invokevirtual 50, 3) := dk_182 0 50 (dk_at dksX9_clause_1 0 rfl rfl)
theorem dX9_clause_27 : decode cX9_clause 27 = .ok (.goto 24, 3) := dk_167 0 24 (dk_at dksX9_clause_1 3 rfl rfl)
theorem dX9_clause_30 : decode cX9_clause 30 = .ok (.aload_n 0, 1) := dk_42 (dk_at dksX9_clause_1 6 rfl rfl)
theorem dX9_clause_31 : decode cX9_clause 31 = .ok (.getfield 18, 3) := dk_180 0 18 (dk_at dksX9_clause_1 7 rfl rfl)
theorem dX9_clause_34 : decode cX9_clause 34 = .ok (.getfield 131, 3) := dk_180 0 131 (dk_at dksX9_clause_1 10 rfl rfl)
theorem dX9_clause_37 : decode cX9_clause 37 = .ok (.bipush 16, 2) := dk_16 16 (dk_at dksX9_clause_1 13 rfl rfl)
theorem dX9_clause_39 : decode cX9_clause 39 = .ok (.if_icmp .ne 12, 3) := dk_160 0 12 (dk_at dksX9_clause_1 15 rfl rfl)
theorem dX9_clause_42 : decode cX9_clause 42 = .ok (.aload_n 0, 1) := dk_42 (dk_at dksX9_clause_1 18 rfl rfl)
theorem dX9_clause_43 : decode cX9_clause 43 = .ok (.iconst 4, 1) := dk_7 (dk_at dksX9_clause_1 19 rfl rfl)
theorem dX9_clause_44 : decode cX9_clause 44 = .ok (.aload_n 0, 1) := dk_42 (dk_at dksX9_clause_1 20 rfl rfl)
theorem dX9_clause_45 : decode cX9_clause 45 = .ok (.getfield 26, 3) := dk_180 0 26 (dk_at dksX9_clause_1 21 rfl rfl)
theorem dX9_clause_48 : decode cX9_clause 48 = .ok (.invokevirtual 50, 3) := dk_182 0 50 (dk_at dksX9_clause_2 0 rfl rfl)
theorem dX9_clause_51 : decode cX9_clause 51 = .ok (.aload_n 0, 1) := dk_42 (dk_at dksX9_clause_2 3 rfl rfl)
theorem dX9_clause_52 : decode cX9_clause 52 = .ok (.invokevirtual 43, 3) := dk_182 0 43 (dk_at dksX9_clause_2 4 rfl rfl)
theorem dX9_clause_55 : decode cX9_clause 55 = .ok (.ifCond .ne 4, 3) := dk_154 0 4 (dk_at dksX9_clause_2 7 rfl rfl)
theorem dX9_clause_58 : decode cX9_clause 58 = .ok (.return_, 1) := dk_177 (dk_at dksX9_clause_2 10 rfl rfl)
theorem dX9_clause_59 : decode cX9_clause 59 = .ok (.aload_n 0, 1) := dk_42 (dk_at dksX9_clause_2 11 rfl rfl)
theorem dX9_clause_60 : decode cX9_clause 60 = .ok (.dup, 1) := dk_89 (dk_at dksX9_clause_2 12 rfl rfl)
theorem dX9_clause_61 : decode cX9_clause 61 = .ok (.getfield 26, 3) := dk_180 0 26 (dk_at dksX9_clause_2 13 rfl rfl)
theorem dX9_clause_64 : decode cX9_clause 64 = .ok (.iconst 1, 1) := dk_4 (dk_at dksX9_clause_2 16 rfl rfl)
theorem dX9_clause_65 : decode cX9_clause 65 = .ok (.iadd, 1) := dk_96 (dk_at dksX9_clause_2 17 rfl rfl)
theorem dX9_clause_66 : decode cX9_clause 66 = .ok (.putfield 26, 3) := dk_181 0 26 (dk_at dksX9_clause_2 18 rfl rfl)
theorem dX9_clause_69 : decode cX9_clause 69 = .ok (.aload_n 0, 1) := dk_42 (dk_at dksX9_clause_2 21 rfl rfl)
theorem dX9_clause_70 : decode cX9_clause 70 = .ok (.iconst 0, 1) := dk_3 (dk_at dksX9_clause_2 22 rfl rfl)
theorem dX9_clause_71 : decode cX9_clause 71 = .ok (.putfield 54, 3) := dk_181 0 54 (dk_at dksX9_clause_3 0 rfl rfl)
theorem dX9_clause_74 : decode cX9_clause 74 = .ok (.iload_n 1, 1) := dk_27 (dk_at dksX9_clause_3 3 rfl rfl)
theorem dX9_clause_75 : decode cX9_clause 75 = .ok (.bipush 120, 2) := dk_16 120 (dk_at dksX9_clause_3 4 rfl rfl)
theorem dX9_clause_77 : decode cX9_clause 77 = .ok (.if_icmp .ne 7, 3) := dk_160 0 7 (dk_at dksX9_clause_3 6 rfl rfl)
theorem dX9_clause_80 : decode cX9_clause 80 = .ok (.aconst_null, 1) := dk_1 (dk_at dksX9_clause_3 9 rfl rfl)
theorem dX9_clause_81 : decode cX9_clause 81 = .ok (.goto 7, 3) := dk_167 0 7 (dk_at dksX9_clause_3 10 rfl rfl)
theorem dX9_clause_84 : decode cX9_clause 84 = .ok (.aload_n 0, 1) := dk_42 (dk_at dksX9_clause_3 13 rfl rfl)
theorem dX9_clause_85 : decode cX9_clause 85 = .ok (.invokevirtual 60, 3) := dk_182 0 60 (dk_at dksX9_clause_3 14 rfl rfl)
theorem dX9_clause_88 : decode cX9_clause 88 = .ok (.astore_n 2, 1) := dk_77 (dk_at dksX9_clause_3 17 rfl rfl)
theorem dX9_clause_89 : decode cX9_clause 89 = .ok (.aload_n 0, 1) := dk_42 (dk_at dksX9_clause_3 18 rfl rfl)
theorem dX9_clause_90 : decode cX9_clause 90 = .ok (.invokevirtual 43, 3) := dk_182 0 43 (dk_at dksX9_clause_3 19 rfl rfl)
theorem dX9_clause_93 : decode cX9_clause 93 = .ok (.ifCond .eq 21, 3) := dk_153 0 21 (dk_at dksX9_clause_4 0 rfl rfl)
theorem dX9_clause_96 : decode cX9_clause 96 = .ok (.aload_n 0, 1) := dk_42 (dk_at dksX9_clause_4 3 rfl rfl)
theorem dX9_clause_97 : decode cX9_clause 97 = .ok (.invokevirtual 39, 3) := dk_182 0 39 (dk_at dksX9_clause_4 4 rfl rfl)
theorem dX9_clause_100 : decode cX9_clause 100 = .ok (.bipush 40, 2) := dk_16 40 (dk_at dksX9_clause_4 7 rfl rfl)
theorem dX9_clause_102 : decode cX9_clause 102 = .ok (.if_icmp .eq 12, 3) := dk_159 0 12 (dk_at dksX9_clause_4 9 rfl rfl)
theorem dX9_clause_105 : decode cX9_clause 105 = .ok (.aload_n 0, 1) := dk_42 (dk_at dksX9_clause_4 12 rfl rfl)
theorem dX9_clause_106 : decode cX9_clause 106 = .ok (.iconst 1, 1) := dk_4 (dk_at dksX9_clause_4 13 rfl rfl)
theorem dX9_clause_107 : decode cX9_clause 107 = .ok (.aload_n 0, 1) := dk_42 (dk_at dksX9_clause_4 14 rfl rfl)
theorem dX9_clause_108 : decode cX9_clause 108 = .ok (.getfield 26, 3) := dk_180 0 26 (dk_at dksX9_clause_4 15 rfl rfl)
theorem dX9_clause_111 : decode cX9_clause 111 = .ok (.invokevirtual 50, 3) := dk_182 0 50 (dk_at dksX9_clause_4 18 rfl rfl)
theorem dX9_clause_114 : decode cX9_clause 114 = .ok (.aload_n 0, 1) := dk_42 (dk_at dksX9_clause_4 21 rfl rfl)
theorem dX9_clause_115 : decode cX9_clause 115 = .ok (.invokevirtual 43, 3) := dk_182 0 43 (dk_at dksX9_clause_5 0 rfl rfl)
theorem dX9_clause_118 : decode cX9_clause 118 = .ok (.ifCond .eq 10, 3) := dk_153 0 10 (dk_at dksX9_clause_5 3 rfl rfl)
theorem dX9_clause_121 : decode cX9_clause 121 = .ok (.aload_n 0, 1) := dk_42 (dk_at dksX9_clause_5 6 rfl rfl)
theorem dX9_clause_122 : decode cX9_clause 122 = .ok (.invokevirtual 110, 3) := dk_182 0 110 (dk_at dksX9_clause_5 7 rfl rfl)
theorem dX9_clause_125 : decode cX9_clause 125 = .ok (.goto 4, 3) := dk_167 0 4 (dk_at dksX9_clause_5 10 rfl rfl)
theorem dX9_clause_128 : decode cX9_clause 128 = .ok (.aconst_null, 1) := dk_1 (dk_at dksX9_clause_5 13 rfl rfl)
theorem dX9_clause_129 : decode cX9_clause 129 = .ok (.astore_n 3, 1) := dk_78 (dk_at dksX9_clause_5 14 rfl rfl)
theorem dX9_clause_130 : decode cX9_clause 130 = .ok (.aload_n 0, 1) := dk_42 (dk_at dksX9_clause_5 15 rfl rfl)
theorem dX9_clause_131 : decode cX9_clause 131 = .ok (.getfield 18, 3) := dk_180 0 18 (dk_at dksX9_clause_5 16 rfl rfl)
theorem dX9_clause_134 : decode cX9_clause 134 = .ok (.getfield 134, 3) := dk_180 0 134 (dk_at dksX9_clause_5 19 rfl rfl)
theorem dX9_clause_137 : decode cX9_clause 137 = .ok (.aload_n 0, 1) := dk_42 (dk_at dksX9_clause_5 22 rfl rfl)
theorem dX9_clause_138 : decode cX9_clause 138 = .ok (.getfield 18, 3) := dk_180 0 18 (dk_at dksX9_clause_6 0 rfl rfl)
theorem dX9_clause_141 : decode cX9_clause 141 = .ok (.getfield 131, 3) := dk_180 0 131 (dk_at dksX9_clause_6 3 rfl rfl)
theorem dX9_clause_144 : decode cX9_clause 144 = .ok (.iload_n 1, 1) := dk_27 (dk_at dksX9_clause_6 6 rfl rfl)
theorem dX9_clause_145 : decode cX9_clause 145 = .ok (.iastore, 1) := dk_79 (dk_at dksX9_clause_6 7 rfl rfl)
theorem dX9_clause_146 : decode cX9_clause 146 = .ok (.aload_n 0, 1) := dk_42 (dk_at dksX9_clause_6 8 rfl rfl)
theorem dX9_clause_147 : decode cX9_clause 147 = .ok (.getfield 18, 3) := dk_180 0 18 (dk_at dksX9_clause_6 9 rfl rfl)
theorem dX9_clause_150 : decode cX9_clause 150 = .ok (.getfield 138, 3) := dk_180 0 138 (dk_at dksX9_clause_6 12 rfl rfl)
theorem dX9_clause_153 : decode cX9_clause 153 = .ok (.aload_n 0, 1) := dk_42 (dk_at dksX9_clause_6 15 rfl rfl)
theorem dX9_clause_154 : decode cX9_clause 154 = .ok (.getfield 18, 3) := dk_180 0 18 (dk_at dksX9_clause_6 16 rfl rfl)
theorem dX9_clause_157 : decode cX9_clause 157 = .ok (.getfield 131, 3) := dk_180 0 131 (dk_at dksX9_clause_6 19 rfl rfl)
theorem dX9_clause_160 : decode cX9_clause 160 = .ok (.aload_n 2, 1) := dk_44 (dk_at dksX9_clause_6 22 rfl rfl)
theorem dX9_clause_161 : decode cX9_clause 161 = .ok (.aastore, 1) := dk_83 (dk_at dksX9_clause_6 23 rfl rfl)
theorem dX9_clause_162 : decode cX9_clause 162 = .ok (.aload_n 0, 1) := dk_42 (dk_at dksX9_clause_7 0 rfl rfl)
theorem dX9_clause_163 : decode cX9_clause 163 = .ok (.getfield 18, 3) := dk_180 0 18 (dk_at dksX9_clause_7 1 rfl rfl)
theorem dX9_clause_166 : decode cX9_clause 166 = .ok (.getfield 142, 3) := dk_180 0 142 (dk_at dksX9_clause_7 4 rfl rfl)
theorem dX9_clause_169 : decode cX9_clause 169 = .ok (.aload_n 0, 1) := dk_42 (dk_at dksX9_clause_7 7 rfl rfl)
theorem dX9_clause_170 : decode cX9_clause 170 = .ok (.getfield 18, 3) := dk_180 0 18 (dk_at dksX9_clause_7 8 rfl rfl)
theorem dX9_clause_173 : decode cX9_clause 173 = .ok (.getfield 131, 3) := dk_180 0 131 (dk_at dksX9_clause_7 11 rfl rfl)
theorem dX9_clause_176 : decode cX9_clause 176 = .ok (.aload_n 3, 1) := dk_45 (dk_at dksX9_clause_7 14 rfl rfl)
theorem dX9_clause_177 : decode cX9_clause 177 = .ok (.aastore, 1) := dk_83 (dk_at dksX9_clause_7 15 rfl rfl)
theorem dX9_clause_178 : decode cX9_clause 178 = .ok (.aload_n 0, 1) := dk_42 (dk_at dksX9_clause_7 16 rfl rfl)
theorem dX9_clause_179 : decode cX9_clause 179 = .ok (.getfield 18, 3) := dk_180 0 18 (dk_at dksX9_clause_7 17 rfl rfl)
theorem dX9_clause_182 : decode cX9_clause 182 = .ok (.dup, 1) := dk_89 (dk_at dksX9_clause_7 20 rfl rfl)
theorem dX9_clause_183 : decode cX9_clause 183 = .ok (.getfield 131, 3) := dk_180 0 131 (dk_at dksX9_clause_7 21 rfl rfl)
theorem dX9_clause_186 : decode cX9_clause 186 = .ok (.iconst 1, 1) := dk_4 (dk_at dksX9_clause_8 0 rfl rfl)
theorem dX9_clause_187 : decode cX9_clause 187 = .ok (.iadd, 1) := dk_96 (dk_at dksX9_clause_8 1 rfl rfl)
theorem dX9_clause_188 : decode cX9_clause 188 = .ok (.putfield 131, 3) := dk_181 0 131 (dk_at dksX9_clause_8 2 rfl rfl)
theorem dX9_clause_191 : decode cX9_clause 191 = .ok (.return_, 1) := dk_177 (dk_at dksX9_clause_8 5 rfl rfl)
abbrev cX9_here : ByteArray := prog_12_method_2_code
def yX9_here : MethodName := ⟨RX9, "here", "()I"⟩
def dkwX9_here_1 : List UInt8 := [17, 0, 255, 126, 167, 0, 4, 3, 172]
abbrev dktX9_here_1 : List UInt8 := dkwX9_here_1 ++ []
def dkwX9_here_0 : List UInt8 := [42, 180, 0, 26, 42, 180, 0, 22, 162, 0, 22, 42, 180, 0, 3, 180, 0, 29, 42, 180, 0, 26, 51]
abbrev dktX9_here_0 : List UInt8 := dkwX9_here_0 ++ dktX9_here_1
theorem dksX9_here_0 : cX9_here.data.toList.drop 0 = dktX9_here_0 := by decide +kernel
theorem dksX9_here_1 : cX9_here.data.toList.drop 23 = dktX9_here_1 := dk_seg dksX9_here_0 23 rfl rfl
theorem dX9_here_0 : decode cX9_here 0 = .ok (.aload_n 0, 1) := dk_42 (dk_at dksX9_here_0 0 rfl rfl)
theorem dX9_here_1 : decode cX9_here 1 = .ok (.getfield 26, 3) := dk_180 0 26 (dk_at dksX9_here_0 1 rfl rfl)
theorem dX9_here_4 : decode cX9_here 4 = .ok (.aload_n 0, 1) := dk_42 (dk_at dksX9_here_0 4 rfl rfl)
theorem dX9_here_5 : decode cX9_here 5 = .ok (.getfield 22, 3) := dk_180 0 22 (dk_at dksX9_here_0 5 rfl rfl)
theorem dX9_here_8 : decode cX9_here 8 = .ok (.if_icmp .ge 22, 3) := dk_162 0 22 (dk_at dksX9_here_0 8 rfl rfl)
theorem dX9_here_11 : decode cX9_here 11 = .ok (.aload_n 0, 1) := dk_42 (dk_at dksX9_here_0 11 rfl rfl)
theorem dX9_here_12 : decode cX9_here 12 = .ok (.getfield 3, 3) := dk_180 0 3 (dk_at dksX9_here_0 12 rfl rfl)
theorem dX9_here_15 : decode cX9_here 15 = .ok (.getfield 29, 3) := dk_180 0 29 (dk_at dksX9_here_0 15 rfl rfl)
theorem dX9_here_18 : decode cX9_here 18 = .ok (.aload_n 0, 1) := dk_42 (dk_at dksX9_here_0 18 rfl rfl)
theorem dX9_here_19 : decode cX9_here 19 = .ok (.getfield 26, 3) := dk_180 0 26 (dk_at dksX9_here_0 19 rfl rfl)
theorem dX9_here_22 : decode cX9_here 22 = .ok (.baload, 1) := dk_51 (dk_at dksX9_here_0 22 rfl rfl)
theorem dX9_here_23 : decode cX9_here 23 = .ok (.sipush 255, 3) := dk_17 0 255 (dk_at dksX9_here_1 0 rfl rfl)
theorem dX9_here_26 : decode cX9_here 26 = .ok (.iand, 1) := dk_126 (dk_at dksX9_here_1 3 rfl rfl)
theorem dX9_here_27 : decode cX9_here 27 = .ok (.goto 4, 3) := dk_167 0 4 (dk_at dksX9_here_1 4 rfl rfl)
theorem dX9_here_30 : decode cX9_here 30 = .ok (.iconst 0, 1) := dk_3 (dk_at dksX9_here_1 7 rfl rfl)
theorem dX9_here_31 : decode cX9_here 31 = .ok (.ireturn, 1) := dk_172 (dk_at dksX9_here_1 8 rfl rfl)
abbrev cX9_bad : ByteArray := prog_12_method_4_code
def yX9_bad : MethodName := ⟨RX9, "bad", "(II)V"⟩
def dkwX9_bad_0 : List UInt8 := [42, 180, 0, 33, 158, 0, 4, 177, 42, 27, 181, 0, 33, 42, 28, 181, 0, 36, 177]
abbrev dktX9_bad_0 : List UInt8 := dkwX9_bad_0 ++ []
theorem dksX9_bad_0 : cX9_bad.data.toList.drop 0 = dktX9_bad_0 := by decide +kernel
theorem dX9_bad_0 : decode cX9_bad 0 = .ok (.aload_n 0, 1) := dk_42 (dk_at dksX9_bad_0 0 rfl rfl)
theorem dX9_bad_1 : decode cX9_bad 1 = .ok (.getfield 33, 3) := dk_180 0 33 (dk_at dksX9_bad_0 1 rfl rfl)
theorem dX9_bad_4 : decode cX9_bad 4 = .ok (.ifCond .le 4, 3) := dk_158 0 4 (dk_at dksX9_bad_0 4 rfl rfl)
theorem dX9_bad_7 : decode cX9_bad 7 = .ok (.return_, 1) := dk_177 (dk_at dksX9_bad_0 7 rfl rfl)
theorem dX9_bad_8 : decode cX9_bad 8 = .ok (.aload_n 0, 1) := dk_42 (dk_at dksX9_bad_0 8 rfl rfl)
theorem dX9_bad_9 : decode cX9_bad 9 = .ok (.iload_n 1, 1) := dk_27 (dk_at dksX9_bad_0 9 rfl rfl)
theorem dX9_bad_10 : decode cX9_bad 10 = .ok (.putfield 33, 3) := dk_181 0 33 (dk_at dksX9_bad_0 10 rfl rfl)
theorem dX9_bad_13 : decode cX9_bad 13 = .ok (.aload_n 0, 1) := dk_42 (dk_at dksX9_bad_0 13 rfl rfl)
theorem dX9_bad_14 : decode cX9_bad 14 = .ok (.iload_n 2, 1) := dk_28 (dk_at dksX9_bad_0 14 rfl rfl)
theorem dX9_bad_15 : decode cX9_bad 15 = .ok (.putfield 36, 3) := dk_181 0 36 (dk_at dksX9_bad_0 15 rfl rfl)
theorem dX9_bad_18 : decode cX9_bad 18 = .ok (.return_, 1) := dk_177 (dk_at dksX9_bad_0 18 rfl rfl)
abbrev cX9_sum : ByteArray := prog_12_method_11_code
def yX9_sum : MethodName := ⟨RX9, "sum", "()LTermLog$Sum;"⟩
def dkwX9_sum_3 : List UInt8 := [44, 180, 0, 94, 77, 167, 255, 195, 43, 176]
abbrev dktX9_sum_3 : List UInt8 := dkwX9_sum_3 ++ []
def dkwX9_sum_2 : List UInt8 := [180, 0, 26, 4, 96, 181, 0, 26, 44, 187, 0, 86, 89, 29, 42, 182, 0, 98, 183, 0, 91, 181, 0, 94]
abbrev dktX9_sum_2 : List UInt8 := dkwX9_sum_2 ++ dktX9_sum_3
def dkwX9_sum_1 : List UInt8 := [182, 0, 39, 16, 43, 159, 0, 12, 42, 182, 0, 39, 16, 45, 160, 0, 42, 42, 182, 0, 39, 62, 42, 89]
abbrev dktX9_sum_1 : List UInt8 := dkwX9_sum_1 ++ dktX9_sum_2
def dkwX9_sum_0 : List UInt8 := [187, 0, 86, 89, 3, 42, 182, 0, 98, 183, 0, 91, 76, 43, 77, 42, 182, 0, 43, 153, 0, 60, 42]
abbrev dktX9_sum_0 : List UInt8 := dkwX9_sum_0 ++ dktX9_sum_1
theorem dksX9_sum_0 : cX9_sum.data.toList.drop 0 = dktX9_sum_0 := by decide +kernel
theorem dksX9_sum_1 : cX9_sum.data.toList.drop 23 = dktX9_sum_1 := dk_seg dksX9_sum_0 23 rfl rfl
theorem dksX9_sum_2 : cX9_sum.data.toList.drop 47 = dktX9_sum_2 := dk_seg dksX9_sum_1 24 rfl rfl
theorem dksX9_sum_3 : cX9_sum.data.toList.drop 71 = dktX9_sum_3 := dk_seg dksX9_sum_2 24 rfl rfl
theorem dX9_sum_0 : decode cX9_sum 0 = .ok (.new 86, 3) := dk_187 0 86 (dk_at dksX9_sum_0 0 rfl rfl)
theorem dX9_sum_3 : decode cX9_sum 3 = .ok (.dup, 1) := dk_89 (dk_at dksX9_sum_0 3 rfl rfl)
theorem dX9_sum_4 : decode cX9_sum 4 = .ok (.iconst 0, 1) := dk_3 (dk_at dksX9_sum_0 4 rfl rfl)
theorem dX9_sum_5 : decode cX9_sum 5 = .ok (.aload_n 0, 1) := dk_42 (dk_at dksX9_sum_0 5 rfl rfl)
theorem dX9_sum_6 : decode cX9_sum 6 = .ok (.invokevirtual 98, 3) := dk_182 0 98 (dk_at dksX9_sum_0 6 rfl rfl)
theorem dX9_sum_9 : decode cX9_sum 9 = .ok (.invokespecial 91, 3) := dk_183 0 91 (dk_at dksX9_sum_0 9 rfl rfl)
theorem dX9_sum_12 : decode cX9_sum 12 = .ok (.astore_n 1, 1) := dk_76 (dk_at dksX9_sum_0 12 rfl rfl)
theorem dX9_sum_13 : decode cX9_sum 13 = .ok (.aload_n 1, 1) := dk_43 (dk_at dksX9_sum_0 13 rfl rfl)
theorem dX9_sum_14 : decode cX9_sum 14 = .ok (.astore_n 2, 1) := dk_77 (dk_at dksX9_sum_0 14 rfl rfl)
theorem dX9_sum_15 : decode cX9_sum 15 = .ok (.aload_n 0, 1) := dk_42 (dk_at dksX9_sum_0 15 rfl rfl)
theorem dX9_sum_16 : decode cX9_sum 16 = .ok (.invokevirtual 43, 3) := dk_182 0 43 (dk_at dksX9_sum_0 16 rfl rfl)
theorem dX9_sum_19 : decode cX9_sum 19 = .ok (.ifCond .eq 60, 3) := dk_153 0 60 (dk_at dksX9_sum_0 19 rfl rfl)
theorem dX9_sum_22 : decode cX9_sum 22 = .ok (.aload_n 0, 1) := dk_42 (dk_at dksX9_sum_0 22 rfl rfl)
theorem dX9_sum_23 : decode cX9_sum 23 = .ok (.invokevirtual 39, 3) := dk_182 0 39 (dk_at dksX9_sum_1 0 rfl rfl)
theorem dX9_sum_26 : decode cX9_sum 26 = .ok (.bipush 43, 2) := dk_16 43 (dk_at dksX9_sum_1 3 rfl rfl)
theorem dX9_sum_28 : decode cX9_sum 28 = .ok (.if_icmp .eq 12, 3) := dk_159 0 12 (dk_at dksX9_sum_1 5 rfl rfl)
theorem dX9_sum_31 : decode cX9_sum 31 = .ok (.aload_n 0, 1) := dk_42 (dk_at dksX9_sum_1 8 rfl rfl)
theorem dX9_sum_32 : decode cX9_sum 32 = .ok (.invokevirtual 39, 3) := dk_182 0 39 (dk_at dksX9_sum_1 9 rfl rfl)
theorem dX9_sum_35 : decode cX9_sum 35 = .ok (.bipush 45, 2) := dk_16 45 (dk_at dksX9_sum_1 12 rfl rfl)
theorem dX9_sum_37 : decode cX9_sum 37 = .ok (.if_icmp .ne 42, 3) := dk_160 0 42 (dk_at dksX9_sum_1 14 rfl rfl)
theorem dX9_sum_40 : decode cX9_sum 40 = .ok (.aload_n 0, 1) := dk_42 (dk_at dksX9_sum_1 17 rfl rfl)
theorem dX9_sum_41 : decode cX9_sum 41 = .ok (.invokevirtual 39, 3) := dk_182 0 39 (dk_at dksX9_sum_1 18 rfl rfl)
theorem dX9_sum_44 : decode cX9_sum 44 = .ok (.istore_n 3, 1) := dk_62 (dk_at dksX9_sum_1 21 rfl rfl)
theorem dX9_sum_45 : decode cX9_sum 45 = .ok (.aload_n 0, 1) := dk_42 (dk_at dksX9_sum_1 22 rfl rfl)
theorem dX9_sum_46 : decode cX9_sum 46 = .ok (.dup, 1) := dk_89 (dk_at dksX9_sum_1 23 rfl rfl)
theorem dX9_sum_47 : decode cX9_sum 47 = .ok (.getfield 26, 3) := dk_180 0 26 (dk_at dksX9_sum_2 0 rfl rfl)
theorem dX9_sum_50 : decode cX9_sum 50 = .ok (.iconst 1, 1) := dk_4 (dk_at dksX9_sum_2 3 rfl rfl)
theorem dX9_sum_51 : decode cX9_sum 51 = .ok (.iadd, 1) := dk_96 (dk_at dksX9_sum_2 4 rfl rfl)
theorem dX9_sum_52 : decode cX9_sum 52 = .ok (.putfield 26, 3) := dk_181 0 26 (dk_at dksX9_sum_2 5 rfl rfl)
theorem dX9_sum_55 : decode cX9_sum 55 = .ok (.aload_n 2, 1) := dk_44 (dk_at dksX9_sum_2 8 rfl rfl)
theorem dX9_sum_56 : decode cX9_sum 56 = .ok (.new 86, 3) := dk_187 0 86 (dk_at dksX9_sum_2 9 rfl rfl)
theorem dX9_sum_59 : decode cX9_sum 59 = .ok (.dup, 1) := dk_89 (dk_at dksX9_sum_2 12 rfl rfl)
theorem dX9_sum_60 : decode cX9_sum 60 = .ok (.iload_n 3, 1) := dk_29 (dk_at dksX9_sum_2 13 rfl rfl)
theorem dX9_sum_61 : decode cX9_sum 61 = .ok (.aload_n 0, 1) := dk_42 (dk_at dksX9_sum_2 14 rfl rfl)
theorem dX9_sum_62 : decode cX9_sum 62 = .ok (.invokevirtual 98, 3) := dk_182 0 98 (dk_at dksX9_sum_2 15 rfl rfl)
theorem dX9_sum_65 : decode cX9_sum 65 = .ok (.invokespecial 91, 3) := dk_183 0 91 (dk_at dksX9_sum_2 18 rfl rfl)
theorem dX9_sum_68 : decode cX9_sum 68 = .ok (.putfield 94, 3) := dk_181 0 94 (dk_at dksX9_sum_2 21 rfl rfl)
theorem dX9_sum_71 : decode cX9_sum 71 = .ok (.aload_n 2, 1) := dk_44 (dk_at dksX9_sum_3 0 rfl rfl)
theorem dX9_sum_72 : decode cX9_sum 72 = .ok (.getfield 94, 3) := dk_180 0 94 (dk_at dksX9_sum_3 1 rfl rfl)
theorem dX9_sum_75 : decode cX9_sum 75 = .ok (.astore_n 2, 1) := dk_77 (dk_at dksX9_sum_3 4 rfl rfl)
theorem dX9_sum_76 : decode cX9_sum 76 = .ok (.goto (-61), 3) := dk_167 255 195 (dk_at dksX9_sum_3 5 rfl rfl)
theorem dX9_sum_79 : decode cX9_sum 79 = .ok (.aload_n 1, 1) := dk_43 (dk_at dksX9_sum_3 8 rfl rfl)
theorem dX9_sum_80 : decode cX9_sum 80 = .ok (.areturn, 1) := dk_176 (dk_at dksX9_sum_3 9 rfl rfl)
abbrev cX9_product : ByteArray := prog_12_method_10_code
def yX9_product : MethodName := ⟨RX9, "product", "()LTermLog$Sum;"⟩
def dkwX9_product_3 : List UInt8 := [42, 182, 0, 88, 183, 0, 91, 181, 0, 94, 44, 180, 0, 94, 77, 167, 255, 186, 43, 176]
abbrev dktX9_product_3 : List UInt8 := dkwX9_product_3 ++ []
def dkwX9_product_2 : List UInt8 := [160, 0, 42, 42, 182, 0, 39, 62, 42, 89, 180, 0, 26, 4, 96, 181, 0, 26, 44, 187, 0, 86, 89, 29]
abbrev dktX9_product_2 : List UInt8 := dkwX9_product_2 ++ dktX9_product_3
def dkwX9_product_1 : List UInt8 := [182, 0, 39, 16, 42, 159, 0, 21, 42, 182, 0, 39, 16, 47, 159, 0, 12, 42, 182, 0, 39, 16, 37]
abbrev dktX9_product_1 : List UInt8 := dkwX9_product_1 ++ dktX9_product_2
def dkwX9_product_0 : List UInt8 := [187, 0, 86, 89, 3, 42, 182, 0, 88, 183, 0, 91, 76, 43, 77, 42, 182, 0, 43, 153, 0, 69, 42]
abbrev dktX9_product_0 : List UInt8 := dkwX9_product_0 ++ dktX9_product_1
theorem dksX9_product_0 : cX9_product.data.toList.drop 0 = dktX9_product_0 := by decide +kernel
theorem dksX9_product_1 : cX9_product.data.toList.drop 23 = dktX9_product_1 := dk_seg dksX9_product_0 23 rfl rfl
theorem dksX9_product_2 : cX9_product.data.toList.drop 46 = dktX9_product_2 := dk_seg dksX9_product_1 23 rfl rfl
theorem dksX9_product_3 : cX9_product.data.toList.drop 70 = dktX9_product_3 := dk_seg dksX9_product_2 24 rfl rfl
theorem dX9_product_0 : decode cX9_product 0 = .ok (.new 86, 3) := dk_187 0 86 (dk_at dksX9_product_0 0 rfl rfl)
theorem dX9_product_3 : decode cX9_product 3 = .ok (.dup, 1) := dk_89 (dk_at dksX9_product_0 3 rfl rfl)
theorem dX9_product_4 : decode cX9_product 4 = .ok (.iconst 0, 1) := dk_3 (dk_at dksX9_product_0 4 rfl rfl)
theorem dX9_product_5 : decode cX9_product 5 = .ok (.aload_n 0, 1) := dk_42 (dk_at dksX9_product_0 5 rfl rfl)
theorem dX9_product_6 : decode cX9_product 6 = .ok (.invokevirtual 88, 3) := dk_182 0 88 (dk_at dksX9_product_0 6 rfl rfl)
theorem dX9_product_9 : decode cX9_product 9 = .ok (.invokespecial 91, 3) := dk_183 0 91 (dk_at dksX9_product_0 9 rfl rfl)
theorem dX9_product_12 : decode cX9_product 12 = .ok (.astore_n 1, 1) := dk_76 (dk_at dksX9_product_0 12 rfl rfl)
theorem dX9_product_13 : decode cX9_product 13 = .ok (.aload_n 1, 1) := dk_43 (dk_at dksX9_product_0 13 rfl rfl)
theorem dX9_product_14 : decode cX9_product 14 = .ok (.astore_n 2, 1) := dk_77 (dk_at dksX9_product_0 14 rfl rfl)
theorem dX9_product_15 : decode cX9_product 15 = .ok (.aload_n 0, 1) := dk_42 (dk_at dksX9_product_0 15 rfl rfl)
theorem dX9_product_16 : decode cX9_product 16 = .ok (.invokevirtual 43, 3) := dk_182 0 43 (dk_at dksX9_product_0 16 rfl rfl)
theorem dX9_product_19 : decode cX9_product 19 = .ok (.ifCond .eq 69, 3) := dk_153 0 69 (dk_at dksX9_product_0 19 rfl rfl)
theorem dX9_product_22 : decode cX9_product 22 = .ok (.aload_n 0, 1) := dk_42 (dk_at dksX9_product_0 22 rfl rfl)
theorem dX9_product_23 : decode cX9_product 23 = .ok (.invokevirtual 39, 3) := dk_182 0 39 (dk_at dksX9_product_1 0 rfl rfl)
theorem dX9_product_26 : decode cX9_product 26 = .ok (.bipush 42, 2) := dk_16 42 (dk_at dksX9_product_1 3 rfl rfl)
theorem dX9_product_28 : decode cX9_product 28 = .ok (.if_icmp .eq 21, 3) := dk_159 0 21 (dk_at dksX9_product_1 5 rfl rfl)
theorem dX9_product_31 : decode cX9_product 31 = .ok (.aload_n 0, 1) := dk_42 (dk_at dksX9_product_1 8 rfl rfl)
theorem dX9_product_32 : decode cX9_product 32 = .ok (.invokevirtual 39, 3) := dk_182 0 39 (dk_at dksX9_product_1 9 rfl rfl)
theorem dX9_product_35 : decode cX9_product 35 = .ok (.bipush 47, 2) := dk_16 47 (dk_at dksX9_product_1 12 rfl rfl)
theorem dX9_product_37 : decode cX9_product 37 = .ok (.if_icmp .eq 12, 3) := dk_159 0 12 (dk_at dksX9_product_1 14 rfl rfl)
theorem dX9_product_40 : decode cX9_product 40 = .ok (.aload_n 0, 1) := dk_42 (dk_at dksX9_product_1 17 rfl rfl)
theorem dX9_product_41 : decode cX9_product 41 = .ok (.invokevirtual 39, 3) := dk_182 0 39 (dk_at dksX9_product_1 18 rfl rfl)
theorem dX9_product_44 : decode cX9_product 44 = .ok (.bipush 37, 2) := dk_16 37 (dk_at dksX9_product_1 21 rfl rfl)
theorem dX9_product_46 : decode cX9_product 46 = .ok (.if_icmp .ne 42, 3) := dk_160 0 42 (dk_at dksX9_product_2 0 rfl rfl)
theorem dX9_product_49 : decode cX9_product 49 = .ok (.aload_n 0, 1) := dk_42 (dk_at dksX9_product_2 3 rfl rfl)
theorem dX9_product_50 : decode cX9_product 50 = .ok (.invokevirtual 39, 3) := dk_182 0 39 (dk_at dksX9_product_2 4 rfl rfl)
theorem dX9_product_53 : decode cX9_product 53 = .ok (.istore_n 3, 1) := dk_62 (dk_at dksX9_product_2 7 rfl rfl)
theorem dX9_product_54 : decode cX9_product 54 = .ok (.aload_n 0, 1) := dk_42 (dk_at dksX9_product_2 8 rfl rfl)
theorem dX9_product_55 : decode cX9_product 55 = .ok (.dup, 1) := dk_89 (dk_at dksX9_product_2 9 rfl rfl)
theorem dX9_product_56 : decode cX9_product 56 = .ok (.getfield 26, 3) := dk_180 0 26 (dk_at dksX9_product_2 10 rfl rfl)
theorem dX9_product_59 : decode cX9_product 59 = .ok (.iconst 1, 1) := dk_4 (dk_at dksX9_product_2 13 rfl rfl)
theorem dX9_product_60 : decode cX9_product 60 = .ok (.iadd, 1) := dk_96 (dk_at dksX9_product_2 14 rfl rfl)
theorem dX9_product_61 : decode cX9_product 61 = .ok (.putfield 26, 3) := dk_181 0 26 (dk_at dksX9_product_2 15 rfl rfl)
theorem dX9_product_64 : decode cX9_product 64 = .ok (.aload_n 2, 1) := dk_44 (dk_at dksX9_product_2 18 rfl rfl)
theorem dX9_product_65 : decode cX9_product 65 = .ok (.new 86, 3) := dk_187 0 86 (dk_at dksX9_product_2 19 rfl rfl)
theorem dX9_product_68 : decode cX9_product 68 = .ok (.dup, 1) := dk_89 (dk_at dksX9_product_2 22 rfl rfl)
theorem dX9_product_69 : decode cX9_product 69 = .ok (.iload_n 3, 1) := dk_29 (dk_at dksX9_product_2 23 rfl rfl)
theorem dX9_product_70 : decode cX9_product 70 = .ok (.aload_n 0, 1) := dk_42 (dk_at dksX9_product_3 0 rfl rfl)
theorem dX9_product_71 : decode cX9_product 71 = .ok (.invokevirtual 88, 3) := dk_182 0 88 (dk_at dksX9_product_3 1 rfl rfl)
theorem dX9_product_74 : decode cX9_product 74 = .ok (.invokespecial 91, 3) := dk_183 0 91 (dk_at dksX9_product_3 4 rfl rfl)
theorem dX9_product_77 : decode cX9_product 77 = .ok (.putfield 94, 3) := dk_181 0 94 (dk_at dksX9_product_3 7 rfl rfl)
theorem dX9_product_80 : decode cX9_product 80 = .ok (.aload_n 2, 1) := dk_44 (dk_at dksX9_product_3 10 rfl rfl)
theorem dX9_product_81 : decode cX9_product 81 = .ok (.getfield 94, 3) := dk_180 0 94 (dk_at dksX9_product_3 11 rfl rfl)
theorem dX9_product_84 : decode cX9_product 84 = .ok (.astore_n 2, 1) := dk_77 (dk_at dksX9_product_3 14 rfl rfl)
theorem dX9_product_85 : decode cX9_product 85 = .ok (.goto (-70), 3) := dk_167 255 186 (dk_at dksX9_product_3 15 rfl rfl)
theorem dX9_product_88 : decode cX9_product 88 = .ok (.aload_n 1, 1) := dk_43 (dk_at dksX9_product_3 18 rfl rfl)
theorem dX9_product_89 : decode cX9_product 89 = .ok (.areturn, 1) := dk_176 (dk_at dksX9_product_3 19 rfl rfl)
abbrev cX9_factor : ByteArray := prog_12_method_9_code
def yX9_factor : MethodName := ⟨RX9, "factor", "()LTermLog$Sum;"⟩
def dkwX9_factor_5 : List UInt8 := [176]
abbrev dktX9_factor_5 : List UInt8 := dkwX9_factor_5 ++ []
def dkwX9_factor_4 : List UInt8 := [180, 0, 26, 182, 0, 50, 42, 89, 180, 0, 26, 4, 96, 181, 0, 26, 187, 0, 83, 89, 27, 183, 0, 85]
abbrev dktX9_factor_4 : List UInt8 := dkwX9_factor_4 ++ dktX9_factor_5
def dkwX9_factor_3 : List UInt8 := [182, 0, 70, 183, 0, 73, 176, 27, 153, 0, 12, 18, 75, 27, 182, 0, 77, 156, 0, 12, 42, 4, 42]
abbrev dktX9_factor_3 : List UInt8 := dkwX9_factor_3 ++ dktX9_factor_4
def dkwX9_factor_2 : List UInt8 := [180, 0, 54, 4, 100, 181, 0, 54, 44, 176, 42, 182, 0, 47, 153, 0, 15, 187, 0, 68, 89, 42]
abbrev dktX9_factor_2 : List UInt8 := dkwX9_factor_2 ++ dktX9_factor_3
def dkwX9_factor_1 : List UInt8 := [182, 0, 60, 167, 0, 4, 1, 77, 42, 182, 0, 43, 153, 0, 9, 42, 16, 93, 182, 0, 64, 42, 89]
abbrev dktX9_factor_1 : List UInt8 := dkwX9_factor_1 ++ dktX9_factor_2
def dkwX9_factor_0 : List UInt8 := [42, 182, 0, 39, 60, 27, 16, 91, 160, 0, 48, 42, 182, 0, 57, 42, 182, 0, 43, 153, 0, 10, 42]
abbrev dktX9_factor_0 : List UInt8 := dkwX9_factor_0 ++ dktX9_factor_1
theorem dksX9_factor_0 : cX9_factor.data.toList.drop 0 = dktX9_factor_0 := by decide +kernel
theorem dksX9_factor_1 : cX9_factor.data.toList.drop 23 = dktX9_factor_1 := dk_seg dksX9_factor_0 23 rfl rfl
theorem dksX9_factor_2 : cX9_factor.data.toList.drop 46 = dktX9_factor_2 := dk_seg dksX9_factor_1 23 rfl rfl
theorem dksX9_factor_3 : cX9_factor.data.toList.drop 68 = dktX9_factor_3 := dk_seg dksX9_factor_2 22 rfl rfl
theorem dksX9_factor_4 : cX9_factor.data.toList.drop 91 = dktX9_factor_4 := dk_seg dksX9_factor_3 23 rfl rfl
theorem dksX9_factor_5 : cX9_factor.data.toList.drop 115 = dktX9_factor_5 := dk_seg dksX9_factor_4 24 rfl rfl
theorem dX9_factor_0 : decode cX9_factor 0 = .ok (.aload_n 0, 1) := dk_42 (dk_at dksX9_factor_0 0 rfl rfl)
theorem dX9_factor_1 : decode cX9_factor 1 = .ok (.invokevirtual 39, 3) := dk_182 0 39 (dk_at dksX9_factor_0 1 rfl rfl)
theorem dX9_factor_4 : decode cX9_factor 4 = .ok (.istore_n 1, 1) := dk_60 (dk_at dksX9_factor_0 4 rfl rfl)
theorem dX9_factor_5 : decode cX9_factor 5 = .ok (.iload_n 1, 1) := dk_27 (dk_at dksX9_factor_0 5 rfl rfl)
theorem dX9_factor_6 : decode cX9_factor 6 = .ok (.bipush 91, 2) := dk_16 91 (dk_at dksX9_factor_0 6 rfl rfl)
theorem dX9_factor_8 : decode cX9_factor 8 = .ok (.if_icmp .ne 48, 3) := dk_160 0 48 (dk_at dksX9_factor_0 8 rfl rfl)
theorem dX9_factor_11 : decode cX9_factor 11 = .ok (.aload_n 0, 1) := dk_42 (dk_at dksX9_factor_0 11 rfl rfl)
theorem dX9_factor_12 : decode cX9_factor 12 = .ok (.invokevirtual 57, 3) := dk_182 0 57 (dk_at dksX9_factor_0 12 rfl rfl)
theorem dX9_factor_15 : decode cX9_factor 15 = .ok (.aload_n 0, 1) := dk_42 (dk_at dksX9_factor_0 15 rfl rfl)
theorem dX9_factor_16 : decode cX9_factor 16 = .ok (.invokevirtual 43, 3) := dk_182 0 43 (dk_at dksX9_factor_0 16 rfl rfl)
theorem dX9_factor_19 : decode cX9_factor 19 = .ok (.ifCond .eq 10, 3) := dk_153 0 10 (dk_at dksX9_factor_0 19 rfl rfl)
theorem dX9_factor_22 : decode cX9_factor 22 = .ok (.aload_n 0, 1) := dk_42 (dk_at dksX9_factor_0 22 rfl rfl)
theorem dX9_factor_23 : decode cX9_factor 23 = .ok (.invokevirtual 60, 3) := dk_182 0 60 (dk_at dksX9_factor_1 0 rfl rfl)
theorem dX9_factor_26 : decode cX9_factor 26 = .ok (.goto 4, 3) := dk_167 0 4 (dk_at dksX9_factor_1 3 rfl rfl)
theorem dX9_factor_29 : decode cX9_factor 29 = .ok (.aconst_null, 1) := dk_1 (dk_at dksX9_factor_1 6 rfl rfl)
theorem dX9_factor_30 : decode cX9_factor 30 = .ok (.astore_n 2, 1) := dk_77 (dk_at dksX9_factor_1 7 rfl rfl)
theorem dX9_factor_31 : decode cX9_factor 31 = .ok (.aload_n 0, 1) := dk_42 (dk_at dksX9_factor_1 8 rfl rfl)
theorem dX9_factor_32 : decode cX9_factor 32 = .ok (.invokevirtual 43, 3) := dk_182 0 43 (dk_at dksX9_factor_1 9 rfl rfl)
theorem dX9_factor_35 : decode cX9_factor 35 = .ok (.ifCond .eq 9, 3) := dk_153 0 9 (dk_at dksX9_factor_1 12 rfl rfl)
theorem dX9_factor_38 : decode cX9_factor 38 = .ok (.aload_n 0, 1) := dk_42 (dk_at dksX9_factor_1 15 rfl rfl)
theorem dX9_factor_39 : decode cX9_factor 39 = .ok (.bipush 93, 2) := dk_16 93 (dk_at dksX9_factor_1 16 rfl rfl)
theorem dX9_factor_41 : decode cX9_factor 41 = .ok (.invokevirtual 64, 3) := dk_182 0 64 (dk_at dksX9_factor_1 18 rfl rfl)
theorem dX9_factor_44 : decode cX9_factor 44 = .ok (.aload_n 0, 1) := dk_42 (dk_at dksX9_factor_1 21 rfl rfl)
theorem dX9_factor_45 : decode cX9_factor 45 = .ok (.dup, 1) := dk_89 (dk_at dksX9_factor_1 22 rfl rfl)
theorem dX9_factor_46 : decode cX9_factor 46 = .ok (.getfield 54, 3) := dk_180 0 54 (dk_at dksX9_factor_2 0 rfl rfl)
theorem dX9_factor_49 : decode cX9_factor 49 = .ok (.iconst 1, 1) := dk_4 (dk_at dksX9_factor_2 3 rfl rfl)
theorem dX9_factor_50 : decode cX9_factor 50 = .ok (.isub, 1) := dk_100 (dk_at dksX9_factor_2 4 rfl rfl)
theorem dX9_factor_51 : decode cX9_factor 51 = .ok (.putfield 54, 3) := dk_181 0 54 (dk_at dksX9_factor_2 5 rfl rfl)
theorem dX9_factor_54 : decode cX9_factor 54 = .ok (.aload_n 2, 1) := dk_44 (dk_at dksX9_factor_2 8 rfl rfl)
theorem dX9_factor_55 : decode cX9_factor 55 = .ok (.areturn, 1) := dk_176 (dk_at dksX9_factor_2 9 rfl rfl)
theorem dX9_factor_56 : decode cX9_factor 56 = .ok (.aload_n 0, 1) := dk_42 (dk_at dksX9_factor_2 10 rfl rfl)
theorem dX9_factor_57 : decode cX9_factor 57 = .ok (.invokevirtual 47, 3) := dk_182 0 47 (dk_at dksX9_factor_2 11 rfl rfl)
theorem dX9_factor_60 : decode cX9_factor 60 = .ok (.ifCond .eq 15, 3) := dk_153 0 15 (dk_at dksX9_factor_2 14 rfl rfl)
theorem dX9_factor_63 : decode cX9_factor 63 = .ok (.new 68, 3) := dk_187 0 68 (dk_at dksX9_factor_2 17 rfl rfl)
theorem dX9_factor_66 : decode cX9_factor 66 = .ok (.dup, 1) := dk_89 (dk_at dksX9_factor_2 20 rfl rfl)
theorem dX9_factor_67 : decode cX9_factor 67 = .ok (.aload_n 0, 1) := dk_42 (dk_at dksX9_factor_2 21 rfl rfl)
theorem dX9_factor_68 : decode cX9_factor 68 = .ok (.invokevirtual 70, 3) := dk_182 0 70 (dk_at dksX9_factor_3 0 rfl rfl)
theorem dX9_factor_71 : decode cX9_factor 71 = .ok (.invokespecial 73, 3) := dk_183 0 73 (dk_at dksX9_factor_3 3 rfl rfl)
theorem dX9_factor_74 : decode cX9_factor 74 = .ok (.areturn, 1) := dk_176 (dk_at dksX9_factor_3 6 rfl rfl)
theorem dX9_factor_75 : decode cX9_factor 75 = .ok (.iload_n 1, 1) := dk_27 (dk_at dksX9_factor_3 7 rfl rfl)
theorem dX9_factor_76 : decode cX9_factor 76 = .ok (.ifCond .eq 12, 3) := dk_153 0 12 (dk_at dksX9_factor_3 8 rfl rfl)
theorem dX9_factor_79 : decode cX9_factor 79 = .ok (.ldc 75, 2) := dk_18 75 (dk_at dksX9_factor_3 11 rfl rfl)
theorem dX9_factor_81 : decode cX9_factor 81 = .ok (.iload_n 1, 1) := dk_27 (dk_at dksX9_factor_3 13 rfl rfl)
theorem dX9_factor_82 : decode cX9_factor 82 = .ok (.invokevirtual 77, 3) := dk_182 0 77 (dk_at dksX9_factor_3 14 rfl rfl)
theorem dX9_factor_85 : decode cX9_factor 85 = .ok (.ifCond .ge 12, 3) := dk_156 0 12 (dk_at dksX9_factor_3 17 rfl rfl)
theorem dX9_factor_88 : decode cX9_factor 88 = .ok (.aload_n 0, 1) := dk_42 (dk_at dksX9_factor_3 20 rfl rfl)
theorem dX9_factor_89 : decode cX9_factor 89 = .ok (.iconst 1, 1) := dk_4 (dk_at dksX9_factor_3 21 rfl rfl)
theorem dX9_factor_90 : decode cX9_factor 90 = .ok (.aload_n 0, 1) := dk_42 (dk_at dksX9_factor_3 22 rfl rfl)
theorem dX9_factor_91 : decode cX9_factor 91 = .ok (.getfield 26, 3) := dk_180 0 26 (dk_at dksX9_factor_4 0 rfl rfl)
theorem dX9_factor_94 : decode cX9_factor 94 = .ok (.invokevirtual 50, 3) := dk_182 0 50 (dk_at dksX9_factor_4 3 rfl rfl)
theorem dX9_factor_97 : decode cX9_factor 97 = .ok (.aload_n 0, 1) := dk_42 (dk_at dksX9_factor_4 6 rfl rfl)
theorem dX9_factor_98 : decode cX9_factor 98 = .ok (.dup, 1) := dk_89 (dk_at dksX9_factor_4 7 rfl rfl)
theorem dX9_factor_99 : decode cX9_factor 99 = .ok (.getfield 26, 3) := dk_180 0 26 (dk_at dksX9_factor_4 8 rfl rfl)
theorem dX9_factor_102 : decode cX9_factor 102 = .ok (.iconst 1, 1) := dk_4 (dk_at dksX9_factor_4 11 rfl rfl)
theorem dX9_factor_103 : decode cX9_factor 103 = .ok (.iadd, 1) := dk_96 (dk_at dksX9_factor_4 12 rfl rfl)
theorem dX9_factor_104 : decode cX9_factor 104 = .ok (.putfield 26, 3) := dk_181 0 26 (dk_at dksX9_factor_4 13 rfl rfl)
theorem dX9_factor_107 : decode cX9_factor 107 = .ok (.new 83, 3) := dk_187 0 83 (dk_at dksX9_factor_4 16 rfl rfl)
theorem dX9_factor_110 : decode cX9_factor 110 = .ok (.dup, 1) := dk_89 (dk_at dksX9_factor_4 19 rfl rfl)
theorem dX9_factor_111 : decode cX9_factor 111 = .ok (.iload_n 1, 1) := dk_27 (dk_at dksX9_factor_4 20 rfl rfl)
theorem dX9_factor_112 : decode cX9_factor 112 = .ok (.invokespecial 85, 3) := dk_183 0 85 (dk_at dksX9_factor_4 21 rfl rfl)
theorem dX9_factor_115 : decode cX9_factor 115 = .ok (.areturn, 1) := dk_176 (dk_at dksX9_factor_5 0 rfl rfl)
abbrev cX9_opens : ByteArray := prog_12_method_8_code
def yX9_opens : MethodName := ⟨RX9, "opens", "()V"⟩
def dkwX9_opens_1 : List UInt8 := [96, 181, 0, 54, 42, 89, 180, 0, 26, 4, 96, 181, 0, 26, 177]
abbrev dktX9_opens_1 : List UInt8 := dkwX9_opens_1 ++ []
def dkwX9_opens_0 : List UInt8 := [42, 180, 0, 54, 16, 6, 160, 0, 12, 42, 8, 42, 180, 0, 26, 182, 0, 50, 42, 89, 180, 0, 54, 4]
abbrev dktX9_opens_0 : List UInt8 := dkwX9_opens_0 ++ dktX9_opens_1
theorem dksX9_opens_0 : cX9_opens.data.toList.drop 0 = dktX9_opens_0 := by decide +kernel
theorem dksX9_opens_1 : cX9_opens.data.toList.drop 24 = dktX9_opens_1 := dk_seg dksX9_opens_0 24 rfl rfl
theorem dX9_opens_0 : decode cX9_opens 0 = .ok (.aload_n 0, 1) := dk_42 (dk_at dksX9_opens_0 0 rfl rfl)
theorem dX9_opens_1 : decode cX9_opens 1 = .ok (.getfield 54, 3) := dk_180 0 54 (dk_at dksX9_opens_0 1 rfl rfl)
theorem dX9_opens_4 : decode cX9_opens 4 = .ok (.bipush 6, 2) := dk_16 6 (dk_at dksX9_opens_0 4 rfl rfl)
theorem dX9_opens_6 : decode cX9_opens 6 = .ok (.if_icmp .ne 12, 3) := dk_160 0 12 (dk_at dksX9_opens_0 6 rfl rfl)
theorem dX9_opens_9 : decode cX9_opens 9 = .ok (.aload_n 0, 1) := dk_42 (dk_at dksX9_opens_0 9 rfl rfl)
theorem dX9_opens_10 : decode cX9_opens 10 = .ok (.iconst 5, 1) := dk_8 (dk_at dksX9_opens_0 10 rfl rfl)
theorem dX9_opens_11 : decode cX9_opens 11 = .ok (.aload_n 0, 1) := dk_42 (dk_at dksX9_opens_0 11 rfl rfl)
theorem dX9_opens_12 : decode cX9_opens 12 = .ok (.getfield 26, 3) := dk_180 0 26 (dk_at dksX9_opens_0 12 rfl rfl)
theorem dX9_opens_15 : decode cX9_opens 15 = .ok (.invokevirtual 50, 3) := dk_182 0 50 (dk_at dksX9_opens_0 15 rfl rfl)
theorem dX9_opens_18 : decode cX9_opens 18 = .ok (.aload_n 0, 1) := dk_42 (dk_at dksX9_opens_0 18 rfl rfl)
theorem dX9_opens_19 : decode cX9_opens 19 = .ok (.dup, 1) := dk_89 (dk_at dksX9_opens_0 19 rfl rfl)
theorem dX9_opens_20 : decode cX9_opens 20 = .ok (.getfield 54, 3) := dk_180 0 54 (dk_at dksX9_opens_0 20 rfl rfl)
theorem dX9_opens_23 : decode cX9_opens 23 = .ok (.iconst 1, 1) := dk_4 (dk_at dksX9_opens_0 23 rfl rfl)
theorem dX9_opens_24 : decode cX9_opens 24 = .ok (.iadd, 1) := dk_96 (dk_at dksX9_opens_1 0 rfl rfl)
theorem dX9_opens_25 : decode cX9_opens 25 = .ok (.putfield 54, 3) := dk_181 0 54 (dk_at dksX9_opens_1 1 rfl rfl)
theorem dX9_opens_28 : decode cX9_opens 28 = .ok (.aload_n 0, 1) := dk_42 (dk_at dksX9_opens_1 4 rfl rfl)
theorem dX9_opens_29 : decode cX9_opens 29 = .ok (.dup, 1) := dk_89 (dk_at dksX9_opens_1 5 rfl rfl)
theorem dX9_opens_30 : decode cX9_opens 30 = .ok (.getfield 26, 3) := dk_180 0 26 (dk_at dksX9_opens_1 6 rfl rfl)
theorem dX9_opens_33 : decode cX9_opens 33 = .ok (.iconst 1, 1) := dk_4 (dk_at dksX9_opens_1 9 rfl rfl)
theorem dX9_opens_34 : decode cX9_opens 34 = .ok (.iadd, 1) := dk_96 (dk_at dksX9_opens_1 10 rfl rfl)
theorem dX9_opens_35 : decode cX9_opens 35 = .ok (.putfield 26, 3) := dk_181 0 26 (dk_at dksX9_opens_1 11 rfl rfl)
theorem dX9_opens_38 : decode cX9_opens 38 = .ok (.return_, 1) := dk_177 (dk_at dksX9_opens_1 14 rfl rfl)
abbrev cX9_must : ByteArray := prog_12_method_7_code
def yX9_must : MethodName := ⟨RX9, "must", "(I)V"⟩
def dkwX9_must_1 : List UInt8 := [181, 0, 26, 177]
abbrev dktX9_must_1 : List UInt8 := dkwX9_must_1 ++ []
def dkwX9_must_0 : List UInt8 := [42, 182, 0, 39, 27, 159, 0, 12, 42, 4, 42, 180, 0, 26, 182, 0, 50, 42, 89, 180, 0, 26, 4, 96]
abbrev dktX9_must_0 : List UInt8 := dkwX9_must_0 ++ dktX9_must_1
theorem dksX9_must_0 : cX9_must.data.toList.drop 0 = dktX9_must_0 := by decide +kernel
theorem dksX9_must_1 : cX9_must.data.toList.drop 24 = dktX9_must_1 := dk_seg dksX9_must_0 24 rfl rfl
theorem dX9_must_0 : decode cX9_must 0 = .ok (.aload_n 0, 1) := dk_42 (dk_at dksX9_must_0 0 rfl rfl)
theorem dX9_must_1 : decode cX9_must 1 = .ok (.invokevirtual 39, 3) := dk_182 0 39 (dk_at dksX9_must_0 1 rfl rfl)
theorem dX9_must_4 : decode cX9_must 4 = .ok (.iload_n 1, 1) := dk_27 (dk_at dksX9_must_0 4 rfl rfl)
theorem dX9_must_5 : decode cX9_must 5 = .ok (.if_icmp .eq 12, 3) := dk_159 0 12 (dk_at dksX9_must_0 5 rfl rfl)
theorem dX9_must_8 : decode cX9_must 8 = .ok (.aload_n 0, 1) := dk_42 (dk_at dksX9_must_0 8 rfl rfl)
theorem dX9_must_9 : decode cX9_must 9 = .ok (.iconst 1, 1) := dk_4 (dk_at dksX9_must_0 9 rfl rfl)
theorem dX9_must_10 : decode cX9_must 10 = .ok (.aload_n 0, 1) := dk_42 (dk_at dksX9_must_0 10 rfl rfl)
theorem dX9_must_11 : decode cX9_must 11 = .ok (.getfield 26, 3) := dk_180 0 26 (dk_at dksX9_must_0 11 rfl rfl)
theorem dX9_must_14 : decode cX9_must 14 = .ok (.invokevirtual 50, 3) := dk_182 0 50 (dk_at dksX9_must_0 14 rfl rfl)
theorem dX9_must_17 : decode cX9_must 17 = .ok (.aload_n 0, 1) := dk_42 (dk_at dksX9_must_0 17 rfl rfl)
theorem dX9_must_18 : decode cX9_must 18 = .ok (.dup, 1) := dk_89 (dk_at dksX9_must_0 18 rfl rfl)
theorem dX9_must_19 : decode cX9_must 19 = .ok (.getfield 26, 3) := dk_180 0 26 (dk_at dksX9_must_0 19 rfl rfl)
theorem dX9_must_22 : decode cX9_must 22 = .ok (.iconst 1, 1) := dk_4 (dk_at dksX9_must_0 22 rfl rfl)
theorem dX9_must_23 : decode cX9_must 23 = .ok (.iadd, 1) := dk_96 (dk_at dksX9_must_0 23 rfl rfl)
theorem dX9_must_24 : decode cX9_must 24 = .ok (.putfield 26, 3) := dk_181 0 26 (dk_at dksX9_must_1 0 rfl rfl)
theorem dX9_must_27 : decode cX9_must 27 = .ok (.return_, 1) := dk_177 (dk_at dksX9_must_1 3 rfl rfl)
abbrev cX9_seesDigit : ByteArray := prog_12_method_5_code
def yX9_seesDigit : MethodName := ⟨RX9, "seesDigit", "()Z"⟩
def dkwX9_seesDigit_0 : List UInt8 := [42, 182, 0, 39, 16, 48, 161, 0, 16, 42, 182, 0, 39, 16, 57, 163, 0, 7, 4, 167, 0, 4, 3, 172]
abbrev dktX9_seesDigit_0 : List UInt8 := dkwX9_seesDigit_0 ++ []
theorem dksX9_seesDigit_0 : cX9_seesDigit.data.toList.drop 0 = dktX9_seesDigit_0 := by decide +kernel
theorem dX9_seesDigit_0 : decode cX9_seesDigit 0 = .ok (.aload_n 0, 1) := dk_42 (dk_at dksX9_seesDigit_0 0 rfl rfl)
theorem dX9_seesDigit_1 : decode cX9_seesDigit 1 = .ok (.invokevirtual 39, 3) := dk_182 0 39 (dk_at dksX9_seesDigit_0 1 rfl rfl)
theorem dX9_seesDigit_4 : decode cX9_seesDigit 4 = .ok (.bipush 48, 2) := dk_16 48 (dk_at dksX9_seesDigit_0 4 rfl rfl)
theorem dX9_seesDigit_6 : decode cX9_seesDigit 6 = .ok (.if_icmp .lt 16, 3) := dk_161 0 16 (dk_at dksX9_seesDigit_0 6 rfl rfl)
theorem dX9_seesDigit_9 : decode cX9_seesDigit 9 = .ok (.aload_n 0, 1) := dk_42 (dk_at dksX9_seesDigit_0 9 rfl rfl)
theorem dX9_seesDigit_10 : decode cX9_seesDigit 10 = .ok (.invokevirtual 39, 3) := dk_182 0 39 (dk_at dksX9_seesDigit_0 10 rfl rfl)
theorem dX9_seesDigit_13 : decode cX9_seesDigit 13 = .ok (.bipush 57, 2) := dk_16 57 (dk_at dksX9_seesDigit_0 13 rfl rfl)
theorem dX9_seesDigit_15 : decode cX9_seesDigit 15 = .ok (.if_icmp .gt 7, 3) := dk_163 0 7 (dk_at dksX9_seesDigit_0 15 rfl rfl)
theorem dX9_seesDigit_18 : decode cX9_seesDigit 18 = .ok (.iconst 1, 1) := dk_4 (dk_at dksX9_seesDigit_0 18 rfl rfl)
theorem dX9_seesDigit_19 : decode cX9_seesDigit 19 = .ok (.goto 4, 3) := dk_167 0 4 (dk_at dksX9_seesDigit_0 19 rfl rfl)
theorem dX9_seesDigit_22 : decode cX9_seesDigit 22 = .ok (.iconst 0, 1) := dk_3 (dk_at dksX9_seesDigit_0 22 rfl rfl)
theorem dX9_seesDigit_23 : decode cX9_seesDigit 23 = .ok (.ireturn, 1) := dk_172 (dk_at dksX9_seesDigit_0 23 rfl rfl)
abbrev cX9_number : ByteArray := prog_12_method_6_code
def yX9_number : MethodName := ⟨RX9, "number", "()I"⟩
def dkwX9_number_2 : List UInt8 := [182, 0, 39, 96, 16, 48, 100, 61, 42, 89, 180, 0, 26, 4, 96, 181, 0, 26, 167, 255, 200, 28, 172]
abbrev dktX9_number_2 : List UInt8 := dkwX9_number_2 ++ []
def dkwX9_number_1 : List UInt8 := [180, 0, 26, 27, 8, 96, 160, 0, 12, 42, 5, 42, 180, 0, 26, 182, 0, 50, 16, 10, 28, 104, 42]
abbrev dktX9_number_1 : List UInt8 := dkwX9_number_1 ++ dktX9_number_2
def dkwX9_number_0 : List UInt8 := [42, 180, 0, 26, 60, 3, 61, 42, 182, 0, 43, 153, 0, 55, 42, 182, 0, 47, 153, 0, 48, 42]
abbrev dktX9_number_0 : List UInt8 := dkwX9_number_0 ++ dktX9_number_1
theorem dksX9_number_0 : cX9_number.data.toList.drop 0 = dktX9_number_0 := by decide +kernel
theorem dksX9_number_1 : cX9_number.data.toList.drop 22 = dktX9_number_1 := dk_seg dksX9_number_0 22 rfl rfl
theorem dksX9_number_2 : cX9_number.data.toList.drop 45 = dktX9_number_2 := dk_seg dksX9_number_1 23 rfl rfl
theorem dX9_number_0 : decode cX9_number 0 = .ok (.aload_n 0, 1) := dk_42 (dk_at dksX9_number_0 0 rfl rfl)
theorem dX9_number_1 : decode cX9_number 1 = .ok (.getfield 26, 3) := dk_180 0 26 (dk_at dksX9_number_0 1 rfl rfl)
theorem dX9_number_4 : decode cX9_number 4 = .ok (.istore_n 1, 1) := dk_60 (dk_at dksX9_number_0 4 rfl rfl)
theorem dX9_number_5 : decode cX9_number 5 = .ok (.iconst 0, 1) := dk_3 (dk_at dksX9_number_0 5 rfl rfl)
theorem dX9_number_6 : decode cX9_number 6 = .ok (.istore_n 2, 1) := dk_61 (dk_at dksX9_number_0 6 rfl rfl)
theorem dX9_number_7 : decode cX9_number 7 = .ok (.aload_n 0, 1) := dk_42 (dk_at dksX9_number_0 7 rfl rfl)
theorem dX9_number_8 : decode cX9_number 8 = .ok (.invokevirtual 43, 3) := dk_182 0 43 (dk_at dksX9_number_0 8 rfl rfl)
theorem dX9_number_11 : decode cX9_number 11 = .ok (.ifCond .eq 55, 3) := dk_153 0 55 (dk_at dksX9_number_0 11 rfl rfl)
theorem dX9_number_14 : decode cX9_number 14 = .ok (.aload_n 0, 1) := dk_42 (dk_at dksX9_number_0 14 rfl rfl)
theorem dX9_number_15 : decode cX9_number 15 = .ok (.invokevirtual 47, 3) := dk_182 0 47 (dk_at dksX9_number_0 15 rfl rfl)
theorem dX9_number_18 : decode cX9_number 18 = .ok (.ifCond .eq 48, 3) := dk_153 0 48 (dk_at dksX9_number_0 18 rfl rfl)
theorem dX9_number_21 : decode cX9_number 21 = .ok (.aload_n 0, 1) := dk_42 (dk_at dksX9_number_0 21 rfl rfl)
theorem dX9_number_22 : decode cX9_number 22 = .ok (.getfield 26, 3) := dk_180 0 26 (dk_at dksX9_number_1 0 rfl rfl)
theorem dX9_number_25 : decode cX9_number 25 = .ok (.iload_n 1, 1) := dk_27 (dk_at dksX9_number_1 3 rfl rfl)
theorem dX9_number_26 : decode cX9_number 26 = .ok (.iconst 5, 1) := dk_8 (dk_at dksX9_number_1 4 rfl rfl)
theorem dX9_number_27 : decode cX9_number 27 = .ok (.iadd, 1) := dk_96 (dk_at dksX9_number_1 5 rfl rfl)
theorem dX9_number_28 : decode cX9_number 28 = .ok (.if_icmp .ne 12, 3) := dk_160 0 12 (dk_at dksX9_number_1 6 rfl rfl)
theorem dX9_number_31 : decode cX9_number 31 = .ok (.aload_n 0, 1) := dk_42 (dk_at dksX9_number_1 9 rfl rfl)
theorem dX9_number_32 : decode cX9_number 32 = .ok (.iconst 2, 1) := dk_5 (dk_at dksX9_number_1 10 rfl rfl)
theorem dX9_number_33 : decode cX9_number 33 = .ok (.aload_n 0, 1) := dk_42 (dk_at dksX9_number_1 11 rfl rfl)
theorem dX9_number_34 : decode cX9_number 34 = .ok (.getfield 26, 3) := dk_180 0 26 (dk_at dksX9_number_1 12 rfl rfl)
theorem dX9_number_37 : decode cX9_number 37 = .ok (.invokevirtual 50, 3) := dk_182 0 50 (dk_at dksX9_number_1 15 rfl rfl)
theorem dX9_number_40 : decode cX9_number 40 = .ok (.bipush 10, 2) := dk_16 10 (dk_at dksX9_number_1 18 rfl rfl)
theorem dX9_number_42 : decode cX9_number 42 = .ok (.iload_n 2, 1) := dk_28 (dk_at dksX9_number_1 20 rfl rfl)
theorem dX9_number_43 : decode cX9_number 43 = .ok (.imul, 1) := dk_104 (dk_at dksX9_number_1 21 rfl rfl)
theorem dX9_number_44 : decode cX9_number 44 = .ok (.aload_n 0, 1) := dk_42 (dk_at dksX9_number_1 22 rfl rfl)
theorem dX9_number_45 : decode cX9_number 45 = .ok (.invokevirtual 39, 3) := dk_182 0 39 (dk_at dksX9_number_2 0 rfl rfl)
theorem dX9_number_48 : decode cX9_number 48 = .ok (.iadd, 1) := dk_96 (dk_at dksX9_number_2 3 rfl rfl)
theorem dX9_number_49 : decode cX9_number 49 = .ok (.bipush 48, 2) := dk_16 48 (dk_at dksX9_number_2 4 rfl rfl)
theorem dX9_number_51 : decode cX9_number 51 = .ok (.isub, 1) := dk_100 (dk_at dksX9_number_2 6 rfl rfl)
theorem dX9_number_52 : decode cX9_number 52 = .ok (.istore_n 2, 1) := dk_61 (dk_at dksX9_number_2 7 rfl rfl)
theorem dX9_number_53 : decode cX9_number 53 = .ok (.aload_n 0, 1) := dk_42 (dk_at dksX9_number_2 8 rfl rfl)
theorem dX9_number_54 : decode cX9_number 54 = .ok (.dup, 1) := dk_89 (dk_at dksX9_number_2 9 rfl rfl)
theorem dX9_number_55 : decode cX9_number 55 = .ok (.getfield 26, 3) := dk_180 0 26 (dk_at dksX9_number_2 10 rfl rfl)
theorem dX9_number_58 : decode cX9_number 58 = .ok (.iconst 1, 1) := dk_4 (dk_at dksX9_number_2 13 rfl rfl)
theorem dX9_number_59 : decode cX9_number 59 = .ok (.iadd, 1) := dk_96 (dk_at dksX9_number_2 14 rfl rfl)
theorem dX9_number_60 : decode cX9_number 60 = .ok (.putfield 26, 3) := dk_181 0 26 (dk_at dksX9_number_2 15 rfl rfl)
theorem dX9_number_63 : decode cX9_number 63 = .ok (.goto (-56), 3) := dk_167 255 200 (dk_at dksX9_number_2 18 rfl rfl)
theorem dX9_number_66 : decode cX9_number 66 = .ok (.iload_n 2, 1) := dk_28 (dk_at dksX9_number_2 21 rfl rfl)
theorem dX9_number_67 : decode cX9_number 67 = .ok (.ireturn, 1) := dk_172 (dk_at dksX9_number_2 22 rfl rfl)
abbrev cX9_condition : ByteArray := prog_12_method_14_code
def yX9_condition : MethodName := ⟨RX9, "condition", "()LTermLog$Condition;"⟩
def dkwX9_condition_4 : List UInt8 := [42, 89, 180, 0, 54, 4, 100, 181, 0, 54, 43, 176]
abbrev dktX9_condition_4 : List UInt8 := dkwX9_condition_4 ++ []
def dkwX9_condition_3 : List UInt8 := [181, 0, 123, 44, 180, 0, 123, 77, 167, 255, 209, 42, 182, 0, 43, 153, 0, 9, 42, 16, 41, 182, 0, 64]
abbrev dktX9_condition_3 : List UInt8 := dkwX9_condition_3 ++ dktX9_condition_4
def dkwX9_condition_2 : List UInt8 := [89, 180, 0, 26, 4, 96, 181, 0, 26, 44, 187, 0, 118, 89, 42, 182, 0, 126, 4, 183, 0, 120]
abbrev dktX9_condition_2 : List UInt8 := dkwX9_condition_2 ++ dktX9_condition_3
def dkwX9_condition_1 : List UInt8 := [167, 0, 4, 1, 76, 43, 77, 42, 182, 0, 43, 153, 0, 46, 42, 182, 0, 39, 16, 124, 160, 0, 37, 42]
abbrev dktX9_condition_1 : List UInt8 := dkwX9_condition_1 ++ dktX9_condition_2
def dkwX9_condition_0 : List UInt8 := [42, 182, 0, 57, 42, 182, 0, 43, 153, 0, 18, 187, 0, 118, 89, 42, 182, 0, 126, 4, 183, 0, 120]
abbrev dktX9_condition_0 : List UInt8 := dkwX9_condition_0 ++ dktX9_condition_1
theorem dksX9_condition_0 : cX9_condition.data.toList.drop 0 = dktX9_condition_0 := by decide +kernel
theorem dksX9_condition_1 : cX9_condition.data.toList.drop 23 = dktX9_condition_1 := dk_seg dksX9_condition_0 23 rfl rfl
theorem dksX9_condition_2 : cX9_condition.data.toList.drop 47 = dktX9_condition_2 := dk_seg dksX9_condition_1 24 rfl rfl
theorem dksX9_condition_3 : cX9_condition.data.toList.drop 69 = dktX9_condition_3 := dk_seg dksX9_condition_2 22 rfl rfl
theorem dksX9_condition_4 : cX9_condition.data.toList.drop 93 = dktX9_condition_4 := dk_seg dksX9_condition_3 24 rfl rfl
theorem dX9_condition_0 : decode cX9_condition 0 = .ok (.aload_n 0, 1) := dk_42 (dk_at dksX9_condition_0 0 rfl rfl)
theorem dX9_condition_1 : decode cX9_condition 1 = .ok (.invokevirtual 57, 3) := dk_182 0 57 (dk_at dksX9_condition_0 1 rfl rfl)
theorem dX9_condition_4 : decode cX9_condition 4 = .ok (.aload_n 0, 1) := dk_42 (dk_at dksX9_condition_0 4 rfl rfl)
theorem dX9_condition_5 : decode cX9_condition 5 = .ok (.invokevirtual 43, 3) := dk_182 0 43 (dk_at dksX9_condition_0 5 rfl rfl)
theorem dX9_condition_8 : decode cX9_condition 8 = .ok (.ifCond .eq 18, 3) := dk_153 0 18 (dk_at dksX9_condition_0 8 rfl rfl)
theorem dX9_condition_11 : decode cX9_condition 11 = .ok (.new 118, 3) := dk_187 0 118 (dk_at dksX9_condition_0 11 rfl rfl)
theorem dX9_condition_14 : decode cX9_condition 14 = .ok (.dup, 1) := dk_89 (dk_at dksX9_condition_0 14 rfl rfl)
theorem dX9_condition_15 : decode cX9_condition 15 = .ok (.aload_n 0, 1) := dk_42 (dk_at dksX9_condition_0 15 rfl rfl)
theorem dX9_condition_16 : decode cX9_condition 16 = .ok (.invokevirtual 126, 3) := dk_182 0 126 (dk_at dksX9_condition_0 16 rfl rfl)
theorem dX9_condition_19 : decode cX9_condition 19 = .ok (.iconst 1, 1) := dk_4 (dk_at dksX9_condition_0 19 rfl rfl)
theorem dX9_condition_20 : decode cX9_condition 20 = .ok (.invokespecial 120, 3) := dk_183 0 120 (dk_at dksX9_condition_0 20 rfl rfl)
theorem dX9_condition_23 : decode cX9_condition 23 = .ok (.goto 4, 3) := dk_167 0 4 (dk_at dksX9_condition_1 0 rfl rfl)
theorem dX9_condition_26 : decode cX9_condition 26 = .ok (.aconst_null, 1) := dk_1 (dk_at dksX9_condition_1 3 rfl rfl)
theorem dX9_condition_27 : decode cX9_condition 27 = .ok (.astore_n 1, 1) := dk_76 (dk_at dksX9_condition_1 4 rfl rfl)
theorem dX9_condition_28 : decode cX9_condition 28 = .ok (.aload_n 1, 1) := dk_43 (dk_at dksX9_condition_1 5 rfl rfl)
theorem dX9_condition_29 : decode cX9_condition 29 = .ok (.astore_n 2, 1) := dk_77 (dk_at dksX9_condition_1 6 rfl rfl)
theorem dX9_condition_30 : decode cX9_condition 30 = .ok (.aload_n 0, 1) := dk_42 (dk_at dksX9_condition_1 7 rfl rfl)
theorem dX9_condition_31 : decode cX9_condition 31 = .ok (.invokevirtual 43, 3) := dk_182 0 43 (dk_at dksX9_condition_1 8 rfl rfl)
theorem dX9_condition_34 : decode cX9_condition 34 = .ok (.ifCond .eq 46, 3) := dk_153 0 46 (dk_at dksX9_condition_1 11 rfl rfl)
theorem dX9_condition_37 : decode cX9_condition 37 = .ok (.aload_n 0, 1) := dk_42 (dk_at dksX9_condition_1 14 rfl rfl)
theorem dX9_condition_38 : decode cX9_condition 38 = .ok (.invokevirtual 39, 3) := dk_182 0 39 (dk_at dksX9_condition_1 15 rfl rfl)
theorem dX9_condition_41 : decode cX9_condition 41 = .ok (.bipush 124, 2) := dk_16 124 (dk_at dksX9_condition_1 18 rfl rfl)
theorem dX9_condition_43 : decode cX9_condition 43 = .ok (.if_icmp .ne 37, 3) := dk_160 0 37 (dk_at dksX9_condition_1 20 rfl rfl)
theorem dX9_condition_46 : decode cX9_condition 46 = .ok (.aload_n 0, 1) := dk_42 (dk_at dksX9_condition_1 23 rfl rfl)
theorem dX9_condition_47 : decode cX9_condition 47 = .ok (.dup, 1) := dk_89 (dk_at dksX9_condition_2 0 rfl rfl)
theorem dX9_condition_48 : decode cX9_condition 48 = .ok (.getfield 26, 3) := dk_180 0 26 (dk_at dksX9_condition_2 1 rfl rfl)
theorem dX9_condition_51 : decode cX9_condition 51 = .ok (.iconst 1, 1) := dk_4 (dk_at dksX9_condition_2 4 rfl rfl)
theorem dX9_condition_52 : decode cX9_condition 52 = .ok (.iadd, 1) := dk_96 (dk_at dksX9_condition_2 5 rfl rfl)
theorem dX9_condition_53 : decode cX9_condition 53 = .ok (.putfield 26, 3) := dk_181 0 26 (dk_at dksX9_condition_2 6 rfl rfl)
theorem dX9_condition_56 : decode cX9_condition 56 = .ok (.aload_n 2, 1) := dk_44 (dk_at dksX9_condition_2 9 rfl rfl)
theorem dX9_condition_57 : decode cX9_condition 57 = .ok (.new 118, 3) := dk_187 0 118 (dk_at dksX9_condition_2 10 rfl rfl)
theorem dX9_condition_60 : decode cX9_condition 60 = .ok (.dup, 1) := dk_89 (dk_at dksX9_condition_2 13 rfl rfl)
theorem dX9_condition_61 : decode cX9_condition 61 = .ok (.aload_n 0, 1) := dk_42 (dk_at dksX9_condition_2 14 rfl rfl)
theorem dX9_condition_62 : decode cX9_condition 62 = .ok (.invokevirtual 126, 3) := dk_182 0 126 (dk_at dksX9_condition_2 15 rfl rfl)
theorem dX9_condition_65 : decode cX9_condition 65 = .ok (.iconst 1, 1) := dk_4 (dk_at dksX9_condition_2 18 rfl rfl)
theorem dX9_condition_66 : decode cX9_condition 66 = .ok (.invokespecial 120, 3) := dk_183 0 120 (dk_at dksX9_condition_2 19 rfl rfl)
theorem dX9_condition_69 : decode cX9_condition 69 = .ok (.putfield 123, 3) := dk_181 0 123 (dk_at dksX9_condition_3 0 rfl rfl)
theorem dX9_condition_72 : decode cX9_condition 72 = .ok (.aload_n 2, 1) := dk_44 (dk_at dksX9_condition_3 3 rfl rfl)
theorem dX9_condition_73 : decode cX9_condition 73 = .ok (.getfield 123, 3) := dk_180 0 123 (dk_at dksX9_condition_3 4 rfl rfl)
theorem dX9_condition_76 : decode cX9_condition 76 = .ok (.astore_n 2, 1) := dk_77 (dk_at dksX9_condition_3 7 rfl rfl)
theorem dX9_condition_77 : decode cX9_condition 77 = .ok (.goto (-47), 3) := dk_167 255 209 (dk_at dksX9_condition_3 8 rfl rfl)
theorem dX9_condition_80 : decode cX9_condition 80 = .ok (.aload_n 0, 1) := dk_42 (dk_at dksX9_condition_3 11 rfl rfl)
theorem dX9_condition_81 : decode cX9_condition 81 = .ok (.invokevirtual 43, 3) := dk_182 0 43 (dk_at dksX9_condition_3 12 rfl rfl)
theorem dX9_condition_84 : decode cX9_condition 84 = .ok (.ifCond .eq 9, 3) := dk_153 0 9 (dk_at dksX9_condition_3 15 rfl rfl)
theorem dX9_condition_87 : decode cX9_condition 87 = .ok (.aload_n 0, 1) := dk_42 (dk_at dksX9_condition_3 18 rfl rfl)
theorem dX9_condition_88 : decode cX9_condition 88 = .ok (.bipush 41, 2) := dk_16 41 (dk_at dksX9_condition_3 19 rfl rfl)
theorem dX9_condition_90 : decode cX9_condition 90 = .ok (.invokevirtual 64, 3) := dk_182 0 64 (dk_at dksX9_condition_3 21 rfl rfl)
theorem dX9_condition_93 : decode cX9_condition 93 = .ok (.aload_n 0, 1) := dk_42 (dk_at dksX9_condition_4 0 rfl rfl)
theorem dX9_condition_94 : decode cX9_condition 94 = .ok (.dup, 1) := dk_89 (dk_at dksX9_condition_4 1 rfl rfl)
theorem dX9_condition_95 : decode cX9_condition 95 = .ok (.getfield 54, 3) := dk_180 0 54 (dk_at dksX9_condition_4 2 rfl rfl)
theorem dX9_condition_98 : decode cX9_condition 98 = .ok (.iconst 1, 1) := dk_4 (dk_at dksX9_condition_4 5 rfl rfl)
theorem dX9_condition_99 : decode cX9_condition 99 = .ok (.isub, 1) := dk_100 (dk_at dksX9_condition_4 6 rfl rfl)
theorem dX9_condition_100 : decode cX9_condition 100 = .ok (.putfield 54, 3) := dk_181 0 54 (dk_at dksX9_condition_4 7 rfl rfl)
theorem dX9_condition_103 : decode cX9_condition 103 = .ok (.aload_n 1, 1) := dk_43 (dk_at dksX9_condition_4 10 rfl rfl)
theorem dX9_condition_104 : decode cX9_condition 104 = .ok (.areturn, 1) := dk_176 (dk_at dksX9_condition_4 11 rfl rfl)
abbrev cX9_pieces : ByteArray := prog_12_method_13_code
def yX9_pieces : MethodName := ⟨RX9, "pieces", "()LTermLog$Condition;"⟩
def dkwX9_pieces_2 : List UInt8 := [182, 0, 101, 3, 183, 0, 120, 181, 0, 123, 44, 180, 0, 123, 77, 167, 255, 209, 43, 176]
abbrev dktX9_pieces_2 : List UInt8 := dkwX9_pieces_2 ++ []
def dkwX9_pieces_1 : List UInt8 := [182, 0, 39, 16, 38, 160, 0, 37, 42, 89, 180, 0, 26, 4, 96, 181, 0, 26, 44, 187, 0, 118, 89, 42]
abbrev dktX9_pieces_1 : List UInt8 := dkwX9_pieces_1 ++ dktX9_pieces_2
def dkwX9_pieces_0 : List UInt8 := [187, 0, 118, 89, 42, 182, 0, 101, 3, 183, 0, 120, 76, 43, 77, 42, 182, 0, 43, 153, 0, 46, 42]
abbrev dktX9_pieces_0 : List UInt8 := dkwX9_pieces_0 ++ dktX9_pieces_1
theorem dksX9_pieces_0 : cX9_pieces.data.toList.drop 0 = dktX9_pieces_0 := by decide +kernel
theorem dksX9_pieces_1 : cX9_pieces.data.toList.drop 23 = dktX9_pieces_1 := dk_seg dksX9_pieces_0 23 rfl rfl
theorem dksX9_pieces_2 : cX9_pieces.data.toList.drop 47 = dktX9_pieces_2 := dk_seg dksX9_pieces_1 24 rfl rfl
theorem dX9_pieces_0 : decode cX9_pieces 0 = .ok (.new 118, 3) := dk_187 0 118 (dk_at dksX9_pieces_0 0 rfl rfl)
theorem dX9_pieces_3 : decode cX9_pieces 3 = .ok (.dup, 1) := dk_89 (dk_at dksX9_pieces_0 3 rfl rfl)
theorem dX9_pieces_4 : decode cX9_pieces 4 = .ok (.aload_n 0, 1) := dk_42 (dk_at dksX9_pieces_0 4 rfl rfl)
theorem dX9_pieces_5 : decode cX9_pieces 5 = .ok (.invokevirtual 101, 3) := dk_182 0 101 (dk_at dksX9_pieces_0 5 rfl rfl)
theorem dX9_pieces_8 : decode cX9_pieces 8 = .ok (.iconst 0, 1) := dk_3 (dk_at dksX9_pieces_0 8 rfl rfl)
theorem dX9_pieces_9 : decode cX9_pieces 9 = .ok (.invokespecial 120, 3) := dk_183 0 120 (dk_at dksX9_pieces_0 9 rfl rfl)
theorem dX9_pieces_12 : decode cX9_pieces 12 = .ok (.astore_n 1, 1) := dk_76 (dk_at dksX9_pieces_0 12 rfl rfl)
theorem dX9_pieces_13 : decode cX9_pieces 13 = .ok (.aload_n 1, 1) := dk_43 (dk_at dksX9_pieces_0 13 rfl rfl)
theorem dX9_pieces_14 : decode cX9_pieces 14 = .ok (.astore_n 2, 1) := dk_77 (dk_at dksX9_pieces_0 14 rfl rfl)
theorem dX9_pieces_15 : decode cX9_pieces 15 = .ok (.aload_n 0, 1) := dk_42 (dk_at dksX9_pieces_0 15 rfl rfl)
theorem dX9_pieces_16 : decode cX9_pieces 16 = .ok (.invokevirtual 43, 3) := dk_182 0 43 (dk_at dksX9_pieces_0 16 rfl rfl)
theorem dX9_pieces_19 : decode cX9_pieces 19 = .ok (.ifCond .eq 46, 3) := dk_153 0 46 (dk_at dksX9_pieces_0 19 rfl rfl)
theorem dX9_pieces_22 : decode cX9_pieces 22 = .ok (.aload_n 0, 1) := dk_42 (dk_at dksX9_pieces_0 22 rfl rfl)
theorem dX9_pieces_23 : decode cX9_pieces 23 = .ok (.invokevirtual 39, 3) := dk_182 0 39 (dk_at dksX9_pieces_1 0 rfl rfl)
theorem dX9_pieces_26 : decode cX9_pieces 26 = .ok (.bipush 38, 2) := dk_16 38 (dk_at dksX9_pieces_1 3 rfl rfl)
theorem dX9_pieces_28 : decode cX9_pieces 28 = .ok (.if_icmp .ne 37, 3) := dk_160 0 37 (dk_at dksX9_pieces_1 5 rfl rfl)
theorem dX9_pieces_31 : decode cX9_pieces 31 = .ok (.aload_n 0, 1) := dk_42 (dk_at dksX9_pieces_1 8 rfl rfl)
theorem dX9_pieces_32 : decode cX9_pieces 32 = .ok (.dup, 1) := dk_89 (dk_at dksX9_pieces_1 9 rfl rfl)
theorem dX9_pieces_33 : decode cX9_pieces 33 = .ok (.getfield 26, 3) := dk_180 0 26 (dk_at dksX9_pieces_1 10 rfl rfl)
theorem dX9_pieces_36 : decode cX9_pieces 36 = .ok (.iconst 1, 1) := dk_4 (dk_at dksX9_pieces_1 13 rfl rfl)
theorem dX9_pieces_37 : decode cX9_pieces 37 = .ok (.iadd, 1) := dk_96 (dk_at dksX9_pieces_1 14 rfl rfl)
theorem dX9_pieces_38 : decode cX9_pieces 38 = .ok (.putfield 26, 3) := dk_181 0 26 (dk_at dksX9_pieces_1 15 rfl rfl)
theorem dX9_pieces_41 : decode cX9_pieces 41 = .ok (.aload_n 2, 1) := dk_44 (dk_at dksX9_pieces_1 18 rfl rfl)
theorem dX9_pieces_42 : decode cX9_pieces 42 = .ok (.new 118, 3) := dk_187 0 118 (dk_at dksX9_pieces_1 19 rfl rfl)
theorem dX9_pieces_45 : decode cX9_pieces 45 = .ok (.dup, 1) := dk_89 (dk_at dksX9_pieces_1 22 rfl rfl)
theorem dX9_pieces_46 : decode cX9_pieces 46 = .ok (.aload_n 0, 1) := dk_42 (dk_at dksX9_pieces_1 23 rfl rfl)
theorem dX9_pieces_47 : decode cX9_pieces 47 = .ok (.invokevirtual 101, 3) := dk_182 0 101 (dk_at dksX9_pieces_2 0 rfl rfl)
theorem dX9_pieces_50 : decode cX9_pieces 50 = .ok (.iconst 0, 1) := dk_3 (dk_at dksX9_pieces_2 3 rfl rfl)
theorem dX9_pieces_51 : decode cX9_pieces 51 = .ok (.invokespecial 120, 3) := dk_183 0 120 (dk_at dksX9_pieces_2 4 rfl rfl)
theorem dX9_pieces_54 : decode cX9_pieces 54 = .ok (.putfield 123, 3) := dk_181 0 123 (dk_at dksX9_pieces_2 7 rfl rfl)
theorem dX9_pieces_57 : decode cX9_pieces 57 = .ok (.aload_n 2, 1) := dk_44 (dk_at dksX9_pieces_2 10 rfl rfl)
theorem dX9_pieces_58 : decode cX9_pieces 58 = .ok (.getfield 123, 3) := dk_180 0 123 (dk_at dksX9_pieces_2 11 rfl rfl)
theorem dX9_pieces_61 : decode cX9_pieces 61 = .ok (.astore_n 2, 1) := dk_77 (dk_at dksX9_pieces_2 14 rfl rfl)
theorem dX9_pieces_62 : decode cX9_pieces 62 = .ok (.goto (-47), 3) := dk_167 255 209 (dk_at dksX9_pieces_2 15 rfl rfl)
theorem dX9_pieces_65 : decode cX9_pieces 65 = .ok (.aload_n 1, 1) := dk_43 (dk_at dksX9_pieces_2 18 rfl rfl)
theorem dX9_pieces_66 : decode cX9_pieces 66 = .ok (.areturn, 1) := dk_176 (dk_at dksX9_pieces_2 19 rfl rfl)
abbrev cX9_piece : ByteArray := prog_12_method_12_code
def yX9_piece : MethodName := ⟨RX9, "piece", "()LTermLog$Condition;"⟩
def dkwX9_piece_5 : List UInt8 := [182, 0, 43, 153, 0, 10, 42, 182, 0, 60, 167, 0, 4, 1, 183, 0, 115, 176]
abbrev dktX9_piece_5 : List UInt8 := dkwX9_piece_5 ++ []
def dkwX9_piece_4 : List UInt8 := [180, 0, 26, 182, 0, 50, 42, 89, 180, 0, 26, 4, 96, 181, 0, 26, 187, 0, 113, 89, 44, 29, 42]
abbrev dktX9_piece_4 : List UInt8 := dkwX9_piece_4 ++ dktX9_piece_5
def dkwX9_piece_3 : List UInt8 := [62, 29, 16, 60, 159, 0, 24, 29, 16, 62, 159, 0, 18, 29, 16, 61, 159, 0, 12, 42, 4, 42]
abbrev dktX9_piece_3 : List UInt8 := dkwX9_piece_3 ++ dktX9_piece_4
def dkwX9_piece_2 : List UInt8 := [183, 0, 107, 176, 27, 16, 40, 160, 0, 8, 42, 182, 0, 110, 176, 42, 182, 0, 60, 77, 42, 182, 0, 39]
abbrev dktX9_piece_2 : List UInt8 := dkwX9_piece_2 ++ dktX9_piece_3
def dkwX9_piece_1 : List UInt8 := [182, 0, 101, 167, 0, 4, 1, 77, 42, 89, 180, 0, 54, 4, 100, 181, 0, 54, 187, 0, 105, 89, 44]
abbrev dktX9_piece_1 : List UInt8 := dkwX9_piece_1 ++ dktX9_piece_2
def dkwX9_piece_0 : List UInt8 := [42, 182, 0, 39, 60, 27, 16, 33, 160, 0, 42, 42, 182, 0, 57, 42, 182, 0, 43, 153, 0, 10, 42]
abbrev dktX9_piece_0 : List UInt8 := dkwX9_piece_0 ++ dktX9_piece_1
theorem dksX9_piece_0 : cX9_piece.data.toList.drop 0 = dktX9_piece_0 := by decide +kernel
theorem dksX9_piece_1 : cX9_piece.data.toList.drop 23 = dktX9_piece_1 := dk_seg dksX9_piece_0 23 rfl rfl
theorem dksX9_piece_2 : cX9_piece.data.toList.drop 46 = dktX9_piece_2 := dk_seg dksX9_piece_1 23 rfl rfl
theorem dksX9_piece_3 : cX9_piece.data.toList.drop 70 = dktX9_piece_3 := dk_seg dksX9_piece_2 24 rfl rfl
theorem dksX9_piece_4 : cX9_piece.data.toList.drop 92 = dktX9_piece_4 := dk_seg dksX9_piece_3 22 rfl rfl
theorem dksX9_piece_5 : cX9_piece.data.toList.drop 115 = dktX9_piece_5 := dk_seg dksX9_piece_4 23 rfl rfl
theorem dX9_piece_0 : decode cX9_piece 0 = .ok (.aload_n 0, 1) := dk_42 (dk_at dksX9_piece_0 0 rfl rfl)
theorem dX9_piece_1 : decode cX9_piece 1 = .ok (.invokevirtual 39, 3) := dk_182 0 39 (dk_at dksX9_piece_0 1 rfl rfl)
theorem dX9_piece_4 : decode cX9_piece 4 = .ok (.istore_n 1, 1) := dk_60 (dk_at dksX9_piece_0 4 rfl rfl)
theorem dX9_piece_5 : decode cX9_piece 5 = .ok (.iload_n 1, 1) := dk_27 (dk_at dksX9_piece_0 5 rfl rfl)
theorem dX9_piece_6 : decode cX9_piece 6 = .ok (.bipush 33, 2) := dk_16 33 (dk_at dksX9_piece_0 6 rfl rfl)
theorem dX9_piece_8 : decode cX9_piece 8 = .ok (.if_icmp .ne 42, 3) := dk_160 0 42 (dk_at dksX9_piece_0 8 rfl rfl)
theorem dX9_piece_11 : decode cX9_piece 11 = .ok (.aload_n 0, 1) := dk_42 (dk_at dksX9_piece_0 11 rfl rfl)
theorem dX9_piece_12 : decode cX9_piece 12 = .ok (.invokevirtual 57, 3) := dk_182 0 57 (dk_at dksX9_piece_0 12 rfl rfl)
theorem dX9_piece_15 : decode cX9_piece 15 = .ok (.aload_n 0, 1) := dk_42 (dk_at dksX9_piece_0 15 rfl rfl)
theorem dX9_piece_16 : decode cX9_piece 16 = .ok (.invokevirtual 43, 3) := dk_182 0 43 (dk_at dksX9_piece_0 16 rfl rfl)
theorem dX9_piece_19 : decode cX9_piece 19 = .ok (.ifCond .eq 10, 3) := dk_153 0 10 (dk_at dksX9_piece_0 19 rfl rfl)
theorem dX9_piece_22 : decode cX9_piece 22 = .ok (.aload_n 0, 1) := dk_42 (dk_at dksX9_piece_0 22 rfl rfl)
theorem dX9_piece_23 : decode cX9_piece 23 = .ok (.invokevirtual 101, 3) := dk_182 0 101 (dk_at dksX9_piece_1 0 rfl rfl)
theorem dX9_piece_26 : decode cX9_piece 26 = .ok (.goto 4, 3) := dk_167 0 4 (dk_at dksX9_piece_1 3 rfl rfl)
theorem dX9_piece_29 : decode cX9_piece 29 = .ok (.aconst_null, 1) := dk_1 (dk_at dksX9_piece_1 6 rfl rfl)
theorem dX9_piece_30 : decode cX9_piece 30 = .ok (.astore_n 2, 1) := dk_77 (dk_at dksX9_piece_1 7 rfl rfl)
theorem dX9_piece_31 : decode cX9_piece 31 = .ok (.aload_n 0, 1) := dk_42 (dk_at dksX9_piece_1 8 rfl rfl)
theorem dX9_piece_32 : decode cX9_piece 32 = .ok (.dup, 1) := dk_89 (dk_at dksX9_piece_1 9 rfl rfl)
theorem dX9_piece_33 : decode cX9_piece 33 = .ok (.getfield 54, 3) := dk_180 0 54 (dk_at dksX9_piece_1 10 rfl rfl)
theorem dX9_piece_36 : decode cX9_piece 36 = .ok (.iconst 1, 1) := dk_4 (dk_at dksX9_piece_1 13 rfl rfl)
theorem dX9_piece_37 : decode cX9_piece 37 = .ok (.isub, 1) := dk_100 (dk_at dksX9_piece_1 14 rfl rfl)
theorem dX9_piece_38 : decode cX9_piece 38 = .ok (.putfield 54, 3) := dk_181 0 54 (dk_at dksX9_piece_1 15 rfl rfl)
theorem dX9_piece_41 : decode cX9_piece 41 = .ok (.new 105, 3) := dk_187 0 105 (dk_at dksX9_piece_1 18 rfl rfl)
theorem dX9_piece_44 : decode cX9_piece 44 = .ok (.dup, 1) := dk_89 (dk_at dksX9_piece_1 21 rfl rfl)
theorem dX9_piece_45 : decode cX9_piece 45 = .ok (.aload_n 2, 1) := dk_44 (dk_at dksX9_piece_1 22 rfl rfl)
theorem dX9_piece_46 : decode cX9_piece 46 = .ok (.invokespecial 107, 3) := dk_183 0 107 (dk_at dksX9_piece_2 0 rfl rfl)
theorem dX9_piece_49 : decode cX9_piece 49 = .ok (.areturn, 1) := dk_176 (dk_at dksX9_piece_2 3 rfl rfl)
theorem dX9_piece_50 : decode cX9_piece 50 = .ok (.iload_n 1, 1) := dk_27 (dk_at dksX9_piece_2 4 rfl rfl)
theorem dX9_piece_51 : decode cX9_piece 51 = .ok (.bipush 40, 2) := dk_16 40 (dk_at dksX9_piece_2 5 rfl rfl)
theorem dX9_piece_53 : decode cX9_piece 53 = .ok (.if_icmp .ne 8, 3) := dk_160 0 8 (dk_at dksX9_piece_2 7 rfl rfl)
theorem dX9_piece_56 : decode cX9_piece 56 = .ok (.aload_n 0, 1) := dk_42 (dk_at dksX9_piece_2 10 rfl rfl)
theorem dX9_piece_57 : decode cX9_piece 57 = .ok (.invokevirtual 110, 3) := dk_182 0 110 (dk_at dksX9_piece_2 11 rfl rfl)
theorem dX9_piece_60 : decode cX9_piece 60 = .ok (.areturn, 1) := dk_176 (dk_at dksX9_piece_2 14 rfl rfl)
theorem dX9_piece_61 : decode cX9_piece 61 = .ok (.aload_n 0, 1) := dk_42 (dk_at dksX9_piece_2 15 rfl rfl)
theorem dX9_piece_62 : decode cX9_piece 62 = .ok (.invokevirtual 60, 3) := dk_182 0 60 (dk_at dksX9_piece_2 16 rfl rfl)
theorem dX9_piece_65 : decode cX9_piece 65 = .ok (.astore_n 2, 1) := dk_77 (dk_at dksX9_piece_2 19 rfl rfl)
theorem dX9_piece_66 : decode cX9_piece 66 = .ok (.aload_n 0, 1) := dk_42 (dk_at dksX9_piece_2 20 rfl rfl)
theorem dX9_piece_67 : decode cX9_piece 67 = .ok (.invokevirtual 39, 3) := dk_182 0 39 (dk_at dksX9_piece_2 21 rfl rfl)
theorem dX9_piece_70 : decode cX9_piece 70 = .ok (.istore_n 3, 1) := dk_62 (dk_at dksX9_piece_3 0 rfl rfl)
theorem dX9_piece_71 : decode cX9_piece 71 = .ok (.iload_n 3, 1) := dk_29 (dk_at dksX9_piece_3 1 rfl rfl)
theorem dX9_piece_72 : decode cX9_piece 72 = .ok (.bipush 60, 2) := dk_16 60 (dk_at dksX9_piece_3 2 rfl rfl)
theorem dX9_piece_74 : decode cX9_piece 74 = .ok (.if_icmp .eq 24, 3) := dk_159 0 24 (dk_at dksX9_piece_3 4 rfl rfl)
theorem dX9_piece_77 : decode cX9_piece 77 = .ok (.iload_n 3, 1) := dk_29 (dk_at dksX9_piece_3 7 rfl rfl)
theorem dX9_piece_78 : decode cX9_piece 78 = .ok (.bipush 62, 2) := dk_16 62 (dk_at dksX9_piece_3 8 rfl rfl)
theorem dX9_piece_80 : decode cX9_piece 80 = .ok (.if_icmp .eq 18, 3) := dk_159 0 18 (dk_at dksX9_piece_3 10 rfl rfl)
theorem dX9_piece_83 : decode cX9_piece 83 = .ok (.iload_n 3, 1) := dk_29 (dk_at dksX9_piece_3 13 rfl rfl)
theorem dX9_piece_84 : decode cX9_piece 84 = .ok (.bipush 61, 2) := dk_16 61 (dk_at dksX9_piece_3 14 rfl rfl)
theorem dX9_piece_86 : decode cX9_piece 86 = .ok (.if_icmp .eq 12, 3) := dk_159 0 12 (dk_at dksX9_piece_3 16 rfl rfl)
theorem dX9_piece_89 : decode cX9_piece 89 = .ok (.aload_n 0, 1) := dk_42 (dk_at dksX9_piece_3 19 rfl rfl)
theorem dX9_piece_90 : decode cX9_piece 90 = .ok (.iconst 1, 1) := dk_4 (dk_at dksX9_piece_3 20 rfl rfl)
theorem dX9_piece_91 : decode cX9_piece 91 = .ok (.aload_n 0, 1) := dk_42 (dk_at dksX9_piece_3 21 rfl rfl)
theorem dX9_piece_92 : decode cX9_piece 92 = .ok (.getfield 26, 3) := dk_180 0 26 (dk_at dksX9_piece_4 0 rfl rfl)
theorem dX9_piece_95 : decode cX9_piece 95 = .ok (.invokevirtual 50, 3) := dk_182 0 50 (dk_at dksX9_piece_4 3 rfl rfl)
theorem dX9_piece_98 : decode cX9_piece 98 = .ok (.aload_n 0, 1) := dk_42 (dk_at dksX9_piece_4 6 rfl rfl)
theorem dX9_piece_99 : decode cX9_piece 99 = .ok (.dup, 1) := dk_89 (dk_at dksX9_piece_4 7 rfl rfl)
theorem dX9_piece_100 : decode cX9_piece 100 = .ok (.getfield 26, 3) := dk_180 0 26 (dk_at dksX9_piece_4 8 rfl rfl)
theorem dX9_piece_103 : decode cX9_piece 103 = .ok (.iconst 1, 1) := dk_4 (dk_at dksX9_piece_4 11 rfl rfl)
theorem dX9_piece_104 : decode cX9_piece 104 = .ok (.iadd, 1) := dk_96 (dk_at dksX9_piece_4 12 rfl rfl)
theorem dX9_piece_105 : decode cX9_piece 105 = .ok (.putfield 26, 3) := dk_181 0 26 (dk_at dksX9_piece_4 13 rfl rfl)
theorem dX9_piece_108 : decode cX9_piece 108 = .ok (.new 113, 3) := dk_187 0 113 (dk_at dksX9_piece_4 16 rfl rfl)
theorem dX9_piece_111 : decode cX9_piece 111 = .ok (.dup, 1) := dk_89 (dk_at dksX9_piece_4 19 rfl rfl)
theorem dX9_piece_112 : decode cX9_piece 112 = .ok (.aload_n 2, 1) := dk_44 (dk_at dksX9_piece_4 20 rfl rfl)
theorem dX9_piece_113 : decode cX9_piece 113 = .ok (.iload_n 3, 1) := dk_29 (dk_at dksX9_piece_4 21 rfl rfl)
theorem dX9_piece_114 : decode cX9_piece 114 = .ok (.aload_n 0, 1) := dk_42 (dk_at dksX9_piece_4 22 rfl rfl)
theorem dX9_piece_115 : decode cX9_piece 115 = .ok (.invokevirtual 43, 3) := dk_182 0 43 (dk_at dksX9_piece_5 0 rfl rfl)
theorem dX9_piece_118 : decode cX9_piece 118 = .ok (.ifCond .eq 10, 3) := dk_153 0 10 (dk_at dksX9_piece_5 3 rfl rfl)
theorem dX9_piece_121 : decode cX9_piece 121 = .ok (.aload_n 0, 1) := dk_42 (dk_at dksX9_piece_5 6 rfl rfl)
theorem dX9_piece_122 : decode cX9_piece 122 = .ok (.invokevirtual 60, 3) := dk_182 0 60 (dk_at dksX9_piece_5 7 rfl rfl)
theorem dX9_piece_125 : decode cX9_piece 125 = .ok (.goto 4, 3) := dk_167 0 4 (dk_at dksX9_piece_5 10 rfl rfl)
theorem dX9_piece_128 : decode cX9_piece 128 = .ok (.aconst_null, 1) := dk_1 (dk_at dksX9_piece_5 13 rfl rfl)
theorem dX9_piece_129 : decode cX9_piece 129 = .ok (.invokespecial 115, 3) := dk_183 0 115 (dk_at dksX9_piece_5 14 rfl rfl)
theorem dX9_piece_132 : decode cX9_piece 132 = .ok (.areturn, 1) := dk_176 (dk_at dksX9_piece_5 17 rfl rfl)
theorem q169 : (Jvm.Cond.initialized "TermLog$Reader") ∈ lw_all := lw_g (lw_at lw_m1 12 rfl) rfl
theorem q435 : (Jvm.Cond.fieldLinkNest "TermLog$Reader" (134 : Nat) "TermLog$Text" "letters" "[I" "TermLog") ∈ lw_tbl := lw_at lw_m2 38 rfl
theorem q437 : (Jvm.Cond.fieldLinkNest "TermLog$Reader" (138 : Nat) "TermLog$Text" "sums" "[LTermLog$Sum;" "TermLog") ∈ lw_tbl := lw_at lw_m2 40 rfl
theorem q439 : (Jvm.Cond.fieldLinkNest "TermLog$Reader" (142 : Nat) "TermLog$Text" "conditions" "[LTermLog$Condition;" "TermLog") ∈ lw_tbl := lw_at lw_m2 42 rfl
theorem q441 : (Jvm.Cond.fieldLinkNest "TermLog$Reader" (131 : Nat) "TermLog$Text" "many" "I" "TermLog") ∈ lw_tbl := lw_at lw_m2 44 rfl
theorem q541 : (Jvm.Cond.fieldLinkNest "TermLog$Reader" (29 : Nat) "TermLog" "tape" "[B" "TermLog") ∈ lw_tbl := lw_at lw_m2 144 rfl
theorem q780 : (Jvm.Cond.instantiable "TermLog$Reader" (7 : Nat)) ∈ lw_all := lw_g (lw_at lw_m3 143 rfl) rfl
theorem q782 : (Jvm.Cond.instanceMethod ({ cls := "TermLog$Reader", name := "<init>", desc := "(LTermLog;I)V" } : Jvm.MethodName)) ∈ lw_all := lw_g (lw_at lw_m3 145 rfl) rfl
theorem q783 : (Jvm.Cond.code ({ cls := "TermLog$Reader", name := "<init>", desc := "(LTermLog;I)V" } : Jvm.MethodName) prog_12_method_1_code (3 : Nat) (Option.none : Option Jvm.ClassFile.FieldType)) ∈ lw_all := lw_g (lw_at lw_m3 146 rfl) rfl
theorem q784 : (Jvm.Cond.methodLink "TermLog$Reader" (9 : Nat) ({ cls := "java/lang/Object", name := "<init>", desc := "()V" } : Jvm.MethodName)) ∈ lw_all := lw_g (lw_at lw_m3 147 rfl) rfl
theorem q785 : (Jvm.Cond.classLink "TermLog$Reader" (15 : Nat) "TermLog$Text") ∈ lw_all := lw_g (lw_at lw_m3 148 rfl) rfl
theorem q786 : (Jvm.Cond.methodLinkNest "TermLog$Reader" (17 : Nat) ({ cls := "TermLog$Text", name := "<init>", desc := "()V" } : Jvm.MethodName) "TermLog") ∈ lw_tbl := lw_at lw_m3 149 rfl
theorem q787 : (Jvm.Cond.fieldLink "TermLog$Reader" (22 : Nat) "TermLog$Reader" "n" "I") ∈ lw_all := lw_g (lw_at lw_m3 150 rfl) rfl
theorem q788 : (Jvm.Cond.fieldLink "TermLog$Reader" (18 : Nat) "TermLog$Reader" "text" "LTermLog$Text;") ∈ lw_all := lw_g (lw_at lw_m3 151 rfl) rfl
theorem q790 : (Jvm.Cond.fieldLink "TermLog$Reader" (26 : Nat) "TermLog$Reader" "at" "I") ∈ lw_all := lw_g (lw_at lw_m3 153 rfl) rfl
theorem q791 : (Jvm.Cond.fieldLink "TermLog$Reader" (54 : Nat) "TermLog$Reader" "open" "I") ∈ lw_all := lw_g (lw_at lw_m3 154 rfl) rfl
theorem q792 : (Jvm.Cond.fieldLink "TermLog$Reader" (33 : Nat) "TermLog$Reader" "fault" "I") ∈ lw_all := lw_g (lw_at lw_m3 155 rfl) rfl
theorem q793 : (Jvm.Cond.fieldLink "TermLog$Reader" (36 : Nat) "TermLog$Reader" "place" "I") ∈ lw_all := lw_g (lw_at lw_m3 156 rfl) rfl
theorem q794 : (Jvm.Cond.fieldLink "TermLog$Reader" (3 : Nat) "TermLog$Reader" "this$0" "LTermLog;") ∈ lw_all := lw_g (lw_at lw_m3 157 rfl) rfl
theorem q795 : (Jvm.Cond.laysFinal "TermLog$Reader" "TermLog$Reader" "n" "I") ∈ lw_all := lw_g (lw_at lw_m3 158 rfl) rfl
theorem q796 : (Jvm.Cond.soleField "TermLog$Reader" "n") ∈ lw_all := lw_g (lw_at lw_m3 159 rfl) rfl
theorem q797 : (Jvm.Cond.laysFinal "TermLog$Reader" "TermLog$Reader" "text" "LTermLog$Text;") ∈ lw_all := lw_g (lw_at lw_m3 160 rfl) rfl
theorem q798 : (Jvm.Cond.soleField "TermLog$Reader" "text") ∈ lw_all := lw_g (lw_at lw_m3 161 rfl) rfl
theorem q799 : (Jvm.Cond.lays "TermLog$Reader" "TermLog$Reader" "at" "I") ∈ lw_all := lw_g (lw_at lw_m3 162 rfl) rfl
theorem q800 : (Jvm.Cond.soleField "TermLog$Reader" "at") ∈ lw_all := lw_g (lw_at lw_m3 163 rfl) rfl
theorem q801 : (Jvm.Cond.lays "TermLog$Reader" "TermLog$Reader" "open" "I") ∈ lw_all := lw_g (lw_at lw_m3 164 rfl) rfl
theorem q802 : (Jvm.Cond.soleField "TermLog$Reader" "open") ∈ lw_all := lw_g (lw_at lw_m3 165 rfl) rfl
theorem q803 : (Jvm.Cond.lays "TermLog$Reader" "TermLog$Reader" "fault" "I") ∈ lw_all := lw_g (lw_at lw_m3 166 rfl) rfl
theorem q804 : (Jvm.Cond.soleField "TermLog$Reader" "fault") ∈ lw_all := lw_g (lw_at lw_m3 167 rfl) rfl
theorem q805 : (Jvm.Cond.lays "TermLog$Reader" "TermLog$Reader" "place" "I") ∈ lw_all := lw_g (lw_at lw_m3 168 rfl) rfl
theorem q806 : (Jvm.Cond.soleField "TermLog$Reader" "place") ∈ lw_all := lw_g (lw_at lw_m3 169 rfl) rfl
theorem q807 : (Jvm.Cond.laysFinal "TermLog$Reader" "TermLog$Reader" "this$0" "LTermLog;") ∈ lw_all := lw_g (lw_at lw_m3 170 rfl) rfl
theorem q808 : (Jvm.Cond.soleField "TermLog$Reader" "this$0") ∈ lw_all := lw_g (lw_at lw_m3 171 rfl) rfl
theorem q809 : (Jvm.Cond.superclass "TermLog$Reader" "java/lang/Object") ∈ lw_all := lw_g (lw_at lw_m3 172 rfl) rfl
theorem q811 : (Jvm.Cond.instanceMethod ({ cls := "TermLog$Reader", name := "read", desc := "()I" } : Jvm.MethodName)) ∈ lw_all := lw_g (lw_at lw_m3 174 rfl) rfl
theorem q812 : (Jvm.Cond.selects "TermLog$Reader" ({ cls := "TermLog$Reader", name := "read", desc := "()I" } : Jvm.MethodName) ({ cls := "TermLog$Reader", name := "read", desc := "()I" } : Jvm.MethodName)) ∈ lw_all := lw_g (lw_at lw_m3 175 rfl) rfl
theorem q813 : (Jvm.Cond.code ({ cls := "TermLog$Reader", name := "read", desc := "()I" } : Jvm.MethodName) prog_12_method_16_code (2 : Nat) (Option.some Jvm.ClassFile.FieldType.int)) ∈ lw_all := lw_g (lw_at lw_m3 176 rfl) rfl
theorem q814 : (Jvm.Cond.methodLink "TermLog$Reader" (43 : Nat) ({ cls := "TermLog$Reader", name := "isGood", desc := "()Z" } : Jvm.MethodName)) ∈ lw_all := lw_g (lw_at lw_m3 177 rfl) rfl
theorem q815 : (Jvm.Cond.privateMethod ({ cls := "TermLog$Reader", name := "isGood", desc := "()Z" } : Jvm.MethodName)) ∈ lw_tbl := lw_at lw_m3 178 rfl
theorem q816 : (Jvm.Cond.instanceMethod ({ cls := "TermLog$Reader", name := "isGood", desc := "()Z" } : Jvm.MethodName)) ∈ lw_all := lw_g (lw_at lw_m3 179 rfl) rfl
theorem q817 : (Jvm.Cond.code ({ cls := "TermLog$Reader", name := "isGood", desc := "()Z" } : Jvm.MethodName) prog_12_method_3_code (1 : Nat) (Option.some Jvm.ClassFile.FieldType.boolean)) ∈ lw_all := lw_g (lw_at lw_m3 180 rfl) rfl
theorem q818 : (Jvm.Cond.methodLink "TermLog$Reader" (146 : Nat) ({ cls := "TermLog$Reader", name := "clause", desc := "()V" } : Jvm.MethodName)) ∈ lw_all := lw_g (lw_at lw_m3 181 rfl) rfl
theorem q819 : (Jvm.Cond.privateMethod ({ cls := "TermLog$Reader", name := "clause", desc := "()V" } : Jvm.MethodName)) ∈ lw_tbl := lw_at lw_m3 182 rfl
theorem q820 : (Jvm.Cond.instanceMethod ({ cls := "TermLog$Reader", name := "clause", desc := "()V" } : Jvm.MethodName)) ∈ lw_all := lw_g (lw_at lw_m3 183 rfl) rfl
theorem q821 : (Jvm.Cond.code ({ cls := "TermLog$Reader", name := "clause", desc := "()V" } : Jvm.MethodName) prog_12_method_15_code (4 : Nat) (Option.none : Option Jvm.ClassFile.FieldType)) ∈ lw_all := lw_g (lw_at lw_m3 184 rfl) rfl
theorem q822 : (Jvm.Cond.methodLink "TermLog$Reader" (39 : Nat) ({ cls := "TermLog$Reader", name := "here", desc := "()I" } : Jvm.MethodName)) ∈ lw_all := lw_g (lw_at lw_m3 185 rfl) rfl
theorem q823 : (Jvm.Cond.privateMethod ({ cls := "TermLog$Reader", name := "here", desc := "()I" } : Jvm.MethodName)) ∈ lw_tbl := lw_at lw_m3 186 rfl
theorem q824 : (Jvm.Cond.instanceMethod ({ cls := "TermLog$Reader", name := "here", desc := "()I" } : Jvm.MethodName)) ∈ lw_all := lw_g (lw_at lw_m3 187 rfl) rfl
theorem q825 : (Jvm.Cond.code ({ cls := "TermLog$Reader", name := "here", desc := "()I" } : Jvm.MethodName) prog_12_method_2_code (1 : Nat) (Option.some Jvm.ClassFile.FieldType.int)) ∈ lw_all := lw_g (lw_at lw_m3 188 rfl) rfl
theorem q826 : (Jvm.Cond.stringRef "TermLog$Reader" (129 : Nat) "dlex") ∈ lw_tbl := lw_at lw_m3 189 rfl
theorem q827 : (Jvm.Cond.methodLink "TermLog$Reader" (77 : Nat) ({ cls := "java/lang/String", name := "indexOf", desc := "(I)I" } : Jvm.MethodName)) ∈ lw_all := lw_g (lw_at lw_m3 190 rfl) rfl
theorem q909 : (Jvm.Cond.methodLink "TermLog$Reader" (50 : Nat) ({ cls := "TermLog$Reader", name := "bad", desc := "(II)V" } : Jvm.MethodName)) ∈ lw_all := lw_g (lw_at lw_m4 32 rfl) rfl
theorem q910 : (Jvm.Cond.privateMethod ({ cls := "TermLog$Reader", name := "bad", desc := "(II)V" } : Jvm.MethodName)) ∈ lw_tbl := lw_at lw_m4 33 rfl
theorem q911 : (Jvm.Cond.instanceMethod ({ cls := "TermLog$Reader", name := "bad", desc := "(II)V" } : Jvm.MethodName)) ∈ lw_all := lw_g (lw_at lw_m4 34 rfl) rfl
theorem q912 : (Jvm.Cond.code ({ cls := "TermLog$Reader", name := "bad", desc := "(II)V" } : Jvm.MethodName) prog_12_method_4_code (3 : Nat) (Option.none : Option Jvm.ClassFile.FieldType)) ∈ lw_all := lw_g (lw_at lw_m4 35 rfl) rfl
theorem q913 : (Jvm.Cond.methodLink "TermLog$Reader" (60 : Nat) ({ cls := "TermLog$Reader", name := "sum", desc := "()LTermLog$Sum;" } : Jvm.MethodName)) ∈ lw_all := lw_g (lw_at lw_m4 36 rfl) rfl
theorem q914 : (Jvm.Cond.privateMethod ({ cls := "TermLog$Reader", name := "sum", desc := "()LTermLog$Sum;" } : Jvm.MethodName)) ∈ lw_tbl := lw_at lw_m4 37 rfl
theorem q915 : (Jvm.Cond.instanceMethod ({ cls := "TermLog$Reader", name := "sum", desc := "()LTermLog$Sum;" } : Jvm.MethodName)) ∈ lw_all := lw_g (lw_at lw_m4 38 rfl) rfl
theorem q916 : (Jvm.Cond.code ({ cls := "TermLog$Reader", name := "sum", desc := "()LTermLog$Sum;" } : Jvm.MethodName) prog_12_method_11_code (4 : Nat) (Option.some (Jvm.ClassFile.FieldType.object "TermLog$Sum"))) ∈ lw_all := lw_g (lw_at lw_m4 39 rfl) rfl
theorem q917 : (Jvm.Cond.classLink "TermLog$Reader" (86 : Nat) "TermLog$Row") ∈ lw_all := lw_g (lw_at lw_m4 40 rfl) rfl
theorem q919 : (Jvm.Cond.methodLink "TermLog$Reader" (98 : Nat) ({ cls := "TermLog$Reader", name := "product", desc := "()LTermLog$Sum;" } : Jvm.MethodName)) ∈ lw_all := lw_g (lw_at lw_m4 42 rfl) rfl
theorem q920 : (Jvm.Cond.privateMethod ({ cls := "TermLog$Reader", name := "product", desc := "()LTermLog$Sum;" } : Jvm.MethodName)) ∈ lw_tbl := lw_at lw_m4 43 rfl
theorem q921 : (Jvm.Cond.instanceMethod ({ cls := "TermLog$Reader", name := "product", desc := "()LTermLog$Sum;" } : Jvm.MethodName)) ∈ lw_all := lw_g (lw_at lw_m4 44 rfl) rfl
theorem q922 : (Jvm.Cond.code ({ cls := "TermLog$Reader", name := "product", desc := "()LTermLog$Sum;" } : Jvm.MethodName) prog_12_method_10_code (4 : Nat) (Option.some (Jvm.ClassFile.FieldType.object "TermLog$Sum"))) ∈ lw_all := lw_g (lw_at lw_m4 45 rfl) rfl
theorem q923 : (Jvm.Cond.methodLink "TermLog$Reader" (88 : Nat) ({ cls := "TermLog$Reader", name := "factor", desc := "()LTermLog$Sum;" } : Jvm.MethodName)) ∈ lw_all := lw_g (lw_at lw_m4 46 rfl) rfl
theorem q924 : (Jvm.Cond.privateMethod ({ cls := "TermLog$Reader", name := "factor", desc := "()LTermLog$Sum;" } : Jvm.MethodName)) ∈ lw_tbl := lw_at lw_m4 47 rfl
theorem q925 : (Jvm.Cond.instanceMethod ({ cls := "TermLog$Reader", name := "factor", desc := "()LTermLog$Sum;" } : Jvm.MethodName)) ∈ lw_all := lw_g (lw_at lw_m4 48 rfl) rfl
theorem q926 : (Jvm.Cond.code ({ cls := "TermLog$Reader", name := "factor", desc := "()LTermLog$Sum;" } : Jvm.MethodName) prog_12_method_9_code (3 : Nat) (Option.some (Jvm.ClassFile.FieldType.object "TermLog$Sum"))) ∈ lw_all := lw_g (lw_at lw_m4 49 rfl) rfl
theorem q927 : (Jvm.Cond.methodLink "TermLog$Reader" (57 : Nat) ({ cls := "TermLog$Reader", name := "opens", desc := "()V" } : Jvm.MethodName)) ∈ lw_all := lw_g (lw_at lw_m4 50 rfl) rfl
theorem q928 : (Jvm.Cond.privateMethod ({ cls := "TermLog$Reader", name := "opens", desc := "()V" } : Jvm.MethodName)) ∈ lw_tbl := lw_at lw_m4 51 rfl
theorem q929 : (Jvm.Cond.instanceMethod ({ cls := "TermLog$Reader", name := "opens", desc := "()V" } : Jvm.MethodName)) ∈ lw_all := lw_g (lw_at lw_m4 52 rfl) rfl
theorem q930 : (Jvm.Cond.code ({ cls := "TermLog$Reader", name := "opens", desc := "()V" } : Jvm.MethodName) prog_12_method_8_code (1 : Nat) (Option.none : Option Jvm.ClassFile.FieldType)) ∈ lw_all := lw_g (lw_at lw_m4 53 rfl) rfl
theorem q931 : (Jvm.Cond.methodLink "TermLog$Reader" (64 : Nat) ({ cls := "TermLog$Reader", name := "must", desc := "(I)V" } : Jvm.MethodName)) ∈ lw_all := lw_g (lw_at lw_m4 54 rfl) rfl
theorem q932 : (Jvm.Cond.privateMethod ({ cls := "TermLog$Reader", name := "must", desc := "(I)V" } : Jvm.MethodName)) ∈ lw_tbl := lw_at lw_m4 55 rfl
theorem q933 : (Jvm.Cond.instanceMethod ({ cls := "TermLog$Reader", name := "must", desc := "(I)V" } : Jvm.MethodName)) ∈ lw_all := lw_g (lw_at lw_m4 56 rfl) rfl
theorem q934 : (Jvm.Cond.code ({ cls := "TermLog$Reader", name := "must", desc := "(I)V" } : Jvm.MethodName) prog_12_method_7_code (2 : Nat) (Option.none : Option Jvm.ClassFile.FieldType)) ∈ lw_all := lw_g (lw_at lw_m4 57 rfl) rfl
theorem q935 : (Jvm.Cond.methodLink "TermLog$Reader" (47 : Nat) ({ cls := "TermLog$Reader", name := "seesDigit", desc := "()Z" } : Jvm.MethodName)) ∈ lw_all := lw_g (lw_at lw_m4 58 rfl) rfl
theorem q936 : (Jvm.Cond.privateMethod ({ cls := "TermLog$Reader", name := "seesDigit", desc := "()Z" } : Jvm.MethodName)) ∈ lw_tbl := lw_at lw_m4 59 rfl
theorem q937 : (Jvm.Cond.instanceMethod ({ cls := "TermLog$Reader", name := "seesDigit", desc := "()Z" } : Jvm.MethodName)) ∈ lw_all := lw_g (lw_at lw_m4 60 rfl) rfl
theorem q938 : (Jvm.Cond.code ({ cls := "TermLog$Reader", name := "seesDigit", desc := "()Z" } : Jvm.MethodName) prog_12_method_5_code (1 : Nat) (Option.some Jvm.ClassFile.FieldType.boolean)) ∈ lw_all := lw_g (lw_at lw_m4 61 rfl) rfl
theorem q939 : (Jvm.Cond.classLink "TermLog$Reader" (68 : Nat) "TermLog$Number") ∈ lw_all := lw_g (lw_at lw_m4 62 rfl) rfl
theorem q941 : (Jvm.Cond.methodLink "TermLog$Reader" (70 : Nat) ({ cls := "TermLog$Reader", name := "number", desc := "()I" } : Jvm.MethodName)) ∈ lw_all := lw_g (lw_at lw_m4 64 rfl) rfl
theorem q942 : (Jvm.Cond.privateMethod ({ cls := "TermLog$Reader", name := "number", desc := "()I" } : Jvm.MethodName)) ∈ lw_tbl := lw_at lw_m4 65 rfl
theorem q943 : (Jvm.Cond.instanceMethod ({ cls := "TermLog$Reader", name := "number", desc := "()I" } : Jvm.MethodName)) ∈ lw_all := lw_g (lw_at lw_m4 66 rfl) rfl
theorem q944 : (Jvm.Cond.code ({ cls := "TermLog$Reader", name := "number", desc := "()I" } : Jvm.MethodName) prog_12_method_6_code (3 : Nat) (Option.some Jvm.ClassFile.FieldType.int)) ∈ lw_all := lw_g (lw_at lw_m4 67 rfl) rfl
theorem q945 : (Jvm.Cond.methodLink "TermLog$Reader" (73 : Nat) ({ cls := "TermLog$Number", name := "<init>", desc := "(I)V" } : Jvm.MethodName)) ∈ lw_all := lw_g (lw_at lw_m4 68 rfl) rfl
theorem q956 : (Jvm.Cond.stringRef "TermLog$Reader" (75 : Nat) "ftknqsw") ∈ lw_tbl := lw_at lw_m4 79 rfl
theorem q957 : (Jvm.Cond.classLink "TermLog$Reader" (83 : Nat) "TermLog$Letter") ∈ lw_all := lw_g (lw_at lw_m4 80 rfl) rfl
theorem q959 : (Jvm.Cond.methodLink "TermLog$Reader" (85 : Nat) ({ cls := "TermLog$Letter", name := "<init>", desc := "(I)V" } : Jvm.MethodName)) ∈ lw_all := lw_g (lw_at lw_m4 82 rfl) rfl
theorem q967 : (Jvm.Cond.methodLink "TermLog$Reader" (91 : Nat) ({ cls := "TermLog$Row", name := "<init>", desc := "(ILTermLog$Sum;)V" } : Jvm.MethodName)) ∈ lw_all := lw_g (lw_at lw_m4 90 rfl) rfl
theorem q974 : (Jvm.Cond.fieldLinkNest "TermLog$Reader" (94 : Nat) "TermLog$Row" "next" "LTermLog$Row;" "TermLog") ∈ lw_tbl := lw_at lw_m4 97 rfl
theorem q982 : (Jvm.Cond.methodLink "TermLog$Reader" (110 : Nat) ({ cls := "TermLog$Reader", name := "condition", desc := "()LTermLog$Condition;" } : Jvm.MethodName)) ∈ lw_all := lw_g (lw_at lw_m4 105 rfl) rfl
theorem q983 : (Jvm.Cond.privateMethod ({ cls := "TermLog$Reader", name := "condition", desc := "()LTermLog$Condition;" } : Jvm.MethodName)) ∈ lw_tbl := lw_at lw_m4 106 rfl
theorem q984 : (Jvm.Cond.instanceMethod ({ cls := "TermLog$Reader", name := "condition", desc := "()LTermLog$Condition;" } : Jvm.MethodName)) ∈ lw_all := lw_g (lw_at lw_m4 107 rfl) rfl
theorem q985 : (Jvm.Cond.code ({ cls := "TermLog$Reader", name := "condition", desc := "()LTermLog$Condition;" } : Jvm.MethodName) prog_12_method_14_code (3 : Nat) (Option.some (Jvm.ClassFile.FieldType.object "TermLog$Condition"))) ∈ lw_all := lw_g (lw_at lw_m4 108 rfl) rfl
theorem q986 : (Jvm.Cond.classLink "TermLog$Reader" (118 : Nat) "TermLog$Some") ∈ lw_all := lw_g (lw_at lw_m4 109 rfl) rfl
theorem q988 : (Jvm.Cond.methodLink "TermLog$Reader" (126 : Nat) ({ cls := "TermLog$Reader", name := "pieces", desc := "()LTermLog$Condition;" } : Jvm.MethodName)) ∈ lw_all := lw_g (lw_at lw_m4 111 rfl) rfl
theorem q989 : (Jvm.Cond.privateMethod ({ cls := "TermLog$Reader", name := "pieces", desc := "()LTermLog$Condition;" } : Jvm.MethodName)) ∈ lw_tbl := lw_at lw_m4 112 rfl
theorem q990 : (Jvm.Cond.instanceMethod ({ cls := "TermLog$Reader", name := "pieces", desc := "()LTermLog$Condition;" } : Jvm.MethodName)) ∈ lw_all := lw_g (lw_at lw_m4 113 rfl) rfl
theorem q991 : (Jvm.Cond.code ({ cls := "TermLog$Reader", name := "pieces", desc := "()LTermLog$Condition;" } : Jvm.MethodName) prog_12_method_13_code (3 : Nat) (Option.some (Jvm.ClassFile.FieldType.object "TermLog$Condition"))) ∈ lw_all := lw_g (lw_at lw_m4 114 rfl) rfl
theorem q992 : (Jvm.Cond.methodLink "TermLog$Reader" (101 : Nat) ({ cls := "TermLog$Reader", name := "piece", desc := "()LTermLog$Condition;" } : Jvm.MethodName)) ∈ lw_all := lw_g (lw_at lw_m4 115 rfl) rfl
theorem q993 : (Jvm.Cond.privateMethod ({ cls := "TermLog$Reader", name := "piece", desc := "()LTermLog$Condition;" } : Jvm.MethodName)) ∈ lw_tbl := lw_at lw_m4 116 rfl
theorem q994 : (Jvm.Cond.instanceMethod ({ cls := "TermLog$Reader", name := "piece", desc := "()LTermLog$Condition;" } : Jvm.MethodName)) ∈ lw_all := lw_g (lw_at lw_m4 117 rfl) rfl
theorem q995 : (Jvm.Cond.code ({ cls := "TermLog$Reader", name := "piece", desc := "()LTermLog$Condition;" } : Jvm.MethodName) prog_12_method_12_code (4 : Nat) (Option.some (Jvm.ClassFile.FieldType.object "TermLog$Condition"))) ∈ lw_all := lw_g (lw_at lw_m4 118 rfl) rfl
theorem q996 : (Jvm.Cond.classLink "TermLog$Reader" (105 : Nat) "TermLog$Not") ∈ lw_all := lw_g (lw_at lw_m4 119 rfl) rfl
theorem q998 : (Jvm.Cond.methodLink "TermLog$Reader" (107 : Nat) ({ cls := "TermLog$Not", name := "<init>", desc := "(LTermLog$Condition;)V" } : Jvm.MethodName)) ∈ lw_all := lw_g (lw_at lw_m4 121 rfl) rfl
theorem q1009 : (Jvm.Cond.classLink "TermLog$Reader" (113 : Nat) "TermLog$Compared") ∈ lw_all := lw_g (lw_at lw_m4 132 rfl) rfl
theorem q1011 : (Jvm.Cond.methodLink "TermLog$Reader" (115 : Nat) ({ cls := "TermLog$Compared", name := "<init>", desc := "(LTermLog$Sum;ILTermLog$Sum;)V" } : Jvm.MethodName)) ∈ lw_all := lw_g (lw_at lw_m4 134 rfl) rfl
theorem q1025 : (Jvm.Cond.methodLink "TermLog$Reader" (120 : Nat) ({ cls := "TermLog$Some", name := "<init>", desc := "(LTermLog$Condition;I)V" } : Jvm.MethodName)) ∈ lw_all := lw_g (lw_at lw_m4 148 rfl) rfl
theorem q1032 : (Jvm.Cond.fieldLinkNest "TermLog$Reader" (123 : Nat) "TermLog$Some" "next" "LTermLog$Some;" "TermLog") ∈ lw_tbl := lw_at lw_m4 155 rfl
theorem in_X9 : ∀ w ∈ wsX90, w ∈ lw_all := lw_in wsX90 [795, 797, 799, 801, 803, 805, 807] (by decide +kernel) (by decide +kernel)
/-! TermLog$Planner -/
set_option maxRecDepth 100000
def RX16 : String := "TermLog$Planner"
def TX16 : u_T := fun k => match k with
  | 0 => ("TermLog$Planner", "n", "I", true)
  | 1 => ("TermLog$Planner", "row", "[I", true)
  | 2 => ("TermLog$Planner", "firsts", "[I", true)
  | 3 => ("TermLog$Planner", "seconds", "[I", true)
  | 4 => ("TermLog$Planner", "thirds", "[I", true)
  | 5 => ("TermLog$Planner", "at", "I", false)
  | 6 => ("TermLog$Planner", "fault", "I", false)
  | 7 => ("TermLog$Planner", "place", "I", false)
  | 8 => ("TermLog$Planner", "many", "I", false)
  | 9 => ("TermLog$Planner", "depth", "I", false)
  | _ => ("TermLog$Planner", "this$0", "LTermLog;", true)
def tyX16 : Nat → FieldType := fun k => match k with
  | 0 => .int
  | 1 => .array .int
  | 2 => .array .int
  | 3 => .array .int
  | 4 => .array .int
  | 5 => .int
  | 6 => .int
  | 7 => .int
  | 8 => .int
  | 9 => .int
  | _ => .object "TermLog"
abbrev wsX160 : List Cond := u_ws RX16 TX16 11
theorem nmX16 : ∀ a, a < 11 → ∀ b, b < 11 → a ≠ b → (TX16 a).2.1 ≠ (TX16 b).2.1 := by decide +kernel
theorem tyX16_ok : ∀ k, k < 11 → parseFieldDescriptor (TX16 k).2.2.1 = some (tyX16 k) := by decide +kernel
abbrev cX16_init : ByteArray := prog_11_method_1_code
def yX16_init : MethodName := ⟨RX16, "<init>", "(LTermLog;I)V"⟩
def dkwX16_init_2 : List UInt8 := [181, 0, 28, 177]
abbrev dktX16_init_2 : List UInt8 := dkwX16_init_2 ++ []
def dkwX16_init_1 : List UInt8 := [181, 0, 19, 42, 17, 0, 200, 188, 10, 181, 0, 22, 42, 17, 0, 200, 188, 10, 181, 0, 25, 42, 28]
abbrev dktX16_init_1 : List UInt8 := dkwX16_init_1 ++ dktX16_init_2
def dkwX16_init_0 : List UInt8 := [42, 43, 181, 0, 3, 42, 183, 0, 9, 42, 17, 0, 200, 188, 10, 181, 0, 15, 42, 17, 0, 200, 188, 10]
abbrev dktX16_init_0 : List UInt8 := dkwX16_init_0 ++ dktX16_init_1
theorem dksX16_init_0 : cX16_init.data.toList.drop 0 = dktX16_init_0 := by decide +kernel
theorem dksX16_init_1 : cX16_init.data.toList.drop 24 = dktX16_init_1 := dk_seg dksX16_init_0 24 rfl rfl
theorem dksX16_init_2 : cX16_init.data.toList.drop 47 = dktX16_init_2 := dk_seg dksX16_init_1 23 rfl rfl
theorem dX16_init_0 : decode cX16_init 0 = .ok (.aload_n 0, 1) := dk_42 (dk_at dksX16_init_0 0 rfl rfl)
theorem dX16_init_1 : decode cX16_init 1 = .ok (.aload_n 1, 1) := dk_43 (dk_at dksX16_init_0 1 rfl rfl)
theorem dX16_init_2 : decode cX16_init 2 = .ok (.putfield 3, 3) := dk_181 0 3 (dk_at dksX16_init_0 2 rfl rfl)
theorem dX16_init_5 : decode cX16_init 5 = .ok (.aload_n 0, 1) := dk_42 (dk_at dksX16_init_0 5 rfl rfl)
theorem dX16_init_6 : decode cX16_init 6 = .ok (.invokespecial 9, 3) := dk_183 0 9 (dk_at dksX16_init_0 6 rfl rfl)
theorem dX16_init_9 : decode cX16_init 9 = .ok (.aload_n 0, 1) := dk_42 (dk_at dksX16_init_0 9 rfl rfl)
theorem dX16_init_10 : decode cX16_init 10 = .ok (.sipush 200, 3) := dk_17 0 200 (dk_at dksX16_init_0 10 rfl rfl)
theorem dX16_init_13 : decode cX16_init 13 = .ok (.newarray .int, 2) := dk_188_10 (dk_at dksX16_init_0 13 rfl rfl)
theorem dX16_init_15 : decode cX16_init 15 = .ok (.putfield 15, 3) := dk_181 0 15 (dk_at dksX16_init_0 15 rfl rfl)
theorem dX16_init_18 : decode cX16_init 18 = .ok (.aload_n 0, 1) := dk_42 (dk_at dksX16_init_0 18 rfl rfl)
theorem dX16_init_19 : decode cX16_init 19 = .ok (.sipush 200, 3) := dk_17 0 200 (dk_at dksX16_init_0 19 rfl rfl)
theorem dX16_init_22 : decode cX16_init 22 = .ok (.newarray .int, 2) := dk_188_10 (dk_at dksX16_init_0 22 rfl rfl)
theorem dX16_init_24 : decode cX16_init 24 = .ok (.putfield 19, 3) := dk_181 0 19 (dk_at dksX16_init_1 0 rfl rfl)
theorem dX16_init_27 : decode cX16_init 27 = .ok (.aload_n 0, 1) := dk_42 (dk_at dksX16_init_1 3 rfl rfl)
theorem dX16_init_28 : decode cX16_init 28 = .ok (.sipush 200, 3) := dk_17 0 200 (dk_at dksX16_init_1 4 rfl rfl)
theorem dX16_init_31 : decode cX16_init 31 = .ok (.newarray .int, 2) := dk_188_10 (dk_at dksX16_init_1 7 rfl rfl)
theorem dX16_init_33 : decode cX16_init 33 = .ok (.putfield 22, 3) := dk_181 0 22 (dk_at dksX16_init_1 9 rfl rfl)
theorem dX16_init_36 : decode cX16_init 36 = .ok (.aload_n 0, 1) := dk_42 (dk_at dksX16_init_1 12 rfl rfl)
theorem dX16_init_37 : decode cX16_init 37 = .ok (.sipush 200, 3) := dk_17 0 200 (dk_at dksX16_init_1 13 rfl rfl)
theorem dX16_init_40 : decode cX16_init 40 = .ok (.newarray .int, 2) := dk_188_10 (dk_at dksX16_init_1 16 rfl rfl)
theorem dX16_init_42 : decode cX16_init 42 = .ok (.putfield 25, 3) := dk_181 0 25 (dk_at dksX16_init_1 18 rfl rfl)
theorem dX16_init_45 : decode cX16_init 45 = .ok (.aload_n 0, 1) := dk_42 (dk_at dksX16_init_1 21 rfl rfl)
theorem dX16_init_46 : decode cX16_init 46 = .ok (.iload_n 2, 1) := dk_28 (dk_at dksX16_init_1 22 rfl rfl)
theorem dX16_init_47 : decode cX16_init 47 = .ok (.putfield 28, 3) := dk_181 0 28 (dk_at dksX16_init_2 0 rfl rfl)
theorem dX16_init_50 : decode cX16_init 50 = .ok (.return_, 1) := dk_177 (dk_at dksX16_init_2 3 rfl rfl)
abbrev cX16_reads : ByteArray := prog_11_method_10_code
def yX16_reads : MethodName := ⟨RX16, "reads", "()I"⟩
def dkwX16_reads_2 : List UInt8 := [42, 180, 0, 39, 104, 42, 180, 0, 42, 100, 172]
abbrev dktX16_reads_2 : List UInt8 := dkwX16_reads_2 ++ []
def dkwX16_reads_1 : List UInt8 := [42, 180, 0, 32, 182, 0, 57, 42, 182, 0, 49, 153, 0, 10, 42, 180, 0, 78, 167, 0, 16, 17, 252, 24]
abbrev dktX16_reads_1 : List UInt8 := dkwX16_reads_1 ++ dktX16_reads_2
def dkwX16_reads_0 : List UInt8 := [42, 182, 0, 64, 42, 182, 0, 49, 153, 0, 23, 42, 180, 0, 32, 42, 180, 0, 28, 162, 0, 12, 42, 4]
abbrev dktX16_reads_0 : List UInt8 := dkwX16_reads_0 ++ dktX16_reads_1
theorem dksX16_reads_0 : cX16_reads.data.toList.drop 0 = dktX16_reads_0 := by decide +kernel
theorem dksX16_reads_1 : cX16_reads.data.toList.drop 24 = dktX16_reads_1 := dk_seg dksX16_reads_0 24 rfl rfl
theorem dksX16_reads_2 : cX16_reads.data.toList.drop 48 = dktX16_reads_2 := dk_seg dksX16_reads_1 24 rfl rfl
theorem dX16_reads_0 : decode cX16_reads 0 = .ok (.aload_n 0, 1) := dk_42 (dk_at dksX16_reads_0 0 rfl rfl)
theorem dX16_reads_1 : decode cX16_reads 1 = .ok (.invokevirtual 64, 3) := dk_182 0 64 (dk_at dksX16_reads_0 1 rfl rfl)
theorem dX16_reads_4 : decode cX16_reads 4 = .ok (.aload_n 0, 1) := dk_42 (dk_at dksX16_reads_0 4 rfl rfl)
theorem dX16_reads_5 : decode cX16_reads 5 = .ok (.invokevirtual 49, 3) := dk_182 0 49 (dk_at dksX16_reads_0 5 rfl rfl)
theorem dX16_reads_8 : decode cX16_reads 8 = .ok (.ifCond .eq 23, 3) := dk_153 0 23 (dk_at dksX16_reads_0 8 rfl rfl)
theorem dX16_reads_11 : decode cX16_reads 11 = .ok (.aload_n 0, 1) := dk_42 (dk_at dksX16_reads_0 11 rfl rfl)
theorem dX16_reads_12 : decode cX16_reads 12 = .ok (.getfield 32, 3) := dk_180 0 32 (dk_at dksX16_reads_0 12 rfl rfl)
theorem dX16_reads_15 : decode cX16_reads 15 = .ok (.aload_n 0, 1) := dk_42 (dk_at dksX16_reads_0 15 rfl rfl)
theorem dX16_reads_16 : decode cX16_reads 16 = .ok (.getfield 28, 3) := dk_180 0 28 (dk_at dksX16_reads_0 16 rfl rfl)
theorem dX16_reads_19 : decode cX16_reads 19 = .ok (.if_icmp .ge 12, 3) := dk_162 0 12 (dk_at dksX16_reads_0 19 rfl rfl)
theorem dX16_reads_22 : decode cX16_reads 22 = .ok (.aload_n 0, 1) := dk_42 (dk_at dksX16_reads_0 22 rfl rfl)
theorem dX16_reads_23 : decode cX16_reads 23 = .ok (.iconst 1, 1) := dk_4 (dk_at dksX16_reads_0 23 rfl rfl)
theorem dX16_reads_24 : decode cX16_reads 24 = .ok (.aload_n 0, 1) := dk_42 (dk_at dksX16_reads_1 0 rfl rfl)
theorem dX16_reads_25 : decode cX16_reads 25 = .ok (.getfield 32, 3) := dk_180 0 32 (dk_at dksX16_reads_1 1 rfl rfl)
theorem dX16_reads_28 : decode cX16_reads 28 = .ok (.invokevirtual 57, 3) := dk_182 0 57 (dk_at dksX16_reads_1 4 rfl rfl)
theorem dX16_reads_31 : decode cX16_reads 31 = .ok (.aload_n 0, 1) := dk_42 (dk_at dksX16_reads_1 7 rfl rfl)
theorem dX16_reads_32 : decode cX16_reads 32 = .ok (.invokevirtual 49, 3) := dk_182 0 49 (dk_at dksX16_reads_1 8 rfl rfl)
theorem dX16_reads_35 : decode cX16_reads 35 = .ok (.ifCond .eq 10, 3) := dk_153 0 10 (dk_at dksX16_reads_1 11 rfl rfl)
theorem dX16_reads_38 : decode cX16_reads 38 = .ok (.aload_n 0, 1) := dk_42 (dk_at dksX16_reads_1 14 rfl rfl)
theorem dX16_reads_39 : decode cX16_reads 39 = .ok (.getfield 78, 3) := dk_180 0 78 (dk_at dksX16_reads_1 15 rfl rfl)
theorem dX16_reads_42 : decode cX16_reads 42 = .ok (.goto 16, 3) := dk_167 0 16 (dk_at dksX16_reads_1 18 rfl rfl)
theorem dX16_reads_45 : decode cX16_reads 45 = .ok (.sipush (-1000), 3) := dk_17 252 24 (dk_at dksX16_reads_1 21 rfl rfl)
theorem dX16_reads_48 : decode cX16_reads 48 = .ok (.aload_n 0, 1) := dk_42 (dk_at dksX16_reads_2 0 rfl rfl)
theorem dX16_reads_49 : decode cX16_reads 49 = .ok (.getfield 39, 3) := dk_180 0 39 (dk_at dksX16_reads_2 1 rfl rfl)
theorem dX16_reads_52 : decode cX16_reads 52 = .ok (.imul, 1) := dk_104 (dk_at dksX16_reads_2 4 rfl rfl)
theorem dX16_reads_53 : decode cX16_reads 53 = .ok (.aload_n 0, 1) := dk_42 (dk_at dksX16_reads_2 5 rfl rfl)
theorem dX16_reads_54 : decode cX16_reads 54 = .ok (.getfield 42, 3) := dk_180 0 42 (dk_at dksX16_reads_2 6 rfl rfl)
theorem dX16_reads_57 : decode cX16_reads 57 = .ok (.isub, 1) := dk_100 (dk_at dksX16_reads_2 9 rfl rfl)
theorem dX16_reads_58 : decode cX16_reads 58 = .ok (.ireturn, 1) := dk_172 (dk_at dksX16_reads_2 10 rfl rfl)
abbrev cX16_all : ByteArray := prog_11_method_9_code
def yX16_all : MethodName := ⟨RX16, "all", "()V"⟩
def dkwX16_all_2 : List UInt8 := [167, 255, 215, 177]
abbrev dktX16_all_2 : List UInt8 := dkwX16_all_2 ++ []
def dkwX16_all_1 : List UInt8 := [42, 180, 0, 28, 162, 0, 16, 42, 182, 0, 45, 16, 41, 159, 0, 7, 4, 167, 0, 4, 3, 60]
abbrev dktX16_all_1 : List UInt8 := dkwX16_all_1 ++ dktX16_all_2
def dkwX16_all_0 : List UInt8 := [42, 182, 0, 49, 60, 27, 153, 0, 43, 42, 182, 0, 87, 42, 182, 0, 49, 153, 0, 27, 42, 180, 0, 32]
abbrev dktX16_all_0 : List UInt8 := dkwX16_all_0 ++ dktX16_all_1
theorem dksX16_all_0 : cX16_all.data.toList.drop 0 = dktX16_all_0 := by decide +kernel
theorem dksX16_all_1 : cX16_all.data.toList.drop 24 = dktX16_all_1 := dk_seg dksX16_all_0 24 rfl rfl
theorem dksX16_all_2 : cX16_all.data.toList.drop 46 = dktX16_all_2 := dk_seg dksX16_all_1 22 rfl rfl
theorem dX16_all_0 : decode cX16_all 0 = .ok (.aload_n 0, 1) := dk_42 (dk_at dksX16_all_0 0 rfl rfl)
theorem dX16_all_1 : decode cX16_all 1 = .ok (.invokevirtual 49, 3) := dk_182 0 49 (dk_at dksX16_all_0 1 rfl rfl)
theorem dX16_all_4 : decode cX16_all 4 = .ok (.istore_n 1, 1) := dk_60 (dk_at dksX16_all_0 4 rfl rfl)
theorem dX16_all_5 : decode cX16_all 5 = .ok (.iload_n 1, 1) := dk_27 (dk_at dksX16_all_0 5 rfl rfl)
theorem dX16_all_6 : decode cX16_all 6 = .ok (.ifCond .eq 43, 3) := dk_153 0 43 (dk_at dksX16_all_0 6 rfl rfl)
theorem dX16_all_9 : decode cX16_all 9 = .ok (.aload_n 0, 1) := dk_42 (dk_at dksX16_all_0 9 rfl rfl)
theorem dX16_all_10 : decode cX16_all 10 = .ok (.invokevirtual 87, 3) := dk_182 0 87 (dk_at dksX16_all_0 10 rfl rfl)
theorem dX16_all_13 : decode cX16_all 13 = .ok (.aload_n 0, 1) := dk_42 (dk_at dksX16_all_0 13 rfl rfl)
theorem dX16_all_14 : decode cX16_all 14 = .ok (.invokevirtual 49, 3) := dk_182 0 49 (dk_at dksX16_all_0 14 rfl rfl)
theorem dX16_all_17 : decode cX16_all 17 = .ok (.ifCond .eq 27, 3) := dk_153 0 27 (dk_at dksX16_all_0 17 rfl rfl)
theorem dX16_all_20 : decode cX16_all 20 = .ok (.aload_n 0, 1) := dk_42 (dk_at dksX16_all_0 20 rfl rfl)
theorem dX16_all_21 : decode cX16_all 21 = .ok (.getfield 32, 3) := dk_180 0 32 (dk_at dksX16_all_0 21 rfl rfl)
theorem dX16_all_24 : decode cX16_all 24 = .ok (.aload_n 0, 1) := dk_42 (dk_at dksX16_all_1 0 rfl rfl)
theorem dX16_all_25 : decode cX16_all 25 = .ok (.getfield 28, 3) := dk_180 0 28 (dk_at dksX16_all_1 1 rfl rfl)
theorem dX16_all_28 : decode cX16_all 28 = .ok (.if_icmp .ge 16, 3) := dk_162 0 16 (dk_at dksX16_all_1 4 rfl rfl)
theorem dX16_all_31 : decode cX16_all 31 = .ok (.aload_n 0, 1) := dk_42 (dk_at dksX16_all_1 7 rfl rfl)
theorem dX16_all_32 : decode cX16_all 32 = .ok (.invokevirtual 45, 3) := dk_182 0 45 (dk_at dksX16_all_1 8 rfl rfl)
theorem dX16_all_35 : decode cX16_all 35 = .ok (.bipush 41, 2) := dk_16 41 (dk_at dksX16_all_1 11 rfl rfl)
theorem dX16_all_37 : decode cX16_all 37 = .ok (.if_icmp .eq 7, 3) := dk_159 0 7 (dk_at dksX16_all_1 13 rfl rfl)
theorem dX16_all_40 : decode cX16_all 40 = .ok (.iconst 1, 1) := dk_4 (dk_at dksX16_all_1 16 rfl rfl)
theorem dX16_all_41 : decode cX16_all 41 = .ok (.goto 4, 3) := dk_167 0 4 (dk_at dksX16_all_1 17 rfl rfl)
theorem dX16_all_44 : decode cX16_all 44 = .ok (.iconst 0, 1) := dk_3 (dk_at dksX16_all_1 20 rfl rfl)
theorem dX16_all_45 : decode cX16_all 45 = .ok (.istore_n 1, 1) := dk_60 (dk_at dksX16_all_1 21 rfl rfl)
theorem dX16_all_46 : decode cX16_all 46 = .ok (.goto (-41), 3) := dk_167 255 215 (dk_at dksX16_all_2 0 rfl rfl)
theorem dX16_all_49 : decode cX16_all 49 = .ok (.return_, 1) := dk_177 (dk_at dksX16_all_2 3 rfl rfl)
abbrev cX16_isGood : ByteArray := prog_11_method_4_code
def yX16_isGood : MethodName := ⟨RX16, "isGood", "()Z"⟩
def dkwX16_isGood_0 : List UInt8 := [42, 180, 0, 39, 154, 0, 7, 4, 167, 0, 4, 3, 172]
abbrev dktX16_isGood_0 : List UInt8 := dkwX16_isGood_0 ++ []
theorem dksX16_isGood_0 : cX16_isGood.data.toList.drop 0 = dktX16_isGood_0 := by decide +kernel
theorem dX16_isGood_0 : decode cX16_isGood 0 = .ok (.aload_n 0, 1) := dk_42 (dk_at dksX16_isGood_0 0 rfl rfl)
theorem dX16_isGood_1 : decode cX16_isGood 1 = .ok (.getfield 39, 3) := dk_180 0 39 (dk_at dksX16_isGood_0 1 rfl rfl)
theorem dX16_isGood_4 : decode cX16_isGood 4 = .ok (.ifCond .ne 7, 3) := dk_154 0 7 (dk_at dksX16_isGood_0 4 rfl rfl)
theorem dX16_isGood_7 : decode cX16_isGood 7 = .ok (.iconst 1, 1) := dk_4 (dk_at dksX16_isGood_0 7 rfl rfl)
theorem dX16_isGood_8 : decode cX16_isGood 8 = .ok (.goto 4, 3) := dk_167 0 4 (dk_at dksX16_isGood_0 8 rfl rfl)
theorem dX16_isGood_11 : decode cX16_isGood 11 = .ok (.iconst 0, 1) := dk_3 (dk_at dksX16_isGood_0 11 rfl rfl)
theorem dX16_isGood_12 : decode cX16_isGood 12 = .ok (.ireturn, 1) := dk_172 (dk_at dksX16_isGood_0 12 rfl rfl)
abbrev cX16_one : ByteArray := prog_11_method_8_code
def yX16_one : MethodName := ⟨RX16, "one", "()V"⟩
def dkwX16_one_9 : List UInt8 := [42, 89, 180, 0, 78, 4, 96, 181, 0, 78, 132, 5, 1, 167, 255, 143, 177]
abbrev dktX16_one_9 : List UInt8 := dkwX16_one_9 ++ []
def dkwX16_one_8 : List UInt8 := [96, 46, 79, 42, 180, 0, 25, 42, 180, 0, 78, 42, 180, 0, 25, 29, 21, 5, 21, 4, 112, 96, 46, 79]
abbrev dktX16_one_8 : List UInt8 := dkwX16_one_8 ++ dktX16_one_9
def dkwX16_one_7 : List UInt8 := [21, 4, 112, 96, 46, 79, 42, 180, 0, 22, 42, 180, 0, 78, 42, 180, 0, 22, 29, 21, 5, 21, 4, 112]
abbrev dktX16_one_7 : List UInt8 := dkwX16_one_7 ++ dktX16_one_8
def dkwX16_one_6 : List UInt8 := [29, 21, 5, 21, 4, 112, 96, 46, 79, 42, 180, 0, 19, 42, 180, 0, 78, 42, 180, 0, 19, 29, 21, 5]
abbrev dktX16_one_6 : List UInt8 := dkwX16_one_6 ++ dktX16_one_7
def dkwX16_one_5 : List UInt8 := [153, 0, 112, 21, 5, 21, 4, 28, 104, 162, 0, 103, 42, 180, 0, 15, 42, 180, 0, 78, 42, 180, 0, 15]
abbrev dktX16_one_5 : List UInt8 := dkwX16_one_5 ++ dktX16_one_6
def dkwX16_one_4 : List UInt8 := [28, 104, 96, 17, 0, 200, 164, 0, 10, 42, 16, 6, 27, 182, 0, 57, 21, 4, 54, 5, 42, 182, 0, 49]
abbrev dktX16_one_4 : List UInt8 := dkwX16_one_4 ++ dktX16_one_5
def dkwX16_one_3 : List UInt8 := [42, 27, 28, 182, 0, 84, 42, 180, 0, 78, 29, 100, 54, 4, 42, 182, 0, 49, 153, 0, 22, 29, 21, 4]
abbrev dktX16_one_3 : List UInt8 := dkwX16_one_3 ++ dktX16_one_4
def dkwX16_one_2 : List UInt8 := [181, 0, 32, 42, 180, 0, 78, 62, 42, 182, 0, 45, 16, 40, 160, 0, 10, 42, 182, 0, 81, 167, 0, 9]
abbrev dktX16_one_2 : List UInt8 := dkwX16_one_2 ++ dktX16_one_3
def dkwX16_one_1 : List UInt8 := [182, 0, 45, 16, 48, 100, 167, 0, 4, 4, 61, 28, 4, 164, 0, 13, 42, 89, 180, 0, 32, 4, 96]
abbrev dktX16_one_1 : List UInt8 := dkwX16_one_1 ++ dktX16_one_2
def dkwX16_one_0 : List UInt8 := [42, 180, 0, 32, 60, 42, 182, 0, 45, 16, 50, 161, 0, 22, 42, 182, 0, 45, 16, 57, 163, 0, 13, 42]
abbrev dktX16_one_0 : List UInt8 := dkwX16_one_0 ++ dktX16_one_1
theorem dksX16_one_0 : cX16_one.data.toList.drop 0 = dktX16_one_0 := by decide +kernel
theorem dksX16_one_1 : cX16_one.data.toList.drop 24 = dktX16_one_1 := dk_seg dksX16_one_0 24 rfl rfl
theorem dksX16_one_2 : cX16_one.data.toList.drop 47 = dktX16_one_2 := dk_seg dksX16_one_1 23 rfl rfl
theorem dksX16_one_3 : cX16_one.data.toList.drop 71 = dktX16_one_3 := dk_seg dksX16_one_2 24 rfl rfl
theorem dksX16_one_4 : cX16_one.data.toList.drop 95 = dktX16_one_4 := dk_seg dksX16_one_3 24 rfl rfl
theorem dksX16_one_5 : cX16_one.data.toList.drop 119 = dktX16_one_5 := dk_seg dksX16_one_4 24 rfl rfl
theorem dksX16_one_6 : cX16_one.data.toList.drop 143 = dktX16_one_6 := dk_seg dksX16_one_5 24 rfl rfl
theorem dksX16_one_7 : cX16_one.data.toList.drop 167 = dktX16_one_7 := dk_seg dksX16_one_6 24 rfl rfl
theorem dksX16_one_8 : cX16_one.data.toList.drop 191 = dktX16_one_8 := dk_seg dksX16_one_7 24 rfl rfl
theorem dksX16_one_9 : cX16_one.data.toList.drop 215 = dktX16_one_9 := dk_seg dksX16_one_8 24 rfl rfl
theorem dX16_one_0 : decode cX16_one 0 = .ok (.aload_n 0, 1) := dk_42 (dk_at dksX16_one_0 0 rfl rfl)
theorem dX16_one_1 : decode cX16_one 1 = .ok (.getfield 32, 3) := dk_180 0 32 (dk_at dksX16_one_0 1 rfl rfl)
theorem dX16_one_4 : decode cX16_one 4 = .ok (.istore_n 1, 1) := dk_60 (dk_at dksX16_one_0 4 rfl rfl)
theorem dX16_one_5 : decode cX16_one 5 = .ok (.aload_n 0, 1) := dk_42 (dk_at dksX16_one_0 5 rfl rfl)
theorem dX16_one_6 : decode cX16_one 6 = .ok (.invokevirtual 45, 3) := dk_182 0 45 (dk_at dksX16_one_0 6 rfl rfl)
theorem dX16_one_9 : decode cX16_one 9 = .ok (.bipush 50, 2) := dk_16 50 (dk_at dksX16_one_0 9 rfl rfl)
theorem dX16_one_11 : decode cX16_one 11 = .ok (.if_icmp .lt 22, 3) := dk_161 0 22 (dk_at dksX16_one_0 11 rfl rfl)
theorem dX16_one_14 : decode cX16_one 14 = .ok (.aload_n 0, 1) := dk_42 (dk_at dksX16_one_0 14 rfl rfl)
theorem dX16_one_15 : decode cX16_one 15 = .ok (.invokevirtual 45, 3) := dk_182 0 45 (dk_at dksX16_one_0 15 rfl rfl)
theorem dX16_one_18 : decode cX16_one 18 = .ok (.bipush 57, 2) := dk_16 57 (dk_at dksX16_one_0 18 rfl rfl)
theorem dX16_one_20 : decode cX16_one 20 = .ok (.if_icmp .gt 13, 3) := dk_163 0 13 (dk_at dksX16_one_0 20 rfl rfl)
theorem dX16_one_23 : decode cX16_one 23 = .ok (.aload_n 0, 1) := dk_42 (dk_at dksX16_one_0 23 rfl rfl)
theorem dX16_one_24 : decode cX16_one 24 = .ok (.invokevirtual 45, 3) := dk_182 0 45 (dk_at dksX16_one_1 0 rfl rfl)
theorem dX16_one_27 : decode cX16_one 27 = .ok (.bipush 48, 2) := dk_16 48 (dk_at dksX16_one_1 3 rfl rfl)
theorem dX16_one_29 : decode cX16_one 29 = .ok (.isub, 1) := dk_100 (dk_at dksX16_one_1 5 rfl rfl)
theorem dX16_one_30 : decode cX16_one 30 = .ok (.goto 4, 3) := dk_167 0 4 (dk_at dksX16_one_1 6 rfl rfl)
theorem dX16_one_33 : decode cX16_one 33 = .ok (.iconst 1, 1) := dk_4 (dk_at dksX16_one_1 9 rfl rfl)
theorem dX16_one_34 : decode cX16_one 34 = .ok (.istore_n 2, 1) := dk_61 (dk_at dksX16_one_1 10 rfl rfl)
theorem dX16_one_35 : decode cX16_one 35 = .ok (.iload_n 2, 1) := dk_28 (dk_at dksX16_one_1 11 rfl rfl)
theorem dX16_one_36 : decode cX16_one 36 = .ok (.iconst 1, 1) := dk_4 (dk_at dksX16_one_1 12 rfl rfl)
theorem dX16_one_37 : decode cX16_one 37 = .ok (.if_icmp .le 13, 3) := dk_164 0 13 (dk_at dksX16_one_1 13 rfl rfl)
theorem dX16_one_40 : decode cX16_one 40 = .ok (.aload_n 0, 1) := dk_42 (dk_at dksX16_one_1 16 rfl rfl)
theorem dX16_one_41 : decode cX16_one 41 = .ok (.dup, 1) := dk_89 (dk_at dksX16_one_1 17 rfl rfl)
theorem dX16_one_42 : decode cX16_one 42 = .ok (.getfield 32, 3) := dk_180 0 32 (dk_at dksX16_one_1 18 rfl rfl)
theorem dX16_one_45 : decode cX16_one 45 = .ok (.iconst 1, 1) := dk_4 (dk_at dksX16_one_1 21 rfl rfl)
theorem dX16_one_46 : decode cX16_one 46 = .ok (.iadd, 1) := dk_96 (dk_at dksX16_one_1 22 rfl rfl)
theorem dX16_one_47 : decode cX16_one 47 = .ok (.putfield 32, 3) := dk_181 0 32 (dk_at dksX16_one_2 0 rfl rfl)
theorem dX16_one_50 : decode cX16_one 50 = .ok (.aload_n 0, 1) := dk_42 (dk_at dksX16_one_2 3 rfl rfl)
theorem dX16_one_51 : decode cX16_one 51 = .ok (.getfield 78, 3) := dk_180 0 78 (dk_at dksX16_one_2 4 rfl rfl)
theorem dX16_one_54 : decode cX16_one 54 = .ok (.istore_n 3, 1) := dk_62 (dk_at dksX16_one_2 7 rfl rfl)
theorem dX16_one_55 : decode cX16_one 55 = .ok (.aload_n 0, 1) := dk_42 (dk_at dksX16_one_2 8 rfl rfl)
theorem dX16_one_56 : decode cX16_one 56 = .ok (.invokevirtual 45, 3) := dk_182 0 45 (dk_at dksX16_one_2 9 rfl rfl)
theorem dX16_one_59 : decode cX16_one 59 = .ok (.bipush 40, 2) := dk_16 40 (dk_at dksX16_one_2 12 rfl rfl)
theorem dX16_one_61 : decode cX16_one 61 = .ok (.if_icmp .ne 10, 3) := dk_160 0 10 (dk_at dksX16_one_2 14 rfl rfl)
theorem dX16_one_64 : decode cX16_one 64 = .ok (.aload_n 0, 1) := dk_42 (dk_at dksX16_one_2 17 rfl rfl)
theorem dX16_one_65 : decode cX16_one 65 = .ok (.invokevirtual 81, 3) := dk_182 0 81 (dk_at dksX16_one_2 18 rfl rfl)
theorem dX16_one_68 : decode cX16_one 68 = .ok (.goto 9, 3) := dk_167 0 9 (dk_at dksX16_one_2 21 rfl rfl)
theorem dX16_one_71 : decode cX16_one 71 = .ok (.aload_n 0, 1) := dk_42 (dk_at dksX16_one_3 0 rfl rfl)
theorem dX16_one_72 : decode cX16_one 72 = .ok (.iload_n 1, 1) := dk_27 (dk_at dksX16_one_3 1 rfl rfl)
theorem dX16_one_73 : decode cX16_one 73 = .ok (.iload_n 2, 1) := dk_28 (dk_at dksX16_one_3 2 rfl rfl)
theorem dX16_one_74 : decode cX16_one 74 = .ok (.invokevirtual 84, 3) := dk_182 0 84 (dk_at dksX16_one_3 3 rfl rfl)
theorem dX16_one_77 : decode cX16_one 77 = .ok (.aload_n 0, 1) := dk_42 (dk_at dksX16_one_3 6 rfl rfl)
theorem dX16_one_78 : decode cX16_one 78 = .ok (.getfield 78, 3) := dk_180 0 78 (dk_at dksX16_one_3 7 rfl rfl)
theorem dX16_one_81 : decode cX16_one 81 = .ok (.iload_n 3, 1) := dk_29 (dk_at dksX16_one_3 10 rfl rfl)
theorem dX16_one_82 : decode cX16_one 82 = .ok (.isub, 1) := dk_100 (dk_at dksX16_one_3 11 rfl rfl)
theorem dX16_one_83 : decode cX16_one 83 = .ok (.istore 4, 2) := dk_54 4 (dk_at dksX16_one_3 12 rfl rfl)
theorem dX16_one_85 : decode cX16_one 85 = .ok (.aload_n 0, 1) := dk_42 (dk_at dksX16_one_3 14 rfl rfl)
theorem dX16_one_86 : decode cX16_one 86 = .ok (.invokevirtual 49, 3) := dk_182 0 49 (dk_at dksX16_one_3 15 rfl rfl)
theorem dX16_one_89 : decode cX16_one 89 = .ok (.ifCond .eq 22, 3) := dk_153 0 22 (dk_at dksX16_one_3 18 rfl rfl)
theorem dX16_one_92 : decode cX16_one 92 = .ok (.iload_n 3, 1) := dk_29 (dk_at dksX16_one_3 21 rfl rfl)
theorem dX16_one_93 : decode cX16_one 93 = .ok (.iload 4, 2) := dk_21 4 (dk_at dksX16_one_3 22 rfl rfl)
theorem dX16_one_95 : decode cX16_one 95 = .ok (.iload_n 2, 1) := dk_28 (dk_at dksX16_one_4 0 rfl rfl)
theorem dX16_one_96 : decode cX16_one 96 = .ok (.imul, 1) := dk_104 (dk_at dksX16_one_4 1 rfl rfl)
theorem dX16_one_97 : decode cX16_one 97 = .ok (.iadd, 1) := dk_96 (dk_at dksX16_one_4 2 rfl rfl)
theorem dX16_one_98 : decode cX16_one 98 = .ok (.sipush 200, 3) := dk_17 0 200 (dk_at dksX16_one_4 3 rfl rfl)
theorem dX16_one_101 : decode cX16_one 101 = .ok (.if_icmp .le 10, 3) := dk_164 0 10 (dk_at dksX16_one_4 6 rfl rfl)
theorem dX16_one_104 : decode cX16_one 104 = .ok (.aload_n 0, 1) := dk_42 (dk_at dksX16_one_4 9 rfl rfl)
theorem dX16_one_105 : decode cX16_one 105 = .ok (.bipush 6, 2) := dk_16 6 (dk_at dksX16_one_4 10 rfl rfl)
theorem dX16_one_107 : decode cX16_one 107 = .ok (.iload_n 1, 1) := dk_27 (dk_at dksX16_one_4 12 rfl rfl)
theorem dX16_one_108 : decode cX16_one 108 = .ok (.invokevirtual 57, 3) := dk_182 0 57 (dk_at dksX16_one_4 13 rfl rfl)
theorem dX16_one_111 : decode cX16_one 111 = .ok (.iload 4, 2) := dk_21 4 (dk_at dksX16_one_4 16 rfl rfl)
theorem dX16_one_113 : decode cX16_one 113 = .ok (.istore 5, 2) := dk_54 5 (dk_at dksX16_one_4 18 rfl rfl)
theorem dX16_one_115 : decode cX16_one 115 = .ok (.aload_n 0, 1) := dk_42 (dk_at dksX16_one_4 20 rfl rfl)
theorem dX16_one_116 : decode cX16_one 116 = .ok (.invokevirtual 49, 3) := dk_182 0 49 (dk_at dksX16_one_4 21 rfl rfl)
theorem dX16_one_119 : decode cX16_one 119 = .ok (.ifCond .eq 112, 3) := dk_153 0 112 (dk_at dksX16_one_5 0 rfl rfl)
theorem dX16_one_122 : decode cX16_one 122 = .ok (.iload 5, 2) := dk_21 5 (dk_at dksX16_one_5 3 rfl rfl)
theorem dX16_one_124 : decode cX16_one 124 = .ok (.iload 4, 2) := dk_21 4 (dk_at dksX16_one_5 5 rfl rfl)
theorem dX16_one_126 : decode cX16_one 126 = .ok (.iload_n 2, 1) := dk_28 (dk_at dksX16_one_5 7 rfl rfl)
theorem dX16_one_127 : decode cX16_one 127 = .ok (.imul, 1) := dk_104 (dk_at dksX16_one_5 8 rfl rfl)
theorem dX16_one_128 : decode cX16_one 128 = .ok (.if_icmp .ge 103, 3) := dk_162 0 103 (dk_at dksX16_one_5 9 rfl rfl)
theorem dX16_one_131 : decode cX16_one 131 = .ok (.aload_n 0, 1) := dk_42 (dk_at dksX16_one_5 12 rfl rfl)
theorem dX16_one_132 : decode cX16_one 132 = .ok (.getfield 15, 3) := dk_180 0 15 (dk_at dksX16_one_5 13 rfl rfl)
theorem dX16_one_135 : decode cX16_one 135 = .ok (.aload_n 0, 1) := dk_42 (dk_at dksX16_one_5 16 rfl rfl)
theorem dX16_one_136 : decode cX16_one 136 = .ok (.getfield 78, 3) := dk_180 0 78 (dk_at dksX16_one_5 17 rfl rfl)
theorem dX16_one_139 : decode cX16_one 139 = .ok (.aload_n 0, 1) := dk_42 (dk_at dksX16_one_5 20 rfl rfl)
theorem dX16_one_140 : decode cX16_one 140 = .ok (.getfield 15, 3) := dk_180 0 15 (dk_at dksX16_one_5 21 rfl rfl)
theorem dX16_one_143 : decode cX16_one 143 = .ok (.iload_n 3, 1) := dk_29 (dk_at dksX16_one_6 0 rfl rfl)
theorem dX16_one_144 : decode cX16_one 144 = .ok (.iload 5, 2) := dk_21 5 (dk_at dksX16_one_6 1 rfl rfl)
theorem dX16_one_146 : decode cX16_one 146 = .ok (.iload 4, 2) := dk_21 4 (dk_at dksX16_one_6 3 rfl rfl)
theorem dX16_one_148 : decode cX16_one 148 = .ok (.irem, 1) := dk_112 (dk_at dksX16_one_6 5 rfl rfl)
theorem dX16_one_149 : decode cX16_one 149 = .ok (.iadd, 1) := dk_96 (dk_at dksX16_one_6 6 rfl rfl)
theorem dX16_one_150 : decode cX16_one 150 = .ok (.iaload, 1) := dk_46 (dk_at dksX16_one_6 7 rfl rfl)
theorem dX16_one_151 : decode cX16_one 151 = .ok (.iastore, 1) := dk_79 (dk_at dksX16_one_6 8 rfl rfl)
theorem dX16_one_152 : decode cX16_one 152 = .ok (.aload_n 0, 1) := dk_42 (dk_at dksX16_one_6 9 rfl rfl)
theorem dX16_one_153 : decode cX16_one 153 = .ok (.getfield 19, 3) := dk_180 0 19 (dk_at dksX16_one_6 10 rfl rfl)
theorem dX16_one_156 : decode cX16_one 156 = .ok (.aload_n 0, 1) := dk_42 (dk_at dksX16_one_6 13 rfl rfl)
theorem dX16_one_157 : decode cX16_one 157 = .ok (.getfield 78, 3) := dk_180 0 78 (dk_at dksX16_one_6 14 rfl rfl)
theorem dX16_one_160 : decode cX16_one 160 = .ok (.aload_n 0, 1) := dk_42 (dk_at dksX16_one_6 17 rfl rfl)
theorem dX16_one_161 : decode cX16_one 161 = .ok (.getfield 19, 3) := dk_180 0 19 (dk_at dksX16_one_6 18 rfl rfl)
theorem dX16_one_164 : decode cX16_one 164 = .ok (.iload_n 3, 1) := dk_29 (dk_at dksX16_one_6 21 rfl rfl)
theorem dX16_one_165 : decode cX16_one 165 = .ok (.iload 5, 2) := dk_21 5 (dk_at dksX16_one_6 22 rfl rfl)
theorem dX16_one_167 : decode cX16_one 167 = .ok (.iload 4, 2) := dk_21 4 (dk_at dksX16_one_7 0 rfl rfl)
theorem dX16_one_169 : decode cX16_one 169 = .ok (.irem, 1) := dk_112 (dk_at dksX16_one_7 2 rfl rfl)
theorem dX16_one_170 : decode cX16_one 170 = .ok (.iadd, 1) := dk_96 (dk_at dksX16_one_7 3 rfl rfl)
theorem dX16_one_171 : decode cX16_one 171 = .ok (.iaload, 1) := dk_46 (dk_at dksX16_one_7 4 rfl rfl)
theorem dX16_one_172 : decode cX16_one 172 = .ok (.iastore, 1) := dk_79 (dk_at dksX16_one_7 5 rfl rfl)
theorem dX16_one_173 : decode cX16_one 173 = .ok (.aload_n 0, 1) := dk_42 (dk_at dksX16_one_7 6 rfl rfl)
theorem dX16_one_174 : decode cX16_one 174 = .ok (.getfield 22, 3) := dk_180 0 22 (dk_at dksX16_one_7 7 rfl rfl)
theorem dX16_one_177 : decode cX16_one 177 = .ok (.aload_n 0, 1) := dk_42 (dk_at dksX16_one_7 10 rfl rfl)
theorem dX16_one_178 : decode cX16_one 178 = .ok (.getfield 78, 3) := dk_180 0 78 (dk_at dksX16_one_7 11 rfl rfl)
theorem dX16_one_181 : decode cX16_one 181 = .ok (.aload_n 0, 1) := dk_42 (dk_at dksX16_one_7 14 rfl rfl)
theorem dX16_one_182 : decode cX16_one 182 = .ok (.getfield 22, 3) := dk_180 0 22 (dk_at dksX16_one_7 15 rfl rfl)
theorem dX16_one_185 : decode cX16_one 185 = .ok (.iload_n 3, 1) := dk_29 (dk_at dksX16_one_7 18 rfl rfl)
theorem dX16_one_186 : decode cX16_one 186 = .ok (.iload 5, 2) := dk_21 5 (dk_at dksX16_one_7 19 rfl rfl)
theorem dX16_one_188 : decode cX16_one 188 = .ok (.iload 4, 2) := dk_21 4 (dk_at dksX16_one_7 21 rfl rfl)
theorem dX16_one_190 : decode cX16_one 190 = .ok (.irem, 1) := dk_112 (dk_at dksX16_one_7 23 rfl rfl)
theorem dX16_one_191 : decode cX16_one 191 = .ok (.iadd, 1) := dk_96 (dk_at dksX16_one_8 0 rfl rfl)
theorem dX16_one_192 : decode cX16_one 192 = .ok (.iaload, 1) := dk_46 (dk_at dksX16_one_8 1 rfl rfl)
theorem dX16_one_193 : decode cX16_one 193 = .ok (.iastore, 1) := dk_79 (dk_at dksX16_one_8 2 rfl rfl)
theorem dX16_one_194 : decode cX16_one 194 = .ok (.aload_n 0, 1) := dk_42 (dk_at dksX16_one_8 3 rfl rfl)
theorem dX16_one_195 : decode cX16_one 195 = .ok (.getfield 25, 3) := dk_180 0 25 (dk_at dksX16_one_8 4 rfl rfl)
theorem dX16_one_198 : decode cX16_one 198 = .ok (.aload_n 0, 1) := dk_42 (dk_at dksX16_one_8 7 rfl rfl)
theorem dX16_one_199 : decode cX16_one 199 = .ok (.getfield 78, 3) := dk_180 0 78 (dk_at dksX16_one_8 8 rfl rfl)
theorem dX16_one_202 : decode cX16_one 202 = .ok (.aload_n 0, 1) := dk_42 (dk_at dksX16_one_8 11 rfl rfl)
theorem dX16_one_203 : decode cX16_one 203 = .ok (.getfield 25, 3) := dk_180 0 25 (dk_at dksX16_one_8 12 rfl rfl)
theorem dX16_one_206 : decode cX16_one 206 = .ok (.iload_n 3, 1) := dk_29 (dk_at dksX16_one_8 15 rfl rfl)
theorem dX16_one_207 : decode cX16_one 207 = .ok (.iload 5, 2) := dk_21 5 (dk_at dksX16_one_8 16 rfl rfl)
theorem dX16_one_209 : decode cX16_one 209 = .ok (.iload 4, 2) := dk_21 4 (dk_at dksX16_one_8 18 rfl rfl)
theorem dX16_one_211 : decode cX16_one 211 = .ok (.irem, 1) := dk_112 (dk_at dksX16_one_8 20 rfl rfl)
theorem dX16_one_212 : decode cX16_one 212 = .ok (.iadd, 1) := dk_96 (dk_at dksX16_one_8 21 rfl rfl)
theorem dX16_one_213 : decode cX16_one 213 = .ok (.iaload, 1) := dk_46 (dk_at dksX16_one_8 22 rfl rfl)
theorem dX16_one_214 : decode cX16_one 214 = .ok (.iastore, 1) := dk_79 (dk_at dksX16_one_8 23 rfl rfl)
theorem dX16_one_215 : decode cX16_one 215 = .ok (.aload_n 0, 1) := dk_42 (dk_at dksX16_one_9 0 rfl rfl)
theorem dX16_one_216 : decode cX16_one 216 = .ok (.dup, 1) := dk_89 (dk_at dksX16_one_9 1 rfl rfl)
theorem dX16_one_217 : decode cX16_one 217 = .ok (.getfield 78, 3) := dk_180 0 78 (dk_at dksX16_one_9 2 rfl rfl)
theorem dX16_one_220 : decode cX16_one 220 = .ok (.iconst 1, 1) := dk_4 (dk_at dksX16_one_9 5 rfl rfl)
theorem dX16_one_221 : decode cX16_one 221 = .ok (.iadd, 1) := dk_96 (dk_at dksX16_one_9 6 rfl rfl)
theorem dX16_one_222 : decode cX16_one 222 = .ok (.putfield 78, 3) := dk_181 0 78 (dk_at dksX16_one_9 7 rfl rfl)
theorem dX16_one_225 : decode cX16_one 225 = .ok (.iinc 5 1, 3) := dk_132 5 1 (dk_at dksX16_one_9 10 rfl rfl)
theorem dX16_one_228 : decode cX16_one 228 = .ok (.goto (-113), 3) := dk_167 255 143 (dk_at dksX16_one_9 13 rfl rfl)
theorem dX16_one_231 : decode cX16_one 231 = .ok (.return_, 1) := dk_177 (dk_at dksX16_one_9 16 rfl rfl)
abbrev cX16_here : ByteArray := prog_11_method_2_code
def yX16_here : MethodName := ⟨RX16, "here", "()I"⟩
def dkwX16_here_1 : List UInt8 := [17, 0, 255, 126, 167, 0, 4, 3, 172]
abbrev dktX16_here_1 : List UInt8 := dkwX16_here_1 ++ []
def dkwX16_here_0 : List UInt8 := [42, 180, 0, 32, 42, 180, 0, 28, 162, 0, 22, 42, 180, 0, 3, 180, 0, 35, 42, 180, 0, 32, 51]
abbrev dktX16_here_0 : List UInt8 := dkwX16_here_0 ++ dktX16_here_1
theorem dksX16_here_0 : cX16_here.data.toList.drop 0 = dktX16_here_0 := by decide +kernel
theorem dksX16_here_1 : cX16_here.data.toList.drop 23 = dktX16_here_1 := dk_seg dksX16_here_0 23 rfl rfl
theorem dX16_here_0 : decode cX16_here 0 = .ok (.aload_n 0, 1) := dk_42 (dk_at dksX16_here_0 0 rfl rfl)
theorem dX16_here_1 : decode cX16_here 1 = .ok (.getfield 32, 3) := dk_180 0 32 (dk_at dksX16_here_0 1 rfl rfl)
theorem dX16_here_4 : decode cX16_here 4 = .ok (.aload_n 0, 1) := dk_42 (dk_at dksX16_here_0 4 rfl rfl)
theorem dX16_here_5 : decode cX16_here 5 = .ok (.getfield 28, 3) := dk_180 0 28 (dk_at dksX16_here_0 5 rfl rfl)
theorem dX16_here_8 : decode cX16_here 8 = .ok (.if_icmp .ge 22, 3) := dk_162 0 22 (dk_at dksX16_here_0 8 rfl rfl)
theorem dX16_here_11 : decode cX16_here 11 = .ok (.aload_n 0, 1) := dk_42 (dk_at dksX16_here_0 11 rfl rfl)
theorem dX16_here_12 : decode cX16_here 12 = .ok (.getfield 3, 3) := dk_180 0 3 (dk_at dksX16_here_0 12 rfl rfl)
theorem dX16_here_15 : decode cX16_here 15 = .ok (.getfield 35, 3) := dk_180 0 35 (dk_at dksX16_here_0 15 rfl rfl)
theorem dX16_here_18 : decode cX16_here 18 = .ok (.aload_n 0, 1) := dk_42 (dk_at dksX16_here_0 18 rfl rfl)
theorem dX16_here_19 : decode cX16_here 19 = .ok (.getfield 32, 3) := dk_180 0 32 (dk_at dksX16_here_0 19 rfl rfl)
theorem dX16_here_22 : decode cX16_here 22 = .ok (.baload, 1) := dk_51 (dk_at dksX16_here_0 22 rfl rfl)
theorem dX16_here_23 : decode cX16_here 23 = .ok (.sipush 255, 3) := dk_17 0 255 (dk_at dksX16_here_1 0 rfl rfl)
theorem dX16_here_26 : decode cX16_here 26 = .ok (.iand, 1) := dk_126 (dk_at dksX16_here_1 3 rfl rfl)
theorem dX16_here_27 : decode cX16_here 27 = .ok (.goto 4, 3) := dk_167 0 4 (dk_at dksX16_here_1 4 rfl rfl)
theorem dX16_here_30 : decode cX16_here 30 = .ok (.iconst 0, 1) := dk_3 (dk_at dksX16_here_1 7 rfl rfl)
theorem dX16_here_31 : decode cX16_here 31 = .ok (.ireturn, 1) := dk_172 (dk_at dksX16_here_1 8 rfl rfl)
abbrev cX16_rounds : ByteArray := prog_11_method_6_code
def yX16_rounds : MethodName := ⟨RX16, "rounds", "()V"⟩
def dkwX16_rounds_3 : List UInt8 := [96, 181, 0, 32, 42, 89, 180, 0, 61, 4, 100, 181, 0, 61, 177]
abbrev dktX16_rounds_3 : List UInt8 := dkwX16_rounds_3 ++ []
def dkwX16_rounds_2 : List UInt8 := [42, 182, 0, 45, 16, 41, 159, 0, 12, 42, 4, 42, 180, 0, 32, 182, 0, 57, 42, 89, 180, 0, 32, 4]
abbrev dktX16_rounds_2 : List UInt8 := dkwX16_rounds_2 ++ dktX16_rounds_3
def dkwX16_rounds_1 : List UInt8 := [181, 0, 32, 42, 89, 180, 0, 61, 4, 96, 181, 0, 61, 42, 182, 0, 64, 42, 182, 0, 49, 153, 0, 21]
abbrev dktX16_rounds_1 : List UInt8 := dkwX16_rounds_1 ++ dktX16_rounds_2
def dkwX16_rounds_0 : List UInt8 := [42, 180, 0, 61, 5, 160, 0, 12, 42, 8, 42, 180, 0, 32, 182, 0, 57, 42, 89, 180, 0, 32, 4, 96]
abbrev dktX16_rounds_0 : List UInt8 := dkwX16_rounds_0 ++ dktX16_rounds_1
theorem dksX16_rounds_0 : cX16_rounds.data.toList.drop 0 = dktX16_rounds_0 := by decide +kernel
theorem dksX16_rounds_1 : cX16_rounds.data.toList.drop 24 = dktX16_rounds_1 := dk_seg dksX16_rounds_0 24 rfl rfl
theorem dksX16_rounds_2 : cX16_rounds.data.toList.drop 48 = dktX16_rounds_2 := dk_seg dksX16_rounds_1 24 rfl rfl
theorem dksX16_rounds_3 : cX16_rounds.data.toList.drop 72 = dktX16_rounds_3 := dk_seg dksX16_rounds_2 24 rfl rfl
theorem dX16_rounds_0 : decode cX16_rounds 0 = .ok (.aload_n 0, 1) := dk_42 (dk_at dksX16_rounds_0 0 rfl rfl)
theorem dX16_rounds_1 : decode cX16_rounds 1 = .ok (.getfield 61, 3) := dk_180 0 61 (dk_at dksX16_rounds_0 1 rfl rfl)
theorem dX16_rounds_4 : decode cX16_rounds 4 = .ok (.iconst 2, 1) := dk_5 (dk_at dksX16_rounds_0 4 rfl rfl)
theorem dX16_rounds_5 : decode cX16_rounds 5 = .ok (.if_icmp .ne 12, 3) := dk_160 0 12 (dk_at dksX16_rounds_0 5 rfl rfl)
theorem dX16_rounds_8 : decode cX16_rounds 8 = .ok (.aload_n 0, 1) := dk_42 (dk_at dksX16_rounds_0 8 rfl rfl)
theorem dX16_rounds_9 : decode cX16_rounds 9 = .ok (.iconst 5, 1) := dk_8 (dk_at dksX16_rounds_0 9 rfl rfl)
theorem dX16_rounds_10 : decode cX16_rounds 10 = .ok (.aload_n 0, 1) := dk_42 (dk_at dksX16_rounds_0 10 rfl rfl)
theorem dX16_rounds_11 : decode cX16_rounds 11 = .ok (.getfield 32, 3) := dk_180 0 32 (dk_at dksX16_rounds_0 11 rfl rfl)
theorem dX16_rounds_14 : decode cX16_rounds 14 = .ok (.invokevirtual 57, 3) := dk_182 0 57 (dk_at dksX16_rounds_0 14 rfl rfl)
theorem dX16_rounds_17 : decode cX16_rounds 17 = .ok (.aload_n 0, 1) := dk_42 (dk_at dksX16_rounds_0 17 rfl rfl)
theorem dX16_rounds_18 : decode cX16_rounds 18 = .ok (.dup, 1) := dk_89 (dk_at dksX16_rounds_0 18 rfl rfl)
theorem dX16_rounds_19 : decode cX16_rounds 19 = .ok (.getfield 32, 3) := dk_180 0 32 (dk_at dksX16_rounds_0 19 rfl rfl)
theorem dX16_rounds_22 : decode cX16_rounds 22 = .ok (.iconst 1, 1) := dk_4 (dk_at dksX16_rounds_0 22 rfl rfl)
theorem dX16_rounds_23 : decode cX16_rounds 23 = .ok (.iadd, 1) := dk_96 (dk_at dksX16_rounds_0 23 rfl rfl)
theorem dX16_rounds_24 : decode cX16_rounds 24 = .ok (.putfield 32, 3) := dk_181 0 32 (dk_at dksX16_rounds_1 0 rfl rfl)
theorem dX16_rounds_27 : decode cX16_rounds 27 = .ok (.aload_n 0, 1) := dk_42 (dk_at dksX16_rounds_1 3 rfl rfl)
theorem dX16_rounds_28 : decode cX16_rounds 28 = .ok (.dup, 1) := dk_89 (dk_at dksX16_rounds_1 4 rfl rfl)
theorem dX16_rounds_29 : decode cX16_rounds 29 = .ok (.getfield 61, 3) := dk_180 0 61 (dk_at dksX16_rounds_1 5 rfl rfl)
theorem dX16_rounds_32 : decode cX16_rounds 32 = .ok (.iconst 1, 1) := dk_4 (dk_at dksX16_rounds_1 8 rfl rfl)
theorem dX16_rounds_33 : decode cX16_rounds 33 = .ok (.iadd, 1) := dk_96 (dk_at dksX16_rounds_1 9 rfl rfl)
theorem dX16_rounds_34 : decode cX16_rounds 34 = .ok (.putfield 61, 3) := dk_181 0 61 (dk_at dksX16_rounds_1 10 rfl rfl)
theorem dX16_rounds_37 : decode cX16_rounds 37 = .ok (.aload_n 0, 1) := dk_42 (dk_at dksX16_rounds_1 13 rfl rfl)
theorem dX16_rounds_38 : decode cX16_rounds 38 = .ok (.invokevirtual 64, 3) := dk_182 0 64 (dk_at dksX16_rounds_1 14 rfl rfl)
theorem dX16_rounds_41 : decode cX16_rounds 41 = .ok (.aload_n 0, 1) := dk_42 (dk_at dksX16_rounds_1 17 rfl rfl)
theorem dX16_rounds_42 : decode cX16_rounds 42 = .ok (.invokevirtual 49, 3) := dk_182 0 49 (dk_at dksX16_rounds_1 18 rfl rfl)
theorem dX16_rounds_45 : decode cX16_rounds 45 = .ok (.ifCond .eq 21, 3) := dk_153 0 21 (dk_at dksX16_rounds_1 21 rfl rfl)
theorem dX16_rounds_48 : decode cX16_rounds 48 = .ok (.aload_n 0, 1) := dk_42 (dk_at dksX16_rounds_2 0 rfl rfl)
theorem dX16_rounds_49 : decode cX16_rounds 49 = .ok (.invokevirtual 45, 3) := dk_182 0 45 (dk_at dksX16_rounds_2 1 rfl rfl)
theorem dX16_rounds_52 : decode cX16_rounds 52 = .ok (.bipush 41, 2) := dk_16 41 (dk_at dksX16_rounds_2 4 rfl rfl)
theorem dX16_rounds_54 : decode cX16_rounds 54 = .ok (.if_icmp .eq 12, 3) := dk_159 0 12 (dk_at dksX16_rounds_2 6 rfl rfl)
theorem dX16_rounds_57 : decode cX16_rounds 57 = .ok (.aload_n 0, 1) := dk_42 (dk_at dksX16_rounds_2 9 rfl rfl)
theorem dX16_rounds_58 : decode cX16_rounds 58 = .ok (.iconst 1, 1) := dk_4 (dk_at dksX16_rounds_2 10 rfl rfl)
theorem dX16_rounds_59 : decode cX16_rounds 59 = .ok (.aload_n 0, 1) := dk_42 (dk_at dksX16_rounds_2 11 rfl rfl)
theorem dX16_rounds_60 : decode cX16_rounds 60 = .ok (.getfield 32, 3) := dk_180 0 32 (dk_at dksX16_rounds_2 12 rfl rfl)
theorem dX16_rounds_63 : decode cX16_rounds 63 = .ok (.invokevirtual 57, 3) := dk_182 0 57 (dk_at dksX16_rounds_2 15 rfl rfl)
theorem dX16_rounds_66 : decode cX16_rounds 66 = .ok (.aload_n 0, 1) := dk_42 (dk_at dksX16_rounds_2 18 rfl rfl)
theorem dX16_rounds_67 : decode cX16_rounds 67 = .ok (.dup, 1) := dk_89 (dk_at dksX16_rounds_2 19 rfl rfl)
theorem dX16_rounds_68 : decode cX16_rounds 68 = .ok (.getfield 32, 3) := dk_180 0 32 (dk_at dksX16_rounds_2 20 rfl rfl)
theorem dX16_rounds_71 : decode cX16_rounds 71 = .ok (.iconst 1, 1) := dk_4 (dk_at dksX16_rounds_2 23 rfl rfl)
theorem dX16_rounds_72 : decode cX16_rounds 72 = .ok (.iadd, 1) := dk_96 (dk_at dksX16_rounds_3 0 rfl rfl)
theorem dX16_rounds_73 : decode cX16_rounds 73 = .ok (.putfield 32, 3) := dk_181 0 32 (dk_at dksX16_rounds_3 1 rfl rfl)
theorem dX16_rounds_76 : decode cX16_rounds 76 = .ok (.aload_n 0, 1) := dk_42 (dk_at dksX16_rounds_3 4 rfl rfl)
theorem dX16_rounds_77 : decode cX16_rounds 77 = .ok (.dup, 1) := dk_89 (dk_at dksX16_rounds_3 5 rfl rfl)
theorem dX16_rounds_78 : decode cX16_rounds 78 = .ok (.getfield 61, 3) := dk_180 0 61 (dk_at dksX16_rounds_3 6 rfl rfl)
theorem dX16_rounds_81 : decode cX16_rounds 81 = .ok (.iconst 1, 1) := dk_4 (dk_at dksX16_rounds_3 9 rfl rfl)
theorem dX16_rounds_82 : decode cX16_rounds 82 = .ok (.isub, 1) := dk_100 (dk_at dksX16_rounds_3 10 rfl rfl)
theorem dX16_rounds_83 : decode cX16_rounds 83 = .ok (.putfield 61, 3) := dk_181 0 61 (dk_at dksX16_rounds_3 11 rfl rfl)
theorem dX16_rounds_86 : decode cX16_rounds 86 = .ok (.return_, 1) := dk_177 (dk_at dksX16_rounds_3 14 rfl rfl)
abbrev cX16_bad : ByteArray := prog_11_method_3_code
def yX16_bad : MethodName := ⟨RX16, "bad", "(II)V"⟩
def dkwX16_bad_0 : List UInt8 := [42, 180, 0, 39, 158, 0, 4, 177, 42, 27, 181, 0, 39, 42, 28, 181, 0, 42, 177]
abbrev dktX16_bad_0 : List UInt8 := dkwX16_bad_0 ++ []
theorem dksX16_bad_0 : cX16_bad.data.toList.drop 0 = dktX16_bad_0 := by decide +kernel
theorem dX16_bad_0 : decode cX16_bad 0 = .ok (.aload_n 0, 1) := dk_42 (dk_at dksX16_bad_0 0 rfl rfl)
theorem dX16_bad_1 : decode cX16_bad 1 = .ok (.getfield 39, 3) := dk_180 0 39 (dk_at dksX16_bad_0 1 rfl rfl)
theorem dX16_bad_4 : decode cX16_bad 4 = .ok (.ifCond .le 4, 3) := dk_158 0 4 (dk_at dksX16_bad_0 4 rfl rfl)
theorem dX16_bad_7 : decode cX16_bad 7 = .ok (.return_, 1) := dk_177 (dk_at dksX16_bad_0 7 rfl rfl)
theorem dX16_bad_8 : decode cX16_bad 8 = .ok (.aload_n 0, 1) := dk_42 (dk_at dksX16_bad_0 8 rfl rfl)
theorem dX16_bad_9 : decode cX16_bad 9 = .ok (.iload_n 1, 1) := dk_27 (dk_at dksX16_bad_0 9 rfl rfl)
theorem dX16_bad_10 : decode cX16_bad 10 = .ok (.putfield 39, 3) := dk_181 0 39 (dk_at dksX16_bad_0 10 rfl rfl)
theorem dX16_bad_13 : decode cX16_bad 13 = .ok (.aload_n 0, 1) := dk_42 (dk_at dksX16_bad_0 13 rfl rfl)
theorem dX16_bad_14 : decode cX16_bad 14 = .ok (.iload_n 2, 1) := dk_28 (dk_at dksX16_bad_0 14 rfl rfl)
theorem dX16_bad_15 : decode cX16_bad 15 = .ok (.putfield 42, 3) := dk_181 0 42 (dk_at dksX16_bad_0 15 rfl rfl)
theorem dX16_bad_18 : decode cX16_bad 18 = .ok (.return_, 1) := dk_177 (dk_at dksX16_bad_0 18 rfl rfl)
abbrev cX16_act : ByteArray := prog_11_method_7_code
def yX16_act : MethodName := ⟨RX16, "act", "(II)V"⟩
def dkwX16_act_11 : List UInt8 := [177]
abbrev dktX16_act_11 : List UInt8 := dkwX16_act_11 ++ []
def dkwX16_act_10 : List UInt8 := [21, 6, 79, 42, 180, 0, 25, 42, 180, 0, 78, 21, 7, 79, 42, 89, 180, 0, 78, 4, 96, 181, 0, 78]
abbrev dktX16_act_10 : List UInt8 := dkwX16_act_10 ++ dktX16_act_11
def dkwX16_act_9 : List UInt8 := [180, 0, 78, 29, 79, 42, 180, 0, 19, 42, 180, 0, 78, 21, 4, 79, 42, 180, 0, 22, 42, 180, 0, 78]
abbrev dktX16_act_9 : List UInt8 := dkwX16_act_9 ++ dktX16_act_10
def dkwX16_act_8 : List UInt8 := [164, 0, 10, 42, 16, 6, 27, 182, 0, 57, 42, 182, 0, 49, 154, 0, 4, 177, 42, 180, 0, 15, 42]
abbrev dktX16_act_8 : List UInt8 := dkwX16_act_8 ++ dktX16_act_9
def dkwX16_act_7 : List UInt8 := [167, 0, 4, 3, 54, 7, 42, 182, 0, 49, 153, 0, 22, 42, 180, 0, 78, 28, 96, 17, 0, 200]
abbrev dktX16_act_7 : List UInt8 := dkwX16_act_7 ++ dktX16_act_8
def dkwX16_act_6 : List UInt8 := [160, 0, 11, 42, 16, 7, 21, 5, 182, 0, 57, 29, 16, 119, 160, 0, 12, 42, 16, 10, 182, 0, 75]
abbrev dktX16_act_6 : List UInt8 := dkwX16_act_6 ++ dktX16_act_7
def dkwX16_act_5 : List UInt8 := [182, 0, 49, 153, 0, 30, 29, 16, 120, 159, 0, 9, 29, 16, 106, 160, 0, 18, 21, 4, 21, 6]
abbrev dktX16_act_5 : List UInt8 := dkwX16_act_5 ++ dktX16_act_6
def dkwX16_act_4 : List UInt8 := [159, 0, 9, 29, 16, 114, 160, 0, 8, 16, 8, 167, 0, 5, 16, 7, 182, 0, 75, 54, 6, 42]
abbrev dktX16_act_4 : List UInt8 := dkwX16_act_4 ++ dktX16_act_5
def dkwX16_act_3 : List UInt8 := [159, 0, 15, 29, 16, 117, 159, 0, 9, 29, 16, 99, 160, 0, 7, 3, 167, 0, 26, 42, 29, 16, 119]
abbrev dktX16_act_3 : List UInt8 := dkwX16_act_3 ++ dktX16_act_4
def dkwX16_act_2 : List UInt8 := [16, 7, 182, 0, 75, 54, 4, 42, 180, 0, 32, 54, 5, 29, 16, 46, 159, 0, 21, 29, 16, 107]
abbrev dktX16_act_2 : List UInt8 := dkwX16_act_2 ++ dktX16_act_3
def dkwX16_act_1 : List UInt8 := [182, 0, 57, 42, 89, 180, 0, 32, 4, 96, 181, 0, 32, 29, 16, 46, 160, 0, 7, 3, 167, 0, 9, 42]
abbrev dktX16_act_1 : List UInt8 := dkwX16_act_1 ++ dktX16_act_2
def dkwX16_act_0 : List UInt8 := [42, 182, 0, 45, 62, 29, 153, 0, 12, 18, 67, 29, 182, 0, 69, 156, 0, 12, 42, 4, 42, 180, 0, 32]
abbrev dktX16_act_0 : List UInt8 := dkwX16_act_0 ++ dktX16_act_1
theorem dksX16_act_0 : cX16_act.data.toList.drop 0 = dktX16_act_0 := by decide +kernel
theorem dksX16_act_1 : cX16_act.data.toList.drop 24 = dktX16_act_1 := dk_seg dksX16_act_0 24 rfl rfl
theorem dksX16_act_2 : cX16_act.data.toList.drop 48 = dktX16_act_2 := dk_seg dksX16_act_1 24 rfl rfl
theorem dksX16_act_3 : cX16_act.data.toList.drop 70 = dktX16_act_3 := dk_seg dksX16_act_2 22 rfl rfl
theorem dksX16_act_4 : cX16_act.data.toList.drop 93 = dktX16_act_4 := dk_seg dksX16_act_3 23 rfl rfl
theorem dksX16_act_5 : cX16_act.data.toList.drop 115 = dktX16_act_5 := dk_seg dksX16_act_4 22 rfl rfl
theorem dksX16_act_6 : cX16_act.data.toList.drop 137 = dktX16_act_6 := dk_seg dksX16_act_5 22 rfl rfl
theorem dksX16_act_7 : cX16_act.data.toList.drop 160 = dktX16_act_7 := dk_seg dksX16_act_6 23 rfl rfl
theorem dksX16_act_8 : cX16_act.data.toList.drop 182 = dktX16_act_8 := dk_seg dksX16_act_7 22 rfl rfl
theorem dksX16_act_9 : cX16_act.data.toList.drop 205 = dktX16_act_9 := dk_seg dksX16_act_8 23 rfl rfl
theorem dksX16_act_10 : cX16_act.data.toList.drop 229 = dktX16_act_10 := dk_seg dksX16_act_9 24 rfl rfl
theorem dksX16_act_11 : cX16_act.data.toList.drop 253 = dktX16_act_11 := dk_seg dksX16_act_10 24 rfl rfl
theorem dX16_act_0 : decode cX16_act 0 = .ok (.aload_n 0, 1) := dk_42 (dk_at dksX16_act_0 0 rfl rfl)
theorem dX16_act_1 : decode cX16_act 1 = .ok (.invokevirtual 45, 3) := dk_182 0 45 (dk_at dksX16_act_0 1 rfl rfl)
theorem dX16_act_4 : decode cX16_act 4 = .ok (.istore_n 3, 1) := dk_62 (dk_at dksX16_act_0 4 rfl rfl)
theorem dX16_act_5 : decode cX16_act 5 = .ok (.iload_n 3, 1) := dk_29 (dk_at dksX16_act_0 5 rfl rfl)
theorem dX16_act_6 : decode cX16_act 6 = .ok (.ifCond .eq 12, 3) := dk_153 0 12 (dk_at dksX16_act_0 6 rfl rfl)
theorem dX16_act_9 : decode cX16_act 9 = .ok (.ldc 67, 2) := dk_18 67 (dk_at dksX16_act_0 9 rfl rfl)
theorem dX16_act_11 : decode cX16_act 11 = .ok (.iload_n 3, 1) := dk_29 (dk_at dksX16_act_0 11 rfl rfl)
theorem dX16_act_12 : decode cX16_act 12 = .ok (.invokevirtual 69, 3) := dk_182 0 69 (dk_at dksX16_act_0 12 rfl rfl)
theorem dX16_act_15 : decode cX16_act 15 = .ok (.ifCond .ge 12, 3) := dk_156 0 12 (dk_at dksX16_act_0 15 rfl rfl)
theorem dX16_act_18 : decode cX16_act 18 = .ok (.aload_n 0, 1) := dk_42 (dk_at dksX16_act_0 18 rfl rfl)
theorem dX16_act_19 : decode cX16_act 19 = .ok (.iconst 1, 1) := dk_4 (dk_at dksX16_act_0 19 rfl rfl)
theorem dX16_act_20 : decode cX16_act 20 = .ok (.aload_n 0, 1) := dk_42 (dk_at dksX16_act_0 20 rfl rfl)
theorem dX16_act_21 : decode cX16_act 21 = .ok (.getfield 32, 3) := dk_180 0 32 (dk_at dksX16_act_0 21 rfl rfl)
theorem dX16_act_24 : decode cX16_act 24 = .ok (.invokevirtual 57, 3) := dk_182 0 57 (dk_at dksX16_act_1 0 rfl rfl)
theorem dX16_act_27 : decode cX16_act 27 = .ok (.aload_n 0, 1) := dk_42 (dk_at dksX16_act_1 3 rfl rfl)
theorem dX16_act_28 : decode cX16_act 28 = .ok (.dup, 1) := dk_89 (dk_at dksX16_act_1 4 rfl rfl)
theorem dX16_act_29 : decode cX16_act 29 = .ok (.getfield 32, 3) := dk_180 0 32 (dk_at dksX16_act_1 5 rfl rfl)
theorem dX16_act_32 : decode cX16_act 32 = .ok (.iconst 1, 1) := dk_4 (dk_at dksX16_act_1 8 rfl rfl)
theorem dX16_act_33 : decode cX16_act 33 = .ok (.iadd, 1) := dk_96 (dk_at dksX16_act_1 9 rfl rfl)
theorem dX16_act_34 : decode cX16_act 34 = .ok (.putfield 32, 3) := dk_181 0 32 (dk_at dksX16_act_1 10 rfl rfl)
theorem dX16_act_37 : decode cX16_act 37 = .ok (.iload_n 3, 1) := dk_29 (dk_at dksX16_act_1 13 rfl rfl)
theorem dX16_act_38 : decode cX16_act 38 = .ok (.bipush 46, 2) := dk_16 46 (dk_at dksX16_act_1 14 rfl rfl)
theorem dX16_act_40 : decode cX16_act 40 = .ok (.if_icmp .ne 7, 3) := dk_160 0 7 (dk_at dksX16_act_1 16 rfl rfl)
theorem dX16_act_43 : decode cX16_act 43 = .ok (.iconst 0, 1) := dk_3 (dk_at dksX16_act_1 19 rfl rfl)
theorem dX16_act_44 : decode cX16_act 44 = .ok (.goto 9, 3) := dk_167 0 9 (dk_at dksX16_act_1 20 rfl rfl)
theorem dX16_act_47 : decode cX16_act 47 = .ok (.aload_n 0, 1) := dk_42 (dk_at dksX16_act_1 23 rfl rfl)
theorem dX16_act_48 : decode cX16_act 48 = .ok (.bipush 7, 2) := dk_16 7 (dk_at dksX16_act_2 0 rfl rfl)
theorem dX16_act_50 : decode cX16_act 50 = .ok (.invokevirtual 75, 3) := dk_182 0 75 (dk_at dksX16_act_2 2 rfl rfl)
theorem dX16_act_53 : decode cX16_act 53 = .ok (.istore 4, 2) := dk_54 4 (dk_at dksX16_act_2 5 rfl rfl)
theorem dX16_act_55 : decode cX16_act 55 = .ok (.aload_n 0, 1) := dk_42 (dk_at dksX16_act_2 7 rfl rfl)
theorem dX16_act_56 : decode cX16_act 56 = .ok (.getfield 32, 3) := dk_180 0 32 (dk_at dksX16_act_2 8 rfl rfl)
theorem dX16_act_59 : decode cX16_act 59 = .ok (.istore 5, 2) := dk_54 5 (dk_at dksX16_act_2 11 rfl rfl)
theorem dX16_act_61 : decode cX16_act 61 = .ok (.iload_n 3, 1) := dk_29 (dk_at dksX16_act_2 13 rfl rfl)
theorem dX16_act_62 : decode cX16_act 62 = .ok (.bipush 46, 2) := dk_16 46 (dk_at dksX16_act_2 14 rfl rfl)
theorem dX16_act_64 : decode cX16_act 64 = .ok (.if_icmp .eq 21, 3) := dk_159 0 21 (dk_at dksX16_act_2 16 rfl rfl)
theorem dX16_act_67 : decode cX16_act 67 = .ok (.iload_n 3, 1) := dk_29 (dk_at dksX16_act_2 19 rfl rfl)
theorem dX16_act_68 : decode cX16_act 68 = .ok (.bipush 107, 2) := dk_16 107 (dk_at dksX16_act_2 20 rfl rfl)
theorem dX16_act_70 : decode cX16_act 70 = .ok (.if_icmp .eq 15, 3) := dk_159 0 15 (dk_at dksX16_act_3 0 rfl rfl)
theorem dX16_act_73 : decode cX16_act 73 = .ok (.iload_n 3, 1) := dk_29 (dk_at dksX16_act_3 3 rfl rfl)
theorem dX16_act_74 : decode cX16_act 74 = .ok (.bipush 117, 2) := dk_16 117 (dk_at dksX16_act_3 4 rfl rfl)
theorem dX16_act_76 : decode cX16_act 76 = .ok (.if_icmp .eq 9, 3) := dk_159 0 9 (dk_at dksX16_act_3 6 rfl rfl)
theorem dX16_act_79 : decode cX16_act 79 = .ok (.iload_n 3, 1) := dk_29 (dk_at dksX16_act_3 9 rfl rfl)
theorem dX16_act_80 : decode cX16_act 80 = .ok (.bipush 99, 2) := dk_16 99 (dk_at dksX16_act_3 10 rfl rfl)
theorem dX16_act_82 : decode cX16_act 82 = .ok (.if_icmp .ne 7, 3) := dk_160 0 7 (dk_at dksX16_act_3 12 rfl rfl)
theorem dX16_act_85 : decode cX16_act 85 = .ok (.iconst 0, 1) := dk_3 (dk_at dksX16_act_3 15 rfl rfl)
theorem dX16_act_86 : decode cX16_act 86 = .ok (.goto 26, 3) := dk_167 0 26 (dk_at dksX16_act_3 16 rfl rfl)
theorem dX16_act_89 : decode cX16_act 89 = .ok (.aload_n 0, 1) := dk_42 (dk_at dksX16_act_3 19 rfl rfl)
theorem dX16_act_90 : decode cX16_act 90 = .ok (.iload_n 3, 1) := dk_29 (dk_at dksX16_act_3 20 rfl rfl)
theorem dX16_act_91 : decode cX16_act 91 = .ok (.bipush 119, 2) := dk_16 119 (dk_at dksX16_act_3 21 rfl rfl)
theorem dX16_act_93 : decode cX16_act 93 = .ok (.if_icmp .eq 9, 3) := dk_159 0 9 (dk_at dksX16_act_4 0 rfl rfl)
theorem dX16_act_96 : decode cX16_act 96 = .ok (.iload_n 3, 1) := dk_29 (dk_at dksX16_act_4 3 rfl rfl)
theorem dX16_act_97 : decode cX16_act 97 = .ok (.bipush 114, 2) := dk_16 114 (dk_at dksX16_act_4 4 rfl rfl)
theorem dX16_act_99 : decode cX16_act 99 = .ok (.if_icmp .ne 8, 3) := dk_160 0 8 (dk_at dksX16_act_4 6 rfl rfl)
theorem dX16_act_102 : decode cX16_act 102 = .ok (.bipush 8, 2) := dk_16 8 (dk_at dksX16_act_4 9 rfl rfl)
theorem dX16_act_104 : decode cX16_act 104 = .ok (.goto 5, 3) := dk_167 0 5 (dk_at dksX16_act_4 11 rfl rfl)
theorem dX16_act_107 : decode cX16_act 107 = .ok (.bipush 7, 2) := dk_16 7 (dk_at dksX16_act_4 14 rfl rfl)
theorem dX16_act_109 : decode cX16_act 109 = .ok (.invokevirtual 75, 3) := dk_182 0 75 (dk_at dksX16_act_4 16 rfl rfl)
theorem dX16_act_112 : decode cX16_act 112 = .ok (.istore 6, 2) := dk_54 6 (dk_at dksX16_act_4 19 rfl rfl)
theorem dX16_act_114 : decode cX16_act 114 = .ok (.aload_n 0, 1) := dk_42 (dk_at dksX16_act_4 21 rfl rfl)
theorem dX16_act_115 : decode cX16_act 115 = .ok (.invokevirtual 49, 3) := dk_182 0 49 (dk_at dksX16_act_5 0 rfl rfl)
theorem dX16_act_118 : decode cX16_act 118 = .ok (.ifCond .eq 30, 3) := dk_153 0 30 (dk_at dksX16_act_5 3 rfl rfl)
theorem dX16_act_121 : decode cX16_act 121 = .ok (.iload_n 3, 1) := dk_29 (dk_at dksX16_act_5 6 rfl rfl)
theorem dX16_act_122 : decode cX16_act 122 = .ok (.bipush 120, 2) := dk_16 120 (dk_at dksX16_act_5 7 rfl rfl)
theorem dX16_act_124 : decode cX16_act 124 = .ok (.if_icmp .eq 9, 3) := dk_159 0 9 (dk_at dksX16_act_5 9 rfl rfl)
theorem dX16_act_127 : decode cX16_act 127 = .ok (.iload_n 3, 1) := dk_29 (dk_at dksX16_act_5 12 rfl rfl)
theorem dX16_act_128 : decode cX16_act 128 = .ok (.bipush 106, 2) := dk_16 106 (dk_at dksX16_act_5 13 rfl rfl)
theorem dX16_act_130 : decode cX16_act 130 = .ok (.if_icmp .ne 18, 3) := dk_160 0 18 (dk_at dksX16_act_5 15 rfl rfl)
theorem dX16_act_133 : decode cX16_act 133 = .ok (.iload 4, 2) := dk_21 4 (dk_at dksX16_act_5 18 rfl rfl)
theorem dX16_act_135 : decode cX16_act 135 = .ok (.iload 6, 2) := dk_21 6 (dk_at dksX16_act_5 20 rfl rfl)
theorem dX16_act_137 : decode cX16_act 137 = .ok (.if_icmp .ne 11, 3) := dk_160 0 11 (dk_at dksX16_act_6 0 rfl rfl)
theorem dX16_act_140 : decode cX16_act 140 = .ok (.aload_n 0, 1) := dk_42 (dk_at dksX16_act_6 3 rfl rfl)
theorem dX16_act_141 : decode cX16_act 141 = .ok (.bipush 7, 2) := dk_16 7 (dk_at dksX16_act_6 4 rfl rfl)
theorem dX16_act_143 : decode cX16_act 143 = .ok (.iload 5, 2) := dk_21 5 (dk_at dksX16_act_6 6 rfl rfl)
theorem dX16_act_145 : decode cX16_act 145 = .ok (.invokevirtual 57, 3) := dk_182 0 57 (dk_at dksX16_act_6 8 rfl rfl)
theorem dX16_act_148 : decode cX16_act 148 = .ok (.iload_n 3, 1) := dk_29 (dk_at dksX16_act_6 11 rfl rfl)
theorem dX16_act_149 : decode cX16_act 149 = .ok (.bipush 119, 2) := dk_16 119 (dk_at dksX16_act_6 12 rfl rfl)
theorem dX16_act_151 : decode cX16_act 151 = .ok (.if_icmp .ne 12, 3) := dk_160 0 12 (dk_at dksX16_act_6 14 rfl rfl)
theorem dX16_act_154 : decode cX16_act 154 = .ok (.aload_n 0, 1) := dk_42 (dk_at dksX16_act_6 17 rfl rfl)
theorem dX16_act_155 : decode cX16_act 155 = .ok (.bipush 10, 2) := dk_16 10 (dk_at dksX16_act_6 18 rfl rfl)
theorem dX16_act_157 : decode cX16_act 157 = .ok (.invokevirtual 75, 3) := dk_182 0 75 (dk_at dksX16_act_6 20 rfl rfl)
theorem dX16_act_160 : decode cX16_act 160 = .ok (.goto 4, 3) := dk_167 0 4 (dk_at dksX16_act_7 0 rfl rfl)
theorem dX16_act_163 : decode cX16_act 163 = .ok (.iconst 0, 1) := dk_3 (dk_at dksX16_act_7 3 rfl rfl)
theorem dX16_act_164 : decode cX16_act 164 = .ok (.istore 7, 2) := dk_54 7 (dk_at dksX16_act_7 4 rfl rfl)
theorem dX16_act_166 : decode cX16_act 166 = .ok (.aload_n 0, 1) := dk_42 (dk_at dksX16_act_7 6 rfl rfl)
theorem dX16_act_167 : decode cX16_act 167 = .ok (.invokevirtual 49, 3) := dk_182 0 49 (dk_at dksX16_act_7 7 rfl rfl)
theorem dX16_act_170 : decode cX16_act 170 = .ok (.ifCond .eq 22, 3) := dk_153 0 22 (dk_at dksX16_act_7 10 rfl rfl)
theorem dX16_act_173 : decode cX16_act 173 = .ok (.aload_n 0, 1) := dk_42 (dk_at dksX16_act_7 13 rfl rfl)
theorem dX16_act_174 : decode cX16_act 174 = .ok (.getfield 78, 3) := dk_180 0 78 (dk_at dksX16_act_7 14 rfl rfl)
theorem dX16_act_177 : decode cX16_act 177 = .ok (.iload_n 2, 1) := dk_28 (dk_at dksX16_act_7 17 rfl rfl)
theorem dX16_act_178 : decode cX16_act 178 = .ok (.iadd, 1) := dk_96 (dk_at dksX16_act_7 18 rfl rfl)
theorem dX16_act_179 : decode cX16_act 179 = .ok (.sipush 200, 3) := dk_17 0 200 (dk_at dksX16_act_7 19 rfl rfl)
theorem dX16_act_182 : decode cX16_act 182 = .ok (.if_icmp .le 10, 3) := dk_164 0 10 (dk_at dksX16_act_8 0 rfl rfl)
theorem dX16_act_185 : decode cX16_act 185 = .ok (.aload_n 0, 1) := dk_42 (dk_at dksX16_act_8 3 rfl rfl)
theorem dX16_act_186 : decode cX16_act 186 = .ok (.bipush 6, 2) := dk_16 6 (dk_at dksX16_act_8 4 rfl rfl)
theorem dX16_act_188 : decode cX16_act 188 = .ok (.iload_n 1, 1) := dk_27 (dk_at dksX16_act_8 6 rfl rfl)
theorem dX16_act_189 : decode cX16_act 189 = .ok (.invokevirtual 57, 3) := dk_182 0 57 (dk_at dksX16_act_8 7 rfl rfl)
theorem dX16_act_192 : decode cX16_act 192 = .ok (.aload_n 0, 1) := dk_42 (dk_at dksX16_act_8 10 rfl rfl)
theorem dX16_act_193 : decode cX16_act 193 = .ok (.invokevirtual 49, 3) := dk_182 0 49 (dk_at dksX16_act_8 11 rfl rfl)
theorem dX16_act_196 : decode cX16_act 196 = .ok (.ifCond .ne 4, 3) := dk_154 0 4 (dk_at dksX16_act_8 14 rfl rfl)
theorem dX16_act_199 : decode cX16_act 199 = .ok (.return_, 1) := dk_177 (dk_at dksX16_act_8 17 rfl rfl)
theorem dX16_act_200 : decode cX16_act 200 = .ok (.aload_n 0, 1) := dk_42 (dk_at dksX16_act_8 18 rfl rfl)
theorem dX16_act_201 : decode cX16_act 201 = .ok (.getfield 15, 3) := dk_180 0 15 (dk_at dksX16_act_8 19 rfl rfl)
theorem dX16_act_204 : decode cX16_act 204 = .ok (.aload_n 0, 1) := dk_42 (dk_at dksX16_act_8 22 rfl rfl)
theorem dX16_act_205 : decode cX16_act 205 = .ok (.getfield 78, 3) := dk_180 0 78 (dk_at dksX16_act_9 0 rfl rfl)
theorem dX16_act_208 : decode cX16_act 208 = .ok (.iload_n 3, 1) := dk_29 (dk_at dksX16_act_9 3 rfl rfl)
theorem dX16_act_209 : decode cX16_act 209 = .ok (.iastore, 1) := dk_79 (dk_at dksX16_act_9 4 rfl rfl)
theorem dX16_act_210 : decode cX16_act 210 = .ok (.aload_n 0, 1) := dk_42 (dk_at dksX16_act_9 5 rfl rfl)
theorem dX16_act_211 : decode cX16_act 211 = .ok (.getfield 19, 3) := dk_180 0 19 (dk_at dksX16_act_9 6 rfl rfl)
theorem dX16_act_214 : decode cX16_act 214 = .ok (.aload_n 0, 1) := dk_42 (dk_at dksX16_act_9 9 rfl rfl)
theorem dX16_act_215 : decode cX16_act 215 = .ok (.getfield 78, 3) := dk_180 0 78 (dk_at dksX16_act_9 10 rfl rfl)
theorem dX16_act_218 : decode cX16_act 218 = .ok (.iload 4, 2) := dk_21 4 (dk_at dksX16_act_9 13 rfl rfl)
theorem dX16_act_220 : decode cX16_act 220 = .ok (.iastore, 1) := dk_79 (dk_at dksX16_act_9 15 rfl rfl)
theorem dX16_act_221 : decode cX16_act 221 = .ok (.aload_n 0, 1) := dk_42 (dk_at dksX16_act_9 16 rfl rfl)
theorem dX16_act_222 : decode cX16_act 222 = .ok (.getfield 22, 3) := dk_180 0 22 (dk_at dksX16_act_9 17 rfl rfl)
theorem dX16_act_225 : decode cX16_act 225 = .ok (.aload_n 0, 1) := dk_42 (dk_at dksX16_act_9 20 rfl rfl)
theorem dX16_act_226 : decode cX16_act 226 = .ok (.getfield 78, 3) := dk_180 0 78 (dk_at dksX16_act_9 21 rfl rfl)
theorem dX16_act_229 : decode cX16_act 229 = .ok (.iload 6, 2) := dk_21 6 (dk_at dksX16_act_10 0 rfl rfl)
theorem dX16_act_231 : decode cX16_act 231 = .ok (.iastore, 1) := dk_79 (dk_at dksX16_act_10 2 rfl rfl)
theorem dX16_act_232 : decode cX16_act 232 = .ok (.aload_n 0, 1) := dk_42 (dk_at dksX16_act_10 3 rfl rfl)
theorem dX16_act_233 : decode cX16_act 233 = .ok (.getfield 25, 3) := dk_180 0 25 (dk_at dksX16_act_10 4 rfl rfl)
theorem dX16_act_236 : decode cX16_act 236 = .ok (.aload_n 0, 1) := dk_42 (dk_at dksX16_act_10 7 rfl rfl)
theorem dX16_act_237 : decode cX16_act 237 = .ok (.getfield 78, 3) := dk_180 0 78 (dk_at dksX16_act_10 8 rfl rfl)
theorem dX16_act_240 : decode cX16_act 240 = .ok (.iload 7, 2) := dk_21 7 (dk_at dksX16_act_10 11 rfl rfl)
theorem dX16_act_242 : decode cX16_act 242 = .ok (.iastore, 1) := dk_79 (dk_at dksX16_act_10 13 rfl rfl)
theorem dX16_act_243 : decode cX16_act 243 = .ok (.aload_n 0, 1) := dk_42 (dk_at dksX16_act_10 14 rfl rfl)
theorem dX16_act_244 : decode cX16_act 244 = .ok (.dup, 1) := dk_89 (dk_at dksX16_act_10 15 rfl rfl)
theorem dX16_act_245 : decode cX16_act 245 = .ok (.getfield 78, 3) := dk_180 0 78 (dk_at dksX16_act_10 16 rfl rfl)
theorem dX16_act_248 : decode cX16_act 248 = .ok (.iconst 1, 1) := dk_4 (dk_at dksX16_act_10 19 rfl rfl)
theorem dX16_act_249 : decode cX16_act 249 = .ok (.iadd, 1) := dk_96 (dk_at dksX16_act_10 20 rfl rfl)
theorem dX16_act_250 : decode cX16_act 250 = .ok (.putfield 78, 3) := dk_181 0 78 (dk_at dksX16_act_10 21 rfl rfl)
theorem dX16_act_253 : decode cX16_act 253 = .ok (.return_, 1) := dk_177 (dk_at dksX16_act_11 0 rfl rfl)
abbrev cX16_digit : ByteArray := prog_11_method_5_code
def yX16_digit : MethodName := ⟨RX16, "digit", "(I)I"⟩
def dkwX16_digit_1 : List UInt8 := [4, 42, 180, 0, 32, 182, 0, 57, 42, 89, 180, 0, 32, 4, 96, 181, 0, 32, 28, 172]
abbrev dktX16_digit_1 : List UInt8 := dkwX16_digit_1 ++ []
def dkwX16_digit_0 : List UInt8 := [42, 182, 0, 45, 16, 48, 100, 61, 42, 182, 0, 49, 153, 0, 20, 28, 27, 184, 0, 53, 154, 0, 12, 42]
abbrev dktX16_digit_0 : List UInt8 := dkwX16_digit_0 ++ dktX16_digit_1
theorem dksX16_digit_0 : cX16_digit.data.toList.drop 0 = dktX16_digit_0 := by decide +kernel
theorem dksX16_digit_1 : cX16_digit.data.toList.drop 24 = dktX16_digit_1 := dk_seg dksX16_digit_0 24 rfl rfl
theorem dX16_digit_0 : decode cX16_digit 0 = .ok (.aload_n 0, 1) := dk_42 (dk_at dksX16_digit_0 0 rfl rfl)
theorem dX16_digit_1 : decode cX16_digit 1 = .ok (.invokevirtual 45, 3) := dk_182 0 45 (dk_at dksX16_digit_0 1 rfl rfl)
theorem dX16_digit_4 : decode cX16_digit 4 = .ok (.bipush 48, 2) := dk_16 48 (dk_at dksX16_digit_0 4 rfl rfl)
theorem dX16_digit_6 : decode cX16_digit 6 = .ok (.isub, 1) := dk_100 (dk_at dksX16_digit_0 6 rfl rfl)
theorem dX16_digit_7 : decode cX16_digit 7 = .ok (.istore_n 2, 1) := dk_61 (dk_at dksX16_digit_0 7 rfl rfl)
theorem dX16_digit_8 : decode cX16_digit 8 = .ok (.aload_n 0, 1) := dk_42 (dk_at dksX16_digit_0 8 rfl rfl)
theorem dX16_digit_9 : decode cX16_digit 9 = .ok (.invokevirtual 49, 3) := dk_182 0 49 (dk_at dksX16_digit_0 9 rfl rfl)
theorem dX16_digit_12 : decode cX16_digit 12 = .ok (.ifCond .eq 20, 3) := dk_153 0 20 (dk_at dksX16_digit_0 12 rfl rfl)
theorem dX16_digit_15 : decode cX16_digit 15 = .ok (.iload_n 2, 1) := dk_28 (dk_at dksX16_digit_0 15 rfl rfl)
theorem dX16_digit_16 : decode cX16_digit 16 = .ok (.iload_n 1, 1) := dk_27 (dk_at dksX16_digit_0 16 rfl rfl)
theorem dX16_digit_17 : decode cX16_digit 17 = .ok (.invokestatic 53, 3) := dk_184 0 53 (dk_at dksX16_digit_0 17 rfl rfl)
theorem dX16_digit_20 : decode cX16_digit 20 = .ok (.ifCond .ne 12, 3) := dk_154 0 12 (dk_at dksX16_digit_0 20 rfl rfl)
theorem dX16_digit_23 : decode cX16_digit 23 = .ok (.aload_n 0, 1) := dk_42 (dk_at dksX16_digit_0 23 rfl rfl)
theorem dX16_digit_24 : decode cX16_digit 24 = .ok (.iconst 1, 1) := dk_4 (dk_at dksX16_digit_1 0 rfl rfl)
theorem dX16_digit_25 : decode cX16_digit 25 = .ok (.aload_n 0, 1) := dk_42 (dk_at dksX16_digit_1 1 rfl rfl)
theorem dX16_digit_26 : decode cX16_digit 26 = .ok (.getfield 32, 3) := dk_180 0 32 (dk_at dksX16_digit_1 2 rfl rfl)
theorem dX16_digit_29 : decode cX16_digit 29 = .ok (.invokevirtual 57, 3) := dk_182 0 57 (dk_at dksX16_digit_1 5 rfl rfl)
theorem dX16_digit_32 : decode cX16_digit 32 = .ok (.aload_n 0, 1) := dk_42 (dk_at dksX16_digit_1 8 rfl rfl)
theorem dX16_digit_33 : decode cX16_digit 33 = .ok (.dup, 1) := dk_89 (dk_at dksX16_digit_1 9 rfl rfl)
theorem dX16_digit_34 : decode cX16_digit 34 = .ok (.getfield 32, 3) := dk_180 0 32 (dk_at dksX16_digit_1 10 rfl rfl)
theorem dX16_digit_37 : decode cX16_digit 37 = .ok (.iconst 1, 1) := dk_4 (dk_at dksX16_digit_1 13 rfl rfl)
theorem dX16_digit_38 : decode cX16_digit 38 = .ok (.iadd, 1) := dk_96 (dk_at dksX16_digit_1 14 rfl rfl)
theorem dX16_digit_39 : decode cX16_digit 39 = .ok (.putfield 32, 3) := dk_181 0 32 (dk_at dksX16_digit_1 15 rfl rfl)
theorem dX16_digit_42 : decode cX16_digit 42 = .ok (.iload_n 2, 1) := dk_28 (dk_at dksX16_digit_1 18 rfl rfl)
theorem dX16_digit_43 : decode cX16_digit 43 = .ok (.ireturn, 1) := dk_172 (dk_at dksX16_digit_1 19 rfl rfl)
abbrev cX16_isDone : ByteArray := prog_11_method_11_code
def yX16_isDone : MethodName := ⟨RX16, "isDone", "(I)Z"⟩
def dkwX16_isDone_7 : List UInt8 := [182, 0, 114, 172]
abbrev dktX16_isDone_7 : List UInt8 := dkwX16_isDone_7 ++ []
def dkwX16_isDone_6 : List UInt8 := [167, 0, 4, 3, 172, 42, 180, 0, 3, 28, 29, 4, 182, 0, 114, 172, 42, 180, 0, 3, 28, 29, 3]
abbrev dktX16_isDone_6 : List UInt8 := dkwX16_isDone_6 ++ dktX16_isDone_7
def dkwX16_isDone_5 : List UInt8 := [155, 0, 7, 4, 167, 0, 4, 3, 172, 42, 180, 0, 3, 28, 29, 182, 0, 110, 155, 0, 7, 4]
abbrev dktX16_isDone_5 : List UInt8 := dkwX16_isDone_5 ++ dktX16_isDone_6
def dkwX16_isDone_4 : List UInt8 := [180, 0, 3, 28, 182, 0, 103, 172, 42, 180, 0, 3, 28, 29, 42, 180, 0, 25, 27, 46, 182, 0, 106]
abbrev dktX16_isDone_4 : List UInt8 := dkwX16_isDone_4 ++ dktX16_isDone_5
def dkwX16_isDone_3 : List UInt8 := [167, 0, 4, 3, 172, 42, 180, 0, 3, 28, 182, 0, 96, 172, 42, 180, 0, 3, 28, 182, 0, 100, 172, 42]
abbrev dktX16_isDone_3 : List UInt8 := dkwX16_isDone_3 ++ dktX16_isDone_4
def dkwX16_isDone_2 : List UInt8 := [42, 180, 0, 3, 4, 182, 0, 90, 155, 0, 17, 42, 180, 0, 3, 182, 0, 93, 153, 0, 7, 4]
abbrev dktX16_isDone_2 : List UInt8 := dkwX16_isDone_2 ++ dktX16_isDone_3
def dkwX16_isDone_1 : List UInt8 := [171, 0, 0, 0, 0, 0, 0, 175, 0, 0, 0, 7, 0, 0, 0, 46, 0, 0, 0, 68, 0, 0, 0, 99, 0, 0, 0, 113, 0, 0, 0, 107, 0, 0, 0, 95, 0, 0, 0, 114, 0, 0, 0, 146, 0, 0, 0, 117, 0, 0, 0, 104, 0, 0, 0, 119, 0, 0, 0, 122, 0, 0, 0, 120, 0, 0, 0, 164]
abbrev dktX16_isDone_1 : List UInt8 := dkwX16_isDone_1 ++ dktX16_isDone_2
def dkwX16_isDone_0 : List UInt8 := [42, 180, 0, 19, 27, 46, 61, 42, 180, 0, 22, 27, 46, 62, 42, 180, 0, 15, 27, 46]
abbrev dktX16_isDone_0 : List UInt8 := dkwX16_isDone_0 ++ dktX16_isDone_1
theorem dksX16_isDone_0 : cX16_isDone.data.toList.drop 0 = dktX16_isDone_0 := by decide +kernel
theorem dksX16_isDone_1 : cX16_isDone.data.toList.drop 20 = dktX16_isDone_1 := dk_seg dksX16_isDone_0 20 rfl rfl
theorem dksX16_isDone_2 : cX16_isDone.data.toList.drop 88 = dktX16_isDone_2 := dk_seg dksX16_isDone_1 68 rfl rfl
theorem dksX16_isDone_3 : cX16_isDone.data.toList.drop 110 = dktX16_isDone_3 := dk_seg dksX16_isDone_2 22 rfl rfl
theorem dksX16_isDone_4 : cX16_isDone.data.toList.drop 134 = dktX16_isDone_4 := dk_seg dksX16_isDone_3 24 rfl rfl
theorem dksX16_isDone_5 : cX16_isDone.data.toList.drop 157 = dktX16_isDone_5 := dk_seg dksX16_isDone_4 23 rfl rfl
theorem dksX16_isDone_6 : cX16_isDone.data.toList.drop 179 = dktX16_isDone_6 := dk_seg dksX16_isDone_5 22 rfl rfl
theorem dksX16_isDone_7 : cX16_isDone.data.toList.drop 202 = dktX16_isDone_7 := dk_seg dksX16_isDone_6 23 rfl rfl
theorem dX16_isDone_0 : decode cX16_isDone 0 = .ok (.aload_n 0, 1) := dk_42 (dk_at dksX16_isDone_0 0 rfl rfl)
theorem dX16_isDone_1 : decode cX16_isDone 1 = .ok (.getfield 19, 3) := dk_180 0 19 (dk_at dksX16_isDone_0 1 rfl rfl)
theorem dX16_isDone_4 : decode cX16_isDone 4 = .ok (.iload_n 1, 1) := dk_27 (dk_at dksX16_isDone_0 4 rfl rfl)
theorem dX16_isDone_5 : decode cX16_isDone 5 = .ok (.iaload, 1) := dk_46 (dk_at dksX16_isDone_0 5 rfl rfl)
theorem dX16_isDone_6 : decode cX16_isDone 6 = .ok (.istore_n 2, 1) := dk_61 (dk_at dksX16_isDone_0 6 rfl rfl)
theorem dX16_isDone_7 : decode cX16_isDone 7 = .ok (.aload_n 0, 1) := dk_42 (dk_at dksX16_isDone_0 7 rfl rfl)
theorem dX16_isDone_8 : decode cX16_isDone 8 = .ok (.getfield 22, 3) := dk_180 0 22 (dk_at dksX16_isDone_0 8 rfl rfl)
theorem dX16_isDone_11 : decode cX16_isDone 11 = .ok (.iload_n 1, 1) := dk_27 (dk_at dksX16_isDone_0 11 rfl rfl)
theorem dX16_isDone_12 : decode cX16_isDone 12 = .ok (.iaload, 1) := dk_46 (dk_at dksX16_isDone_0 12 rfl rfl)
theorem dX16_isDone_13 : decode cX16_isDone 13 = .ok (.istore_n 3, 1) := dk_62 (dk_at dksX16_isDone_0 13 rfl rfl)
theorem dX16_isDone_14 : decode cX16_isDone 14 = .ok (.aload_n 0, 1) := dk_42 (dk_at dksX16_isDone_0 14 rfl rfl)
theorem dX16_isDone_15 : decode cX16_isDone 15 = .ok (.getfield 15, 3) := dk_180 0 15 (dk_at dksX16_isDone_0 15 rfl rfl)
theorem dX16_isDone_18 : decode cX16_isDone 18 = .ok (.iload_n 1, 1) := dk_27 (dk_at dksX16_isDone_0 18 rfl rfl)
theorem dX16_isDone_19 : decode cX16_isDone 19 = .ok (.iaload, 1) := dk_46 (dk_at dksX16_isDone_0 19 rfl rfl)
theorem dX16_isDone_20 : decode cX16_isDone 20 = .ok (.lookupswitch 175 #[(46, 68), (99, 113), (107, 95), (114, 146), (117, 104), (119, 122), (120, 164)], 68) := by decide +kernel
theorem dX16_isDone_88 : decode cX16_isDone 88 = .ok (.aload_n 0, 1) := dk_42 (dk_at dksX16_isDone_2 0 rfl rfl)
theorem dX16_isDone_89 : decode cX16_isDone 89 = .ok (.getfield 3, 3) := dk_180 0 3 (dk_at dksX16_isDone_2 1 rfl rfl)
theorem dX16_isDone_92 : decode cX16_isDone 92 = .ok (.iconst 1, 1) := dk_4 (dk_at dksX16_isDone_2 4 rfl rfl)
theorem dX16_isDone_93 : decode cX16_isDone 93 = .ok (.invokevirtual 90, 3) := dk_182 0 90 (dk_at dksX16_isDone_2 5 rfl rfl)
theorem dX16_isDone_96 : decode cX16_isDone 96 = .ok (.ifCond .lt 17, 3) := dk_155 0 17 (dk_at dksX16_isDone_2 8 rfl rfl)
theorem dX16_isDone_99 : decode cX16_isDone 99 = .ok (.aload_n 0, 1) := dk_42 (dk_at dksX16_isDone_2 11 rfl rfl)
theorem dX16_isDone_100 : decode cX16_isDone 100 = .ok (.getfield 3, 3) := dk_180 0 3 (dk_at dksX16_isDone_2 12 rfl rfl)
theorem dX16_isDone_103 : decode cX16_isDone 103 = .ok (.invokevirtual 93, 3) := dk_182 0 93 (dk_at dksX16_isDone_2 15 rfl rfl)
theorem dX16_isDone_106 : decode cX16_isDone 106 = .ok (.ifCond .eq 7, 3) := dk_153 0 7 (dk_at dksX16_isDone_2 18 rfl rfl)
theorem dX16_isDone_109 : decode cX16_isDone 109 = .ok (.iconst 1, 1) := dk_4 (dk_at dksX16_isDone_2 21 rfl rfl)
theorem dX16_isDone_110 : decode cX16_isDone 110 = .ok (.goto 4, 3) := dk_167 0 4 (dk_at dksX16_isDone_3 0 rfl rfl)
theorem dX16_isDone_113 : decode cX16_isDone 113 = .ok (.iconst 0, 1) := dk_3 (dk_at dksX16_isDone_3 3 rfl rfl)
theorem dX16_isDone_114 : decode cX16_isDone 114 = .ok (.ireturn, 1) := dk_172 (dk_at dksX16_isDone_3 4 rfl rfl)
theorem dX16_isDone_115 : decode cX16_isDone 115 = .ok (.aload_n 0, 1) := dk_42 (dk_at dksX16_isDone_3 5 rfl rfl)
theorem dX16_isDone_116 : decode cX16_isDone 116 = .ok (.getfield 3, 3) := dk_180 0 3 (dk_at dksX16_isDone_3 6 rfl rfl)
theorem dX16_isDone_119 : decode cX16_isDone 119 = .ok (.iload_n 2, 1) := dk_28 (dk_at dksX16_isDone_3 9 rfl rfl)
theorem dX16_isDone_120 : decode cX16_isDone 120 = .ok (.invokevirtual 96, 3) := dk_182 0 96 (dk_at dksX16_isDone_3 10 rfl rfl)
theorem dX16_isDone_123 : decode cX16_isDone 123 = .ok (.ireturn, 1) := dk_172 (dk_at dksX16_isDone_3 13 rfl rfl)
theorem dX16_isDone_124 : decode cX16_isDone 124 = .ok (.aload_n 0, 1) := dk_42 (dk_at dksX16_isDone_3 14 rfl rfl)
theorem dX16_isDone_125 : decode cX16_isDone 125 = .ok (.getfield 3, 3) := dk_180 0 3 (dk_at dksX16_isDone_3 15 rfl rfl)
theorem dX16_isDone_128 : decode cX16_isDone 128 = .ok (.iload_n 2, 1) := dk_28 (dk_at dksX16_isDone_3 18 rfl rfl)
theorem dX16_isDone_129 : decode cX16_isDone 129 = .ok (.invokevirtual 100, 3) := dk_182 0 100 (dk_at dksX16_isDone_3 19 rfl rfl)
theorem dX16_isDone_132 : decode cX16_isDone 132 = .ok (.ireturn, 1) := dk_172 (dk_at dksX16_isDone_3 22 rfl rfl)
theorem dX16_isDone_133 : decode cX16_isDone 133 = .ok (.aload_n 0, 1) := dk_42 (dk_at dksX16_isDone_3 23 rfl rfl)
theorem dX16_isDone_134 : decode cX16_isDone 134 = .ok (.getfield 3, 3) := dk_180 0 3 (dk_at dksX16_isDone_4 0 rfl rfl)
theorem dX16_isDone_137 : decode cX16_isDone 137 = .ok (.iload_n 2, 1) := dk_28 (dk_at dksX16_isDone_4 3 rfl rfl)
theorem dX16_isDone_138 : decode cX16_isDone 138 = .ok (.invokevirtual 103, 3) := dk_182 0 103 (dk_at dksX16_isDone_4 4 rfl rfl)
theorem dX16_isDone_141 : decode cX16_isDone 141 = .ok (.ireturn, 1) := dk_172 (dk_at dksX16_isDone_4 7 rfl rfl)
theorem dX16_isDone_142 : decode cX16_isDone 142 = .ok (.aload_n 0, 1) := dk_42 (dk_at dksX16_isDone_4 8 rfl rfl)
theorem dX16_isDone_143 : decode cX16_isDone 143 = .ok (.getfield 3, 3) := dk_180 0 3 (dk_at dksX16_isDone_4 9 rfl rfl)
theorem dX16_isDone_146 : decode cX16_isDone 146 = .ok (.iload_n 2, 1) := dk_28 (dk_at dksX16_isDone_4 12 rfl rfl)
theorem dX16_isDone_147 : decode cX16_isDone 147 = .ok (.iload_n 3, 1) := dk_29 (dk_at dksX16_isDone_4 13 rfl rfl)
theorem dX16_isDone_148 : decode cX16_isDone 148 = .ok (.aload_n 0, 1) := dk_42 (dk_at dksX16_isDone_4 14 rfl rfl)
theorem dX16_isDone_149 : decode cX16_isDone 149 = .ok (.getfield 25, 3) := dk_180 0 25 (dk_at dksX16_isDone_4 15 rfl rfl)
theorem dX16_isDone_152 : decode cX16_isDone 152 = .ok (.iload_n 1, 1) := dk_27 (dk_at dksX16_isDone_4 18 rfl rfl)
theorem dX16_isDone_153 : decode cX16_isDone 153 = .ok (.iaload, 1) := dk_46 (dk_at dksX16_isDone_4 19 rfl rfl)
theorem dX16_isDone_154 : decode cX16_isDone 154 = .ok (.invokevirtual 106, 3) := dk_182 0 106 (dk_at dksX16_isDone_4 20 rfl rfl)
theorem dX16_isDone_157 : decode cX16_isDone 157 = .ok (.ifCond .lt 7, 3) := dk_155 0 7 (dk_at dksX16_isDone_5 0 rfl rfl)
theorem dX16_isDone_160 : decode cX16_isDone 160 = .ok (.iconst 1, 1) := dk_4 (dk_at dksX16_isDone_5 3 rfl rfl)
theorem dX16_isDone_161 : decode cX16_isDone 161 = .ok (.goto 4, 3) := dk_167 0 4 (dk_at dksX16_isDone_5 4 rfl rfl)
theorem dX16_isDone_164 : decode cX16_isDone 164 = .ok (.iconst 0, 1) := dk_3 (dk_at dksX16_isDone_5 7 rfl rfl)
theorem dX16_isDone_165 : decode cX16_isDone 165 = .ok (.ireturn, 1) := dk_172 (dk_at dksX16_isDone_5 8 rfl rfl)
theorem dX16_isDone_166 : decode cX16_isDone 166 = .ok (.aload_n 0, 1) := dk_42 (dk_at dksX16_isDone_5 9 rfl rfl)
theorem dX16_isDone_167 : decode cX16_isDone 167 = .ok (.getfield 3, 3) := dk_180 0 3 (dk_at dksX16_isDone_5 10 rfl rfl)
theorem dX16_isDone_170 : decode cX16_isDone 170 = .ok (.iload_n 2, 1) := dk_28 (dk_at dksX16_isDone_5 13 rfl rfl)
theorem dX16_isDone_171 : decode cX16_isDone 171 = .ok (.iload_n 3, 1) := dk_29 (dk_at dksX16_isDone_5 14 rfl rfl)
theorem dX16_isDone_172 : decode cX16_isDone 172 = .ok (.invokevirtual 110, 3) := dk_182 0 110 (dk_at dksX16_isDone_5 15 rfl rfl)
theorem dX16_isDone_175 : decode cX16_isDone 175 = .ok (.ifCond .lt 7, 3) := dk_155 0 7 (dk_at dksX16_isDone_5 18 rfl rfl)
theorem dX16_isDone_178 : decode cX16_isDone 178 = .ok (.iconst 1, 1) := dk_4 (dk_at dksX16_isDone_5 21 rfl rfl)
theorem dX16_isDone_179 : decode cX16_isDone 179 = .ok (.goto 4, 3) := dk_167 0 4 (dk_at dksX16_isDone_6 0 rfl rfl)
theorem dX16_isDone_182 : decode cX16_isDone 182 = .ok (.iconst 0, 1) := dk_3 (dk_at dksX16_isDone_6 3 rfl rfl)
theorem dX16_isDone_183 : decode cX16_isDone 183 = .ok (.ireturn, 1) := dk_172 (dk_at dksX16_isDone_6 4 rfl rfl)
theorem dX16_isDone_184 : decode cX16_isDone 184 = .ok (.aload_n 0, 1) := dk_42 (dk_at dksX16_isDone_6 5 rfl rfl)
theorem dX16_isDone_185 : decode cX16_isDone 185 = .ok (.getfield 3, 3) := dk_180 0 3 (dk_at dksX16_isDone_6 6 rfl rfl)
theorem dX16_isDone_188 : decode cX16_isDone 188 = .ok (.iload_n 2, 1) := dk_28 (dk_at dksX16_isDone_6 9 rfl rfl)
theorem dX16_isDone_189 : decode cX16_isDone 189 = .ok (.iload_n 3, 1) := dk_29 (dk_at dksX16_isDone_6 10 rfl rfl)
theorem dX16_isDone_190 : decode cX16_isDone 190 = .ok (.iconst 1, 1) := dk_4 (dk_at dksX16_isDone_6 11 rfl rfl)
theorem dX16_isDone_191 : decode cX16_isDone 191 = .ok (.invokevirtual 114, 3) := dk_182 0 114 (dk_at dksX16_isDone_6 12 rfl rfl)
theorem dX16_isDone_194 : decode cX16_isDone 194 = .ok (.ireturn, 1) := dk_172 (dk_at dksX16_isDone_6 15 rfl rfl)
theorem dX16_isDone_195 : decode cX16_isDone 195 = .ok (.aload_n 0, 1) := dk_42 (dk_at dksX16_isDone_6 16 rfl rfl)
theorem dX16_isDone_196 : decode cX16_isDone 196 = .ok (.getfield 3, 3) := dk_180 0 3 (dk_at dksX16_isDone_6 17 rfl rfl)
theorem dX16_isDone_199 : decode cX16_isDone 199 = .ok (.iload_n 2, 1) := dk_28 (dk_at dksX16_isDone_6 20 rfl rfl)
theorem dX16_isDone_200 : decode cX16_isDone 200 = .ok (.iload_n 3, 1) := dk_29 (dk_at dksX16_isDone_6 21 rfl rfl)
theorem dX16_isDone_201 : decode cX16_isDone 201 = .ok (.iconst 0, 1) := dk_3 (dk_at dksX16_isDone_6 22 rfl rfl)
theorem dX16_isDone_202 : decode cX16_isDone 202 = .ok (.invokevirtual 114, 3) := dk_182 0 114 (dk_at dksX16_isDone_7 0 rfl rfl)
theorem dX16_isDone_205 : decode cX16_isDone 205 = .ok (.ireturn, 1) := dk_172 (dk_at dksX16_isDone_7 3 rfl rfl)
theorem q181 : (Jvm.Cond.initialized "TermLog$Planner") ∈ lw_all := lw_g (lw_at lw_m1 24 rfl) rfl
theorem q542 : (Jvm.Cond.fieldLinkNest "TermLog$Planner" (35 : Nat) "TermLog" "tape" "[B" "TermLog") ∈ lw_tbl := lw_at lw_m2 145 rfl
theorem q1045 : (Jvm.Cond.instantiable "TermLog$Planner" (11 : Nat)) ∈ lw_all := lw_g (lw_at lw_m4 168 rfl) rfl
theorem q1047 : (Jvm.Cond.instanceMethod ({ cls := "TermLog$Planner", name := "<init>", desc := "(LTermLog;I)V" } : Jvm.MethodName)) ∈ lw_all := lw_g (lw_at lw_m4 170 rfl) rfl
theorem q1048 : (Jvm.Cond.code ({ cls := "TermLog$Planner", name := "<init>", desc := "(LTermLog;I)V" } : Jvm.MethodName) prog_11_method_1_code (3 : Nat) (Option.none : Option Jvm.ClassFile.FieldType)) ∈ lw_all := lw_g (lw_at lw_m4 171 rfl) rfl
theorem q1049 : (Jvm.Cond.methodLink "TermLog$Planner" (9 : Nat) ({ cls := "java/lang/Object", name := "<init>", desc := "()V" } : Jvm.MethodName)) ∈ lw_all := lw_g (lw_at lw_m4 172 rfl) rfl
theorem q1050 : (Jvm.Cond.fieldLink "TermLog$Planner" (28 : Nat) "TermLog$Planner" "n" "I") ∈ lw_all := lw_g (lw_at lw_m4 173 rfl) rfl
theorem q1051 : (Jvm.Cond.fieldLink "TermLog$Planner" (15 : Nat) "TermLog$Planner" "row" "[I") ∈ lw_all := lw_g (lw_at lw_m4 174 rfl) rfl
theorem q1052 : (Jvm.Cond.fieldLink "TermLog$Planner" (19 : Nat) "TermLog$Planner" "firsts" "[I") ∈ lw_all := lw_g (lw_at lw_m4 175 rfl) rfl
theorem q1053 : (Jvm.Cond.fieldLink "TermLog$Planner" (22 : Nat) "TermLog$Planner" "seconds" "[I") ∈ lw_all := lw_g (lw_at lw_m4 176 rfl) rfl
theorem q1054 : (Jvm.Cond.fieldLink "TermLog$Planner" (25 : Nat) "TermLog$Planner" "thirds" "[I") ∈ lw_all := lw_g (lw_at lw_m4 177 rfl) rfl
theorem q1055 : (Jvm.Cond.fieldLink "TermLog$Planner" (32 : Nat) "TermLog$Planner" "at" "I") ∈ lw_all := lw_g (lw_at lw_m4 178 rfl) rfl
theorem q1056 : (Jvm.Cond.fieldLink "TermLog$Planner" (39 : Nat) "TermLog$Planner" "fault" "I") ∈ lw_all := lw_g (lw_at lw_m4 179 rfl) rfl
theorem q1057 : (Jvm.Cond.fieldLink "TermLog$Planner" (42 : Nat) "TermLog$Planner" "place" "I") ∈ lw_all := lw_g (lw_at lw_m4 180 rfl) rfl
theorem q1058 : (Jvm.Cond.fieldLink "TermLog$Planner" (78 : Nat) "TermLog$Planner" "many" "I") ∈ lw_all := lw_g (lw_at lw_m4 181 rfl) rfl
theorem q1059 : (Jvm.Cond.fieldLink "TermLog$Planner" (61 : Nat) "TermLog$Planner" "depth" "I") ∈ lw_all := lw_g (lw_at lw_m4 182 rfl) rfl
theorem q1060 : (Jvm.Cond.fieldLink "TermLog$Planner" (3 : Nat) "TermLog$Planner" "this$0" "LTermLog;") ∈ lw_all := lw_g (lw_at lw_m4 183 rfl) rfl
theorem q1061 : (Jvm.Cond.laysFinal "TermLog$Planner" "TermLog$Planner" "n" "I") ∈ lw_all := lw_g (lw_at lw_m4 184 rfl) rfl
theorem q1062 : (Jvm.Cond.soleField "TermLog$Planner" "n") ∈ lw_all := lw_g (lw_at lw_m4 185 rfl) rfl
theorem q1063 : (Jvm.Cond.laysFinal "TermLog$Planner" "TermLog$Planner" "row" "[I") ∈ lw_all := lw_g (lw_at lw_m4 186 rfl) rfl
theorem q1064 : (Jvm.Cond.soleField "TermLog$Planner" "row") ∈ lw_all := lw_g (lw_at lw_m4 187 rfl) rfl
theorem q1065 : (Jvm.Cond.laysFinal "TermLog$Planner" "TermLog$Planner" "firsts" "[I") ∈ lw_all := lw_g (lw_at lw_m4 188 rfl) rfl
theorem q1066 : (Jvm.Cond.soleField "TermLog$Planner" "firsts") ∈ lw_all := lw_g (lw_at lw_m4 189 rfl) rfl
theorem q1067 : (Jvm.Cond.laysFinal "TermLog$Planner" "TermLog$Planner" "seconds" "[I") ∈ lw_all := lw_g (lw_at lw_m4 190 rfl) rfl
theorem q1068 : (Jvm.Cond.soleField "TermLog$Planner" "seconds") ∈ lw_all := lw_g (lw_at lw_m4 191 rfl) rfl
theorem q1069 : (Jvm.Cond.laysFinal "TermLog$Planner" "TermLog$Planner" "thirds" "[I") ∈ lw_all := lw_g (lw_at lw_m4 192 rfl) rfl
theorem q1070 : (Jvm.Cond.soleField "TermLog$Planner" "thirds") ∈ lw_all := lw_g (lw_at lw_m4 193 rfl) rfl
theorem q1071 : (Jvm.Cond.lays "TermLog$Planner" "TermLog$Planner" "at" "I") ∈ lw_all := lw_g (lw_at lw_m4 194 rfl) rfl
theorem q1072 : (Jvm.Cond.soleField "TermLog$Planner" "at") ∈ lw_all := lw_g (lw_at lw_m4 195 rfl) rfl
theorem q1073 : (Jvm.Cond.lays "TermLog$Planner" "TermLog$Planner" "fault" "I") ∈ lw_all := lw_g (lw_at lw_m4 196 rfl) rfl
theorem q1074 : (Jvm.Cond.soleField "TermLog$Planner" "fault") ∈ lw_all := lw_g (lw_at lw_m4 197 rfl) rfl
theorem q1075 : (Jvm.Cond.lays "TermLog$Planner" "TermLog$Planner" "place" "I") ∈ lw_all := lw_g (lw_at lw_m4 198 rfl) rfl
theorem q1076 : (Jvm.Cond.soleField "TermLog$Planner" "place") ∈ lw_all := lw_g (lw_at lw_m4 199 rfl) rfl
theorem q1077 : (Jvm.Cond.lays "TermLog$Planner" "TermLog$Planner" "many" "I") ∈ lw_all := lw_g (lw_at lw_m4 200 rfl) rfl
theorem q1078 : (Jvm.Cond.soleField "TermLog$Planner" "many") ∈ lw_all := lw_g (lw_at lw_m4 201 rfl) rfl
theorem q1079 : (Jvm.Cond.lays "TermLog$Planner" "TermLog$Planner" "depth" "I") ∈ lw_all := lw_g (lw_at lw_m4 202 rfl) rfl
theorem q1080 : (Jvm.Cond.soleField "TermLog$Planner" "depth") ∈ lw_all := lw_g (lw_at lw_m4 203 rfl) rfl
theorem q1081 : (Jvm.Cond.laysFinal "TermLog$Planner" "TermLog$Planner" "this$0" "LTermLog;") ∈ lw_all := lw_g (lw_at lw_m4 204 rfl) rfl
theorem q1082 : (Jvm.Cond.soleField "TermLog$Planner" "this$0") ∈ lw_all := lw_g (lw_at lw_m4 205 rfl) rfl
theorem q1083 : (Jvm.Cond.superclass "TermLog$Planner" "java/lang/Object") ∈ lw_all := lw_g (lw_at lw_m4 206 rfl) rfl
theorem q1085 : (Jvm.Cond.instanceMethod ({ cls := "TermLog$Planner", name := "reads", desc := "()I" } : Jvm.MethodName)) ∈ lw_all := lw_g (lw_at lw_m4 208 rfl) rfl
theorem q1086 : (Jvm.Cond.selects "TermLog$Planner" ({ cls := "TermLog$Planner", name := "reads", desc := "()I" } : Jvm.MethodName) ({ cls := "TermLog$Planner", name := "reads", desc := "()I" } : Jvm.MethodName)) ∈ lw_all := lw_g (lw_at lw_m4 209 rfl) rfl
theorem q1087 : (Jvm.Cond.code ({ cls := "TermLog$Planner", name := "reads", desc := "()I" } : Jvm.MethodName) prog_11_method_10_code (1 : Nat) (Option.some Jvm.ClassFile.FieldType.int)) ∈ lw_all := lw_g (lw_at lw_m4 210 rfl) rfl
theorem q1088 : (Jvm.Cond.methodLink "TermLog$Planner" (64 : Nat) ({ cls := "TermLog$Planner", name := "all", desc := "()V" } : Jvm.MethodName)) ∈ lw_all := lw_g (lw_at lw_m4 211 rfl) rfl
theorem q1089 : (Jvm.Cond.privateMethod ({ cls := "TermLog$Planner", name := "all", desc := "()V" } : Jvm.MethodName)) ∈ lw_tbl := lw_at lw_m4 212 rfl
theorem q1090 : (Jvm.Cond.instanceMethod ({ cls := "TermLog$Planner", name := "all", desc := "()V" } : Jvm.MethodName)) ∈ lw_all := lw_g (lw_at lw_m4 213 rfl) rfl
theorem q1091 : (Jvm.Cond.code ({ cls := "TermLog$Planner", name := "all", desc := "()V" } : Jvm.MethodName) prog_11_method_9_code (2 : Nat) (Option.none : Option Jvm.ClassFile.FieldType)) ∈ lw_all := lw_g (lw_at lw_m4 214 rfl) rfl
theorem q1092 : (Jvm.Cond.methodLink "TermLog$Planner" (49 : Nat) ({ cls := "TermLog$Planner", name := "isGood", desc := "()Z" } : Jvm.MethodName)) ∈ lw_all := lw_g (lw_at lw_m4 215 rfl) rfl
theorem q1093 : (Jvm.Cond.privateMethod ({ cls := "TermLog$Planner", name := "isGood", desc := "()Z" } : Jvm.MethodName)) ∈ lw_tbl := lw_at lw_m4 216 rfl
theorem q1094 : (Jvm.Cond.instanceMethod ({ cls := "TermLog$Planner", name := "isGood", desc := "()Z" } : Jvm.MethodName)) ∈ lw_all := lw_g (lw_at lw_m4 217 rfl) rfl
theorem q1095 : (Jvm.Cond.code ({ cls := "TermLog$Planner", name := "isGood", desc := "()Z" } : Jvm.MethodName) prog_11_method_4_code (1 : Nat) (Option.some Jvm.ClassFile.FieldType.boolean)) ∈ lw_all := lw_g (lw_at lw_m4 218 rfl) rfl
theorem q1096 : (Jvm.Cond.methodLink "TermLog$Planner" (87 : Nat) ({ cls := "TermLog$Planner", name := "one", desc := "()V" } : Jvm.MethodName)) ∈ lw_all := lw_g (lw_at lw_m4 219 rfl) rfl
theorem q1097 : (Jvm.Cond.privateMethod ({ cls := "TermLog$Planner", name := "one", desc := "()V" } : Jvm.MethodName)) ∈ lw_tbl := lw_at lw_m4 220 rfl
theorem q1098 : (Jvm.Cond.instanceMethod ({ cls := "TermLog$Planner", name := "one", desc := "()V" } : Jvm.MethodName)) ∈ lw_all := lw_g (lw_at lw_m4 221 rfl) rfl
theorem q1099 : (Jvm.Cond.code ({ cls := "TermLog$Planner", name := "one", desc := "()V" } : Jvm.MethodName) prog_11_method_8_code (6 : Nat) (Option.none : Option Jvm.ClassFile.FieldType)) ∈ lw_all := lw_g (lw_at lw_m4 222 rfl) rfl
theorem q1100 : (Jvm.Cond.methodLink "TermLog$Planner" (45 : Nat) ({ cls := "TermLog$Planner", name := "here", desc := "()I" } : Jvm.MethodName)) ∈ lw_all := lw_g (lw_at lw_m4 223 rfl) rfl
theorem q1101 : (Jvm.Cond.privateMethod ({ cls := "TermLog$Planner", name := "here", desc := "()I" } : Jvm.MethodName)) ∈ lw_tbl := lw_at lw_m4 224 rfl
theorem q1102 : (Jvm.Cond.instanceMethod ({ cls := "TermLog$Planner", name := "here", desc := "()I" } : Jvm.MethodName)) ∈ lw_all := lw_g (lw_at lw_m4 225 rfl) rfl
theorem q1103 : (Jvm.Cond.code ({ cls := "TermLog$Planner", name := "here", desc := "()I" } : Jvm.MethodName) prog_11_method_2_code (1 : Nat) (Option.some Jvm.ClassFile.FieldType.int)) ∈ lw_all := lw_g (lw_at lw_m4 226 rfl) rfl
theorem q1104 : (Jvm.Cond.methodLink "TermLog$Planner" (81 : Nat) ({ cls := "TermLog$Planner", name := "rounds", desc := "()V" } : Jvm.MethodName)) ∈ lw_all := lw_g (lw_at lw_m4 227 rfl) rfl
theorem q1105 : (Jvm.Cond.privateMethod ({ cls := "TermLog$Planner", name := "rounds", desc := "()V" } : Jvm.MethodName)) ∈ lw_tbl := lw_at lw_m4 228 rfl
theorem q1106 : (Jvm.Cond.instanceMethod ({ cls := "TermLog$Planner", name := "rounds", desc := "()V" } : Jvm.MethodName)) ∈ lw_all := lw_g (lw_at lw_m4 229 rfl) rfl
theorem q1107 : (Jvm.Cond.code ({ cls := "TermLog$Planner", name := "rounds", desc := "()V" } : Jvm.MethodName) prog_11_method_6_code (1 : Nat) (Option.none : Option Jvm.ClassFile.FieldType)) ∈ lw_all := lw_g (lw_at lw_m4 230 rfl) rfl
theorem q1108 : (Jvm.Cond.methodLink "TermLog$Planner" (57 : Nat) ({ cls := "TermLog$Planner", name := "bad", desc := "(II)V" } : Jvm.MethodName)) ∈ lw_all := lw_g (lw_at lw_m4 231 rfl) rfl
theorem q1109 : (Jvm.Cond.privateMethod ({ cls := "TermLog$Planner", name := "bad", desc := "(II)V" } : Jvm.MethodName)) ∈ lw_tbl := lw_at lw_m4 232 rfl
theorem q1110 : (Jvm.Cond.instanceMethod ({ cls := "TermLog$Planner", name := "bad", desc := "(II)V" } : Jvm.MethodName)) ∈ lw_all := lw_g (lw_at lw_m4 233 rfl) rfl
theorem q1111 : (Jvm.Cond.code ({ cls := "TermLog$Planner", name := "bad", desc := "(II)V" } : Jvm.MethodName) prog_11_method_3_code (3 : Nat) (Option.none : Option Jvm.ClassFile.FieldType)) ∈ lw_all := lw_g (lw_at lw_m4 234 rfl) rfl
theorem q1112 : (Jvm.Cond.methodLink "TermLog$Planner" (84 : Nat) ({ cls := "TermLog$Planner", name := "act", desc := "(II)V" } : Jvm.MethodName)) ∈ lw_all := lw_g (lw_at lw_m4 235 rfl) rfl
theorem q1113 : (Jvm.Cond.privateMethod ({ cls := "TermLog$Planner", name := "act", desc := "(II)V" } : Jvm.MethodName)) ∈ lw_tbl := lw_at lw_m4 236 rfl
theorem q1114 : (Jvm.Cond.instanceMethod ({ cls := "TermLog$Planner", name := "act", desc := "(II)V" } : Jvm.MethodName)) ∈ lw_all := lw_g (lw_at lw_m4 237 rfl) rfl
theorem q1115 : (Jvm.Cond.code ({ cls := "TermLog$Planner", name := "act", desc := "(II)V" } : Jvm.MethodName) prog_11_method_7_code (8 : Nat) (Option.none : Option Jvm.ClassFile.FieldType)) ∈ lw_all := lw_g (lw_at lw_m4 238 rfl) rfl
theorem q1116 : (Jvm.Cond.stringRef "TermLog$Planner" (67 : Nat) ".kucwrxj") ∈ lw_tbl := lw_at lw_m4 239 rfl
theorem q1117 : (Jvm.Cond.methodLink "TermLog$Planner" (69 : Nat) ({ cls := "java/lang/String", name := "indexOf", desc := "(I)I" } : Jvm.MethodName)) ∈ lw_all := lw_g (lw_at lw_m5 0 rfl) rfl
theorem q1118 : (Jvm.Cond.methodLink "TermLog$Planner" (75 : Nat) ({ cls := "TermLog$Planner", name := "digit", desc := "(I)I" } : Jvm.MethodName)) ∈ lw_all := lw_g (lw_at lw_m5 1 rfl) rfl
theorem q1119 : (Jvm.Cond.privateMethod ({ cls := "TermLog$Planner", name := "digit", desc := "(I)I" } : Jvm.MethodName)) ∈ lw_tbl := lw_at lw_m5 2 rfl
theorem q1120 : (Jvm.Cond.instanceMethod ({ cls := "TermLog$Planner", name := "digit", desc := "(I)I" } : Jvm.MethodName)) ∈ lw_all := lw_g (lw_at lw_m5 3 rfl) rfl
theorem q1121 : (Jvm.Cond.code ({ cls := "TermLog$Planner", name := "digit", desc := "(I)I" } : Jvm.MethodName) prog_11_method_5_code (3 : Nat) (Option.some Jvm.ClassFile.FieldType.int)) ∈ lw_all := lw_g (lw_at lw_m5 4 rfl) rfl
theorem q1122 : (Jvm.Cond.methodLinkNest "TermLog$Planner" (53 : Nat) ({ cls := "TermLog", name := "in", desc := "(II)Z" } : Jvm.MethodName) "TermLog") ∈ lw_tbl := lw_at lw_m5 5 rfl
theorem q1124 : (Jvm.Cond.instanceMethod ({ cls := "TermLog$Planner", name := "isDone", desc := "(I)Z" } : Jvm.MethodName)) ∈ lw_all := lw_g (lw_at lw_m5 7 rfl) rfl
theorem q1125 : (Jvm.Cond.selects "TermLog$Planner" ({ cls := "TermLog$Planner", name := "isDone", desc := "(I)Z" } : Jvm.MethodName) ({ cls := "TermLog$Planner", name := "isDone", desc := "(I)Z" } : Jvm.MethodName)) ∈ lw_all := lw_g (lw_at lw_m5 8 rfl) rfl
theorem q1126 : (Jvm.Cond.code ({ cls := "TermLog$Planner", name := "isDone", desc := "(I)Z" } : Jvm.MethodName) prog_11_method_11_code (4 : Nat) (Option.some Jvm.ClassFile.FieldType.boolean)) ∈ lw_all := lw_g (lw_at lw_m5 9 rfl) rfl
theorem q1127 : (Jvm.Cond.methodLink "TermLog$Planner" (90 : Nat) ({ cls := "TermLog", name := "ticks", desc := "(I)I" } : Jvm.MethodName)) ∈ lw_all := lw_g (lw_at lw_m5 10 rfl) rfl
theorem q1214 : (Jvm.Cond.methodLinkNest "TermLog$Planner" (93 : Nat) ({ cls := "TermLog", name := "isTicked", desc := "()Z" } : Jvm.MethodName) "TermLog") ∈ lw_tbl := lw_at lw_m5 97 rfl
theorem q1218 : (Jvm.Cond.methodLink "TermLog$Planner" (96 : Nat) ({ cls := "TermLog", name := "crash", desc := "(I)Z" } : Jvm.MethodName)) ∈ lw_all := lw_g (lw_at lw_m5 101 rfl) rfl
theorem q1219 : (Jvm.Cond.methodLink "TermLog$Planner" (100 : Nat) ({ cls := "TermLog", name := "comeUp", desc := "(I)Z" } : Jvm.MethodName)) ∈ lw_all := lw_g (lw_at lw_m5 102 rfl) rfl
theorem q1220 : (Jvm.Cond.methodLink "TermLog$Planner" (103 : Nat) ({ cls := "TermLog", name := "compact", desc := "(I)Z" } : Jvm.MethodName)) ∈ lw_all := lw_g (lw_at lw_m5 103 rfl) rfl
theorem q1221 : (Jvm.Cond.methodLink "TermLog$Planner" (106 : Nat) ({ cls := "TermLog", name := "write", desc := "(III)I" } : Jvm.MethodName)) ∈ lw_all := lw_g (lw_at lw_m5 104 rfl) rfl
theorem q1222 : (Jvm.Cond.methodLink "TermLog$Planner" (110 : Nat) ({ cls := "TermLog", name := "ask", desc := "(II)I" } : Jvm.MethodName)) ∈ lw_all := lw_g (lw_at lw_m5 105 rfl) rfl
theorem q1223 : (Jvm.Cond.methodLink "TermLog$Planner" (114 : Nat) ({ cls := "TermLog", name := "cut", desc := "(IIZ)Z" } : Jvm.MethodName)) ∈ lw_all := lw_g (lw_at lw_m5 106 rfl) rfl
theorem in_X16 : ∀ w ∈ wsX160, w ∈ lw_all := lw_in wsX160 [1061, 1063, 1065, 1067, 1069, 1071, 1073, 1075, 1077, 1079, 1081] (by decide +kernel) (by decide +kernel)
